set_option maxRecDepth 100000
set_option maxHeartbeats 1000000
def f_X14_numberOf (x1 : Int) (x2 : Int) (s : vS) : Option (Int × vS) :=
  if x2 = 0 then
    gd (inb x1 (gN s 150)) <|
    if 0 ≤ (gE s 150 x1) then
      gd (inb x1 (gN s 150)) <|
      some (gE s 150 x1, s)
    else
      bd (f_X14_makeNumber x1 0 s) fun r8 s5 =>
      gd (gN s5 150 = gN s 150) <|
      gd (inb x1 (gN s5 150)) <|
      stp (sE s5 150 x1 r8) fun s12 =>
      gd (inb x1 (gN s12 150)) <|
      some (gE s12 150 x1, s12)
  else
    gd (inb x1 (gN s 151)) <|
    if 0 ≤ (gE s 151 x1) then
      gd (inb x1 (gN s 151)) <|
      some (gE s 151 x1, s)
    else
      bd (f_X14_makeNumber x1 1 s) fun r21 s18 =>
      gd (gN s18 151 = gN s 151) <|
      gd (inb x1 (gN s18 151)) <|
      stp (sE s18 151 x1 r21) fun s25 =>
      gd (inb x1 (gN s25 151)) <|
      some (gE s25 151 x1, s25)
theorem yk_X14_numberOf : yOk yX14_numberOf 2 := ⟨by decide, by decide, by decide +kernel⟩
theorem c_X14_numberOf {x1 : Int} {x2 : Int} {s : vS} {out : Int × vS} (h : f_X14_numberOf x1 x2 s = some out)  (rx1 : rg x1) (rx2 : rg x2) : VC yX14_numberOf cX14_numberOf 3 (some .int) 3 76 [vO 87, vI x1, vI x2] s (some (vI out.1)) out.2 [] := by
  unfold f_X14_numberOf at h
  refine VC.of RX14 (by decide) rfl (Nat.le_of_ble_eq_true rfl) ?_
  show VW cX14_numberOf (RX14, (some (vI out.1)), out.2, (some .int), 3, 76, 3, []) (P0 []) s 0 [(0, vO 87), (1, vI x1), (2, vI x2)] []
  refine v_iload_n dX14_numberOf_0 2 rfl rfl ?_
  refine v_if_eq (tgt := 32) dX14_numberOf_1 rx2 (by decide) (fun c1 => ?_) (fun c1 => ?_)
  · rw [if_pos c1] at h
    refine v_aload_n dX14_numberOf_32 0 rfl rfl ?_
    refine v_getS (f := 89) (t := 150) cf14 oc87 rfl rfl rfl (by decide) q2459 dX14_numberOf_33 ?_
    refine v_iload_n dX14_numberOf_36 1 rfl rfl ?_
    obtain ⟨g2, h⟩ := gd_some h
    refine v_iald oc150 rx1 g2.1 g2.2 dX14_numberOf_37 ?_
    refine v_if_ge (tgt := 53) dX14_numberOf_38 (gE_rg _ _ _) (by decide) (fun c3 => ?_) (fun c3 => ?_)
    · rw [if_pos c3] at h
      refine v_aload_n dX14_numberOf_53 0 rfl rfl ?_
      refine v_getS (f := 89) (t := 150) cf14 oc87 rfl rfl rfl (by decide) q2459 dX14_numberOf_54 ?_
      refine v_iload_n dX14_numberOf_57 1 rfl rfl ?_
      obtain ⟨g4, h⟩ := gd_some h
      refine v_iald oc150 rx1 g4.1 g4.2 dX14_numberOf_58 ?_
      cases h
      exact v_iret (gE_rg _ _ _) dX14_numberOf_59
    · rw [if_neg c3] at h
      refine v_aload_n dX14_numberOf_41 0 rfl rfl ?_
      refine v_getS (f := 89) (t := 150) cf14 oc87 rfl rfl rfl (by decide) q2459 dX14_numberOf_42 ?_
      refine v_iload_n dX14_numberOf_45 1 rfl rfl ?_
      refine v_aload_n dX14_numberOf_46 0 rfl rfl ?_
      refine v_iload_n dX14_numberOf_47 1 rfl rfl ?_
      refine v_iconst dX14_numberOf_48 ?_
      obtain ⟨r8, s5, e6, h⟩ := bd_some h
      have k7 := c_X14_makeNumber e6 rx1 (rgl rfl)
      have r9 : rg r8 := k7.1.2.2
      obtain ⟨g10, h⟩ := gd_some h
      refine v_callV (st := [vI x1, vO 150]) cf14 oc87 k7 (lw_V q3000 q3002 qs181 q311 q3003) rfl yk_X14_makeNumber ⟨Nat.le_of_ble_eq_true rfl, Nat.le_of_ble_eq_true rfl⟩ ⟨(kp_arr (by decide) g10), trivial⟩ ⟨kc87, trivial⟩ (Nat.le_of_ble_eq_true rfl) rfl dX14_numberOf_49 ?_
      obtain ⟨g11, h⟩ := gd_some h
      obtain ⟨s12, e13, h⟩ := stp_some h
      refine v_iast oc150 rx1 g11.1 g11.2 dX14_numberOf_52 ?_
      rw [← e13]
      refine v_aload_n dX14_numberOf_53 0 rfl rfl ?_
      refine v_getS (f := 89) (t := 150) cf14 oc87 rfl rfl rfl (by decide) q2459 dX14_numberOf_54 ?_
      refine v_iload_n dX14_numberOf_57 1 rfl rfl ?_
      obtain ⟨g14, h⟩ := gd_some h
      refine v_iald oc150 rx1 g14.1 g14.2 dX14_numberOf_58 ?_
      cases h
      exact v_iret (gE_rg _ _ _) dX14_numberOf_59
  · rw [if_neg c1] at h
    refine v_aload_n dX14_numberOf_4 0 rfl rfl ?_
    refine v_getS (f := 90) (t := 151) cf14 oc87 rfl rfl rfl (by decide) q2460 dX14_numberOf_5 ?_
    refine v_iload_n dX14_numberOf_8 1 rfl rfl ?_
    obtain ⟨g15, h⟩ := gd_some h
    refine v_iald oc151 rx1 g15.1 g15.2 dX14_numberOf_9 ?_
    refine v_if_ge (tgt := 25) dX14_numberOf_10 (gE_rg _ _ _) (by decide) (fun c16 => ?_) (fun c16 => ?_)
    · rw [if_pos c16] at h
      refine v_aload_n dX14_numberOf_25 0 rfl rfl ?_
      refine v_getS (f := 90) (t := 151) cf14 oc87 rfl rfl rfl (by decide) q2460 dX14_numberOf_26 ?_
      refine v_iload_n dX14_numberOf_29 1 rfl rfl ?_
      obtain ⟨g17, h⟩ := gd_some h
      refine v_iald oc151 rx1 g17.1 g17.2 dX14_numberOf_30 ?_
      cases h
      exact v_iret (gE_rg _ _ _) dX14_numberOf_31
    · rw [if_neg c16] at h
      refine v_aload_n dX14_numberOf_13 0 rfl rfl ?_
      refine v_getS (f := 90) (t := 151) cf14 oc87 rfl rfl rfl (by decide) q2460 dX14_numberOf_14 ?_
      refine v_iload_n dX14_numberOf_17 1 rfl rfl ?_
      refine v_aload_n dX14_numberOf_18 0 rfl rfl ?_
      refine v_iload_n dX14_numberOf_19 1 rfl rfl ?_
      refine v_iconst dX14_numberOf_20 ?_
      obtain ⟨r21, s18, e19, h⟩ := bd_some h
      have k20 := c_X14_makeNumber e19 rx1 (rgl rfl)
      have r22 : rg r21 := k20.1.2.2
      obtain ⟨g23, h⟩ := gd_some h
      refine v_callV (st := [vI x1, vO 151]) cf14 oc87 k20 (lw_V q3000 q3002 qs181 q311 q3003) rfl yk_X14_makeNumber ⟨Nat.le_of_ble_eq_true rfl, Nat.le_of_ble_eq_true rfl⟩ ⟨(kp_arr (by decide) g23), trivial⟩ ⟨kc87, trivial⟩ (Nat.le_of_ble_eq_true rfl) rfl dX14_numberOf_21 ?_
      obtain ⟨g24, h⟩ := gd_some h
      obtain ⟨s25, e26, h⟩ := stp_some h
      refine v_iast oc151 rx1 g24.1 g24.2 dX14_numberOf_24 ?_
      rw [← e26]
      refine v_aload_n dX14_numberOf_25 0 rfl rfl ?_
      refine v_getS (f := 90) (t := 151) cf14 oc87 rfl rfl rfl (by decide) q2460 dX14_numberOf_26 ?_
      refine v_iload_n dX14_numberOf_29 1 rfl rfl ?_
      obtain ⟨g27, h⟩ := gd_some h
      refine v_iald oc151 rx1 g27.1 g27.2 dX14_numberOf_30 ?_
      cases h
      exact v_iret (gE_rg _ _ _) dX14_numberOf_31

def E_X14_smallNumber_12 (x2 : Int) (rv : Option vA) (σo : vS) (q : vS) : Prop := ∀ (s' : vS), q = s' → VW cX14_smallNumber (RX14, rv, σo, (some .int), 2, 48, 4, []) (P0 []) s' 51 [(0, vO 87), (2, vI x2)] []
def l_X14_smallNumber_12 : Nat → Int → Int → Int → vS → Option (vS)
  | 0, _, _, _, _ => none
  | n + 1, x1, x2, x3, s =>
    if x3 < 0 then
      some s
    else
      gd (inb (gI s 87 85) (gN s 149)) <|
      stp (sE s 149 (gI s 87 85) (and32 (shr32 x1 (w32 (8 * x3))) 255)) fun s3 =>
      stp (sI s3 87 85 (w32 ((gI s3 87 85) + 1))) fun s5 =>
      vl (w32 (x3 + (-1))) fun y7 =>
      l_X14_smallNumber_12 n x1 x2 y7 s5
theorem wl_X14_smallNumber_12 {x1 : Int} {x2 : Int} {rv : Option vA} {σo : vS}  (rx1 : rg x1) (rx2 : rg x2) : ∀ (n : Nat) (x3 : Int) (s : vS) (q : vS), l_X14_smallNumber_12 n x1 x2 x3 s = some q → rg x3 → E_X14_smallNumber_12 x2 rv σo q → VW cX14_smallNumber (RX14, rv, σo, (some .int), 2, 48, 4, []) (P0 []) s 12 [(0, vO 87), (1, vI x1), (2, vI x2), (3, vI x3)] [] := by
  intro n
  induction n with
  | zero => intro x3 s q h; cases h
  | succ n ih =>
    intro x3 s q h rx3 hE
    unfold l_X14_smallNumber_12 at h
    refine v_iload_n dX14_smallNumber_12 3 rfl rfl ?_
    refine v_if_lt (tgt := 51) dX14_smallNumber_13 rx3 (by decide) (fun c1 => ?_) (fun c1 => ?_)
    · rw [if_pos c1] at h
      cases h
      refine v_sub [0, 2] (L1 := [(0, vO 87), (2, vI x2)]) rfl ?_
      exact hE _ rfl 
    · rw [if_neg c1] at h
      refine v_aload_n dX14_smallNumber_16 0 rfl rfl ?_
      refine v_getS (f := 88) (t := 149) cf14 oc87 rfl rfl rfl (by decide) q2458 dX14_smallNumber_17 ?_
      refine v_aload_n dX14_smallNumber_20 0 rfl rfl ?_
      refine v_getI (f := 85) cf14 oc87 rfl (by decide) q2455 dX14_smallNumber_21 ?_
      refine v_iload_n dX14_smallNumber_24 1 rfl rfl ?_
      refine v_bipush dX14_smallNumber_25 rfl ?_
      refine v_iload_n dX14_smallNumber_27 3 rfl rfl ?_
      refine v_imul dX14_smallNumber_28 ?_
      refine v_ishr dX14_smallNumber_29 ?_
      refine v_sipush dX14_smallNumber_30 rfl ?_
      refine v_iand dX14_smallNumber_33 ?_
      obtain ⟨g2, h⟩ := gd_some h
      obtain ⟨s3, e4, h⟩ := stp_some h
      refine v_iast oc149 (gI_rg _ _ _) g2.1 g2.2 dX14_smallNumber_34 ?_
      rw [← e4]
      refine v_aload_n dX14_smallNumber_35 0 rfl rfl ?_
      refine v_dupO dX14_smallNumber_36 ?_
      refine v_getI (f := 85) cf14 oc87 rfl (by decide) q2455 dX14_smallNumber_37 ?_
      refine v_iconst dX14_smallNumber_40 ?_
      refine v_iadd dX14_smallNumber_41 ?_
      obtain ⟨s5, e6, h⟩ := stp_some h
      refine v_putI (f := 85) cf14 oc87 rfl (by decide) q2455 dX14_smallNumber_42 rfl rfl ?_
      rw [← e6]
      obtain ⟨y7, e8, h⟩ := vl_some h
      refine v_iinc (L1 := [(3, vI (w32 (x3 + (-1)))), (0, vO 87), (1, vI x1), (2, vI x2)]) dX14_smallNumber_45 3 rfl (by decide) rfl ?_
      rw [← e8]
      have r9 : rg y7 := by rw [e8]; exact w32_rg _
      refine v_goto (tgt := 12) dX14_smallNumber_48 (by decide) ?_
      refine v_sub [1, 2, 3, 0] (L1 := [(0, vO 87), (1, vI x1), (2, vI x2), (3, vI y7)]) rfl ?_
      exact ih y7 s5 _ h r9 hE

def f_X14_smallNumber (x1 : Int) (s : vS) : Option (Int × vS) :=
  bdv (f_X14_roomForBytes 4 s) fun s1 =>
  vl (gI s1 87 85) fun y4 =>
  lq_0 (l_X14_smallNumber_12 FU x1 y4 3 s1) fun s7 =>
  bd (f_X14_keepNumber y4 s7) fun r12 s9 =>
  some (r12, s9)
theorem yk_X14_smallNumber : yOk yX14_smallNumber 1 := ⟨by decide, by decide, by decide +kernel⟩
theorem c_X14_smallNumber {x1 : Int} {s : vS} {out : Int × vS} (h : f_X14_smallNumber x1 s = some out)  (rx1 : rg x1) : VC yX14_smallNumber cX14_smallNumber 4 (some .int) 2 48 [vO 87, vI x1] s (some (vI out.1)) out.2 [] := by
  unfold f_X14_smallNumber at h
  refine VC.of RX14 (by decide) rfl (Nat.le_of_ble_eq_true rfl) ?_
  show VW cX14_smallNumber (RX14, (some (vI out.1)), out.2, (some .int), 2, 48, 4, []) (P0 []) s 0 [(0, vO 87), (1, vI x1)] []
  refine v_aload_n dX14_smallNumber_0 0 rfl rfl ?_
  refine v_iconst dX14_smallNumber_1 ?_
  obtain ⟨s1, e2, h⟩ := bdv_some h
  have k3 := c_X14_roomForBytes e2 (rgl rfl)
  refine v_callV (st := []) cf14 oc87 k3 (lw_V q3008 q3010 qs183 q311 q3011) rfl yk_X14_roomForBytes ⟨Nat.le_of_ble_eq_true rfl, Nat.le_of_ble_eq_true rfl⟩ trivial ⟨kc87, trivial⟩ (Nat.le_of_ble_eq_true rfl) rfl dX14_smallNumber_2 ?_
  refine v_aload_n dX14_smallNumber_5 0 rfl rfl ?_
  refine v_getI (f := 85) cf14 oc87 rfl (by decide) q2455 dX14_smallNumber_6 ?_
  obtain ⟨y4, e5, h⟩ := vl_some h
  rw [← e5]
  have r6 : rg y4 := by rw [e5]; exact gI_rg _ _ _
  refine v_istore_n (L1 := [(2, vI y4), (0, vO 87), (1, vI x1)]) dX14_smallNumber_9 rfl (by decide) rfl ?_
  refine v_iconst dX14_smallNumber_10 ?_
  refine v_istore_n (L1 := [(3, vI 3), (2, vI y4), (0, vO 87), (1, vI x1)]) dX14_smallNumber_11 rfl (by decide) rfl ?_
  refine v_sub [2, 3, 1, 0] (L1 := [(0, vO 87), (1, vI x1), (2, vI y4), (3, vI 3)]) rfl ?_
  obtain ⟨s7, e8, h⟩ := lq_0_some h
  refine wl_X14_smallNumber_12 rx1 r6 FU 3 s1 _ e8 (rgl rfl) ?_
  unfold E_X14_smallNumber_12
  intro s7' z_
  cases z_
  refine v_aload_n dX14_smallNumber_51 0 rfl rfl ?_
  refine v_iload_n dX14_smallNumber_52 1 rfl rfl ?_
  obtain ⟨r12, s9, e10, h⟩ := bd_some h
  have k11 := c_X14_keepNumber e10 r6
  have r13 : rg r12 := k11.1.2.2
  refine v_callV (st := []) cf14 oc87 k11 (lw_V q3015 q3017 qs184 q311 q3018) rfl yk_X14_keepNumber ⟨Nat.le_of_ble_eq_true rfl, Nat.le_of_ble_eq_true rfl⟩ trivial ⟨kc87, trivial⟩ (Nat.le_of_ble_eq_true rfl) rfl dX14_smallNumber_53 ?_
  cases h
  exact v_iret r13 dX14_smallNumber_56

def E_X14_compareNumbers_109 (rv : Option vA) (σo : vS) (q : (vS) ⊕ (Int × vS)) : Prop := (∀ (s' : vS), q = .inl s' → VW cX14_compareNumbers (RX14, rv, σo, (some .int), 0, 0, 6, []) (P0 []) s' 194 [] []) ∧ (∀ (v : Int) (s' : vS), q = .inr (v, s') → rv = some (vI v) ∧ σo = s')
def l_X14_compareNumbers_109 : Nat → Int → Int → Int → vS → Option ((vS) ⊕ (Int × vS))
  | 0, _, _, _, _ => none
  | n + 1, x1, x2, x5, s =>
    gd (inb x1 (gN s 148)) <|
    if (gE s 148 x1) ≤ x5 then
      some (.inl s)
    else
      gd (inb x1 (gN s 147)) <|
      gd (inb (w32 ((gE s 147 x1) + x5)) (gN s 149)) <|
      gd (inb x2 (gN s 147)) <|
      gd (inb (w32 ((gE s 147 x2) + x5)) (gN s 149)) <|
      if (gE s 149 (w32 ((gE s 147 x1) + x5))) = (gE s 149 (w32 ((gE s 147 x2) + x5))) then
        vl (w32 (x5 + 1)) fun y8 =>
        l_X14_compareNumbers_109 n x1 x2 y8 s
      else
        gd (inb x1 (gN s 147)) <|
        gd (inb (w32 ((gE s 147 x1) + x5)) (gN s 149)) <|
        gd (inb x2 (gN s 147)) <|
        gd (inb (w32 ((gE s 147 x2) + x5)) (gN s 149)) <|
        if (gE s 149 (w32 ((gE s 147 x2) + x5))) ≤ (gE s 149 (w32 ((gE s 147 x1) + x5))) then
          some (.inr (1, s))
        else
          some (.inr ((-1), s))
theorem wl_X14_compareNumbers_109 {x1 : Int} {x2 : Int} {rv : Option vA} {σo : vS}  (rx1 : rg x1) (rx2 : rg x2) : ∀ (n : Nat) (x5 : Int) (s : vS) (q : (vS) ⊕ (Int × vS)), l_X14_compareNumbers_109 n x1 x2 x5 s = some q → rg x5 → E_X14_compareNumbers_109 rv σo q → VW cX14_compareNumbers (RX14, rv, σo, (some .int), 0, 0, 6, []) (P0 []) s 109 [(0, vO 87), (1, vI x1), (2, vI x2), (5, vI x5)] [] := by
  intro n
  induction n with
  | zero => intro x5 s q h; cases h
  | succ n ih =>
    intro x5 s q h rx5 hE
    unfold l_X14_compareNumbers_109 at h
    refine v_iload dX14_compareNumbers_109 3 rfl ?_
    refine v_aload_n dX14_compareNumbers_111 0 rfl rfl ?_
    refine v_getS (f := 87) (t := 148) cf14 oc87 rfl rfl rfl (by decide) q2457 dX14_compareNumbers_112 ?_
    refine v_iload_n dX14_compareNumbers_115 1 rfl rfl ?_
    obtain ⟨g1, h⟩ := gd_some h
    refine v_iald oc148 rx1 g1.1 g1.2 dX14_compareNumbers_116 ?_
    refine v_icmp_ge (tgt := 194) dX14_compareNumbers_117 rx5 (gE_rg _ _ _) (by decide) (fun c2 => ?_) (fun c2 => ?_)
    · rw [if_pos c2] at h
      cases h
      refine v_sub [] (L1 := []) rfl ?_
      exact hE.1 _ rfl 
    · rw [if_neg c2] at h
      refine v_aload_n dX14_compareNumbers_120 0 rfl rfl ?_
      refine v_getS (f := 88) (t := 149) cf14 oc87 rfl rfl rfl (by decide) q2458 dX14_compareNumbers_121 ?_
      refine v_aload_n dX14_compareNumbers_124 0 rfl rfl ?_
      refine v_getS (f := 86) (t := 147) cf14 oc87 rfl rfl rfl (by decide) q2456 dX14_compareNumbers_125 ?_
      refine v_iload_n dX14_compareNumbers_128 1 rfl rfl ?_
      obtain ⟨g3, h⟩ := gd_some h
      refine v_iald oc147 rx1 g3.1 g3.2 dX14_compareNumbers_129 ?_
      refine v_iload dX14_compareNumbers_130 3 rfl ?_
      refine v_iadd dX14_compareNumbers_132 ?_
      obtain ⟨g4, h⟩ := gd_some h
      refine v_iald oc149 (w32_rg _) g4.1 g4.2 dX14_compareNumbers_133 ?_
      refine v_aload_n dX14_compareNumbers_134 0 rfl rfl ?_
      refine v_getS (f := 88) (t := 149) cf14 oc87 rfl rfl rfl (by decide) q2458 dX14_compareNumbers_135 ?_
      refine v_aload_n dX14_compareNumbers_138 0 rfl rfl ?_
      refine v_getS (f := 86) (t := 147) cf14 oc87 rfl rfl rfl (by decide) q2456 dX14_compareNumbers_139 ?_
      refine v_iload_n dX14_compareNumbers_142 2 rfl rfl ?_
      obtain ⟨g5, h⟩ := gd_some h
      refine v_iald oc147 rx2 g5.1 g5.2 dX14_compareNumbers_143 ?_
      refine v_iload dX14_compareNumbers_144 3 rfl ?_
      refine v_iadd dX14_compareNumbers_146 ?_
      obtain ⟨g6, h⟩ := gd_some h
      refine v_iald oc149 (w32_rg _) g6.1 g6.2 dX14_compareNumbers_147 ?_
      refine v_icmp_eq (tgt := 188) dX14_compareNumbers_148 (gE_rg _ _ _) (gE_rg _ _ _) (by decide) (fun c7 => ?_) (fun c7 => ?_)
      · rw [if_pos c7] at h
        obtain ⟨y8, e9, h⟩ := vl_some h
        refine v_iinc (L1 := [(5, vI (w32 (x5 + 1))), (0, vO 87), (1, vI x1), (2, vI x2)]) dX14_compareNumbers_188 3 rfl (by decide) rfl ?_
        rw [← e9]
        have r10 : rg y8 := by rw [e9]; exact w32_rg _
        refine v_goto (tgt := 109) dX14_compareNumbers_191 (by decide) ?_
        refine v_sub [1, 2, 3, 0] (L1 := [(0, vO 87), (1, vI x1), (2, vI x2), (5, vI y8)]) rfl ?_
        exact ih y8 s _ h r10 hE
      · rw [if_neg c7] at h
        refine v_aload_n dX14_compareNumbers_151 0 rfl rfl ?_
        refine v_getS (f := 88) (t := 149) cf14 oc87 rfl rfl rfl (by decide) q2458 dX14_compareNumbers_152 ?_
        refine v_aload_n dX14_compareNumbers_155 0 rfl rfl ?_
        refine v_getS (f := 86) (t := 147) cf14 oc87 rfl rfl rfl (by decide) q2456 dX14_compareNumbers_156 ?_
        refine v_iload_n dX14_compareNumbers_159 1 rfl rfl ?_
        obtain ⟨g11, h⟩ := gd_some h
        refine v_iald oc147 rx1 g11.1 g11.2 dX14_compareNumbers_160 ?_
        refine v_iload dX14_compareNumbers_161 3 rfl ?_
        refine v_iadd dX14_compareNumbers_163 ?_
        obtain ⟨g12, h⟩ := gd_some h
        refine v_iald oc149 (w32_rg _) g12.1 g12.2 dX14_compareNumbers_164 ?_
        refine v_aload_n dX14_compareNumbers_165 0 rfl rfl ?_
        refine v_getS (f := 88) (t := 149) cf14 oc87 rfl rfl rfl (by decide) q2458 dX14_compareNumbers_166 ?_
        refine v_aload_n dX14_compareNumbers_169 0 rfl rfl ?_
        refine v_getS (f := 86) (t := 147) cf14 oc87 rfl rfl rfl (by decide) q2456 dX14_compareNumbers_170 ?_
        refine v_iload_n dX14_compareNumbers_173 2 rfl rfl ?_
        obtain ⟨g13, h⟩ := gd_some h
        refine v_iald oc147 rx2 g13.1 g13.2 dX14_compareNumbers_174 ?_
        refine v_iload dX14_compareNumbers_175 3 rfl ?_
        refine v_iadd dX14_compareNumbers_177 ?_
        obtain ⟨g14, h⟩ := gd_some h
        refine v_iald oc149 (w32_rg _) g14.1 g14.2 dX14_compareNumbers_178 ?_
        refine v_icmp_ge (tgt := 186) dX14_compareNumbers_179 (gE_rg _ _ _) (gE_rg _ _ _) (by decide) (fun c15 => ?_) (fun c15 => ?_)
        · rw [if_pos c15] at h
          refine v_iconst dX14_compareNumbers_186 ?_
          cases h
          obtain ⟨z1, z2⟩ := hE.2 _ _ rfl
          subst z1
          subst z2
          exact v_iret (rgl rfl) dX14_compareNumbers_187
        · rw [if_neg c15] at h
          refine v_iconst dX14_compareNumbers_182 ?_
          refine v_goto (tgt := 187) dX14_compareNumbers_183 (by decide) ?_
          cases h
          obtain ⟨z1, z2⟩ := hE.2 _ _ rfl
          subst z1
          subst z2
          exact v_iret (rgl rfl) dX14_compareNumbers_187

def j_X14_compareNumbers_96 (x3 : Int) (z0 : Int) (s : vS) : Option (Int × vS) :=
  if z0 = x3 then
    some (1, s)
  else
    some ((-1), s)
theorem wj_X14_compareNumbers_96 {x3 : Int} {z0 : Int} {s : vS} {out : Int × vS} (h : j_X14_compareNumbers_96 x3 z0 s = some out)  (rx3 : rg x3) (rz0 : rg z0) : VW cX14_compareNumbers (RX14, (some (vI out.1)), out.2, (some .int), 0, 0, 6, []) (P0 []) s 96 [(3, vI x3)] [vI z0] := by
  unfold j_X14_compareNumbers_96 at h
  refine v_iload_n dX14_compareNumbers_96 0 rfl rfl ?_
  refine v_icmp_eq (tgt := 104) dX14_compareNumbers_97 rz0 rx3 (by decide) (fun c1 => ?_) (fun c1 => ?_)
  · rw [if_pos c1] at h
    refine v_iconst dX14_compareNumbers_104 ?_
    cases h
    exact v_iret (rgl rfl) dX14_compareNumbers_105
  · rw [if_neg c1] at h
    refine v_iconst dX14_compareNumbers_100 ?_
    refine v_goto (tgt := 105) dX14_compareNumbers_101 (by decide) ?_
    cases h
    exact v_iret (rgl rfl) dX14_compareNumbers_105

def j_X14_compareNumbers_43 (x1 : Int) (x2 : Int) (x3 : Int) (z0 : Int) (s : vS) : Option (Int × vS) :=
  if x3 = z0 then
    gd (inb x1 (gN s 148)) <|
    gd (inb x2 (gN s 148)) <|
    if (gE s 148 x1) = (gE s 148 x2) then
      lqs_0 (l_X14_compareNumbers_109 FU x1 x2 0 s) (fun s5 =>
        some (0, s5))
        (fun q => some q)
    else
      gd (inb x1 (gN s 148)) <|
      gd (inb x2 (gN s 148)) <|
      if (gE s 148 x2) ≤ (gE s 148 x1) then
        j_X14_compareNumbers_96 x3 0 s
      else
        j_X14_compareNumbers_96 x3 1 s
  else
    if x3 = 0 then
      some (1, s)
    else
      some ((-1), s)
theorem wj_X14_compareNumbers_43 {x1 : Int} {x2 : Int} {x3 : Int} {z0 : Int} {s : vS} {out : Int × vS} (h : j_X14_compareNumbers_43 x1 x2 x3 z0 s = some out)  (rx1 : rg x1) (rx2 : rg x2) (rx3 : rg x3) (rz0 : rg z0) : VW cX14_compareNumbers (RX14, (some (vI out.1)), out.2, (some .int), 0, 0, 6, []) (P0 []) s 43 [(0, vO 87), (1, vI x1), (2, vI x2), (3, vI x3)] [vI z0] := by
  unfold j_X14_compareNumbers_43 at h
  refine v_istore (L1 := [(4, vI z0), (0, vO 87), (1, vI x1), (2, vI x2), (3, vI x3)]) dX14_compareNumbers_43 (by decide) rfl ?_
  refine v_iload_n dX14_compareNumbers_45 4 rfl rfl ?_
  refine v_iload dX14_compareNumbers_46 0 rfl ?_
  refine v_icmp_eq (tgt := 61) dX14_compareNumbers_48 rx3 rz0 (by decide) (fun c1 => ?_) (fun c1 => ?_)
  · rw [if_pos c1] at h
    refine v_aload_n dX14_compareNumbers_61 1 rfl rfl ?_
    refine v_getS (f := 87) (t := 148) cf14 oc87 rfl rfl rfl (by decide) q2457 dX14_compareNumbers_62 ?_
    refine v_iload_n dX14_compareNumbers_65 2 rfl rfl ?_
    obtain ⟨g2, h⟩ := gd_some h
    refine v_iald oc148 rx1 g2.1 g2.2 dX14_compareNumbers_66 ?_
    refine v_aload_n dX14_compareNumbers_67 1 rfl rfl ?_
    refine v_getS (f := 87) (t := 148) cf14 oc87 rfl rfl rfl (by decide) q2457 dX14_compareNumbers_68 ?_
    refine v_iload_n dX14_compareNumbers_71 3 rfl rfl ?_
    obtain ⟨g3, h⟩ := gd_some h
    refine v_iald oc148 rx2 g3.1 g3.2 dX14_compareNumbers_72 ?_
    refine v_icmp_eq (tgt := 106) dX14_compareNumbers_73 (gE_rg _ _ _) (gE_rg _ _ _) (by decide) (fun c4 => ?_) (fun c4 => ?_)
    · rw [if_pos c4] at h
      refine v_iconst dX14_compareNumbers_106 ?_
      refine v_istore (L1 := [(5, vI 0), (4, vI z0), (0, vO 87), (1, vI x1), (2, vI x2), (3, vI x3)]) dX14_compareNumbers_107 (by decide) rfl ?_
      refine v_sub [2, 3, 4, 0] (L1 := [(0, vO 87), (1, vI x1), (2, vI x2), (5, vI 0)]) rfl ?_
      rcases lqs_0_some h with ⟨s5, e6, h⟩ | ⟨q9, e6, h⟩
      · refine wl_X14_compareNumbers_109 rx1 rx2 FU 0 s _ e6 (rgl rfl) ?_
        unfold E_X14_compareNumbers_109
        refine ⟨?_, fun v9 s9 z_ => (by cases z_)⟩
        intro s5' z_
        cases z_
        refine v_iconst dX14_compareNumbers_194 ?_
        cases h
        exact v_iret (rgl rfl) dX14_compareNumbers_195
      · cases h
        refine wl_X14_compareNumbers_109 rx1 rx2 FU 0 s _ e6 (rgl rfl) ?_
        unfold E_X14_compareNumbers_109
        refine ⟨fun _ z_ => (by cases z_), ?_⟩
        intro v9 s9 z_
        cases z_
        exact ⟨rfl, rfl⟩
    · rw [if_neg c4] at h
      refine v_aload_n dX14_compareNumbers_76 1 rfl rfl ?_
      refine v_getS (f := 87) (t := 148) cf14 oc87 rfl rfl rfl (by decide) q2457 dX14_compareNumbers_77 ?_
      refine v_iload_n dX14_compareNumbers_80 2 rfl rfl ?_
      obtain ⟨g7, h⟩ := gd_some h
      refine v_iald oc148 rx1 g7.1 g7.2 dX14_compareNumbers_81 ?_
      refine v_aload_n dX14_compareNumbers_82 1 rfl rfl ?_
      refine v_getS (f := 87) (t := 148) cf14 oc87 rfl rfl rfl (by decide) q2457 dX14_compareNumbers_83 ?_
      refine v_iload_n dX14_compareNumbers_86 3 rfl rfl ?_
      obtain ⟨g8, h⟩ := gd_some h
      refine v_iald oc148 rx2 g8.1 g8.2 dX14_compareNumbers_87 ?_
      refine v_icmp_ge (tgt := 95) dX14_compareNumbers_88 (gE_rg _ _ _) (gE_rg _ _ _) (by decide) (fun c9 => ?_) (fun c9 => ?_)
      · rw [if_pos c9] at h
        refine v_iconst dX14_compareNumbers_95 ?_
        refine v_sub [4] (L1 := [(3, vI x3)]) rfl ?_
        exact wj_X14_compareNumbers_96 h rx3 (rgl rfl)
      · rw [if_neg c9] at h
        refine v_iconst dX14_compareNumbers_91 ?_
        refine v_goto (tgt := 96) dX14_compareNumbers_92 (by decide) ?_
        refine v_sub [4] (L1 := [(3, vI x3)]) rfl ?_
        exact wj_X14_compareNumbers_96 h rx3 (rgl rfl)
  · rw [if_neg c1] at h
    refine v_iload_n dX14_compareNumbers_51 4 rfl rfl ?_
    refine v_if_eq (tgt := 59) dX14_compareNumbers_52 rx3 (by decide) (fun c10 => ?_) (fun c10 => ?_)
    · rw [if_pos c10] at h
      refine v_iconst dX14_compareNumbers_59 ?_
      cases h
      exact v_iret (rgl rfl) dX14_compareNumbers_60
    · rw [if_neg c10] at h
      refine v_iconst dX14_compareNumbers_55 ?_
      refine v_goto (tgt := 60) dX14_compareNumbers_56 (by decide) ?_
      cases h
      exact v_iret (rgl rfl) dX14_compareNumbers_60

def j_X14_compareNumbers_21 (x1 : Int) (x2 : Int) (z0 : Int) (s : vS) : Option (Int × vS) :=
  gd (inb x2 (gN s 147)) <|
  gd (inb (gE s 147 x2) (gN s 149)) <|
  if (gE s 149 (gE s 147 x2)) ≤ 127 then
    j_X14_compareNumbers_43 x1 x2 z0 0 s
  else
    j_X14_compareNumbers_43 x1 x2 z0 1 s
theorem wj_X14_compareNumbers_21 {x1 : Int} {x2 : Int} {z0 : Int} {s : vS} {out : Int × vS} (h : j_X14_compareNumbers_21 x1 x2 z0 s = some out)  (rx1 : rg x1) (rx2 : rg x2) (rz0 : rg z0) : VW cX14_compareNumbers (RX14, (some (vI out.1)), out.2, (some .int), 0, 0, 6, []) (P0 []) s 21 [(0, vO 87), (1, vI x1), (2, vI x2)] [vI z0] := by
  unfold j_X14_compareNumbers_21 at h
  refine v_istore_n (L1 := [(3, vI z0), (0, vO 87), (1, vI x1), (2, vI x2)]) dX14_compareNumbers_21 rfl (by decide) rfl ?_
  refine v_aload_n dX14_compareNumbers_22 1 rfl rfl ?_
  refine v_getS (f := 88) (t := 149) cf14 oc87 rfl rfl rfl (by decide) q2458 dX14_compareNumbers_23 ?_
  refine v_aload_n dX14_compareNumbers_26 1 rfl rfl ?_
  refine v_getS (f := 86) (t := 147) cf14 oc87 rfl rfl rfl (by decide) q2456 dX14_compareNumbers_27 ?_
  refine v_iload_n dX14_compareNumbers_30 3 rfl rfl ?_
  obtain ⟨g1, h⟩ := gd_some h
  refine v_iald oc147 rx2 g1.1 g1.2 dX14_compareNumbers_31 ?_
  obtain ⟨g2, h⟩ := gd_some h
  refine v_iald oc149 (gE_rg _ _ _) g2.1 g2.2 dX14_compareNumbers_32 ?_
  refine v_bipush dX14_compareNumbers_33 rfl ?_
  refine v_icmp_le (tgt := 42) dX14_compareNumbers_35 (gE_rg _ _ _) (rgl rfl) (by decide) (fun c3 => ?_) (fun c3 => ?_)
  · rw [if_pos c3] at h
    refine v_iconst dX14_compareNumbers_42 ?_
    refine v_sub [1, 2, 3, 0] (L1 := [(0, vO 87), (1, vI x1), (2, vI x2), (3, vI z0)]) rfl ?_
    exact wj_X14_compareNumbers_43 h rx1 rx2 rz0 (rgl rfl)
  · rw [if_neg c3] at h
    refine v_iconst dX14_compareNumbers_38 ?_
    refine v_goto (tgt := 43) dX14_compareNumbers_39 (by decide) ?_
    refine v_sub [1, 2, 3, 0] (L1 := [(0, vO 87), (1, vI x1), (2, vI x2), (3, vI z0)]) rfl ?_
    exact wj_X14_compareNumbers_43 h rx1 rx2 rz0 (rgl rfl)

def f_X14_compareNumbers (x1 : Int) (x2 : Int) (s : vS) : Option (Int × vS) :=
  gd (inb x1 (gN s 147)) <|
  gd (inb (gE s 147 x1) (gN s 149)) <|
  if (gE s 149 (gE s 147 x1)) ≤ 127 then
    j_X14_compareNumbers_21 x1 x2 0 s
  else
    j_X14_compareNumbers_21 x1 x2 1 s
theorem yk_X14_compareNumbers : yOk yX14_compareNumbers 2 := ⟨by decide, by decide, by decide +kernel⟩
theorem c_X14_compareNumbers {x1 : Int} {x2 : Int} {s : vS} {out : Int × vS} (h : f_X14_compareNumbers x1 x2 s = some out)  (rx1 : rg x1) (rx2 : rg x2) : VC yX14_compareNumbers cX14_compareNumbers 6 (some .int) 0 0 [vO 87, vI x1, vI x2] s (some (vI out.1)) out.2 [] := by
  unfold f_X14_compareNumbers at h
  refine VC.of RX14 (by decide) rfl (Nat.le_of_ble_eq_true rfl) ?_
  show VW cX14_compareNumbers (RX14, (some (vI out.1)), out.2, (some .int), 0, 0, 6, []) (P0 []) s 0 [(0, vO 87), (1, vI x1), (2, vI x2)] []
  refine v_aload_n dX14_compareNumbers_0 0 rfl rfl ?_
  refine v_getS (f := 88) (t := 149) cf14 oc87 rfl rfl rfl (by decide) q2458 dX14_compareNumbers_1 ?_
  refine v_aload_n dX14_compareNumbers_4 0 rfl rfl ?_
  refine v_getS (f := 86) (t := 147) cf14 oc87 rfl rfl rfl (by decide) q2456 dX14_compareNumbers_5 ?_
  refine v_iload_n dX14_compareNumbers_8 1 rfl rfl ?_
  obtain ⟨g1, h⟩ := gd_some h
  refine v_iald oc147 rx1 g1.1 g1.2 dX14_compareNumbers_9 ?_
  obtain ⟨g2, h⟩ := gd_some h
  refine v_iald oc149 (gE_rg _ _ _) g2.1 g2.2 dX14_compareNumbers_10 ?_
  refine v_bipush dX14_compareNumbers_11 rfl ?_
  refine v_icmp_le (tgt := 20) dX14_compareNumbers_13 (gE_rg _ _ _) (rgl rfl) (by decide) (fun c3 => ?_) (fun c3 => ?_)
  · rw [if_pos c3] at h
    refine v_iconst dX14_compareNumbers_20 ?_
    exact wj_X14_compareNumbers_21 h rx1 rx2 (rgl rfl)
  · rw [if_neg c3] at h
    refine v_iconst dX14_compareNumbers_16 ?_
    refine v_goto (tgt := 21) dX14_compareNumbers_17 (by decide) ?_
    exact wj_X14_compareNumbers_21 h rx1 rx2 (rgl rfl)

def E_X14_asInt_18 (rv : Option vA) (σo : vS) (q : Int × vS) : Prop := ∀ (x2' : Int) (s' : vS), q = (x2', s') → rg x2' → VW cX14_asInt (RX14, rv, σo, (some .int), 0, 0, 4, []) (P0 []) s' 53 [(2, vI x2')] []
def l_X14_asInt_18 : Nat → Int → Int → Int → vS → Option (Int × vS)
  | 0, _, _, _, _ => none
  | n + 1, x1, x2, x3, s =>
    gd (inb x1 (gN s 148)) <|
    if (gE s 148 x1) ≤ x3 then
      some (x2, s)
    else
      gd (inb x1 (gN s 147)) <|
      gd (inb (w32 ((gE s 147 x1) + x3)) (gN s 149)) <|
      vl (or32 (shl32 x2 8) (gE s 149 (w32 ((gE s 147 x1) + x3)))) fun y5 =>
      vl (w32 (x3 + 1)) fun y8 =>
      l_X14_asInt_18 n x1 y5 y8 s
theorem wl_X14_asInt_18 {x1 : Int} {rv : Option vA} {σo : vS}  (rx1 : rg x1) : ∀ (n : Nat) (x2 : Int) (x3 : Int) (s : vS) (q : Int × vS), l_X14_asInt_18 n x1 x2 x3 s = some q → rg x2 → rg x3 → E_X14_asInt_18 rv σo q → VW cX14_asInt (RX14, rv, σo, (some .int), 0, 0, 4, []) (P0 []) s 18 [(0, vO 87), (1, vI x1), (2, vI x2), (3, vI x3)] [] := by
  intro n
  induction n with
  | zero => intro x2 x3 s q h; cases h
  | succ n ih =>
    intro x2 x3 s q h rx2 rx3 hE
    unfold l_X14_asInt_18 at h
    refine v_iload_n dX14_asInt_18 3 rfl rfl ?_
    refine v_aload_n dX14_asInt_19 0 rfl rfl ?_
    refine v_getS (f := 87) (t := 148) cf14 oc87 rfl rfl rfl (by decide) q2457 dX14_asInt_20 ?_
    refine v_iload_n dX14_asInt_23 1 rfl rfl ?_
    obtain ⟨g1, h⟩ := gd_some h
    refine v_iald oc148 rx1 g1.1 g1.2 dX14_asInt_24 ?_
    refine v_icmp_ge (tgt := 53) dX14_asInt_25 rx3 (gE_rg _ _ _) (by decide) (fun c2 => ?_) (fun c2 => ?_)
    · rw [if_pos c2] at h
      cases h
      refine v_sub [2] (L1 := [(2, vI x2)]) rfl ?_
      exact hE _ _ rfl rx2
    · rw [if_neg c2] at h
      refine v_iload_n dX14_asInt_28 2 rfl rfl ?_
      refine v_bipush dX14_asInt_29 rfl ?_
      refine v_ishl dX14_asInt_31 ?_
      refine v_aload_n dX14_asInt_32 0 rfl rfl ?_
      refine v_getS (f := 88) (t := 149) cf14 oc87 rfl rfl rfl (by decide) q2458 dX14_asInt_33 ?_
      refine v_aload_n dX14_asInt_36 0 rfl rfl ?_
      refine v_getS (f := 86) (t := 147) cf14 oc87 rfl rfl rfl (by decide) q2456 dX14_asInt_37 ?_
      refine v_iload_n dX14_asInt_40 1 rfl rfl ?_
      obtain ⟨g3, h⟩ := gd_some h
      refine v_iald oc147 rx1 g3.1 g3.2 dX14_asInt_41 ?_
      refine v_iload_n dX14_asInt_42 3 rfl rfl ?_
      refine v_iadd dX14_asInt_43 ?_
      obtain ⟨g4, h⟩ := gd_some h
      refine v_iald oc149 (w32_rg _) g4.1 g4.2 dX14_asInt_44 ?_
      refine v_ior dX14_asInt_45 ?_
      obtain ⟨y5, e6, h⟩ := vl_some h
      rw [← e6]
      have r7 : rg y5 := by rw [e6]; exact or32_rg _ _
      refine v_istore_n (L1 := [(2, vI y5), (0, vO 87), (1, vI x1), (3, vI x3)]) dX14_asInt_46 rfl (by decide) rfl ?_
      obtain ⟨y8, e9, h⟩ := vl_some h
      refine v_iinc (L1 := [(3, vI (w32 (x3 + 1))), (2, vI y5), (0, vO 87), (1, vI x1)]) dX14_asInt_47 3 rfl (by decide) rfl ?_
      rw [← e9]
      have r10 : rg y8 := by rw [e9]; exact w32_rg _
      refine v_goto (tgt := 18) dX14_asInt_50 (by decide) ?_
      refine v_sub [2, 3, 1, 0] (L1 := [(0, vO 87), (1, vI x1), (2, vI y5), (3, vI y8)]) rfl ?_
      exact ih y5 y8 s _ h r7 r10 hE

def f_X14_asInt (x1 : Int) (s : vS) : Option (Int × vS) :=
  gd (inb x1 (gN s 148)) <|
  if (gE s 148 x1) ≤ 4 then
    lq_1 (l_X14_asInt_18 FU x1 0 0 s) fun y3 s4 =>
    some (y3, s4)
  else
    some (2147483647, s)
theorem yk_X14_asInt : yOk yX14_asInt 1 := ⟨by decide, by decide, by decide +kernel⟩
theorem c_X14_asInt {x1 : Int} {s : vS} {out : Int × vS} (h : f_X14_asInt x1 s = some out)  (rx1 : rg x1) : VC yX14_asInt cX14_asInt 4 (some .int) 0 0 [vO 87, vI x1] s (some (vI out.1)) out.2 [] := by
  unfold f_X14_asInt at h
  refine VC.of RX14 (by decide) rfl (Nat.le_of_ble_eq_true rfl) ?_
  show VW cX14_asInt (RX14, (some (vI out.1)), out.2, (some .int), 0, 0, 4, []) (P0 []) s 0 [(0, vO 87), (1, vI x1)] []
  refine v_aload_n dX14_asInt_0 0 rfl rfl ?_
  refine v_getS (f := 87) (t := 148) cf14 oc87 rfl rfl rfl (by decide) q2457 dX14_asInt_1 ?_
  refine v_iload_n dX14_asInt_4 1 rfl rfl ?_
  obtain ⟨g1, h⟩ := gd_some h
  refine v_iald oc148 rx1 g1.1 g1.2 dX14_asInt_5 ?_
  refine v_iconst dX14_asInt_6 ?_
  refine v_icmp_le (tgt := 14) dX14_asInt_7 (gE_rg _ _ _) (rgl rfl) (by decide) (fun c2 => ?_) (fun c2 => ?_)
  · rw [if_pos c2] at h
    refine v_iconst dX14_asInt_14 ?_
    refine v_istore_n (L1 := [(2, vI 0), (0, vO 87), (1, vI x1)]) dX14_asInt_15 rfl (by decide) rfl ?_
    refine v_iconst dX14_asInt_16 ?_
    refine v_istore_n (L1 := [(3, vI 0), (2, vI 0), (0, vO 87), (1, vI x1)]) dX14_asInt_17 rfl (by decide) rfl ?_
    refine v_sub [2, 3, 1, 0] (L1 := [(0, vO 87), (1, vI x1), (2, vI 0), (3, vI 0)]) rfl ?_
    obtain ⟨y3, s4, e5, h⟩ := lq_1_some h
    refine wl_X14_asInt_18 rx1 FU 0 0 s _ e5 (rgl rfl) (rgl rfl) ?_
    unfold E_X14_asInt_18
    intro y3' s4' z_ r6
    cases z_
    refine v_iload_n dX14_asInt_53 0 rfl rfl ?_
    cases h
    exact v_iret r6 dX14_asInt_54
  · rw [if_neg c2] at h
    refine v_ldcw (n := 2147483647) dX14_asInt_10 q3023 rfl ?_
    cases h
    exact v_iret (rgl rfl) dX14_asInt_13

def j_X14_tag_186 (x1 : Int) (z1 : Int) (z2 : Int) (s : vS) : Option (vS) :=
  gd (inb z1 (gN s 111)) <|
  stp (sE s 111 z1 z2) fun s2 =>
  stp (sI s2 87 32 (w32 ((gI s2 87 32) + 1))) fun s4 =>
  gd (inb x1 (gN s4 100)) <|
  gd (inb x1 (gN s4 100)) <|
  stp (sE s4 100 x1 (w32 ((gE s4 100 x1) + 1))) fun s8 =>
  some s8
theorem wj_X14_tag_186 {x1 : Int} {z1 : Int} {z2 : Int} {s : vS} {out : vS} (h : j_X14_tag_186 x1 z1 z2 s = some out)  (rx1 : rg x1) (rz1 : rg z1) (rz2 : rg z2) : VW cX14_tag (RX14, none, out, none, 4, 98, 4, []) (P0 []) s 186 [(0, vO 87), (1, vI x1)] [vI z2, vI z1, vO 111] := by
  unfold j_X14_tag_186 at h
  obtain ⟨g1, h⟩ := gd_some h
  obtain ⟨s2, e3, h⟩ := stp_some h
  refine v_iast oc111 rz1 g1.1 g1.2 dX14_tag_186 ?_
  rw [← e3]
  refine v_aload_n dX14_tag_187 0 rfl rfl ?_
  refine v_dupO dX14_tag_188 ?_
  refine v_getI (f := 32) cf14 oc87 rfl (by decide) q2402 dX14_tag_189 ?_
  refine v_iconst dX14_tag_192 ?_
  refine v_iadd dX14_tag_193 ?_
  obtain ⟨s4, e5, h⟩ := stp_some h
  refine v_putI (f := 32) cf14 oc87 rfl (by decide) q2402 dX14_tag_194 rfl rfl ?_
  rw [← e5]
  refine v_aload_n dX14_tag_197 0 rfl rfl ?_
  refine v_getS (f := 24) (t := 100) cf14 oc87 rfl rfl rfl (by decide) q2394 dX14_tag_198 ?_
  refine v_iload_n dX14_tag_201 1 rfl rfl ?_
  refine v_dup2IO dX14_tag_202 ?_
  obtain ⟨g6, h⟩ := gd_some h
  refine v_iald oc100 rx1 g6.1 g6.2 dX14_tag_203 ?_
  refine v_iconst dX14_tag_204 ?_
  refine v_iadd dX14_tag_205 ?_
  obtain ⟨g7, h⟩ := gd_some h
  obtain ⟨s8, e9, h⟩ := stp_some h
  refine v_iast oc100 rx1 g7.1 g7.2 dX14_tag_206 ?_
  rw [← e9]
  cases h
  exact v_vret dX14_tag_207

def j_X14_tag_117 (x1 : Int) (x2 : Int) (s : vS) : Option (vS) :=
  bd (f_X14_take 3 s) fun r4 s1 =>
  if (gI s1 87 8) ≤ 0 then
    bd (f_X14_numberOf r4 0 s1) fun r10 s7 =>
    gd (gN s7 110 = gN s1 110) <|
    bd (f_X14_asInt r10 s7) fun r16 s13 =>
    gd (gN s13 110 = gN s7 110) <|
    gd (inb x2 (gN s13 110)) <|
    stp (sE s13 110 x2 r16) fun s20 =>
    bd (f_X14_take 15 s20) fun r25 s22 =>
    bd (f_X14_eat 74 s22) fun r30 s27 =>
    gd (gN s27 111 = gN s22 111) <|
    if r30 = 0 then
      bd (f_X14_eat 63 s27) fun r37 s34 =>
      gd (gN s34 111 = gN s27 111) <|
      if r37 = 0 then
        j_X14_tag_186 x1 x2 0 s34
      else
        j_X14_tag_186 x1 x2 2 s34
    else
      j_X14_tag_186 x1 x2 1 s27
  else
    some s1
theorem wj_X14_tag_117 {x1 : Int} {x2 : Int} {s : vS} {out : vS} (h : j_X14_tag_117 x1 x2 s = some out)  (rx1 : rg x1) (rx2 : rg x2) : VW cX14_tag (RX14, none, out, none, 4, 98, 4, []) (P0 []) s 117 [(0, vO 87), (1, vI x1), (2, vI x2)] [] := by
  unfold j_X14_tag_117 at h
  refine v_aload_n dX14_tag_117 0 rfl rfl ?_
  refine v_iconst dX14_tag_118 ?_
  obtain ⟨r4, s1, e2, h⟩ := bd_some h
  have k3 := c_X14_take e2 (rgl rfl)
  have r5 : rg r4 := k3.1.2.2
  refine v_callV (st := []) cf14 oc87 k3 (lw_V q2964 q2966 qs172 q311 q2967) rfl yk_X14_take ⟨Nat.le_of_ble_eq_true rfl, Nat.le_of_ble_eq_true rfl⟩ trivial ⟨kc87, trivial⟩ (Nat.le_of_ble_eq_true rfl) rfl dX14_tag_119 ?_
  refine v_istore_n (L1 := [(3, vI r4), (0, vO 87), (1, vI x1), (2, vI x2)]) dX14_tag_122 rfl (by decide) rfl ?_
  refine v_aload_n dX14_tag_123 1 rfl rfl ?_
  refine v_getI (f := 8) cf14 oc87 rfl (by decide) q2378 dX14_tag_124 ?_
  refine v_if_le (tgt := 131) dX14_tag_127 (gI_rg _ _ _) (by decide) (fun c6 => ?_) (fun c6 => ?_)
  · rw [if_pos c6] at h
    refine v_aload_n dX14_tag_131 1 rfl rfl ?_
    refine v_getS (f := 35) (t := 110) cf14 oc87 rfl rfl rfl (by decide) q2405 dX14_tag_132 ?_
    refine v_iload_n dX14_tag_135 3 rfl rfl ?_
    refine v_aload_n dX14_tag_136 1 rfl rfl ?_
    refine v_aload_n dX14_tag_137 1 rfl rfl ?_
    refine v_iload_n dX14_tag_138 0 rfl rfl ?_
    refine v_iconst dX14_tag_139 ?_
    obtain ⟨r10, s7, e8, h⟩ := bd_some h
    have k9 := c_X14_numberOf e8 r5 (rgl rfl)
    have r11 : rg r10 := k9.1.2.2
    obtain ⟨g12, h⟩ := gd_some h
    refine v_callV (st := [vO 87, vI x2, vO 110]) cf14 oc87 k9 (lw_V q2996 q2998 qs180 q311 q2999) rfl yk_X14_numberOf ⟨Nat.le_of_ble_eq_true rfl, Nat.le_of_ble_eq_true rfl⟩ ⟨kc87, (kp_arr (by decide) g12), trivial⟩ ⟨kc87, trivial⟩ (Nat.le_of_ble_eq_true rfl) rfl dX14_tag_140 ?_
    obtain ⟨r16, s13, e14, h⟩ := bd_some h
    have k15 := c_X14_asInt e14 r11
    have r17 : rg r16 := k15.1.2.2
    obtain ⟨g18, h⟩ := gd_some h
    refine v_callV (st := [vI x2, vO 110]) cf14 oc87 k15 (lw_V q3019 q3021 qs185 q311 q3022) rfl yk_X14_asInt ⟨Nat.le_of_ble_eq_true rfl, Nat.le_of_ble_eq_true rfl⟩ ⟨(kp_arr (by decide) g18), trivial⟩ ⟨kc87, trivial⟩ (Nat.le_of_ble_eq_true rfl) rfl dX14_tag_143 ?_
    obtain ⟨g19, h⟩ := gd_some h
    obtain ⟨s20, e21, h⟩ := stp_some h
    refine v_iast oc110 rx2 g19.1 g19.2 dX14_tag_146 ?_
    rw [← e21]
    refine v_aload_n dX14_tag_147 1 rfl rfl ?_
    refine v_bipush dX14_tag_148 rfl ?_
    obtain ⟨r25, s22, e23, h⟩ := bd_some h
    have k24 := c_X14_take e23 (rgl rfl)
    have r26 : rg r25 := k24.1.2.2
    refine v_callV (st := []) cf14 oc87 k24 (lw_V q2964 q2966 qs172 q311 q2967) rfl yk_X14_take ⟨Nat.le_of_ble_eq_true rfl, Nat.le_of_ble_eq_true rfl⟩ trivial ⟨kc87, trivial⟩ (Nat.le_of_ble_eq_true rfl) rfl dX14_tag_150 ?_
    refine v_popI dX14_tag_153 ?_
    refine v_aload_n dX14_tag_154 1 rfl rfl ?_
    refine v_getS (f := 36) (t := 111) cf14 oc87 rfl rfl rfl (by decide) q2406 dX14_tag_155 ?_
    refine v_iload_n dX14_tag_158 3 rfl rfl ?_
    refine v_aload_n dX14_tag_159 1 rfl rfl ?_
    refine v_bipush dX14_tag_160 rfl ?_
    obtain ⟨r30, s27, e28, h⟩ := bd_some h
    have k29 := c_X14_eat e28 (rgl rfl)
    have r31 : rg r30 := k29.1.2.2
    obtain ⟨g32, h⟩ := gd_some h
    refine v_callV (st := [vI x2, vO 111]) cf14 oc87 k29 (lw_V q2976 q2978 qs175 q311 q2979) rfl yk_X14_eat ⟨Nat.le_of_ble_eq_true rfl, Nat.le_of_ble_eq_true rfl⟩ ⟨(kp_arr (by decide) g32), trivial⟩ ⟨kc87, trivial⟩ (Nat.le_of_ble_eq_true rfl) rfl dX14_tag_162 ?_
    refine v_if_eq (tgt := 172) dX14_tag_165 r31 (by decide) (fun c33 => ?_) (fun c33 => ?_)
    · rw [if_pos c33] at h
      refine v_aload_n dX14_tag_172 1 rfl rfl ?_
      refine v_bipush dX14_tag_173 rfl ?_
      obtain ⟨r37, s34, e35, h⟩ := bd_some h
      have k36 := c_X14_eat e35 (rgl rfl)
      have r38 : rg r37 := k36.1.2.2
      obtain ⟨g39, h⟩ := gd_some h
      refine v_callV (st := [vI x2, vO 111]) cf14 oc87 k36 (lw_V q2976 q2978 qs175 q311 q2979) rfl yk_X14_eat ⟨Nat.le_of_ble_eq_true rfl, Nat.le_of_ble_eq_true rfl⟩ ⟨(kp_arr (by decide) g39), trivial⟩ ⟨kc87, trivial⟩ (Nat.le_of_ble_eq_true rfl) rfl dX14_tag_175 ?_
      refine v_if_eq (tgt := 185) dX14_tag_178 r38 (by decide) (fun c40 => ?_) (fun c40 => ?_)
      · rw [if_pos c40] at h
        refine v_iconst dX14_tag_185 ?_
        refine v_sub [1, 2] (L1 := [(0, vO 87), (1, vI x1)]) rfl ?_
        exact wj_X14_tag_186 h rx1 rx2 (rgl rfl)
      · rw [if_neg c40] at h
        refine v_iconst dX14_tag_181 ?_
        refine v_goto (tgt := 186) dX14_tag_182 (by decide) ?_
        refine v_sub [1, 2] (L1 := [(0, vO 87), (1, vI x1)]) rfl ?_
        exact wj_X14_tag_186 h rx1 rx2 (rgl rfl)
    · rw [if_neg c33] at h
      refine v_iconst dX14_tag_168 ?_
      refine v_goto (tgt := 186) dX14_tag_169 (by decide) ?_
      refine v_sub [1, 2] (L1 := [(0, vO 87), (1, vI x1)]) rfl ?_
      exact wj_X14_tag_186 h rx1 rx2 (rgl rfl)
  · rw [if_neg c6] at h
    cases h
    exact v_vret dX14_tag_130

def j_X14_tag_78 (x1 : Int) (x2 : Int) (s : vS) : Option (vS) :=
  if (gI s 87 8) = 0 then
    bd (f_X14_is 3 s) fun r5 s2 =>
    if r5 = 0 then
      j_X14_tag_117 x1 x2 s2
    else
      bd (f_X14_numberOf (gI s2 87 19) 0 s2) fun r11 s8 =>
      bd (f_X14_asInt r11 s8) fun r16 s13 =>
      if r16 ≤ 268435455 then
        j_X14_tag_117 x1 x2 s13
      else
        bdv (f_X14_misfit 1 s13) fun s19 =>
        j_X14_tag_117 x1 x2 s19
  else
    j_X14_tag_117 x1 x2 s
theorem wj_X14_tag_78 {x1 : Int} {x2 : Int} {s : vS} {out : vS} (h : j_X14_tag_78 x1 x2 s = some out)  (rx1 : rg x1) (rx2 : rg x2) : VW cX14_tag (RX14, none, out, none, 4, 98, 4, []) (P0 []) s 78 [(0, vO 87), (1, vI x1), (2, vI x2)] [] := by
  unfold j_X14_tag_78 at h
  refine v_aload_n dX14_tag_78 0 rfl rfl ?_
  refine v_getI (f := 8) cf14 oc87 rfl (by decide) q2378 dX14_tag_79 ?_
  refine v_if_ne (tgt := 117) dX14_tag_82 (gI_rg _ _ _) (by decide) (fun c1 => ?_) (fun c1 => ?_)
  · rw [if_neg c1] at h
    exact wj_X14_tag_117 h rx1 rx2
  · rw [if_pos c1] at h
    refine v_aload_n dX14_tag_85 0 rfl rfl ?_
    refine v_iconst dX14_tag_86 ?_
    obtain ⟨r5, s2, e3, h⟩ := bd_some h
    have k4 := c_X14_is e3 (rgl rfl)
    have r6 : rg r5 := k4.1.2.2
    refine v_callV (st := []) cf14 oc87 k4 (lw_V q2968 q2970 qs173 q311 q2971) rfl yk_X14_is ⟨Nat.le_of_ble_eq_true rfl, Nat.le_of_ble_eq_true rfl⟩ trivial ⟨kc87, trivial⟩ (Nat.le_of_ble_eq_true rfl) rfl dX14_tag_87 ?_
    refine v_if_eq (tgt := 117) dX14_tag_90 r6 (by decide) (fun c7 => ?_) (fun c7 => ?_)
    · rw [if_pos c7] at h
      exact wj_X14_tag_117 h rx1 rx2
    · rw [if_neg c7] at h
      refine v_aload_n dX14_tag_93 0 rfl rfl ?_
      refine v_aload_n dX14_tag_94 0 rfl rfl ?_
      refine v_aload_n dX14_tag_95 0 rfl rfl ?_
      refine v_getI (f := 19) cf14 oc87 rfl (by decide) q2389 dX14_tag_96 ?_
      refine v_iconst dX14_tag_99 ?_
      obtain ⟨r11, s8, e9, h⟩ := bd_some h
      have k10 := c_X14_numberOf e9 (gI_rg _ _ _) (rgl rfl)
      have r12 : rg r11 := k10.1.2.2
      refine v_callV (st := [vO 87]) cf14 oc87 k10 (lw_V q2996 q2998 qs180 q311 q2999) rfl yk_X14_numberOf ⟨Nat.le_of_ble_eq_true rfl, Nat.le_of_ble_eq_true rfl⟩ ⟨kc87, trivial⟩ ⟨kc87, trivial⟩ (Nat.le_of_ble_eq_true rfl) rfl dX14_tag_100 ?_
      obtain ⟨r16, s13, e14, h⟩ := bd_some h
      have k15 := c_X14_asInt e14 r12
      have r17 : rg r16 := k15.1.2.2
      refine v_callV (st := []) cf14 oc87 k15 (lw_V q3019 q3021 qs185 q311 q3022) rfl yk_X14_asInt ⟨Nat.le_of_ble_eq_true rfl, Nat.le_of_ble_eq_true rfl⟩ trivial ⟨kc87, trivial⟩ (Nat.le_of_ble_eq_true rfl) rfl dX14_tag_103 ?_
      refine v_ldcw (n := 268435455) dX14_tag_106 q3024 rfl ?_
      refine v_icmp_le (tgt := 117) dX14_tag_109 r17 (rgl rfl) (by decide) (fun c18 => ?_) (fun c18 => ?_)
      · rw [if_pos c18] at h
        exact wj_X14_tag_117 h rx1 rx2
      · rw [if_neg c18] at h
        refine v_aload_n dX14_tag_112 0 rfl rfl ?_
        refine v_iconst dX14_tag_113 ?_
        obtain ⟨s19, e20, h⟩ := bdv_some h
        have k21 := c_X14_misfit e20 (rgl rfl)
        refine v_callV (st := []) cf14 oc87 k21 (lw_V q2972 q2974 qs174 q311 q2975) rfl yk_X14_misfit ⟨Nat.le_of_ble_eq_true rfl, Nat.le_of_ble_eq_true rfl⟩ trivial ⟨kc87, trivial⟩ (Nat.le_of_ble_eq_true rfl) rfl dX14_tag_114 ?_
        exact wj_X14_tag_117 h rx1 rx2

def f_X14_tag (x1 : Int) (s : vS) : Option (vS) :=
  vl (gI s 87 32) fun y1 =>
  bd (f_X14_take 14 s) fun r7 s4 =>
  gd (gN s4 108 = gN s 108) <|
  gd (inb y1 (gN s4 108)) <|
  stp (sE s4 108 y1 r7) fun s11 =>
  gd (inb y1 (gN s11 109)) <|
  stp (sE s11 109 y1 2) fun s14 =>
  bd (f_X14_eat 110 s14) fun r19 s16 =>
  if r19 = 0 then
    bd (f_X14_eat 43 s16) fun r25 s22 =>
    if r25 = 0 then
      bd (f_X14_eat 95 s22) fun r31 s28 =>
      if r31 = 0 then
        j_X14_tag_78 x1 y1 s28
      else
        gd (inb y1 (gN s28 109)) <|
        stp (sE s28 109 y1 3) fun s35 =>
        j_X14_tag_78 x1 y1 s35
    else
      gd (inb y1 (gN s22 109)) <|
      stp (sE s22 109 y1 1) fun s38 =>
      j_X14_tag_78 x1 y1 s38
  else
    gd (inb y1 (gN s16 109)) <|
    stp (sE s16 109 y1 0) fun s41 =>
    j_X14_tag_78 x1 y1 s41
theorem yk_X14_tag : yOk yX14_tag 1 := ⟨by decide, by decide, by decide +kernel⟩
theorem c_X14_tag {x1 : Int} {s : vS} {out : vS} (h : f_X14_tag x1 s = some out)  (rx1 : rg x1) : VC yX14_tag cX14_tag 4 none 4 98 [vO 87, vI x1] s none out [] := by
  unfold f_X14_tag at h
  refine VC.of RX14 (by decide) rfl (Nat.le_of_ble_eq_true rfl) ?_
  show VW cX14_tag (RX14, none, out, none, 4, 98, 4, []) (P0 []) s 0 [(0, vO 87), (1, vI x1)] []
  refine v_aload_n dX14_tag_0 0 rfl rfl ?_
  refine v_getI (f := 32) cf14 oc87 rfl (by decide) q2402 dX14_tag_1 ?_
  obtain ⟨y1, e2, h⟩ := vl_some h
  rw [← e2]
  have r3 : rg y1 := by rw [e2]; exact gI_rg _ _ _
  refine v_istore_n (L1 := [(2, vI y1), (0, vO 87), (1, vI x1)]) dX14_tag_4 rfl (by decide) rfl ?_
  refine v_aload_n dX14_tag_5 1 rfl rfl ?_
  refine v_getS (f := 33) (t := 108) cf14 oc87 rfl rfl rfl (by decide) q2403 dX14_tag_6 ?_
  refine v_iload_n dX14_tag_9 0 rfl rfl ?_
  refine v_aload_n dX14_tag_10 1 rfl rfl ?_
  refine v_bipush dX14_tag_11 rfl ?_
  obtain ⟨r7, s4, e5, h⟩ := bd_some h
  have k6 := c_X14_take e5 (rgl rfl)
  have r8 : rg r7 := k6.1.2.2
  obtain ⟨g9, h⟩ := gd_some h
  refine v_callV (st := [vI y1, vO 108]) cf14 oc87 k6 (lw_V q2964 q2966 qs172 q311 q2967) rfl yk_X14_take ⟨Nat.le_of_ble_eq_true rfl, Nat.le_of_ble_eq_true rfl⟩ ⟨(kp_arr (by decide) g9), trivial⟩ ⟨kc87, trivial⟩ (Nat.le_of_ble_eq_true rfl) rfl dX14_tag_13 ?_
  obtain ⟨g10, h⟩ := gd_some h
  obtain ⟨s11, e12, h⟩ := stp_some h
  refine v_iast oc108 r3 g10.1 g10.2 dX14_tag_16 ?_
  rw [← e12]
  refine v_aload_n dX14_tag_17 1 rfl rfl ?_
  refine v_getS (f := 34) (t := 109) cf14 oc87 rfl rfl rfl (by decide) q2404 dX14_tag_18 ?_
  refine v_iload_n dX14_tag_21 0 rfl rfl ?_
  refine v_iconst dX14_tag_22 ?_
  obtain ⟨g13, h⟩ := gd_some h
  obtain ⟨s14, e15, h⟩ := stp_some h
  refine v_iast oc109 r3 g13.1 g13.2 dX14_tag_23 ?_
  rw [← e15]
  refine v_aload_n dX14_tag_24 1 rfl rfl ?_
  refine v_bipush dX14_tag_25 rfl ?_
  obtain ⟨r19, s16, e17, h⟩ := bd_some h
  have k18 := c_X14_eat e17 (rgl rfl)
  have r20 : rg r19 := k18.1.2.2
  refine v_callV (st := []) cf14 oc87 k18 (lw_V q2976 q2978 qs175 q311 q2979) rfl yk_X14_eat ⟨Nat.le_of_ble_eq_true rfl, Nat.le_of_ble_eq_true rfl⟩ trivial ⟨kc87, trivial⟩ (Nat.le_of_ble_eq_true rfl) rfl dX14_tag_27 ?_
  refine v_if_eq (tgt := 43) dX14_tag_30 r20 (by decide) (fun c21 => ?_) (fun c21 => ?_)
  · rw [if_pos c21] at h
    refine v_aload_n dX14_tag_43 1 rfl rfl ?_
    refine v_bipush dX14_tag_44 rfl ?_
    obtain ⟨r25, s22, e23, h⟩ := bd_some h
    have k24 := c_X14_eat e23 (rgl rfl)
    have r26 : rg r25 := k24.1.2.2
    refine v_callV (st := []) cf14 oc87 k24 (lw_V q2976 q2978 qs175 q311 q2979) rfl yk_X14_eat ⟨Nat.le_of_ble_eq_true rfl, Nat.le_of_ble_eq_true rfl⟩ trivial ⟨kc87, trivial⟩ (Nat.le_of_ble_eq_true rfl) rfl dX14_tag_46 ?_
    refine v_if_eq (tgt := 62) dX14_tag_49 r26 (by decide) (fun c27 => ?_) (fun c27 => ?_)
    · rw [if_pos c27] at h
      refine v_aload_n dX14_tag_62 1 rfl rfl ?_
      refine v_bipush dX14_tag_63 rfl ?_
      obtain ⟨r31, s28, e29, h⟩ := bd_some h
      have k30 := c_X14_eat e29 (rgl rfl)
      have r32 : rg r31 := k30.1.2.2
      refine v_callV (st := []) cf14 oc87 k30 (lw_V q2976 q2978 qs175 q311 q2979) rfl yk_X14_eat ⟨Nat.le_of_ble_eq_true rfl, Nat.le_of_ble_eq_true rfl⟩ trivial ⟨kc87, trivial⟩ (Nat.le_of_ble_eq_true rfl) rfl dX14_tag_65 ?_
      refine v_if_eq (tgt := 78) dX14_tag_68 r32 (by decide) (fun c33 => ?_) (fun c33 => ?_)
      · rw [if_pos c33] at h
        refine v_sub [1, 2, 0] (L1 := [(0, vO 87), (1, vI x1), (2, vI y1)]) rfl ?_
        exact wj_X14_tag_78 h rx1 r3
      · rw [if_neg c33] at h
        refine v_aload_n dX14_tag_71 1 rfl rfl ?_
        refine v_getS (f := 34) (t := 109) cf14 oc87 rfl rfl rfl (by decide) q2404 dX14_tag_72 ?_
        refine v_iload_n dX14_tag_75 0 rfl rfl ?_
        refine v_iconst dX14_tag_76 ?_
        obtain ⟨g34, h⟩ := gd_some h
        obtain ⟨s35, e36, h⟩ := stp_some h
        refine v_iast oc109 r3 g34.1 g34.2 dX14_tag_77 ?_
        rw [← e36]
        refine v_sub [1, 2, 0] (L1 := [(0, vO 87), (1, vI x1), (2, vI y1)]) rfl ?_
        exact wj_X14_tag_78 h rx1 r3
    · rw [if_neg c27] at h
      refine v_aload_n dX14_tag_52 1 rfl rfl ?_
      refine v_getS (f := 34) (t := 109) cf14 oc87 rfl rfl rfl (by decide) q2404 dX14_tag_53 ?_
      refine v_iload_n dX14_tag_56 0 rfl rfl ?_
      refine v_iconst dX14_tag_57 ?_
      obtain ⟨g37, h⟩ := gd_some h
      obtain ⟨s38, e39, h⟩ := stp_some h
      refine v_iast oc109 r3 g37.1 g37.2 dX14_tag_58 ?_
      rw [← e39]
      refine v_goto (tgt := 78) dX14_tag_59 (by decide) ?_
      refine v_sub [1, 2, 0] (L1 := [(0, vO 87), (1, vI x1), (2, vI y1)]) rfl ?_
      exact wj_X14_tag_78 h rx1 r3
  · rw [if_neg c21] at h
    refine v_aload_n dX14_tag_33 1 rfl rfl ?_
    refine v_getS (f := 34) (t := 109) cf14 oc87 rfl rfl rfl (by decide) q2404 dX14_tag_34 ?_
    refine v_iload_n dX14_tag_37 0 rfl rfl ?_
    refine v_iconst dX14_tag_38 ?_
    obtain ⟨g40, h⟩ := gd_some h
    obtain ⟨s41, e42, h⟩ := stp_some h
    refine v_iast oc109 r3 g40.1 g40.2 dX14_tag_39 ?_
    rw [← e42]
    refine v_goto (tgt := 78) dX14_tag_40 (by decide) ?_
    refine v_sub [1, 2, 0] (L1 := [(0, vO 87), (1, vI x1), (2, vI y1)]) rfl ?_
    exact wj_X14_tag_78 h rx1 r3

def f_X14_simple (x1 : Int) (x2 : Int) (x3 : Int) (s : vS) : Option (Int × vS) :=
  bd (f_X14_eat x2 s) fun r4 s1 =>
  if r4 = 0 then
    some (0, s1)
  else
    gd (inb x1 (gN s1 97)) <|
    stp (sE s1 97 x1 x3) fun s8 =>
    some (1, s8)
theorem yk_X14_simple : yOk yX14_simple 3 := ⟨by decide, by decide, by decide +kernel⟩
theorem c_X14_simple {x1 : Int} {x2 : Int} {x3 : Int} {s : vS} {out : Int × vS} (h : f_X14_simple x1 x2 x3 s = some out)  (rx1 : rg x1) (rx2 : rg x2) (rx3 : rg x3) : VC yX14_simple cX14_simple 4 (some .boolean) 2 42 [vO 87, vI x1, vI x2, vI x3] s (some (vI out.1)) out.2 [] := by
  unfold f_X14_simple at h
  refine VC.of RX14 (by decide) rfl (Nat.le_of_ble_eq_true rfl) ?_
  show VW cX14_simple (RX14, (some (vI out.1)), out.2, (some .boolean), 2, 42, 4, []) (P0 []) s 0 [(0, vO 87), (1, vI x1), (2, vI x2), (3, vI x3)] []
  refine v_aload_n dX14_simple_0 0 rfl rfl ?_
  refine v_iload_n dX14_simple_1 2 rfl rfl ?_
  obtain ⟨r4, s1, e2, h⟩ := bd_some h
  have k3 := c_X14_eat e2 rx2
  have r5 : rg r4 := k3.1.2.2
  refine v_callV (st := []) cf14 oc87 k3 (lw_V q2976 q2978 qs175 q311 q2979) rfl yk_X14_eat ⟨Nat.le_of_ble_eq_true rfl, Nat.le_of_ble_eq_true rfl⟩ trivial ⟨kc87, trivial⟩ (Nat.le_of_ble_eq_true rfl) rfl dX14_simple_2 ?_
  refine v_if_ne (tgt := 10) dX14_simple_5 r5 (by decide) (fun c6 => ?_) (fun c6 => ?_)
  · rw [if_neg c6] at h
    refine v_aload_n dX14_simple_10 0 rfl rfl ?_
    refine v_getS (f := 21) (t := 97) cf14 oc87 rfl rfl rfl (by decide) q2391 dX14_simple_11 ?_
    refine v_iload_n dX14_simple_14 1 rfl rfl ?_
    refine v_iload_n dX14_simple_15 3 rfl rfl ?_
    obtain ⟨g7, h⟩ := gd_some h
    obtain ⟨s8, e9, h⟩ := stp_some h
    refine v_iast oc97 rx1 g7.1 g7.2 dX14_simple_16 ?_
    rw [← e9]
    refine v_iconst dX14_simple_17 ?_
    cases h
    exact v_zret (Or.inr rfl) dX14_simple_18
  · rw [if_pos c6] at h
    refine v_iconst dX14_simple_8 ?_
    cases h
    exact v_zret (Or.inl rfl) dX14_simple_9

def E_X14_itemsOf_19 (rv : Option vA) (σo : vS) (q : vS) : Prop := ∀ (s' : vS), q = s' → VW cX14_itemsOf (RX14, rv, σo, none, 4, 98, 4, []) (P0 []) s' 233 [(0, vO 87)] []
def j_X14_itemsOf_223 (rec : Int → Int → vS → Option (vS)) (x1 : Int) (s : vS) : Option (vS) :=
  bd (f_X14_eat 18 s) fun r4 s1 =>
  rec x1 r4 s1
theorem wj_X14_itemsOf_223 {x1 : Int} {s : vS} {rv : Option vA} {σo : vS} {rec : Int → Int → vS → Option (vS)} {q : vS} (h : j_X14_itemsOf_223 rec x1 s = some q)  (rx1 : rg x1) (hrec : ∀ (y2 : Int) (s : vS) (q : vS), rec x1 y2 s = some q → rg y2 → E_X14_itemsOf_19 rv σo q → VW cX14_itemsOf (RX14, rv, σo, none, 4, 98, 4, []) (P0 []) s 19 [(0, vO 87), (1, vI x1), (2, vI y2)] []) (hE : E_X14_itemsOf_19 rv σo q) : VW cX14_itemsOf (RX14, rv, σo, none, 4, 98, 4, []) (P0 []) s 223 [(0, vO 87), (1, vI x1)] [] := by
  unfold j_X14_itemsOf_223 at h
  refine v_aload_n dX14_itemsOf_223 0 rfl rfl ?_
  refine v_bipush dX14_itemsOf_224 rfl ?_
  obtain ⟨r4, s1, e2, h⟩ := bd_some h
  have k3 := c_X14_eat e2 (rgl rfl)
  have r5 : rg r4 := k3.1.2.2
  refine v_callV (st := []) cf14 oc87 k3 (lw_V q2976 q2978 qs175 q311 q2979) rfl yk_X14_eat ⟨Nat.le_of_ble_eq_true rfl, Nat.le_of_ble_eq_true rfl⟩ trivial ⟨kc87, trivial⟩ (Nat.le_of_ble_eq_true rfl) rfl dX14_itemsOf_226 ?_
  refine v_istore_n (L1 := [(2, vI r4), (0, vO 87), (1, vI x1)]) dX14_itemsOf_229 rfl (by decide) rfl ?_
  refine v_goto (tgt := 19) dX14_itemsOf_230 (by decide) ?_
  refine v_sub [1, 2, 0] (L1 := [(0, vO 87), (1, vI x1), (2, vI r4)]) rfl ?_
  exact hrec r4 s1 _ h r5 hE

def j_X14_itemsOf_196 (rec : Int → Int → vS → Option (vS)) (x1 : Int) (s : vS) : Option (vS) :=
  if (gI s 87 8) = 0 then
    stp (sI s 87 37 (w32 ((gI s 87 37) + 1))) fun s2 =>
    gd (inb x1 (gN s2 103)) <|
    gd (inb x1 (gN s2 103)) <|
    stp (sE s2 103 x1 (w32 ((gE s2 103 x1) + 1))) fun s6 =>
    j_X14_itemsOf_223 rec x1 s6
  else
    j_X14_itemsOf_223 rec x1 s
theorem wj_X14_itemsOf_196 {x1 : Int} {s : vS} {rv : Option vA} {σo : vS} {rec : Int → Int → vS → Option (vS)} {q : vS} (h : j_X14_itemsOf_196 rec x1 s = some q)  (rx1 : rg x1) (hrec : ∀ (y2 : Int) (s : vS) (q : vS), rec x1 y2 s = some q → rg y2 → E_X14_itemsOf_19 rv σo q → VW cX14_itemsOf (RX14, rv, σo, none, 4, 98, 4, []) (P0 []) s 19 [(0, vO 87), (1, vI x1), (2, vI y2)] []) (hE : E_X14_itemsOf_19 rv σo q) : VW cX14_itemsOf (RX14, rv, σo, none, 4, 98, 4, []) (P0 []) s 196 [(0, vO 87), (1, vI x1)] [] := by
  unfold j_X14_itemsOf_196 at h
  refine v_aload_n dX14_itemsOf_196 0 rfl rfl ?_
  refine v_getI (f := 8) cf14 oc87 rfl (by decide) q2378 dX14_itemsOf_197 ?_
  refine v_if_ne (tgt := 223) dX14_itemsOf_200 (gI_rg _ _ _) (by decide) (fun c1 => ?_) (fun c1 => ?_)
  · rw [if_neg c1] at h
    exact wj_X14_itemsOf_223 h rx1 hrec hE
  · rw [if_pos c1] at h
    refine v_aload_n dX14_itemsOf_203 0 rfl rfl ?_
    refine v_dupO dX14_itemsOf_204 ?_
    refine v_getI (f := 37) cf14 oc87 rfl (by decide) q2407 dX14_itemsOf_205 ?_
    refine v_iconst dX14_itemsOf_208 ?_
    refine v_iadd dX14_itemsOf_209 ?_
    obtain ⟨s2, e3, h⟩ := stp_some h
    refine v_putI (f := 37) cf14 oc87 rfl (by decide) q2407 dX14_itemsOf_210 rfl rfl ?_
    rw [← e3]
    refine v_aload_n dX14_itemsOf_213 0 rfl rfl ?_
    refine v_getS (f := 27) (t := 103) cf14 oc87 rfl rfl rfl (by decide) q2397 dX14_itemsOf_214 ?_
    refine v_iload_n dX14_itemsOf_217 1 rfl rfl ?_
    refine v_dup2IO dX14_itemsOf_218 ?_
    obtain ⟨g4, h⟩ := gd_some h
    refine v_iald oc103 rx1 g4.1 g4.2 dX14_itemsOf_219 ?_
    refine v_iconst dX14_itemsOf_220 ?_
    refine v_iadd dX14_itemsOf_221 ?_
    obtain ⟨g5, h⟩ := gd_some h
    obtain ⟨s6, e7, h⟩ := stp_some h
    refine v_iast oc103 rx1 g5.1 g5.2 dX14_itemsOf_222 ?_
    rw [← e7]
    exact wj_X14_itemsOf_223 h rx1 hrec hE

def j_X14_itemsOf_178 (rec : Int → Int → vS → Option (vS)) (x1 : Int) (x3 : Int) (s : vS) : Option (vS) :=
  bd (f_X14_take 3 s) fun r4 s1 =>
  gd (gN s1 113 = gN s 113) <|
  gd (inb x3 (gN s1 113)) <|
  stp (sE s1 113 x3 r4) fun s8 =>
  bd (f_X14_take 17 s8) fun r13 s10 =>
  j_X14_itemsOf_196 rec x1 s10
theorem wj_X14_itemsOf_178 {x1 : Int} {x3 : Int} {s : vS} {rv : Option vA} {σo : vS} {rec : Int → Int → vS → Option (vS)} {q : vS} (h : j_X14_itemsOf_178 rec x1 x3 s = some q)  (rx1 : rg x1) (rx3 : rg x3) (hrec : ∀ (y2 : Int) (s : vS) (q : vS), rec x1 y2 s = some q → rg y2 → E_X14_itemsOf_19 rv σo q → VW cX14_itemsOf (RX14, rv, σo, none, 4, 98, 4, []) (P0 []) s 19 [(0, vO 87), (1, vI x1), (2, vI y2)] []) (hE : E_X14_itemsOf_19 rv σo q) : VW cX14_itemsOf (RX14, rv, σo, none, 4, 98, 4, []) (P0 []) s 178 [(0, vO 87), (1, vI x1), (3, vI x3)] [] := by
  unfold j_X14_itemsOf_178 at h
  refine v_aload_n dX14_itemsOf_178 0 rfl rfl ?_
  refine v_getS (f := 39) (t := 113) cf14 oc87 rfl rfl rfl (by decide) q2409 dX14_itemsOf_179 ?_
  refine v_iload_n dX14_itemsOf_182 2 rfl rfl ?_
  refine v_aload_n dX14_itemsOf_183 0 rfl rfl ?_
  refine v_iconst dX14_itemsOf_184 ?_
  obtain ⟨r4, s1, e2, h⟩ := bd_some h
  have k3 := c_X14_take e2 (rgl rfl)
  have r5 : rg r4 := k3.1.2.2
  obtain ⟨g6, h⟩ := gd_some h
  refine v_callV (st := [vI x3, vO 113]) cf14 oc87 k3 (lw_V q2964 q2966 qs172 q311 q2967) rfl yk_X14_take ⟨Nat.le_of_ble_eq_true rfl, Nat.le_of_ble_eq_true rfl⟩ ⟨(kp_arr (by decide) g6), trivial⟩ ⟨kc87, trivial⟩ (Nat.le_of_ble_eq_true rfl) rfl dX14_itemsOf_185 ?_
  obtain ⟨g7, h⟩ := gd_some h
  obtain ⟨s8, e9, h⟩ := stp_some h
  refine v_iast oc113 rx3 g7.1 g7.2 dX14_itemsOf_188 ?_
  rw [← e9]
  refine v_aload_n dX14_itemsOf_189 0 rfl rfl ?_
  refine v_bipush dX14_itemsOf_190 rfl ?_
  obtain ⟨r13, s10, e11, h⟩ := bd_some h
  have k12 := c_X14_take e11 (rgl rfl)
  have r14 : rg r13 := k12.1.2.2
  refine v_callV (st := []) cf14 oc87 k12 (lw_V q2964 q2966 qs172 q311 q2967) rfl yk_X14_take ⟨Nat.le_of_ble_eq_true rfl, Nat.le_of_ble_eq_true rfl⟩ trivial ⟨kc87, trivial⟩ (Nat.le_of_ble_eq_true rfl) rfl dX14_itemsOf_192 ?_
  refine v_popI dX14_itemsOf_195 ?_
  refine v_sub [0, 1] (L1 := [(0, vO 87), (1, vI x1)]) rfl ?_
  exact wj_X14_itemsOf_196 h rx1 hrec hE

def j_X14_itemsOf_129 (rec : Int → Int → vS → Option (vS)) (x1 : Int) (x3 : Int) (z1 : Int) (z2 : Int) (s : vS) : Option (vS) :=
  gd (inb z1 (gN s 114)) <|
  stp (sE s 114 z1 z2) fun s2 =>
  if (gI s2 87 8) = 0 then
    gd (inb x1 (gN s2 97)) <|
    if (gE s2 97 x1) = 4 then
      bd (f_X14_is 3 s2) fun r10 s7 =>
      if r10 = 0 then
        j_X14_itemsOf_178 rec x1 x3 s7
      else
        bd (f_X14_numberOf (gI s7 87 19) 0 s7) fun r16 s13 =>
        bd (f_X14_asInt r16 s13) fun r21 s18 =>
        if r21 ≤ 63 then
          j_X14_itemsOf_178 rec x1 x3 s18
        else
          bdv (f_X14_misfit 1 s18) fun s24 =>
          j_X14_itemsOf_178 rec x1 x3 s24
    else
      j_X14_itemsOf_178 rec x1 x3 s2
  else
    j_X14_itemsOf_178 rec x1 x3 s2
theorem wj_X14_itemsOf_129 {x1 : Int} {x3 : Int} {z1 : Int} {z2 : Int} {s : vS} {rv : Option vA} {σo : vS} {rec : Int → Int → vS → Option (vS)} {q : vS} (h : j_X14_itemsOf_129 rec x1 x3 z1 z2 s = some q)  (rx1 : rg x1) (rx3 : rg x3) (rz1 : rg z1) (rz2 : rg z2) (hrec : ∀ (y2 : Int) (s : vS) (q : vS), rec x1 y2 s = some q → rg y2 → E_X14_itemsOf_19 rv σo q → VW cX14_itemsOf (RX14, rv, σo, none, 4, 98, 4, []) (P0 []) s 19 [(0, vO 87), (1, vI x1), (2, vI y2)] []) (hE : E_X14_itemsOf_19 rv σo q) : VW cX14_itemsOf (RX14, rv, σo, none, 4, 98, 4, []) (P0 []) s 129 [(0, vO 87), (1, vI x1), (3, vI x3)] [vI z2, vI z1, vO 114] := by
  unfold j_X14_itemsOf_129 at h
  obtain ⟨g1, h⟩ := gd_some h
  obtain ⟨s2, e3, h⟩ := stp_some h
  refine v_zast oc114 rz1 g1.1 g1.2 dX14_itemsOf_129 ?_
  rw [← e3]
  refine v_aload_n dX14_itemsOf_130 0 rfl rfl ?_
  refine v_getI (f := 8) cf14 oc87 rfl (by decide) q2378 dX14_itemsOf_131 ?_
  refine v_if_ne (tgt := 178) dX14_itemsOf_134 (gI_rg _ _ _) (by decide) (fun c4 => ?_) (fun c4 => ?_)
  · rw [if_neg c4] at h
    exact wj_X14_itemsOf_178 h rx1 rx3 hrec hE
  · rw [if_pos c4] at h
    refine v_aload_n dX14_itemsOf_137 0 rfl rfl ?_
    refine v_getS (f := 21) (t := 97) cf14 oc87 rfl rfl rfl (by decide) q2391 dX14_itemsOf_138 ?_
    refine v_iload_n dX14_itemsOf_141 1 rfl rfl ?_
    obtain ⟨g5, h⟩ := gd_some h
    refine v_iald oc97 rx1 g5.1 g5.2 dX14_itemsOf_142 ?_
    refine v_iconst dX14_itemsOf_143 ?_
    refine v_icmp_ne (tgt := 178) dX14_itemsOf_144 (gE_rg _ _ _) (rgl rfl) (by decide) (fun c6 => ?_) (fun c6 => ?_)
    · rw [if_neg c6] at h
      exact wj_X14_itemsOf_178 h rx1 rx3 hrec hE
    · rw [if_pos c6] at h
      refine v_aload_n dX14_itemsOf_147 0 rfl rfl ?_
      refine v_iconst dX14_itemsOf_148 ?_
      obtain ⟨r10, s7, e8, h⟩ := bd_some h
      have k9 := c_X14_is e8 (rgl rfl)
      have r11 : rg r10 := k9.1.2.2
      refine v_callV (st := []) cf14 oc87 k9 (lw_V q2968 q2970 qs173 q311 q2971) rfl yk_X14_is ⟨Nat.le_of_ble_eq_true rfl, Nat.le_of_ble_eq_true rfl⟩ trivial ⟨kc87, trivial⟩ (Nat.le_of_ble_eq_true rfl) rfl dX14_itemsOf_149 ?_
      refine v_if_eq (tgt := 178) dX14_itemsOf_152 r11 (by decide) (fun c12 => ?_) (fun c12 => ?_)
      · rw [if_pos c12] at h
        exact wj_X14_itemsOf_178 h rx1 rx3 hrec hE
      · rw [if_neg c12] at h
        refine v_aload_n dX14_itemsOf_155 0 rfl rfl ?_
        refine v_aload_n dX14_itemsOf_156 0 rfl rfl ?_
        refine v_aload_n dX14_itemsOf_157 0 rfl rfl ?_
        refine v_getI (f := 19) cf14 oc87 rfl (by decide) q2389 dX14_itemsOf_158 ?_
        refine v_iconst dX14_itemsOf_161 ?_
        obtain ⟨r16, s13, e14, h⟩ := bd_some h
        have k15 := c_X14_numberOf e14 (gI_rg _ _ _) (rgl rfl)
        have r17 : rg r16 := k15.1.2.2
        refine v_callV (st := [vO 87]) cf14 oc87 k15 (lw_V q2996 q2998 qs180 q311 q2999) rfl yk_X14_numberOf ⟨Nat.le_of_ble_eq_true rfl, Nat.le_of_ble_eq_true rfl⟩ ⟨kc87, trivial⟩ ⟨kc87, trivial⟩ (Nat.le_of_ble_eq_true rfl) rfl dX14_itemsOf_162 ?_
        obtain ⟨r21, s18, e19, h⟩ := bd_some h
        have k20 := c_X14_asInt e19 r17
        have r22 : rg r21 := k20.1.2.2
        refine v_callV (st := []) cf14 oc87 k20 (lw_V q3019 q3021 qs185 q311 q3022) rfl yk_X14_asInt ⟨Nat.le_of_ble_eq_true rfl, Nat.le_of_ble_eq_true rfl⟩ trivial ⟨kc87, trivial⟩ (Nat.le_of_ble_eq_true rfl) rfl dX14_itemsOf_165 ?_
        refine v_bipush dX14_itemsOf_168 rfl ?_
        refine v_icmp_le (tgt := 178) dX14_itemsOf_170 r22 (rgl rfl) (by decide) (fun c23 => ?_) (fun c23 => ?_)
        · rw [if_pos c23] at h
          exact wj_X14_itemsOf_178 h rx1 rx3 hrec hE
        · rw [if_neg c23] at h
          refine v_aload_n dX14_itemsOf_173 0 rfl rfl ?_
          refine v_iconst dX14_itemsOf_174 ?_
          obtain ⟨s24, e25, h⟩ := bdv_some h
          have k26 := c_X14_misfit e25 (rgl rfl)
          refine v_callV (st := []) cf14 oc87 k26 (lw_V q2972 q2974 qs174 q311 q2975) rfl yk_X14_misfit ⟨Nat.le_of_ble_eq_true rfl, Nat.le_of_ble_eq_true rfl⟩ trivial ⟨kc87, trivial⟩ (Nat.le_of_ble_eq_true rfl) rfl dX14_itemsOf_175 ?_
          exact wj_X14_itemsOf_178 h rx1 rx3 hrec hE

def j_X14_itemsOf_93 (rec : Int → Int → vS → Option (vS)) (x1 : Int) (x3 : Int) (s : vS) : Option (vS) :=
  bd (f_X14_take 16 s) fun r4 s1 =>
  gd (inb x1 (gN s1 97)) <|
  if (gE s1 97 x1) = 4 then
    j_X14_itemsOf_129 rec x1 x3 x3 0 s1
  else
    bd (f_X14_eat 19 s1) fun r11 s8 =>
    gd (gN s8 114 = gN s1 114) <|
    if r11 = 0 then
      j_X14_itemsOf_129 rec x1 x3 x3 0 s8
    else
      j_X14_itemsOf_129 rec x1 x3 x3 1 s8
theorem wj_X14_itemsOf_93 {x1 : Int} {x3 : Int} {s : vS} {rv : Option vA} {σo : vS} {rec : Int → Int → vS → Option (vS)} {q : vS} (h : j_X14_itemsOf_93 rec x1 x3 s = some q)  (rx1 : rg x1) (rx3 : rg x3) (hrec : ∀ (y2 : Int) (s : vS) (q : vS), rec x1 y2 s = some q → rg y2 → E_X14_itemsOf_19 rv σo q → VW cX14_itemsOf (RX14, rv, σo, none, 4, 98, 4, []) (P0 []) s 19 [(0, vO 87), (1, vI x1), (2, vI y2)] []) (hE : E_X14_itemsOf_19 rv σo q) : VW cX14_itemsOf (RX14, rv, σo, none, 4, 98, 4, []) (P0 []) s 93 [(0, vO 87), (1, vI x1), (3, vI x3)] [] := by
  unfold j_X14_itemsOf_93 at h
  refine v_aload_n dX14_itemsOf_93 0 rfl rfl ?_
  refine v_bipush dX14_itemsOf_94 rfl ?_
  obtain ⟨r4, s1, e2, h⟩ := bd_some h
  have k3 := c_X14_take e2 (rgl rfl)
  have r5 : rg r4 := k3.1.2.2
  refine v_callV (st := []) cf14 oc87 k3 (lw_V q2964 q2966 qs172 q311 q2967) rfl yk_X14_take ⟨Nat.le_of_ble_eq_true rfl, Nat.le_of_ble_eq_true rfl⟩ trivial ⟨kc87, trivial⟩ (Nat.le_of_ble_eq_true rfl) rfl dX14_itemsOf_96 ?_
  refine v_popI dX14_itemsOf_99 ?_
  refine v_aload_n dX14_itemsOf_100 0 rfl rfl ?_
  refine v_getS (f := 40) (t := 114) cf14 oc87 rfl rfl rfl (by decide) q2410 dX14_itemsOf_101 ?_
  refine v_iload_n dX14_itemsOf_104 2 rfl rfl ?_
  refine v_aload_n dX14_itemsOf_105 0 rfl rfl ?_
  refine v_getS (f := 21) (t := 97) cf14 oc87 rfl rfl rfl (by decide) q2391 dX14_itemsOf_106 ?_
  refine v_iload_n dX14_itemsOf_109 1 rfl rfl ?_
  obtain ⟨g6, h⟩ := gd_some h
  refine v_iald oc97 rx1 g6.1 g6.2 dX14_itemsOf_110 ?_
  refine v_iconst dX14_itemsOf_111 ?_
  refine v_icmp_eq (tgt := 128) dX14_itemsOf_112 (gE_rg _ _ _) (rgl rfl) (by decide) (fun c7 => ?_) (fun c7 => ?_)
  · rw [if_pos c7] at h
    refine v_iconst dX14_itemsOf_128 ?_
    exact wj_X14_itemsOf_129 h rx1 rx3 rx3 (rgl rfl) hrec hE
  · rw [if_neg c7] at h
    refine v_aload_n dX14_itemsOf_115 0 rfl rfl ?_
    refine v_bipush dX14_itemsOf_116 rfl ?_
    obtain ⟨r11, s8, e9, h⟩ := bd_some h
    have k10 := c_X14_eat e9 (rgl rfl)
    have r12 : rg r11 := k10.1.2.2
    obtain ⟨g13, h⟩ := gd_some h
    refine v_callV (st := [vI x3, vO 114]) cf14 oc87 k10 (lw_V q2976 q2978 qs175 q311 q2979) rfl yk_X14_eat ⟨Nat.le_of_ble_eq_true rfl, Nat.le_of_ble_eq_true rfl⟩ ⟨(kp_arr (by decide) g13), trivial⟩ ⟨kc87, trivial⟩ (Nat.le_of_ble_eq_true rfl) rfl dX14_itemsOf_118 ?_
    refine v_if_eq (tgt := 128) dX14_itemsOf_121 r12 (by decide) (fun c14 => ?_) (fun c14 => ?_)
    · rw [if_pos c14] at h
      refine v_iconst dX14_itemsOf_128 ?_
      exact wj_X14_itemsOf_129 h rx1 rx3 rx3 (rgl rfl) hrec hE
    · rw [if_neg c14] at h
      refine v_iconst dX14_itemsOf_124 ?_
      refine v_goto (tgt := 129) dX14_itemsOf_125 (by decide) ?_
      exact wj_X14_itemsOf_129 h rx1 rx3 rx3 (rgl rfl) hrec hE

def l_X14_itemsOf_19 : Nat → Int → Int → vS → Option (vS)
  | 0, _, _, _ => none
  | n + 1, x1, x2, s =>
    if (gI s 87 8) = 0 then
      if x2 = 0 then
        some s
      else
        vl (gI s 87 37) fun y3 =>
        bd (f_X14_take 2 s) fun r9 s6 =>
        gd (gN s6 112 = gN s 112) <|
        gd (inb y3 (gN s6 112)) <|
        stp (sE s6 112 y3 r9) fun s13 =>
        gd (inb y3 (gN s13 113)) <|
        stp (sE s13 113 y3 (-1)) fun s16 =>
        gd (inb y3 (gN s16 114)) <|
        stp (sE s16 114 y3 0) fun s19 =>
        gd (inb y3 (gN s19 115)) <|
        stp (sE s19 115 y3 (-1)) fun s22 =>
        if (gI s22 87 8) = 0 then
          gd (inb x1 (gN s22 97)) <|
          if (gE s22 97 x1) = 3 then
            bd (f_X14_is 16 s22) fun r30 s27 =>
            if r30 = 0 then
              j_X14_itemsOf_196 (l_X14_itemsOf_19 n) x1 s27
            else
              j_X14_itemsOf_93 (l_X14_itemsOf_19 n) x1 y3 s27
          else
            j_X14_itemsOf_93 (l_X14_itemsOf_19 n) x1 y3 s22
        else
          j_X14_itemsOf_196 (l_X14_itemsOf_19 n) x1 s22
    else
      some s
theorem wl_X14_itemsOf_19 {x1 : Int} {rv : Option vA} {σo : vS}  (rx1 : rg x1) : ∀ (n : Nat) (x2 : Int) (s : vS) (q : vS), l_X14_itemsOf_19 n x1 x2 s = some q → rg x2 → E_X14_itemsOf_19 rv σo q → VW cX14_itemsOf (RX14, rv, σo, none, 4, 98, 4, []) (P0 []) s 19 [(0, vO 87), (1, vI x1), (2, vI x2)] [] := by
  intro n
  induction n with
  | zero => intro x2 s q h; cases h
  | succ n ih =>
    intro x2 s q h rx2 hE
    unfold l_X14_itemsOf_19 at h
    refine v_aload_n dX14_itemsOf_19 0 rfl rfl ?_
    refine v_getI (f := 8) cf14 oc87 rfl (by decide) q2378 dX14_itemsOf_20 ?_
    refine v_if_ne (tgt := 233) dX14_itemsOf_23 (gI_rg _ _ _) (by decide) (fun c1 => ?_) (fun c1 => ?_)
    · rw [if_neg c1] at h
      cases h
      refine v_sub [0] (L1 := [(0, vO 87)]) rfl ?_
      exact hE _ rfl 
    · rw [if_pos c1] at h
      refine v_iload_n dX14_itemsOf_26 2 rfl rfl ?_
      refine v_if_eq (tgt := 233) dX14_itemsOf_27 rx2 (by decide) (fun c2 => ?_) (fun c2 => ?_)
      · rw [if_pos c2] at h
        cases h
        refine v_sub [0] (L1 := [(0, vO 87)]) rfl ?_
        exact hE _ rfl 
      · rw [if_neg c2] at h
        refine v_aload_n dX14_itemsOf_30 0 rfl rfl ?_
        refine v_getI (f := 37) cf14 oc87 rfl (by decide) q2407 dX14_itemsOf_31 ?_
        obtain ⟨y3, e4, h⟩ := vl_some h
        rw [← e4]
        have r5 : rg y3 := by rw [e4]; exact gI_rg _ _ _
        refine v_istore_n (L1 := [(3, vI y3), (0, vO 87), (1, vI x1), (2, vI x2)]) dX14_itemsOf_34 rfl (by decide) rfl ?_
        refine v_aload_n dX14_itemsOf_35 1 rfl rfl ?_
        refine v_getS (f := 38) (t := 112) cf14 oc87 rfl rfl rfl (by decide) q2408 dX14_itemsOf_36 ?_
        refine v_iload_n dX14_itemsOf_39 0 rfl rfl ?_
        refine v_aload_n dX14_itemsOf_40 1 rfl rfl ?_
        refine v_iconst dX14_itemsOf_41 ?_
        obtain ⟨r9, s6, e7, h⟩ := bd_some h
        have k8 := c_X14_take e7 (rgl rfl)
        have r10 : rg r9 := k8.1.2.2
        obtain ⟨g11, h⟩ := gd_some h
        refine v_callV (st := [vI y3, vO 112]) cf14 oc87 k8 (lw_V q2964 q2966 qs172 q311 q2967) rfl yk_X14_take ⟨Nat.le_of_ble_eq_true rfl, Nat.le_of_ble_eq_true rfl⟩ ⟨(kp_arr (by decide) g11), trivial⟩ ⟨kc87, trivial⟩ (Nat.le_of_ble_eq_true rfl) rfl dX14_itemsOf_42 ?_
        obtain ⟨g12, h⟩ := gd_some h
        obtain ⟨s13, e14, h⟩ := stp_some h
        refine v_iast oc112 r5 g12.1 g12.2 dX14_itemsOf_45 ?_
        rw [← e14]
        refine v_aload_n dX14_itemsOf_46 1 rfl rfl ?_
        refine v_getS (f := 39) (t := 113) cf14 oc87 rfl rfl rfl (by decide) q2409 dX14_itemsOf_47 ?_
        refine v_iload_n dX14_itemsOf_50 0 rfl rfl ?_
        refine v_iconst dX14_itemsOf_51 ?_
        obtain ⟨g15, h⟩ := gd_some h
        obtain ⟨s16, e17, h⟩ := stp_some h
        refine v_iast oc113 r5 g15.1 g15.2 dX14_itemsOf_52 ?_
        rw [← e17]
        refine v_aload_n dX14_itemsOf_53 1 rfl rfl ?_
        refine v_getS (f := 40) (t := 114) cf14 oc87 rfl rfl rfl (by decide) q2410 dX14_itemsOf_54 ?_
        refine v_iload_n dX14_itemsOf_57 0 rfl rfl ?_
        refine v_iconst dX14_itemsOf_58 ?_
        obtain ⟨g18, h⟩ := gd_some h
        obtain ⟨s19, e20, h⟩ := stp_some h
        refine v_zast oc114 r5 g18.1 g18.2 dX14_itemsOf_59 ?_
        rw [← e20]
        refine v_aload_n dX14_itemsOf_60 1 rfl rfl ?_
        refine v_getS (f := 41) (t := 115) cf14 oc87 rfl rfl rfl (by decide) q2411 dX14_itemsOf_61 ?_
        refine v_iload_n dX14_itemsOf_64 0 rfl rfl ?_
        refine v_iconst dX14_itemsOf_65 ?_
        obtain ⟨g21, h⟩ := gd_some h
        obtain ⟨s22, e23, h⟩ := stp_some h
        refine v_iast oc115 r5 g21.1 g21.2 dX14_itemsOf_66 ?_
        rw [← e23]
        refine v_aload_n dX14_itemsOf_67 1 rfl rfl ?_
        refine v_getI (f := 8) cf14 oc87 rfl (by decide) q2378 dX14_itemsOf_68 ?_
        refine v_if_ne (tgt := 196) dX14_itemsOf_71 (gI_rg _ _ _) (by decide) (fun c24 => ?_) (fun c24 => ?_)
        · rw [if_neg c24] at h
          refine v_sub [1, 2] (L1 := [(0, vO 87), (1, vI x1)]) rfl ?_
          exact wj_X14_itemsOf_196 h rx1 ih hE
        · rw [if_pos c24] at h
          refine v_aload_n dX14_itemsOf_74 1 rfl rfl ?_
          refine v_getS (f := 21) (t := 97) cf14 oc87 rfl rfl rfl (by decide) q2391 dX14_itemsOf_75 ?_
          refine v_iload_n dX14_itemsOf_78 2 rfl rfl ?_
          obtain ⟨g25, h⟩ := gd_some h
          refine v_iald oc97 rx1 g25.1 g25.2 dX14_itemsOf_79 ?_
          refine v_iconst dX14_itemsOf_80 ?_
          refine v_icmp_ne (tgt := 93) dX14_itemsOf_81 (gE_rg _ _ _) (rgl rfl) (by decide) (fun c26 => ?_) (fun c26 => ?_)
          · rw [if_neg c26] at h
            refine v_sub [1, 2, 0] (L1 := [(0, vO 87), (1, vI x1), (3, vI y3)]) rfl ?_
            exact wj_X14_itemsOf_93 h rx1 r5 ih hE
          · rw [if_pos c26] at h
            refine v_aload_n dX14_itemsOf_84 1 rfl rfl ?_
            refine v_bipush dX14_itemsOf_85 rfl ?_
            obtain ⟨r30, s27, e28, h⟩ := bd_some h
            have k29 := c_X14_is e28 (rgl rfl)
            have r31 : rg r30 := k29.1.2.2
            refine v_callV (st := []) cf14 oc87 k29 (lw_V q2968 q2970 qs173 q311 q2971) rfl yk_X14_is ⟨Nat.le_of_ble_eq_true rfl, Nat.le_of_ble_eq_true rfl⟩ trivial ⟨kc87, trivial⟩ (Nat.le_of_ble_eq_true rfl) rfl dX14_itemsOf_87 ?_
            refine v_if_eq (tgt := 196) dX14_itemsOf_90 r31 (by decide) (fun c32 => ?_) (fun c32 => ?_)
            · rw [if_pos c32] at h
              refine v_sub [1, 2] (L1 := [(0, vO 87), (1, vI x1)]) rfl ?_
              exact wj_X14_itemsOf_196 h rx1 ih hE
            · rw [if_neg c32] at h
              refine v_sub [1, 2, 0] (L1 := [(0, vO 87), (1, vI x1), (3, vI y3)]) rfl ?_
              exact wj_X14_itemsOf_93 h rx1 r5 ih hE

def j_X14_itemsOf_233 (s : vS) : Option (vS) :=
  bd (f_X14_take 13 s) fun r4 s1 =>
  some s1
theorem wj_X14_itemsOf_233 {s : vS} {out : vS} (h : j_X14_itemsOf_233 s = some out)  : VW cX14_itemsOf (RX14, none, out, none, 4, 98, 4, []) (P0 []) s 233 [(0, vO 87)] [] := by
  unfold j_X14_itemsOf_233 at h
  refine v_aload_n dX14_itemsOf_233 0 rfl rfl ?_
  refine v_bipush dX14_itemsOf_234 rfl ?_
  obtain ⟨r4, s1, e2, h⟩ := bd_some h
  have k3 := c_X14_take e2 (rgl rfl)
  have r5 : rg r4 := k3.1.2.2
  refine v_callV (st := []) cf14 oc87 k3 (lw_V q2964 q2966 qs172 q311 q2967) rfl yk_X14_take ⟨Nat.le_of_ble_eq_true rfl, Nat.le_of_ble_eq_true rfl⟩ trivial ⟨kc87, trivial⟩ (Nat.le_of_ble_eq_true rfl) rfl dX14_itemsOf_236 ?_
  refine v_popI dX14_itemsOf_239 ?_
  cases h
  exact v_vret dX14_itemsOf_240

def f_X14_itemsOf (x1 : Int) (s : vS) : Option (vS) :=
  bd (f_X14_take 12 s) fun r4 s1 =>
  gd (inb x1 (gN s1 102)) <|
  stp (sE s1 102 x1 (gI s1 87 37)) fun s7 =>
  lq_0 (l_X14_itemsOf_19 FU x1 1 s7) fun s9 =>
  j_X14_itemsOf_233 s9
theorem yk_X14_itemsOf : yOk yX14_itemsOf 1 := ⟨by decide, by decide, by decide +kernel⟩
theorem c_X14_itemsOf {x1 : Int} {s : vS} {out : vS} (h : f_X14_itemsOf x1 s = some out)  (rx1 : rg x1) : VC yX14_itemsOf cX14_itemsOf 4 none 4 98 [vO 87, vI x1] s none out [] := by
  unfold f_X14_itemsOf at h
  refine VC.of RX14 (by decide) rfl (Nat.le_of_ble_eq_true rfl) ?_
  show VW cX14_itemsOf (RX14, none, out, none, 4, 98, 4, []) (P0 []) s 0 [(0, vO 87), (1, vI x1)] []
  refine v_aload_n dX14_itemsOf_0 0 rfl rfl ?_
  refine v_bipush dX14_itemsOf_1 rfl ?_
  obtain ⟨r4, s1, e2, h⟩ := bd_some h
  have k3 := c_X14_take e2 (rgl rfl)
  have r5 : rg r4 := k3.1.2.2
  refine v_callV (st := []) cf14 oc87 k3 (lw_V q2964 q2966 qs172 q311 q2967) rfl yk_X14_take ⟨Nat.le_of_ble_eq_true rfl, Nat.le_of_ble_eq_true rfl⟩ trivial ⟨kc87, trivial⟩ (Nat.le_of_ble_eq_true rfl) rfl dX14_itemsOf_3 ?_
  refine v_popI dX14_itemsOf_6 ?_
  refine v_aload_n dX14_itemsOf_7 0 rfl rfl ?_
  refine v_getS (f := 26) (t := 102) cf14 oc87 rfl rfl rfl (by decide) q2396 dX14_itemsOf_8 ?_
  refine v_iload_n dX14_itemsOf_11 1 rfl rfl ?_
  refine v_aload_n dX14_itemsOf_12 0 rfl rfl ?_
  refine v_getI (f := 37) cf14 oc87 rfl (by decide) q2407 dX14_itemsOf_13 ?_
  obtain ⟨g6, h⟩ := gd_some h
  obtain ⟨s7, e8, h⟩ := stp_some h
  refine v_iast oc102 rx1 g6.1 g6.2 dX14_itemsOf_16 ?_
  rw [← e8]
  refine v_iconst dX14_itemsOf_17 ?_
  refine v_istore_n (L1 := [(2, vI 1), (0, vO 87), (1, vI x1)]) dX14_itemsOf_18 rfl (by decide) rfl ?_
  refine v_sub [1, 2, 0] (L1 := [(0, vO 87), (1, vI x1), (2, vI 1)]) rfl ?_
  obtain ⟨s9, e10, h⟩ := lq_0_some h
  refine wl_X14_itemsOf_19 rx1 FU 1 s7 _ e10 (rgl rfl) ?_
  unfold E_X14_itemsOf_19
  intro s9' z_
  cases z_
  exact wj_X14_itemsOf_233 h 

def j_X14_component_106 (x3 : Int) (s : vS) : Option (vS) :=
  gd (inb (w32 ((gI s 87 79) - 1)) (gN s 146)) <|
  stp (sE s 146 (w32 ((gI s 87 79) - 1)) x3) fun s2 =>
  stp (sI s2 87 83 1) fun s4 =>
  some s4
theorem wj_X14_component_106 {x3 : Int} {s : vS} {out : vS} (h : j_X14_component_106 x3 s = some out)  (rx3 : rg x3) : VW cX14_component (RX14, none, out, none, 3, 67, 4, []) (P0 []) s 106 [(0, vO 87), (3, vI x3)] [] := by
  unfold j_X14_component_106 at h
  refine v_aload_n dX14_component_106 0 rfl rfl ?_
  refine v_getS (f := 81) (t := 146) cf14 oc87 rfl rfl rfl (by decide) q2451 dX14_component_107 ?_
  refine v_aload_n dX14_component_110 0 rfl rfl ?_
  refine v_getI (f := 79) cf14 oc87 rfl (by decide) q2449 dX14_component_111 ?_
  refine v_iconst dX14_component_114 ?_
  refine v_isub dX14_component_115 ?_
  refine v_iload_n dX14_component_116 1 rfl rfl ?_
  obtain ⟨g1, h⟩ := gd_some h
  obtain ⟨s2, e3, h⟩ := stp_some h
  refine v_iast oc146 (w32_rg _) g1.1 g1.2 dX14_component_117 ?_
  rw [← e3]
  refine v_aload_n dX14_component_118 0 rfl rfl ?_
  refine v_iconst dX14_component_119 ?_
  obtain ⟨s4, e5, h⟩ := stp_some h
  refine v_putZ (f := 83) cf14 oc87 rfl (by decide) q2453 dX14_component_120 rfl rfl (Or.inr rfl) ?_
  rw [← e5]
  cases h
  exact v_vret dX14_component_123

def f_X14_component (x1 : Int) (x2 : Int) (s : vS) : Option (vS) :=
  vl (gI s 87 42) fun y1 =>
  bd (f_X14_take 2 s) fun r7 s4 =>
  gd (gN s4 116 = gN s 116) <|
  gd (inb y1 (gN s4 116)) <|
  stp (sE s4 116 y1 r7) fun s11 =>
  gd (inb y1 (gN s11 118)) <|
  stp (sE s11 118 y1 0) fun s14 =>
  gd (inb y1 (gN s14 119)) <|
  stp (sE s14 119 y1 (-1)) fun s17 =>
  gd (inb y1 (gN s17 120)) <|
  stp (sE s17 120 y1 (-1)) fun s20 =>
  if (gI s20 87 8) ≤ 0 then
    stp (sI s20 87 42 (w32 ((gI s20 87 42) + 1))) fun s23 =>
    gd (inb x1 (gN s23 105)) <|
    gd (inb x1 (gN s23 105)) <|
    stp (sE s23 105 x1 (w32 ((gE s23 105 x1) + 1))) fun s27 =>
    if 0 ≤ x2 then
      gd (inb x2 (gN s27 120)) <|
      stp (sE s27 120 x2 y1) fun s31 =>
      j_X14_component_106 y1 s31
    else
      gd (inb x1 (gN s27 104)) <|
      stp (sE s27 104 x1 y1) fun s34 =>
      gd (inb (gI s34 87 79) (gN s34 145)) <|
      stp (sE s34 145 (gI s34 87 79) x1) fun s37 =>
      stp (sI s37 87 79 (w32 ((gI s37 87 79) + 1))) fun s39 =>
      j_X14_component_106 y1 s39
  else
    some s20
theorem yk_X14_component : yOk yX14_component 2 := ⟨by decide, by decide, by decide +kernel⟩
theorem c_X14_component {x1 : Int} {x2 : Int} {s : vS} {out : vS} (h : f_X14_component x1 x2 s = some out)  (rx1 : rg x1) (rx2 : rg x2) : VC yX14_component cX14_component 4 none 3 67 [vO 87, vI x1, vI x2] s none out [] := by
  unfold f_X14_component at h
  refine VC.of RX14 (by decide) rfl (Nat.le_of_ble_eq_true rfl) ?_
  show VW cX14_component (RX14, none, out, none, 3, 67, 4, []) (P0 []) s 0 [(0, vO 87), (1, vI x1), (2, vI x2)] []
  refine v_aload_n dX14_component_0 0 rfl rfl ?_
  refine v_getI (f := 42) cf14 oc87 rfl (by decide) q2412 dX14_component_1 ?_
  obtain ⟨y1, e2, h⟩ := vl_some h
  rw [← e2]
  have r3 : rg y1 := by rw [e2]; exact gI_rg _ _ _
  refine v_istore_n (L1 := [(3, vI y1), (0, vO 87), (1, vI x1), (2, vI x2)]) dX14_component_4 rfl (by decide) rfl ?_
  refine v_aload_n dX14_component_5 1 rfl rfl ?_
  refine v_getS (f := 43) (t := 116) cf14 oc87 rfl rfl rfl (by decide) q2413 dX14_component_6 ?_
  refine v_iload_n dX14_component_9 0 rfl rfl ?_
  refine v_aload_n dX14_component_10 1 rfl rfl ?_
  refine v_iconst dX14_component_11 ?_
  obtain ⟨r7, s4, e5, h⟩ := bd_some h
  have k6 := c_X14_take e5 (rgl rfl)
  have r8 : rg r7 := k6.1.2.2
  obtain ⟨g9, h⟩ := gd_some h
  refine v_callV (st := [vI y1, vO 116]) cf14 oc87 k6 (lw_V q2964 q2966 qs172 q311 q2967) rfl yk_X14_take ⟨Nat.le_of_ble_eq_true rfl, Nat.le_of_ble_eq_true rfl⟩ ⟨(kp_arr (by decide) g9), trivial⟩ ⟨kc87, trivial⟩ (Nat.le_of_ble_eq_true rfl) rfl dX14_component_12 ?_
  obtain ⟨g10, h⟩ := gd_some h
  obtain ⟨s11, e12, h⟩ := stp_some h
  refine v_iast oc116 r3 g10.1 g10.2 dX14_component_15 ?_
  rw [← e12]
  refine v_aload_n dX14_component_16 1 rfl rfl ?_
  refine v_getS (f := 45) (t := 118) cf14 oc87 rfl rfl rfl (by decide) q2415 dX14_component_17 ?_
  refine v_iload_n dX14_component_20 0 rfl rfl ?_
  refine v_iconst dX14_component_21 ?_
  obtain ⟨g13, h⟩ := gd_some h
  obtain ⟨s14, e15, h⟩ := stp_some h
  refine v_iast oc118 r3 g13.1 g13.2 dX14_component_22 ?_
  rw [← e15]
  refine v_aload_n dX14_component_23 1 rfl rfl ?_
  refine v_getS (f := 46) (t := 119) cf14 oc87 rfl rfl rfl (by decide) q2416 dX14_component_24 ?_
  refine v_iload_n dX14_component_27 0 rfl rfl ?_
  refine v_iconst dX14_component_28 ?_
  obtain ⟨g16, h⟩ := gd_some h
  obtain ⟨s17, e18, h⟩ := stp_some h
  refine v_iast oc119 r3 g16.1 g16.2 dX14_component_29 ?_
  rw [← e18]
  refine v_aload_n dX14_component_30 1 rfl rfl ?_
  refine v_getS (f := 47) (t := 120) cf14 oc87 rfl rfl rfl (by decide) q2417 dX14_component_31 ?_
  refine v_iload_n dX14_component_34 0 rfl rfl ?_
  refine v_iconst dX14_component_35 ?_
  obtain ⟨g19, h⟩ := gd_some h
  obtain ⟨s20, e21, h⟩ := stp_some h
  refine v_iast oc120 r3 g19.1 g19.2 dX14_component_36 ?_
  rw [← e21]
  refine v_aload_n dX14_component_37 1 rfl rfl ?_
  refine v_getI (f := 8) cf14 oc87 rfl (by decide) q2378 dX14_component_38 ?_
  refine v_if_le (tgt := 45) dX14_component_41 (gI_rg _ _ _) (by decide) (fun c22 => ?_) (fun c22 => ?_)
  · rw [if_pos c22] at h
    refine v_aload_n dX14_component_45 1 rfl rfl ?_
    refine v_dupO dX14_component_46 ?_
    refine v_getI (f := 42) cf14 oc87 rfl (by decide) q2412 dX14_component_47 ?_
    refine v_iconst dX14_component_50 ?_
    refine v_iadd dX14_component_51 ?_
    obtain ⟨s23, e24, h⟩ := stp_some h
    refine v_putI (f := 42) cf14 oc87 rfl (by decide) q2412 dX14_component_52 rfl rfl ?_
    rw [← e24]
    refine v_aload_n dX14_component_55 1 rfl rfl ?_
    refine v_getS (f := 29) (t := 105) cf14 oc87 rfl rfl rfl (by decide) q2399 dX14_component_56 ?_
    refine v_iload_n dX14_component_59 2 rfl rfl ?_
    refine v_dup2IO dX14_component_60 ?_
    obtain ⟨g25, h⟩ := gd_some h
    refine v_iald oc105 rx1 g25.1 g25.2 dX14_component_61 ?_
    refine v_iconst dX14_component_62 ?_
    refine v_iadd dX14_component_63 ?_
    obtain ⟨g26, h⟩ := gd_some h
    obtain ⟨s27, e28, h⟩ := stp_some h
    refine v_iast oc105 rx1 g26.1 g26.2 dX14_component_64 ?_
    rw [← e28]
    refine v_iload_n dX14_component_65 3 rfl rfl ?_
    refine v_if_ge (tgt := 99) dX14_component_66 rx2 (by decide) (fun c29 => ?_) (fun c29 => ?_)
    · rw [if_pos c29] at h
      refine v_aload_n dX14_component_99 1 rfl rfl ?_
      refine v_getS (f := 47) (t := 120) cf14 oc87 rfl rfl rfl (by decide) q2417 dX14_component_100 ?_
      refine v_iload_n dX14_component_103 3 rfl rfl ?_
      refine v_iload_n dX14_component_104 0 rfl rfl ?_
      obtain ⟨g30, h⟩ := gd_some h
      obtain ⟨s31, e32, h⟩ := stp_some h
      refine v_iast oc120 rx2 g30.1 g30.2 dX14_component_105 ?_
      rw [← e32]
      refine v_sub [1, 0] (L1 := [(0, vO 87), (3, vI y1)]) rfl ?_
      exact wj_X14_component_106 h r3
    · rw [if_neg c29] at h
      refine v_aload_n dX14_component_69 1 rfl rfl ?_
      refine v_getS (f := 28) (t := 104) cf14 oc87 rfl rfl rfl (by decide) q2398 dX14_component_70 ?_
      refine v_iload_n dX14_component_73 2 rfl rfl ?_
      refine v_iload_n dX14_component_74 0 rfl rfl ?_
      obtain ⟨g33, h⟩ := gd_some h
      obtain ⟨s34, e35, h⟩ := stp_some h
      refine v_iast oc104 rx1 g33.1 g33.2 dX14_component_75 ?_
      rw [← e35]
      refine v_aload_n dX14_component_76 1 rfl rfl ?_
      refine v_getS (f := 80) (t := 145) cf14 oc87 rfl rfl rfl (by decide) q2450 dX14_component_77 ?_
      refine v_aload_n dX14_component_80 1 rfl rfl ?_
      refine v_getI (f := 79) cf14 oc87 rfl (by decide) q2449 dX14_component_81 ?_
      refine v_iload_n dX14_component_84 2 rfl rfl ?_
      obtain ⟨g36, h⟩ := gd_some h
      obtain ⟨s37, e38, h⟩ := stp_some h
      refine v_iast oc145 (gI_rg _ _ _) g36.1 g36.2 dX14_component_85 ?_
      rw [← e38]
      refine v_aload_n dX14_component_86 1 rfl rfl ?_
      refine v_dupO dX14_component_87 ?_
      refine v_getI (f := 79) cf14 oc87 rfl (by decide) q2449 dX14_component_88 ?_
      refine v_iconst dX14_component_91 ?_
      refine v_iadd dX14_component_92 ?_
      obtain ⟨s39, e40, h⟩ := stp_some h
      refine v_putI (f := 79) cf14 oc87 rfl (by decide) q2449 dX14_component_93 rfl rfl ?_
      rw [← e40]
      refine v_goto (tgt := 106) dX14_component_96 (by decide) ?_
      refine v_sub [1, 0] (L1 := [(0, vO 87), (3, vI y1)]) rfl ?_
      exact wj_X14_component_106 h r3
  · rw [if_neg c22] at h
    cases h
    exact v_vret dX14_component_44

def E_X14_addLimit_87 (x4 : Int) (rv : Option vA) (σo : vS) (q : Int × vS) : Prop := ∀ (x5' : Int) (s' : vS), q = (x5', s') → rg x5' → VW cX14_addLimit (RX14, rv, σo, (some .int), 0, 0, 6, []) (P0 []) s' 109 [(0, vO 87), (4, vI x4), (5, vI x5')] []
def l_X14_addLimit_87 : Nat → Int → Int → vS → Option (Int × vS)
  | 0, _, _, _ => none
  | n + 1, x4, x5, s =>
    gd (inb x5 (gN s 125)) <|
    if (gE s 125 x5) < 0 then
      some (x5, s)
    else
      gd (inb x5 (gN s 125)) <|
      vl (gE s 125 x5) fun y4 =>
      l_X14_addLimit_87 n x4 y4 s
theorem wl_X14_addLimit_87 {x4 : Int} {rv : Option vA} {σo : vS}  (rx4 : rg x4) : ∀ (n : Nat) (x5 : Int) (s : vS) (q : Int × vS), l_X14_addLimit_87 n x4 x5 s = some q → rg x5 → E_X14_addLimit_87 x4 rv σo q → VW cX14_addLimit (RX14, rv, σo, (some .int), 0, 0, 6, []) (P0 []) s 87 [(0, vO 87), (4, vI x4), (5, vI x5)] [] := by
  intro n
  induction n with
  | zero => intro x5 s q h; cases h
  | succ n ih =>
    intro x5 s q h rx5 hE
    unfold l_X14_addLimit_87 at h
    refine v_aload_n dX14_addLimit_87 0 rfl rfl ?_
    refine v_getS (f := 53) (t := 125) cf14 oc87 rfl rfl rfl (by decide) q2423 dX14_addLimit_88 ?_
    refine v_iload dX14_addLimit_91 2 rfl ?_
    obtain ⟨g1, h⟩ := gd_some h
    refine v_iald oc125 rx5 g1.1 g1.2 dX14_addLimit_93 ?_
    refine v_if_lt (tgt := 109) dX14_addLimit_94 (gE_rg _ _ _) (by decide) (fun c2 => ?_) (fun c2 => ?_)
    · rw [if_pos c2] at h
      cases h
      exact hE _ _ rfl rx5
    · rw [if_neg c2] at h
      refine v_aload_n dX14_addLimit_97 0 rfl rfl ?_
      refine v_getS (f := 53) (t := 125) cf14 oc87 rfl rfl rfl (by decide) q2423 dX14_addLimit_98 ?_
      refine v_iload dX14_addLimit_101 2 rfl ?_
      obtain ⟨g3, h⟩ := gd_some h
      refine v_iald oc125 rx5 g3.1 g3.2 dX14_addLimit_103 ?_
      obtain ⟨y4, e5, h⟩ := vl_some h
      rw [← e5]
      have r6 : rg y4 := by rw [e5]; exact gE_rg _ _ _
      refine v_istore (L1 := [(5, vI y4), (0, vO 87), (4, vI x4)]) dX14_addLimit_104 (by decide) rfl ?_
      refine v_goto (tgt := 87) dX14_addLimit_106 (by decide) ?_
      refine v_sub [1, 2, 0] (L1 := [(0, vO 87), (4, vI x4), (5, vI y4)]) rfl ?_
      exact ih y4 s _ h r6 hE

def f_X14_addLimit (x1 : Int) (x2 : Int) (x3 : Int) (s : vS) : Option (Int × vS) :=
  vl (gI s 87 48) fun y1 =>
  stp (sI s 87 48 (w32 ((gI s 87 48) + 1))) fun s4 =>
  gd (inb y1 (gN s4 121)) <|
  stp (sE s4 121 y1 x2) fun s7 =>
  gd (inb y1 (gN s7 122)) <|
  stp (sE s7 122 y1 x3) fun s10 =>
  gd (inb y1 (gN s10 123)) <|
  stp (sE s10 123 y1 (gI s10 87 54)) fun s13 =>
  gd (inb y1 (gN s13 124)) <|
  stp (sE s13 124 y1 0) fun s16 =>
  gd (inb y1 (gN s16 125)) <|
  stp (sE s16 125 y1 (-1)) fun s19 =>
  gd (inb x1 (gN s19 107)) <|
  if 0 ≤ (gE s19 107 x1) then
    gd (inb x1 (gN s19 107)) <|
    vl (gE s19 107 x1) fun y24 =>
    lq_1 (l_X14_addLimit_87 FU y1 y24 s19) fun y27 s28 =>
    gd (inb y27 (gN s28 125)) <|
    stp (sE s28 125 y27 y1) fun s32 =>
    some (y1, s32)
  else
    gd (inb x1 (gN s19 107)) <|
    stp (sE s19 107 x1 y1) fun s35 =>
    some (y1, s35)
theorem yk_X14_addLimit : yOk yX14_addLimit 3 := ⟨by decide, by decide, by decide +kernel⟩
theorem c_X14_addLimit {x1 : Int} {x2 : Int} {x3 : Int} {s : vS} {out : Int × vS} (h : f_X14_addLimit x1 x2 x3 s = some out)  (rx1 : rg x1) (rx2 : rg x2) (rx3 : rg x3) : VC yX14_addLimit cX14_addLimit 6 (some .int) 0 0 [vO 87, vI x1, vI x2, vI x3] s (some (vI out.1)) out.2 [] := by
  unfold f_X14_addLimit at h
  refine VC.of RX14 (by decide) rfl (Nat.le_of_ble_eq_true rfl) ?_
  show VW cX14_addLimit (RX14, (some (vI out.1)), out.2, (some .int), 0, 0, 6, []) (P0 []) s 0 [(0, vO 87), (1, vI x1), (2, vI x2), (3, vI x3)] []
  refine v_aload_n dX14_addLimit_0 0 rfl rfl ?_
  refine v_getI (f := 48) cf14 oc87 rfl (by decide) q2418 dX14_addLimit_1 ?_
  obtain ⟨y1, e2, h⟩ := vl_some h
  rw [← e2]
  have r3 : rg y1 := by rw [e2]; exact gI_rg _ _ _
  refine v_istore (L1 := [(4, vI y1), (0, vO 87), (1, vI x1), (2, vI x2), (3, vI x3)]) dX14_addLimit_4 (by decide) rfl ?_
  refine v_aload_n dX14_addLimit_6 1 rfl rfl ?_
  refine v_dupO dX14_addLimit_7 ?_
  refine v_getI (f := 48) cf14 oc87 rfl (by decide) q2418 dX14_addLimit_8 ?_
  refine v_iconst dX14_addLimit_11 ?_
  refine v_iadd dX14_addLimit_12 ?_
  obtain ⟨s4, e5, h⟩ := stp_some h
  refine v_putI (f := 48) cf14 oc87 rfl (by decide) q2418 dX14_addLimit_13 rfl rfl ?_
  rw [← e5]
  refine v_aload_n dX14_addLimit_16 1 rfl rfl ?_
  refine v_getS (f := 49) (t := 121) cf14 oc87 rfl rfl rfl (by decide) q2419 dX14_addLimit_17 ?_
  refine v_iload dX14_addLimit_20 0 rfl ?_
  refine v_iload_n dX14_addLimit_22 3 rfl rfl ?_
  obtain ⟨g6, h⟩ := gd_some h
  obtain ⟨s7, e8, h⟩ := stp_some h
  refine v_iast oc121 r3 g6.1 g6.2 dX14_addLimit_23 ?_
  rw [← e8]
  refine v_aload_n dX14_addLimit_24 1 rfl rfl ?_
  refine v_getS (f := 50) (t := 122) cf14 oc87 rfl rfl rfl (by decide) q2420 dX14_addLimit_25 ?_
  refine v_iload dX14_addLimit_28 0 rfl ?_
  refine v_iload_n dX14_addLimit_30 4 rfl rfl ?_
  obtain ⟨g9, h⟩ := gd_some h
  obtain ⟨s10, e11, h⟩ := stp_some h
  refine v_zast oc122 r3 g9.1 g9.2 dX14_addLimit_31 ?_
  rw [← e11]
  refine v_aload_n dX14_addLimit_32 1 rfl rfl ?_
  refine v_getS (f := 51) (t := 123) cf14 oc87 rfl rfl rfl (by decide) q2421 dX14_addLimit_33 ?_
  refine v_iload dX14_addLimit_36 0 rfl ?_
  refine v_aload_n dX14_addLimit_38 1 rfl rfl ?_
  refine v_getI (f := 54) cf14 oc87 rfl (by decide) q2424 dX14_addLimit_39 ?_
  obtain ⟨g12, h⟩ := gd_some h
  obtain ⟨s13, e14, h⟩ := stp_some h
  refine v_iast oc123 r3 g12.1 g12.2 dX14_addLimit_42 ?_
  rw [← e14]
  refine v_aload_n dX14_addLimit_43 1 rfl rfl ?_
  refine v_getS (f := 52) (t := 124) cf14 oc87 rfl rfl rfl (by decide) q2422 dX14_addLimit_44 ?_
  refine v_iload dX14_addLimit_47 0 rfl ?_
  refine v_iconst dX14_addLimit_49 ?_
  obtain ⟨g15, h⟩ := gd_some h
  obtain ⟨s16, e17, h⟩ := stp_some h
  refine v_iast oc124 r3 g15.1 g15.2 dX14_addLimit_50 ?_
  rw [← e17]
  refine v_aload_n dX14_addLimit_51 1 rfl rfl ?_
  refine v_getS (f := 53) (t := 125) cf14 oc87 rfl rfl rfl (by decide) q2423 dX14_addLimit_52 ?_
  refine v_iload dX14_addLimit_55 0 rfl ?_
  refine v_iconst dX14_addLimit_57 ?_
  obtain ⟨g18, h⟩ := gd_some h
  obtain ⟨s19, e20, h⟩ := stp_some h
  refine v_iast oc125 r3 g18.1 g18.2 dX14_addLimit_58 ?_
  rw [← e20]
  refine v_aload_n dX14_addLimit_59 1 rfl rfl ?_
  refine v_getS (f := 31) (t := 107) cf14 oc87 rfl rfl rfl (by decide) q2401 dX14_addLimit_60 ?_
  refine v_iload_n dX14_addLimit_63 2 rfl rfl ?_
  obtain ⟨g21, h⟩ := gd_some h
  refine v_iald oc107 rx1 g21.1 g21.2 dX14_addLimit_64 ?_
  refine v_if_ge (tgt := 79) dX14_addLimit_65 (gE_rg _ _ _) (by decide) (fun c22 => ?_) (fun c22 => ?_)
  · rw [if_pos c22] at h
    refine v_aload_n dX14_addLimit_79 1 rfl rfl ?_
    refine v_getS (f := 31) (t := 107) cf14 oc87 rfl rfl rfl (by decide) q2401 dX14_addLimit_80 ?_
    refine v_iload_n dX14_addLimit_83 2 rfl rfl ?_
    obtain ⟨g23, h⟩ := gd_some h
    refine v_iald oc107 rx1 g23.1 g23.2 dX14_addLimit_84 ?_
    obtain ⟨y24, e25, h⟩ := vl_some h
    rw [← e25]
    have r26 : rg y24 := by rw [e25]; exact gE_rg _ _ _
    refine v_istore (L1 := [(5, vI y24), (4, vI y1), (0, vO 87), (1, vI x1), (2, vI x2), (3, vI x3)]) dX14_addLimit_85 (by decide) rfl ?_
    refine v_sub [2, 1, 0] (L1 := [(0, vO 87), (4, vI y1), (5, vI y24)]) rfl ?_
    obtain ⟨y27, s28, e29, h⟩ := lq_1_some h
    refine wl_X14_addLimit_87 r3 FU y24 s19 _ e29 r26 ?_
    unfold E_X14_addLimit_87
    intro y27' s28' z_ r30
    cases z_
    refine v_aload_n dX14_addLimit_109 0 rfl rfl ?_
    refine v_getS (f := 53) (t := 125) cf14 oc87 rfl rfl rfl (by decide) q2423 dX14_addLimit_110 ?_
    refine v_iload dX14_addLimit_113 2 rfl ?_
    refine v_iload dX14_addLimit_115 1 rfl ?_
    obtain ⟨g31, h⟩ := gd_some h
    obtain ⟨s32, e33, h⟩ := stp_some h
    refine v_iast oc125 r30 g31.1 g31.2 dX14_addLimit_117 ?_
    rw [← e33]
    refine v_iload dX14_addLimit_118 1 rfl ?_
    cases h
    exact v_iret r3 dX14_addLimit_120
  · rw [if_neg c22] at h
    refine v_aload_n dX14_addLimit_68 1 rfl rfl ?_
    refine v_getS (f := 31) (t := 107) cf14 oc87 rfl rfl rfl (by decide) q2401 dX14_addLimit_69 ?_
    refine v_iload_n dX14_addLimit_72 2 rfl rfl ?_
    refine v_iload dX14_addLimit_73 0 rfl ?_
    obtain ⟨g34, h⟩ := gd_some h
    obtain ⟨s35, e36, h⟩ := stp_some h
    refine v_iast oc107 rx1 g34.1 g34.2 dX14_addLimit_75 ?_
    rw [← e36]
    refine v_goto (tgt := 118) dX14_addLimit_76 (by decide) ?_
    refine v_iload dX14_addLimit_118 0 rfl ?_
    cases h
    exact v_iret r3 dX14_addLimit_120

def j_X14_bound_47 (s : vS) : Option (Int × vS) :=
  stp (sI s 87 19 (w32 ((gI s 87 19) + 1))) fun s1 =>
  some (w32 ((gI s1 87 19) - 1), s1)
theorem wj_X14_bound_47 {s : vS} {out : Int × vS} (h : j_X14_bound_47 s = some out)  : VW cX14_bound (RX14, (some (vI out.1)), out.2, (some .int), 2, 46, 2, []) (P0 []) s 47 [(0, vO 87)] [] := by
  unfold j_X14_bound_47 at h
  refine v_aload_n dX14_bound_47 0 rfl rfl ?_
  refine v_dupO dX14_bound_48 ?_
  refine v_getI (f := 19) cf14 oc87 rfl (by decide) q2389 dX14_bound_49 ?_
  refine v_iconst dX14_bound_52 ?_
  refine v_iadd dX14_bound_53 ?_
  obtain ⟨s1, e2, h⟩ := stp_some h
  refine v_putI (f := 19) cf14 oc87 rfl (by decide) q2389 dX14_bound_54 rfl rfl ?_
  rw [← e2]
  refine v_aload_n dX14_bound_57 0 rfl rfl ?_
  refine v_getI (f := 19) cf14 oc87 rfl (by decide) q2389 dX14_bound_58 ?_
  refine v_iconst dX14_bound_61 ?_
  refine v_isub dX14_bound_62 ?_
  cases h
  exact v_iret (w32_rg _) dX14_bound_63

def j_X14_bound_64 (s : vS) : Option (Int × vS) :=
  bdv (f_X14_misfit 1 s) fun s1 =>
  some (0, s1)
theorem wj_X14_bound_64 {s : vS} {out : Int × vS} (h : j_X14_bound_64 s = some out)  : VW cX14_bound (RX14, (some (vI out.1)), out.2, (some .int), 2, 46, 2, []) (P0 []) s 64 [(0, vO 87)] [] := by
  unfold j_X14_bound_64 at h
  refine v_aload_n dX14_bound_64 0 rfl rfl ?_
  refine v_iconst dX14_bound_65 ?_
  obtain ⟨s1, e2, h⟩ := bdv_some h
  have k3 := c_X14_misfit e2 (rgl rfl)
  refine v_callV (st := []) cf14 oc87 k3 (lw_V q2972 q2974 qs174 q311 q2975) rfl yk_X14_misfit ⟨Nat.le_of_ble_eq_true rfl, Nat.le_of_ble_eq_true rfl⟩ trivial ⟨kc87, trivial⟩ (Nat.le_of_ble_eq_true rfl) rfl dX14_bound_66 ?_
  refine v_iconst dX14_bound_69 ?_
  cases h
  exact v_iret (rgl rfl) dX14_bound_70

def f_X14_bound (x1 : Int) (s : vS) : Option (Int × vS) :=
  if (gI s 87 8) ≤ 0 then
    bd (f_X14_is 3 s) fun r5 s2 =>
    if r5 = 0 then
      if x1 = 0 then
        bd (f_X14_is 2 s2) fun r12 s9 =>
        if r12 = 0 then
          bd (f_X14_is 83 s9) fun r18 s15 =>
          if r18 = 0 then
            bd (f_X14_is 82 s15) fun r24 s21 =>
            if r24 = 0 then
              j_X14_bound_64 s21
            else
              j_X14_bound_47 s21
          else
            j_X14_bound_47 s15
        else
          j_X14_bound_47 s9
      else
        j_X14_bound_64 s2
    else
      j_X14_bound_47 s2
  else
    some (0, s)
theorem yk_X14_bound : yOk yX14_bound 1 := ⟨by decide, by decide, by decide +kernel⟩
theorem c_X14_bound {x1 : Int} {s : vS} {out : Int × vS} (h : f_X14_bound x1 s = some out)  (rx1 : rg x1) : VC yX14_bound cX14_bound 2 (some .int) 2 46 [vO 87, vI x1] s (some (vI out.1)) out.2 [] := by
  unfold f_X14_bound at h
  refine VC.of RX14 (by decide) rfl (Nat.le_of_ble_eq_true rfl) ?_
  show VW cX14_bound (RX14, (some (vI out.1)), out.2, (some .int), 2, 46, 2, []) (P0 []) s 0 [(0, vO 87), (1, vI x1)] []
  refine v_aload_n dX14_bound_0 0 rfl rfl ?_
  refine v_getI (f := 8) cf14 oc87 rfl (by decide) q2378 dX14_bound_1 ?_
  refine v_if_le (tgt := 9) dX14_bound_4 (gI_rg _ _ _) (by decide) (fun c1 => ?_) (fun c1 => ?_)
  · rw [if_pos c1] at h
    refine v_aload_n dX14_bound_9 0 rfl rfl ?_
    refine v_iconst dX14_bound_10 ?_
    obtain ⟨r5, s2, e3, h⟩ := bd_some h
    have k4 := c_X14_is e3 (rgl rfl)
    have r6 : rg r5 := k4.1.2.2
    refine v_callV (st := []) cf14 oc87 k4 (lw_V q2968 q2970 qs173 q311 q2971) rfl yk_X14_is ⟨Nat.le_of_ble_eq_true rfl, Nat.le_of_ble_eq_true rfl⟩ trivial ⟨kc87, trivial⟩ (Nat.le_of_ble_eq_true rfl) rfl dX14_bound_11 ?_
    refine v_if_ne (tgt := 47) dX14_bound_14 r6 (by decide) (fun c7 => ?_) (fun c7 => ?_)
    · rw [if_neg c7] at h
      refine v_sub [0] (L1 := [(0, vO 87)]) rfl ?_
      exact wj_X14_bound_47 h 
    · rw [if_pos c7] at h
      refine v_iload_n dX14_bound_17 1 rfl rfl ?_
      refine v_if_ne (tgt := 64) dX14_bound_18 rx1 (by decide) (fun c8 => ?_) (fun c8 => ?_)
      · rw [if_neg c8] at h
        refine v_sub [0] (L1 := [(0, vO 87)]) rfl ?_
        exact wj_X14_bound_64 h 
      · rw [if_pos c8] at h
        refine v_aload_n dX14_bound_21 0 rfl rfl ?_
        refine v_iconst dX14_bound_22 ?_
        obtain ⟨r12, s9, e10, h⟩ := bd_some h
        have k11 := c_X14_is e10 (rgl rfl)
        have r13 : rg r12 := k11.1.2.2
        refine v_callV (st := []) cf14 oc87 k11 (lw_V q2968 q2970 qs173 q311 q2971) rfl yk_X14_is ⟨Nat.le_of_ble_eq_true rfl, Nat.le_of_ble_eq_true rfl⟩ trivial ⟨kc87, trivial⟩ (Nat.le_of_ble_eq_true rfl) rfl dX14_bound_23 ?_
        refine v_if_ne (tgt := 47) dX14_bound_26 r13 (by decide) (fun c14 => ?_) (fun c14 => ?_)
        · rw [if_neg c14] at h
          refine v_sub [0] (L1 := [(0, vO 87)]) rfl ?_
          exact wj_X14_bound_47 h 
        · rw [if_pos c14] at h
          refine v_aload_n dX14_bound_29 0 rfl rfl ?_
          refine v_bipush dX14_bound_30 rfl ?_
          obtain ⟨r18, s15, e16, h⟩ := bd_some h
          have k17 := c_X14_is e16 (rgl rfl)
          have r19 : rg r18 := k17.1.2.2
          refine v_callV (st := []) cf14 oc87 k17 (lw_V q2968 q2970 qs173 q311 q2971) rfl yk_X14_is ⟨Nat.le_of_ble_eq_true rfl, Nat.le_of_ble_eq_true rfl⟩ trivial ⟨kc87, trivial⟩ (Nat.le_of_ble_eq_true rfl) rfl dX14_bound_32 ?_
          refine v_if_ne (tgt := 47) dX14_bound_35 r19 (by decide) (fun c20 => ?_) (fun c20 => ?_)
          · rw [if_neg c20] at h
            refine v_sub [0] (L1 := [(0, vO 87)]) rfl ?_
            exact wj_X14_bound_47 h 
          · rw [if_pos c20] at h
            refine v_aload_n dX14_bound_38 0 rfl rfl ?_
            refine v_bipush dX14_bound_39 rfl ?_
            obtain ⟨r24, s21, e22, h⟩ := bd_some h
            have k23 := c_X14_is e22 (rgl rfl)
            have r25 : rg r24 := k23.1.2.2
            refine v_callV (st := []) cf14 oc87 k23 (lw_V q2968 q2970 qs173 q311 q2971) rfl yk_X14_is ⟨Nat.le_of_ble_eq_true rfl, Nat.le_of_ble_eq_true rfl⟩ trivial ⟨kc87, trivial⟩ (Nat.le_of_ble_eq_true rfl) rfl dX14_bound_41 ?_
            refine v_if_eq (tgt := 64) dX14_bound_44 r25 (by decide) (fun c26 => ?_) (fun c26 => ?_)
            · rw [if_pos c26] at h
              refine v_sub [0] (L1 := [(0, vO 87)]) rfl ?_
              exact wj_X14_bound_64 h 
            · rw [if_neg c26] at h
              refine v_sub [0] (L1 := [(0, vO 87)]) rfl ?_
              exact wj_X14_bound_47 h 
  · rw [if_neg c1] at h
    refine v_iconst dX14_bound_7 ?_
    cases h
    exact v_iret (rgl rfl) dX14_bound_8

def E_X14_rangesOf_2 (rv : Option vA) (σo : vS) (q : vS) : Prop := ∀ (s' : vS), q = s' → VW cX14_rangesOf (RX14, rv, σo, none, 3, 67, 4, []) (P0 []) s' 144 [] []
def j_X14_rangesOf_134 (rec : Int → Int → vS → Option (vS)) (x1 : Int) (s : vS) : Option (vS) :=
  bd (f_X14_eat 21 s) fun r4 s1 =>
  rec x1 r4 s1
theorem wj_X14_rangesOf_134 {x1 : Int} {s : vS} {rv : Option vA} {σo : vS} {rec : Int → Int → vS → Option (vS)} {q : vS} (h : j_X14_rangesOf_134 rec x1 s = some q)  (rx1 : rg x1) (hrec : ∀ (y2 : Int) (s : vS) (q : vS), rec x1 y2 s = some q → rg y2 → E_X14_rangesOf_2 rv σo q → VW cX14_rangesOf (RX14, rv, σo, none, 3, 67, 4, []) (P0 []) s 2 [(0, vO 87), (1, vI x1), (2, vI y2)] []) (hE : E_X14_rangesOf_2 rv σo q) : VW cX14_rangesOf (RX14, rv, σo, none, 3, 67, 4, []) (P0 []) s 134 [(0, vO 87), (1, vI x1)] [] := by
  unfold j_X14_rangesOf_134 at h
  refine v_aload_n dX14_rangesOf_134 0 rfl rfl ?_
  refine v_bipush dX14_rangesOf_135 rfl ?_
  obtain ⟨r4, s1, e2, h⟩ := bd_some h
  have k3 := c_X14_eat e2 (rgl rfl)
  have r5 : rg r4 := k3.1.2.2
  refine v_callV (st := []) cf14 oc87 k3 (lw_V q2976 q2978 qs175 q311 q2979) rfl yk_X14_eat ⟨Nat.le_of_ble_eq_true rfl, Nat.le_of_ble_eq_true rfl⟩ trivial ⟨kc87, trivial⟩ (Nat.le_of_ble_eq_true rfl) rfl dX14_rangesOf_137 ?_
  refine v_istore_n (L1 := [(2, vI r4), (0, vO 87), (1, vI x1)]) dX14_rangesOf_140 rfl (by decide) rfl ?_
  refine v_goto (tgt := 2) dX14_rangesOf_141 (by decide) ?_
  refine v_sub [1, 2, 0] (L1 := [(0, vO 87), (1, vI x1), (2, vI r4)]) rfl ?_
  exact hrec r4 s1 _ h r5 hE

def j_X14_rangesOf_107 (rec : Int → Int → vS → Option (vS)) (x1 : Int) (s : vS) : Option (vS) :=
  if (gI s 87 8) = 0 then
    stp (sI s 87 54 (w32 ((gI s 87 54) + 1))) fun s2 =>
    gd (inb x1 (gN s2 124)) <|
    gd (inb x1 (gN s2 124)) <|
    stp (sE s2 124 x1 (w32 ((gE s2 124 x1) + 1))) fun s6 =>
    j_X14_rangesOf_134 rec x1 s6
  else
    j_X14_rangesOf_134 rec x1 s
theorem wj_X14_rangesOf_107 {x1 : Int} {s : vS} {rv : Option vA} {σo : vS} {rec : Int → Int → vS → Option (vS)} {q : vS} (h : j_X14_rangesOf_107 rec x1 s = some q)  (rx1 : rg x1) (hrec : ∀ (y2 : Int) (s : vS) (q : vS), rec x1 y2 s = some q → rg y2 → E_X14_rangesOf_2 rv σo q → VW cX14_rangesOf (RX14, rv, σo, none, 3, 67, 4, []) (P0 []) s 2 [(0, vO 87), (1, vI x1), (2, vI y2)] []) (hE : E_X14_rangesOf_2 rv σo q) : VW cX14_rangesOf (RX14, rv, σo, none, 3, 67, 4, []) (P0 []) s 107 [(0, vO 87), (1, vI x1)] [] := by
  unfold j_X14_rangesOf_107 at h
  refine v_aload_n dX14_rangesOf_107 0 rfl rfl ?_
  refine v_getI (f := 8) cf14 oc87 rfl (by decide) q2378 dX14_rangesOf_108 ?_
  refine v_if_ne (tgt := 134) dX14_rangesOf_111 (gI_rg _ _ _) (by decide) (fun c1 => ?_) (fun c1 => ?_)
  · rw [if_neg c1] at h
    exact wj_X14_rangesOf_134 h rx1 hrec hE
  · rw [if_pos c1] at h
    refine v_aload_n dX14_rangesOf_114 0 rfl rfl ?_
    refine v_dupO dX14_rangesOf_115 ?_
    refine v_getI (f := 54) cf14 oc87 rfl (by decide) q2424 dX14_rangesOf_116 ?_
    refine v_iconst dX14_rangesOf_119 ?_
    refine v_iadd dX14_rangesOf_120 ?_
    obtain ⟨s2, e3, h⟩ := stp_some h
    refine v_putI (f := 54) cf14 oc87 rfl (by decide) q2424 dX14_rangesOf_121 rfl rfl ?_
    rw [← e3]
    refine v_aload_n dX14_rangesOf_124 0 rfl rfl ?_
    refine v_getS (f := 52) (t := 124) cf14 oc87 rfl rfl rfl (by decide) q2422 dX14_rangesOf_125 ?_
    refine v_iload_n dX14_rangesOf_128 1 rfl rfl ?_
    refine v_dup2IO dX14_rangesOf_129 ?_
    obtain ⟨g4, h⟩ := gd_some h
    refine v_iald oc124 rx1 g4.1 g4.2 dX14_rangesOf_130 ?_
    refine v_iconst dX14_rangesOf_131 ?_
    refine v_iadd dX14_rangesOf_132 ?_
    obtain ⟨g5, h⟩ := gd_some h
    obtain ⟨s6, e7, h⟩ := stp_some h
    refine v_iast oc124 rx1 g5.1 g5.2 dX14_rangesOf_133 ?_
    rw [← e7]
    exact wj_X14_rangesOf_134 h rx1 hrec hE

def l_X14_rangesOf_2 : Nat → Int → Int → vS → Option (vS)
  | 0, _, _, _ => none
  | n + 1, x1, x2, s =>
    if (gI s 87 8) = 0 then
      if x2 = 0 then
        some s
      else
        vl (gI s 87 54) fun y3 =>
        bd (f_X14_eat 19 s) fun r9 s6 =>
        gd (gN s6 127 = gN s 127) <|
        gd (inb y3 (gN s6 127)) <|
        stp (sE s6 127 y3 r9) fun s13 =>
        gd (inb y3 (gN s13 127)) <|
        bd (f_X14_bound (gZ s13 127 y3) s13) fun r19 s16 =>
        gd (gN s16 126 = gN s13 126) <|
        gd (inb y3 (gN s16 126)) <|
        stp (sE s16 126 y3 r19) fun s23 =>
        gd (inb y3 (gN s23 127)) <|
        gd (inb y3 (gN s23 129)) <|
        stp (sE s23 129 y3 (gZ s23 127 y3)) fun s27 =>
        gd (inb y3 (gN s27 126)) <|
        gd (inb y3 (gN s27 128)) <|
        stp (sE s27 128 y3 (gE s27 126 y3)) fun s31 =>
        bd (f_X14_eat 9 s31) fun r36 s33 =>
        if r36 = 0 then
          j_X14_rangesOf_107 (l_X14_rangesOf_2 n) x1 s33
        else
          bd (f_X14_eat 19 s33) fun r42 s39 =>
          gd (gN s39 129 = gN s33 129) <|
          gd (inb y3 (gN s39 129)) <|
          stp (sE s39 129 y3 r42) fun s46 =>
          gd (inb y3 (gN s46 129)) <|
          bd (f_X14_bound (gZ s46 129 y3) s46) fun r52 s49 =>
          gd (gN s49 128 = gN s46 128) <|
          gd (inb y3 (gN s49 128)) <|
          stp (sE s49 128 y3 r52) fun s56 =>
          j_X14_rangesOf_107 (l_X14_rangesOf_2 n) x1 s56
    else
      some s
theorem wl_X14_rangesOf_2 {x1 : Int} {rv : Option vA} {σo : vS}  (rx1 : rg x1) : ∀ (n : Nat) (x2 : Int) (s : vS) (q : vS), l_X14_rangesOf_2 n x1 x2 s = some q → rg x2 → E_X14_rangesOf_2 rv σo q → VW cX14_rangesOf (RX14, rv, σo, none, 3, 67, 4, []) (P0 []) s 2 [(0, vO 87), (1, vI x1), (2, vI x2)] [] := by
  intro n
  induction n with
  | zero => intro x2 s q h; cases h
  | succ n ih =>
    intro x2 s q h rx2 hE
    unfold l_X14_rangesOf_2 at h
    refine v_aload_n dX14_rangesOf_2 0 rfl rfl ?_
    refine v_getI (f := 8) cf14 oc87 rfl (by decide) q2378 dX14_rangesOf_3 ?_
    refine v_if_ne (tgt := 144) dX14_rangesOf_6 (gI_rg _ _ _) (by decide) (fun c1 => ?_) (fun c1 => ?_)
    · rw [if_neg c1] at h
      cases h
      refine v_sub [] (L1 := []) rfl ?_
      exact hE _ rfl 
    · rw [if_pos c1] at h
      refine v_iload_n dX14_rangesOf_9 2 rfl rfl ?_
      refine v_if_eq (tgt := 144) dX14_rangesOf_10 rx2 (by decide) (fun c2 => ?_) (fun c2 => ?_)
      · rw [if_pos c2] at h
        cases h
        refine v_sub [] (L1 := []) rfl ?_
        exact hE _ rfl 
      · rw [if_neg c2] at h
        refine v_aload_n dX14_rangesOf_13 0 rfl rfl ?_
        refine v_getI (f := 54) cf14 oc87 rfl (by decide) q2424 dX14_rangesOf_14 ?_
        obtain ⟨y3, e4, h⟩ := vl_some h
        rw [← e4]
        have r5 : rg y3 := by rw [e4]; exact gI_rg _ _ _
        refine v_istore_n (L1 := [(3, vI y3), (0, vO 87), (1, vI x1), (2, vI x2)]) dX14_rangesOf_17 rfl (by decide) rfl ?_
        refine v_aload_n dX14_rangesOf_18 1 rfl rfl ?_
        refine v_getS (f := 56) (t := 127) cf14 oc87 rfl rfl rfl (by decide) q2426 dX14_rangesOf_19 ?_
        refine v_iload_n dX14_rangesOf_22 0 rfl rfl ?_
        refine v_aload_n dX14_rangesOf_23 1 rfl rfl ?_
        refine v_bipush dX14_rangesOf_24 rfl ?_
        obtain ⟨r9, s6, e7, h⟩ := bd_some h
        have k8 := c_X14_eat e7 (rgl rfl)
        have r10 : rg r9 := k8.1.2.2
        obtain ⟨g11, h⟩ := gd_some h
        refine v_callV (st := [vI y3, vO 127]) cf14 oc87 k8 (lw_V q2976 q2978 qs175 q311 q2979) rfl yk_X14_eat ⟨Nat.le_of_ble_eq_true rfl, Nat.le_of_ble_eq_true rfl⟩ ⟨(kp_arr (by decide) g11), trivial⟩ ⟨kc87, trivial⟩ (Nat.le_of_ble_eq_true rfl) rfl dX14_rangesOf_26 ?_
        obtain ⟨g12, h⟩ := gd_some h
        obtain ⟨s13, e14, h⟩ := stp_some h
        refine v_zast oc127 r5 g12.1 g12.2 dX14_rangesOf_29 ?_
        rw [← e14]
        refine v_aload_n dX14_rangesOf_30 1 rfl rfl ?_
        refine v_getS (f := 55) (t := 126) cf14 oc87 rfl rfl rfl (by decide) q2425 dX14_rangesOf_31 ?_
        refine v_iload_n dX14_rangesOf_34 0 rfl rfl ?_
        refine v_aload_n dX14_rangesOf_35 1 rfl rfl ?_
        refine v_aload_n dX14_rangesOf_36 1 rfl rfl ?_
        refine v_getS (f := 56) (t := 127) cf14 oc87 rfl rfl rfl (by decide) q2426 dX14_rangesOf_37 ?_
        refine v_iload_n dX14_rangesOf_40 0 rfl rfl ?_
        obtain ⟨g15, h⟩ := gd_some h
        refine v_zald oc127 r5 g15.1 g15.2 dX14_rangesOf_41 ?_
        obtain ⟨r19, s16, e17, h⟩ := bd_some h
        have k18 := c_X14_bound e17 (gZ_rg _ _ _)
        have r20 : rg r19 := k18.1.2.2
        obtain ⟨g21, h⟩ := gd_some h
        refine v_callV (st := [vI y3, vO 126]) cf14 oc87 k18 (lw_V q3057 q3059 qs194 q311 q3060) rfl yk_X14_bound ⟨Nat.le_of_ble_eq_true rfl, Nat.le_of_ble_eq_true rfl⟩ ⟨(kp_arr (by decide) g21), trivial⟩ ⟨kc87, trivial⟩ (Nat.le_of_ble_eq_true rfl) rfl dX14_rangesOf_42 ?_
        obtain ⟨g22, h⟩ := gd_some h
        obtain ⟨s23, e24, h⟩ := stp_some h
        refine v_iast oc126 r5 g22.1 g22.2 dX14_rangesOf_45 ?_
        rw [← e24]
        refine v_aload_n dX14_rangesOf_46 1 rfl rfl ?_
        refine v_getS (f := 58) (t := 129) cf14 oc87 rfl rfl rfl (by decide) q2428 dX14_rangesOf_47 ?_
        refine v_iload_n dX14_rangesOf_50 0 rfl rfl ?_
        refine v_aload_n dX14_rangesOf_51 1 rfl rfl ?_
        refine v_getS (f := 56) (t := 127) cf14 oc87 rfl rfl rfl (by decide) q2426 dX14_rangesOf_52 ?_
        refine v_iload_n dX14_rangesOf_55 0 rfl rfl ?_
        obtain ⟨g25, h⟩ := gd_some h
        refine v_zald oc127 r5 g25.1 g25.2 dX14_rangesOf_56 ?_
        obtain ⟨g26, h⟩ := gd_some h
        obtain ⟨s27, e28, h⟩ := stp_some h
        refine v_zast oc129 r5 g26.1 g26.2 dX14_rangesOf_57 ?_
        rw [← e28]
        refine v_aload_n dX14_rangesOf_58 1 rfl rfl ?_
        refine v_getS (f := 57) (t := 128) cf14 oc87 rfl rfl rfl (by decide) q2427 dX14_rangesOf_59 ?_
        refine v_iload_n dX14_rangesOf_62 0 rfl rfl ?_
        refine v_aload_n dX14_rangesOf_63 1 rfl rfl ?_
        refine v_getS (f := 55) (t := 126) cf14 oc87 rfl rfl rfl (by decide) q2425 dX14_rangesOf_64 ?_
        refine v_iload_n dX14_rangesOf_67 0 rfl rfl ?_
        obtain ⟨g29, h⟩ := gd_some h
        refine v_iald oc126 r5 g29.1 g29.2 dX14_rangesOf_68 ?_
        obtain ⟨g30, h⟩ := gd_some h
        obtain ⟨s31, e32, h⟩ := stp_some h
        refine v_iast oc128 r5 g30.1 g30.2 dX14_rangesOf_69 ?_
        rw [← e32]
        refine v_aload_n dX14_rangesOf_70 1 rfl rfl ?_
        refine v_bipush dX14_rangesOf_71 rfl ?_
        obtain ⟨r36, s33, e34, h⟩ := bd_some h
        have k35 := c_X14_eat e34 (rgl rfl)
        have r37 : rg r36 := k35.1.2.2
        refine v_callV (st := []) cf14 oc87 k35 (lw_V q2976 q2978 qs175 q311 q2979) rfl yk_X14_eat ⟨Nat.le_of_ble_eq_true rfl, Nat.le_of_ble_eq_true rfl⟩ trivial ⟨kc87, trivial⟩ (Nat.le_of_ble_eq_true rfl) rfl dX14_rangesOf_73 ?_
        refine v_if_eq (tgt := 107) dX14_rangesOf_76 r37 (by decide) (fun c38 => ?_) (fun c38 => ?_)
        · rw [if_pos c38] at h
          refine v_sub [1, 2] (L1 := [(0, vO 87), (1, vI x1)]) rfl ?_
          exact wj_X14_rangesOf_107 h rx1 ih hE
        · rw [if_neg c38] at h
          refine v_aload_n dX14_rangesOf_79 1 rfl rfl ?_
          refine v_getS (f := 58) (t := 129) cf14 oc87 rfl rfl rfl (by decide) q2428 dX14_rangesOf_80 ?_
          refine v_iload_n dX14_rangesOf_83 0 rfl rfl ?_
          refine v_aload_n dX14_rangesOf_84 1 rfl rfl ?_
          refine v_bipush dX14_rangesOf_85 rfl ?_
          obtain ⟨r42, s39, e40, h⟩ := bd_some h
          have k41 := c_X14_eat e40 (rgl rfl)
          have r43 : rg r42 := k41.1.2.2
          obtain ⟨g44, h⟩ := gd_some h
          refine v_callV (st := [vI y3, vO 129]) cf14 oc87 k41 (lw_V q2976 q2978 qs175 q311 q2979) rfl yk_X14_eat ⟨Nat.le_of_ble_eq_true rfl, Nat.le_of_ble_eq_true rfl⟩ ⟨(kp_arr (by decide) g44), trivial⟩ ⟨kc87, trivial⟩ (Nat.le_of_ble_eq_true rfl) rfl dX14_rangesOf_87 ?_
          obtain ⟨g45, h⟩ := gd_some h
          obtain ⟨s46, e47, h⟩ := stp_some h
          refine v_zast oc129 r5 g45.1 g45.2 dX14_rangesOf_90 ?_
          rw [← e47]
          refine v_aload_n dX14_rangesOf_91 1 rfl rfl ?_
          refine v_getS (f := 57) (t := 128) cf14 oc87 rfl rfl rfl (by decide) q2427 dX14_rangesOf_92 ?_
          refine v_iload_n dX14_rangesOf_95 0 rfl rfl ?_
          refine v_aload_n dX14_rangesOf_96 1 rfl rfl ?_
          refine v_aload_n dX14_rangesOf_97 1 rfl rfl ?_
          refine v_getS (f := 58) (t := 129) cf14 oc87 rfl rfl rfl (by decide) q2428 dX14_rangesOf_98 ?_
          refine v_iload_n dX14_rangesOf_101 0 rfl rfl ?_
          obtain ⟨g48, h⟩ := gd_some h
          refine v_zald oc129 r5 g48.1 g48.2 dX14_rangesOf_102 ?_
          obtain ⟨r52, s49, e50, h⟩ := bd_some h
          have k51 := c_X14_bound e50 (gZ_rg _ _ _)
          have r53 : rg r52 := k51.1.2.2
          obtain ⟨g54, h⟩ := gd_some h
          refine v_callV (st := [vI y3, vO 128]) cf14 oc87 k51 (lw_V q3057 q3059 qs194 q311 q3060) rfl yk_X14_bound ⟨Nat.le_of_ble_eq_true rfl, Nat.le_of_ble_eq_true rfl⟩ ⟨(kp_arr (by decide) g54), trivial⟩ ⟨kc87, trivial⟩ (Nat.le_of_ble_eq_true rfl) rfl dX14_rangesOf_103 ?_
          obtain ⟨g55, h⟩ := gd_some h
          obtain ⟨s56, e57, h⟩ := stp_some h
          refine v_iast oc128 r5 g55.1 g55.2 dX14_rangesOf_106 ?_
          rw [← e57]
          refine v_sub [1, 2] (L1 := [(0, vO 87), (1, vI x1)]) rfl ?_
          exact wj_X14_rangesOf_107 h rx1 ih hE

def f_X14_rangesOf (x1 : Int) (s : vS) : Option (vS) :=
  lq_0 (l_X14_rangesOf_2 FU x1 1 s) fun s1 =>
  some s1
theorem yk_X14_rangesOf : yOk yX14_rangesOf 1 := ⟨by decide, by decide, by decide +kernel⟩
theorem c_X14_rangesOf {x1 : Int} {s : vS} {out : vS} (h : f_X14_rangesOf x1 s = some out)  (rx1 : rg x1) : VC yX14_rangesOf cX14_rangesOf 4 none 3 67 [vO 87, vI x1] s none out [] := by
  unfold f_X14_rangesOf at h
  refine VC.of RX14 (by decide) rfl (Nat.le_of_ble_eq_true rfl) ?_
  show VW cX14_rangesOf (RX14, none, out, none, 3, 67, 4, []) (P0 []) s 0 [(0, vO 87), (1, vI x1)] []
  refine v_iconst dX14_rangesOf_0 ?_
  refine v_istore_n (L1 := [(2, vI 1), (0, vO 87), (1, vI x1)]) dX14_rangesOf_1 rfl (by decide) rfl ?_
  refine v_sub [1, 2, 0] (L1 := [(0, vO 87), (1, vI x1), (2, vI 1)]) rfl ?_
  obtain ⟨s1, e2, h⟩ := lq_0_some h
  refine wl_X14_rangesOf_2 rx1 FU 1 s _ e2 (rgl rfl) ?_
  unfold E_X14_rangesOf_2
  intro s1' z_
  cases z_
  cases h
  exact v_vret dX14_rangesOf_144

def j_X14_sizeOf_32 (x3 : Int) (z1 : Int) (z2 : Int) (s : vS) : Option (vS) :=
  bd (f_X14_addLimit z1 z2 1 s) fun r4 s1 =>
  bdv (f_X14_rangesOf r4 s1) fun s6 =>
  bd (f_X14_take 17 s6) fun r12 s9 =>
  if x3 = 0 then
    some s9
  else
    bd (f_X14_take 17 s9) fun r18 s15 =>
    some s15
theorem wj_X14_sizeOf_32 {x3 : Int} {z1 : Int} {z2 : Int} {s : vS} {out : vS} (h : j_X14_sizeOf_32 x3 z1 z2 s = some out)  (rx3 : rg x3) (rz1 : rg z1) (rz2 : rg z2) : VW cX14_sizeOf (RX14, none, out, none, 4, 90, 6, []) (P0 []) s 32 [(0, vO 87), (3, vI x3)] [vI z2, vI z1, vO 87] := by
  unfold j_X14_sizeOf_32 at h
  refine v_iconst dX14_sizeOf_32 ?_
  obtain ⟨r4, s1, e2, h⟩ := bd_some h
  have k3 := c_X14_addLimit e2 rz1 rz2 (rgl rfl)
  have r5 : rg r4 := k3.1.2.2
  refine v_callV (st := []) cf14 oc87 k3 (lw_V q3049 q3051 qs192 q311 q3052) rfl yk_X14_addLimit ⟨Nat.le_of_ble_eq_true rfl, Nat.le_of_ble_eq_true rfl⟩ trivial ⟨kc87, trivial⟩ (Nat.le_of_ble_eq_true rfl) rfl dX14_sizeOf_33 ?_
  refine v_istore (L1 := [(5, vI r4), (0, vO 87), (3, vI x3)]) dX14_sizeOf_36 (by decide) rfl ?_
  refine v_aload_n dX14_sizeOf_38 1 rfl rfl ?_
  refine v_iload dX14_sizeOf_39 0 rfl ?_
  obtain ⟨s6, e7, h⟩ := bdv_some h
  have k8 := c_X14_rangesOf e7 r5
  refine v_callV (st := []) cf14 oc87 k8 (lw_V q3053 q3055 qs193 q311 q3056) rfl yk_X14_rangesOf ⟨Nat.le_of_ble_eq_true rfl, Nat.le_of_ble_eq_true rfl⟩ trivial ⟨kc87, trivial⟩ (Nat.le_of_ble_eq_true rfl) rfl dX14_sizeOf_41 ?_
  refine v_aload_n dX14_sizeOf_44 1 rfl rfl ?_
  refine v_bipush dX14_sizeOf_45 rfl ?_
  obtain ⟨r12, s9, e10, h⟩ := bd_some h
  have k11 := c_X14_take e10 (rgl rfl)
  have r13 : rg r12 := k11.1.2.2
  refine v_callV (st := []) cf14 oc87 k11 (lw_V q2964 q2966 qs172 q311 q2967) rfl yk_X14_take ⟨Nat.le_of_ble_eq_true rfl, Nat.le_of_ble_eq_true rfl⟩ trivial ⟨kc87, trivial⟩ (Nat.le_of_ble_eq_true rfl) rfl dX14_sizeOf_47 ?_
  refine v_popI dX14_sizeOf_50 ?_
  refine v_iload_n dX14_sizeOf_51 2 rfl rfl ?_
  refine v_if_eq (tgt := 62) dX14_sizeOf_52 rx3 (by decide) (fun c14 => ?_) (fun c14 => ?_)
  · rw [if_pos c14] at h
    cases h
    exact v_vret dX14_sizeOf_62
  · rw [if_neg c14] at h
    refine v_aload_n dX14_sizeOf_55 1 rfl rfl ?_
    refine v_bipush dX14_sizeOf_56 rfl ?_
    obtain ⟨r18, s15, e16, h⟩ := bd_some h
    have k17 := c_X14_take e16 (rgl rfl)
    have r19 : rg r18 := k17.1.2.2
    refine v_callV (st := []) cf14 oc87 k17 (lw_V q2964 q2966 qs172 q311 q2967) rfl yk_X14_take ⟨Nat.le_of_ble_eq_true rfl, Nat.le_of_ble_eq_true rfl⟩ trivial ⟨kc87, trivial⟩ (Nat.le_of_ble_eq_true rfl) rfl dX14_sizeOf_58 ?_
    refine v_popI dX14_sizeOf_61 ?_
    cases h
    exact v_vret dX14_sizeOf_62

def f_X14_sizeOf (x1 : Int) (x2 : Int) (x3 : Int) (s : vS) : Option (vS) :=
  bd (f_X14_take 101 s) fun r4 s1 =>
  vl (gI s1 87 19) fun y6 =>
  bd (f_X14_take 16 s1) fun r12 s9 =>
  if x3 = 0 then
    j_X14_sizeOf_32 x3 x1 y6 s9
  else
    j_X14_sizeOf_32 x3 x1 x2 s9
theorem yk_X14_sizeOf : yOk yX14_sizeOf 3 := ⟨by decide, by decide, by decide +kernel⟩
theorem c_X14_sizeOf {x1 : Int} {x2 : Int} {x3 : Int} {s : vS} {out : vS} (h : f_X14_sizeOf x1 x2 x3 s = some out)  (rx1 : rg x1) (rx2 : rg x2) (rx3 : rg x3) : VC yX14_sizeOf cX14_sizeOf 6 none 4 90 [vO 87, vI x1, vI x2, vI x3] s none out [] := by
  unfold f_X14_sizeOf at h
  refine VC.of RX14 (by decide) rfl (Nat.le_of_ble_eq_true rfl) ?_
  show VW cX14_sizeOf (RX14, none, out, none, 4, 90, 6, []) (P0 []) s 0 [(0, vO 87), (1, vI x1), (2, vI x2), (3, vI x3)] []
  refine v_aload_n dX14_sizeOf_0 0 rfl rfl ?_
  refine v_bipush dX14_sizeOf_1 rfl ?_
  obtain ⟨r4, s1, e2, h⟩ := bd_some h
  have k3 := c_X14_take e2 (rgl rfl)
  have r5 : rg r4 := k3.1.2.2
  refine v_callV (st := []) cf14 oc87 k3 (lw_V q2964 q2966 qs172 q311 q2967) rfl yk_X14_take ⟨Nat.le_of_ble_eq_true rfl, Nat.le_of_ble_eq_true rfl⟩ trivial ⟨kc87, trivial⟩ (Nat.le_of_ble_eq_true rfl) rfl dX14_sizeOf_3 ?_
  refine v_popI dX14_sizeOf_6 ?_
  refine v_aload_n dX14_sizeOf_7 0 rfl rfl ?_
  refine v_getI (f := 19) cf14 oc87 rfl (by decide) q2389 dX14_sizeOf_8 ?_
  obtain ⟨y6, e7, h⟩ := vl_some h
  rw [← e7]
  have r8 : rg y6 := by rw [e7]; exact gI_rg _ _ _
  refine v_istore (L1 := [(4, vI y6), (0, vO 87), (1, vI x1), (2, vI x2), (3, vI x3)]) dX14_sizeOf_11 (by decide) rfl ?_
  refine v_aload_n dX14_sizeOf_13 1 rfl rfl ?_
  refine v_bipush dX14_sizeOf_14 rfl ?_
  obtain ⟨r12, s9, e10, h⟩ := bd_some h
  have k11 := c_X14_take e10 (rgl rfl)
  have r13 : rg r12 := k11.1.2.2
  refine v_callV (st := []) cf14 oc87 k11 (lw_V q2964 q2966 qs172 q311 q2967) rfl yk_X14_take ⟨Nat.le_of_ble_eq_true rfl, Nat.le_of_ble_eq_true rfl⟩ trivial ⟨kc87, trivial⟩ (Nat.le_of_ble_eq_true rfl) rfl dX14_sizeOf_16 ?_
  refine v_popI dX14_sizeOf_19 ?_
  refine v_aload_n dX14_sizeOf_20 1 rfl rfl ?_
  refine v_iload_n dX14_sizeOf_21 2 rfl rfl ?_
  refine v_iload_n dX14_sizeOf_22 4 rfl rfl ?_
  refine v_if_eq (tgt := 30) dX14_sizeOf_23 rx3 (by decide) (fun c14 => ?_) (fun c14 => ?_)
  · rw [if_pos c14] at h
    refine v_iload dX14_sizeOf_30 0 rfl ?_
    refine v_sub [1, 4] (L1 := [(0, vO 87), (3, vI x3)]) rfl ?_
    exact wj_X14_sizeOf_32 h rx3 rx1 r8
  · rw [if_neg c14] at h
    refine v_iload_n dX14_sizeOf_26 3 rfl rfl ?_
    refine v_goto (tgt := 32) dX14_sizeOf_27 (by decide) ?_
    refine v_sub [1, 4] (L1 := [(0, vO 87), (3, vI x3)]) rfl ?_
    exact wj_X14_sizeOf_32 h rx3 rx1 rx2

def j_X14_row_130 (x1 : Int) (z1 : Int) (z2 : Int) (s : vS) : Option (vS) :=
  gd (inb z1 (gN s 97)) <|
  stp (sE s 97 z1 z2) fun s2 =>
  gd (inb (gI s2 87 79) (gN s2 145)) <|
  stp (sE s2 145 (gI s2 87 79) x1) fun s5 =>
  gd (inb (gI s5 87 79) (gN s5 146)) <|
  stp (sE s5 146 (gI s5 87 79) (-1)) fun s8 =>
  stp (sI s8 87 79 (w32 ((gI s8 87 79) + 1))) fun s10 =>
  stp (sI s10 87 83 1) fun s12 =>
  some s12
theorem wj_X14_row_130 {x1 : Int} {z1 : Int} {z2 : Int} {s : vS} {out : vS} (h : j_X14_row_130 x1 z1 z2 s = some out)  (rx1 : rg x1) (rz1 : rg z1) (rz2 : rg z2) : VW cX14_row (RX14, none, out, none, 5, 115, 3, []) (P0 []) s 130 [(0, vO 87), (1, vI x1)] [vI z2, vI z1, vO 97] := by
  unfold j_X14_row_130 at h
  obtain ⟨g1, h⟩ := gd_some h
  obtain ⟨s2, e3, h⟩ := stp_some h
  refine v_iast oc97 rz1 g1.1 g1.2 dX14_row_130 ?_
  rw [← e3]
  refine v_aload_n dX14_row_131 0 rfl rfl ?_
  refine v_getS (f := 80) (t := 145) cf14 oc87 rfl rfl rfl (by decide) q2450 dX14_row_132 ?_
  refine v_aload_n dX14_row_135 0 rfl rfl ?_
  refine v_getI (f := 79) cf14 oc87 rfl (by decide) q2449 dX14_row_136 ?_
  refine v_iload_n dX14_row_139 1 rfl rfl ?_
  obtain ⟨g4, h⟩ := gd_some h
  obtain ⟨s5, e6, h⟩ := stp_some h
  refine v_iast oc145 (gI_rg _ _ _) g4.1 g4.2 dX14_row_140 ?_
  rw [← e6]
  refine v_aload_n dX14_row_141 0 rfl rfl ?_
  refine v_getS (f := 81) (t := 146) cf14 oc87 rfl rfl rfl (by decide) q2451 dX14_row_142 ?_
  refine v_aload_n dX14_row_145 0 rfl rfl ?_
  refine v_getI (f := 79) cf14 oc87 rfl (by decide) q2449 dX14_row_146 ?_
  refine v_iconst dX14_row_149 ?_
  obtain ⟨g7, h⟩ := gd_some h
  obtain ⟨s8, e9, h⟩ := stp_some h
  refine v_iast oc146 (gI_rg _ _ _) g7.1 g7.2 dX14_row_150 ?_
  rw [← e9]
  refine v_aload_n dX14_row_151 0 rfl rfl ?_
  refine v_dupO dX14_row_152 ?_
  refine v_getI (f := 79) cf14 oc87 rfl (by decide) q2449 dX14_row_153 ?_
  refine v_iconst dX14_row_156 ?_
  refine v_iadd dX14_row_157 ?_
  obtain ⟨s10, e11, h⟩ := stp_some h
  refine v_putI (f := 79) cf14 oc87 rfl (by decide) q2449 dX14_row_158 rfl rfl ?_
  rw [← e11]
  refine v_aload_n dX14_row_161 0 rfl rfl ?_
  refine v_iconst dX14_row_162 ?_
  obtain ⟨s12, e13, h⟩ := stp_some h
  refine v_putZ (f := 83) cf14 oc87 rfl (by decide) q2453 dX14_row_163 rfl rfl (Or.inr rfl) ?_
  rw [← e13]
  cases h
  exact v_vret dX14_row_166

def j_X14_row_92 (x1 : Int) (s : vS) : Option (vS) :=
  bd (f_X14_take 89 s) fun r4 s1 =>
  if (gI s1 87 8) ≤ 0 then
    gd (inb x1 (gN s1 97)) <|
    if (gE s1 97 x1) = 12 then
      j_X14_row_130 x1 x1 14 s1
    else
      j_X14_row_130 x1 x1 15 s1
  else
    some s1
theorem wj_X14_row_92 {x1 : Int} {s : vS} {out : vS} (h : j_X14_row_92 x1 s = some out)  (rx1 : rg x1) : VW cX14_row (RX14, none, out, none, 5, 115, 3, []) (P0 []) s 92 [(0, vO 87), (1, vI x1)] [] := by
  unfold j_X14_row_92 at h
  refine v_aload_n dX14_row_92 0 rfl rfl ?_
  refine v_bipush dX14_row_93 rfl ?_
  obtain ⟨r4, s1, e2, h⟩ := bd_some h
  have k3 := c_X14_take e2 (rgl rfl)
  have r5 : rg r4 := k3.1.2.2
  refine v_callV (st := []) cf14 oc87 k3 (lw_V q2964 q2966 qs172 q311 q2967) rfl yk_X14_take ⟨Nat.le_of_ble_eq_true rfl, Nat.le_of_ble_eq_true rfl⟩ trivial ⟨kc87, trivial⟩ (Nat.le_of_ble_eq_true rfl) rfl dX14_row_95 ?_
  refine v_popI dX14_row_98 ?_
  refine v_aload_n dX14_row_99 0 rfl rfl ?_
  refine v_getI (f := 8) cf14 oc87 rfl (by decide) q2378 dX14_row_100 ?_
  refine v_if_le (tgt := 107) dX14_row_103 (gI_rg _ _ _) (by decide) (fun c6 => ?_) (fun c6 => ?_)
  · rw [if_pos c6] at h
    refine v_aload_n dX14_row_107 0 rfl rfl ?_
    refine v_getS (f := 21) (t := 97) cf14 oc87 rfl rfl rfl (by decide) q2391 dX14_row_108 ?_
    refine v_iload_n dX14_row_111 1 rfl rfl ?_
    refine v_aload_n dX14_row_112 0 rfl rfl ?_
    refine v_getS (f := 21) (t := 97) cf14 oc87 rfl rfl rfl (by decide) q2391 dX14_row_113 ?_
    refine v_iload_n dX14_row_116 1 rfl rfl ?_
    obtain ⟨g7, h⟩ := gd_some h
    refine v_iald oc97 rx1 g7.1 g7.2 dX14_row_117 ?_
    refine v_bipush dX14_row_118 rfl ?_
    refine v_icmp_ne (tgt := 128) dX14_row_120 (gE_rg _ _ _) (rgl rfl) (by decide) (fun c8 => ?_) (fun c8 => ?_)
    · rw [if_neg c8] at h
      refine v_bipush dX14_row_128 rfl ?_
      exact wj_X14_row_130 h rx1 rx1 (rgl rfl)
    · rw [if_pos c8] at h
      refine v_bipush dX14_row_123 rfl ?_
      refine v_goto (tgt := 130) dX14_row_125 (by decide) ?_
      exact wj_X14_row_130 h rx1 rx1 (rgl rfl)
  · rw [if_neg c6] at h
    cases h
    exact v_vret dX14_row_106

def j_X14_row_54 (x1 : Int) (s : vS) : Option (vS) :=
  if (gI s 87 8) = 0 then
    bd (f_X14_is 16 s) fun r5 s2 =>
    if r5 = 0 then
      j_X14_row_92 x1 s2
    else
      vl (gI s2 87 19) fun y8 =>
      stp (sI s2 87 19 (w32 ((gI s2 87 19) + 1))) fun s11 =>
      bdv (f_X14_sizeOf x1 y8 1 s11) fun s13 =>
      j_X14_row_92 x1 s13
  else
    j_X14_row_92 x1 s
theorem wj_X14_row_54 {x1 : Int} {s : vS} {out : vS} (h : j_X14_row_54 x1 s = some out)  (rx1 : rg x1) : VW cX14_row (RX14, none, out, none, 5, 115, 3, []) (P0 []) s 54 [(0, vO 87), (1, vI x1)] [] := by
  unfold j_X14_row_54 at h
  refine v_aload_n dX14_row_54 0 rfl rfl ?_
  refine v_getI (f := 8) cf14 oc87 rfl (by decide) q2378 dX14_row_55 ?_
  refine v_if_ne (tgt := 92) dX14_row_58 (gI_rg _ _ _) (by decide) (fun c1 => ?_) (fun c1 => ?_)
  · rw [if_neg c1] at h
    exact wj_X14_row_92 h rx1
  · rw [if_pos c1] at h
    refine v_aload_n dX14_row_61 0 rfl rfl ?_
    refine v_bipush dX14_row_62 rfl ?_
    obtain ⟨r5, s2, e3, h⟩ := bd_some h
    have k4 := c_X14_is e3 (rgl rfl)
    have r6 : rg r5 := k4.1.2.2
    refine v_callV (st := []) cf14 oc87 k4 (lw_V q2968 q2970 qs173 q311 q2971) rfl yk_X14_is ⟨Nat.le_of_ble_eq_true rfl, Nat.le_of_ble_eq_true rfl⟩ trivial ⟨kc87, trivial⟩ (Nat.le_of_ble_eq_true rfl) rfl dX14_row_64 ?_
    refine v_if_eq (tgt := 92) dX14_row_67 r6 (by decide) (fun c7 => ?_) (fun c7 => ?_)
    · rw [if_pos c7] at h
      exact wj_X14_row_92 h rx1
    · rw [if_neg c7] at h
      refine v_aload_n dX14_row_70 0 rfl rfl ?_
      refine v_getI (f := 19) cf14 oc87 rfl (by decide) q2389 dX14_row_71 ?_
      obtain ⟨y8, e9, h⟩ := vl_some h
      rw [← e9]
      have r10 : rg y8 := by rw [e9]; exact gI_rg _ _ _
      refine v_istore_n (L1 := [(2, vI y8), (0, vO 87), (1, vI x1)]) dX14_row_74 rfl (by decide) rfl ?_
      refine v_aload_n dX14_row_75 1 rfl rfl ?_
      refine v_dupO dX14_row_76 ?_
      refine v_getI (f := 19) cf14 oc87 rfl (by decide) q2389 dX14_row_77 ?_
      refine v_iconst dX14_row_80 ?_
      refine v_iadd dX14_row_81 ?_
      obtain ⟨s11, e12, h⟩ := stp_some h
      refine v_putI (f := 19) cf14 oc87 rfl (by decide) q2389 dX14_row_82 rfl rfl ?_
      rw [← e12]
      refine v_aload_n dX14_row_85 1 rfl rfl ?_
      refine v_iload_n dX14_row_86 2 rfl rfl ?_
      refine v_iload_n dX14_row_87 0 rfl rfl ?_
      refine v_iconst dX14_row_88 ?_
      obtain ⟨s13, e14, h⟩ := bdv_some h
      have k15 := c_X14_sizeOf e14 rx1 r10 (rgl rfl)
      refine v_callV (st := []) cf14 oc87 k15 (lw_V q3045 q3047 qs191 q311 q3048) rfl yk_X14_sizeOf ⟨Nat.le_of_ble_eq_true rfl, Nat.le_of_ble_eq_true rfl⟩ trivial ⟨kc87, trivial⟩ (Nat.le_of_ble_eq_true rfl) rfl dX14_row_89 ?_
      refine v_sub [1, 2] (L1 := [(0, vO 87), (1, vI x1)]) rfl ?_
      exact wj_X14_row_92 h rx1

def f_X14_row (x1 : Int) (s : vS) : Option (vS) :=
  bd (f_X14_eat 12 s) fun r4 s1 =>
  if r4 = 0 then
    if (gI s1 87 8) = 0 then
      bd (f_X14_is 101 s1) fun r11 s8 =>
      if r11 = 0 then
        j_X14_row_54 x1 s8
      else
        bdv (f_X14_sizeOf x1 (gI s8 87 19) 0 s8) fun s14 =>
        j_X14_row_92 x1 s14
    else
      j_X14_row_54 x1 s1
  else
    bd (f_X14_eat 13 s1) fun r20 s17 =>
    if r20 = 0 then
      bdv (f_X14_component x1 (-1) s17) fun s23 =>
      some s23
    else
      some s17
theorem yk_X14_row : yOk yX14_row 1 := ⟨by decide, by decide, by decide +kernel⟩
theorem c_X14_row {x1 : Int} {s : vS} {out : vS} (h : f_X14_row x1 s = some out)  (rx1 : rg x1) : VC yX14_row cX14_row 3 none 5 115 [vO 87, vI x1] s none out [] := by
  unfold f_X14_row at h
  refine VC.of RX14 (by decide) rfl (Nat.le_of_ble_eq_true rfl) ?_
  show VW cX14_row (RX14, none, out, none, 5, 115, 3, []) (P0 []) s 0 [(0, vO 87), (1, vI x1)] []
  refine v_aload_n dX14_row_0 0 rfl rfl ?_
  refine v_bipush dX14_row_1 rfl ?_
  obtain ⟨r4, s1, e2, h⟩ := bd_some h
  have k3 := c_X14_eat e2 (rgl rfl)
  have r5 : rg r4 := k3.1.2.2
  refine v_callV (st := []) cf14 oc87 k3 (lw_V q2976 q2978 qs175 q311 q2979) rfl yk_X14_eat ⟨Nat.le_of_ble_eq_true rfl, Nat.le_of_ble_eq_true rfl⟩ trivial ⟨kc87, trivial⟩ (Nat.le_of_ble_eq_true rfl) rfl dX14_row_3 ?_
  refine v_if_eq (tgt := 25) dX14_row_6 r5 (by decide) (fun c6 => ?_) (fun c6 => ?_)
  · rw [if_pos c6] at h
    refine v_aload_n dX14_row_25 0 rfl rfl ?_
    refine v_getI (f := 8) cf14 oc87 rfl (by decide) q2378 dX14_row_26 ?_
    refine v_if_ne (tgt := 54) dX14_row_29 (gI_rg _ _ _) (by decide) (fun c7 => ?_) (fun c7 => ?_)
    · rw [if_neg c7] at h
      exact wj_X14_row_54 h rx1
    · rw [if_pos c7] at h
      refine v_aload_n dX14_row_32 0 rfl rfl ?_
      refine v_bipush dX14_row_33 rfl ?_
      obtain ⟨r11, s8, e9, h⟩ := bd_some h
      have k10 := c_X14_is e9 (rgl rfl)
      have r12 : rg r11 := k10.1.2.2
      refine v_callV (st := []) cf14 oc87 k10 (lw_V q2968 q2970 qs173 q311 q2971) rfl yk_X14_is ⟨Nat.le_of_ble_eq_true rfl, Nat.le_of_ble_eq_true rfl⟩ trivial ⟨kc87, trivial⟩ (Nat.le_of_ble_eq_true rfl) rfl dX14_row_35 ?_
      refine v_if_eq (tgt := 54) dX14_row_38 r12 (by decide) (fun c13 => ?_) (fun c13 => ?_)
      · rw [if_pos c13] at h
        exact wj_X14_row_54 h rx1
      · rw [if_neg c13] at h
        refine v_aload_n dX14_row_41 0 rfl rfl ?_
        refine v_iload_n dX14_row_42 1 rfl rfl ?_
        refine v_aload_n dX14_row_43 0 rfl rfl ?_
        refine v_getI (f := 19) cf14 oc87 rfl (by decide) q2389 dX14_row_44 ?_
        refine v_iconst dX14_row_47 ?_
        obtain ⟨s14, e15, h⟩ := bdv_some h
        have k16 := c_X14_sizeOf e15 rx1 (gI_rg _ _ _) (rgl rfl)
        refine v_callV (st := []) cf14 oc87 k16 (lw_V q3045 q3047 qs191 q311 q3048) rfl yk_X14_sizeOf ⟨Nat.le_of_ble_eq_true rfl, Nat.le_of_ble_eq_true rfl⟩ trivial ⟨kc87, trivial⟩ (Nat.le_of_ble_eq_true rfl) rfl dX14_row_48 ?_
        refine v_goto (tgt := 92) dX14_row_51 (by decide) ?_
        exact wj_X14_row_92 h rx1
  · rw [if_neg c6] at h
    refine v_aload_n dX14_row_9 0 rfl rfl ?_
    refine v_bipush dX14_row_10 rfl ?_
    obtain ⟨r20, s17, e18, h⟩ := bd_some h
    have k19 := c_X14_eat e18 (rgl rfl)
    have r21 : rg r20 := k19.1.2.2
    refine v_callV (st := []) cf14 oc87 k19 (lw_V q2976 q2978 qs175 q311 q2979) rfl yk_X14_eat ⟨Nat.le_of_ble_eq_true rfl, Nat.le_of_ble_eq_true rfl⟩ trivial ⟨kc87, trivial⟩ (Nat.le_of_ble_eq_true rfl) rfl dX14_row_12 ?_
    refine v_if_ne (tgt := 24) dX14_row_15 r21 (by decide) (fun c22 => ?_) (fun c22 => ?_)
    · rw [if_neg c22] at h
      cases h
      exact v_vret dX14_row_24
    · rw [if_pos c22] at h
      refine v_aload_n dX14_row_18 0 rfl rfl ?_
      refine v_iload_n dX14_row_19 1 rfl rfl ?_
      refine v_iconst dX14_row_20 ?_
      obtain ⟨s23, e24, h⟩ := bdv_some h
      have k25 := c_X14_component e24 rx1 (rgl rfl)
      refine v_callV (st := []) cf14 oc87 k25 (lw_V q3041 q3043 qs190 q311 q3044) rfl yk_X14_component ⟨Nat.le_of_ble_eq_true rfl, Nat.le_of_ble_eq_true rfl⟩ trivial ⟨kc87, trivial⟩ (Nat.le_of_ble_eq_true rfl) rfl dX14_row_21 ?_
      cases h
      exact v_vret dX14_row_24

def j_X14_base_239 (x1 : Int) (s : vS) : Option (vS) :=
  bdv (f_X14_row x1 s) fun s1 =>
  some s1
theorem wj_X14_base_239 {x1 : Int} {s : vS} {out : vS} (h : j_X14_base_239 x1 s = some out)  (rx1 : rg x1) : VW cX14_base (RX14, none, out, none, 6, 137, 2, []) (P0 []) s 239 [(0, vO 87), (1, vI x1)] [] := by
  unfold j_X14_base_239 at h
  refine v_aload_n dX14_base_239 0 rfl rfl ?_
  refine v_iload_n dX14_base_240 1 rfl rfl ?_
  obtain ⟨s1, e2, h⟩ := bdv_some h
  have k3 := c_X14_row e2 rx1
  refine v_callV (st := []) cf14 oc87 k3 (lw_V q3037 q3039 qs189 q311 q3040) rfl yk_X14_row ⟨Nat.le_of_ble_eq_true rfl, Nat.le_of_ble_eq_true rfl⟩ trivial ⟨kc87, trivial⟩ (Nat.le_of_ble_eq_true rfl) rfl dX14_base_241 ?_
  refine v_goto (tgt := 319) dX14_base_244 (by decide) ?_
  cases h
  exact v_vret dX14_base_319

def f_X14_base (x1 : Int) (s : vS) : Option (vS) :=
  bd (f_X14_simple x1 48 0 s) fun r4 s1 =>
  if r4 = 0 then
    bd (f_X14_simple x1 85 1 s1) fun r10 s7 =>
    if r10 = 0 then
      bd (f_X14_simple x1 112 7 s7) fun r16 s13 =>
      if r16 = 0 then
        bd (f_X14_simple x1 96 8 s13) fun r22 s19 =>
        if r22 = 0 then
          bd (f_X14_simple x1 72 9 s19) fun r28 s25 =>
          if r28 = 0 then
            bd (f_X14_simple x1 111 10 s25) fun r34 s31 =>
            if r34 = 0 then
              bd (f_X14_simple x1 70 11 s31) fun r40 s37 =>
              if r40 = 0 then
                bd (f_X14_simple x1 79 2 s37) fun r46 s43 =>
                if r46 = 0 then
                  bd (f_X14_simple x1 61 3 s43) fun r52 s49 =>
                  if r52 = 0 then
                    bd (f_X14_simple x1 46 4 s49) fun r58 s55 =>
                    if r58 = 0 then
                      bd (f_X14_simple x1 88 5 s55) fun r64 s61 =>
                      if r64 = 0 then
                        bd (f_X14_simple x1 87 6 s61) fun r70 s67 =>
                        if r70 = 0 then
                          bd (f_X14_simple x1 99 12 s67) fun r76 s73 =>
                          if r76 = 0 then
                            bd (f_X14_simple x1 100 13 s73) fun r82 s79 =>
                            if r82 = 0 then
                              bd (f_X14_simple x1 51 16 s79) fun r88 s85 =>
                              if r88 = 0 then
                                bd (f_X14_is 1 s85) fun r94 s91 =>
                                if r94 = 0 then
                                  bdv (f_X14_misfit 1 s91) fun s97 =>
                                  some s97
                                else
                                  gd (inb x1 (gN s91 97)) <|
                                  stp (sE s91 97 x1 17) fun s101 =>
                                  gd (inb x1 (gN s101 101)) <|
                                  stp (sE s101 101 x1 (gI s101 87 19)) fun s104 =>
                                  stp (sI s104 87 19 (w32 ((gI s104 87 19) + 1))) fun s106 =>
                                  some s106
                              else
                                bd (f_X14_take 12 s85) fun r111 s108 =>
                                bdv (f_X14_component x1 (-1) s108) fun s113 =>
                                some s113
                            else
                              j_X14_base_239 x1 s79
                          else
                            j_X14_base_239 x1 s73
                        else
                          bd (f_X14_take 73 s67) fun r119 s116 =>
                          some s116
                      else
                        bd (f_X14_take 102 s61) fun r124 s121 =>
                        some s121
                    else
                      bd (f_X14_take 102 s55) fun r129 s126 =>
                      if (gI s126 87 8) = 0 then
                        bd (f_X14_is 12 s126) fun r135 s132 =>
                        if r135 = 0 then
                          some s132
                        else
                          bdv (f_X14_itemsOf x1 s132) fun s138 =>
                          some s138
                      else
                        some s126
                  else
                    bdv (f_X14_itemsOf x1 s49) fun s141 =>
                    some s141
                else
                  bd (f_X14_is 12 s43) fun r147 s144 =>
                  if r147 = 0 then
                    some s144
                  else
                    bdv (f_X14_itemsOf x1 s144) fun s150 =>
                    some s150
              else
                some s37
            else
              some s31
          else
            some s25
        else
          some s19
      else
        some s13
    else
      some s7
  else
    some s1
theorem yk_X14_base : yOk yX14_base 1 := ⟨by decide, by decide, by decide +kernel⟩
theorem c_X14_base {x1 : Int} {s : vS} {out : vS} (h : f_X14_base x1 s = some out)  (rx1 : rg x1) : VC yX14_base cX14_base 2 none 6 137 [vO 87, vI x1] s none out [] := by
  unfold f_X14_base at h
  refine VC.of RX14 (by decide) rfl (Nat.le_of_ble_eq_true rfl) ?_
  show VW cX14_base (RX14, none, out, none, 6, 137, 2, []) (P0 []) s 0 [(0, vO 87), (1, vI x1)] []
  refine v_aload_n dX14_base_0 0 rfl rfl ?_
  refine v_iload_n dX14_base_1 1 rfl rfl ?_
  refine v_bipush dX14_base_2 rfl ?_
  refine v_iconst dX14_base_4 ?_
  obtain ⟨r4, s1, e2, h⟩ := bd_some h
  have k3 := c_X14_simple e2 rx1 (rgl rfl) (rgl rfl)
  have r5 : rg r4 := k3.1.2.2
  refine v_callV (st := []) cf14 oc87 k3 (lw_V q3029 q3031 qs187 q311 q3032) rfl yk_X14_simple ⟨Nat.le_of_ble_eq_true rfl, Nat.le_of_ble_eq_true rfl⟩ trivial ⟨kc87, trivial⟩ (Nat.le_of_ble_eq_true rfl) rfl dX14_base_5 ?_
  refine v_if_ne (tgt := 82) dX14_base_8 r5 (by decide) (fun c6 => ?_) (fun c6 => ?_)
  · rw [if_neg c6] at h
    cases h
    exact v_vret dX14_base_82
  · rw [if_pos c6] at h
    refine v_aload_n dX14_base_11 0 rfl rfl ?_
    refine v_iload_n dX14_base_12 1 rfl rfl ?_
    refine v_bipush dX14_base_13 rfl ?_
    refine v_iconst dX14_base_15 ?_
    obtain ⟨r10, s7, e8, h⟩ := bd_some h
    have k9 := c_X14_simple e8 rx1 (rgl rfl) (rgl rfl)
    have r11 : rg r10 := k9.1.2.2
    refine v_callV (st := []) cf14 oc87 k9 (lw_V q3029 q3031 qs187 q311 q3032) rfl yk_X14_simple ⟨Nat.le_of_ble_eq_true rfl, Nat.le_of_ble_eq_true rfl⟩ trivial ⟨kc87, trivial⟩ (Nat.le_of_ble_eq_true rfl) rfl dX14_base_16 ?_
    refine v_if_ne (tgt := 82) dX14_base_19 r11 (by decide) (fun c12 => ?_) (fun c12 => ?_)
    · rw [if_neg c12] at h
      cases h
      exact v_vret dX14_base_82
    · rw [if_pos c12] at h
      refine v_aload_n dX14_base_22 0 rfl rfl ?_
      refine v_iload_n dX14_base_23 1 rfl rfl ?_
      refine v_bipush dX14_base_24 rfl ?_
      refine v_bipush dX14_base_26 rfl ?_
      obtain ⟨r16, s13, e14, h⟩ := bd_some h
      have k15 := c_X14_simple e14 rx1 (rgl rfl) (rgl rfl)
      have r17 : rg r16 := k15.1.2.2
      refine v_callV (st := []) cf14 oc87 k15 (lw_V q3029 q3031 qs187 q311 q3032) rfl yk_X14_simple ⟨Nat.le_of_ble_eq_true rfl, Nat.le_of_ble_eq_true rfl⟩ trivial ⟨kc87, trivial⟩ (Nat.le_of_ble_eq_true rfl) rfl dX14_base_28 ?_
      refine v_if_ne (tgt := 82) dX14_base_31 r17 (by decide) (fun c18 => ?_) (fun c18 => ?_)
      · rw [if_neg c18] at h
        cases h
        exact v_vret dX14_base_82
      · rw [if_pos c18] at h
        refine v_aload_n dX14_base_34 0 rfl rfl ?_
        refine v_iload_n dX14_base_35 1 rfl rfl ?_
        refine v_bipush dX14_base_36 rfl ?_
        refine v_bipush dX14_base_38 rfl ?_
        obtain ⟨r22, s19, e20, h⟩ := bd_some h
        have k21 := c_X14_simple e20 rx1 (rgl rfl) (rgl rfl)
        have r23 : rg r22 := k21.1.2.2
        refine v_callV (st := []) cf14 oc87 k21 (lw_V q3029 q3031 qs187 q311 q3032) rfl yk_X14_simple ⟨Nat.le_of_ble_eq_true rfl, Nat.le_of_ble_eq_true rfl⟩ trivial ⟨kc87, trivial⟩ (Nat.le_of_ble_eq_true rfl) rfl dX14_base_40 ?_
        refine v_if_ne (tgt := 82) dX14_base_43 r23 (by decide) (fun c24 => ?_) (fun c24 => ?_)
        · rw [if_neg c24] at h
          cases h
          exact v_vret dX14_base_82
        · rw [if_pos c24] at h
          refine v_aload_n dX14_base_46 0 rfl rfl ?_
          refine v_iload_n dX14_base_47 1 rfl rfl ?_
          refine v_bipush dX14_base_48 rfl ?_
          refine v_bipush dX14_base_50 rfl ?_
          obtain ⟨r28, s25, e26, h⟩ := bd_some h
          have k27 := c_X14_simple e26 rx1 (rgl rfl) (rgl rfl)
          have r29 : rg r28 := k27.1.2.2
          refine v_callV (st := []) cf14 oc87 k27 (lw_V q3029 q3031 qs187 q311 q3032) rfl yk_X14_simple ⟨Nat.le_of_ble_eq_true rfl, Nat.le_of_ble_eq_true rfl⟩ trivial ⟨kc87, trivial⟩ (Nat.le_of_ble_eq_true rfl) rfl dX14_base_52 ?_
          refine v_if_ne (tgt := 82) dX14_base_55 r29 (by decide) (fun c30 => ?_) (fun c30 => ?_)
          · rw [if_neg c30] at h
            cases h
            exact v_vret dX14_base_82
          · rw [if_pos c30] at h
            refine v_aload_n dX14_base_58 0 rfl rfl ?_
            refine v_iload_n dX14_base_59 1 rfl rfl ?_
            refine v_bipush dX14_base_60 rfl ?_
            refine v_bipush dX14_base_62 rfl ?_
            obtain ⟨r34, s31, e32, h⟩ := bd_some h
            have k33 := c_X14_simple e32 rx1 (rgl rfl) (rgl rfl)
            have r35 : rg r34 := k33.1.2.2
            refine v_callV (st := []) cf14 oc87 k33 (lw_V q3029 q3031 qs187 q311 q3032) rfl yk_X14_simple ⟨Nat.le_of_ble_eq_true rfl, Nat.le_of_ble_eq_true rfl⟩ trivial ⟨kc87, trivial⟩ (Nat.le_of_ble_eq_true rfl) rfl dX14_base_64 ?_
            refine v_if_ne (tgt := 82) dX14_base_67 r35 (by decide) (fun c36 => ?_) (fun c36 => ?_)
            · rw [if_neg c36] at h
              cases h
              exact v_vret dX14_base_82
            · rw [if_pos c36] at h
              refine v_aload_n dX14_base_70 0 rfl rfl ?_
              refine v_iload_n dX14_base_71 1 rfl rfl ?_
              refine v_bipush dX14_base_72 rfl ?_
              refine v_bipush dX14_base_74 rfl ?_
              obtain ⟨r40, s37, e38, h⟩ := bd_some h
              have k39 := c_X14_simple e38 rx1 (rgl rfl) (rgl rfl)
              have r41 : rg r40 := k39.1.2.2
              refine v_callV (st := []) cf14 oc87 k39 (lw_V q3029 q3031 qs187 q311 q3032) rfl yk_X14_simple ⟨Nat.le_of_ble_eq_true rfl, Nat.le_of_ble_eq_true rfl⟩ trivial ⟨kc87, trivial⟩ (Nat.le_of_ble_eq_true rfl) rfl dX14_base_76 ?_
              refine v_if_eq (tgt := 83) dX14_base_79 r41 (by decide) (fun c42 => ?_) (fun c42 => ?_)
              · rw [if_pos c42] at h
                refine v_aload_n dX14_base_83 0 rfl rfl ?_
                refine v_iload_n dX14_base_84 1 rfl rfl ?_
                refine v_bipush dX14_base_85 rfl ?_
                refine v_iconst dX14_base_87 ?_
                obtain ⟨r46, s43, e44, h⟩ := bd_some h
                have k45 := c_X14_simple e44 rx1 (rgl rfl) (rgl rfl)
                have r47 : rg r46 := k45.1.2.2
                refine v_callV (st := []) cf14 oc87 k45 (lw_V q3029 q3031 qs187 q311 q3032) rfl yk_X14_simple ⟨Nat.le_of_ble_eq_true rfl, Nat.le_of_ble_eq_true rfl⟩ trivial ⟨kc87, trivial⟩ (Nat.le_of_ble_eq_true rfl) rfl dX14_base_88 ?_
                refine v_if_eq (tgt := 111) dX14_base_91 r47 (by decide) (fun c48 => ?_) (fun c48 => ?_)
                · rw [if_pos c48] at h
                  refine v_aload_n dX14_base_111 0 rfl rfl ?_
                  refine v_iload_n dX14_base_112 1 rfl rfl ?_
                  refine v_bipush dX14_base_113 rfl ?_
                  refine v_iconst dX14_base_115 ?_
                  obtain ⟨r52, s49, e50, h⟩ := bd_some h
                  have k51 := c_X14_simple e50 rx1 (rgl rfl) (rgl rfl)
                  have r53 : rg r52 := k51.1.2.2
                  refine v_callV (st := []) cf14 oc87 k51 (lw_V q3029 q3031 qs187 q311 q3032) rfl yk_X14_simple ⟨Nat.le_of_ble_eq_true rfl, Nat.le_of_ble_eq_true rfl⟩ trivial ⟨kc87, trivial⟩ (Nat.le_of_ble_eq_true rfl) rfl dX14_base_116 ?_
                  refine v_if_eq (tgt := 130) dX14_base_119 r53 (by decide) (fun c54 => ?_) (fun c54 => ?_)
                  · rw [if_pos c54] at h
                    refine v_aload_n dX14_base_130 0 rfl rfl ?_
                    refine v_iload_n dX14_base_131 1 rfl rfl ?_
                    refine v_bipush dX14_base_132 rfl ?_
                    refine v_iconst dX14_base_134 ?_
                    obtain ⟨r58, s55, e56, h⟩ := bd_some h
                    have k57 := c_X14_simple e56 rx1 (rgl rfl) (rgl rfl)
                    have r59 : rg r58 := k57.1.2.2
                    refine v_callV (st := []) cf14 oc87 k57 (lw_V q3029 q3031 qs187 q311 q3032) rfl yk_X14_simple ⟨Nat.le_of_ble_eq_true rfl, Nat.le_of_ble_eq_true rfl⟩ trivial ⟨kc87, trivial⟩ (Nat.le_of_ble_eq_true rfl) rfl dX14_base_135 ?_
                    refine v_if_eq (tgt := 172) dX14_base_138 r59 (by decide) (fun c60 => ?_) (fun c60 => ?_)
                    · rw [if_pos c60] at h
                      refine v_aload_n dX14_base_172 0 rfl rfl ?_
                      refine v_iload_n dX14_base_173 1 rfl rfl ?_
                      refine v_bipush dX14_base_174 rfl ?_
                      refine v_iconst dX14_base_176 ?_
                      obtain ⟨r64, s61, e62, h⟩ := bd_some h
                      have k63 := c_X14_simple e62 rx1 (rgl rfl) (rgl rfl)
                      have r65 : rg r64 := k63.1.2.2
                      refine v_callV (st := []) cf14 oc87 k63 (lw_V q3029 q3031 qs187 q311 q3032) rfl yk_X14_simple ⟨Nat.le_of_ble_eq_true rfl, Nat.le_of_ble_eq_true rfl⟩ trivial ⟨kc87, trivial⟩ (Nat.le_of_ble_eq_true rfl) rfl dX14_base_177 ?_
                      refine v_if_eq (tgt := 193) dX14_base_180 r65 (by decide) (fun c66 => ?_) (fun c66 => ?_)
                      · rw [if_pos c66] at h
                        refine v_aload_n dX14_base_193 0 rfl rfl ?_
                        refine v_iload_n dX14_base_194 1 rfl rfl ?_
                        refine v_bipush dX14_base_195 rfl ?_
                        refine v_bipush dX14_base_197 rfl ?_
                        obtain ⟨r70, s67, e68, h⟩ := bd_some h
                        have k69 := c_X14_simple e68 rx1 (rgl rfl) (rgl rfl)
                        have r71 : rg r70 := k69.1.2.2
                        refine v_callV (st := []) cf14 oc87 k69 (lw_V q3029 q3031 qs187 q311 q3032) rfl yk_X14_simple ⟨Nat.le_of_ble_eq_true rfl, Nat.le_of_ble_eq_true rfl⟩ trivial ⟨kc87, trivial⟩ (Nat.le_of_ble_eq_true rfl) rfl dX14_base_199 ?_
                        refine v_if_eq (tgt := 215) dX14_base_202 r71 (by decide) (fun c72 => ?_) (fun c72 => ?_)
                        · rw [if_pos c72] at h
                          refine v_aload_n dX14_base_215 0 rfl rfl ?_
                          refine v_iload_n dX14_base_216 1 rfl rfl ?_
                          refine v_bipush dX14_base_217 rfl ?_
                          refine v_bipush dX14_base_219 rfl ?_
                          obtain ⟨r76, s73, e74, h⟩ := bd_some h
                          have k75 := c_X14_simple e74 rx1 (rgl rfl) (rgl rfl)
                          have r77 : rg r76 := k75.1.2.2
                          refine v_callV (st := []) cf14 oc87 k75 (lw_V q3029 q3031 qs187 q311 q3032) rfl yk_X14_simple ⟨Nat.le_of_ble_eq_true rfl, Nat.le_of_ble_eq_true rfl⟩ trivial ⟨kc87, trivial⟩ (Nat.le_of_ble_eq_true rfl) rfl dX14_base_221 ?_
                          refine v_if_ne (tgt := 239) dX14_base_224 r77 (by decide) (fun c78 => ?_) (fun c78 => ?_)
                          · rw [if_neg c78] at h
                            exact wj_X14_base_239 h rx1
                          · rw [if_pos c78] at h
                            refine v_aload_n dX14_base_227 0 rfl rfl ?_
                            refine v_iload_n dX14_base_228 1 rfl rfl ?_
                            refine v_bipush dX14_base_229 rfl ?_
                            refine v_bipush dX14_base_231 rfl ?_
                            obtain ⟨r82, s79, e80, h⟩ := bd_some h
                            have k81 := c_X14_simple e80 rx1 (rgl rfl) (rgl rfl)
                            have r83 : rg r82 := k81.1.2.2
                            refine v_callV (st := []) cf14 oc87 k81 (lw_V q3029 q3031 qs187 q311 q3032) rfl yk_X14_simple ⟨Nat.le_of_ble_eq_true rfl, Nat.le_of_ble_eq_true rfl⟩ trivial ⟨kc87, trivial⟩ (Nat.le_of_ble_eq_true rfl) rfl dX14_base_233 ?_
                            refine v_if_eq (tgt := 247) dX14_base_236 r83 (by decide) (fun c84 => ?_) (fun c84 => ?_)
                            · rw [if_pos c84] at h
                              refine v_aload_n dX14_base_247 0 rfl rfl ?_
                              refine v_iload_n dX14_base_248 1 rfl rfl ?_
                              refine v_bipush dX14_base_249 rfl ?_
                              refine v_bipush dX14_base_251 rfl ?_
                              obtain ⟨r88, s85, e86, h⟩ := bd_some h
                              have k87 := c_X14_simple e86 rx1 (rgl rfl) (rgl rfl)
                              have r89 : rg r88 := k87.1.2.2
                              refine v_callV (st := []) cf14 oc87 k87 (lw_V q3029 q3031 qs187 q311 q3032) rfl yk_X14_simple ⟨Nat.le_of_ble_eq_true rfl, Nat.le_of_ble_eq_true rfl⟩ trivial ⟨kc87, trivial⟩ (Nat.le_of_ble_eq_true rfl) rfl dX14_base_253 ?_
                              refine v_if_eq (tgt := 275) dX14_base_256 r89 (by decide) (fun c90 => ?_) (fun c90 => ?_)
                              · rw [if_pos c90] at h
                                refine v_aload_n dX14_base_275 0 rfl rfl ?_
                                refine v_iconst dX14_base_276 ?_
                                obtain ⟨r94, s91, e92, h⟩ := bd_some h
                                have k93 := c_X14_is e92 (rgl rfl)
                                have r95 : rg r94 := k93.1.2.2
                                refine v_callV (st := []) cf14 oc87 k93 (lw_V q2968 q2970 qs173 q311 q2971) rfl yk_X14_is ⟨Nat.le_of_ble_eq_true rfl, Nat.le_of_ble_eq_true rfl⟩ trivial ⟨kc87, trivial⟩ (Nat.le_of_ble_eq_true rfl) rfl dX14_base_277 ?_
                                refine v_if_eq (tgt := 314) dX14_base_280 r95 (by decide) (fun c96 => ?_) (fun c96 => ?_)
                                · rw [if_pos c96] at h
                                  refine v_aload_n dX14_base_314 0 rfl rfl ?_
                                  refine v_iconst dX14_base_315 ?_
                                  obtain ⟨s97, e98, h⟩ := bdv_some h
                                  have k99 := c_X14_misfit e98 (rgl rfl)
                                  refine v_callV (st := []) cf14 oc87 k99 (lw_V q2972 q2974 qs174 q311 q2975) rfl yk_X14_misfit ⟨Nat.le_of_ble_eq_true rfl, Nat.le_of_ble_eq_true rfl⟩ trivial ⟨kc87, trivial⟩ (Nat.le_of_ble_eq_true rfl) rfl dX14_base_316 ?_
                                  cases h
                                  exact v_vret dX14_base_319
                                · rw [if_neg c96] at h
                                  refine v_aload_n dX14_base_283 0 rfl rfl ?_
                                  refine v_getS (f := 21) (t := 97) cf14 oc87 rfl rfl rfl (by decide) q2391 dX14_base_284 ?_
                                  refine v_iload_n dX14_base_287 1 rfl rfl ?_
                                  refine v_bipush dX14_base_288 rfl ?_
                                  obtain ⟨g100, h⟩ := gd_some h
                                  obtain ⟨s101, e102, h⟩ := stp_some h
                                  refine v_iast oc97 rx1 g100.1 g100.2 dX14_base_290 ?_
                                  rw [← e102]
                                  refine v_aload_n dX14_base_291 0 rfl rfl ?_
                                  refine v_getS (f := 25) (t := 101) cf14 oc87 rfl rfl rfl (by decide) q2395 dX14_base_292 ?_
                                  refine v_iload_n dX14_base_295 1 rfl rfl ?_
                                  refine v_aload_n dX14_base_296 0 rfl rfl ?_
                                  refine v_getI (f := 19) cf14 oc87 rfl (by decide) q2389 dX14_base_297 ?_
                                  obtain ⟨g103, h⟩ := gd_some h
                                  obtain ⟨s104, e105, h⟩ := stp_some h
                                  refine v_iast oc101 rx1 g103.1 g103.2 dX14_base_300 ?_
                                  rw [← e105]
                                  refine v_aload_n dX14_base_301 0 rfl rfl ?_
                                  refine v_dupO dX14_base_302 ?_
                                  refine v_getI (f := 19) cf14 oc87 rfl (by decide) q2389 dX14_base_303 ?_
                                  refine v_iconst dX14_base_306 ?_
                                  refine v_iadd dX14_base_307 ?_
                                  obtain ⟨s106, e107, h⟩ := stp_some h
                                  refine v_putI (f := 19) cf14 oc87 rfl (by decide) q2389 dX14_base_308 rfl rfl ?_
                                  rw [← e107]
                                  refine v_goto (tgt := 319) dX14_base_311 (by decide) ?_
                                  cases h
                                  exact v_vret dX14_base_319
                              · rw [if_neg c90] at h
                                refine v_aload_n dX14_base_259 0 rfl rfl ?_
                                refine v_bipush dX14_base_260 rfl ?_
                                obtain ⟨r111, s108, e109, h⟩ := bd_some h
                                have k110 := c_X14_take e109 (rgl rfl)
                                have r112 : rg r111 := k110.1.2.2
                                refine v_callV (st := []) cf14 oc87 k110 (lw_V q2964 q2966 qs172 q311 q2967) rfl yk_X14_take ⟨Nat.le_of_ble_eq_true rfl, Nat.le_of_ble_eq_true rfl⟩ trivial ⟨kc87, trivial⟩ (Nat.le_of_ble_eq_true rfl) rfl dX14_base_262 ?_
                                refine v_popI dX14_base_265 ?_
                                refine v_aload_n dX14_base_266 0 rfl rfl ?_
                                refine v_iload_n dX14_base_267 1 rfl rfl ?_
                                refine v_iconst dX14_base_268 ?_
                                obtain ⟨s113, e114, h⟩ := bdv_some h
                                have k115 := c_X14_component e114 rx1 (rgl rfl)
                                refine v_callV (st := []) cf14 oc87 k115 (lw_V q3041 q3043 qs190 q311 q3044) rfl yk_X14_component ⟨Nat.le_of_ble_eq_true rfl, Nat.le_of_ble_eq_true rfl⟩ trivial ⟨kc87, trivial⟩ (Nat.le_of_ble_eq_true rfl) rfl dX14_base_269 ?_
                                refine v_goto (tgt := 319) dX14_base_272 (by decide) ?_
                                cases h
                                exact v_vret dX14_base_319
                            · rw [if_neg c84] at h
                              exact wj_X14_base_239 h rx1
                        · rw [if_neg c72] at h
                          refine v_aload_n dX14_base_205 0 rfl rfl ?_
                          refine v_bipush dX14_base_206 rfl ?_
                          obtain ⟨r119, s116, e117, h⟩ := bd_some h
                          have k118 := c_X14_take e117 (rgl rfl)
                          have r120 : rg r119 := k118.1.2.2
                          refine v_callV (st := []) cf14 oc87 k118 (lw_V q2964 q2966 qs172 q311 q2967) rfl yk_X14_take ⟨Nat.le_of_ble_eq_true rfl, Nat.le_of_ble_eq_true rfl⟩ trivial ⟨kc87, trivial⟩ (Nat.le_of_ble_eq_true rfl) rfl dX14_base_208 ?_
                          refine v_popI dX14_base_211 ?_
                          refine v_goto (tgt := 319) dX14_base_212 (by decide) ?_
                          cases h
                          exact v_vret dX14_base_319
                      · rw [if_neg c66] at h
                        refine v_aload_n dX14_base_183 0 rfl rfl ?_
                        refine v_bipush dX14_base_184 rfl ?_
                        obtain ⟨r124, s121, e122, h⟩ := bd_some h
                        have k123 := c_X14_take e122 (rgl rfl)
                        have r125 : rg r124 := k123.1.2.2
                        refine v_callV (st := []) cf14 oc87 k123 (lw_V q2964 q2966 qs172 q311 q2967) rfl yk_X14_take ⟨Nat.le_of_ble_eq_true rfl, Nat.le_of_ble_eq_true rfl⟩ trivial ⟨kc87, trivial⟩ (Nat.le_of_ble_eq_true rfl) rfl dX14_base_186 ?_
                        refine v_popI dX14_base_189 ?_
                        refine v_goto (tgt := 319) dX14_base_190 (by decide) ?_
                        cases h
                        exact v_vret dX14_base_319
                    · rw [if_neg c60] at h
                      refine v_aload_n dX14_base_141 0 rfl rfl ?_
                      refine v_bipush dX14_base_142 rfl ?_
                      obtain ⟨r129, s126, e127, h⟩ := bd_some h
                      have k128 := c_X14_take e127 (rgl rfl)
                      have r130 : rg r129 := k128.1.2.2
                      refine v_callV (st := []) cf14 oc87 k128 (lw_V q2964 q2966 qs172 q311 q2967) rfl yk_X14_take ⟨Nat.le_of_ble_eq_true rfl, Nat.le_of_ble_eq_true rfl⟩ trivial ⟨kc87, trivial⟩ (Nat.le_of_ble_eq_true rfl) rfl dX14_base_144 ?_
                      refine v_popI dX14_base_147 ?_
                      refine v_aload_n dX14_base_148 0 rfl rfl ?_
                      refine v_getI (f := 8) cf14 oc87 rfl (by decide) q2378 dX14_base_149 ?_
                      refine v_if_ne (tgt := 319) dX14_base_152 (gI_rg _ _ _) (by decide) (fun c131 => ?_) (fun c131 => ?_)
                      · rw [if_neg c131] at h
                        cases h
                        exact v_vret dX14_base_319
                      · rw [if_pos c131] at h
                        refine v_aload_n dX14_base_155 0 rfl rfl ?_
                        refine v_bipush dX14_base_156 rfl ?_
                        obtain ⟨r135, s132, e133, h⟩ := bd_some h
                        have k134 := c_X14_is e133 (rgl rfl)
                        have r136 : rg r135 := k134.1.2.2
                        refine v_callV (st := []) cf14 oc87 k134 (lw_V q2968 q2970 qs173 q311 q2971) rfl yk_X14_is ⟨Nat.le_of_ble_eq_true rfl, Nat.le_of_ble_eq_true rfl⟩ trivial ⟨kc87, trivial⟩ (Nat.le_of_ble_eq_true rfl) rfl dX14_base_158 ?_
                        refine v_if_eq (tgt := 319) dX14_base_161 r136 (by decide) (fun c137 => ?_) (fun c137 => ?_)
                        · rw [if_pos c137] at h
                          cases h
                          exact v_vret dX14_base_319
                        · rw [if_neg c137] at h
                          refine v_aload_n dX14_base_164 0 rfl rfl ?_
                          refine v_iload_n dX14_base_165 1 rfl rfl ?_
                          obtain ⟨s138, e139, h⟩ := bdv_some h
                          have k140 := c_X14_itemsOf e139 rx1
                          refine v_callV (st := []) cf14 oc87 k140 (lw_V q3033 q3035 qs188 q311 q3036) rfl yk_X14_itemsOf ⟨Nat.le_of_ble_eq_true rfl, Nat.le_of_ble_eq_true rfl⟩ trivial ⟨kc87, trivial⟩ (Nat.le_of_ble_eq_true rfl) rfl dX14_base_166 ?_
                          refine v_goto (tgt := 319) dX14_base_169 (by decide) ?_
                          cases h
                          exact v_vret dX14_base_319
                  · rw [if_neg c54] at h
                    refine v_aload_n dX14_base_122 0 rfl rfl ?_
                    refine v_iload_n dX14_base_123 1 rfl rfl ?_
                    obtain ⟨s141, e142, h⟩ := bdv_some h
                    have k143 := c_X14_itemsOf e142 rx1
                    refine v_callV (st := []) cf14 oc87 k143 (lw_V q3033 q3035 qs188 q311 q3036) rfl yk_X14_itemsOf ⟨Nat.le_of_ble_eq_true rfl, Nat.le_of_ble_eq_true rfl⟩ trivial ⟨kc87, trivial⟩ (Nat.le_of_ble_eq_true rfl) rfl dX14_base_124 ?_
                    refine v_goto (tgt := 319) dX14_base_127 (by decide) ?_
                    cases h
                    exact v_vret dX14_base_319
                · rw [if_neg c48] at h
                  refine v_aload_n dX14_base_94 0 rfl rfl ?_
                  refine v_bipush dX14_base_95 rfl ?_
                  obtain ⟨r147, s144, e145, h⟩ := bd_some h
                  have k146 := c_X14_is e145 (rgl rfl)
                  have r148 : rg r147 := k146.1.2.2
                  refine v_callV (st := []) cf14 oc87 k146 (lw_V q2968 q2970 qs173 q311 q2971) rfl yk_X14_is ⟨Nat.le_of_ble_eq_true rfl, Nat.le_of_ble_eq_true rfl⟩ trivial ⟨kc87, trivial⟩ (Nat.le_of_ble_eq_true rfl) rfl dX14_base_97 ?_
                  refine v_if_eq (tgt := 319) dX14_base_100 r148 (by decide) (fun c149 => ?_) (fun c149 => ?_)
                  · rw [if_pos c149] at h
                    cases h
                    exact v_vret dX14_base_319
                  · rw [if_neg c149] at h
                    refine v_aload_n dX14_base_103 0 rfl rfl ?_
                    refine v_iload_n dX14_base_104 1 rfl rfl ?_
                    obtain ⟨s150, e151, h⟩ := bdv_some h
                    have k152 := c_X14_itemsOf e151 rx1
                    refine v_callV (st := []) cf14 oc87 k152 (lw_V q3033 q3035 qs188 q311 q3036) rfl yk_X14_itemsOf ⟨Nat.le_of_ble_eq_true rfl, Nat.le_of_ble_eq_true rfl⟩ trivial ⟨kc87, trivial⟩ (Nat.le_of_ble_eq_true rfl) rfl dX14_base_105 ?_
                    refine v_goto (tgt := 319) dX14_base_108 (by decide) ?_
                    cases h
                    exact v_vret dX14_base_319
              · rw [if_neg c42] at h
                cases h
                exact v_vret dX14_base_82

def E_X14_begin_132 (x1 : Int) (rv : Option vA) (σo : vS) (q : vS) : Prop := ∀ (s' : vS), q = s' → VW cX14_begin (RX14, rv, σo, none, 7, 158, 2, []) (P0 []) s' 156 [(0, vO 87), (1, vI x1)] []
def l_X14_begin_132 : Nat → Int → vS → Option (vS)
  | 0, _, _ => none
  | n + 1, x1, s =>
    if (gI s 87 8) = 0 then
      bd (f_X14_is 14 s) fun r5 s2 =>
      if r5 = 0 then
        some s2
      else
        bdv (f_X14_tag x1 s2) fun s8 =>
        l_X14_begin_132 n x1 s8
    else
      some s
theorem wl_X14_begin_132 {x1 : Int} {rv : Option vA} {σo : vS}  (rx1 : rg x1) : ∀ (n : Nat) (s : vS) (q : vS), l_X14_begin_132 n x1 s = some q → E_X14_begin_132 x1 rv σo q → VW cX14_begin (RX14, rv, σo, none, 7, 158, 2, []) (P0 []) s 132 [(0, vO 87), (1, vI x1)] [] := by
  intro n
  induction n with
  | zero => intro s q h; cases h
  | succ n ih =>
    intro s q h  hE
    unfold l_X14_begin_132 at h
    refine v_aload_n dX14_begin_132 0 rfl rfl ?_
    refine v_getI (f := 8) cf14 oc87 rfl (by decide) q2378 dX14_begin_133 ?_
    refine v_if_ne (tgt := 156) dX14_begin_136 (gI_rg _ _ _) (by decide) (fun c1 => ?_) (fun c1 => ?_)
    · rw [if_neg c1] at h
      cases h
      exact hE _ rfl 
    · rw [if_pos c1] at h
      refine v_aload_n dX14_begin_139 0 rfl rfl ?_
      refine v_bipush dX14_begin_140 rfl ?_
      obtain ⟨r5, s2, e3, h⟩ := bd_some h
      have k4 := c_X14_is e3 (rgl rfl)
      have r6 : rg r5 := k4.1.2.2
      refine v_callV (st := []) cf14 oc87 k4 (lw_V q2968 q2970 qs173 q311 q2971) rfl yk_X14_is ⟨Nat.le_of_ble_eq_true rfl, Nat.le_of_ble_eq_true rfl⟩ trivial ⟨kc87, trivial⟩ (Nat.le_of_ble_eq_true rfl) rfl dX14_begin_142 ?_
      refine v_if_eq (tgt := 156) dX14_begin_145 r6 (by decide) (fun c7 => ?_) (fun c7 => ?_)
      · rw [if_pos c7] at h
        cases h
        exact hE _ rfl 
      · rw [if_neg c7] at h
        refine v_aload_n dX14_begin_148 0 rfl rfl ?_
        refine v_iload_n dX14_begin_149 1 rfl rfl ?_
        obtain ⟨s8, e9, h⟩ := bdv_some h
        have k10 := c_X14_tag e9 rx1
        refine v_callV (st := []) cf14 oc87 k10 (lw_V q2992 q2994 qs179 q311 q2995) rfl yk_X14_tag ⟨Nat.le_of_ble_eq_true rfl, Nat.le_of_ble_eq_true rfl⟩ trivial ⟨kc87, trivial⟩ (Nat.le_of_ble_eq_true rfl) rfl dX14_begin_150 ?_
        refine v_goto (tgt := 132) dX14_begin_153 (by decide) ?_
        exact ih s8 _ h  hE

def j_X14_begin_156 (x1 : Int) (s : vS) : Option (vS) :=
  if (gI s 87 8) = 0 then
    bdv (f_X14_base x1 s) fun s2 =>
    some s2
  else
    some s
theorem wj_X14_begin_156 {x1 : Int} {s : vS} {out : vS} (h : j_X14_begin_156 x1 s = some out)  (rx1 : rg x1) : VW cX14_begin (RX14, none, out, none, 7, 158, 2, []) (P0 []) s 156 [(0, vO 87), (1, vI x1)] [] := by
  unfold j_X14_begin_156 at h
  refine v_aload_n dX14_begin_156 0 rfl rfl ?_
  refine v_getI (f := 8) cf14 oc87 rfl (by decide) q2378 dX14_begin_157 ?_
  refine v_if_ne (tgt := 168) dX14_begin_160 (gI_rg _ _ _) (by decide) (fun c1 => ?_) (fun c1 => ?_)
  · rw [if_neg c1] at h
    cases h
    exact v_vret dX14_begin_168
  · rw [if_pos c1] at h
    refine v_aload_n dX14_begin_163 0 rfl rfl ?_
    refine v_iload_n dX14_begin_164 1 rfl rfl ?_
    obtain ⟨s2, e3, h⟩ := bdv_some h
    have k4 := c_X14_base e3 rx1
    refine v_callV (st := []) cf14 oc87 k4 (lw_V q3025 q3027 qs186 q311 q3028) rfl yk_X14_base ⟨Nat.le_of_ble_eq_true rfl, Nat.le_of_ble_eq_true rfl⟩ trivial ⟨kc87, trivial⟩ (Nat.le_of_ble_eq_true rfl) rfl dX14_begin_165 ?_
    cases h
    exact v_vret dX14_begin_168

def f_X14_begin (s : vS) : Option (vS) :=
  if (gI s 87 79) = 100 then
    gd (inb (gI s 87 19) (gN s 95)) <|
    bdv (f_X14_tell 4 (gE s 95 (gI s 87 19)) s) fun s47 =>
    some s47
  else
    vl (gI s 87 20) fun y2 =>
    stp (sI s 87 20 (w32 ((gI s 87 20) + 1))) fun s5 =>
    stp (sI s5 87 82 y2) fun s7 =>
    gd (inb y2 (gN s7 98)) <|
    stp (sE s7 98 y2 (gI s7 87 19)) fun s10 =>
    gd (inb y2 (gN s10 99)) <|
    stp (sE s10 99 y2 (gI s10 87 32)) fun s13 =>
    gd (inb y2 (gN s13 100)) <|
    stp (sE s13 100 y2 0) fun s16 =>
    gd (inb y2 (gN s16 102)) <|
    stp (sE s16 102 y2 0) fun s19 =>
    gd (inb y2 (gN s19 103)) <|
    stp (sE s19 103 y2 0) fun s22 =>
    gd (inb y2 (gN s22 104)) <|
    stp (sE s22 104 y2 (-1)) fun s25 =>
    gd (inb y2 (gN s25 105)) <|
    stp (sE s25 105 y2 0) fun s28 =>
    gd (inb y2 (gN s28 106)) <|
    stp (sE s28 106 y2 (-1)) fun s31 =>
    gd (inb y2 (gN s31 107)) <|
    stp (sE s31 107 y2 (-1)) fun s34 =>
    gd (inb y2 (gN s34 101)) <|
    stp (sE s34 101 y2 (-1)) fun s37 =>
    gd (inb y2 (gN s37 97)) <|
    stp (sE s37 97 y2 1) fun s40 =>
    stp (sI s40 87 83 0) fun s42 =>
    lq_0 (l_X14_begin_132 FU y2 s42) fun s44 =>
    j_X14_begin_156 y2 s44
theorem yk_X14_begin : yOk yX14_begin 0 := ⟨by decide, by decide, by decide +kernel⟩
theorem c_X14_begin {s : vS} {out : vS} (h : f_X14_begin s = some out)   : VC yX14_begin cX14_begin 2 none 7 158 [vO 87] s none out [] := by
  unfold f_X14_begin at h
  refine VC.of RX14 (by decide) rfl (Nat.le_of_ble_eq_true rfl) ?_
  show VW cX14_begin (RX14, none, out, none, 7, 158, 2, []) (P0 []) s 0 [(0, vO 87)] []
  refine v_aload_n dX14_begin_0 0 rfl rfl ?_
  refine v_getI (f := 79) cf14 oc87 rfl (by decide) q2449 dX14_begin_1 ?_
  refine v_bipush dX14_begin_4 rfl ?_
  refine v_icmp_ne (tgt := 24) dX14_begin_6 (gI_rg _ _ _) (rgl rfl) (by decide) (fun c1 => ?_) (fun c1 => ?_)
  · rw [if_neg c1] at h
    refine v_aload_n dX14_begin_24 0 rfl rfl ?_
    refine v_getI (f := 20) cf14 oc87 rfl (by decide) q2390 dX14_begin_25 ?_
    obtain ⟨y2, e3, h⟩ := vl_some h
    rw [← e3]
    have r4 : rg y2 := by rw [e3]; exact gI_rg _ _ _
    refine v_istore_n (L1 := [(1, vI y2), (0, vO 87)]) dX14_begin_28 rfl (by decide) rfl ?_
    refine v_aload_n dX14_begin_29 1 rfl rfl ?_
    refine v_dupO dX14_begin_30 ?_
    refine v_getI (f := 20) cf14 oc87 rfl (by decide) q2390 dX14_begin_31 ?_
    refine v_iconst dX14_begin_34 ?_
    refine v_iadd dX14_begin_35 ?_
    obtain ⟨s5, e6, h⟩ := stp_some h
    refine v_putI (f := 20) cf14 oc87 rfl (by decide) q2390 dX14_begin_36 rfl rfl ?_
    rw [← e6]
    refine v_aload_n dX14_begin_39 1 rfl rfl ?_
    refine v_iload_n dX14_begin_40 0 rfl rfl ?_
    obtain ⟨s7, e8, h⟩ := stp_some h
    refine v_putI (f := 82) cf14 oc87 rfl (by decide) q2452 dX14_begin_41 rfl rfl ?_
    rw [← e8]
    refine v_aload_n dX14_begin_44 1 rfl rfl ?_
    refine v_getS (f := 22) (t := 98) cf14 oc87 rfl rfl rfl (by decide) q2392 dX14_begin_45 ?_
    refine v_iload_n dX14_begin_48 0 rfl rfl ?_
    refine v_aload_n dX14_begin_49 1 rfl rfl ?_
    refine v_getI (f := 19) cf14 oc87 rfl (by decide) q2389 dX14_begin_50 ?_
    obtain ⟨g9, h⟩ := gd_some h
    obtain ⟨s10, e11, h⟩ := stp_some h
    refine v_iast oc98 r4 g9.1 g9.2 dX14_begin_53 ?_
    rw [← e11]
    refine v_aload_n dX14_begin_54 1 rfl rfl ?_
    refine v_getS (f := 23) (t := 99) cf14 oc87 rfl rfl rfl (by decide) q2393 dX14_begin_55 ?_
    refine v_iload_n dX14_begin_58 0 rfl rfl ?_
    refine v_aload_n dX14_begin_59 1 rfl rfl ?_
    refine v_getI (f := 32) cf14 oc87 rfl (by decide) q2402 dX14_begin_60 ?_
    obtain ⟨g12, h⟩ := gd_some h
    obtain ⟨s13, e14, h⟩ := stp_some h
    refine v_iast oc99 r4 g12.1 g12.2 dX14_begin_63 ?_
    rw [← e14]
    refine v_aload_n dX14_begin_64 1 rfl rfl ?_
    refine v_getS (f := 24) (t := 100) cf14 oc87 rfl rfl rfl (by decide) q2394 dX14_begin_65 ?_
    refine v_iload_n dX14_begin_68 0 rfl rfl ?_
    refine v_iconst dX14_begin_69 ?_
    obtain ⟨g15, h⟩ := gd_some h
    obtain ⟨s16, e17, h⟩ := stp_some h
    refine v_iast oc100 r4 g15.1 g15.2 dX14_begin_70 ?_
    rw [← e17]
    refine v_aload_n dX14_begin_71 1 rfl rfl ?_
    refine v_getS (f := 26) (t := 102) cf14 oc87 rfl rfl rfl (by decide) q2396 dX14_begin_72 ?_
    refine v_iload_n dX14_begin_75 0 rfl rfl ?_
    refine v_iconst dX14_begin_76 ?_
    obtain ⟨g18, h⟩ := gd_some h
    obtain ⟨s19, e20, h⟩ := stp_some h
    refine v_iast oc102 r4 g18.1 g18.2 dX14_begin_77 ?_
    rw [← e20]
    refine v_aload_n dX14_begin_78 1 rfl rfl ?_
    refine v_getS (f := 27) (t := 103) cf14 oc87 rfl rfl rfl (by decide) q2397 dX14_begin_79 ?_
    refine v_iload_n dX14_begin_82 0 rfl rfl ?_
    refine v_iconst dX14_begin_83 ?_
    obtain ⟨g21, h⟩ := gd_some h
    obtain ⟨s22, e23, h⟩ := stp_some h
    refine v_iast oc103 r4 g21.1 g21.2 dX14_begin_84 ?_
    rw [← e23]
    refine v_aload_n dX14_begin_85 1 rfl rfl ?_
    refine v_getS (f := 28) (t := 104) cf14 oc87 rfl rfl rfl (by decide) q2398 dX14_begin_86 ?_
    refine v_iload_n dX14_begin_89 0 rfl rfl ?_
    refine v_iconst dX14_begin_90 ?_
    obtain ⟨g24, h⟩ := gd_some h
    obtain ⟨s25, e26, h⟩ := stp_some h
    refine v_iast oc104 r4 g24.1 g24.2 dX14_begin_91 ?_
    rw [← e26]
    refine v_aload_n dX14_begin_92 1 rfl rfl ?_
    refine v_getS (f := 29) (t := 105) cf14 oc87 rfl rfl rfl (by decide) q2399 dX14_begin_93 ?_
    refine v_iload_n dX14_begin_96 0 rfl rfl ?_
    refine v_iconst dX14_begin_97 ?_
    obtain ⟨g27, h⟩ := gd_some h
    obtain ⟨s28, e29, h⟩ := stp_some h
    refine v_iast oc105 r4 g27.1 g27.2 dX14_begin_98 ?_
    rw [← e29]
    refine v_aload_n dX14_begin_99 1 rfl rfl ?_
    refine v_getS (f := 30) (t := 106) cf14 oc87 rfl rfl rfl (by decide) q2400 dX14_begin_100 ?_
    refine v_iload_n dX14_begin_103 0 rfl rfl ?_
    refine v_iconst dX14_begin_104 ?_
    obtain ⟨g30, h⟩ := gd_some h
    obtain ⟨s31, e32, h⟩ := stp_some h
    refine v_iast oc106 r4 g30.1 g30.2 dX14_begin_105 ?_
    rw [← e32]
    refine v_aload_n dX14_begin_106 1 rfl rfl ?_
    refine v_getS (f := 31) (t := 107) cf14 oc87 rfl rfl rfl (by decide) q2401 dX14_begin_107 ?_
    refine v_iload_n dX14_begin_110 0 rfl rfl ?_
    refine v_iconst dX14_begin_111 ?_
    obtain ⟨g33, h⟩ := gd_some h
    obtain ⟨s34, e35, h⟩ := stp_some h
    refine v_iast oc107 r4 g33.1 g33.2 dX14_begin_112 ?_
    rw [← e35]
    refine v_aload_n dX14_begin_113 1 rfl rfl ?_
    refine v_getS (f := 25) (t := 101) cf14 oc87 rfl rfl rfl (by decide) q2395 dX14_begin_114 ?_
    refine v_iload_n dX14_begin_117 0 rfl rfl ?_
    refine v_iconst dX14_begin_118 ?_
    obtain ⟨g36, h⟩ := gd_some h
    obtain ⟨s37, e38, h⟩ := stp_some h
    refine v_iast oc101 r4 g36.1 g36.2 dX14_begin_119 ?_
    rw [← e38]
    refine v_aload_n dX14_begin_120 1 rfl rfl ?_
    refine v_getS (f := 21) (t := 97) cf14 oc87 rfl rfl rfl (by decide) q2391 dX14_begin_121 ?_
    refine v_iload_n dX14_begin_124 0 rfl rfl ?_
    refine v_iconst dX14_begin_125 ?_
    obtain ⟨g39, h⟩ := gd_some h
    obtain ⟨s40, e41, h⟩ := stp_some h
    refine v_iast oc97 r4 g39.1 g39.2 dX14_begin_126 ?_
    rw [← e41]
    refine v_aload_n dX14_begin_127 1 rfl rfl ?_
    refine v_iconst dX14_begin_128 ?_
    obtain ⟨s42, e43, h⟩ := stp_some h
    refine v_putZ (f := 83) cf14 oc87 rfl (by decide) q2453 dX14_begin_129 rfl rfl (Or.inl rfl) ?_
    rw [← e43]
    refine v_sub [1, 0] (L1 := [(0, vO 87), (1, vI y2)]) rfl ?_
    obtain ⟨s44, e45, h⟩ := lq_0_some h
    refine wl_X14_begin_132 r4 FU  s42 _ e45  ?_
    unfold E_X14_begin_132
    intro s44' z_
    cases z_
    exact wj_X14_begin_156 h r4
  · rw [if_pos c1] at h
    refine v_aload_n dX14_begin_9 0 rfl rfl ?_
    refine v_iconst dX14_begin_10 ?_
    refine v_aload_n dX14_begin_11 0 rfl rfl ?_
    refine v_getS (f := 17) (t := 95) cf14 oc87 rfl rfl rfl (by decide) q2387 dX14_begin_12 ?_
    refine v_aload_n dX14_begin_15 0 rfl rfl ?_
    refine v_getI (f := 19) cf14 oc87 rfl (by decide) q2389 dX14_begin_16 ?_
    obtain ⟨g46, h⟩ := gd_some h
    refine v_iald oc95 (gI_rg _ _ _) g46.1 g46.2 dX14_begin_19 ?_
    obtain ⟨s47, e48, h⟩ := bdv_some h
    have k49 := c_X14_tell e48 (rgl rfl) (gE_rg _ _ _)
    refine v_callV (st := []) cf14 oc87 k49 (lw_V q2916 q2918 qs163 q311 q2919) rfl yk_X14_tell ⟨Nat.le_of_ble_eq_true rfl, Nat.le_of_ble_eq_true rfl⟩ trivial ⟨kc87, trivial⟩ (Nat.le_of_ble_eq_true rfl) rfl dX14_begin_20 ?_
    cases h
    exact v_vret dX14_begin_23

def E_X14_limitsOf_0 (rv : Option vA) (σo : vS) (q : vS) : Prop := ∀ (s' : vS), q = s' → VW cX14_limitsOf (RX14, rv, σo, none, 5, 115, 4, []) (P0 []) s' 73 [] []
def l_X14_limitsOf_0 : Nat → Int → vS → Option (vS)
  | 0, _, _ => none
  | n + 1, x1, s =>
    if (gI s 87 8) = 0 then
      bd (f_X14_is 16 s) fun r5 s2 =>
      if r5 = 0 then
        some s2
      else
        vl (gI s2 87 19) fun y8 =>
        stp (sI s2 87 19 (w32 ((gI s2 87 19) + 1))) fun s11 =>
        bd (f_X14_is 101 s11) fun r16 s13 =>
        if r16 = 0 then
          bd (f_X14_addLimit x1 y8 0 s13) fun r22 s19 =>
          bdv (f_X14_rangesOf r22 s19) fun s24 =>
          bd (f_X14_take 17 s24) fun r30 s27 =>
          l_X14_limitsOf_0 n x1 s27
        else
          bdv (f_X14_sizeOf x1 y8 1 s13) fun s32 =>
          l_X14_limitsOf_0 n x1 s32
    else
      some s
theorem wl_X14_limitsOf_0 {x1 : Int} {rv : Option vA} {σo : vS}  (rx1 : rg x1) : ∀ (n : Nat) (s : vS) (q : vS), l_X14_limitsOf_0 n x1 s = some q → E_X14_limitsOf_0 rv σo q → VW cX14_limitsOf (RX14, rv, σo, none, 5, 115, 4, []) (P0 []) s 0 [(0, vO 87), (1, vI x1)] [] := by
  intro n
  induction n with
  | zero => intro s q h; cases h
  | succ n ih =>
    intro s q h  hE
    unfold l_X14_limitsOf_0 at h
    refine v_aload_n dX14_limitsOf_0 0 rfl rfl ?_
    refine v_getI (f := 8) cf14 oc87 rfl (by decide) q2378 dX14_limitsOf_1 ?_
    refine v_if_ne (tgt := 73) dX14_limitsOf_4 (gI_rg _ _ _) (by decide) (fun c1 => ?_) (fun c1 => ?_)
    · rw [if_neg c1] at h
      cases h
      refine v_sub [] (L1 := []) rfl ?_
      exact hE _ rfl 
    · rw [if_pos c1] at h
      refine v_aload_n dX14_limitsOf_7 0 rfl rfl ?_
      refine v_bipush dX14_limitsOf_8 rfl ?_
      obtain ⟨r5, s2, e3, h⟩ := bd_some h
      have k4 := c_X14_is e3 (rgl rfl)
      have r6 : rg r5 := k4.1.2.2
      refine v_callV (st := []) cf14 oc87 k4 (lw_V q2968 q2970 qs173 q311 q2971) rfl yk_X14_is ⟨Nat.le_of_ble_eq_true rfl, Nat.le_of_ble_eq_true rfl⟩ trivial ⟨kc87, trivial⟩ (Nat.le_of_ble_eq_true rfl) rfl dX14_limitsOf_10 ?_
      refine v_if_eq (tgt := 73) dX14_limitsOf_13 r6 (by decide) (fun c7 => ?_) (fun c7 => ?_)
      · rw [if_pos c7] at h
        cases h
        refine v_sub [] (L1 := []) rfl ?_
        exact hE _ rfl 
      · rw [if_neg c7] at h
        refine v_aload_n dX14_limitsOf_16 0 rfl rfl ?_
        refine v_getI (f := 19) cf14 oc87 rfl (by decide) q2389 dX14_limitsOf_17 ?_
        obtain ⟨y8, e9, h⟩ := vl_some h
        rw [← e9]
        have r10 : rg y8 := by rw [e9]; exact gI_rg _ _ _
        refine v_istore_n (L1 := [(2, vI y8), (0, vO 87), (1, vI x1)]) dX14_limitsOf_20 rfl (by decide) rfl ?_
        refine v_aload_n dX14_limitsOf_21 1 rfl rfl ?_
        refine v_dupO dX14_limitsOf_22 ?_
        refine v_getI (f := 19) cf14 oc87 rfl (by decide) q2389 dX14_limitsOf_23 ?_
        refine v_iconst dX14_limitsOf_26 ?_
        refine v_iadd dX14_limitsOf_27 ?_
        obtain ⟨s11, e12, h⟩ := stp_some h
        refine v_putI (f := 19) cf14 oc87 rfl (by decide) q2389 dX14_limitsOf_28 rfl rfl ?_
        rw [← e12]
        refine v_aload_n dX14_limitsOf_31 1 rfl rfl ?_
        refine v_bipush dX14_limitsOf_32 rfl ?_
        obtain ⟨r16, s13, e14, h⟩ := bd_some h
        have k15 := c_X14_is e14 (rgl rfl)
        have r17 : rg r16 := k15.1.2.2
        refine v_callV (st := []) cf14 oc87 k15 (lw_V q2968 q2970 qs173 q311 q2971) rfl yk_X14_is ⟨Nat.le_of_ble_eq_true rfl, Nat.le_of_ble_eq_true rfl⟩ trivial ⟨kc87, trivial⟩ (Nat.le_of_ble_eq_true rfl) rfl dX14_limitsOf_34 ?_
        refine v_if_eq (tgt := 50) dX14_limitsOf_37 r17 (by decide) (fun c18 => ?_) (fun c18 => ?_)
        · rw [if_pos c18] at h
          refine v_aload_n dX14_limitsOf_50 1 rfl rfl ?_
          refine v_iload_n dX14_limitsOf_51 2 rfl rfl ?_
          refine v_iload_n dX14_limitsOf_52 0 rfl rfl ?_
          refine v_iconst dX14_limitsOf_53 ?_
          obtain ⟨r22, s19, e20, h⟩ := bd_some h
          have k21 := c_X14_addLimit e20 rx1 r10 (rgl rfl)
          have r23 : rg r22 := k21.1.2.2
          refine v_callV (st := []) cf14 oc87 k21 (lw_V q3049 q3051 qs192 q311 q3052) rfl yk_X14_addLimit ⟨Nat.le_of_ble_eq_true rfl, Nat.le_of_ble_eq_true rfl⟩ trivial ⟨kc87, trivial⟩ (Nat.le_of_ble_eq_true rfl) rfl dX14_limitsOf_54 ?_
          refine v_istore_n (L1 := [(3, vI r22), (2, vI y8), (0, vO 87), (1, vI x1)]) dX14_limitsOf_57 rfl (by decide) rfl ?_
          refine v_aload_n dX14_limitsOf_58 2 rfl rfl ?_
          refine v_iload_n dX14_limitsOf_59 0 rfl rfl ?_
          obtain ⟨s24, e25, h⟩ := bdv_some h
          have k26 := c_X14_rangesOf e25 r23
          refine v_callV (st := []) cf14 oc87 k26 (lw_V q3053 q3055 qs193 q311 q3056) rfl yk_X14_rangesOf ⟨Nat.le_of_ble_eq_true rfl, Nat.le_of_ble_eq_true rfl⟩ trivial ⟨kc87, trivial⟩ (Nat.le_of_ble_eq_true rfl) rfl dX14_limitsOf_60 ?_
          refine v_aload_n dX14_limitsOf_63 2 rfl rfl ?_
          refine v_bipush dX14_limitsOf_64 rfl ?_
          obtain ⟨r30, s27, e28, h⟩ := bd_some h
          have k29 := c_X14_take e28 (rgl rfl)
          have r31 : rg r30 := k29.1.2.2
          refine v_callV (st := []) cf14 oc87 k29 (lw_V q2964 q2966 qs172 q311 q2967) rfl yk_X14_take ⟨Nat.le_of_ble_eq_true rfl, Nat.le_of_ble_eq_true rfl⟩ trivial ⟨kc87, trivial⟩ (Nat.le_of_ble_eq_true rfl) rfl dX14_limitsOf_66 ?_
          refine v_popI dX14_limitsOf_69 ?_
          refine v_goto (tgt := 0) dX14_limitsOf_70 (by decide) ?_
          refine v_sub [2, 3] (L1 := [(0, vO 87), (1, vI x1)]) rfl ?_
          exact ih s27 _ h  hE
        · rw [if_neg c18] at h
          refine v_aload_n dX14_limitsOf_40 1 rfl rfl ?_
          refine v_iload_n dX14_limitsOf_41 2 rfl rfl ?_
          refine v_iload_n dX14_limitsOf_42 0 rfl rfl ?_
          refine v_iconst dX14_limitsOf_43 ?_
          obtain ⟨s32, e33, h⟩ := bdv_some h
          have k34 := c_X14_sizeOf e33 rx1 r10 (rgl rfl)
          refine v_callV (st := []) cf14 oc87 k34 (lw_V q3045 q3047 qs191 q311 q3048) rfl yk_X14_sizeOf ⟨Nat.le_of_ble_eq_true rfl, Nat.le_of_ble_eq_true rfl⟩ trivial ⟨kc87, trivial⟩ (Nat.le_of_ble_eq_true rfl) rfl dX14_limitsOf_44 ?_
          refine v_goto (tgt := 70) dX14_limitsOf_47 (by decide) ?_
          refine v_goto (tgt := 0) dX14_limitsOf_70 (by decide) ?_
          refine v_sub [1, 2] (L1 := [(0, vO 87), (1, vI x1)]) rfl ?_
          exact ih s32 _ h  hE

def f_X14_limitsOf (x1 : Int) (s : vS) : Option (vS) :=
  lq_0 (l_X14_limitsOf_0 FU x1 s) fun s1 =>
  some s1
theorem yk_X14_limitsOf : yOk yX14_limitsOf 1 := ⟨by decide, by decide, by decide +kernel⟩
theorem c_X14_limitsOf {x1 : Int} {s : vS} {out : vS} (h : f_X14_limitsOf x1 s = some out)  (rx1 : rg x1) : VC yX14_limitsOf cX14_limitsOf 4 none 5 115 [vO 87, vI x1] s none out [] := by
  unfold f_X14_limitsOf at h
  refine VC.of RX14 (by decide) rfl (Nat.le_of_ble_eq_true rfl) ?_
  show VW cX14_limitsOf (RX14, none, out, none, 5, 115, 4, []) (P0 []) s 0 [(0, vO 87), (1, vI x1)] []
  obtain ⟨s1, e2, h⟩ := lq_0_some h
  refine wl_X14_limitsOf_0 rx1 FU  s _ e2  ?_
  unfold E_X14_limitsOf_0
  intro s1' z_
  cases z_
  cases h
  exact v_vret dX14_limitsOf_73

def E_X14_partsOf_2 (rv : Option vA) (σo : vS) (q : vS) : Prop := ∀ (s' : vS), q = s' → VW cX14_partsOf (RX14, rv, σo, none, 3, 67, 3, []) (P0 []) s' 157 [] []
def j_X14_partsOf_127 (rec : Int → Int → vS → Option (vS)) (x1 : Int) (s : vS) : Option (vS) :=
  stp (sI s 87 69 (w32 ((gI s 87 69) + 1))) fun s1 =>
  gd (inb x1 (gN s1 137)) <|
  gd (inb x1 (gN s1 137)) <|
  stp (sE s1 137 x1 (w32 ((gE s1 137 x1) + 1))) fun s5 =>
  bd (f_X14_eat 18 s5) fun r10 s7 =>
  rec x1 r10 s7
theorem wj_X14_partsOf_127 {x1 : Int} {s : vS} {rv : Option vA} {σo : vS} {rec : Int → Int → vS → Option (vS)} {q : vS} (h : j_X14_partsOf_127 rec x1 s = some q)  (rx1 : rg x1) (hrec : ∀ (y2 : Int) (s : vS) (q : vS), rec x1 y2 s = some q → rg y2 → E_X14_partsOf_2 rv σo q → VW cX14_partsOf (RX14, rv, σo, none, 3, 67, 3, []) (P0 []) s 2 [(0, vO 87), (1, vI x1), (2, vI y2)] []) (hE : E_X14_partsOf_2 rv σo q) : VW cX14_partsOf (RX14, rv, σo, none, 3, 67, 3, []) (P0 []) s 127 [(0, vO 87), (1, vI x1)] [] := by
  unfold j_X14_partsOf_127 at h
  refine v_aload_n dX14_partsOf_127 0 rfl rfl ?_
  refine v_dupO dX14_partsOf_128 ?_
  refine v_getI (f := 69) cf14 oc87 rfl (by decide) q2439 dX14_partsOf_129 ?_
  refine v_iconst dX14_partsOf_132 ?_
  refine v_iadd dX14_partsOf_133 ?_
  obtain ⟨s1, e2, h⟩ := stp_some h
  refine v_putI (f := 69) cf14 oc87 rfl (by decide) q2439 dX14_partsOf_134 rfl rfl ?_
  rw [← e2]
  refine v_aload_n dX14_partsOf_137 0 rfl rfl ?_
  refine v_getS (f := 67) (t := 137) cf14 oc87 rfl rfl rfl (by decide) q2437 dX14_partsOf_138 ?_
  refine v_iload_n dX14_partsOf_141 1 rfl rfl ?_
  refine v_dup2IO dX14_partsOf_142 ?_
  obtain ⟨g3, h⟩ := gd_some h
  refine v_iald oc137 rx1 g3.1 g3.2 dX14_partsOf_143 ?_
  refine v_iconst dX14_partsOf_144 ?_
  refine v_iadd dX14_partsOf_145 ?_
  obtain ⟨g4, h⟩ := gd_some h
  obtain ⟨s5, e6, h⟩ := stp_some h
  refine v_iast oc137 rx1 g4.1 g4.2 dX14_partsOf_146 ?_
  rw [← e6]
  refine v_aload_n dX14_partsOf_147 0 rfl rfl ?_
  refine v_bipush dX14_partsOf_148 rfl ?_
  obtain ⟨r10, s7, e8, h⟩ := bd_some h
  have k9 := c_X14_eat e8 (rgl rfl)
  have r11 : rg r10 := k9.1.2.2
  refine v_callV (st := []) cf14 oc87 k9 (lw_V q2976 q2978 qs175 q311 q2979) rfl yk_X14_eat ⟨Nat.le_of_ble_eq_true rfl, Nat.le_of_ble_eq_true rfl⟩ trivial ⟨kc87, trivial⟩ (Nat.le_of_ble_eq_true rfl) rfl dX14_partsOf_150 ?_
  refine v_istore_n (L1 := [(2, vI r10), (0, vO 87), (1, vI x1)]) dX14_partsOf_153 rfl (by decide) rfl ?_
  refine v_goto (tgt := 2) dX14_partsOf_154 (by decide) ?_
  refine v_sub [1, 2, 0] (L1 := [(0, vO 87), (1, vI x1), (2, vI r10)]) rfl ?_
  exact hrec r10 s7 _ h r11 hE

def j_X14_partsOf_29 (rec : Int → Int → vS → Option (vS)) (x1 : Int) (s : vS) : Option (vS) :=
  gd (inb (gI s 87 69) (gN s 139)) <|
  stp (sE s 139 (gI s 87 69) (-1)) fun s2 =>
  gd (inb (gI s2 87 69) (gN s2 140)) <|
  stp (sE s2 140 (gI s2 87 69) (-1)) fun s5 =>
  bd (f_X14_is 3 s5) fun r10 s7 =>
  if r10 = 0 then
    bd (f_X14_take 2 s7) fun r16 s13 =>
    gd (gN s13 139 = gN s7 139) <|
    gd (inb (gI s7 87 69) (gN s13 139)) <|
    stp (sE s13 139 (gI s7 87 69) r16) fun s20 =>
    bd (f_X14_eat 16 s20) fun r25 s22 =>
    if r25 = 0 then
      j_X14_partsOf_127 rec x1 s22
    else
      bd (f_X14_take 3 s22) fun r31 s28 =>
      gd (gN s28 140 = gN s22 140) <|
      gd (inb (gI s22 87 69) (gN s28 140)) <|
      stp (sE s28 140 (gI s22 87 69) r31) fun s35 =>
      bd (f_X14_take 17 s35) fun r40 s37 =>
      j_X14_partsOf_127 rec x1 s37
  else
    gd (inb (gI s7 87 69) (gN s7 140)) <|
    stp (sE s7 140 (gI s7 87 69) (gI s7 87 19)) fun s43 =>
    stp (sI s43 87 19 (w32 ((gI s43 87 19) + 1))) fun s45 =>
    j_X14_partsOf_127 rec x1 s45
theorem wj_X14_partsOf_29 {x1 : Int} {s : vS} {rv : Option vA} {σo : vS} {rec : Int → Int → vS → Option (vS)} {q : vS} (h : j_X14_partsOf_29 rec x1 s = some q)  (rx1 : rg x1) (hrec : ∀ (y2 : Int) (s : vS) (q : vS), rec x1 y2 s = some q → rg y2 → E_X14_partsOf_2 rv σo q → VW cX14_partsOf (RX14, rv, σo, none, 3, 67, 3, []) (P0 []) s 2 [(0, vO 87), (1, vI x1), (2, vI y2)] []) (hE : E_X14_partsOf_2 rv σo q) : VW cX14_partsOf (RX14, rv, σo, none, 3, 67, 3, []) (P0 []) s 29 [(0, vO 87), (1, vI x1)] [] := by
  unfold j_X14_partsOf_29 at h
  refine v_aload_n dX14_partsOf_29 0 rfl rfl ?_
  refine v_getS (f := 70) (t := 139) cf14 oc87 rfl rfl rfl (by decide) q2440 dX14_partsOf_30 ?_
  refine v_aload_n dX14_partsOf_33 0 rfl rfl ?_
  refine v_getI (f := 69) cf14 oc87 rfl (by decide) q2439 dX14_partsOf_34 ?_
  refine v_iconst dX14_partsOf_37 ?_
  obtain ⟨g1, h⟩ := gd_some h
  obtain ⟨s2, e3, h⟩ := stp_some h
  refine v_iast oc139 (gI_rg _ _ _) g1.1 g1.2 dX14_partsOf_38 ?_
  rw [← e3]
  refine v_aload_n dX14_partsOf_39 0 rfl rfl ?_
  refine v_getS (f := 71) (t := 140) cf14 oc87 rfl rfl rfl (by decide) q2441 dX14_partsOf_40 ?_
  refine v_aload_n dX14_partsOf_43 0 rfl rfl ?_
  refine v_getI (f := 69) cf14 oc87 rfl (by decide) q2439 dX14_partsOf_44 ?_
  refine v_iconst dX14_partsOf_47 ?_
  obtain ⟨g4, h⟩ := gd_some h
  obtain ⟨s5, e6, h⟩ := stp_some h
  refine v_iast oc140 (gI_rg _ _ _) g4.1 g4.2 dX14_partsOf_48 ?_
  rw [← e6]
  refine v_aload_n dX14_partsOf_49 0 rfl rfl ?_
  refine v_iconst dX14_partsOf_50 ?_
  obtain ⟨r10, s7, e8, h⟩ := bd_some h
  have k9 := c_X14_is e8 (rgl rfl)
  have r11 : rg r10 := k9.1.2.2
  refine v_callV (st := []) cf14 oc87 k9 (lw_V q2968 q2970 qs173 q311 q2971) rfl yk_X14_is ⟨Nat.le_of_ble_eq_true rfl, Nat.le_of_ble_eq_true rfl⟩ trivial ⟨kc87, trivial⟩ (Nat.le_of_ble_eq_true rfl) rfl dX14_partsOf_51 ?_
  refine v_if_eq (tgt := 83) dX14_partsOf_54 r11 (by decide) (fun c12 => ?_) (fun c12 => ?_)
  · rw [if_pos c12] at h
    refine v_aload_n dX14_partsOf_83 0 rfl rfl ?_
    refine v_getS (f := 70) (t := 139) cf14 oc87 rfl rfl rfl (by decide) q2440 dX14_partsOf_84 ?_
    refine v_aload_n dX14_partsOf_87 0 rfl rfl ?_
    refine v_getI (f := 69) cf14 oc87 rfl (by decide) q2439 dX14_partsOf_88 ?_
    refine v_aload_n dX14_partsOf_91 0 rfl rfl ?_
    refine v_iconst dX14_partsOf_92 ?_
    obtain ⟨r16, s13, e14, h⟩ := bd_some h
    have k15 := c_X14_take e14 (rgl rfl)
    have r17 : rg r16 := k15.1.2.2
    obtain ⟨g18, h⟩ := gd_some h
    refine v_callV (st := [vI (gI s7 87 69), vO 139]) cf14 oc87 k15 (lw_V q2964 q2966 qs172 q311 q2967) rfl yk_X14_take ⟨Nat.le_of_ble_eq_true rfl, Nat.le_of_ble_eq_true rfl⟩ ⟨(kp_arr (by decide) g18), trivial⟩ ⟨kc87, trivial⟩ (Nat.le_of_ble_eq_true rfl) rfl dX14_partsOf_93 ?_
    obtain ⟨g19, h⟩ := gd_some h
    obtain ⟨s20, e21, h⟩ := stp_some h
    refine v_iast oc139 (gI_rg _ _ _) g19.1 g19.2 dX14_partsOf_96 ?_
    rw [← e21]
    refine v_aload_n dX14_partsOf_97 0 rfl rfl ?_
    refine v_bipush dX14_partsOf_98 rfl ?_
    obtain ⟨r25, s22, e23, h⟩ := bd_some h
    have k24 := c_X14_eat e23 (rgl rfl)
    have r26 : rg r25 := k24.1.2.2
    refine v_callV (st := []) cf14 oc87 k24 (lw_V q2976 q2978 qs175 q311 q2979) rfl yk_X14_eat ⟨Nat.le_of_ble_eq_true rfl, Nat.le_of_ble_eq_true rfl⟩ trivial ⟨kc87, trivial⟩ (Nat.le_of_ble_eq_true rfl) rfl dX14_partsOf_100 ?_
    refine v_if_eq (tgt := 127) dX14_partsOf_103 r26 (by decide) (fun c27 => ?_) (fun c27 => ?_)
    · rw [if_pos c27] at h
      exact wj_X14_partsOf_127 h rx1 hrec hE
    · rw [if_neg c27] at h
      refine v_aload_n dX14_partsOf_106 0 rfl rfl ?_
      refine v_getS (f := 71) (t := 140) cf14 oc87 rfl rfl rfl (by decide) q2441 dX14_partsOf_107 ?_
      refine v_aload_n dX14_partsOf_110 0 rfl rfl ?_
      refine v_getI (f := 69) cf14 oc87 rfl (by decide) q2439 dX14_partsOf_111 ?_
      refine v_aload_n dX14_partsOf_114 0 rfl rfl ?_
      refine v_iconst dX14_partsOf_115 ?_
      obtain ⟨r31, s28, e29, h⟩ := bd_some h
      have k30 := c_X14_take e29 (rgl rfl)
      have r32 : rg r31 := k30.1.2.2
      obtain ⟨g33, h⟩ := gd_some h
      refine v_callV (st := [vI (gI s22 87 69), vO 140]) cf14 oc87 k30 (lw_V q2964 q2966 qs172 q311 q2967) rfl yk_X14_take ⟨Nat.le_of_ble_eq_true rfl, Nat.le_of_ble_eq_true rfl⟩ ⟨(kp_arr (by decide) g33), trivial⟩ ⟨kc87, trivial⟩ (Nat.le_of_ble_eq_true rfl) rfl dX14_partsOf_116 ?_
      obtain ⟨g34, h⟩ := gd_some h
      obtain ⟨s35, e36, h⟩ := stp_some h
      refine v_iast oc140 (gI_rg _ _ _) g34.1 g34.2 dX14_partsOf_119 ?_
      rw [← e36]
      refine v_aload_n dX14_partsOf_120 0 rfl rfl ?_
      refine v_bipush dX14_partsOf_121 rfl ?_
      obtain ⟨r40, s37, e38, h⟩ := bd_some h
      have k39 := c_X14_take e38 (rgl rfl)
      have r41 : rg r40 := k39.1.2.2
      refine v_callV (st := []) cf14 oc87 k39 (lw_V q2964 q2966 qs172 q311 q2967) rfl yk_X14_take ⟨Nat.le_of_ble_eq_true rfl, Nat.le_of_ble_eq_true rfl⟩ trivial ⟨kc87, trivial⟩ (Nat.le_of_ble_eq_true rfl) rfl dX14_partsOf_123 ?_
      refine v_popI dX14_partsOf_126 ?_
      exact wj_X14_partsOf_127 h rx1 hrec hE
  · rw [if_neg c12] at h
    refine v_aload_n dX14_partsOf_57 0 rfl rfl ?_
    refine v_getS (f := 71) (t := 140) cf14 oc87 rfl rfl rfl (by decide) q2441 dX14_partsOf_58 ?_
    refine v_aload_n dX14_partsOf_61 0 rfl rfl ?_
    refine v_getI (f := 69) cf14 oc87 rfl (by decide) q2439 dX14_partsOf_62 ?_
    refine v_aload_n dX14_partsOf_65 0 rfl rfl ?_
    refine v_getI (f := 19) cf14 oc87 rfl (by decide) q2389 dX14_partsOf_66 ?_
    obtain ⟨g42, h⟩ := gd_some h
    obtain ⟨s43, e44, h⟩ := stp_some h
    refine v_iast oc140 (gI_rg _ _ _) g42.1 g42.2 dX14_partsOf_69 ?_
    rw [← e44]
    refine v_aload_n dX14_partsOf_70 0 rfl rfl ?_
    refine v_dupO dX14_partsOf_71 ?_
    refine v_getI (f := 19) cf14 oc87 rfl (by decide) q2389 dX14_partsOf_72 ?_
    refine v_iconst dX14_partsOf_75 ?_
    refine v_iadd dX14_partsOf_76 ?_
    obtain ⟨s45, e46, h⟩ := stp_some h
    refine v_putI (f := 19) cf14 oc87 rfl (by decide) q2389 dX14_partsOf_77 rfl rfl ?_
    rw [← e46]
    refine v_goto (tgt := 127) dX14_partsOf_80 (by decide) ?_
    exact wj_X14_partsOf_127 h rx1 hrec hE

def l_X14_partsOf_2 : Nat → Int → Int → vS → Option (vS)
  | 0, _, _, _ => none
  | n + 1, x1, x2, s =>
    if (gI s 87 8) = 0 then
      if x2 = 0 then
        bd (f_X14_is 2 s) fun r6 s3 =>
        if r6 = 0 then
          bd (f_X14_is 3 s3) fun r12 s9 =>
          if r12 = 0 then
            some s9
          else
            j_X14_partsOf_29 (l_X14_partsOf_2 n) x1 s9
        else
          j_X14_partsOf_29 (l_X14_partsOf_2 n) x1 s3
      else
        j_X14_partsOf_29 (l_X14_partsOf_2 n) x1 s
    else
      some s
theorem wl_X14_partsOf_2 {x1 : Int} {rv : Option vA} {σo : vS}  (rx1 : rg x1) : ∀ (n : Nat) (x2 : Int) (s : vS) (q : vS), l_X14_partsOf_2 n x1 x2 s = some q → rg x2 → E_X14_partsOf_2 rv σo q → VW cX14_partsOf (RX14, rv, σo, none, 3, 67, 3, []) (P0 []) s 2 [(0, vO 87), (1, vI x1), (2, vI x2)] [] := by
  intro n
  induction n with
  | zero => intro x2 s q h; cases h
  | succ n ih =>
    intro x2 s q h rx2 hE
    unfold l_X14_partsOf_2 at h
    refine v_aload_n dX14_partsOf_2 0 rfl rfl ?_
    refine v_getI (f := 8) cf14 oc87 rfl (by decide) q2378 dX14_partsOf_3 ?_
    refine v_if_ne (tgt := 157) dX14_partsOf_6 (gI_rg _ _ _) (by decide) (fun c1 => ?_) (fun c1 => ?_)
    · rw [if_neg c1] at h
      cases h
      refine v_sub [] (L1 := []) rfl ?_
      exact hE _ rfl 
    · rw [if_pos c1] at h
      refine v_iload_n dX14_partsOf_9 2 rfl rfl ?_
      refine v_if_ne (tgt := 29) dX14_partsOf_10 rx2 (by decide) (fun c2 => ?_) (fun c2 => ?_)
      · rw [if_neg c2] at h
        refine v_sub [0, 1] (L1 := [(0, vO 87), (1, vI x1)]) rfl ?_
        exact wj_X14_partsOf_29 h rx1 ih hE
      · rw [if_pos c2] at h
        refine v_aload_n dX14_partsOf_13 0 rfl rfl ?_
        refine v_iconst dX14_partsOf_14 ?_
        obtain ⟨r6, s3, e4, h⟩ := bd_some h
        have k5 := c_X14_is e4 (rgl rfl)
        have r7 : rg r6 := k5.1.2.2
        refine v_callV (st := []) cf14 oc87 k5 (lw_V q2968 q2970 qs173 q311 q2971) rfl yk_X14_is ⟨Nat.le_of_ble_eq_true rfl, Nat.le_of_ble_eq_true rfl⟩ trivial ⟨kc87, trivial⟩ (Nat.le_of_ble_eq_true rfl) rfl dX14_partsOf_15 ?_
        refine v_if_ne (tgt := 29) dX14_partsOf_18 r7 (by decide) (fun c8 => ?_) (fun c8 => ?_)
        · rw [if_neg c8] at h
          refine v_sub [0, 1] (L1 := [(0, vO 87), (1, vI x1)]) rfl ?_
          exact wj_X14_partsOf_29 h rx1 ih hE
        · rw [if_pos c8] at h
          refine v_aload_n dX14_partsOf_21 0 rfl rfl ?_
          refine v_iconst dX14_partsOf_22 ?_
          obtain ⟨r12, s9, e10, h⟩ := bd_some h
          have k11 := c_X14_is e10 (rgl rfl)
          have r13 : rg r12 := k11.1.2.2
          refine v_callV (st := []) cf14 oc87 k11 (lw_V q2968 q2970 qs173 q311 q2971) rfl yk_X14_is ⟨Nat.le_of_ble_eq_true rfl, Nat.le_of_ble_eq_true rfl⟩ trivial ⟨kc87, trivial⟩ (Nat.le_of_ble_eq_true rfl) rfl dX14_partsOf_23 ?_
          refine v_if_eq (tgt := 157) dX14_partsOf_26 r13 (by decide) (fun c14 => ?_) (fun c14 => ?_)
          · rw [if_pos c14] at h
            cases h
            refine v_sub [] (L1 := []) rfl ?_
            exact hE _ rfl 
          · rw [if_neg c14] at h
            refine v_sub [0, 1] (L1 := [(0, vO 87), (1, vI x1)]) rfl ?_
            exact wj_X14_partsOf_29 h rx1 ih hE

def f_X14_partsOf (x1 : Int) (s : vS) : Option (vS) :=
  lq_0 (l_X14_partsOf_2 FU x1 0 s) fun s1 =>
  some s1
theorem yk_X14_partsOf : yOk yX14_partsOf 1 := ⟨by decide, by decide, by decide +kernel⟩
theorem c_X14_partsOf {x1 : Int} {s : vS} {out : vS} (h : f_X14_partsOf x1 s = some out)  (rx1 : rg x1) : VC yX14_partsOf cX14_partsOf 3 none 3 67 [vO 87, vI x1] s none out [] := by
  unfold f_X14_partsOf at h
  refine VC.of RX14 (by decide) rfl (Nat.le_of_ble_eq_true rfl) ?_
  show VW cX14_partsOf (RX14, none, out, none, 3, 67, 3, []) (P0 []) s 0 [(0, vO 87), (1, vI x1)] []
  refine v_iconst dX14_partsOf_0 ?_
  refine v_istore_n (L1 := [(2, vI 0), (0, vO 87), (1, vI x1)]) dX14_partsOf_1 rfl (by decide) rfl ?_
  refine v_sub [1, 2, 0] (L1 := [(0, vO 87), (1, vI x1), (2, vI 0)]) rfl ?_
  obtain ⟨s1, e2, h⟩ := lq_0_some h
  refine wl_X14_partsOf_2 rx1 FU 0 s _ e2 (rgl rfl) ?_
  unfold E_X14_partsOf_2
  intro s1' z_
  cases z_
  cases h
  exact v_vret dX14_partsOf_157

def j_X14_parseValue_221 (x2 : Int) (s : vS) : Option (Int × vS) :=
  bdv (f_X14_misfit 1 s) fun s1 =>
  stp (sI s1 87 61 (w32 ((gI s1 87 61) + 1))) fun s4 =>
  some (x2, s4)
theorem wj_X14_parseValue_221 {x2 : Int} {s : vS} {out : Int × vS} (h : j_X14_parseValue_221 x2 s = some out)  (rx2 : rg x2) : VW cX14_parseValue (RX14, (some (vI out.1)), out.2, (some .int), 4, 89, 3, []) (P0 []) s 221 [(0, vO 87), (2, vI x2)] [] := by
  unfold j_X14_parseValue_221 at h
  refine v_aload_n dX14_parseValue_221 0 rfl rfl ?_
  refine v_iconst dX14_parseValue_222 ?_
  obtain ⟨s1, e2, h⟩ := bdv_some h
  have k3 := c_X14_misfit e2 (rgl rfl)
  refine v_callV (st := []) cf14 oc87 k3 (lw_V q2972 q2974 qs174 q311 q2975) rfl yk_X14_misfit ⟨Nat.le_of_ble_eq_true rfl, Nat.le_of_ble_eq_true rfl⟩ trivial ⟨kc87, trivial⟩ (Nat.le_of_ble_eq_true rfl) rfl dX14_parseValue_223 ?_
  refine v_aload_n dX14_parseValue_226 0 rfl rfl ?_
  refine v_dupO dX14_parseValue_227 ?_
  refine v_getI (f := 61) cf14 oc87 rfl (by decide) q2431 dX14_parseValue_228 ?_
  refine v_iconst dX14_parseValue_231 ?_
  refine v_iadd dX14_parseValue_232 ?_
  obtain ⟨s4, e5, h⟩ := stp_some h
  refine v_putI (f := 61) cf14 oc87 rfl (by decide) q2431 dX14_parseValue_233 rfl rfl ?_
  rw [← e5]
  refine v_iload_n dX14_parseValue_236 1 rfl rfl ?_
  cases h
  exact v_iret rx2 dX14_parseValue_237

def j_X14_parseValue_188 (x2 : Int) (s : vS) : Option (Int × vS) :=
  gd (inb x2 (gN s 135)) <|
  if (gZ s 135 x2) = 0 then
    bd (f_X14_eat 12 s) fun r6 s3 =>
    if r6 = 0 then
      j_X14_parseValue_221 x2 s3
    else
      bdv (f_X14_partsOf x2 s3) fun s9 =>
      bd (f_X14_take 13 s9) fun r15 s12 =>
      stp (sI s12 87 61 (w32 ((gI s12 87 61) + 1))) fun s17 =>
      some (x2, s17)
  else
    j_X14_parseValue_221 x2 s
theorem wj_X14_parseValue_188 {x2 : Int} {s : vS} {out : Int × vS} (h : j_X14_parseValue_188 x2 s = some out)  (rx2 : rg x2) : VW cX14_parseValue (RX14, (some (vI out.1)), out.2, (some .int), 4, 89, 3, []) (P0 []) s 188 [(0, vO 87), (2, vI x2)] [] := by
  unfold j_X14_parseValue_188 at h
  refine v_aload_n dX14_parseValue_188 0 rfl rfl ?_
  refine v_getS (f := 65) (t := 135) cf14 oc87 rfl rfl rfl (by decide) q2435 dX14_parseValue_189 ?_
  refine v_iload_n dX14_parseValue_192 1 rfl rfl ?_
  obtain ⟨g1, h⟩ := gd_some h
  refine v_zald oc135 rx2 g1.1 g1.2 dX14_parseValue_193 ?_
  refine v_if_ne (tgt := 221) dX14_parseValue_194 (gZ_rg _ _ _) (by decide) (fun c2 => ?_) (fun c2 => ?_)
  · rw [if_neg c2] at h
    exact wj_X14_parseValue_221 h rx2
  · rw [if_pos c2] at h
    refine v_aload_n dX14_parseValue_197 0 rfl rfl ?_
    refine v_bipush dX14_parseValue_198 rfl ?_
    obtain ⟨r6, s3, e4, h⟩ := bd_some h
    have k5 := c_X14_eat e4 (rgl rfl)
    have r7 : rg r6 := k5.1.2.2
    refine v_callV (st := []) cf14 oc87 k5 (lw_V q2976 q2978 qs175 q311 q2979) rfl yk_X14_eat ⟨Nat.le_of_ble_eq_true rfl, Nat.le_of_ble_eq_true rfl⟩ trivial ⟨kc87, trivial⟩ (Nat.le_of_ble_eq_true rfl) rfl dX14_parseValue_200 ?_
    refine v_if_eq (tgt := 221) dX14_parseValue_203 r7 (by decide) (fun c8 => ?_) (fun c8 => ?_)
    · rw [if_pos c8] at h
      exact wj_X14_parseValue_221 h rx2
    · rw [if_neg c8] at h
      refine v_aload_n dX14_parseValue_206 0 rfl rfl ?_
      refine v_iload_n dX14_parseValue_207 1 rfl rfl ?_
      obtain ⟨s9, e10, h⟩ := bdv_some h
      have k11 := c_X14_partsOf e10 rx2
      refine v_callV (st := []) cf14 oc87 k11 (lw_V q3073 q3075 qs198 q311 q3076) rfl yk_X14_partsOf ⟨Nat.le_of_ble_eq_true rfl, Nat.le_of_ble_eq_true rfl⟩ trivial ⟨kc87, trivial⟩ (Nat.le_of_ble_eq_true rfl) rfl dX14_parseValue_208 ?_
      refine v_aload_n dX14_parseValue_211 0 rfl rfl ?_
      refine v_bipush dX14_parseValue_212 rfl ?_
      obtain ⟨r15, s12, e13, h⟩ := bd_some h
      have k14 := c_X14_take e13 (rgl rfl)
      have r16 : rg r15 := k14.1.2.2
      refine v_callV (st := []) cf14 oc87 k14 (lw_V q2964 q2966 qs172 q311 q2967) rfl yk_X14_take ⟨Nat.le_of_ble_eq_true rfl, Nat.le_of_ble_eq_true rfl⟩ trivial ⟨kc87, trivial⟩ (Nat.le_of_ble_eq_true rfl) rfl dX14_parseValue_214 ?_
      refine v_popI dX14_parseValue_217 ?_
      refine v_goto (tgt := 226) dX14_parseValue_218 (by decide) ?_
      refine v_aload_n dX14_parseValue_226 0 rfl rfl ?_
      refine v_dupO dX14_parseValue_227 ?_
      refine v_getI (f := 61) cf14 oc87 rfl (by decide) q2431 dX14_parseValue_228 ?_
      refine v_iconst dX14_parseValue_231 ?_
      refine v_iadd dX14_parseValue_232 ?_
      obtain ⟨s17, e18, h⟩ := stp_some h
      refine v_putI (f := 61) cf14 oc87 rfl (by decide) q2431 dX14_parseValue_233 rfl rfl ?_
      rw [← e18]
      refine v_iload_n dX14_parseValue_236 1 rfl rfl ?_
      cases h
      exact v_iret rx2 dX14_parseValue_237

def j_X14_parseValue_175 (x2 : Int) (s : vS) : Option (Int × vS) :=
  stp (sI s 87 19 (w32 ((gI s 87 19) + 1))) fun s1 =>
  stp (sI s1 87 61 (w32 ((gI s1 87 61) + 1))) fun s3 =>
  some (x2, s3)
theorem wj_X14_parseValue_175 {x2 : Int} {s : vS} {out : Int × vS} (h : j_X14_parseValue_175 x2 s = some out)  (rx2 : rg x2) : VW cX14_parseValue (RX14, (some (vI out.1)), out.2, (some .int), 4, 89, 3, []) (P0 []) s 175 [(0, vO 87), (2, vI x2)] [] := by
  unfold j_X14_parseValue_175 at h
  refine v_aload_n dX14_parseValue_175 0 rfl rfl ?_
  refine v_dupO dX14_parseValue_176 ?_
  refine v_getI (f := 19) cf14 oc87 rfl (by decide) q2389 dX14_parseValue_177 ?_
  refine v_iconst dX14_parseValue_180 ?_
  refine v_iadd dX14_parseValue_181 ?_
  obtain ⟨s1, e2, h⟩ := stp_some h
  refine v_putI (f := 19) cf14 oc87 rfl (by decide) q2389 dX14_parseValue_182 rfl rfl ?_
  rw [← e2]
  refine v_goto (tgt := 226) dX14_parseValue_185 (by decide) ?_
  refine v_aload_n dX14_parseValue_226 0 rfl rfl ?_
  refine v_dupO dX14_parseValue_227 ?_
  refine v_getI (f := 61) cf14 oc87 rfl (by decide) q2431 dX14_parseValue_228 ?_
  refine v_iconst dX14_parseValue_231 ?_
  refine v_iadd dX14_parseValue_232 ?_
  obtain ⟨s3, e4, h⟩ := stp_some h
  refine v_putI (f := 61) cf14 oc87 rfl (by decide) q2431 dX14_parseValue_233 rfl rfl ?_
  rw [← e4]
  refine v_iload_n dX14_parseValue_236 1 rfl rfl ?_
  cases h
  exact v_iret rx2 dX14_parseValue_237

def f_X14_parseValue (x1 : Int) (s : vS) : Option (Int × vS) :=
  vl (gI s 87 61) fun y1 =>
  if (gI s 87 8) ≤ 0 then
    gd (inb y1 (gN s 133)) <|
    stp (sE s 133 y1 (gI s 87 19)) fun s6 =>
    gd (inb y1 (gN s6 138)) <|
    stp (sE s6 138 y1 x1) fun s9 =>
    bd (f_X14_eat 19 s9) fun r14 s11 =>
    gd (gN s11 135 = gN s9 135) <|
    gd (inb y1 (gN s11 135)) <|
    stp (sE s11 135 y1 r14) fun s18 =>
    gd (inb y1 (gN s18 136)) <|
    stp (sE s18 136 y1 (gI s18 87 69)) fun s21 =>
    gd (inb y1 (gN s21 137)) <|
    stp (sE s21 137 y1 0) fun s24 =>
    gd (inb (gI s24 87 19) (gN s24 94)) <|
    gd (inb y1 (gN s24 132)) <|
    stp (sE s24 132 y1 (gE s24 94 (gI s24 87 19))) fun s28 =>
    gd (inb y1 (gN s28 134)) <|
    stp (sE s28 134 y1 (gI s28 87 19)) fun s31 =>
    bd (f_X14_is 3 s31) fun r36 s33 =>
    if r36 = 0 then
      gd (inb y1 (gN s33 135)) <|
      if (gZ s33 135 y1) = 0 then
        bd (f_X14_is 106 s33) fun r44 s41 =>
        if r44 = 0 then
          bd (f_X14_is 67 s41) fun r50 s47 =>
          if r50 = 0 then
            bd (f_X14_is 85 s47) fun r56 s53 =>
            if r56 = 0 then
              bd (f_X14_is 2 s53) fun r62 s59 =>
              if r62 = 0 then
                bd (f_X14_is 4 s59) fun r68 s65 =>
                if r68 = 0 then
                  bd (f_X14_is 5 s65) fun r74 s71 =>
                  if r74 = 0 then
                    bd (f_X14_is 6 s71) fun r80 s77 =>
                    if r80 = 0 then
                      j_X14_parseValue_188 y1 s77
                    else
                      j_X14_parseValue_175 y1 s77
                  else
                    j_X14_parseValue_175 y1 s71
                else
                  j_X14_parseValue_175 y1 s65
              else
                j_X14_parseValue_175 y1 s59
            else
              j_X14_parseValue_175 y1 s53
          else
            j_X14_parseValue_175 y1 s47
        else
          j_X14_parseValue_175 y1 s41
      else
        j_X14_parseValue_188 y1 s33
    else
      stp (sI s33 87 19 (w32 ((gI s33 87 19) + 1))) fun s83 =>
      stp (sI s83 87 61 (w32 ((gI s83 87 61) + 1))) fun s85 =>
      some (y1, s85)
  else
    some (0, s)
theorem yk_X14_parseValue : yOk yX14_parseValue 1 := ⟨by decide, by decide, by decide +kernel⟩
theorem c_X14_parseValue {x1 : Int} {s : vS} {out : Int × vS} (h : f_X14_parseValue x1 s = some out)  (rx1 : rg x1) : VC yX14_parseValue cX14_parseValue 3 (some .int) 4 89 [vO 87, vI x1] s (some (vI out.1)) out.2 [] := by
  unfold f_X14_parseValue at h
  refine VC.of RX14 (by decide) rfl (Nat.le_of_ble_eq_true rfl) ?_
  show VW cX14_parseValue (RX14, (some (vI out.1)), out.2, (some .int), 4, 89, 3, []) (P0 []) s 0 [(0, vO 87), (1, vI x1)] []
  refine v_aload_n dX14_parseValue_0 0 rfl rfl ?_
  refine v_getI (f := 61) cf14 oc87 rfl (by decide) q2431 dX14_parseValue_1 ?_
  obtain ⟨y1, e2, h⟩ := vl_some h
  rw [← e2]
  have r3 : rg y1 := by rw [e2]; exact gI_rg _ _ _
  refine v_istore_n (L1 := [(2, vI y1), (0, vO 87), (1, vI x1)]) dX14_parseValue_4 rfl (by decide) rfl ?_
  refine v_aload_n dX14_parseValue_5 1 rfl rfl ?_
  refine v_getI (f := 8) cf14 oc87 rfl (by decide) q2378 dX14_parseValue_6 ?_
  refine v_if_le (tgt := 14) dX14_parseValue_9 (gI_rg _ _ _) (by decide) (fun c4 => ?_) (fun c4 => ?_)
  · rw [if_pos c4] at h
    refine v_aload_n dX14_parseValue_14 1 rfl rfl ?_
    refine v_getS (f := 63) (t := 133) cf14 oc87 rfl rfl rfl (by decide) q2433 dX14_parseValue_15 ?_
    refine v_iload_n dX14_parseValue_18 0 rfl rfl ?_
    refine v_aload_n dX14_parseValue_19 1 rfl rfl ?_
    refine v_getI (f := 19) cf14 oc87 rfl (by decide) q2389 dX14_parseValue_20 ?_
    obtain ⟨g5, h⟩ := gd_some h
    obtain ⟨s6, e7, h⟩ := stp_some h
    refine v_iast oc133 r3 g5.1 g5.2 dX14_parseValue_23 ?_
    rw [← e7]
    refine v_aload_n dX14_parseValue_24 1 rfl rfl ?_
    refine v_getS (f := 68) (t := 138) cf14 oc87 rfl rfl rfl (by decide) q2438 dX14_parseValue_25 ?_
    refine v_iload_n dX14_parseValue_28 0 rfl rfl ?_
    refine v_iload_n dX14_parseValue_29 2 rfl rfl ?_
    obtain ⟨g8, h⟩ := gd_some h
    obtain ⟨s9, e10, h⟩ := stp_some h
    refine v_iast oc138 r3 g8.1 g8.2 dX14_parseValue_30 ?_
    rw [← e10]
    refine v_aload_n dX14_parseValue_31 1 rfl rfl ?_
    refine v_getS (f := 65) (t := 135) cf14 oc87 rfl rfl rfl (by decide) q2435 dX14_parseValue_32 ?_
    refine v_iload_n dX14_parseValue_35 0 rfl rfl ?_
    refine v_aload_n dX14_parseValue_36 1 rfl rfl ?_
    refine v_bipush dX14_parseValue_37 rfl ?_
    obtain ⟨r14, s11, e12, h⟩ := bd_some h
    have k13 := c_X14_eat e12 (rgl rfl)
    have r15 : rg r14 := k13.1.2.2
    obtain ⟨g16, h⟩ := gd_some h
    refine v_callV (st := [vI y1, vO 135]) cf14 oc87 k13 (lw_V q2976 q2978 qs175 q311 q2979) rfl yk_X14_eat ⟨Nat.le_of_ble_eq_true rfl, Nat.le_of_ble_eq_true rfl⟩ ⟨(kp_arr (by decide) g16), trivial⟩ ⟨kc87, trivial⟩ (Nat.le_of_ble_eq_true rfl) rfl dX14_parseValue_39 ?_
    obtain ⟨g17, h⟩ := gd_some h
    obtain ⟨s18, e19, h⟩ := stp_some h
    refine v_zast oc135 r3 g17.1 g17.2 dX14_parseValue_42 ?_
    rw [← e19]
    refine v_aload_n dX14_parseValue_43 1 rfl rfl ?_
    refine v_getS (f := 66) (t := 136) cf14 oc87 rfl rfl rfl (by decide) q2436 dX14_parseValue_44 ?_
    refine v_iload_n dX14_parseValue_47 0 rfl rfl ?_
    refine v_aload_n dX14_parseValue_48 1 rfl rfl ?_
    refine v_getI (f := 69) cf14 oc87 rfl (by decide) q2439 dX14_parseValue_49 ?_
    obtain ⟨g20, h⟩ := gd_some h
    obtain ⟨s21, e22, h⟩ := stp_some h
    refine v_iast oc136 r3 g20.1 g20.2 dX14_parseValue_52 ?_
    rw [← e22]
    refine v_aload_n dX14_parseValue_53 1 rfl rfl ?_
    refine v_getS (f := 67) (t := 137) cf14 oc87 rfl rfl rfl (by decide) q2437 dX14_parseValue_54 ?_
    refine v_iload_n dX14_parseValue_57 0 rfl rfl ?_
    refine v_iconst dX14_parseValue_58 ?_
    obtain ⟨g23, h⟩ := gd_some h
    obtain ⟨s24, e25, h⟩ := stp_some h
    refine v_iast oc137 r3 g23.1 g23.2 dX14_parseValue_59 ?_
    rw [← e25]
    refine v_aload_n dX14_parseValue_60 1 rfl rfl ?_
    refine v_getS (f := 62) (t := 132) cf14 oc87 rfl rfl rfl (by decide) q2432 dX14_parseValue_61 ?_
    refine v_iload_n dX14_parseValue_64 0 rfl rfl ?_
    refine v_aload_n dX14_parseValue_65 1 rfl rfl ?_
    refine v_getS (f := 16) (t := 94) cf14 oc87 rfl rfl rfl (by decide) q2386 dX14_parseValue_66 ?_
    refine v_aload_n dX14_parseValue_69 1 rfl rfl ?_
    refine v_getI (f := 19) cf14 oc87 rfl (by decide) q2389 dX14_parseValue_70 ?_
    obtain ⟨g26, h⟩ := gd_some h
    refine v_iald oc94 (gI_rg _ _ _) g26.1 g26.2 dX14_parseValue_73 ?_
    obtain ⟨g27, h⟩ := gd_some h
    obtain ⟨s28, e29, h⟩ := stp_some h
    refine v_iast oc132 r3 g27.1 g27.2 dX14_parseValue_74 ?_
    rw [← e29]
    refine v_aload_n dX14_parseValue_75 1 rfl rfl ?_
    refine v_getS (f := 64) (t := 134) cf14 oc87 rfl rfl rfl (by decide) q2434 dX14_parseValue_76 ?_
    refine v_iload_n dX14_parseValue_79 0 rfl rfl ?_
    refine v_aload_n dX14_parseValue_80 1 rfl rfl ?_
    refine v_getI (f := 19) cf14 oc87 rfl (by decide) q2389 dX14_parseValue_81 ?_
    obtain ⟨g30, h⟩ := gd_some h
    obtain ⟨s31, e32, h⟩ := stp_some h
    refine v_iast oc134 r3 g30.1 g30.2 dX14_parseValue_84 ?_
    rw [← e32]
    refine v_aload_n dX14_parseValue_85 1 rfl rfl ?_
    refine v_iconst dX14_parseValue_86 ?_
    obtain ⟨r36, s33, e34, h⟩ := bd_some h
    have k35 := c_X14_is e34 (rgl rfl)
    have r37 : rg r36 := k35.1.2.2
    refine v_callV (st := []) cf14 oc87 k35 (lw_V q2968 q2970 qs173 q311 q2971) rfl yk_X14_is ⟨Nat.le_of_ble_eq_true rfl, Nat.le_of_ble_eq_true rfl⟩ trivial ⟨kc87, trivial⟩ (Nat.le_of_ble_eq_true rfl) rfl dX14_parseValue_87 ?_
    refine v_if_eq (tgt := 106) dX14_parseValue_90 r37 (by decide) (fun c38 => ?_) (fun c38 => ?_)
    · rw [if_pos c38] at h
      refine v_aload_n dX14_parseValue_106 1 rfl rfl ?_
      refine v_getS (f := 65) (t := 135) cf14 oc87 rfl rfl rfl (by decide) q2435 dX14_parseValue_107 ?_
      refine v_iload_n dX14_parseValue_110 0 rfl rfl ?_
      obtain ⟨g39, h⟩ := gd_some h
      refine v_zald oc135 r3 g39.1 g39.2 dX14_parseValue_111 ?_
      refine v_if_ne (tgt := 188) dX14_parseValue_112 (gZ_rg _ _ _) (by decide) (fun c40 => ?_) (fun c40 => ?_)
      · rw [if_neg c40] at h
        refine v_sub [1, 0] (L1 := [(0, vO 87), (2, vI y1)]) rfl ?_
        exact wj_X14_parseValue_188 h r3
      · rw [if_pos c40] at h
        refine v_aload_n dX14_parseValue_115 1 rfl rfl ?_
        refine v_bipush dX14_parseValue_116 rfl ?_
        obtain ⟨r44, s41, e42, h⟩ := bd_some h
        have k43 := c_X14_is e42 (rgl rfl)
        have r45 : rg r44 := k43.1.2.2
        refine v_callV (st := []) cf14 oc87 k43 (lw_V q2968 q2970 qs173 q311 q2971) rfl yk_X14_is ⟨Nat.le_of_ble_eq_true rfl, Nat.le_of_ble_eq_true rfl⟩ trivial ⟨kc87, trivial⟩ (Nat.le_of_ble_eq_true rfl) rfl dX14_parseValue_118 ?_
        refine v_if_ne (tgt := 175) dX14_parseValue_121 r45 (by decide) (fun c46 => ?_) (fun c46 => ?_)
        · rw [if_neg c46] at h
          refine v_sub [1, 0] (L1 := [(0, vO 87), (2, vI y1)]) rfl ?_
          exact wj_X14_parseValue_175 h r3
        · rw [if_pos c46] at h
          refine v_aload_n dX14_parseValue_124 1 rfl rfl ?_
          refine v_bipush dX14_parseValue_125 rfl ?_
          obtain ⟨r50, s47, e48, h⟩ := bd_some h
          have k49 := c_X14_is e48 (rgl rfl)
          have r51 : rg r50 := k49.1.2.2
          refine v_callV (st := []) cf14 oc87 k49 (lw_V q2968 q2970 qs173 q311 q2971) rfl yk_X14_is ⟨Nat.le_of_ble_eq_true rfl, Nat.le_of_ble_eq_true rfl⟩ trivial ⟨kc87, trivial⟩ (Nat.le_of_ble_eq_true rfl) rfl dX14_parseValue_127 ?_
          refine v_if_ne (tgt := 175) dX14_parseValue_130 r51 (by decide) (fun c52 => ?_) (fun c52 => ?_)
          · rw [if_neg c52] at h
            refine v_sub [1, 0] (L1 := [(0, vO 87), (2, vI y1)]) rfl ?_
            exact wj_X14_parseValue_175 h r3
          · rw [if_pos c52] at h
            refine v_aload_n dX14_parseValue_133 1 rfl rfl ?_
            refine v_bipush dX14_parseValue_134 rfl ?_
            obtain ⟨r56, s53, e54, h⟩ := bd_some h
            have k55 := c_X14_is e54 (rgl rfl)
            have r57 : rg r56 := k55.1.2.2
            refine v_callV (st := []) cf14 oc87 k55 (lw_V q2968 q2970 qs173 q311 q2971) rfl yk_X14_is ⟨Nat.le_of_ble_eq_true rfl, Nat.le_of_ble_eq_true rfl⟩ trivial ⟨kc87, trivial⟩ (Nat.le_of_ble_eq_true rfl) rfl dX14_parseValue_136 ?_
            refine v_if_ne (tgt := 175) dX14_parseValue_139 r57 (by decide) (fun c58 => ?_) (fun c58 => ?_)
            · rw [if_neg c58] at h
              refine v_sub [1, 0] (L1 := [(0, vO 87), (2, vI y1)]) rfl ?_
              exact wj_X14_parseValue_175 h r3
            · rw [if_pos c58] at h
              refine v_aload_n dX14_parseValue_142 1 rfl rfl ?_
              refine v_iconst dX14_parseValue_143 ?_
              obtain ⟨r62, s59, e60, h⟩ := bd_some h
              have k61 := c_X14_is e60 (rgl rfl)
              have r63 : rg r62 := k61.1.2.2
              refine v_callV (st := []) cf14 oc87 k61 (lw_V q2968 q2970 qs173 q311 q2971) rfl yk_X14_is ⟨Nat.le_of_ble_eq_true rfl, Nat.le_of_ble_eq_true rfl⟩ trivial ⟨kc87, trivial⟩ (Nat.le_of_ble_eq_true rfl) rfl dX14_parseValue_144 ?_
              refine v_if_ne (tgt := 175) dX14_parseValue_147 r63 (by decide) (fun c64 => ?_) (fun c64 => ?_)
              · rw [if_neg c64] at h
                refine v_sub [1, 0] (L1 := [(0, vO 87), (2, vI y1)]) rfl ?_
                exact wj_X14_parseValue_175 h r3
              · rw [if_pos c64] at h
                refine v_aload_n dX14_parseValue_150 1 rfl rfl ?_
                refine v_iconst dX14_parseValue_151 ?_
                obtain ⟨r68, s65, e66, h⟩ := bd_some h
                have k67 := c_X14_is e66 (rgl rfl)
                have r69 : rg r68 := k67.1.2.2
                refine v_callV (st := []) cf14 oc87 k67 (lw_V q2968 q2970 qs173 q311 q2971) rfl yk_X14_is ⟨Nat.le_of_ble_eq_true rfl, Nat.le_of_ble_eq_true rfl⟩ trivial ⟨kc87, trivial⟩ (Nat.le_of_ble_eq_true rfl) rfl dX14_parseValue_152 ?_
                refine v_if_ne (tgt := 175) dX14_parseValue_155 r69 (by decide) (fun c70 => ?_) (fun c70 => ?_)
                · rw [if_neg c70] at h
                  refine v_sub [1, 0] (L1 := [(0, vO 87), (2, vI y1)]) rfl ?_
                  exact wj_X14_parseValue_175 h r3
                · rw [if_pos c70] at h
                  refine v_aload_n dX14_parseValue_158 1 rfl rfl ?_
                  refine v_iconst dX14_parseValue_159 ?_
                  obtain ⟨r74, s71, e72, h⟩ := bd_some h
                  have k73 := c_X14_is e72 (rgl rfl)
                  have r75 : rg r74 := k73.1.2.2
                  refine v_callV (st := []) cf14 oc87 k73 (lw_V q2968 q2970 qs173 q311 q2971) rfl yk_X14_is ⟨Nat.le_of_ble_eq_true rfl, Nat.le_of_ble_eq_true rfl⟩ trivial ⟨kc87, trivial⟩ (Nat.le_of_ble_eq_true rfl) rfl dX14_parseValue_160 ?_
                  refine v_if_ne (tgt := 175) dX14_parseValue_163 r75 (by decide) (fun c76 => ?_) (fun c76 => ?_)
                  · rw [if_neg c76] at h
                    refine v_sub [1, 0] (L1 := [(0, vO 87), (2, vI y1)]) rfl ?_
                    exact wj_X14_parseValue_175 h r3
                  · rw [if_pos c76] at h
                    refine v_aload_n dX14_parseValue_166 1 rfl rfl ?_
                    refine v_bipush dX14_parseValue_167 rfl ?_
                    obtain ⟨r80, s77, e78, h⟩ := bd_some h
                    have k79 := c_X14_is e78 (rgl rfl)
                    have r81 : rg r80 := k79.1.2.2
                    refine v_callV (st := []) cf14 oc87 k79 (lw_V q2968 q2970 qs173 q311 q2971) rfl yk_X14_is ⟨Nat.le_of_ble_eq_true rfl, Nat.le_of_ble_eq_true rfl⟩ trivial ⟨kc87, trivial⟩ (Nat.le_of_ble_eq_true rfl) rfl dX14_parseValue_169 ?_
                    refine v_if_eq (tgt := 188) dX14_parseValue_172 r81 (by decide) (fun c82 => ?_) (fun c82 => ?_)
                    · rw [if_pos c82] at h
                      refine v_sub [1, 0] (L1 := [(0, vO 87), (2, vI y1)]) rfl ?_
                      exact wj_X14_parseValue_188 h r3
                    · rw [if_neg c82] at h
                      refine v_sub [1, 0] (L1 := [(0, vO 87), (2, vI y1)]) rfl ?_
                      exact wj_X14_parseValue_175 h r3
    · rw [if_neg c38] at h
      refine v_aload_n dX14_parseValue_93 1 rfl rfl ?_
      refine v_dupO dX14_parseValue_94 ?_
      refine v_getI (f := 19) cf14 oc87 rfl (by decide) q2389 dX14_parseValue_95 ?_
      refine v_iconst dX14_parseValue_98 ?_
      refine v_iadd dX14_parseValue_99 ?_
      obtain ⟨s83, e84, h⟩ := stp_some h
      refine v_putI (f := 19) cf14 oc87 rfl (by decide) q2389 dX14_parseValue_100 rfl rfl ?_
      rw [← e84]
      refine v_goto (tgt := 226) dX14_parseValue_103 (by decide) ?_
      refine v_aload_n dX14_parseValue_226 1 rfl rfl ?_
      refine v_dupO dX14_parseValue_227 ?_
      refine v_getI (f := 61) cf14 oc87 rfl (by decide) q2431 dX14_parseValue_228 ?_
      refine v_iconst dX14_parseValue_231 ?_
      refine v_iadd dX14_parseValue_232 ?_
      obtain ⟨s85, e86, h⟩ := stp_some h
      refine v_putI (f := 61) cf14 oc87 rfl (by decide) q2431 dX14_parseValue_233 rfl rfl ?_
      rw [← e86]
      refine v_iload_n dX14_parseValue_236 0 rfl rfl ?_
      cases h
      exact v_iret r3 dX14_parseValue_237
  · rw [if_neg c4] at h
    refine v_iconst dX14_parseValue_12 ?_
    cases h
    exact v_iret (rgl rfl) dX14_parseValue_13

def j_X14_resume_145 (x1 : Int) (s : vS) : Option (vS) :=
  stp (sI s 87 79 (w32 ((gI s 87 79) - 1))) fun s1 =>
  stp (sI s1 87 82 x1) fun s3 =>
  stp (sI s3 87 83 0) fun s5 =>
  some s5
theorem wj_X14_resume_145 {x1 : Int} {s : vS} {out : vS} (h : j_X14_resume_145 x1 s = some out)  (rx1 : rg x1) : VW cX14_resume (RX14, none, out, none, 5, 111, 3, []) (P0 []) s 145 [(0, vO 87), (1, vI x1)] [] := by
  unfold j_X14_resume_145 at h
  refine v_aload_n dX14_resume_145 0 rfl rfl ?_
  refine v_dupO dX14_resume_146 ?_
  refine v_getI (f := 79) cf14 oc87 rfl (by decide) q2449 dX14_resume_147 ?_
  refine v_iconst dX14_resume_150 ?_
  refine v_isub dX14_resume_151 ?_
  obtain ⟨s1, e2, h⟩ := stp_some h
  refine v_putI (f := 79) cf14 oc87 rfl (by decide) q2449 dX14_resume_152 rfl rfl ?_
  rw [← e2]
  refine v_aload_n dX14_resume_155 0 rfl rfl ?_
  refine v_iload_n dX14_resume_156 1 rfl rfl ?_
  obtain ⟨s3, e4, h⟩ := stp_some h
  refine v_putI (f := 82) cf14 oc87 rfl (by decide) q2452 dX14_resume_157 rfl rfl ?_
  rw [← e4]
  refine v_aload_n dX14_resume_160 0 rfl rfl ?_
  refine v_iconst dX14_resume_161 ?_
  obtain ⟨s5, e6, h⟩ := stp_some h
  refine v_putZ (f := 83) cf14 oc87 rfl (by decide) q2453 dX14_resume_162 rfl rfl (Or.inl rfl) ?_
  rw [← e6]
  cases h
  exact v_vret dX14_resume_165

def j_X14_resume_122 (x1 : Int) (x2 : Int) (s : vS) : Option (vS) :=
  bd (f_X14_eat 18 s) fun r4 s1 =>
  if r4 = 0 then
    bd (f_X14_take 13 s1) fun r10 s7 =>
    j_X14_resume_145 x1 s7
  else
    bdv (f_X14_component x1 x2 s1) fun s12 =>
    some s12
theorem wj_X14_resume_122 {x1 : Int} {x2 : Int} {s : vS} {out : vS} (h : j_X14_resume_122 x1 x2 s = some out)  (rx1 : rg x1) (rx2 : rg x2) : VW cX14_resume (RX14, none, out, none, 5, 111, 3, []) (P0 []) s 122 [(0, vO 87), (1, vI x1), (2, vI x2)] [] := by
  unfold j_X14_resume_122 at h
  refine v_aload_n dX14_resume_122 0 rfl rfl ?_
  refine v_bipush dX14_resume_123 rfl ?_
  obtain ⟨r4, s1, e2, h⟩ := bd_some h
  have k3 := c_X14_eat e2 (rgl rfl)
  have r5 : rg r4 := k3.1.2.2
  refine v_callV (st := []) cf14 oc87 k3 (lw_V q2976 q2978 qs175 q311 q2979) rfl yk_X14_eat ⟨Nat.le_of_ble_eq_true rfl, Nat.le_of_ble_eq_true rfl⟩ trivial ⟨kc87, trivial⟩ (Nat.le_of_ble_eq_true rfl) rfl dX14_resume_125 ?_
  refine v_if_eq (tgt := 138) dX14_resume_128 r5 (by decide) (fun c6 => ?_) (fun c6 => ?_)
  · rw [if_pos c6] at h
    refine v_aload_n dX14_resume_138 0 rfl rfl ?_
    refine v_bipush dX14_resume_139 rfl ?_
    obtain ⟨r10, s7, e8, h⟩ := bd_some h
    have k9 := c_X14_take e8 (rgl rfl)
    have r11 : rg r10 := k9.1.2.2
    refine v_callV (st := []) cf14 oc87 k9 (lw_V q2964 q2966 qs172 q311 q2967) rfl yk_X14_take ⟨Nat.le_of_ble_eq_true rfl, Nat.le_of_ble_eq_true rfl⟩ trivial ⟨kc87, trivial⟩ (Nat.le_of_ble_eq_true rfl) rfl dX14_resume_141 ?_
    refine v_popI dX14_resume_144 ?_
    refine v_sub [0, 1] (L1 := [(0, vO 87), (1, vI x1)]) rfl ?_
    exact wj_X14_resume_145 h rx1
  · rw [if_neg c6] at h
    refine v_aload_n dX14_resume_131 0 rfl rfl ?_
    refine v_iload_n dX14_resume_132 1 rfl rfl ?_
    refine v_iload_n dX14_resume_133 2 rfl rfl ?_
    obtain ⟨s12, e13, h⟩ := bdv_some h
    have k14 := c_X14_component e13 rx1 rx2
    refine v_callV (st := []) cf14 oc87 k14 (lw_V q3041 q3043 qs190 q311 q3044) rfl yk_X14_component ⟨Nat.le_of_ble_eq_true rfl, Nat.le_of_ble_eq_true rfl⟩ trivial ⟨kc87, trivial⟩ (Nat.le_of_ble_eq_true rfl) rfl dX14_resume_134 ?_
    cases h
    exact v_vret dX14_resume_137

def j_X14_resume_81 (x1 : Int) (x2 : Int) (s : vS) : Option (vS) :=
  gd (inb x1 (gN s 97)) <|
  if (gE s 97 x1) = 16 then
    j_X14_resume_122 x1 x2 s
  else
    bd (f_X14_eat 56 s) fun r6 s3 =>
    if r6 = 0 then
      j_X14_resume_122 x1 x2 s3
    else
      gd (inb x2 (gN s3 118)) <|
      stp (sE s3 118 x2 2) fun s10 =>
      bd (f_X14_parseValue (gI s10 87 82) s10) fun r15 s12 =>
      gd (gN s12 119 = gN s10 119) <|
      gd (inb x2 (gN s12 119)) <|
      stp (sE s12 119 x2 r15) fun s19 =>
      j_X14_resume_122 x1 x2 s19
theorem wj_X14_resume_81 {x1 : Int} {x2 : Int} {s : vS} {out : vS} (h : j_X14_resume_81 x1 x2 s = some out)  (rx1 : rg x1) (rx2 : rg x2) : VW cX14_resume (RX14, none, out, none, 5, 111, 3, []) (P0 []) s 81 [(0, vO 87), (1, vI x1), (2, vI x2)] [] := by
  unfold j_X14_resume_81 at h
  refine v_aload_n dX14_resume_81 0 rfl rfl ?_
  refine v_getS (f := 21) (t := 97) cf14 oc87 rfl rfl rfl (by decide) q2391 dX14_resume_82 ?_
  refine v_iload_n dX14_resume_85 1 rfl rfl ?_
  obtain ⟨g1, h⟩ := gd_some h
  refine v_iald oc97 rx1 g1.1 g1.2 dX14_resume_86 ?_
  refine v_bipush dX14_resume_87 rfl ?_
  refine v_icmp_eq (tgt := 122) dX14_resume_89 (gE_rg _ _ _) (rgl rfl) (by decide) (fun c2 => ?_) (fun c2 => ?_)
  · rw [if_pos c2] at h
    exact wj_X14_resume_122 h rx1 rx2
  · rw [if_neg c2] at h
    refine v_aload_n dX14_resume_92 0 rfl rfl ?_
    refine v_bipush dX14_resume_93 rfl ?_
    obtain ⟨r6, s3, e4, h⟩ := bd_some h
    have k5 := c_X14_eat e4 (rgl rfl)
    have r7 : rg r6 := k5.1.2.2
    refine v_callV (st := []) cf14 oc87 k5 (lw_V q2976 q2978 qs175 q311 q2979) rfl yk_X14_eat ⟨Nat.le_of_ble_eq_true rfl, Nat.le_of_ble_eq_true rfl⟩ trivial ⟨kc87, trivial⟩ (Nat.le_of_ble_eq_true rfl) rfl dX14_resume_95 ?_
    refine v_if_eq (tgt := 122) dX14_resume_98 r7 (by decide) (fun c8 => ?_) (fun c8 => ?_)
    · rw [if_pos c8] at h
      exact wj_X14_resume_122 h rx1 rx2
    · rw [if_neg c8] at h
      refine v_aload_n dX14_resume_101 0 rfl rfl ?_
      refine v_getS (f := 45) (t := 118) cf14 oc87 rfl rfl rfl (by decide) q2415 dX14_resume_102 ?_
      refine v_iload_n dX14_resume_105 2 rfl rfl ?_
      refine v_iconst dX14_resume_106 ?_
      obtain ⟨g9, h⟩ := gd_some h
      obtain ⟨s10, e11, h⟩ := stp_some h
      refine v_iast oc118 rx2 g9.1 g9.2 dX14_resume_107 ?_
      rw [← e11]
      refine v_aload_n dX14_resume_108 0 rfl rfl ?_
      refine v_getS (f := 46) (t := 119) cf14 oc87 rfl rfl rfl (by decide) q2416 dX14_resume_109 ?_
      refine v_iload_n dX14_resume_112 2 rfl rfl ?_
      refine v_aload_n dX14_resume_113 0 rfl rfl ?_
      refine v_aload_n dX14_resume_114 0 rfl rfl ?_
      refine v_getI (f := 82) cf14 oc87 rfl (by decide) q2452 dX14_resume_115 ?_
      obtain ⟨r15, s12, e13, h⟩ := bd_some h
      have k14 := c_X14_parseValue e13 (gI_rg _ _ _)
      have r16 : rg r15 := k14.1.2.2
      obtain ⟨g17, h⟩ := gd_some h
      refine v_callV (st := [vI x2, vO 119]) cf14 oc87 k14 (lw_V q3069 q3071 qs197 q311 q3072) rfl yk_X14_parseValue ⟨Nat.le_of_ble_eq_true rfl, Nat.le_of_ble_eq_true rfl⟩ ⟨(kp_arr (by decide) g17), trivial⟩ ⟨kc87, trivial⟩ (Nat.le_of_ble_eq_true rfl) rfl dX14_resume_118 ?_
      obtain ⟨g18, h⟩ := gd_some h
      obtain ⟨s19, e20, h⟩ := stp_some h
      refine v_iast oc119 rx2 g18.1 g18.2 dX14_resume_121 ?_
      rw [← e20]
      exact wj_X14_resume_122 h rx1 rx2

def f_X14_resume (s : vS) : Option (vS) :=
  gd (inb (w32 ((gI s 87 79) - 1)) (gN s 145)) <|
  vl (gE s 145 (w32 ((gI s 87 79) - 1))) fun y2 =>
  gd (inb (w32 ((gI s 87 79) - 1)) (gN s 146)) <|
  vl (gE s 146 (w32 ((gI s 87 79) - 1))) fun y6 =>
  if 0 ≤ y6 then
    gd (inb y6 (gN s 117)) <|
    stp (sE s 117 y6 (gI s 87 82)) fun s11 =>
    gd (inb y2 (gN s11 97)) <|
    if (gE s11 97 y2) = 16 then
      j_X14_resume_81 y2 y6 s11
    else
      bd (f_X14_eat 90 s11) fun r18 s15 =>
      if r18 = 0 then
        j_X14_resume_81 y2 y6 s15
      else
        gd (inb y6 (gN s15 118)) <|
        stp (sE s15 118 y6 1) fun s22 =>
        j_X14_resume_122 y2 y6 s22
  else
    gd (inb y2 (gN s 106)) <|
    stp (sE s 106 y2 (gI s 87 82)) fun s25 =>
    j_X14_resume_145 y2 s25
theorem yk_X14_resume : yOk yX14_resume 0 := ⟨by decide, by decide, by decide +kernel⟩
theorem c_X14_resume {s : vS} {out : vS} (h : f_X14_resume s = some out)   : VC yX14_resume cX14_resume 3 none 5 111 [vO 87] s none out [] := by
  unfold f_X14_resume at h
  refine VC.of RX14 (by decide) rfl (Nat.le_of_ble_eq_true rfl) ?_
  show VW cX14_resume (RX14, none, out, none, 5, 111, 3, []) (P0 []) s 0 [(0, vO 87)] []
  refine v_aload_n dX14_resume_0 0 rfl rfl ?_
  refine v_getS (f := 80) (t := 145) cf14 oc87 rfl rfl rfl (by decide) q2450 dX14_resume_1 ?_
  refine v_aload_n dX14_resume_4 0 rfl rfl ?_
  refine v_getI (f := 79) cf14 oc87 rfl (by decide) q2449 dX14_resume_5 ?_
  refine v_iconst dX14_resume_8 ?_
  refine v_isub dX14_resume_9 ?_
  obtain ⟨g1, h⟩ := gd_some h
  refine v_iald oc145 (w32_rg _) g1.1 g1.2 dX14_resume_10 ?_
  obtain ⟨y2, e3, h⟩ := vl_some h
  rw [← e3]
  have r4 : rg y2 := by rw [e3]; exact gE_rg _ _ _
  refine v_istore_n (L1 := [(1, vI y2), (0, vO 87)]) dX14_resume_11 rfl (by decide) rfl ?_
  refine v_aload_n dX14_resume_12 1 rfl rfl ?_
  refine v_getS (f := 81) (t := 146) cf14 oc87 rfl rfl rfl (by decide) q2451 dX14_resume_13 ?_
  refine v_aload_n dX14_resume_16 1 rfl rfl ?_
  refine v_getI (f := 79) cf14 oc87 rfl (by decide) q2449 dX14_resume_17 ?_
  refine v_iconst dX14_resume_20 ?_
  refine v_isub dX14_resume_21 ?_
  obtain ⟨g5, h⟩ := gd_some h
  refine v_iald oc146 (w32_rg _) g5.1 g5.2 dX14_resume_22 ?_
  obtain ⟨y6, e7, h⟩ := vl_some h
  rw [← e7]
  have r8 : rg y6 := by rw [e7]; exact gE_rg _ _ _
  refine v_istore_n (L1 := [(2, vI y6), (1, vI y2), (0, vO 87)]) dX14_resume_23 rfl (by decide) rfl ?_
  refine v_iload_n dX14_resume_24 0 rfl rfl ?_
  refine v_if_ge (tgt := 41) dX14_resume_25 r8 (by decide) (fun c9 => ?_) (fun c9 => ?_)
  · rw [if_pos c9] at h
    refine v_aload_n dX14_resume_41 2 rfl rfl ?_
    refine v_getS (f := 44) (t := 117) cf14 oc87 rfl rfl rfl (by decide) q2414 dX14_resume_42 ?_
    refine v_iload_n dX14_resume_45 0 rfl rfl ?_
    refine v_aload_n dX14_resume_46 2 rfl rfl ?_
    refine v_getI (f := 82) cf14 oc87 rfl (by decide) q2452 dX14_resume_47 ?_
    obtain ⟨g10, h⟩ := gd_some h
    obtain ⟨s11, e12, h⟩ := stp_some h
    refine v_iast oc117 r8 g10.1 g10.2 dX14_resume_50 ?_
    rw [← e12]
    refine v_aload_n dX14_resume_51 2 rfl rfl ?_
    refine v_getS (f := 21) (t := 97) cf14 oc87 rfl rfl rfl (by decide) q2391 dX14_resume_52 ?_
    refine v_iload_n dX14_resume_55 1 rfl rfl ?_
    obtain ⟨g13, h⟩ := gd_some h
    refine v_iald oc97 r4 g13.1 g13.2 dX14_resume_56 ?_
    refine v_bipush dX14_resume_57 rfl ?_
    refine v_icmp_eq (tgt := 81) dX14_resume_59 (gE_rg _ _ _) (rgl rfl) (by decide) (fun c14 => ?_) (fun c14 => ?_)
    · rw [if_pos c14] at h
      refine v_sub [2, 1, 0] (L1 := [(0, vO 87), (1, vI y2), (2, vI y6)]) rfl ?_
      exact wj_X14_resume_81 h r4 r8
    · rw [if_neg c14] at h
      refine v_aload_n dX14_resume_62 2 rfl rfl ?_
      refine v_bipush dX14_resume_63 rfl ?_
      obtain ⟨r18, s15, e16, h⟩ := bd_some h
      have k17 := c_X14_eat e16 (rgl rfl)
      have r19 : rg r18 := k17.1.2.2
      refine v_callV (st := []) cf14 oc87 k17 (lw_V q2976 q2978 qs175 q311 q2979) rfl yk_X14_eat ⟨Nat.le_of_ble_eq_true rfl, Nat.le_of_ble_eq_true rfl⟩ trivial ⟨kc87, trivial⟩ (Nat.le_of_ble_eq_true rfl) rfl dX14_resume_65 ?_
      refine v_if_eq (tgt := 81) dX14_resume_68 r19 (by decide) (fun c20 => ?_) (fun c20 => ?_)
      · rw [if_pos c20] at h
        refine v_sub [2, 1, 0] (L1 := [(0, vO 87), (1, vI y2), (2, vI y6)]) rfl ?_
        exact wj_X14_resume_81 h r4 r8
      · rw [if_neg c20] at h
        refine v_aload_n dX14_resume_71 2 rfl rfl ?_
        refine v_getS (f := 45) (t := 118) cf14 oc87 rfl rfl rfl (by decide) q2415 dX14_resume_72 ?_
        refine v_iload_n dX14_resume_75 0 rfl rfl ?_
        refine v_iconst dX14_resume_76 ?_
        obtain ⟨g21, h⟩ := gd_some h
        obtain ⟨s22, e23, h⟩ := stp_some h
        refine v_iast oc118 r8 g21.1 g21.2 dX14_resume_77 ?_
        rw [← e23]
        refine v_goto (tgt := 122) dX14_resume_78 (by decide) ?_
        refine v_sub [2, 1, 0] (L1 := [(0, vO 87), (1, vI y2), (2, vI y6)]) rfl ?_
        exact wj_X14_resume_122 h r4 r8
  · rw [if_neg c9] at h
    refine v_aload_n dX14_resume_28 2 rfl rfl ?_
    refine v_getS (f := 30) (t := 106) cf14 oc87 rfl rfl rfl (by decide) q2400 dX14_resume_29 ?_
    refine v_iload_n dX14_resume_32 1 rfl rfl ?_
    refine v_aload_n dX14_resume_33 2 rfl rfl ?_
    refine v_getI (f := 82) cf14 oc87 rfl (by decide) q2452 dX14_resume_34 ?_
    obtain ⟨g24, h⟩ := gd_some h
    obtain ⟨s25, e26, h⟩ := stp_some h
    refine v_iast oc106 r4 g24.1 g24.2 dX14_resume_37 ?_
    rw [← e26]
    refine v_goto (tgt := 145) dX14_resume_38 (by decide) ?_
    refine v_sub [2, 1] (L1 := [(0, vO 87), (1, vI y2)]) rfl ?_
    exact wj_X14_resume_145 h r4

def E_X14_parseType_17 (rv : Option vA) (σo : vS) (q : vS) : Prop := ∀ (s' : vS), q = s' → VW cX14_parseType (RX14, rv, σo, (some .int), 8, 179, 2, []) (P0 []) s' 69 [(0, vO 87)] []
def l_X14_parseType_17 : Nat → Int → vS → Option (vS)
  | 0, _, _ => none
  | n + 1, x1, s =>
    if (gI s 87 8) = 0 then
      if x1 = 0 then
        if (gI s 87 83) = 0 then
          bdv (f_X14_limitsOf (gI s 87 82) s) fun s4 =>
          if (gI s4 87 79) = 0 then
            l_X14_parseType_17 n 1 s4
          else
            bdv (f_X14_resume s4) fun s8 =>
            l_X14_parseType_17 n x1 s8
        else
          bdv (f_X14_begin s) fun s11 =>
          l_X14_parseType_17 n x1 s11
      else
        some s
    else
      some s
theorem wl_X14_parseType_17 {rv : Option vA} {σo : vS}  : ∀ (n : Nat) (x1 : Int) (s : vS) (q : vS), l_X14_parseType_17 n x1 s = some q → rg x1 → E_X14_parseType_17 rv σo q → VW cX14_parseType (RX14, rv, σo, (some .int), 8, 179, 2, []) (P0 []) s 17 [(0, vO 87), (1, vI x1)] [] := by
  intro n
  induction n with
  | zero => intro x1 s q h; cases h
  | succ n ih =>
    intro x1 s q h rx1 hE
    unfold l_X14_parseType_17 at h
    refine v_aload_n dX14_parseType_17 0 rfl rfl ?_
    refine v_getI (f := 8) cf14 oc87 rfl (by decide) q2378 dX14_parseType_18 ?_
    refine v_if_ne (tgt := 69) dX14_parseType_21 (gI_rg _ _ _) (by decide) (fun c1 => ?_) (fun c1 => ?_)
    · rw [if_neg c1] at h
      cases h
      refine v_sub [0] (L1 := [(0, vO 87)]) rfl ?_
      exact hE _ rfl 
    · rw [if_pos c1] at h
      refine v_iload_n dX14_parseType_24 1 rfl rfl ?_
      refine v_if_ne (tgt := 69) dX14_parseType_25 rx1 (by decide) (fun c2 => ?_) (fun c2 => ?_)
      · rw [if_neg c2] at h
        cases h
        refine v_sub [0] (L1 := [(0, vO 87)]) rfl ?_
        exact hE _ rfl 
      · rw [if_pos c2] at h
        refine v_aload_n dX14_parseType_28 0 rfl rfl ?_
        refine v_getI (f := 83) cf14 oc87 rfl (by decide) q2453 dX14_parseType_29 ?_
        refine v_if_eq (tgt := 42) dX14_parseType_32 (gI_rg _ _ _) (by decide) (fun c3 => ?_) (fun c3 => ?_)
        · rw [if_pos c3] at h
          refine v_aload_n dX14_parseType_42 0 rfl rfl ?_
          refine v_aload_n dX14_parseType_43 0 rfl rfl ?_
          refine v_getI (f := 82) cf14 oc87 rfl (by decide) q2452 dX14_parseType_44 ?_
          obtain ⟨s4, e5, h⟩ := bdv_some h
          have k6 := c_X14_limitsOf e5 (gI_rg _ _ _)
          refine v_callV (st := []) cf14 oc87 k6 (lw_V q3061 q3063 qs195 q311 q3064) rfl yk_X14_limitsOf ⟨Nat.le_of_ble_eq_true rfl, Nat.le_of_ble_eq_true rfl⟩ trivial ⟨kc87, trivial⟩ (Nat.le_of_ble_eq_true rfl) rfl dX14_parseType_47 ?_
          refine v_aload_n dX14_parseType_50 0 rfl rfl ?_
          refine v_getI (f := 79) cf14 oc87 rfl (by decide) q2449 dX14_parseType_51 ?_
          refine v_if_ne (tgt := 62) dX14_parseType_54 (gI_rg _ _ _) (by decide) (fun c7 => ?_) (fun c7 => ?_)
          · rw [if_neg c7] at h
            refine v_aload_n dX14_parseType_62 0 rfl rfl ?_
            obtain ⟨s8, e9, h⟩ := bdv_some h
            have k10 := c_X14_resume e9
            refine v_callV (st := []) cf14 oc87 k10 (lw_V q3065 q3067 qs196 q311 q3068) rfl yk_X14_resume ⟨Nat.le_of_ble_eq_true rfl, Nat.le_of_ble_eq_true rfl⟩ trivial ⟨kc87, trivial⟩ (Nat.le_of_ble_eq_true rfl) rfl dX14_parseType_63 ?_
            refine v_goto (tgt := 17) dX14_parseType_66 (by decide) ?_
            exact ih x1 s8 _ h rx1 hE
          · rw [if_pos c7] at h
            refine v_iconst dX14_parseType_57 ?_
            refine v_istore_n (L1 := [(1, vI 1), (0, vO 87)]) dX14_parseType_58 rfl (by decide) rfl ?_
            refine v_goto (tgt := 17) dX14_parseType_59 (by decide) ?_
            refine v_sub [1, 0] (L1 := [(0, vO 87), (1, vI 1)]) rfl ?_
            exact ih 1 s4 _ h (rgl rfl) hE
        · rw [if_neg c3] at h
          refine v_aload_n dX14_parseType_35 0 rfl rfl ?_
          obtain ⟨s11, e12, h⟩ := bdv_some h
          have k13 := c_X14_begin e12
          refine v_callV (st := []) cf14 oc87 k13 (lw_V q2988 q2990 qs178 q311 q2991) rfl yk_X14_begin ⟨Nat.le_of_ble_eq_true rfl, Nat.le_of_ble_eq_true rfl⟩ trivial ⟨kc87, trivial⟩ (Nat.le_of_ble_eq_true rfl) rfl dX14_parseType_36 ?_
          refine v_goto (tgt := 17) dX14_parseType_39 (by decide) ?_
          exact ih x1 s11 _ h rx1 hE

def j_X14_parseType_69 (s : vS) : Option (Int × vS) :=
  if 0 ≤ (gI s 87 82) then
    some (gI s 87 82, s)
  else
    some (0, s)
theorem wj_X14_parseType_69 {s : vS} {out : Int × vS} (h : j_X14_parseType_69 s = some out)  : VW cX14_parseType (RX14, (some (vI out.1)), out.2, (some .int), 8, 179, 2, []) (P0 []) s 69 [(0, vO 87)] [] := by
  unfold j_X14_parseType_69 at h
  refine v_aload_n dX14_parseType_69 0 rfl rfl ?_
  refine v_getI (f := 82) cf14 oc87 rfl (by decide) q2452 dX14_parseType_70 ?_
  refine v_if_ge (tgt := 80) dX14_parseType_73 (gI_rg _ _ _) (by decide) (fun c1 => ?_) (fun c1 => ?_)
  · rw [if_pos c1] at h
    refine v_aload_n dX14_parseType_80 0 rfl rfl ?_
    refine v_getI (f := 82) cf14 oc87 rfl (by decide) q2452 dX14_parseType_81 ?_
    cases h
    exact v_iret (gI_rg _ _ _) dX14_parseType_84
  · rw [if_neg c1] at h
    refine v_iconst dX14_parseType_76 ?_
    refine v_goto (tgt := 84) dX14_parseType_77 (by decide) ?_
    cases h
    exact v_iret (rgl rfl) dX14_parseType_84

def f_X14_parseType (s : vS) : Option (Int × vS) :=
  stp (sI s 87 79 0) fun s1 =>
  stp (sI s1 87 83 1) fun s3 =>
  stp (sI s3 87 82 (-1)) fun s5 =>
  lq_0 (l_X14_parseType_17 FU 0 s5) fun s7 =>
  j_X14_parseType_69 s7
theorem yk_X14_parseType : yOk yX14_parseType 0 := ⟨by decide, by decide, by decide +kernel⟩
theorem c_X14_parseType {s : vS} {out : Int × vS} (h : f_X14_parseType s = some out)   : VC yX14_parseType cX14_parseType 2 (some .int) 8 179 [vO 87] s (some (vI out.1)) out.2 [] := by
  unfold f_X14_parseType at h
  refine VC.of RX14 (by decide) rfl (Nat.le_of_ble_eq_true rfl) ?_
  show VW cX14_parseType (RX14, (some (vI out.1)), out.2, (some .int), 8, 179, 2, []) (P0 []) s 0 [(0, vO 87)] []
  refine v_aload_n dX14_parseType_0 0 rfl rfl ?_
  refine v_iconst dX14_parseType_1 ?_
  obtain ⟨s1, e2, h⟩ := stp_some h
  refine v_putI (f := 79) cf14 oc87 rfl (by decide) q2449 dX14_parseType_2 rfl rfl ?_
  rw [← e2]
  refine v_aload_n dX14_parseType_5 0 rfl rfl ?_
  refine v_iconst dX14_parseType_6 ?_
  obtain ⟨s3, e4, h⟩ := stp_some h
  refine v_putZ (f := 83) cf14 oc87 rfl (by decide) q2453 dX14_parseType_7 rfl rfl (Or.inr rfl) ?_
  rw [← e4]
  refine v_aload_n dX14_parseType_10 0 rfl rfl ?_
  refine v_iconst dX14_parseType_11 ?_
  obtain ⟨s5, e6, h⟩ := stp_some h
  refine v_putI (f := 82) cf14 oc87 rfl (by decide) q2452 dX14_parseType_12 rfl rfl ?_
  rw [← e6]
  refine v_iconst dX14_parseType_15 ?_
  refine v_istore_n (L1 := [(1, vI 0), (0, vO 87)]) dX14_parseType_16 rfl (by decide) rfl ?_
  refine v_sub [1, 0] (L1 := [(0, vO 87), (1, vI 0)]) rfl ?_
  obtain ⟨s7, e8, h⟩ := lq_0_some h
  refine wl_X14_parseType_17  FU 0 s5 _ e8 (rgl rfl) ?_
  unfold E_X14_parseType_17
  intro s7' z_
  cases z_
  exact wj_X14_parseType_69 h 

def f_X14_assignment (s : vS) : Option (vS) :=
  vl (gI s 87 72) fun y1 =>
  gd (inb y1 (gN s 141)) <|
  stp (sE s 141 y1 (gI s 87 19)) fun s5 =>
  gd (inb y1 (gN s5 143)) <|
  stp (sE s5 143 y1 (-1)) fun s8 =>
  bd (f_X14_eat 1 s8) fun r13 s10 =>
  if r13 = 0 then
    bd (f_X14_take 2 s10) fun r19 s16 =>
    bd (f_X14_parseType s16) fun r24 s21 =>
    gd (gN s21 142 = gN s16 142) <|
    gd (inb y1 (gN s21 142)) <|
    stp (sE s21 142 y1 r24) fun s28 =>
    bd (f_X14_take 7 s28) fun r33 s30 =>
    gd (inb y1 (gN s30 142)) <|
    bd (f_X14_parseValue (gE s30 142 y1) s30) fun r39 s36 =>
    gd (gN s36 143 = gN s30 143) <|
    gd (inb y1 (gN s36 143)) <|
    stp (sE s36 143 y1 r39) fun s43 =>
    stp (sI s43 87 72 (w32 ((gI s43 87 72) + 1))) fun s45 =>
    some s45
  else
    bd (f_X14_take 7 s10) fun r50 s47 =>
    bd (f_X14_parseType s47) fun r55 s52 =>
    gd (gN s52 142 = gN s47 142) <|
    gd (inb y1 (gN s52 142)) <|
    stp (sE s52 142 y1 r55) fun s59 =>
    gd (inb (gI s59 87 76) (gN s59 144)) <|
    stp (sE s59 144 (gI s59 87 76) y1) fun s62 =>
    stp (sI s62 87 76 (w32 ((gI s62 87 76) + 1))) fun s64 =>
    stp (sI s64 87 72 (w32 ((gI s64 87 72) + 1))) fun s66 =>
    some s66
theorem yk_X14_assignment : yOk yX14_assignment 0 := ⟨by decide, by decide, by decide +kernel⟩
theorem c_X14_assignment {s : vS} {out : vS} (h : f_X14_assignment s = some out)   : VC yX14_assignment cX14_assignment 2 none 9 200 [vO 87] s none out [] := by
  unfold f_X14_assignment at h
  refine VC.of RX14 (by decide) rfl (Nat.le_of_ble_eq_true rfl) ?_
  show VW cX14_assignment (RX14, none, out, none, 9, 200, 2, []) (P0 []) s 0 [(0, vO 87)] []
  refine v_aload_n dX14_assignment_0 0 rfl rfl ?_
  refine v_getI (f := 72) cf14 oc87 rfl (by decide) q2442 dX14_assignment_1 ?_
  obtain ⟨y1, e2, h⟩ := vl_some h
  rw [← e2]
  have r3 : rg y1 := by rw [e2]; exact gI_rg _ _ _
  refine v_istore_n (L1 := [(1, vI y1), (0, vO 87)]) dX14_assignment_4 rfl (by decide) rfl ?_
  refine v_aload_n dX14_assignment_5 1 rfl rfl ?_
  refine v_getS (f := 73) (t := 141) cf14 oc87 rfl rfl rfl (by decide) q2443 dX14_assignment_6 ?_
  refine v_iload_n dX14_assignment_9 0 rfl rfl ?_
  refine v_aload_n dX14_assignment_10 1 rfl rfl ?_
  refine v_getI (f := 19) cf14 oc87 rfl (by decide) q2389 dX14_assignment_11 ?_
  obtain ⟨g4, h⟩ := gd_some h
  obtain ⟨s5, e6, h⟩ := stp_some h
  refine v_iast oc141 r3 g4.1 g4.2 dX14_assignment_14 ?_
  rw [← e6]
  refine v_aload_n dX14_assignment_15 1 rfl rfl ?_
  refine v_getS (f := 75) (t := 143) cf14 oc87 rfl rfl rfl (by decide) q2445 dX14_assignment_16 ?_
  refine v_iload_n dX14_assignment_19 0 rfl rfl ?_
  refine v_iconst dX14_assignment_20 ?_
  obtain ⟨g7, h⟩ := gd_some h
  obtain ⟨s8, e9, h⟩ := stp_some h
  refine v_iast oc143 r3 g7.1 g7.2 dX14_assignment_21 ?_
  rw [← e9]
  refine v_aload_n dX14_assignment_22 1 rfl rfl ?_
  refine v_iconst dX14_assignment_23 ?_
  obtain ⟨r13, s10, e11, h⟩ := bd_some h
  have k12 := c_X14_eat e11 (rgl rfl)
  have r14 : rg r13 := k12.1.2.2
  refine v_callV (st := []) cf14 oc87 k12 (lw_V q2976 q2978 qs175 q311 q2979) rfl yk_X14_eat ⟨Nat.le_of_ble_eq_true rfl, Nat.le_of_ble_eq_true rfl⟩ trivial ⟨kc87, trivial⟩ (Nat.le_of_ble_eq_true rfl) rfl dX14_assignment_24 ?_
  refine v_if_eq (tgt := 70) dX14_assignment_27 r14 (by decide) (fun c15 => ?_) (fun c15 => ?_)
  · rw [if_pos c15] at h
    refine v_aload_n dX14_assignment_70 1 rfl rfl ?_
    refine v_iconst dX14_assignment_71 ?_
    obtain ⟨r19, s16, e17, h⟩ := bd_some h
    have k18 := c_X14_take e17 (rgl rfl)
    have r20 : rg r19 := k18.1.2.2
    refine v_callV (st := []) cf14 oc87 k18 (lw_V q2964 q2966 qs172 q311 q2967) rfl yk_X14_take ⟨Nat.le_of_ble_eq_true rfl, Nat.le_of_ble_eq_true rfl⟩ trivial ⟨kc87, trivial⟩ (Nat.le_of_ble_eq_true rfl) rfl dX14_assignment_72 ?_
    refine v_popI dX14_assignment_75 ?_
    refine v_aload_n dX14_assignment_76 1 rfl rfl ?_
    refine v_getS (f := 74) (t := 142) cf14 oc87 rfl rfl rfl (by decide) q2444 dX14_assignment_77 ?_
    refine v_iload_n dX14_assignment_80 0 rfl rfl ?_
    refine v_aload_n dX14_assignment_81 1 rfl rfl ?_
    obtain ⟨r24, s21, e22, h⟩ := bd_some h
    have k23 := c_X14_parseType e22
    have r25 : rg r24 := k23.1.2.2
    obtain ⟨g26, h⟩ := gd_some h
    refine v_callV (st := [vI y1, vO 142]) cf14 oc87 k23 (lw_V q2984 q2986 qs177 q311 q2987) rfl yk_X14_parseType ⟨Nat.le_of_ble_eq_true rfl, Nat.le_of_ble_eq_true rfl⟩ ⟨(kp_arr (by decide) g26), trivial⟩ ⟨kc87, trivial⟩ (Nat.le_of_ble_eq_true rfl) rfl dX14_assignment_82 ?_
    obtain ⟨g27, h⟩ := gd_some h
    obtain ⟨s28, e29, h⟩ := stp_some h
    refine v_iast oc142 r3 g27.1 g27.2 dX14_assignment_85 ?_
    rw [← e29]
    refine v_aload_n dX14_assignment_86 1 rfl rfl ?_
    refine v_bipush dX14_assignment_87 rfl ?_
    obtain ⟨r33, s30, e31, h⟩ := bd_some h
    have k32 := c_X14_take e31 (rgl rfl)
    have r34 : rg r33 := k32.1.2.2
    refine v_callV (st := []) cf14 oc87 k32 (lw_V q2964 q2966 qs172 q311 q2967) rfl yk_X14_take ⟨Nat.le_of_ble_eq_true rfl, Nat.le_of_ble_eq_true rfl⟩ trivial ⟨kc87, trivial⟩ (Nat.le_of_ble_eq_true rfl) rfl dX14_assignment_89 ?_
    refine v_popI dX14_assignment_92 ?_
    refine v_aload_n dX14_assignment_93 1 rfl rfl ?_
    refine v_getS (f := 75) (t := 143) cf14 oc87 rfl rfl rfl (by decide) q2445 dX14_assignment_94 ?_
    refine v_iload_n dX14_assignment_97 0 rfl rfl ?_
    refine v_aload_n dX14_assignment_98 1 rfl rfl ?_
    refine v_aload_n dX14_assignment_99 1 rfl rfl ?_
    refine v_getS (f := 74) (t := 142) cf14 oc87 rfl rfl rfl (by decide) q2444 dX14_assignment_100 ?_
    refine v_iload_n dX14_assignment_103 0 rfl rfl ?_
    obtain ⟨g35, h⟩ := gd_some h
    refine v_iald oc142 r3 g35.1 g35.2 dX14_assignment_104 ?_
    obtain ⟨r39, s36, e37, h⟩ := bd_some h
    have k38 := c_X14_parseValue e37 (gE_rg _ _ _)
    have r40 : rg r39 := k38.1.2.2
    obtain ⟨g41, h⟩ := gd_some h
    refine v_callV (st := [vI y1, vO 143]) cf14 oc87 k38 (lw_V q3069 q3071 qs197 q311 q3072) rfl yk_X14_parseValue ⟨Nat.le_of_ble_eq_true rfl, Nat.le_of_ble_eq_true rfl⟩ ⟨(kp_arr (by decide) g41), trivial⟩ ⟨kc87, trivial⟩ (Nat.le_of_ble_eq_true rfl) rfl dX14_assignment_105 ?_
    obtain ⟨g42, h⟩ := gd_some h
    obtain ⟨s43, e44, h⟩ := stp_some h
    refine v_iast oc143 r3 g42.1 g42.2 dX14_assignment_108 ?_
    rw [← e44]
    refine v_aload_n dX14_assignment_109 1 rfl rfl ?_
    refine v_dupO dX14_assignment_110 ?_
    refine v_getI (f := 72) cf14 oc87 rfl (by decide) q2442 dX14_assignment_111 ?_
    refine v_iconst dX14_assignment_114 ?_
    refine v_iadd dX14_assignment_115 ?_
    obtain ⟨s45, e46, h⟩ := stp_some h
    refine v_putI (f := 72) cf14 oc87 rfl (by decide) q2442 dX14_assignment_116 rfl rfl ?_
    rw [← e46]
    cases h
    exact v_vret dX14_assignment_119
  · rw [if_neg c15] at h
    refine v_aload_n dX14_assignment_30 1 rfl rfl ?_
    refine v_bipush dX14_assignment_31 rfl ?_
    obtain ⟨r50, s47, e48, h⟩ := bd_some h
    have k49 := c_X14_take e48 (rgl rfl)
    have r51 : rg r50 := k49.1.2.2
    refine v_callV (st := []) cf14 oc87 k49 (lw_V q2964 q2966 qs172 q311 q2967) rfl yk_X14_take ⟨Nat.le_of_ble_eq_true rfl, Nat.le_of_ble_eq_true rfl⟩ trivial ⟨kc87, trivial⟩ (Nat.le_of_ble_eq_true rfl) rfl dX14_assignment_33 ?_
    refine v_popI dX14_assignment_36 ?_
    refine v_aload_n dX14_assignment_37 1 rfl rfl ?_
    refine v_getS (f := 74) (t := 142) cf14 oc87 rfl rfl rfl (by decide) q2444 dX14_assignment_38 ?_
    refine v_iload_n dX14_assignment_41 0 rfl rfl ?_
    refine v_aload_n dX14_assignment_42 1 rfl rfl ?_
    obtain ⟨r55, s52, e53, h⟩ := bd_some h
    have k54 := c_X14_parseType e53
    have r56 : rg r55 := k54.1.2.2
    obtain ⟨g57, h⟩ := gd_some h
    refine v_callV (st := [vI y1, vO 142]) cf14 oc87 k54 (lw_V q2984 q2986 qs177 q311 q2987) rfl yk_X14_parseType ⟨Nat.le_of_ble_eq_true rfl, Nat.le_of_ble_eq_true rfl⟩ ⟨(kp_arr (by decide) g57), trivial⟩ ⟨kc87, trivial⟩ (Nat.le_of_ble_eq_true rfl) rfl dX14_assignment_43 ?_
    obtain ⟨g58, h⟩ := gd_some h
    obtain ⟨s59, e60, h⟩ := stp_some h
    refine v_iast oc142 r3 g58.1 g58.2 dX14_assignment_46 ?_
    rw [← e60]
    refine v_aload_n dX14_assignment_47 1 rfl rfl ?_
    refine v_getS (f := 77) (t := 144) cf14 oc87 rfl rfl rfl (by decide) q2447 dX14_assignment_48 ?_
    refine v_aload_n dX14_assignment_51 1 rfl rfl ?_
    refine v_getI (f := 76) cf14 oc87 rfl (by decide) q2446 dX14_assignment_52 ?_
    refine v_iload_n dX14_assignment_55 0 rfl rfl ?_
    obtain ⟨g61, h⟩ := gd_some h
    obtain ⟨s62, e63, h⟩ := stp_some h
    refine v_iast oc144 (gI_rg _ _ _) g61.1 g61.2 dX14_assignment_56 ?_
    rw [← e63]
    refine v_aload_n dX14_assignment_57 1 rfl rfl ?_
    refine v_dupO dX14_assignment_58 ?_
    refine v_getI (f := 76) cf14 oc87 rfl (by decide) q2446 dX14_assignment_59 ?_
    refine v_iconst dX14_assignment_62 ?_
    refine v_iadd dX14_assignment_63 ?_
    obtain ⟨s64, e65, h⟩ := stp_some h
    refine v_putI (f := 76) cf14 oc87 rfl (by decide) q2446 dX14_assignment_64 rfl rfl ?_
    rw [← e65]
    refine v_goto (tgt := 109) dX14_assignment_67 (by decide) ?_
    refine v_aload_n dX14_assignment_109 1 rfl rfl ?_
    refine v_dupO dX14_assignment_110 ?_
    refine v_getI (f := 72) cf14 oc87 rfl (by decide) q2442 dX14_assignment_111 ?_
    refine v_iconst dX14_assignment_114 ?_
    refine v_iadd dX14_assignment_115 ?_
    obtain ⟨s66, e67, h⟩ := stp_some h
    refine v_putI (f := 72) cf14 oc87 rfl (by decide) q2442 dX14_assignment_116 rfl rfl ?_
    rw [← e67]
    cases h
    exact v_vret dX14_assignment_119

def E_X14_parseModule_159 (rv : Option vA) (σo : vS) (q : vS) : Prop := ∀ (s' : vS), q = s' → VW cX14_parseModule (RX14, rv, σo, none, 10, 221, 1, []) (P0 []) s' 182 [(0, vO 87)] []
def l_X14_parseModule_159 : Nat → vS → Option (vS)
  | 0, _ => none
  | n + 1, s =>
    if (gI s 87 8) = 0 then
      bd (f_X14_is 60 s) fun r5 s2 =>
      if r5 = 0 then
        bdv (f_X14_assignment s2) fun s8 =>
        l_X14_parseModule_159 n s8
      else
        some s2
    else
      some s
theorem wl_X14_parseModule_159 {rv : Option vA} {σo : vS}  : ∀ (n : Nat) (s : vS) (q : vS), l_X14_parseModule_159 n  s = some q → E_X14_parseModule_159 rv σo q → VW cX14_parseModule (RX14, rv, σo, none, 10, 221, 1, []) (P0 []) s 159 [(0, vO 87)] [] := by
  intro n
  induction n with
  | zero => intro s q h; cases h
  | succ n ih =>
    intro s q h  hE
    unfold l_X14_parseModule_159 at h
    refine v_aload_n dX14_parseModule_159 0 rfl rfl ?_
    refine v_getI (f := 8) cf14 oc87 rfl (by decide) q2378 dX14_parseModule_160 ?_
    refine v_if_ne (tgt := 182) dX14_parseModule_163 (gI_rg _ _ _) (by decide) (fun c1 => ?_) (fun c1 => ?_)
    · rw [if_neg c1] at h
      cases h
      exact hE _ rfl 
    · rw [if_pos c1] at h
      refine v_aload_n dX14_parseModule_166 0 rfl rfl ?_
      refine v_bipush dX14_parseModule_167 rfl ?_
      obtain ⟨r5, s2, e3, h⟩ := bd_some h
      have k4 := c_X14_is e3 (rgl rfl)
      have r6 : rg r5 := k4.1.2.2
      refine v_callV (st := []) cf14 oc87 k4 (lw_V q2968 q2970 qs173 q311 q2971) rfl yk_X14_is ⟨Nat.le_of_ble_eq_true rfl, Nat.le_of_ble_eq_true rfl⟩ trivial ⟨kc87, trivial⟩ (Nat.le_of_ble_eq_true rfl) rfl dX14_parseModule_169 ?_
      refine v_if_ne (tgt := 182) dX14_parseModule_172 r6 (by decide) (fun c7 => ?_) (fun c7 => ?_)
      · rw [if_neg c7] at h
        cases h
        exact hE _ rfl 
      · rw [if_pos c7] at h
        refine v_aload_n dX14_parseModule_175 0 rfl rfl ?_
        obtain ⟨s8, e9, h⟩ := bdv_some h
        have k10 := c_X14_assignment e9
        refine v_callV (st := []) cf14 oc87 k10 (lw_V q2980 q2982 qs176 q311 q2983) rfl yk_X14_assignment ⟨Nat.le_of_ble_eq_true rfl, Nat.le_of_ble_eq_true rfl⟩ trivial ⟨kc87, trivial⟩ (Nat.le_of_ble_eq_true rfl) rfl dX14_parseModule_176 ?_
        refine v_goto (tgt := 159) dX14_parseModule_179 (by decide) ?_
        exact ih s8 _ h  hE

def j_X14_parseModule_182 (s : vS) : Option (vS) :=
  bd (f_X14_take 60 s) fun r4 s1 =>
  bd (f_X14_take 0 s1) fun r9 s6 =>
  some s6
theorem wj_X14_parseModule_182 {s : vS} {out : vS} (h : j_X14_parseModule_182 s = some out)  : VW cX14_parseModule (RX14, none, out, none, 10, 221, 1, []) (P0 []) s 182 [(0, vO 87)] [] := by
  unfold j_X14_parseModule_182 at h
  refine v_aload_n dX14_parseModule_182 0 rfl rfl ?_
  refine v_bipush dX14_parseModule_183 rfl ?_
  obtain ⟨r4, s1, e2, h⟩ := bd_some h
  have k3 := c_X14_take e2 (rgl rfl)
  have r5 : rg r4 := k3.1.2.2
  refine v_callV (st := []) cf14 oc87 k3 (lw_V q2964 q2966 qs172 q311 q2967) rfl yk_X14_take ⟨Nat.le_of_ble_eq_true rfl, Nat.le_of_ble_eq_true rfl⟩ trivial ⟨kc87, trivial⟩ (Nat.le_of_ble_eq_true rfl) rfl dX14_parseModule_185 ?_
  refine v_popI dX14_parseModule_188 ?_
  refine v_aload_n dX14_parseModule_189 0 rfl rfl ?_
  refine v_iconst dX14_parseModule_190 ?_
  obtain ⟨r9, s6, e7, h⟩ := bd_some h
  have k8 := c_X14_take e7 (rgl rfl)
  have r10 : rg r9 := k8.1.2.2
  refine v_callV (st := []) cf14 oc87 k8 (lw_V q2964 q2966 qs172 q311 q2967) rfl yk_X14_take ⟨Nat.le_of_ble_eq_true rfl, Nat.le_of_ble_eq_true rfl⟩ trivial ⟨kc87, trivial⟩ (Nat.le_of_ble_eq_true rfl) rfl dX14_parseModule_191 ?_
  refine v_popI dX14_parseModule_194 ?_
  cases h
  exact v_vret dX14_parseModule_195

def j_X14_parseModule_145 (s : vS) : Option (vS) :=
  bd (f_X14_take 7 s) fun r4 s1 =>
  bd (f_X14_take 45 s1) fun r9 s6 =>
  lq_0 (l_X14_parseModule_159 FU s6) fun s11 =>
  j_X14_parseModule_182 s11
theorem wj_X14_parseModule_145 {s : vS} {out : vS} (h : j_X14_parseModule_145 s = some out)  : VW cX14_parseModule (RX14, none, out, none, 10, 221, 1, []) (P0 []) s 145 [(0, vO 87)] [] := by
  unfold j_X14_parseModule_145 at h
  refine v_aload_n dX14_parseModule_145 0 rfl rfl ?_
  refine v_bipush dX14_parseModule_146 rfl ?_
  obtain ⟨r4, s1, e2, h⟩ := bd_some h
  have k3 := c_X14_take e2 (rgl rfl)
  have r5 : rg r4 := k3.1.2.2
  refine v_callV (st := []) cf14 oc87 k3 (lw_V q2964 q2966 qs172 q311 q2967) rfl yk_X14_take ⟨Nat.le_of_ble_eq_true rfl, Nat.le_of_ble_eq_true rfl⟩ trivial ⟨kc87, trivial⟩ (Nat.le_of_ble_eq_true rfl) rfl dX14_parseModule_148 ?_
  refine v_popI dX14_parseModule_151 ?_
  refine v_aload_n dX14_parseModule_152 0 rfl rfl ?_
  refine v_bipush dX14_parseModule_153 rfl ?_
  obtain ⟨r9, s6, e7, h⟩ := bd_some h
  have k8 := c_X14_take e7 (rgl rfl)
  have r10 : rg r9 := k8.1.2.2
  refine v_callV (st := []) cf14 oc87 k8 (lw_V q2964 q2966 qs172 q311 q2967) rfl yk_X14_take ⟨Nat.le_of_ble_eq_true rfl, Nat.le_of_ble_eq_true rfl⟩ trivial ⟨kc87, trivial⟩ (Nat.le_of_ble_eq_true rfl) rfl dX14_parseModule_155 ?_
  refine v_popI dX14_parseModule_158 ?_
  obtain ⟨s11, e12, h⟩ := lq_0_some h
  refine wl_X14_parseModule_159  FU  s6 _ e12  ?_
  unfold E_X14_parseModule_159
  intro s11' z_
  cases z_
  exact wj_X14_parseModule_182 h 

def j_X14_parseModule_118 (s : vS) : Option (vS) :=
  bd (f_X14_is 74 s) fun r4 s1 =>
  gd (r4 = 0 ∨ r4 = 1) <|
  stp (sI s1 87 78 r4) fun s7 =>
  stp (sI s7 87 19 (w32 ((gI s7 87 19) + 1))) fun s9 =>
  bd (f_X14_take 105 s9) fun r14 s11 =>
  j_X14_parseModule_145 s11
theorem wj_X14_parseModule_118 {s : vS} {out : vS} (h : j_X14_parseModule_118 s = some out)  : VW cX14_parseModule (RX14, none, out, none, 10, 221, 1, []) (P0 []) s 118 [(0, vO 87)] [] := by
  unfold j_X14_parseModule_118 at h
  refine v_aload_n dX14_parseModule_118 0 rfl rfl ?_
  refine v_aload_n dX14_parseModule_119 0 rfl rfl ?_
  refine v_bipush dX14_parseModule_120 rfl ?_
  obtain ⟨r4, s1, e2, h⟩ := bd_some h
  have k3 := c_X14_is e2 (rgl rfl)
  have r5 : rg r4 := k3.1.2.2
  refine v_callV (st := [vO 87]) cf14 oc87 k3 (lw_V q2968 q2970 qs173 q311 q2971) rfl yk_X14_is ⟨Nat.le_of_ble_eq_true rfl, Nat.le_of_ble_eq_true rfl⟩ ⟨kc87, trivial⟩ ⟨kc87, trivial⟩ (Nat.le_of_ble_eq_true rfl) rfl dX14_parseModule_122 ?_
  obtain ⟨g6, h⟩ := gd_some h
  obtain ⟨s7, e8, h⟩ := stp_some h
  refine v_putZ (f := 78) cf14 oc87 rfl (by decide) q2448 dX14_parseModule_125 rfl rfl g6 ?_
  rw [← e8]
  refine v_aload_n dX14_parseModule_128 0 rfl rfl ?_
  refine v_dupO dX14_parseModule_129 ?_
  refine v_getI (f := 19) cf14 oc87 rfl (by decide) q2389 dX14_parseModule_130 ?_
  refine v_iconst dX14_parseModule_133 ?_
  refine v_iadd dX14_parseModule_134 ?_
  obtain ⟨s9, e10, h⟩ := stp_some h
  refine v_putI (f := 19) cf14 oc87 rfl (by decide) q2389 dX14_parseModule_135 rfl rfl ?_
  rw [← e10]
  refine v_aload_n dX14_parseModule_138 0 rfl rfl ?_
  refine v_bipush dX14_parseModule_139 rfl ?_
  obtain ⟨r14, s11, e12, h⟩ := bd_some h
  have k13 := c_X14_take e12 (rgl rfl)
  have r15 : rg r14 := k13.1.2.2
  refine v_callV (st := []) cf14 oc87 k13 (lw_V q2964 q2966 qs172 q311 q2967) rfl yk_X14_take ⟨Nat.le_of_ble_eq_true rfl, Nat.le_of_ble_eq_true rfl⟩ trivial ⟨kc87, trivial⟩ (Nat.le_of_ble_eq_true rfl) rfl dX14_parseModule_141 ?_
  refine v_popI dX14_parseModule_144 ?_
  exact wj_X14_parseModule_145 h 

def j_X14_parseModule_81 (s : vS) : Option (vS) :=
  bd (f_X14_take 58 s) fun r4 s1 =>
  stp (sI s1 87 78 0) fun s6 =>
  if (gI s6 87 8) = 0 then
    bd (f_X14_is 63 s6) fun r12 s9 =>
    if r12 = 0 then
      bd (f_X14_is 74 s9) fun r18 s15 =>
      if r18 = 0 then
        j_X14_parseModule_145 s15
      else
        j_X14_parseModule_118 s15
    else
      j_X14_parseModule_118 s9
  else
    j_X14_parseModule_145 s6
theorem wj_X14_parseModule_81 {s : vS} {out : vS} (h : j_X14_parseModule_81 s = some out)  : VW cX14_parseModule (RX14, none, out, none, 10, 221, 1, []) (P0 []) s 81 [(0, vO 87)] [] := by
  unfold j_X14_parseModule_81 at h
  refine v_aload_n dX14_parseModule_81 0 rfl rfl ?_
  refine v_bipush dX14_parseModule_82 rfl ?_
  obtain ⟨r4, s1, e2, h⟩ := bd_some h
  have k3 := c_X14_take e2 (rgl rfl)
  have r5 : rg r4 := k3.1.2.2
  refine v_callV (st := []) cf14 oc87 k3 (lw_V q2964 q2966 qs172 q311 q2967) rfl yk_X14_take ⟨Nat.le_of_ble_eq_true rfl, Nat.le_of_ble_eq_true rfl⟩ trivial ⟨kc87, trivial⟩ (Nat.le_of_ble_eq_true rfl) rfl dX14_parseModule_84 ?_
  refine v_popI dX14_parseModule_87 ?_
  refine v_aload_n dX14_parseModule_88 0 rfl rfl ?_
  refine v_iconst dX14_parseModule_89 ?_
  obtain ⟨s6, e7, h⟩ := stp_some h
  refine v_putZ (f := 78) cf14 oc87 rfl (by decide) q2448 dX14_parseModule_90 rfl rfl (Or.inl rfl) ?_
  rw [← e7]
  refine v_aload_n dX14_parseModule_93 0 rfl rfl ?_
  refine v_getI (f := 8) cf14 oc87 rfl (by decide) q2378 dX14_parseModule_94 ?_
  refine v_if_ne (tgt := 145) dX14_parseModule_97 (gI_rg _ _ _) (by decide) (fun c8 => ?_) (fun c8 => ?_)
  · rw [if_neg c8] at h
    exact wj_X14_parseModule_145 h 
  · rw [if_pos c8] at h
    refine v_aload_n dX14_parseModule_100 0 rfl rfl ?_
    refine v_bipush dX14_parseModule_101 rfl ?_
    obtain ⟨r12, s9, e10, h⟩ := bd_some h
    have k11 := c_X14_is e10 (rgl rfl)
    have r13 : rg r12 := k11.1.2.2
    refine v_callV (st := []) cf14 oc87 k11 (lw_V q2968 q2970 qs173 q311 q2971) rfl yk_X14_is ⟨Nat.le_of_ble_eq_true rfl, Nat.le_of_ble_eq_true rfl⟩ trivial ⟨kc87, trivial⟩ (Nat.le_of_ble_eq_true rfl) rfl dX14_parseModule_103 ?_
    refine v_if_ne (tgt := 118) dX14_parseModule_106 r13 (by decide) (fun c14 => ?_) (fun c14 => ?_)
    · rw [if_neg c14] at h
      exact wj_X14_parseModule_118 h 
    · rw [if_pos c14] at h
      refine v_aload_n dX14_parseModule_109 0 rfl rfl ?_
      refine v_bipush dX14_parseModule_110 rfl ?_
      obtain ⟨r18, s15, e16, h⟩ := bd_some h
      have k17 := c_X14_is e16 (rgl rfl)
      have r19 : rg r18 := k17.1.2.2
      refine v_callV (st := []) cf14 oc87 k17 (lw_V q2968 q2970 qs173 q311 q2971) rfl yk_X14_is ⟨Nat.le_of_ble_eq_true rfl, Nat.le_of_ble_eq_true rfl⟩ trivial ⟨kc87, trivial⟩ (Nat.le_of_ble_eq_true rfl) rfl dX14_parseModule_112 ?_
      refine v_if_eq (tgt := 145) dX14_parseModule_115 r19 (by decide) (fun c20 => ?_) (fun c20 => ?_)
      · rw [if_pos c20] at h
        exact wj_X14_parseModule_145 h 
      · rw [if_neg c20] at h
        exact wj_X14_parseModule_118 h 

def E_X14_parseModule_20 (rv : Option vA) (σo : vS) (q : vS) : Prop := ∀ (s' : vS), q = s' → VW cX14_parseModule (RX14, rv, σo, none, 10, 221, 1, []) (P0 []) s' 74 [(0, vO 87)] []
def j_X14_parseModule_53 (rec : vS → Option (vS)) (s : vS) : Option (vS) :=
  bdv (f_X14_misfit 0 s) fun s1 =>
  rec s1
theorem wj_X14_parseModule_53 {s : vS} {rv : Option vA} {σo : vS} {rec : vS → Option (vS)} {q : vS} (h : j_X14_parseModule_53 rec s = some q)  (hrec : ∀ (s : vS) (q : vS), rec  s = some q → E_X14_parseModule_20 rv σo q → VW cX14_parseModule (RX14, rv, σo, none, 10, 221, 1, []) (P0 []) s 20 [(0, vO 87)] []) (hE : E_X14_parseModule_20 rv σo q) : VW cX14_parseModule (RX14, rv, σo, none, 10, 221, 1, []) (P0 []) s 53 [(0, vO 87)] [] := by
  unfold j_X14_parseModule_53 at h
  refine v_aload_n dX14_parseModule_53 0 rfl rfl ?_
  refine v_iconst dX14_parseModule_54 ?_
  obtain ⟨s1, e2, h⟩ := bdv_some h
  have k3 := c_X14_misfit e2 (rgl rfl)
  refine v_callV (st := []) cf14 oc87 k3 (lw_V q2972 q2974 qs174 q311 q2975) rfl yk_X14_misfit ⟨Nat.le_of_ble_eq_true rfl, Nat.le_of_ble_eq_true rfl⟩ trivial ⟨kc87, trivial⟩ (Nat.le_of_ble_eq_true rfl) rfl dX14_parseModule_55 ?_
  refine v_goto (tgt := 20) dX14_parseModule_58 (by decide) ?_
  exact hrec s1 _ h  hE

def l_X14_parseModule_20 : Nat → vS → Option (vS)
  | 0, _ => none
  | n + 1, s =>
    if (gI s 87 8) = 0 then
      bd (f_X14_is 13 s) fun r5 s2 =>
      if r5 = 0 then
        bd (f_X14_is 12 s2) fun r11 s8 =>
        if r11 = 0 then
          bd (f_X14_is 0 s8) fun r17 s14 =>
          if r17 = 0 then
            stp (sI s14 87 19 (w32 ((gI s14 87 19) + 1))) fun s20 =>
            l_X14_parseModule_20 n s20
          else
            j_X14_parseModule_53 (l_X14_parseModule_20 n) s14
        else
          j_X14_parseModule_53 (l_X14_parseModule_20 n) s8
      else
        some s2
    else
      some s
theorem wl_X14_parseModule_20 {rv : Option vA} {σo : vS}  : ∀ (n : Nat) (s : vS) (q : vS), l_X14_parseModule_20 n  s = some q → E_X14_parseModule_20 rv σo q → VW cX14_parseModule (RX14, rv, σo, none, 10, 221, 1, []) (P0 []) s 20 [(0, vO 87)] [] := by
  intro n
  induction n with
  | zero => intro s q h; cases h
  | succ n ih =>
    intro s q h  hE
    unfold l_X14_parseModule_20 at h
    refine v_aload_n dX14_parseModule_20 0 rfl rfl ?_
    refine v_getI (f := 8) cf14 oc87 rfl (by decide) q2378 dX14_parseModule_21 ?_
    refine v_if_ne (tgt := 74) dX14_parseModule_24 (gI_rg _ _ _) (by decide) (fun c1 => ?_) (fun c1 => ?_)
    · rw [if_neg c1] at h
      cases h
      exact hE _ rfl 
    · rw [if_pos c1] at h
      refine v_aload_n dX14_parseModule_27 0 rfl rfl ?_
      refine v_bipush dX14_parseModule_28 rfl ?_
      obtain ⟨r5, s2, e3, h⟩ := bd_some h
      have k4 := c_X14_is e3 (rgl rfl)
      have r6 : rg r5 := k4.1.2.2
      refine v_callV (st := []) cf14 oc87 k4 (lw_V q2968 q2970 qs173 q311 q2971) rfl yk_X14_is ⟨Nat.le_of_ble_eq_true rfl, Nat.le_of_ble_eq_true rfl⟩ trivial ⟨kc87, trivial⟩ (Nat.le_of_ble_eq_true rfl) rfl dX14_parseModule_30 ?_
      refine v_if_ne (tgt := 74) dX14_parseModule_33 r6 (by decide) (fun c7 => ?_) (fun c7 => ?_)
      · rw [if_neg c7] at h
        cases h
        exact hE _ rfl 
      · rw [if_pos c7] at h
        refine v_aload_n dX14_parseModule_36 0 rfl rfl ?_
        refine v_bipush dX14_parseModule_37 rfl ?_
        obtain ⟨r11, s8, e9, h⟩ := bd_some h
        have k10 := c_X14_is e9 (rgl rfl)
        have r12 : rg r11 := k10.1.2.2
        refine v_callV (st := []) cf14 oc87 k10 (lw_V q2968 q2970 qs173 q311 q2971) rfl yk_X14_is ⟨Nat.le_of_ble_eq_true rfl, Nat.le_of_ble_eq_true rfl⟩ trivial ⟨kc87, trivial⟩ (Nat.le_of_ble_eq_true rfl) rfl dX14_parseModule_39 ?_
        refine v_if_ne (tgt := 53) dX14_parseModule_42 r12 (by decide) (fun c13 => ?_) (fun c13 => ?_)
        · rw [if_neg c13] at h
          exact wj_X14_parseModule_53 h ih hE
        · rw [if_pos c13] at h
          refine v_aload_n dX14_parseModule_45 0 rfl rfl ?_
          refine v_iconst dX14_parseModule_46 ?_
          obtain ⟨r17, s14, e15, h⟩ := bd_some h
          have k16 := c_X14_is e15 (rgl rfl)
          have r18 : rg r17 := k16.1.2.2
          refine v_callV (st := []) cf14 oc87 k16 (lw_V q2968 q2970 qs173 q311 q2971) rfl yk_X14_is ⟨Nat.le_of_ble_eq_true rfl, Nat.le_of_ble_eq_true rfl⟩ trivial ⟨kc87, trivial⟩ (Nat.le_of_ble_eq_true rfl) rfl dX14_parseModule_47 ?_
          refine v_if_eq (tgt := 61) dX14_parseModule_50 r18 (by decide) (fun c19 => ?_) (fun c19 => ?_)
          · rw [if_pos c19] at h
            refine v_aload_n dX14_parseModule_61 0 rfl rfl ?_
            refine v_dupO dX14_parseModule_62 ?_
            refine v_getI (f := 19) cf14 oc87 rfl (by decide) q2389 dX14_parseModule_63 ?_
            refine v_iconst dX14_parseModule_66 ?_
            refine v_iadd dX14_parseModule_67 ?_
            obtain ⟨s20, e21, h⟩ := stp_some h
            refine v_putI (f := 19) cf14 oc87 rfl (by decide) q2389 dX14_parseModule_68 rfl rfl ?_
            rw [← e21]
            refine v_goto (tgt := 20) dX14_parseModule_71 (by decide) ?_
            exact ih s20 _ h  hE
          · rw [if_neg c19] at h
            exact wj_X14_parseModule_53 h ih hE

def j_X14_parseModule_74 (s : vS) : Option (vS) :=
  bd (f_X14_take 13 s) fun r4 s1 =>
  j_X14_parseModule_81 s1
theorem wj_X14_parseModule_74 {s : vS} {out : vS} (h : j_X14_parseModule_74 s = some out)  : VW cX14_parseModule (RX14, none, out, none, 10, 221, 1, []) (P0 []) s 74 [(0, vO 87)] [] := by
  unfold j_X14_parseModule_74 at h
  refine v_aload_n dX14_parseModule_74 0 rfl rfl ?_
  refine v_bipush dX14_parseModule_75 rfl ?_
  obtain ⟨r4, s1, e2, h⟩ := bd_some h
  have k3 := c_X14_take e2 (rgl rfl)
  have r5 : rg r4 := k3.1.2.2
  refine v_callV (st := []) cf14 oc87 k3 (lw_V q2964 q2966 qs172 q311 q2967) rfl yk_X14_take ⟨Nat.le_of_ble_eq_true rfl, Nat.le_of_ble_eq_true rfl⟩ trivial ⟨kc87, trivial⟩ (Nat.le_of_ble_eq_true rfl) rfl dX14_parseModule_77 ?_
  refine v_popI dX14_parseModule_80 ?_
  exact wj_X14_parseModule_81 h 

def f_X14_parseModule (s : vS) : Option (vS) :=
  stp (sI s 87 19 0) fun s1 =>
  bd (f_X14_take 1 s1) fun r6 s3 =>
  bd (f_X14_eat 12 s3) fun r11 s8 =>
  if r11 = 0 then
    j_X14_parseModule_81 s8
  else
    lq_0 (l_X14_parseModule_20 FU s8) fun s14 =>
    j_X14_parseModule_74 s14
theorem yk_X14_parseModule : yOk yX14_parseModule 0 := ⟨by decide, by decide, by decide +kernel⟩
theorem c_X14_parseModule {s : vS} {out : vS} (h : f_X14_parseModule s = some out)   : VC yX14_parseModule cX14_parseModule 1 none 10 221 [vO 87] s none out [] := by
  unfold f_X14_parseModule at h
  refine VC.of RX14 (by decide) rfl (Nat.le_of_ble_eq_true rfl) ?_
  show VW cX14_parseModule (RX14, none, out, none, 10, 221, 1, []) (P0 []) s 0 [(0, vO 87)] []
  refine v_aload_n dX14_parseModule_0 0 rfl rfl ?_
  refine v_iconst dX14_parseModule_1 ?_
  obtain ⟨s1, e2, h⟩ := stp_some h
  refine v_putI (f := 19) cf14 oc87 rfl (by decide) q2389 dX14_parseModule_2 rfl rfl ?_
  rw [← e2]
  refine v_aload_n dX14_parseModule_5 0 rfl rfl ?_
  refine v_iconst dX14_parseModule_6 ?_
  obtain ⟨r6, s3, e4, h⟩ := bd_some h
  have k5 := c_X14_take e4 (rgl rfl)
  have r7 : rg r6 := k5.1.2.2
  refine v_callV (st := []) cf14 oc87 k5 (lw_V q2964 q2966 qs172 q311 q2967) rfl yk_X14_take ⟨Nat.le_of_ble_eq_true rfl, Nat.le_of_ble_eq_true rfl⟩ trivial ⟨kc87, trivial⟩ (Nat.le_of_ble_eq_true rfl) rfl dX14_parseModule_7 ?_
  refine v_popI dX14_parseModule_10 ?_
  refine v_aload_n dX14_parseModule_11 0 rfl rfl ?_
  refine v_bipush dX14_parseModule_12 rfl ?_
  obtain ⟨r11, s8, e9, h⟩ := bd_some h
  have k10 := c_X14_eat e9 (rgl rfl)
  have r12 : rg r11 := k10.1.2.2
  refine v_callV (st := []) cf14 oc87 k10 (lw_V q2976 q2978 qs175 q311 q2979) rfl yk_X14_eat ⟨Nat.le_of_ble_eq_true rfl, Nat.le_of_ble_eq_true rfl⟩ trivial ⟨kc87, trivial⟩ (Nat.le_of_ble_eq_true rfl) rfl dX14_parseModule_14 ?_
  refine v_if_eq (tgt := 81) dX14_parseModule_17 r12 (by decide) (fun c13 => ?_) (fun c13 => ?_)
  · rw [if_pos c13] at h
    exact wj_X14_parseModule_81 h 
  · rw [if_neg c13] at h
    obtain ⟨s14, e15, h⟩ := lq_0_some h
    refine wl_X14_parseModule_20  FU  s8 _ e15  ?_
    unfold E_X14_parseModule_20
    intro s14' z_
    cases z_
    exact wj_X14_parseModule_74 h 

def E_X14_sameName_36 (rv : Option vA) (σo : vS) (q : (vS) ⊕ (Int × vS)) : Prop := (∀ (s' : vS), q = .inl s' → VW cX14_sameName (RX14, rv, σo, (some .boolean), 0, 0, 5, []) (P0 []) s' 81 [] []) ∧ (∀ (v : Int) (s' : vS), q = .inr (v, s') → rv = some (vI v) ∧ σo = s')
def l_X14_sameName_36 : Nat → Int → Int → Int → Int → vS → Option ((vS) ⊕ (Int × vS))
  | 0, _, _, _, _, _ => none
  | n + 1, x1, x2, x3, x4, s =>
    if x3 ≤ x4 then
      some (.inl s)
    else
      gd (inb x1 (gN s 95)) <|
      gd (inb (w32 ((gE s 95 x1) + x4)) (gN s 93)) <|
      gd (inb x2 (gN s 95)) <|
      gd (inb (w32 ((gE s 95 x2) + x4)) (gN s 93)) <|
      if (gE s 93 (w32 ((gE s 95 x1) + x4))) = (gE s 93 (w32 ((gE s 95 x2) + x4))) then
        vl (w32 (x4 + 1)) fun y7 =>
        l_X14_sameName_36 n x1 x2 x3 y7 s
      else
        some (.inr (0, s))
theorem wl_X14_sameName_36 {x1 : Int} {x2 : Int} {x3 : Int} {rv : Option vA} {σo : vS}  (rx1 : rg x1) (rx2 : rg x2) (rx3 : rg x3) : ∀ (n : Nat) (x4 : Int) (s : vS) (q : (vS) ⊕ (Int × vS)), l_X14_sameName_36 n x1 x2 x3 x4 s = some q → rg x4 → E_X14_sameName_36 rv σo q → VW cX14_sameName (RX14, rv, σo, (some .boolean), 0, 0, 5, []) (P0 []) s 36 [(0, vO 87), (1, vI x1), (2, vI x2), (3, vI x3), (4, vI x4)] [] := by
  intro n
  induction n with
  | zero => intro x4 s q h; cases h
  | succ n ih =>
    intro x4 s q h rx4 hE
    unfold l_X14_sameName_36 at h
    refine v_iload dX14_sameName_36 4 rfl ?_
    refine v_iload_n dX14_sameName_38 3 rfl rfl ?_
    refine v_icmp_ge (tgt := 81) dX14_sameName_39 rx4 rx3 (by decide) (fun c1 => ?_) (fun c1 => ?_)
    · rw [if_pos c1] at h
      cases h
      refine v_sub [] (L1 := []) rfl ?_
      exact hE.1 _ rfl 
    · rw [if_neg c1] at h
      refine v_aload_n dX14_sameName_42 0 rfl rfl ?_
      refine v_getS (f := 14) (t := 93) cf14 oc87 rfl rfl rfl (by decide) q2384 dX14_sameName_43 ?_
      refine v_aload_n dX14_sameName_46 0 rfl rfl ?_
      refine v_getS (f := 17) (t := 95) cf14 oc87 rfl rfl rfl (by decide) q2387 dX14_sameName_47 ?_
      refine v_iload_n dX14_sameName_50 1 rfl rfl ?_
      obtain ⟨g2, h⟩ := gd_some h
      refine v_iald oc95 rx1 g2.1 g2.2 dX14_sameName_51 ?_
      refine v_iload dX14_sameName_52 4 rfl ?_
      refine v_iadd dX14_sameName_54 ?_
      obtain ⟨g3, h⟩ := gd_some h
      refine v_iald oc93 (w32_rg _) g3.1 g3.2 dX14_sameName_55 ?_
      refine v_aload_n dX14_sameName_56 0 rfl rfl ?_
      refine v_getS (f := 14) (t := 93) cf14 oc87 rfl rfl rfl (by decide) q2384 dX14_sameName_57 ?_
      refine v_aload_n dX14_sameName_60 0 rfl rfl ?_
      refine v_getS (f := 17) (t := 95) cf14 oc87 rfl rfl rfl (by decide) q2387 dX14_sameName_61 ?_
      refine v_iload_n dX14_sameName_64 2 rfl rfl ?_
      obtain ⟨g4, h⟩ := gd_some h
      refine v_iald oc95 rx2 g4.1 g4.2 dX14_sameName_65 ?_
      refine v_iload dX14_sameName_66 4 rfl ?_
      refine v_iadd dX14_sameName_68 ?_
      obtain ⟨g5, h⟩ := gd_some h
      refine v_iald oc93 (w32_rg _) g5.1 g5.2 dX14_sameName_69 ?_
      refine v_icmp_eq (tgt := 75) dX14_sameName_70 (gE_rg _ _ _) (gE_rg _ _ _) (by decide) (fun c6 => ?_) (fun c6 => ?_)
      · rw [if_pos c6] at h
        obtain ⟨y7, e8, h⟩ := vl_some h
        refine v_iinc (L1 := [(4, vI (w32 (x4 + 1))), (0, vO 87), (1, vI x1), (2, vI x2), (3, vI x3)]) dX14_sameName_75 4 rfl (by decide) rfl ?_
        rw [← e8]
        have r9 : rg y7 := by rw [e8]; exact w32_rg _
        refine v_goto (tgt := 36) dX14_sameName_78 (by decide) ?_
        refine v_sub [1, 2, 3, 4, 0] (L1 := [(0, vO 87), (1, vI x1), (2, vI x2), (3, vI x3), (4, vI y7)]) rfl ?_
        exact ih y7 s _ h r9 hE
      · rw [if_neg c6] at h
        refine v_iconst dX14_sameName_73 ?_
        cases h
        obtain ⟨z1, z2⟩ := hE.2 _ _ rfl
        subst z1
        subst z2
        exact v_zret (Or.inl rfl) dX14_sameName_74

def f_X14_sameName (x1 : Int) (x2 : Int) (s : vS) : Option (Int × vS) :=
  gd (inb x1 (gN s 96)) <|
  gd (inb x1 (gN s 95)) <|
  vl (w32 ((gE s 96 x1) - (gE s 95 x1))) fun y3 =>
  gd (inb x2 (gN s 96)) <|
  gd (inb x2 (gN s 95)) <|
  if (w32 ((gE s 96 x2) - (gE s 95 x2))) = y3 then
    lqs_0 (l_X14_sameName_36 FU x1 x2 y3 0 s) (fun s9 =>
      some (1, s9))
      (fun q => some q)
  else
    some (0, s)
theorem yk_X14_sameName : yOk yX14_sameName 2 := ⟨by decide, by decide, by decide +kernel⟩
theorem c_X14_sameName {x1 : Int} {x2 : Int} {s : vS} {out : Int × vS} (h : f_X14_sameName x1 x2 s = some out)  (rx1 : rg x1) (rx2 : rg x2) : VC yX14_sameName cX14_sameName 5 (some .boolean) 0 0 [vO 87, vI x1, vI x2] s (some (vI out.1)) out.2 [] := by
  unfold f_X14_sameName at h
  refine VC.of RX14 (by decide) rfl (Nat.le_of_ble_eq_true rfl) ?_
  show VW cX14_sameName (RX14, (some (vI out.1)), out.2, (some .boolean), 0, 0, 5, []) (P0 []) s 0 [(0, vO 87), (1, vI x1), (2, vI x2)] []
  refine v_aload_n dX14_sameName_0 0 rfl rfl ?_
  refine v_getS (f := 18) (t := 96) cf14 oc87 rfl rfl rfl (by decide) q2388 dX14_sameName_1 ?_
  refine v_iload_n dX14_sameName_4 1 rfl rfl ?_
  obtain ⟨g1, h⟩ := gd_some h
  refine v_iald oc96 rx1 g1.1 g1.2 dX14_sameName_5 ?_
  refine v_aload_n dX14_sameName_6 0 rfl rfl ?_
  refine v_getS (f := 17) (t := 95) cf14 oc87 rfl rfl rfl (by decide) q2387 dX14_sameName_7 ?_
  refine v_iload_n dX14_sameName_10 1 rfl rfl ?_
  obtain ⟨g2, h⟩ := gd_some h
  refine v_iald oc95 rx1 g2.1 g2.2 dX14_sameName_11 ?_
  refine v_isub dX14_sameName_12 ?_
  obtain ⟨y3, e4, h⟩ := vl_some h
  rw [← e4]
  have r5 : rg y3 := by rw [e4]; exact w32_rg _
  refine v_istore_n (L1 := [(3, vI y3), (0, vO 87), (1, vI x1), (2, vI x2)]) dX14_sameName_13 rfl (by decide) rfl ?_
  refine v_aload_n dX14_sameName_14 1 rfl rfl ?_
  refine v_getS (f := 18) (t := 96) cf14 oc87 rfl rfl rfl (by decide) q2388 dX14_sameName_15 ?_
  refine v_iload_n dX14_sameName_18 3 rfl rfl ?_
  obtain ⟨g6, h⟩ := gd_some h
  refine v_iald oc96 rx2 g6.1 g6.2 dX14_sameName_19 ?_
  refine v_aload_n dX14_sameName_20 1 rfl rfl ?_
  refine v_getS (f := 17) (t := 95) cf14 oc87 rfl rfl rfl (by decide) q2387 dX14_sameName_21 ?_
  refine v_iload_n dX14_sameName_24 3 rfl rfl ?_
  obtain ⟨g7, h⟩ := gd_some h
  refine v_iald oc95 rx2 g7.1 g7.2 dX14_sameName_25 ?_
  refine v_isub dX14_sameName_26 ?_
  refine v_iload_n dX14_sameName_27 0 rfl rfl ?_
  refine v_icmp_eq (tgt := 33) dX14_sameName_28 (w32_rg _) r5 (by decide) (fun c8 => ?_) (fun c8 => ?_)
  · rw [if_pos c8] at h
    refine v_iconst dX14_sameName_33 ?_
    refine v_istore (L1 := [(4, vI 0), (3, vI y3), (0, vO 87), (1, vI x1), (2, vI x2)]) dX14_sameName_34 (by decide) rfl ?_
    refine v_sub [2, 3, 4, 1, 0] (L1 := [(0, vO 87), (1, vI x1), (2, vI x2), (3, vI y3), (4, vI 0)]) rfl ?_
    rcases lqs_0_some h with ⟨s9, e10, h⟩ | ⟨q9, e10, h⟩
    · refine wl_X14_sameName_36 rx1 rx2 r5 FU 0 s _ e10 (rgl rfl) ?_
      unfold E_X14_sameName_36
      refine ⟨?_, fun v9 s9 z_ => (by cases z_)⟩
      intro s9' z_
      cases z_
      refine v_iconst dX14_sameName_81 ?_
      cases h
      exact v_zret (Or.inr rfl) dX14_sameName_82
    · cases h
      refine wl_X14_sameName_36 rx1 rx2 r5 FU 0 s _ e10 (rgl rfl) ?_
      unfold E_X14_sameName_36
      refine ⟨fun _ z_ => (by cases z_), ?_⟩
      intro v9 s9 z_
      cases z_
      exact ⟨rfl, rfl⟩
  · rw [if_neg c8] at h
    refine v_iconst dX14_sameName_31 ?_
    cases h
    exact v_zret (Or.inl rfl) dX14_sameName_32

def E_X14_hash_9 (rv : Option vA) (σo : vS) (q : Int × vS) : Prop := ∀ (x2' : Int) (s' : vS), q = (x2', s') → rg x2' → VW cX14_hash (RX14, rv, σo, (some .int), 0, 0, 4, []) (P0 []) s' 37 [(2, vI x2')] []
def l_X14_hash_9 : Nat → Int → Int → Int → vS → Option (Int × vS)
  | 0, _, _, _, _ => none
  | n + 1, x1, x2, x3, s =>
    gd (inb x1 (gN s 96)) <|
    if (gE s 96 x1) ≤ x3 then
      some (x2, s)
    else
      gd (inb x3 (gN s 93)) <|
      vl (w32 ((w32 (31 * x2)) + (gE s 93 x3))) fun y4 =>
      vl (w32 (x3 + 1)) fun y7 =>
      l_X14_hash_9 n x1 y4 y7 s
theorem wl_X14_hash_9 {x1 : Int} {rv : Option vA} {σo : vS}  (rx1 : rg x1) : ∀ (n : Nat) (x2 : Int) (x3 : Int) (s : vS) (q : Int × vS), l_X14_hash_9 n x1 x2 x3 s = some q → rg x2 → rg x3 → E_X14_hash_9 rv σo q → VW cX14_hash (RX14, rv, σo, (some .int), 0, 0, 4, []) (P0 []) s 9 [(0, vO 87), (1, vI x1), (2, vI x2), (3, vI x3)] [] := by
  intro n
  induction n with
  | zero => intro x2 x3 s q h; cases h
  | succ n ih =>
    intro x2 x3 s q h rx2 rx3 hE
    unfold l_X14_hash_9 at h
    refine v_iload_n dX14_hash_9 3 rfl rfl ?_
    refine v_aload_n dX14_hash_10 0 rfl rfl ?_
    refine v_getS (f := 18) (t := 96) cf14 oc87 rfl rfl rfl (by decide) q2388 dX14_hash_11 ?_
    refine v_iload_n dX14_hash_14 1 rfl rfl ?_
    obtain ⟨g1, h⟩ := gd_some h
    refine v_iald oc96 rx1 g1.1 g1.2 dX14_hash_15 ?_
    refine v_icmp_ge (tgt := 37) dX14_hash_16 rx3 (gE_rg _ _ _) (by decide) (fun c2 => ?_) (fun c2 => ?_)
    · rw [if_pos c2] at h
      cases h
      refine v_sub [2] (L1 := [(2, vI x2)]) rfl ?_
      exact hE _ _ rfl rx2
    · rw [if_neg c2] at h
      refine v_bipush dX14_hash_19 rfl ?_
      refine v_iload_n dX14_hash_21 2 rfl rfl ?_
      refine v_imul dX14_hash_22 ?_
      refine v_aload_n dX14_hash_23 0 rfl rfl ?_
      refine v_getS (f := 14) (t := 93) cf14 oc87 rfl rfl rfl (by decide) q2384 dX14_hash_24 ?_
      refine v_iload_n dX14_hash_27 3 rfl rfl ?_
      obtain ⟨g3, h⟩ := gd_some h
      refine v_iald oc93 rx3 g3.1 g3.2 dX14_hash_28 ?_
      refine v_iadd dX14_hash_29 ?_
      obtain ⟨y4, e5, h⟩ := vl_some h
      rw [← e5]
      have r6 : rg y4 := by rw [e5]; exact w32_rg _
      refine v_istore_n (L1 := [(2, vI y4), (0, vO 87), (1, vI x1), (3, vI x3)]) dX14_hash_30 rfl (by decide) rfl ?_
      obtain ⟨y7, e8, h⟩ := vl_some h
      refine v_iinc (L1 := [(3, vI (w32 (x3 + 1))), (2, vI y4), (0, vO 87), (1, vI x1)]) dX14_hash_31 3 rfl (by decide) rfl ?_
      rw [← e8]
      have r9 : rg y7 := by rw [e8]; exact w32_rg _
      refine v_goto (tgt := 9) dX14_hash_34 (by decide) ?_
      refine v_sub [2, 3, 1, 0] (L1 := [(0, vO 87), (1, vI x1), (2, vI y4), (3, vI y7)]) rfl ?_
      exact ih y4 y7 s _ h r6 r9 hE

def f_X14_hash (x1 : Int) (s : vS) : Option (Int × vS) :=
  gd (inb x1 (gN s 95)) <|
  vl (gE s 95 x1) fun y2 =>
  lq_1 (l_X14_hash_9 FU x1 0 y2 s) fun y5 s6 =>
  some (and32 y5 4095, s6)
theorem yk_X14_hash : yOk yX14_hash 1 := ⟨by decide, by decide, by decide +kernel⟩
theorem c_X14_hash {x1 : Int} {s : vS} {out : Int × vS} (h : f_X14_hash x1 s = some out)  (rx1 : rg x1) : VC yX14_hash cX14_hash 4 (some .int) 0 0 [vO 87, vI x1] s (some (vI out.1)) out.2 [] := by
  unfold f_X14_hash at h
  refine VC.of RX14 (by decide) rfl (Nat.le_of_ble_eq_true rfl) ?_
  show VW cX14_hash (RX14, (some (vI out.1)), out.2, (some .int), 0, 0, 4, []) (P0 []) s 0 [(0, vO 87), (1, vI x1)] []
  refine v_iconst dX14_hash_0 ?_
  refine v_istore_n (L1 := [(2, vI 0), (0, vO 87), (1, vI x1)]) dX14_hash_1 rfl (by decide) rfl ?_
  refine v_aload_n dX14_hash_2 1 rfl rfl ?_
  refine v_getS (f := 17) (t := 95) cf14 oc87 rfl rfl rfl (by decide) q2387 dX14_hash_3 ?_
  refine v_iload_n dX14_hash_6 2 rfl rfl ?_
  obtain ⟨g1, h⟩ := gd_some h
  refine v_iald oc95 rx1 g1.1 g1.2 dX14_hash_7 ?_
  obtain ⟨y2, e3, h⟩ := vl_some h
  rw [← e3]
  have r4 : rg y2 := by rw [e3]; exact gE_rg _ _ _
  refine v_istore_n (L1 := [(3, vI y2), (2, vI 0), (0, vO 87), (1, vI x1)]) dX14_hash_8 rfl (by decide) rfl ?_
  refine v_sub [2, 3, 1, 0] (L1 := [(0, vO 87), (1, vI x1), (2, vI 0), (3, vI y2)]) rfl ?_
  obtain ⟨y5, s6, e7, h⟩ := lq_1_some h
  refine wl_X14_hash_9 rx1 FU 0 y2 s _ e7 (rgl rfl) r4 ?_
  unfold E_X14_hash_9
  intro y5' s6' z_ r8
  cases z_
  refine v_iload_n dX14_hash_37 0 rfl rfl ?_
  refine v_sipush dX14_hash_38 rfl ?_
  refine v_iand dX14_hash_41 ?_
  cases h
  exact v_iret (and32_rg _ _) dX14_hash_42

def E_X14_assignmentOf_11 (rv : Option vA) (σo : vS) (q : Int × vS) : Prop := ∀ (x2' : Int) (s' : vS), q = (x2', s') → rg x2' → VW cX14_assignmentOf (RX14, rv, σo, (some .int), 1, 24, 3, []) (P0 []) s' 39 [(2, vI x2')] []
def l_X14_assignmentOf_11 : Nat → Int → Int → vS → Option (Int × vS)
  | 0, _, _, _ => none
  | n + 1, x1, x2, s =>
    if x2 < 0 then
      some (x2, s)
    else
      gd (inb x2 (gN s 141)) <|
      bd (f_X14_sameName (gE s 141 x2) x1 s) fun r6 s3 =>
      if r6 = 0 then
        gd (inb x2 (gN s3 154)) <|
        vl (gE s3 154 x2) fun y10 =>
        l_X14_assignmentOf_11 n x1 y10 s3
      else
        some (x2, s3)
theorem wl_X14_assignmentOf_11 {x1 : Int} {rv : Option vA} {σo : vS}  (rx1 : rg x1) : ∀ (n : Nat) (x2 : Int) (s : vS) (q : Int × vS), l_X14_assignmentOf_11 n x1 x2 s = some q → rg x2 → E_X14_assignmentOf_11 rv σo q → VW cX14_assignmentOf (RX14, rv, σo, (some .int), 1, 24, 3, []) (P0 []) s 11 [(0, vO 87), (1, vI x1), (2, vI x2)] [] := by
  intro n
  induction n with
  | zero => intro x2 s q h; cases h
  | succ n ih =>
    intro x2 s q h rx2 hE
    unfold l_X14_assignmentOf_11 at h
    refine v_iload_n dX14_assignmentOf_11 2 rfl rfl ?_
    refine v_if_lt (tgt := 39) dX14_assignmentOf_12 rx2 (by decide) (fun c1 => ?_) (fun c1 => ?_)
    · rw [if_pos c1] at h
      cases h
      refine v_sub [2] (L1 := [(2, vI x2)]) rfl ?_
      exact hE _ _ rfl rx2
    · rw [if_neg c1] at h
      refine v_aload_n dX14_assignmentOf_15 0 rfl rfl ?_
      refine v_aload_n dX14_assignmentOf_16 0 rfl rfl ?_
      refine v_getS (f := 73) (t := 141) cf14 oc87 rfl rfl rfl (by decide) q2443 dX14_assignmentOf_17 ?_
      refine v_iload_n dX14_assignmentOf_20 2 rfl rfl ?_
      obtain ⟨g2, h⟩ := gd_some h
      refine v_iald oc141 rx2 g2.1 g2.2 dX14_assignmentOf_21 ?_
      refine v_iload_n dX14_assignmentOf_22 1 rfl rfl ?_
      obtain ⟨r6, s3, e4, h⟩ := bd_some h
      have k5 := c_X14_sameName e4 (gE_rg _ _ _) rx1
      have r7 : rg r6 := k5.1.2.2
      refine v_callV (st := []) cf14 oc87 k5 (lw_V q3089 q3091 qs202 q311 q3092) rfl yk_X14_sameName ⟨Nat.le_of_ble_eq_true rfl, Nat.le_of_ble_eq_true rfl⟩ trivial ⟨kc87, trivial⟩ (Nat.le_of_ble_eq_true rfl) rfl dX14_assignmentOf_23 ?_
      refine v_if_ne (tgt := 39) dX14_assignmentOf_26 r7 (by decide) (fun c8 => ?_) (fun c8 => ?_)
      · rw [if_neg c8] at h
        cases h
        refine v_sub [2] (L1 := [(2, vI x2)]) rfl ?_
        exact hE _ _ rfl rx2
      · rw [if_pos c8] at h
        refine v_aload_n dX14_assignmentOf_29 0 rfl rfl ?_
        refine v_getS (f := 93) (t := 154) cf14 oc87 rfl rfl rfl (by decide) q2463 dX14_assignmentOf_30 ?_
        refine v_iload_n dX14_assignmentOf_33 2 rfl rfl ?_
        obtain ⟨g9, h⟩ := gd_some h
        refine v_iald oc154 rx2 g9.1 g9.2 dX14_assignmentOf_34 ?_
        obtain ⟨y10, e11, h⟩ := vl_some h
        rw [← e11]
        have r12 : rg y10 := by rw [e11]; exact gE_rg _ _ _
        refine v_istore_n (L1 := [(2, vI y10), (0, vO 87), (1, vI x1)]) dX14_assignmentOf_35 rfl (by decide) rfl ?_
        refine v_goto (tgt := 11) dX14_assignmentOf_36 (by decide) ?_
        refine v_sub [1, 2, 0] (L1 := [(0, vO 87), (1, vI x1), (2, vI y10)]) rfl ?_
        exact ih y10 s3 _ h r12 hE

def f_X14_assignmentOf (x1 : Int) (s : vS) : Option (Int × vS) :=
  bd (f_X14_hash x1 s) fun r4 s1 =>
  gd (gN s1 153 = gN s 153) <|
  gd (inb r4 (gN s1 153)) <|
  vl (gE s1 153 r4) fun y8 =>
  lq_1 (l_X14_assignmentOf_11 FU x1 y8 s1) fun y11 s12 =>
  some (y11, s12)
theorem yk_X14_assignmentOf : yOk yX14_assignmentOf 1 := ⟨by decide, by decide, by decide +kernel⟩
theorem c_X14_assignmentOf {x1 : Int} {s : vS} {out : Int × vS} (h : f_X14_assignmentOf x1 s = some out)  (rx1 : rg x1) : VC yX14_assignmentOf cX14_assignmentOf 3 (some .int) 1 24 [vO 87, vI x1] s (some (vI out.1)) out.2 [] := by
  unfold f_X14_assignmentOf at h
  refine VC.of RX14 (by decide) rfl (Nat.le_of_ble_eq_true rfl) ?_
  show VW cX14_assignmentOf (RX14, (some (vI out.1)), out.2, (some .int), 1, 24, 3, []) (P0 []) s 0 [(0, vO 87), (1, vI x1)] []
  refine v_aload_n dX14_assignmentOf_0 0 rfl rfl ?_
  refine v_getS (f := 92) (t := 153) cf14 oc87 rfl rfl rfl (by decide) q2462 dX14_assignmentOf_1 ?_
  refine v_aload_n dX14_assignmentOf_4 0 rfl rfl ?_
  refine v_iload_n dX14_assignmentOf_5 1 rfl rfl ?_
  obtain ⟨r4, s1, e2, h⟩ := bd_some h
  have k3 := c_X14_hash e2 rx1
  have r5 : rg r4 := k3.1.2.2
  obtain ⟨g6, h⟩ := gd_some h
  refine v_callV (st := [vO 153]) cf14 oc87 k3 (lw_V q3085 q3087 qs201 q311 q3088) rfl yk_X14_hash ⟨Nat.le_of_ble_eq_true rfl, Nat.le_of_ble_eq_true rfl⟩ ⟨(kp_arr (by decide) g6), trivial⟩ ⟨kc87, trivial⟩ (Nat.le_of_ble_eq_true rfl) rfl dX14_assignmentOf_6 ?_
  obtain ⟨g7, h⟩ := gd_some h
  refine v_iald oc153 r5 g7.1 g7.2 dX14_assignmentOf_9 ?_
  obtain ⟨y8, e9, h⟩ := vl_some h
  rw [← e9]
  have r10 : rg y8 := by rw [e9]; exact gE_rg _ _ _
  refine v_istore_n (L1 := [(2, vI y8), (0, vO 87), (1, vI x1)]) dX14_assignmentOf_10 rfl (by decide) rfl ?_
  refine v_sub [1, 2, 0] (L1 := [(0, vO 87), (1, vI x1), (2, vI y8)]) rfl ?_
  obtain ⟨y11, s12, e13, h⟩ := lq_1_some h
  refine wl_X14_assignmentOf_11 rx1 FU y8 s1 _ e13 r10 ?_
  unfold E_X14_assignmentOf_11
  intro y11' s12' z_ r14
  cases z_
  refine v_iload_n dX14_assignmentOf_39 0 rfl rfl ?_
  cases h
  exact v_iret r14 dX14_assignmentOf_40

def f_X14_first (x1 : Int) (s : vS) : Option (vS) :=
  if (gI s 87 94) < 0 then
    stp (sI s 87 94 x1) fun s2 =>
    some s2
  else
    if (gI s 87 94) ≤ x1 then
      stp (sI s 87 94 (gI s 87 94)) fun s5 =>
      some s5
    else
      stp (sI s 87 94 x1) fun s7 =>
      some s7
theorem yk_X14_first : yOk yX14_first 1 := ⟨by decide, by decide, by decide +kernel⟩
theorem c_X14_first {x1 : Int} {s : vS} {out : vS} (h : f_X14_first x1 s = some out)  (rx1 : rg x1) : VC yX14_first cX14_first 2 none 0 0 [vO 87, vI x1] s none out [] := by
  unfold f_X14_first at h
  refine VC.of RX14 (by decide) rfl (Nat.le_of_ble_eq_true rfl) ?_
  show VW cX14_first (RX14, none, out, none, 0, 0, 2, []) (P0 []) s 0 [(0, vO 87), (1, vI x1)] []
  refine v_aload_n dX14_first_0 0 rfl rfl ?_
  refine v_aload_n dX14_first_1 0 rfl rfl ?_
  refine v_getI (f := 94) cf14 oc87 rfl (by decide) q2464 dX14_first_2 ?_
  refine v_if_lt (tgt := 16) dX14_first_5 (gI_rg _ _ _) (by decide) (fun c1 => ?_) (fun c1 => ?_)
  · rw [if_pos c1] at h
    refine v_iload_n dX14_first_16 1 rfl rfl ?_
    refine v_goto (tgt := 24) dX14_first_17 (by decide) ?_
    obtain ⟨s2, e3, h⟩ := stp_some h
    refine v_putI (f := 94) cf14 oc87 rfl (by decide) q2464 dX14_first_24 rfl rfl ?_
    rw [← e3]
    cases h
    exact v_vret dX14_first_27
  · rw [if_neg c1] at h
    refine v_iload_n dX14_first_8 1 rfl rfl ?_
    refine v_aload_n dX14_first_9 0 rfl rfl ?_
    refine v_getI (f := 94) cf14 oc87 rfl (by decide) q2464 dX14_first_10 ?_
    refine v_icmp_ge (tgt := 20) dX14_first_13 rx1 (gI_rg _ _ _) (by decide) (fun c4 => ?_) (fun c4 => ?_)
    · rw [if_pos c4] at h
      refine v_aload_n dX14_first_20 0 rfl rfl ?_
      refine v_getI (f := 94) cf14 oc87 rfl (by decide) q2464 dX14_first_21 ?_
      obtain ⟨s5, e6, h⟩ := stp_some h
      refine v_putI (f := 94) cf14 oc87 rfl (by decide) q2464 dX14_first_24 rfl rfl ?_
      rw [← e6]
      cases h
      exact v_vret dX14_first_27
    · rw [if_neg c4] at h
      refine v_iload_n dX14_first_16 1 rfl rfl ?_
      refine v_goto (tgt := 24) dX14_first_17 (by decide) ?_
      obtain ⟨s7, e8, h⟩ := stp_some h
      refine v_putI (f := 94) cf14 oc87 rfl (by decide) q2464 dX14_first_24 rfl rfl ?_
      rw [← e8]
      cases h
      exact v_vret dX14_first_27

def f_X14_told (x1 : Int) (s : vS) : Option (vS) :=
  if (gI s 87 94) < 0 then
    stp (sI s 87 94 (-1)) fun s2 =>
    some s2
  else
    bdv (f_X14_tell x1 (gI s 87 94) s) fun s4 =>
    stp (sI s4 87 94 (-1)) fun s7 =>
    some s7
theorem yk_X14_told : yOk yX14_told 1 := ⟨by decide, by decide, by decide +kernel⟩
theorem c_X14_told {x1 : Int} {s : vS} {out : vS} (h : f_X14_told x1 s = some out)  (rx1 : rg x1) : VC yX14_told cX14_told 2 none 1 22 [vO 87, vI x1] s none out [] := by
  unfold f_X14_told at h
  refine VC.of RX14 (by decide) rfl (Nat.le_of_ble_eq_true rfl) ?_
  show VW cX14_told (RX14, none, out, none, 1, 22, 2, []) (P0 []) s 0 [(0, vO 87), (1, vI x1)] []
  refine v_aload_n dX14_told_0 0 rfl rfl ?_
  refine v_getI (f := 94) cf14 oc87 rfl (by decide) q2464 dX14_told_1 ?_
  refine v_if_lt (tgt := 16) dX14_told_4 (gI_rg _ _ _) (by decide) (fun c1 => ?_) (fun c1 => ?_)
  · rw [if_pos c1] at h
    refine v_aload_n dX14_told_16 0 rfl rfl ?_
    refine v_iconst dX14_told_17 ?_
    obtain ⟨s2, e3, h⟩ := stp_some h
    refine v_putI (f := 94) cf14 oc87 rfl (by decide) q2464 dX14_told_18 rfl rfl ?_
    rw [← e3]
    cases h
    exact v_vret dX14_told_21
  · rw [if_neg c1] at h
    refine v_aload_n dX14_told_7 0 rfl rfl ?_
    refine v_iload_n dX14_told_8 1 rfl rfl ?_
    refine v_aload_n dX14_told_9 0 rfl rfl ?_
    refine v_getI (f := 94) cf14 oc87 rfl (by decide) q2464 dX14_told_10 ?_
    obtain ⟨s4, e5, h⟩ := bdv_some h
    have k6 := c_X14_tell e5 rx1 (gI_rg _ _ _)
    refine v_callV (st := []) cf14 oc87 k6 (lw_V q2916 q2918 qs163 q311 q2919) rfl yk_X14_tell ⟨Nat.le_of_ble_eq_true rfl, Nat.le_of_ble_eq_true rfl⟩ trivial ⟨kc87, trivial⟩ (Nat.le_of_ble_eq_true rfl) rfl dX14_told_13 ?_
    refine v_aload_n dX14_told_16 0 rfl rfl ?_
    refine v_iconst dX14_told_17 ?_
    obtain ⟨s7, e8, h⟩ := stp_some h
    refine v_putI (f := 94) cf14 oc87 rfl (by decide) q2464 dX14_told_18 rfl rfl ?_
    rw [← e8]
    cases h
    exact v_vret dX14_told_21

def E_X14_checkTwice_2 (rv : Option vA) (σo : vS) (q : vS) : Prop := ∀ (s' : vS), q = s' → VW cX14_checkTwice (RX14, rv, σo, none, 4, 98, 4, []) (P0 []) s' 22 [(0, vO 87)] []
def l_X14_checkTwice_2 : Nat → Int → vS → Option (vS)
  | 0, _, _ => none
  | n + 1, x1, s =>
    if 4096 ≤ x1 then
      some s
    else
      gd (inb x1 (gN s 153)) <|
      stp (sE s 153 x1 (-1)) fun s3 =>
      vl (w32 (x1 + 1)) fun y5 =>
      l_X14_checkTwice_2 n y5 s3
theorem wl_X14_checkTwice_2 {rv : Option vA} {σo : vS}  : ∀ (n : Nat) (x1 : Int) (s : vS) (q : vS), l_X14_checkTwice_2 n x1 s = some q → rg x1 → E_X14_checkTwice_2 rv σo q → VW cX14_checkTwice (RX14, rv, σo, none, 4, 98, 4, []) (P0 []) s 2 [(0, vO 87), (1, vI x1)] [] := by
  intro n
  induction n with
  | zero => intro x1 s q h; cases h
  | succ n ih =>
    intro x1 s q h rx1 hE
    unfold l_X14_checkTwice_2 at h
    refine v_iload_n dX14_checkTwice_2 1 rfl rfl ?_
    refine v_sipush dX14_checkTwice_3 rfl ?_
    refine v_icmp_ge (tgt := 22) dX14_checkTwice_6 rx1 (rgl rfl) (by decide) (fun c1 => ?_) (fun c1 => ?_)
    · rw [if_pos c1] at h
      cases h
      refine v_sub [0] (L1 := [(0, vO 87)]) rfl ?_
      exact hE _ rfl 
    · rw [if_neg c1] at h
      refine v_aload_n dX14_checkTwice_9 0 rfl rfl ?_
      refine v_getS (f := 92) (t := 153) cf14 oc87 rfl rfl rfl (by decide) q2462 dX14_checkTwice_10 ?_
      refine v_iload_n dX14_checkTwice_13 1 rfl rfl ?_
      refine v_iconst dX14_checkTwice_14 ?_
      obtain ⟨g2, h⟩ := gd_some h
      obtain ⟨s3, e4, h⟩ := stp_some h
      refine v_iast oc153 rx1 g2.1 g2.2 dX14_checkTwice_15 ?_
      rw [← e4]
      obtain ⟨y5, e6, h⟩ := vl_some h
      refine v_iinc (L1 := [(1, vI (w32 (x1 + 1))), (0, vO 87)]) dX14_checkTwice_16 1 rfl (by decide) rfl ?_
      rw [← e6]
      have r7 : rg y5 := by rw [e6]; exact w32_rg _
      refine v_goto (tgt := 2) dX14_checkTwice_19 (by decide) ?_
      refine v_sub [1, 0] (L1 := [(0, vO 87), (1, vI y5)]) rfl ?_
      exact ih y5 s3 _ h r7 hE

def E_X14_checkTwice_24 (rv : Option vA) (σo : vS) (q : vS) : Prop := ∀ (s' : vS), q = s' → VW cX14_checkTwice (RX14, rv, σo, none, 4, 98, 4, []) (P0 []) s' 99 [(0, vO 87)] []
def l_X14_checkTwice_24 : Nat → Int → vS → Option (vS)
  | 0, _, _ => none
  | n + 1, x1, s =>
    if (gI s 87 72) ≤ x1 then
      some s
    else
      gd (inb x1 (gN s 141)) <|
      bd (f_X14_assignmentOf (gE s 141 x1) s) fun r6 s3 =>
      if r6 < 0 then
        gd (inb x1 (gN s3 141)) <|
        bd (f_X14_hash (gE s3 141 x1) s3) fun r13 s10 =>
        gd (inb r13 (gN s10 153)) <|
        gd (inb x1 (gN s10 154)) <|
        stp (sE s10 154 x1 (gE s10 153 r13)) fun s17 =>
        gd (inb r13 (gN s17 153)) <|
        stp (sE s17 153 r13 x1) fun s20 =>
        vl (w32 (x1 + 1)) fun y22 =>
        l_X14_checkTwice_24 n y22 s20
      else
        gd (inb x1 (gN s3 141)) <|
        gd (inb (gE s3 141 x1) (gN s3 95)) <|
        bdv (f_X14_first (gE s3 95 (gE s3 141 x1)) s3) fun s27 =>
        vl (w32 (x1 + 1)) fun y30 =>
        l_X14_checkTwice_24 n y30 s27
theorem wl_X14_checkTwice_24 {rv : Option vA} {σo : vS}  : ∀ (n : Nat) (x1 : Int) (s : vS) (q : vS), l_X14_checkTwice_24 n x1 s = some q → rg x1 → E_X14_checkTwice_24 rv σo q → VW cX14_checkTwice (RX14, rv, σo, none, 4, 98, 4, []) (P0 []) s 24 [(0, vO 87), (1, vI x1)] [] := by
  intro n
  induction n with
  | zero => intro x1 s q h; cases h
  | succ n ih =>
    intro x1 s q h rx1 hE
    unfold l_X14_checkTwice_24 at h
    refine v_iload_n dX14_checkTwice_24 1 rfl rfl ?_
    refine v_aload_n dX14_checkTwice_25 0 rfl rfl ?_
    refine v_getI (f := 72) cf14 oc87 rfl (by decide) q2442 dX14_checkTwice_26 ?_
    refine v_icmp_ge (tgt := 99) dX14_checkTwice_29 rx1 (gI_rg _ _ _) (by decide) (fun c1 => ?_) (fun c1 => ?_)
    · rw [if_pos c1] at h
      cases h
      refine v_sub [0] (L1 := [(0, vO 87)]) rfl ?_
      exact hE _ rfl 
    · rw [if_neg c1] at h
      refine v_aload_n dX14_checkTwice_32 0 rfl rfl ?_
      refine v_aload_n dX14_checkTwice_33 0 rfl rfl ?_
      refine v_getS (f := 73) (t := 141) cf14 oc87 rfl rfl rfl (by decide) q2443 dX14_checkTwice_34 ?_
      refine v_iload_n dX14_checkTwice_37 1 rfl rfl ?_
      obtain ⟨g2, h⟩ := gd_some h
      refine v_iald oc141 rx1 g2.1 g2.2 dX14_checkTwice_38 ?_
      obtain ⟨r6, s3, e4, h⟩ := bd_some h
      have k5 := c_X14_assignmentOf e4 (gE_rg _ _ _)
      have r7 : rg r6 := k5.1.2.2
      refine v_callV (st := []) cf14 oc87 k5 (lw_V q3081 q3083 qs200 q311 q3084) rfl yk_X14_assignmentOf ⟨Nat.le_of_ble_eq_true rfl, Nat.le_of_ble_eq_true rfl⟩ trivial ⟨kc87, trivial⟩ (Nat.le_of_ble_eq_true rfl) rfl dX14_checkTwice_39 ?_
      refine v_if_lt (tgt := 63) dX14_checkTwice_42 r7 (by decide) (fun c8 => ?_) (fun c8 => ?_)
      · rw [if_pos c8] at h
        refine v_aload_n dX14_checkTwice_63 0 rfl rfl ?_
        refine v_aload_n dX14_checkTwice_64 0 rfl rfl ?_
        refine v_getS (f := 73) (t := 141) cf14 oc87 rfl rfl rfl (by decide) q2443 dX14_checkTwice_65 ?_
        refine v_iload_n dX14_checkTwice_68 1 rfl rfl ?_
        obtain ⟨g9, h⟩ := gd_some h
        refine v_iald oc141 rx1 g9.1 g9.2 dX14_checkTwice_69 ?_
        obtain ⟨r13, s10, e11, h⟩ := bd_some h
        have k12 := c_X14_hash e11 (gE_rg _ _ _)
        have r14 : rg r13 := k12.1.2.2
        refine v_callV (st := []) cf14 oc87 k12 (lw_V q3085 q3087 qs201 q311 q3088) rfl yk_X14_hash ⟨Nat.le_of_ble_eq_true rfl, Nat.le_of_ble_eq_true rfl⟩ trivial ⟨kc87, trivial⟩ (Nat.le_of_ble_eq_true rfl) rfl dX14_checkTwice_70 ?_
        refine v_istore_n (L1 := [(2, vI r13), (0, vO 87), (1, vI x1)]) dX14_checkTwice_73 rfl (by decide) rfl ?_
        refine v_aload_n dX14_checkTwice_74 1 rfl rfl ?_
        refine v_getS (f := 93) (t := 154) cf14 oc87 rfl rfl rfl (by decide) q2463 dX14_checkTwice_75 ?_
        refine v_iload_n dX14_checkTwice_78 2 rfl rfl ?_
        refine v_aload_n dX14_checkTwice_79 1 rfl rfl ?_
        refine v_getS (f := 92) (t := 153) cf14 oc87 rfl rfl rfl (by decide) q2462 dX14_checkTwice_80 ?_
        refine v_iload_n dX14_checkTwice_83 0 rfl rfl ?_
        obtain ⟨g15, h⟩ := gd_some h
        refine v_iald oc153 r14 g15.1 g15.2 dX14_checkTwice_84 ?_
        obtain ⟨g16, h⟩ := gd_some h
        obtain ⟨s17, e18, h⟩ := stp_some h
        refine v_iast oc154 rx1 g16.1 g16.2 dX14_checkTwice_85 ?_
        rw [← e18]
        refine v_aload_n dX14_checkTwice_86 1 rfl rfl ?_
        refine v_getS (f := 92) (t := 153) cf14 oc87 rfl rfl rfl (by decide) q2462 dX14_checkTwice_87 ?_
        refine v_iload_n dX14_checkTwice_90 0 rfl rfl ?_
        refine v_iload_n dX14_checkTwice_91 2 rfl rfl ?_
        obtain ⟨g19, h⟩ := gd_some h
        obtain ⟨s20, e21, h⟩ := stp_some h
        refine v_iast oc153 r14 g19.1 g19.2 dX14_checkTwice_92 ?_
        rw [← e21]
        obtain ⟨y22, e23, h⟩ := vl_some h
        refine v_iinc (L1 := [(1, vI (w32 (x1 + 1))), (2, vI r13), (0, vO 87)]) dX14_checkTwice_93 2 rfl (by decide) rfl ?_
        rw [← e23]
        have r24 : rg y22 := by rw [e23]; exact w32_rg _
        refine v_goto (tgt := 24) dX14_checkTwice_96 (by decide) ?_
        refine v_sub [2, 0] (L1 := [(0, vO 87), (1, vI y22)]) rfl ?_
        exact ih y22 s20 _ h r24 hE
      · rw [if_neg c8] at h
        refine v_aload_n dX14_checkTwice_45 0 rfl rfl ?_
        refine v_aload_n dX14_checkTwice_46 0 rfl rfl ?_
        refine v_getS (f := 17) (t := 95) cf14 oc87 rfl rfl rfl (by decide) q2387 dX14_checkTwice_47 ?_
        refine v_aload_n dX14_checkTwice_50 0 rfl rfl ?_
        refine v_getS (f := 73) (t := 141) cf14 oc87 rfl rfl rfl (by decide) q2443 dX14_checkTwice_51 ?_
        refine v_iload_n dX14_checkTwice_54 1 rfl rfl ?_
        obtain ⟨g25, h⟩ := gd_some h
        refine v_iald oc141 rx1 g25.1 g25.2 dX14_checkTwice_55 ?_
        obtain ⟨g26, h⟩ := gd_some h
        refine v_iald oc95 (gE_rg _ _ _) g26.1 g26.2 dX14_checkTwice_56 ?_
        obtain ⟨s27, e28, h⟩ := bdv_some h
        have k29 := c_X14_first e28 (gE_rg _ _ _)
        refine v_callV (st := []) cf14 oc87 k29 (lw_V q3093 q3095 qs203 q311 q3096) rfl yk_X14_first ⟨Nat.le_of_ble_eq_true rfl, Nat.le_of_ble_eq_true rfl⟩ trivial ⟨kc87, trivial⟩ (Nat.le_of_ble_eq_true rfl) rfl dX14_checkTwice_57 ?_
        refine v_goto (tgt := 93) dX14_checkTwice_60 (by decide) ?_
        obtain ⟨y30, e31, h⟩ := vl_some h
        refine v_iinc (L1 := [(1, vI (w32 (x1 + 1))), (0, vO 87)]) dX14_checkTwice_93 1 rfl (by decide) rfl ?_
        rw [← e31]
        have r32 : rg y30 := by rw [e31]; exact w32_rg _
        refine v_goto (tgt := 24) dX14_checkTwice_96 (by decide) ?_
        refine v_sub [1, 0] (L1 := [(0, vO 87), (1, vI y30)]) rfl ?_
        exact ih y30 s27 _ h r32 hE

def E_X14_checkTwice_101 (rv : Option vA) (σo : vS) (q : vS) : Prop := ∀ (s' : vS), q = s' → VW cX14_checkTwice (RX14, rv, σo, none, 4, 98, 4, []) (P0 []) s' 361 [(0, vO 87)] []
def E_X14_checkTwice_116 (x1 : Int) (rv : Option vA) (σo : vS) (q : vS) : Prop := ∀ (s' : vS), q = s' → VW cX14_checkTwice (RX14, rv, σo, none, 4, 98, 4, []) (P0 []) s' 278 [(0, vO 87), (1, vI x1)] []
def E_X14_checkTwice_175 (x1 : Int) (x2 : Int) (rv : Option vA) (σo : vS) (q : vS) : Prop := ∀ (s' : vS), q = s' → VW cX14_checkTwice (RX14, rv, σo, none, 4, 98, 4, []) (P0 []) s' 272 [(0, vO 87), (1, vI x1), (2, vI x2)] []
def j_X14_checkTwice_214 (rec : Int → Int → Int → vS → Option (vS)) (x1 : Int) (x2 : Int) (x3 : Int) (s : vS) : Option (vS) :=
  gd (inb x2 (gN s 115)) <|
  if (gE s 115 x2) < 0 then
    vl (w32 (x3 + 1)) fun y3 =>
    rec x1 x2 y3 s
  else
    gd (inb x3 (gN s 115)) <|
    if (gE s 115 x3) < 0 then
      vl (w32 (x3 + 1)) fun y8 =>
      rec x1 x2 y8 s
    else
      gd (inb x2 (gN s 115)) <|
      gd (inb x3 (gN s 115)) <|
      bd (f_X14_compareNumbers (gE s 115 x2) (gE s 115 x3) s) fun r16 s13 =>
      if r16 = 0 then
        gd (inb x2 (gN s13 113)) <|
        gd (inb (gE s13 113 x2) (gN s13 95)) <|
        bdv (f_X14_first (gE s13 95 (gE s13 113 x2)) s13) fun s24 =>
        vl (w32 (x3 + 1)) fun y27 =>
        rec x1 x2 y27 s24
      else
        vl (w32 (x3 + 1)) fun y19 =>
        rec x1 x2 y19 s13
theorem wj_X14_checkTwice_214 {x1 : Int} {x2 : Int} {x3 : Int} {s : vS} {rv : Option vA} {σo : vS} {rec : Int → Int → Int → vS → Option (vS)} {q : vS} (h : j_X14_checkTwice_214 rec x1 x2 x3 s = some q)  (rx1 : rg x1) (rx2 : rg x2) (rx3 : rg x3) (hrec : ∀ (y3 : Int) (s : vS) (q : vS), rec x1 x2 y3 s = some q → rg y3 → E_X14_checkTwice_175 x1 x2 rv σo q → VW cX14_checkTwice (RX14, rv, σo, none, 4, 98, 4, []) (P0 []) s 175 [(0, vO 87), (1, vI x1), (2, vI x2), (3, vI y3)] []) (hE : E_X14_checkTwice_175 x1 x2 rv σo q) : VW cX14_checkTwice (RX14, rv, σo, none, 4, 98, 4, []) (P0 []) s 214 [(0, vO 87), (1, vI x1), (2, vI x2), (3, vI x3)] [] := by
  unfold j_X14_checkTwice_214 at h
  refine v_aload_n dX14_checkTwice_214 0 rfl rfl ?_
  refine v_getS (f := 41) (t := 115) cf14 oc87 rfl rfl rfl (by decide) q2411 dX14_checkTwice_215 ?_
  refine v_iload_n dX14_checkTwice_218 2 rfl rfl ?_
  obtain ⟨g1, h⟩ := gd_some h
  refine v_iald oc115 rx2 g1.1 g1.2 dX14_checkTwice_219 ?_
  refine v_if_lt (tgt := 266) dX14_checkTwice_220 (gE_rg _ _ _) (by decide) (fun c2 => ?_) (fun c2 => ?_)
  · rw [if_pos c2] at h
    obtain ⟨y3, e4, h⟩ := vl_some h
    refine v_iinc (L1 := [(3, vI (w32 (x3 + 1))), (0, vO 87), (1, vI x1), (2, vI x2)]) dX14_checkTwice_266 3 rfl (by decide) rfl ?_
    rw [← e4]
    have r5 : rg y3 := by rw [e4]; exact w32_rg _
    refine v_goto (tgt := 175) dX14_checkTwice_269 (by decide) ?_
    refine v_sub [1, 2, 3, 0] (L1 := [(0, vO 87), (1, vI x1), (2, vI x2), (3, vI y3)]) rfl ?_
    exact hrec y3 s _ h r5 hE
  · rw [if_neg c2] at h
    refine v_aload_n dX14_checkTwice_223 0 rfl rfl ?_
    refine v_getS (f := 41) (t := 115) cf14 oc87 rfl rfl rfl (by decide) q2411 dX14_checkTwice_224 ?_
    refine v_iload_n dX14_checkTwice_227 3 rfl rfl ?_
    obtain ⟨g6, h⟩ := gd_some h
    refine v_iald oc115 rx3 g6.1 g6.2 dX14_checkTwice_228 ?_
    refine v_if_lt (tgt := 266) dX14_checkTwice_229 (gE_rg _ _ _) (by decide) (fun c7 => ?_) (fun c7 => ?_)
    · rw [if_pos c7] at h
      obtain ⟨y8, e9, h⟩ := vl_some h
      refine v_iinc (L1 := [(3, vI (w32 (x3 + 1))), (0, vO 87), (1, vI x1), (2, vI x2)]) dX14_checkTwice_266 3 rfl (by decide) rfl ?_
      rw [← e9]
      have r10 : rg y8 := by rw [e9]; exact w32_rg _
      refine v_goto (tgt := 175) dX14_checkTwice_269 (by decide) ?_
      refine v_sub [1, 2, 3, 0] (L1 := [(0, vO 87), (1, vI x1), (2, vI x2), (3, vI y8)]) rfl ?_
      exact hrec y8 s _ h r10 hE
    · rw [if_neg c7] at h
      refine v_aload_n dX14_checkTwice_232 0 rfl rfl ?_
      refine v_aload_n dX14_checkTwice_233 0 rfl rfl ?_
      refine v_getS (f := 41) (t := 115) cf14 oc87 rfl rfl rfl (by decide) q2411 dX14_checkTwice_234 ?_
      refine v_iload_n dX14_checkTwice_237 2 rfl rfl ?_
      obtain ⟨g11, h⟩ := gd_some h
      refine v_iald oc115 rx2 g11.1 g11.2 dX14_checkTwice_238 ?_
      refine v_aload_n dX14_checkTwice_239 0 rfl rfl ?_
      refine v_getS (f := 41) (t := 115) cf14 oc87 rfl rfl rfl (by decide) q2411 dX14_checkTwice_240 ?_
      refine v_iload_n dX14_checkTwice_243 3 rfl rfl ?_
      obtain ⟨g12, h⟩ := gd_some h
      refine v_iald oc115 rx3 g12.1 g12.2 dX14_checkTwice_244 ?_
      obtain ⟨r16, s13, e14, h⟩ := bd_some h
      have k15 := c_X14_compareNumbers e14 (gE_rg _ _ _) (gE_rg _ _ _)
      have r17 : rg r16 := k15.1.2.2
      refine v_callV (st := []) cf14 oc87 k15 (lw_V q3097 q3099 qs204 q311 q3100) rfl yk_X14_compareNumbers ⟨Nat.le_of_ble_eq_true rfl, Nat.le_of_ble_eq_true rfl⟩ trivial ⟨kc87, trivial⟩ (Nat.le_of_ble_eq_true rfl) rfl dX14_checkTwice_245 ?_
      refine v_if_ne (tgt := 266) dX14_checkTwice_248 r17 (by decide) (fun c18 => ?_) (fun c18 => ?_)
      · rw [if_neg c18] at h
        obtain ⟨y19, e20, h⟩ := vl_some h
        refine v_iinc (L1 := [(3, vI (w32 (x3 + 1))), (0, vO 87), (1, vI x1), (2, vI x2)]) dX14_checkTwice_266 3 rfl (by decide) rfl ?_
        rw [← e20]
        have r21 : rg y19 := by rw [e20]; exact w32_rg _
        refine v_goto (tgt := 175) dX14_checkTwice_269 (by decide) ?_
        refine v_sub [1, 2, 3, 0] (L1 := [(0, vO 87), (1, vI x1), (2, vI x2), (3, vI y19)]) rfl ?_
        exact hrec y19 s13 _ h r21 hE
      · rw [if_pos c18] at h
        refine v_aload_n dX14_checkTwice_251 0 rfl rfl ?_
        refine v_aload_n dX14_checkTwice_252 0 rfl rfl ?_
        refine v_getS (f := 17) (t := 95) cf14 oc87 rfl rfl rfl (by decide) q2387 dX14_checkTwice_253 ?_
        refine v_aload_n dX14_checkTwice_256 0 rfl rfl ?_
        refine v_getS (f := 39) (t := 113) cf14 oc87 rfl rfl rfl (by decide) q2409 dX14_checkTwice_257 ?_
        refine v_iload_n dX14_checkTwice_260 2 rfl rfl ?_
        obtain ⟨g22, h⟩ := gd_some h
        refine v_iald oc113 rx2 g22.1 g22.2 dX14_checkTwice_261 ?_
        obtain ⟨g23, h⟩ := gd_some h
        refine v_iald oc95 (gE_rg _ _ _) g23.1 g23.2 dX14_checkTwice_262 ?_
        obtain ⟨s24, e25, h⟩ := bdv_some h
        have k26 := c_X14_first e25 (gE_rg _ _ _)
        refine v_callV (st := []) cf14 oc87 k26 (lw_V q3093 q3095 qs203 q311 q3096) rfl yk_X14_first ⟨Nat.le_of_ble_eq_true rfl, Nat.le_of_ble_eq_true rfl⟩ trivial ⟨kc87, trivial⟩ (Nat.le_of_ble_eq_true rfl) rfl dX14_checkTwice_263 ?_
        obtain ⟨y27, e28, h⟩ := vl_some h
        refine v_iinc (L1 := [(3, vI (w32 (x3 + 1))), (0, vO 87), (1, vI x1), (2, vI x2)]) dX14_checkTwice_266 3 rfl (by decide) rfl ?_
        rw [← e28]
        have r29 : rg y27 := by rw [e28]; exact w32_rg _
        refine v_goto (tgt := 175) dX14_checkTwice_269 (by decide) ?_
        refine v_sub [1, 2, 3, 0] (L1 := [(0, vO 87), (1, vI x1), (2, vI x2), (3, vI y27)]) rfl ?_
        exact hrec y27 s24 _ h r29 hE

def l_X14_checkTwice_175 : Nat → Int → Int → Int → vS → Option (vS)
  | 0, _, _, _, _ => none
  | n + 1, x1, x2, x3, s =>
    if x2 ≤ x3 then
      some s
    else
      gd (inb x2 (gN s 112)) <|
      gd (inb x3 (gN s 112)) <|
      bd (f_X14_sameName (gE s 112 x2) (gE s 112 x3) s) fun r7 s4 =>
      if r7 = 0 then
        j_X14_checkTwice_214 (l_X14_checkTwice_175 n) x1 x2 x3 s4
      else
        gd (inb x2 (gN s4 112)) <|
        gd (inb (gE s4 112 x2) (gN s4 95)) <|
        bdv (f_X14_first (gE s4 95 (gE s4 112 x2)) s4) fun s12 =>
        j_X14_checkTwice_214 (l_X14_checkTwice_175 n) x1 x2 x3 s12
theorem wl_X14_checkTwice_175 {x1 : Int} {x2 : Int} {rv : Option vA} {σo : vS}  (rx1 : rg x1) (rx2 : rg x2) : ∀ (n : Nat) (x3 : Int) (s : vS) (q : vS), l_X14_checkTwice_175 n x1 x2 x3 s = some q → rg x3 → E_X14_checkTwice_175 x1 x2 rv σo q → VW cX14_checkTwice (RX14, rv, σo, none, 4, 98, 4, []) (P0 []) s 175 [(0, vO 87), (1, vI x1), (2, vI x2), (3, vI x3)] [] := by
  intro n
  induction n with
  | zero => intro x3 s q h; cases h
  | succ n ih =>
    intro x3 s q h rx3 hE
    unfold l_X14_checkTwice_175 at h
    refine v_iload_n dX14_checkTwice_175 3 rfl rfl ?_
    refine v_iload_n dX14_checkTwice_176 2 rfl rfl ?_
    refine v_icmp_ge (tgt := 272) dX14_checkTwice_177 rx3 rx2 (by decide) (fun c1 => ?_) (fun c1 => ?_)
    · rw [if_pos c1] at h
      cases h
      refine v_sub [0, 1, 2] (L1 := [(0, vO 87), (1, vI x1), (2, vI x2)]) rfl ?_
      exact hE _ rfl 
    · rw [if_neg c1] at h
      refine v_aload_n dX14_checkTwice_180 0 rfl rfl ?_
      refine v_aload_n dX14_checkTwice_181 0 rfl rfl ?_
      refine v_getS (f := 38) (t := 112) cf14 oc87 rfl rfl rfl (by decide) q2408 dX14_checkTwice_182 ?_
      refine v_iload_n dX14_checkTwice_185 2 rfl rfl ?_
      obtain ⟨g2, h⟩ := gd_some h
      refine v_iald oc112 rx2 g2.1 g2.2 dX14_checkTwice_186 ?_
      refine v_aload_n dX14_checkTwice_187 0 rfl rfl ?_
      refine v_getS (f := 38) (t := 112) cf14 oc87 rfl rfl rfl (by decide) q2408 dX14_checkTwice_188 ?_
      refine v_iload_n dX14_checkTwice_191 3 rfl rfl ?_
      obtain ⟨g3, h⟩ := gd_some h
      refine v_iald oc112 rx3 g3.1 g3.2 dX14_checkTwice_192 ?_
      obtain ⟨r7, s4, e5, h⟩ := bd_some h
      have k6 := c_X14_sameName e5 (gE_rg _ _ _) (gE_rg _ _ _)
      have r8 : rg r7 := k6.1.2.2
      refine v_callV (st := []) cf14 oc87 k6 (lw_V q3089 q3091 qs202 q311 q3092) rfl yk_X14_sameName ⟨Nat.le_of_ble_eq_true rfl, Nat.le_of_ble_eq_true rfl⟩ trivial ⟨kc87, trivial⟩ (Nat.le_of_ble_eq_true rfl) rfl dX14_checkTwice_193 ?_
      refine v_if_eq (tgt := 214) dX14_checkTwice_196 r8 (by decide) (fun c9 => ?_) (fun c9 => ?_)
      · rw [if_pos c9] at h
        exact wj_X14_checkTwice_214 h rx1 rx2 rx3 ih hE
      · rw [if_neg c9] at h
        refine v_aload_n dX14_checkTwice_199 0 rfl rfl ?_
        refine v_aload_n dX14_checkTwice_200 0 rfl rfl ?_
        refine v_getS (f := 17) (t := 95) cf14 oc87 rfl rfl rfl (by decide) q2387 dX14_checkTwice_201 ?_
        refine v_aload_n dX14_checkTwice_204 0 rfl rfl ?_
        refine v_getS (f := 38) (t := 112) cf14 oc87 rfl rfl rfl (by decide) q2408 dX14_checkTwice_205 ?_
        refine v_iload_n dX14_checkTwice_208 2 rfl rfl ?_
        obtain ⟨g10, h⟩ := gd_some h
        refine v_iald oc112 rx2 g10.1 g10.2 dX14_checkTwice_209 ?_
        obtain ⟨g11, h⟩ := gd_some h
        refine v_iald oc95 (gE_rg _ _ _) g11.1 g11.2 dX14_checkTwice_210 ?_
        obtain ⟨s12, e13, h⟩ := bdv_some h
        have k14 := c_X14_first e13 (gE_rg _ _ _)
        refine v_callV (st := []) cf14 oc87 k14 (lw_V q3093 q3095 qs203 q311 q3096) rfl yk_X14_first ⟨Nat.le_of_ble_eq_true rfl, Nat.le_of_ble_eq_true rfl⟩ trivial ⟨kc87, trivial⟩ (Nat.le_of_ble_eq_true rfl) rfl dX14_checkTwice_211 ?_
        exact wj_X14_checkTwice_214 h rx1 rx2 rx3 ih hE

def j_X14_checkTwice_167 (rec : Int → Int → vS → Option (vS)) (x1 : Int) (x2 : Int) (z1 : Int) (z2 : Int) (s : vS) : Option (vS) :=
  gd (inb z1 (gN s 115)) <|
  stp (sE s 115 z1 z2) fun s2 =>
  gd (inb x1 (gN s2 102)) <|
  vl (gE s2 102 x1) fun y5 =>
  lq_0 (l_X14_checkTwice_175 FU x1 x2 y5 s2) fun s8 =>
  vl (w32 (x2 + 1)) fun y10 =>
  rec x1 y10 s8
theorem wj_X14_checkTwice_167 {x1 : Int} {x2 : Int} {z1 : Int} {z2 : Int} {s : vS} {rv : Option vA} {σo : vS} {rec : Int → Int → vS → Option (vS)} {q : vS} (h : j_X14_checkTwice_167 rec x1 x2 z1 z2 s = some q)  (rx1 : rg x1) (rx2 : rg x2) (rz1 : rg z1) (rz2 : rg z2) (hrec : ∀ (y2 : Int) (s : vS) (q : vS), rec x1 y2 s = some q → rg y2 → E_X14_checkTwice_116 x1 rv σo q → VW cX14_checkTwice (RX14, rv, σo, none, 4, 98, 4, []) (P0 []) s 116 [(0, vO 87), (1, vI x1), (2, vI y2)] []) (hE : E_X14_checkTwice_116 x1 rv σo q) : VW cX14_checkTwice (RX14, rv, σo, none, 4, 98, 4, []) (P0 []) s 167 [(0, vO 87), (1, vI x1), (2, vI x2)] [vI z2, vI z1, vO 115] := by
  unfold j_X14_checkTwice_167 at h
  obtain ⟨g1, h⟩ := gd_some h
  obtain ⟨s2, e3, h⟩ := stp_some h
  refine v_iast oc115 rz1 g1.1 g1.2 dX14_checkTwice_167 ?_
  rw [← e3]
  refine v_aload_n dX14_checkTwice_168 0 rfl rfl ?_
  refine v_getS (f := 26) (t := 102) cf14 oc87 rfl rfl rfl (by decide) q2396 dX14_checkTwice_169 ?_
  refine v_iload_n dX14_checkTwice_172 1 rfl rfl ?_
  obtain ⟨g4, h⟩ := gd_some h
  refine v_iald oc102 rx1 g4.1 g4.2 dX14_checkTwice_173 ?_
  obtain ⟨y5, e6, h⟩ := vl_some h
  rw [← e6]
  have r7 : rg y5 := by rw [e6]; exact gE_rg _ _ _
  refine v_istore_n (L1 := [(3, vI y5), (0, vO 87), (1, vI x1), (2, vI x2)]) dX14_checkTwice_174 rfl (by decide) rfl ?_
  refine v_sub [1, 2, 3, 0] (L1 := [(0, vO 87), (1, vI x1), (2, vI x2), (3, vI y5)]) rfl ?_
  obtain ⟨s8, e9, h⟩ := lq_0_some h
  refine wl_X14_checkTwice_175 rx1 rx2 FU y5 s2 _ e9 r7 ?_
  unfold E_X14_checkTwice_175
  intro s8' z_
  cases z_
  obtain ⟨y10, e11, h⟩ := vl_some h
  refine v_iinc (L1 := [(2, vI (w32 (x2 + 1))), (0, vO 87), (1, vI x1)]) dX14_checkTwice_272 2 rfl (by decide) rfl ?_
  rw [← e11]
  have r12 : rg y10 := by rw [e11]; exact w32_rg _
  refine v_goto (tgt := 116) dX14_checkTwice_275 (by decide) ?_
  refine v_sub [1, 2, 0] (L1 := [(0, vO 87), (1, vI x1), (2, vI y10)]) rfl ?_
  exact hrec y10 s8 _ h r12 hE

def l_X14_checkTwice_116 : Nat → Int → Int → vS → Option (vS)
  | 0, _, _, _ => none
  | n + 1, x1, x2, s =>
    gd (inb x1 (gN s 102)) <|
    gd (inb x1 (gN s 103)) <|
    if (w32 ((gE s 102 x1) + (gE s 103 x1))) ≤ x2 then
      some s
    else
      gd (inb x2 (gN s 113)) <|
      if 0 ≤ (gE s 113 x2) then
        gd (inb x2 (gN s 113)) <|
        gd (inb x2 (gN s 114)) <|
        bd (f_X14_numberOf (gE s 113 x2) (gZ s 114 x2) s) fun r11 s8 =>
        gd (gN s8 115 = gN s 115) <|
        j_X14_checkTwice_167 (l_X14_checkTwice_116 n) x1 x2 x2 r11 s8
      else
        j_X14_checkTwice_167 (l_X14_checkTwice_116 n) x1 x2 x2 (-1) s
theorem wl_X14_checkTwice_116 {x1 : Int} {rv : Option vA} {σo : vS}  (rx1 : rg x1) : ∀ (n : Nat) (x2 : Int) (s : vS) (q : vS), l_X14_checkTwice_116 n x1 x2 s = some q → rg x2 → E_X14_checkTwice_116 x1 rv σo q → VW cX14_checkTwice (RX14, rv, σo, none, 4, 98, 4, []) (P0 []) s 116 [(0, vO 87), (1, vI x1), (2, vI x2)] [] := by
  intro n
  induction n with
  | zero => intro x2 s q h; cases h
  | succ n ih =>
    intro x2 s q h rx2 hE
    unfold l_X14_checkTwice_116 at h
    refine v_iload_n dX14_checkTwice_116 2 rfl rfl ?_
    refine v_aload_n dX14_checkTwice_117 0 rfl rfl ?_
    refine v_getS (f := 26) (t := 102) cf14 oc87 rfl rfl rfl (by decide) q2396 dX14_checkTwice_118 ?_
    refine v_iload_n dX14_checkTwice_121 1 rfl rfl ?_
    obtain ⟨g1, h⟩ := gd_some h
    refine v_iald oc102 rx1 g1.1 g1.2 dX14_checkTwice_122 ?_
    refine v_aload_n dX14_checkTwice_123 0 rfl rfl ?_
    refine v_getS (f := 27) (t := 103) cf14 oc87 rfl rfl rfl (by decide) q2397 dX14_checkTwice_124 ?_
    refine v_iload_n dX14_checkTwice_127 1 rfl rfl ?_
    obtain ⟨g2, h⟩ := gd_some h
    refine v_iald oc103 rx1 g2.1 g2.2 dX14_checkTwice_128 ?_
    refine v_iadd dX14_checkTwice_129 ?_
    refine v_icmp_ge (tgt := 278) dX14_checkTwice_130 rx2 (w32_rg _) (by decide) (fun c3 => ?_) (fun c3 => ?_)
    · rw [if_pos c3] at h
      cases h
      refine v_sub [0, 1] (L1 := [(0, vO 87), (1, vI x1)]) rfl ?_
      exact hE _ rfl 
    · rw [if_neg c3] at h
      refine v_aload_n dX14_checkTwice_133 0 rfl rfl ?_
      refine v_getS (f := 41) (t := 115) cf14 oc87 rfl rfl rfl (by decide) q2411 dX14_checkTwice_134 ?_
      refine v_iload_n dX14_checkTwice_137 2 rfl rfl ?_
      refine v_aload_n dX14_checkTwice_138 0 rfl rfl ?_
      refine v_getS (f := 39) (t := 113) cf14 oc87 rfl rfl rfl (by decide) q2409 dX14_checkTwice_139 ?_
      refine v_iload_n dX14_checkTwice_142 2 rfl rfl ?_
      obtain ⟨g4, h⟩ := gd_some h
      refine v_iald oc113 rx2 g4.1 g4.2 dX14_checkTwice_143 ?_
      refine v_if_ge (tgt := 151) dX14_checkTwice_144 (gE_rg _ _ _) (by decide) (fun c5 => ?_) (fun c5 => ?_)
      · rw [if_pos c5] at h
        refine v_aload_n dX14_checkTwice_151 0 rfl rfl ?_
        refine v_aload_n dX14_checkTwice_152 0 rfl rfl ?_
        refine v_getS (f := 39) (t := 113) cf14 oc87 rfl rfl rfl (by decide) q2409 dX14_checkTwice_153 ?_
        refine v_iload_n dX14_checkTwice_156 2 rfl rfl ?_
        obtain ⟨g6, h⟩ := gd_some h
        refine v_iald oc113 rx2 g6.1 g6.2 dX14_checkTwice_157 ?_
        refine v_aload_n dX14_checkTwice_158 0 rfl rfl ?_
        refine v_getS (f := 40) (t := 114) cf14 oc87 rfl rfl rfl (by decide) q2410 dX14_checkTwice_159 ?_
        refine v_iload_n dX14_checkTwice_162 2 rfl rfl ?_
        obtain ⟨g7, h⟩ := gd_some h
        refine v_zald oc114 rx2 g7.1 g7.2 dX14_checkTwice_163 ?_
        obtain ⟨r11, s8, e9, h⟩ := bd_some h
        have k10 := c_X14_numberOf e9 (gE_rg _ _ _) (gZ_rg _ _ _)
        have r12 : rg r11 := k10.1.2.2
        obtain ⟨g13, h⟩ := gd_some h
        refine v_callV (st := [vI x2, vO 115]) cf14 oc87 k10 (lw_V q2996 q2998 qs180 q311 q2999) rfl yk_X14_numberOf ⟨Nat.le_of_ble_eq_true rfl, Nat.le_of_ble_eq_true rfl⟩ ⟨(kp_arr (by decide) g13), trivial⟩ ⟨kc87, trivial⟩ (Nat.le_of_ble_eq_true rfl) rfl dX14_checkTwice_164 ?_
        exact wj_X14_checkTwice_167 h rx1 rx2 rx2 r12 ih hE
      · rw [if_neg c5] at h
        refine v_iconst dX14_checkTwice_147 ?_
        refine v_goto (tgt := 167) dX14_checkTwice_148 (by decide) ?_
        exact wj_X14_checkTwice_167 h rx1 rx2 rx2 (rgl rfl) ih hE

def E_X14_checkTwice_285 (x1 : Int) (rv : Option vA) (σo : vS) (q : vS) : Prop := ∀ (s' : vS), q = s' → VW cX14_checkTwice (RX14, rv, σo, none, 4, 98, 4, []) (P0 []) s' 355 [(0, vO 87), (1, vI x1)] []
def E_X14_checkTwice_296 (x1 : Int) (x2 : Int) (rv : Option vA) (σo : vS) (q : vS) : Prop := ∀ (s' : vS), q = s' → VW cX14_checkTwice (RX14, rv, σo, none, 4, 98, 4, []) (P0 []) s' 345 [(0, vO 87), (1, vI x1), (2, vI x2)] []
def l_X14_checkTwice_296 : Nat → Int → Int → Int → vS → Option (vS)
  | 0, _, _, _, _ => none
  | n + 1, x1, x2, x3, s =>
    if x3 = x2 then
      some s
    else
      gd (inb x2 (gN s 116)) <|
      gd (inb x3 (gN s 116)) <|
      bd (f_X14_sameName (gE s 116 x2) (gE s 116 x3) s) fun r7 s4 =>
      if r7 = 0 then
        gd (inb x3 (gN s4 120)) <|
        vl (gE s4 120 x3) fun y11 =>
        l_X14_checkTwice_296 n x1 x2 y11 s4
      else
        gd (inb x2 (gN s4 116)) <|
        gd (inb (gE s4 116 x2) (gN s4 95)) <|
        bdv (f_X14_first (gE s4 95 (gE s4 116 x2)) s4) fun s16 =>
        gd (inb x3 (gN s16 120)) <|
        vl (gE s16 120 x3) fun y20 =>
        l_X14_checkTwice_296 n x1 x2 y20 s16
theorem wl_X14_checkTwice_296 {x1 : Int} {x2 : Int} {rv : Option vA} {σo : vS}  (rx1 : rg x1) (rx2 : rg x2) : ∀ (n : Nat) (x3 : Int) (s : vS) (q : vS), l_X14_checkTwice_296 n x1 x2 x3 s = some q → rg x3 → E_X14_checkTwice_296 x1 x2 rv σo q → VW cX14_checkTwice (RX14, rv, σo, none, 4, 98, 4, []) (P0 []) s 296 [(0, vO 87), (1, vI x1), (2, vI x2), (3, vI x3)] [] := by
  intro n
  induction n with
  | zero => intro x3 s q h; cases h
  | succ n ih =>
    intro x3 s q h rx3 hE
    unfold l_X14_checkTwice_296 at h
    refine v_iload_n dX14_checkTwice_296 3 rfl rfl ?_
    refine v_iload_n dX14_checkTwice_297 2 rfl rfl ?_
    refine v_icmp_eq (tgt := 345) dX14_checkTwice_298 rx3 rx2 (by decide) (fun c1 => ?_) (fun c1 => ?_)
    · rw [if_pos c1] at h
      cases h
      refine v_sub [0, 1, 2] (L1 := [(0, vO 87), (1, vI x1), (2, vI x2)]) rfl ?_
      exact hE _ rfl 
    · rw [if_neg c1] at h
      refine v_aload_n dX14_checkTwice_301 0 rfl rfl ?_
      refine v_aload_n dX14_checkTwice_302 0 rfl rfl ?_
      refine v_getS (f := 43) (t := 116) cf14 oc87 rfl rfl rfl (by decide) q2413 dX14_checkTwice_303 ?_
      refine v_iload_n dX14_checkTwice_306 2 rfl rfl ?_
      obtain ⟨g2, h⟩ := gd_some h
      refine v_iald oc116 rx2 g2.1 g2.2 dX14_checkTwice_307 ?_
      refine v_aload_n dX14_checkTwice_308 0 rfl rfl ?_
      refine v_getS (f := 43) (t := 116) cf14 oc87 rfl rfl rfl (by decide) q2413 dX14_checkTwice_309 ?_
      refine v_iload_n dX14_checkTwice_312 3 rfl rfl ?_
      obtain ⟨g3, h⟩ := gd_some h
      refine v_iald oc116 rx3 g3.1 g3.2 dX14_checkTwice_313 ?_
      obtain ⟨r7, s4, e5, h⟩ := bd_some h
      have k6 := c_X14_sameName e5 (gE_rg _ _ _) (gE_rg _ _ _)
      have r8 : rg r7 := k6.1.2.2
      refine v_callV (st := []) cf14 oc87 k6 (lw_V q3089 q3091 qs202 q311 q3092) rfl yk_X14_sameName ⟨Nat.le_of_ble_eq_true rfl, Nat.le_of_ble_eq_true rfl⟩ trivial ⟨kc87, trivial⟩ (Nat.le_of_ble_eq_true rfl) rfl dX14_checkTwice_314 ?_
      refine v_if_eq (tgt := 335) dX14_checkTwice_317 r8 (by decide) (fun c9 => ?_) (fun c9 => ?_)
      · rw [if_pos c9] at h
        refine v_aload_n dX14_checkTwice_335 0 rfl rfl ?_
        refine v_getS (f := 47) (t := 120) cf14 oc87 rfl rfl rfl (by decide) q2417 dX14_checkTwice_336 ?_
        refine v_iload_n dX14_checkTwice_339 3 rfl rfl ?_
        obtain ⟨g10, h⟩ := gd_some h
        refine v_iald oc120 rx3 g10.1 g10.2 dX14_checkTwice_340 ?_
        obtain ⟨y11, e12, h⟩ := vl_some h
        rw [← e12]
        have r13 : rg y11 := by rw [e12]; exact gE_rg _ _ _
        refine v_istore_n (L1 := [(3, vI y11), (0, vO 87), (1, vI x1), (2, vI x2)]) dX14_checkTwice_341 rfl (by decide) rfl ?_
        refine v_goto (tgt := 296) dX14_checkTwice_342 (by decide) ?_
        refine v_sub [1, 2, 3, 0] (L1 := [(0, vO 87), (1, vI x1), (2, vI x2), (3, vI y11)]) rfl ?_
        exact ih y11 s4 _ h r13 hE
      · rw [if_neg c9] at h
        refine v_aload_n dX14_checkTwice_320 0 rfl rfl ?_
        refine v_aload_n dX14_checkTwice_321 0 rfl rfl ?_
        refine v_getS (f := 17) (t := 95) cf14 oc87 rfl rfl rfl (by decide) q2387 dX14_checkTwice_322 ?_
        refine v_aload_n dX14_checkTwice_325 0 rfl rfl ?_
        refine v_getS (f := 43) (t := 116) cf14 oc87 rfl rfl rfl (by decide) q2413 dX14_checkTwice_326 ?_
        refine v_iload_n dX14_checkTwice_329 2 rfl rfl ?_
        obtain ⟨g14, h⟩ := gd_some h
        refine v_iald oc116 rx2 g14.1 g14.2 dX14_checkTwice_330 ?_
        obtain ⟨g15, h⟩ := gd_some h
        refine v_iald oc95 (gE_rg _ _ _) g15.1 g15.2 dX14_checkTwice_331 ?_
        obtain ⟨s16, e17, h⟩ := bdv_some h
        have k18 := c_X14_first e17 (gE_rg _ _ _)
        refine v_callV (st := []) cf14 oc87 k18 (lw_V q3093 q3095 qs203 q311 q3096) rfl yk_X14_first ⟨Nat.le_of_ble_eq_true rfl, Nat.le_of_ble_eq_true rfl⟩ trivial ⟨kc87, trivial⟩ (Nat.le_of_ble_eq_true rfl) rfl dX14_checkTwice_332 ?_
        refine v_aload_n dX14_checkTwice_335 0 rfl rfl ?_
        refine v_getS (f := 47) (t := 120) cf14 oc87 rfl rfl rfl (by decide) q2417 dX14_checkTwice_336 ?_
        refine v_iload_n dX14_checkTwice_339 3 rfl rfl ?_
        obtain ⟨g19, h⟩ := gd_some h
        refine v_iald oc120 rx3 g19.1 g19.2 dX14_checkTwice_340 ?_
        obtain ⟨y20, e21, h⟩ := vl_some h
        rw [← e21]
        have r22 : rg y20 := by rw [e21]; exact gE_rg _ _ _
        refine v_istore_n (L1 := [(3, vI y20), (0, vO 87), (1, vI x1), (2, vI x2)]) dX14_checkTwice_341 rfl (by decide) rfl ?_
        refine v_goto (tgt := 296) dX14_checkTwice_342 (by decide) ?_
        refine v_sub [1, 2, 3, 0] (L1 := [(0, vO 87), (1, vI x1), (2, vI x2), (3, vI y20)]) rfl ?_
        exact ih y20 s16 _ h r22 hE

def l_X14_checkTwice_285 : Nat → Int → Int → vS → Option (vS)
  | 0, _, _, _ => none
  | n + 1, x1, x2, s =>
    if x2 < 0 then
      some s
    else
      gd (inb x1 (gN s 104)) <|
      vl (gE s 104 x1) fun y3 =>
      lq_0 (l_X14_checkTwice_296 FU x1 x2 y3 s) fun s6 =>
      gd (inb x2 (gN s6 120)) <|
      vl (gE s6 120 x2) fun y9 =>
      l_X14_checkTwice_285 n x1 y9 s6
theorem wl_X14_checkTwice_285 {x1 : Int} {rv : Option vA} {σo : vS}  (rx1 : rg x1) : ∀ (n : Nat) (x2 : Int) (s : vS) (q : vS), l_X14_checkTwice_285 n x1 x2 s = some q → rg x2 → E_X14_checkTwice_285 x1 rv σo q → VW cX14_checkTwice (RX14, rv, σo, none, 4, 98, 4, []) (P0 []) s 285 [(0, vO 87), (1, vI x1), (2, vI x2)] [] := by
  intro n
  induction n with
  | zero => intro x2 s q h; cases h
  | succ n ih =>
    intro x2 s q h rx2 hE
    unfold l_X14_checkTwice_285 at h
    refine v_iload_n dX14_checkTwice_285 2 rfl rfl ?_
    refine v_if_lt (tgt := 355) dX14_checkTwice_286 rx2 (by decide) (fun c1 => ?_) (fun c1 => ?_)
    · rw [if_pos c1] at h
      cases h
      refine v_sub [0, 1] (L1 := [(0, vO 87), (1, vI x1)]) rfl ?_
      exact hE _ rfl 
    · rw [if_neg c1] at h
      refine v_aload_n dX14_checkTwice_289 0 rfl rfl ?_
      refine v_getS (f := 28) (t := 104) cf14 oc87 rfl rfl rfl (by decide) q2398 dX14_checkTwice_290 ?_
      refine v_iload_n dX14_checkTwice_293 1 rfl rfl ?_
      obtain ⟨g2, h⟩ := gd_some h
      refine v_iald oc104 rx1 g2.1 g2.2 dX14_checkTwice_294 ?_
      obtain ⟨y3, e4, h⟩ := vl_some h
      rw [← e4]
      have r5 : rg y3 := by rw [e4]; exact gE_rg _ _ _
      refine v_istore_n (L1 := [(3, vI y3), (0, vO 87), (1, vI x1), (2, vI x2)]) dX14_checkTwice_295 rfl (by decide) rfl ?_
      refine v_sub [1, 2, 3, 0] (L1 := [(0, vO 87), (1, vI x1), (2, vI x2), (3, vI y3)]) rfl ?_
      obtain ⟨s6, e7, h⟩ := lq_0_some h
      refine wl_X14_checkTwice_296 rx1 rx2 FU y3 s _ e7 r5 ?_
      unfold E_X14_checkTwice_296
      intro s6' z_
      cases z_
      refine v_aload_n dX14_checkTwice_345 0 rfl rfl ?_
      refine v_getS (f := 47) (t := 120) cf14 oc87 rfl rfl rfl (by decide) q2417 dX14_checkTwice_346 ?_
      refine v_iload_n dX14_checkTwice_349 2 rfl rfl ?_
      obtain ⟨g8, h⟩ := gd_some h
      refine v_iald oc120 rx2 g8.1 g8.2 dX14_checkTwice_350 ?_
      obtain ⟨y9, e10, h⟩ := vl_some h
      rw [← e10]
      have r11 : rg y9 := by rw [e10]; exact gE_rg _ _ _
      refine v_istore_n (L1 := [(2, vI y9), (0, vO 87), (1, vI x1)]) dX14_checkTwice_351 rfl (by decide) rfl ?_
      refine v_goto (tgt := 285) dX14_checkTwice_352 (by decide) ?_
      refine v_sub [1, 2, 0] (L1 := [(0, vO 87), (1, vI x1), (2, vI y9)]) rfl ?_
      exact ih y9 s6 _ h r11 hE

def l_X14_checkTwice_101 : Nat → Int → vS → Option (vS)
  | 0, _, _ => none
  | n + 1, x1, s =>
    if (gI s 87 20) ≤ x1 then
      some s
    else
      gd (inb x1 (gN s 102)) <|
      vl (gE s 102 x1) fun y3 =>
      lq_0 (l_X14_checkTwice_116 FU x1 y3 s) fun s6 =>
      gd (inb x1 (gN s6 104)) <|
      vl (gE s6 104 x1) fun y9 =>
      lq_0 (l_X14_checkTwice_285 FU x1 y9 s6) fun s12 =>
      vl (w32 (x1 + 1)) fun y14 =>
      l_X14_checkTwice_101 n y14 s12
theorem wl_X14_checkTwice_101 {rv : Option vA} {σo : vS}  : ∀ (n : Nat) (x1 : Int) (s : vS) (q : vS), l_X14_checkTwice_101 n x1 s = some q → rg x1 → E_X14_checkTwice_101 rv σo q → VW cX14_checkTwice (RX14, rv, σo, none, 4, 98, 4, []) (P0 []) s 101 [(0, vO 87), (1, vI x1)] [] := by
  intro n
  induction n with
  | zero => intro x1 s q h; cases h
  | succ n ih =>
    intro x1 s q h rx1 hE
    unfold l_X14_checkTwice_101 at h
    refine v_iload_n dX14_checkTwice_101 1 rfl rfl ?_
    refine v_aload_n dX14_checkTwice_102 0 rfl rfl ?_
    refine v_getI (f := 20) cf14 oc87 rfl (by decide) q2390 dX14_checkTwice_103 ?_
    refine v_icmp_ge (tgt := 361) dX14_checkTwice_106 rx1 (gI_rg _ _ _) (by decide) (fun c1 => ?_) (fun c1 => ?_)
    · rw [if_pos c1] at h
      cases h
      refine v_sub [0] (L1 := [(0, vO 87)]) rfl ?_
      exact hE _ rfl 
    · rw [if_neg c1] at h
      refine v_aload_n dX14_checkTwice_109 0 rfl rfl ?_
      refine v_getS (f := 26) (t := 102) cf14 oc87 rfl rfl rfl (by decide) q2396 dX14_checkTwice_110 ?_
      refine v_iload_n dX14_checkTwice_113 1 rfl rfl ?_
      obtain ⟨g2, h⟩ := gd_some h
      refine v_iald oc102 rx1 g2.1 g2.2 dX14_checkTwice_114 ?_
      obtain ⟨y3, e4, h⟩ := vl_some h
      rw [← e4]
      have r5 : rg y3 := by rw [e4]; exact gE_rg _ _ _
      refine v_istore_n (L1 := [(2, vI y3), (0, vO 87), (1, vI x1)]) dX14_checkTwice_115 rfl (by decide) rfl ?_
      refine v_sub [1, 2, 0] (L1 := [(0, vO 87), (1, vI x1), (2, vI y3)]) rfl ?_
      obtain ⟨s6, e7, h⟩ := lq_0_some h
      refine wl_X14_checkTwice_116 rx1 FU y3 s _ e7 r5 ?_
      unfold E_X14_checkTwice_116
      intro s6' z_
      cases z_
      refine v_aload_n dX14_checkTwice_278 0 rfl rfl ?_
      refine v_getS (f := 28) (t := 104) cf14 oc87 rfl rfl rfl (by decide) q2398 dX14_checkTwice_279 ?_
      refine v_iload_n dX14_checkTwice_282 1 rfl rfl ?_
      obtain ⟨g8, h⟩ := gd_some h
      refine v_iald oc104 rx1 g8.1 g8.2 dX14_checkTwice_283 ?_
      obtain ⟨y9, e10, h⟩ := vl_some h
      rw [← e10]
      have r11 : rg y9 := by rw [e10]; exact gE_rg _ _ _
      refine v_istore_n (L1 := [(2, vI y9), (0, vO 87), (1, vI x1)]) dX14_checkTwice_284 rfl (by decide) rfl ?_
      refine v_sub [1, 2, 0] (L1 := [(0, vO 87), (1, vI x1), (2, vI y9)]) rfl ?_
      obtain ⟨s12, e13, h⟩ := lq_0_some h
      refine wl_X14_checkTwice_285 rx1 FU y9 s6 _ e13 r11 ?_
      unfold E_X14_checkTwice_285
      intro s12' z_
      cases z_
      obtain ⟨y14, e15, h⟩ := vl_some h
      refine v_iinc (L1 := [(1, vI (w32 (x1 + 1))), (0, vO 87)]) dX14_checkTwice_355 1 rfl (by decide) rfl ?_
      rw [← e15]
      have r16 : rg y14 := by rw [e15]; exact w32_rg _
      refine v_goto (tgt := 101) dX14_checkTwice_358 (by decide) ?_
      refine v_sub [1, 0] (L1 := [(0, vO 87), (1, vI y14)]) rfl ?_
      exact ih y14 s12 _ h r16 hE

def f_X14_checkTwice (s : vS) : Option (vS) :=
  lq_0 (l_X14_checkTwice_2 FU 0 s) fun s1 =>
  lq_0 (l_X14_checkTwice_24 FU 0 s1) fun s3 =>
  lq_0 (l_X14_checkTwice_101 FU 0 s3) fun s5 =>
  bdv (f_X14_told 5 s5) fun s7 =>
  some s7
theorem yk_X14_checkTwice : yOk yX14_checkTwice 0 := ⟨by decide, by decide, by decide +kernel⟩
theorem c_X14_checkTwice {s : vS} {out : vS} (h : f_X14_checkTwice s = some out)   : VC yX14_checkTwice cX14_checkTwice 4 none 4 98 [vO 87] s none out [] := by
  unfold f_X14_checkTwice at h
  refine VC.of RX14 (by decide) rfl (Nat.le_of_ble_eq_true rfl) ?_
  show VW cX14_checkTwice (RX14, none, out, none, 4, 98, 4, []) (P0 []) s 0 [(0, vO 87)] []
  refine v_iconst dX14_checkTwice_0 ?_
  refine v_istore_n (L1 := [(1, vI 0), (0, vO 87)]) dX14_checkTwice_1 rfl (by decide) rfl ?_
  refine v_sub [1, 0] (L1 := [(0, vO 87), (1, vI 0)]) rfl ?_
  obtain ⟨s1, e2, h⟩ := lq_0_some h
  refine wl_X14_checkTwice_2  FU 0 s _ e2 (rgl rfl) ?_
  unfold E_X14_checkTwice_2
  intro s1' z_
  cases z_
  refine v_iconst dX14_checkTwice_22 ?_
  refine v_istore_n (L1 := [(1, vI 0), (0, vO 87)]) dX14_checkTwice_23 rfl (by decide) rfl ?_
  refine v_sub [1, 0] (L1 := [(0, vO 87), (1, vI 0)]) rfl ?_
  obtain ⟨s3, e4, h⟩ := lq_0_some h
  refine wl_X14_checkTwice_24  FU 0 s1 _ e4 (rgl rfl) ?_
  unfold E_X14_checkTwice_24
  intro s3' z_
  cases z_
  refine v_iconst dX14_checkTwice_99 ?_
  refine v_istore_n (L1 := [(1, vI 0), (0, vO 87)]) dX14_checkTwice_100 rfl (by decide) rfl ?_
  refine v_sub [1, 0] (L1 := [(0, vO 87), (1, vI 0)]) rfl ?_
  obtain ⟨s5, e6, h⟩ := lq_0_some h
  refine wl_X14_checkTwice_101  FU 0 s3 _ e6 (rgl rfl) ?_
  unfold E_X14_checkTwice_101
  intro s5' z_
  cases z_
  refine v_aload_n dX14_checkTwice_361 0 rfl rfl ?_
  refine v_iconst dX14_checkTwice_362 ?_
  obtain ⟨s7, e8, h⟩ := bdv_some h
  have k9 := c_X14_told e8 (rgl rfl)
  refine v_callV (st := []) cf14 oc87 k9 (lw_V q3101 q3103 qs205 q311 q3104) rfl yk_X14_told ⟨Nat.le_of_ble_eq_true rfl, Nat.le_of_ble_eq_true rfl⟩ trivial ⟨kc87, trivial⟩ (Nat.le_of_ble_eq_true rfl) rfl dX14_checkTwice_363 ?_
  cases h
  exact v_vret dX14_checkTwice_366

def E_X14_hasNumber_10 (rv : Option vA) (σo : vS) (q : Int × vS) : Prop := ∀ (x3' : Int) (s' : vS), q = (x3', s') → rg x3' → VW cX14_hasNumber (RX14, rv, σo, (some .boolean), 1, 25, 5, []) (P0 []) s' 69 [(3, vI x3')] []
def l_X14_hasNumber_10 : Nat → Int → Int → Int → Int → vS → Option (Int × vS)
  | 0, _, _, _, _, _ => none
  | n + 1, x1, x2, x3, x4, s =>
    gd (inb x1 (gN s 102)) <|
    gd (inb x1 (gN s 103)) <|
    if (w32 ((gE s 102 x1) + (gE s 103 x1))) ≤ x4 then
      some (x3, s)
    else
      if x3 = 0 then
        gd (inb x4 (gN s 115)) <|
        if (gE s 115 x4) < 0 then
          vl (w32 (x4 + 1)) fun y10 =>
          l_X14_hasNumber_10 n x1 x2 0 y10 s
        else
          gd (inb x4 (gN s 115)) <|
          bd (f_X14_compareNumbers (gE s 115 x4) x2 s) fun r17 s14 =>
          if r17 = 0 then
            vl (w32 (x4 + 1)) fun y23 =>
            l_X14_hasNumber_10 n x1 x2 1 y23 s14
          else
            vl (w32 (x4 + 1)) fun y20 =>
            l_X14_hasNumber_10 n x1 x2 0 y20 s14
      else
        vl (w32 (x4 + 1)) fun y5 =>
        l_X14_hasNumber_10 n x1 x2 1 y5 s
theorem wl_X14_hasNumber_10 {x1 : Int} {x2 : Int} {rv : Option vA} {σo : vS}  (rx1 : rg x1) (rx2 : rg x2) : ∀ (n : Nat) (x3 : Int) (x4 : Int) (s : vS) (q : Int × vS), l_X14_hasNumber_10 n x1 x2 x3 x4 s = some q → rg x3 → rg x4 → E_X14_hasNumber_10 rv σo q → VW cX14_hasNumber (RX14, rv, σo, (some .boolean), 1, 25, 5, []) (P0 []) s 10 [(0, vO 87), (1, vI x1), (2, vI x2), (3, vI x3), (4, vI x4)] [] := by
  intro n
  induction n with
  | zero => intro x3 x4 s q h; cases h
  | succ n ih =>
    intro x3 x4 s q h rx3 rx4 hE
    unfold l_X14_hasNumber_10 at h
    refine v_iload dX14_hasNumber_10 4 rfl ?_
    refine v_aload_n dX14_hasNumber_12 0 rfl rfl ?_
    refine v_getS (f := 26) (t := 102) cf14 oc87 rfl rfl rfl (by decide) q2396 dX14_hasNumber_13 ?_
    refine v_iload_n dX14_hasNumber_16 1 rfl rfl ?_
    obtain ⟨g1, h⟩ := gd_some h
    refine v_iald oc102 rx1 g1.1 g1.2 dX14_hasNumber_17 ?_
    refine v_aload_n dX14_hasNumber_18 0 rfl rfl ?_
    refine v_getS (f := 27) (t := 103) cf14 oc87 rfl rfl rfl (by decide) q2397 dX14_hasNumber_19 ?_
    refine v_iload_n dX14_hasNumber_22 1 rfl rfl ?_
    obtain ⟨g2, h⟩ := gd_some h
    refine v_iald oc103 rx1 g2.1 g2.2 dX14_hasNumber_23 ?_
    refine v_iadd dX14_hasNumber_24 ?_
    refine v_icmp_ge (tgt := 69) dX14_hasNumber_25 rx4 (w32_rg _) (by decide) (fun c3 => ?_) (fun c3 => ?_)
    · rw [if_pos c3] at h
      cases h
      refine v_sub [3] (L1 := [(3, vI x3)]) rfl ?_
      exact hE _ _ rfl rx3
    · rw [if_neg c3] at h
      refine v_iload_n dX14_hasNumber_28 3 rfl rfl ?_
      refine v_if_ne (tgt := 57) dX14_hasNumber_29 rx3 (by decide) (fun c4 => ?_) (fun c4 => ?_)
      · rw [if_neg c4] at h
        refine v_iconst dX14_hasNumber_57 ?_
        refine v_goto (tgt := 62) dX14_hasNumber_58 (by decide) ?_
        refine v_istore_n (L1 := [(3, vI 1), (0, vO 87), (1, vI x1), (2, vI x2), (4, vI x4)]) dX14_hasNumber_62 rfl (by decide) rfl ?_
        obtain ⟨y5, e6, h⟩ := vl_some h
        refine v_iinc (L1 := [(4, vI (w32 (x4 + 1))), (3, vI 1), (0, vO 87), (1, vI x1), (2, vI x2)]) dX14_hasNumber_63 4 rfl (by decide) rfl ?_
        rw [← e6]
        have r7 : rg y5 := by rw [e6]; exact w32_rg _
        refine v_goto (tgt := 10) dX14_hasNumber_66 (by decide) ?_
        refine v_sub [2, 3, 4, 1, 0] (L1 := [(0, vO 87), (1, vI x1), (2, vI x2), (3, vI 1), (4, vI y5)]) rfl ?_
        exact ih 1 y5 s _ h (rgl rfl) r7 hE
      · rw [if_pos c4] at h
        refine v_aload_n dX14_hasNumber_32 0 rfl rfl ?_
        refine v_getS (f := 41) (t := 115) cf14 oc87 rfl rfl rfl (by decide) q2411 dX14_hasNumber_33 ?_
        refine v_iload dX14_hasNumber_36 4 rfl ?_
        obtain ⟨g8, h⟩ := gd_some h
        refine v_iald oc115 rx4 g8.1 g8.2 dX14_hasNumber_38 ?_
        refine v_if_lt (tgt := 61) dX14_hasNumber_39 (gE_rg _ _ _) (by decide) (fun c9 => ?_) (fun c9 => ?_)
        · rw [if_pos c9] at h
          refine v_iconst dX14_hasNumber_61 ?_
          refine v_istore_n (L1 := [(3, vI 0), (0, vO 87), (1, vI x1), (2, vI x2), (4, vI x4)]) dX14_hasNumber_62 rfl (by decide) rfl ?_
          obtain ⟨y10, e11, h⟩ := vl_some h
          refine v_iinc (L1 := [(4, vI (w32 (x4 + 1))), (3, vI 0), (0, vO 87), (1, vI x1), (2, vI x2)]) dX14_hasNumber_63 4 rfl (by decide) rfl ?_
          rw [← e11]
          have r12 : rg y10 := by rw [e11]; exact w32_rg _
          refine v_goto (tgt := 10) dX14_hasNumber_66 (by decide) ?_
          refine v_sub [2, 3, 4, 1, 0] (L1 := [(0, vO 87), (1, vI x1), (2, vI x2), (3, vI 0), (4, vI y10)]) rfl ?_
          exact ih 0 y10 s _ h (rgl rfl) r12 hE
        · rw [if_neg c9] at h
          refine v_aload_n dX14_hasNumber_42 0 rfl rfl ?_
          refine v_aload_n dX14_hasNumber_43 0 rfl rfl ?_
          refine v_getS (f := 41) (t := 115) cf14 oc87 rfl rfl rfl (by decide) q2411 dX14_hasNumber_44 ?_
          refine v_iload dX14_hasNumber_47 4 rfl ?_
          obtain ⟨g13, h⟩ := gd_some h
          refine v_iald oc115 rx4 g13.1 g13.2 dX14_hasNumber_49 ?_
          refine v_iload_n dX14_hasNumber_50 2 rfl rfl ?_
          obtain ⟨r17, s14, e15, h⟩ := bd_some h
          have k16 := c_X14_compareNumbers e15 (gE_rg _ _ _) rx2
          have r18 : rg r17 := k16.1.2.2
          refine v_callV (st := []) cf14 oc87 k16 (lw_V q3097 q3099 qs204 q311 q3100) rfl yk_X14_compareNumbers ⟨Nat.le_of_ble_eq_true rfl, Nat.le_of_ble_eq_true rfl⟩ trivial ⟨kc87, trivial⟩ (Nat.le_of_ble_eq_true rfl) rfl dX14_hasNumber_51 ?_
          refine v_if_ne (tgt := 61) dX14_hasNumber_54 r18 (by decide) (fun c19 => ?_) (fun c19 => ?_)
          · rw [if_neg c19] at h
            refine v_iconst dX14_hasNumber_61 ?_
            refine v_istore_n (L1 := [(3, vI 0), (0, vO 87), (1, vI x1), (2, vI x2), (4, vI x4)]) dX14_hasNumber_62 rfl (by decide) rfl ?_
            obtain ⟨y20, e21, h⟩ := vl_some h
            refine v_iinc (L1 := [(4, vI (w32 (x4 + 1))), (3, vI 0), (0, vO 87), (1, vI x1), (2, vI x2)]) dX14_hasNumber_63 4 rfl (by decide) rfl ?_
            rw [← e21]
            have r22 : rg y20 := by rw [e21]; exact w32_rg _
            refine v_goto (tgt := 10) dX14_hasNumber_66 (by decide) ?_
            refine v_sub [2, 3, 4, 1, 0] (L1 := [(0, vO 87), (1, vI x1), (2, vI x2), (3, vI 0), (4, vI y20)]) rfl ?_
            exact ih 0 y20 s14 _ h (rgl rfl) r22 hE
          · rw [if_pos c19] at h
            refine v_iconst dX14_hasNumber_57 ?_
            refine v_goto (tgt := 62) dX14_hasNumber_58 (by decide) ?_
            refine v_istore_n (L1 := [(3, vI 1), (0, vO 87), (1, vI x1), (2, vI x2), (4, vI x4)]) dX14_hasNumber_62 rfl (by decide) rfl ?_
            obtain ⟨y23, e24, h⟩ := vl_some h
            refine v_iinc (L1 := [(4, vI (w32 (x4 + 1))), (3, vI 1), (0, vO 87), (1, vI x1), (2, vI x2)]) dX14_hasNumber_63 4 rfl (by decide) rfl ?_
            rw [← e24]
            have r25 : rg y23 := by rw [e24]; exact w32_rg _
            refine v_goto (tgt := 10) dX14_hasNumber_66 (by decide) ?_
            refine v_sub [2, 3, 4, 1, 0] (L1 := [(0, vO 87), (1, vI x1), (2, vI x2), (3, vI 1), (4, vI y23)]) rfl ?_
            exact ih 1 y23 s14 _ h (rgl rfl) r25 hE

def f_X14_hasNumber (x1 : Int) (x2 : Int) (s : vS) : Option (Int × vS) :=
  gd (inb x1 (gN s 102)) <|
  vl (gE s 102 x1) fun y2 =>
  lq_1 (l_X14_hasNumber_10 FU x1 x2 0 y2 s) fun y5 s6 =>
  gd (y5 = 0 ∨ y5 = 1) <|
  some (y5, s6)
theorem yk_X14_hasNumber : yOk yX14_hasNumber 2 := ⟨by decide, by decide, by decide +kernel⟩
theorem c_X14_hasNumber {x1 : Int} {x2 : Int} {s : vS} {out : Int × vS} (h : f_X14_hasNumber x1 x2 s = some out)  (rx1 : rg x1) (rx2 : rg x2) : VC yX14_hasNumber cX14_hasNumber 5 (some .boolean) 1 25 [vO 87, vI x1, vI x2] s (some (vI out.1)) out.2 [] := by
  unfold f_X14_hasNumber at h
  refine VC.of RX14 (by decide) rfl (Nat.le_of_ble_eq_true rfl) ?_
  show VW cX14_hasNumber (RX14, (some (vI out.1)), out.2, (some .boolean), 1, 25, 5, []) (P0 []) s 0 [(0, vO 87), (1, vI x1), (2, vI x2)] []
  refine v_iconst dX14_hasNumber_0 ?_
  refine v_istore_n (L1 := [(3, vI 0), (0, vO 87), (1, vI x1), (2, vI x2)]) dX14_hasNumber_1 rfl (by decide) rfl ?_
  refine v_aload_n dX14_hasNumber_2 1 rfl rfl ?_
  refine v_getS (f := 26) (t := 102) cf14 oc87 rfl rfl rfl (by decide) q2396 dX14_hasNumber_3 ?_
  refine v_iload_n dX14_hasNumber_6 2 rfl rfl ?_
  obtain ⟨g1, h⟩ := gd_some h
  refine v_iald oc102 rx1 g1.1 g1.2 dX14_hasNumber_7 ?_
  obtain ⟨y2, e3, h⟩ := vl_some h
  rw [← e3]
  have r4 : rg y2 := by rw [e3]; exact gE_rg _ _ _
  refine v_istore (L1 := [(4, vI y2), (3, vI 0), (0, vO 87), (1, vI x1), (2, vI x2)]) dX14_hasNumber_8 (by decide) rfl ?_
  refine v_sub [2, 3, 4, 1, 0] (L1 := [(0, vO 87), (1, vI x1), (2, vI x2), (3, vI 0), (4, vI y2)]) rfl ?_
  obtain ⟨y5, s6, e7, h⟩ := lq_1_some h
  refine wl_X14_hasNumber_10 rx1 rx2 FU 0 y2 s _ e7 (rgl rfl) r4 ?_
  unfold E_X14_hasNumber_10
  intro y5' s6' z_ r8
  cases z_
  refine v_iload_n dX14_hasNumber_69 0 rfl rfl ?_
  obtain ⟨g9, h⟩ := gd_some h
  cases h
  exact v_zret g9 dX14_hasNumber_70

def E_X14_countItems_2 (rv : Option vA) (σo : vS) (q : vS) : Prop := ∀ (s' : vS), q = s' → VW cX14_countItems (RX14, rv, σo, none, 3, 71, 5, []) (P0 []) s' 98 [] []
def E_X14_countItems_19 (x1 : Int) (rv : Option vA) (σo : vS) (q : vS) : Prop := ∀ (s' : vS), q = s' → VW cX14_countItems (RX14, rv, σo, none, 3, 71, 5, []) (P0 []) s' 92 [(0, vO 87), (1, vI x1)] []
def E_X14_countItems_52 (x1 : Int) (x3 : Int) (rv : Option vA) (σo : vS) (q : Int × Int × vS) : Prop := ∀ (x2' : Int) (x4' : Int) (s' : vS), q = (x2', x4', s') → rg x2' → rg x4' → VW cX14_countItems (RX14, rv, σo, none, 3, 71, 5, []) (P0 []) s' 75 [(0, vO 87), (1, vI x1), (2, vI x2'), (3, vI x3), (4, vI x4')] []
def l_X14_countItems_52 : Nat → Int → Int → Int → Int → vS → Option (Int × Int × vS)
  | 0, _, _, _, _, _ => none
  | n + 1, x1, x2, x3, x4, s =>
    bd (f_X14_hasNumber x1 x4 s) fun r4 s1 =>
    if r4 = 0 then
      some (x2, x4, s1)
    else
      vl (w32 (x2 + 1)) fun y7 =>
      bd (f_X14_smallNumber y7 s1) fun r13 s10 =>
      l_X14_countItems_52 n x1 y7 x3 r13 s10
theorem wl_X14_countItems_52 {x1 : Int} {x3 : Int} {rv : Option vA} {σo : vS}  (rx1 : rg x1) (rx3 : rg x3) : ∀ (n : Nat) (x2 : Int) (x4 : Int) (s : vS) (q : Int × Int × vS), l_X14_countItems_52 n x1 x2 x3 x4 s = some q → rg x2 → rg x4 → E_X14_countItems_52 x1 x3 rv σo q → VW cX14_countItems (RX14, rv, σo, none, 3, 71, 5, []) (P0 []) s 52 [(0, vO 87), (1, vI x1), (2, vI x2), (3, vI x3), (4, vI x4)] [] := by
  intro n
  induction n with
  | zero => intro x2 x4 s q h; cases h
  | succ n ih =>
    intro x2 x4 s q h rx2 rx4 hE
    unfold l_X14_countItems_52 at h
    refine v_aload_n dX14_countItems_52 0 rfl rfl ?_
    refine v_iload_n dX14_countItems_53 1 rfl rfl ?_
    refine v_iload dX14_countItems_54 4 rfl ?_
    obtain ⟨r4, s1, e2, h⟩ := bd_some h
    have k3 := c_X14_hasNumber e2 rx1 rx4
    have r5 : rg r4 := k3.1.2.2
    refine v_callV (st := []) cf14 oc87 k3 (lw_V q3113 q3115 qs208 q311 q3116) rfl yk_X14_hasNumber ⟨Nat.le_of_ble_eq_true rfl, Nat.le_of_ble_eq_true rfl⟩ trivial ⟨kc87, trivial⟩ (Nat.le_of_ble_eq_true rfl) rfl dX14_countItems_56 ?_
    refine v_if_eq (tgt := 75) dX14_countItems_59 r5 (by decide) (fun c6 => ?_) (fun c6 => ?_)
    · rw [if_pos c6] at h
      cases h
      exact hE _ _ _ rfl rx2 rx4
    · rw [if_neg c6] at h
      obtain ⟨y7, e8, h⟩ := vl_some h
      refine v_iinc (L1 := [(2, vI (w32 (x2 + 1))), (0, vO 87), (1, vI x1), (3, vI x3), (4, vI x4)]) dX14_countItems_62 2 rfl (by decide) rfl ?_
      rw [← e8]
      have r9 : rg y7 := by rw [e8]; exact w32_rg _
      refine v_aload_n dX14_countItems_65 1 rfl rfl ?_
      refine v_iload_n dX14_countItems_66 0 rfl rfl ?_
      obtain ⟨r13, s10, e11, h⟩ := bd_some h
      have k12 := c_X14_smallNumber e11 r9
      have r14 : rg r13 := k12.1.2.2
      refine v_callV (st := []) cf14 oc87 k12 (lw_V q3109 q3111 qs207 q311 q3112) rfl yk_X14_smallNumber ⟨Nat.le_of_ble_eq_true rfl, Nat.le_of_ble_eq_true rfl⟩ trivial ⟨kc87, trivial⟩ (Nat.le_of_ble_eq_true rfl) rfl dX14_countItems_67 ?_
      refine v_istore (L1 := [(4, vI r13), (2, vI y7), (0, vO 87), (1, vI x1), (3, vI x3)]) dX14_countItems_70 (by decide) rfl ?_
      refine v_goto (tgt := 52) dX14_countItems_72 (by decide) ?_
      refine v_sub [2, 3, 1, 4, 0] (L1 := [(0, vO 87), (1, vI x1), (2, vI y7), (3, vI x3), (4, vI r13)]) rfl ?_
      exact ih y7 r13 s10 _ h r9 r14 hE

def l_X14_countItems_19 : Nat → Int → Int → Int → vS → Option (vS)
  | 0, _, _, _, _ => none
  | n + 1, x1, x2, x3, s =>
    gd (inb x1 (gN s 102)) <|
    gd (inb x1 (gN s 103)) <|
    if (w32 ((gE s 102 x1) + (gE s 103 x1))) ≤ x3 then
      some s
    else
      gd (inb x3 (gN s 113)) <|
      if 0 ≤ (gE s 113 x3) then
        vl (w32 (x3 + 1)) fun y6 =>
        l_X14_countItems_19 n x1 x2 y6 s
      else
        bd (f_X14_smallNumber x2 s) fun r12 s9 =>
        lq_2 (l_X14_countItems_52 FU x1 x2 x3 r12 s9) fun y14 y15 s16 =>
        gd (inb x3 (gN s16 115)) <|
        stp (sE s16 115 x3 y15) fun s21 =>
        vl (w32 (y14 + 1)) fun y23 =>
        vl (w32 (x3 + 1)) fun y26 =>
        l_X14_countItems_19 n x1 y23 y26 s21
theorem wl_X14_countItems_19 {x1 : Int} {rv : Option vA} {σo : vS}  (rx1 : rg x1) : ∀ (n : Nat) (x2 : Int) (x3 : Int) (s : vS) (q : vS), l_X14_countItems_19 n x1 x2 x3 s = some q → rg x2 → rg x3 → E_X14_countItems_19 x1 rv σo q → VW cX14_countItems (RX14, rv, σo, none, 3, 71, 5, []) (P0 []) s 19 [(0, vO 87), (1, vI x1), (2, vI x2), (3, vI x3)] [] := by
  intro n
  induction n with
  | zero => intro x2 x3 s q h; cases h
  | succ n ih =>
    intro x2 x3 s q h rx2 rx3 hE
    unfold l_X14_countItems_19 at h
    refine v_iload_n dX14_countItems_19 3 rfl rfl ?_
    refine v_aload_n dX14_countItems_20 0 rfl rfl ?_
    refine v_getS (f := 26) (t := 102) cf14 oc87 rfl rfl rfl (by decide) q2396 dX14_countItems_21 ?_
    refine v_iload_n dX14_countItems_24 1 rfl rfl ?_
    obtain ⟨g1, h⟩ := gd_some h
    refine v_iald oc102 rx1 g1.1 g1.2 dX14_countItems_25 ?_
    refine v_aload_n dX14_countItems_26 0 rfl rfl ?_
    refine v_getS (f := 27) (t := 103) cf14 oc87 rfl rfl rfl (by decide) q2397 dX14_countItems_27 ?_
    refine v_iload_n dX14_countItems_30 1 rfl rfl ?_
    obtain ⟨g2, h⟩ := gd_some h
    refine v_iald oc103 rx1 g2.1 g2.2 dX14_countItems_31 ?_
    refine v_iadd dX14_countItems_32 ?_
    refine v_icmp_ge (tgt := 92) dX14_countItems_33 rx3 (w32_rg _) (by decide) (fun c3 => ?_) (fun c3 => ?_)
    · rw [if_pos c3] at h
      cases h
      refine v_sub [0, 1] (L1 := [(0, vO 87), (1, vI x1)]) rfl ?_
      exact hE _ rfl 
    · rw [if_neg c3] at h
      refine v_aload_n dX14_countItems_36 0 rfl rfl ?_
      refine v_getS (f := 39) (t := 113) cf14 oc87 rfl rfl rfl (by decide) q2409 dX14_countItems_37 ?_
      refine v_iload_n dX14_countItems_40 3 rfl rfl ?_
      obtain ⟨g4, h⟩ := gd_some h
      refine v_iald oc113 rx3 g4.1 g4.2 dX14_countItems_41 ?_
      refine v_if_ge (tgt := 86) dX14_countItems_42 (gE_rg _ _ _) (by decide) (fun c5 => ?_) (fun c5 => ?_)
      · rw [if_pos c5] at h
        obtain ⟨y6, e7, h⟩ := vl_some h
        refine v_iinc (L1 := [(3, vI (w32 (x3 + 1))), (0, vO 87), (1, vI x1), (2, vI x2)]) dX14_countItems_86 3 rfl (by decide) rfl ?_
        rw [← e7]
        have r8 : rg y6 := by rw [e7]; exact w32_rg _
        refine v_goto (tgt := 19) dX14_countItems_89 (by decide) ?_
        refine v_sub [1, 2, 3, 0] (L1 := [(0, vO 87), (1, vI x1), (2, vI x2), (3, vI y6)]) rfl ?_
        exact ih x2 y6 s _ h rx2 r8 hE
      · rw [if_neg c5] at h
        refine v_aload_n dX14_countItems_45 0 rfl rfl ?_
        refine v_iload_n dX14_countItems_46 2 rfl rfl ?_
        obtain ⟨r12, s9, e10, h⟩ := bd_some h
        have k11 := c_X14_smallNumber e10 rx2
        have r13 : rg r12 := k11.1.2.2
        refine v_callV (st := []) cf14 oc87 k11 (lw_V q3109 q3111 qs207 q311 q3112) rfl yk_X14_smallNumber ⟨Nat.le_of_ble_eq_true rfl, Nat.le_of_ble_eq_true rfl⟩ trivial ⟨kc87, trivial⟩ (Nat.le_of_ble_eq_true rfl) rfl dX14_countItems_47 ?_
        refine v_istore (L1 := [(4, vI r12), (0, vO 87), (1, vI x1), (2, vI x2), (3, vI x3)]) dX14_countItems_50 (by decide) rfl ?_
        refine v_sub [1, 2, 3, 4, 0] (L1 := [(0, vO 87), (1, vI x1), (2, vI x2), (3, vI x3), (4, vI r12)]) rfl ?_
        obtain ⟨y14, y15, s16, e17, h⟩ := lq_2_some h
        refine wl_X14_countItems_52 rx1 rx3 FU x2 r12 s9 _ e17 rx2 r13 ?_
        unfold E_X14_countItems_52
        intro y14' y15' s16' z_ r18 r19
        cases z_
        refine v_aload_n dX14_countItems_75 0 rfl rfl ?_
        refine v_getS (f := 41) (t := 115) cf14 oc87 rfl rfl rfl (by decide) q2411 dX14_countItems_76 ?_
        refine v_iload_n dX14_countItems_79 3 rfl rfl ?_
        refine v_iload dX14_countItems_80 4 rfl ?_
        obtain ⟨g20, h⟩ := gd_some h
        obtain ⟨s21, e22, h⟩ := stp_some h
        refine v_iast oc115 rx3 g20.1 g20.2 dX14_countItems_82 ?_
        rw [← e22]
        obtain ⟨y23, e24, h⟩ := vl_some h
        refine v_iinc (L1 := [(2, vI (w32 (y14 + 1))), (0, vO 87), (1, vI x1), (3, vI x3), (4, vI y15)]) dX14_countItems_83 2 rfl (by decide) rfl ?_
        rw [← e24]
        have r25 : rg y23 := by rw [e24]; exact w32_rg _
        obtain ⟨y26, e27, h⟩ := vl_some h
        refine v_iinc (L1 := [(3, vI (w32 (x3 + 1))), (2, vI y23), (0, vO 87), (1, vI x1), (4, vI y15)]) dX14_countItems_86 3 rfl (by decide) rfl ?_
        rw [← e27]
        have r28 : rg y26 := by rw [e27]; exact w32_rg _
        refine v_goto (tgt := 19) dX14_countItems_89 (by decide) ?_
        refine v_sub [2, 3, 1, 0] (L1 := [(0, vO 87), (1, vI x1), (2, vI y23), (3, vI y26)]) rfl ?_
        exact ih y23 y26 s21 _ h r25 r28 hE

def l_X14_countItems_2 : Nat → Int → vS → Option (vS)
  | 0, _, _ => none
  | n + 1, x1, s =>
    if (gI s 87 20) ≤ x1 then
      some s
    else
      gd (inb x1 (gN s 102)) <|
      vl (gE s 102 x1) fun y3 =>
      lq_0 (l_X14_countItems_19 FU x1 0 y3 s) fun s6 =>
      vl (w32 (x1 + 1)) fun y8 =>
      l_X14_countItems_2 n y8 s6
theorem wl_X14_countItems_2 {rv : Option vA} {σo : vS}  : ∀ (n : Nat) (x1 : Int) (s : vS) (q : vS), l_X14_countItems_2 n x1 s = some q → rg x1 → E_X14_countItems_2 rv σo q → VW cX14_countItems (RX14, rv, σo, none, 3, 71, 5, []) (P0 []) s 2 [(0, vO 87), (1, vI x1)] [] := by
  intro n
  induction n with
  | zero => intro x1 s q h; cases h
  | succ n ih =>
    intro x1 s q h rx1 hE
    unfold l_X14_countItems_2 at h
    refine v_iload_n dX14_countItems_2 1 rfl rfl ?_
    refine v_aload_n dX14_countItems_3 0 rfl rfl ?_
    refine v_getI (f := 20) cf14 oc87 rfl (by decide) q2390 dX14_countItems_4 ?_
    refine v_icmp_ge (tgt := 98) dX14_countItems_7 rx1 (gI_rg _ _ _) (by decide) (fun c1 => ?_) (fun c1 => ?_)
    · rw [if_pos c1] at h
      cases h
      refine v_sub [] (L1 := []) rfl ?_
      exact hE _ rfl 
    · rw [if_neg c1] at h
      refine v_iconst dX14_countItems_10 ?_
      refine v_istore_n (L1 := [(2, vI 0), (0, vO 87), (1, vI x1)]) dX14_countItems_11 rfl (by decide) rfl ?_
      refine v_aload_n dX14_countItems_12 1 rfl rfl ?_
      refine v_getS (f := 26) (t := 102) cf14 oc87 rfl rfl rfl (by decide) q2396 dX14_countItems_13 ?_
      refine v_iload_n dX14_countItems_16 2 rfl rfl ?_
      obtain ⟨g2, h⟩ := gd_some h
      refine v_iald oc102 rx1 g2.1 g2.2 dX14_countItems_17 ?_
      obtain ⟨y3, e4, h⟩ := vl_some h
      rw [← e4]
      have r5 : rg y3 := by rw [e4]; exact gE_rg _ _ _
      refine v_istore_n (L1 := [(3, vI y3), (2, vI 0), (0, vO 87), (1, vI x1)]) dX14_countItems_18 rfl (by decide) rfl ?_
      refine v_sub [2, 3, 1, 0] (L1 := [(0, vO 87), (1, vI x1), (2, vI 0), (3, vI y3)]) rfl ?_
      obtain ⟨s6, e7, h⟩ := lq_0_some h
      refine wl_X14_countItems_19 rx1 FU 0 y3 s _ e7 (rgl rfl) r5 ?_
      unfold E_X14_countItems_19
      intro s6' z_
      cases z_
      obtain ⟨y8, e9, h⟩ := vl_some h
      refine v_iinc (L1 := [(1, vI (w32 (x1 + 1))), (0, vO 87)]) dX14_countItems_92 1 rfl (by decide) rfl ?_
      rw [← e9]
      have r10 : rg y8 := by rw [e9]; exact w32_rg _
      refine v_goto (tgt := 2) dX14_countItems_95 (by decide) ?_
      refine v_sub [1, 0] (L1 := [(0, vO 87), (1, vI y8)]) rfl ?_
      exact ih y8 s6 _ h r10 hE

def f_X14_countItems (s : vS) : Option (vS) :=
  lq_0 (l_X14_countItems_2 FU 0 s) fun s1 =>
  some s1
theorem yk_X14_countItems : yOk yX14_countItems 0 := ⟨by decide, by decide, by decide +kernel⟩
theorem c_X14_countItems {s : vS} {out : vS} (h : f_X14_countItems s = some out)   : VC yX14_countItems cX14_countItems 5 none 3 71 [vO 87] s none out [] := by
  unfold f_X14_countItems at h
  refine VC.of RX14 (by decide) rfl (Nat.le_of_ble_eq_true rfl) ?_
  show VW cX14_countItems (RX14, none, out, none, 3, 71, 5, []) (P0 []) s 0 [(0, vO 87)] []
  refine v_iconst dX14_countItems_0 ?_
  refine v_istore_n (L1 := [(1, vI 0), (0, vO 87)]) dX14_countItems_1 rfl (by decide) rfl ?_
  refine v_sub [1, 0] (L1 := [(0, vO 87), (1, vI 0)]) rfl ?_
  obtain ⟨s1, e2, h⟩ := lq_0_some h
  refine wl_X14_countItems_2  FU 0 s _ e2 (rgl rfl) ?_
  unfold E_X14_countItems_2
  intro s1' z_
  cases z_
  cases h
  exact v_vret dX14_countItems_98

def E_X14_root_4 (rv : Option vA) (σo : vS) (q : Int × vS) : Prop := ∀ (x2' : Int) (s' : vS), q = (x2', s') → rg x2' → VW cX14_root (RX14, rv, σo, (some .int), 0, 0, 5, []) (P0 []) s' 58 [(0, vO 87), (2, vI x2')] []
def l_X14_root_4 : Nat → Int → Int → vS → Option (Int × vS)
  | 0, _, _, _ => none
  | n + 1, x2, x3, s =>
    if x2 < 0 then
      some (x2, s)
    else
      gd (inb x2 (gN s 97)) <|
      if (gE s 97 x2) = 17 then
        if (gI s 87 72) < x3 then
          some (x2, s)
        else
          gd (inb x2 (gN s 101)) <|
          vl (gE s 101 x2) fun y6 =>
          if 0 ≤ y6 then
            gd (inb y6 (gN s 142)) <|
            vl (gE s 142 y6) fun y11 =>
            vl (w32 (x3 + 1)) fun y14 =>
            l_X14_root_4 n y11 y14 s
          else
            vl (w32 (x3 + 1)) fun y17 =>
            l_X14_root_4 n (-1) y17 s
      else
        some (x2, s)
theorem wl_X14_root_4 {rv : Option vA} {σo : vS}  : ∀ (n : Nat) (x2 : Int) (x3 : Int) (s : vS) (q : Int × vS), l_X14_root_4 n x2 x3 s = some q → rg x2 → rg x3 → E_X14_root_4 rv σo q → VW cX14_root (RX14, rv, σo, (some .int), 0, 0, 5, []) (P0 []) s 4 [(0, vO 87), (2, vI x2), (3, vI x3)] [] := by
  intro n
  induction n with
  | zero => intro x2 x3 s q h; cases h
  | succ n ih =>
    intro x2 x3 s q h rx2 rx3 hE
    unfold l_X14_root_4 at h
    refine v_iload_n dX14_root_4 1 rfl rfl ?_
    refine v_if_lt (tgt := 58) dX14_root_5 rx2 (by decide) (fun c1 => ?_) (fun c1 => ?_)
    · rw [if_pos c1] at h
      cases h
      refine v_sub [0, 1] (L1 := [(0, vO 87), (2, vI x2)]) rfl ?_
      exact hE _ _ rfl rx2
    · rw [if_neg c1] at h
      refine v_aload_n dX14_root_8 0 rfl rfl ?_
      refine v_getS (f := 21) (t := 97) cf14 oc87 rfl rfl rfl (by decide) q2391 dX14_root_9 ?_
      refine v_iload_n dX14_root_12 1 rfl rfl ?_
      obtain ⟨g2, h⟩ := gd_some h
      refine v_iald oc97 rx2 g2.1 g2.2 dX14_root_13 ?_
      refine v_bipush dX14_root_14 rfl ?_
      refine v_icmp_ne (tgt := 58) dX14_root_16 (gE_rg _ _ _) (rgl rfl) (by decide) (fun c3 => ?_) (fun c3 => ?_)
      · rw [if_neg c3] at h
        cases h
        refine v_sub [0, 1] (L1 := [(0, vO 87), (2, vI x2)]) rfl ?_
        exact hE _ _ rfl rx2
      · rw [if_pos c3] at h
        refine v_iload_n dX14_root_19 2 rfl rfl ?_
        refine v_aload_n dX14_root_20 0 rfl rfl ?_
        refine v_getI (f := 72) cf14 oc87 rfl (by decide) q2442 dX14_root_21 ?_
        refine v_icmp_gt (tgt := 58) dX14_root_24 rx3 (gI_rg _ _ _) (by decide) (fun c4 => ?_) (fun c4 => ?_)
        · rw [if_pos c4] at h
          cases h
          refine v_sub [0, 1] (L1 := [(0, vO 87), (2, vI x2)]) rfl ?_
          exact hE _ _ rfl rx2
        · rw [if_neg c4] at h
          refine v_aload_n dX14_root_27 0 rfl rfl ?_
          refine v_getS (f := 25) (t := 101) cf14 oc87 rfl rfl rfl (by decide) q2395 dX14_root_28 ?_
          refine v_iload_n dX14_root_31 1 rfl rfl ?_
          obtain ⟨g5, h⟩ := gd_some h
          refine v_iald oc101 rx2 g5.1 g5.2 dX14_root_32 ?_
          obtain ⟨y6, e7, h⟩ := vl_some h
          rw [← e7]
          have r8 : rg y6 := by rw [e7]; exact gE_rg _ _ _
          refine v_istore (L1 := [(4, vI y6), (0, vO 87), (2, vI x2), (3, vI x3)]) dX14_root_33 (by decide) rfl ?_
          refine v_iload dX14_root_35 0 rfl ?_
          refine v_if_ge (tgt := 44) dX14_root_37 r8 (by decide) (fun c9 => ?_) (fun c9 => ?_)
          · rw [if_pos c9] at h
            refine v_aload_n dX14_root_44 1 rfl rfl ?_
            refine v_getS (f := 74) (t := 142) cf14 oc87 rfl rfl rfl (by decide) q2444 dX14_root_45 ?_
            refine v_iload dX14_root_48 0 rfl ?_
            obtain ⟨g10, h⟩ := gd_some h
            refine v_iald oc142 r8 g10.1 g10.2 dX14_root_50 ?_
            obtain ⟨y11, e12, h⟩ := vl_some h
            rw [← e12]
            have r13 : rg y11 := by rw [e12]; exact gE_rg _ _ _
            refine v_istore_n (L1 := [(2, vI y11), (4, vI y6), (0, vO 87), (3, vI x3)]) dX14_root_51 rfl (by decide) rfl ?_
            obtain ⟨y14, e15, h⟩ := vl_some h
            refine v_iinc (L1 := [(3, vI (w32 (x3 + 1))), (2, vI y11), (4, vI y6), (0, vO 87)]) dX14_root_52 3 rfl (by decide) rfl ?_
            rw [← e15]
            have r16 : rg y14 := by rw [e15]; exact w32_rg _
            refine v_goto (tgt := 4) dX14_root_55 (by decide) ?_
            refine v_sub [3, 1, 0] (L1 := [(0, vO 87), (2, vI y11), (3, vI y14)]) rfl ?_
            exact ih y11 y14 s _ h r13 r16 hE
          · rw [if_neg c9] at h
            refine v_iconst dX14_root_40 ?_
            refine v_goto (tgt := 51) dX14_root_41 (by decide) ?_
            refine v_istore_n (L1 := [(2, vI (-1)), (4, vI y6), (0, vO 87), (3, vI x3)]) dX14_root_51 rfl (by decide) rfl ?_
            obtain ⟨y17, e18, h⟩ := vl_some h
            refine v_iinc (L1 := [(3, vI (w32 (x3 + 1))), (2, vI (-1)), (4, vI y6), (0, vO 87)]) dX14_root_52 3 rfl (by decide) rfl ?_
            rw [← e18]
            have r19 : rg y17 := by rw [e18]; exact w32_rg _
            refine v_goto (tgt := 4) dX14_root_55 (by decide) ?_
            refine v_sub [3, 1, 0] (L1 := [(0, vO 87), (2, vI (-1)), (3, vI y17)]) rfl ?_
            exact ih (-1) y17 s _ h (rgl rfl) r19 hE

def j_X14_root_58 (x2 : Int) (s : vS) : Option (Int × vS) :=
  if x2 < 0 then
    some (x2, s)
  else
    gd (inb x2 (gN s 97)) <|
    if (gE s 97 x2) = 17 then
      some ((-1), s)
    else
      some (x2, s)
theorem wj_X14_root_58 {x2 : Int} {s : vS} {out : Int × vS} (h : j_X14_root_58 x2 s = some out)  (rx2 : rg x2) : VW cX14_root (RX14, (some (vI out.1)), out.2, (some .int), 0, 0, 5, []) (P0 []) s 58 [(0, vO 87), (2, vI x2)] [] := by
  unfold j_X14_root_58 at h
  refine v_iload_n dX14_root_58 1 rfl rfl ?_
  refine v_if_lt (tgt := 77) dX14_root_59 rx2 (by decide) (fun c1 => ?_) (fun c1 => ?_)
  · rw [if_pos c1] at h
    refine v_iload_n dX14_root_77 1 rfl rfl ?_
    cases h
    exact v_iret rx2 dX14_root_78
  · rw [if_neg c1] at h
    refine v_aload_n dX14_root_62 0 rfl rfl ?_
    refine v_getS (f := 21) (t := 97) cf14 oc87 rfl rfl rfl (by decide) q2391 dX14_root_63 ?_
    refine v_iload_n dX14_root_66 1 rfl rfl ?_
    obtain ⟨g2, h⟩ := gd_some h
    refine v_iald oc97 rx2 g2.1 g2.2 dX14_root_67 ?_
    refine v_bipush dX14_root_68 rfl ?_
    refine v_icmp_ne (tgt := 77) dX14_root_70 (gE_rg _ _ _) (rgl rfl) (by decide) (fun c3 => ?_) (fun c3 => ?_)
    · rw [if_neg c3] at h
      refine v_iload_n dX14_root_77 1 rfl rfl ?_
      cases h
      exact v_iret rx2 dX14_root_78
    · rw [if_pos c3] at h
      refine v_iconst dX14_root_73 ?_
      refine v_goto (tgt := 78) dX14_root_74 (by decide) ?_
      cases h
      exact v_iret (rgl rfl) dX14_root_78

def f_X14_root (x1 : Int) (s : vS) : Option (Int × vS) :=
  lq_1 (l_X14_root_4 FU x1 0 s) fun y1 s2 =>
  j_X14_root_58 y1 s2
theorem yk_X14_root : yOk yX14_root 1 := ⟨by decide, by decide, by decide +kernel⟩
theorem c_X14_root {x1 : Int} {s : vS} {out : Int × vS} (h : f_X14_root x1 s = some out)  (rx1 : rg x1) : VC yX14_root cX14_root 5 (some .int) 0 0 [vO 87, vI x1] s (some (vI out.1)) out.2 [] := by
  unfold f_X14_root at h
  refine VC.of RX14 (by decide) rfl (Nat.le_of_ble_eq_true rfl) ?_
  show VW cX14_root (RX14, (some (vI out.1)), out.2, (some .int), 0, 0, 5, []) (P0 []) s 0 [(0, vO 87), (1, vI x1)] []
  refine v_iload_n dX14_root_0 1 rfl rfl ?_
  refine v_istore_n (L1 := [(2, vI x1), (0, vO 87), (1, vI x1)]) dX14_root_1 rfl (by decide) rfl ?_
  refine v_iconst dX14_root_2 ?_
  refine v_istore_n (L1 := [(3, vI 0), (2, vI x1), (0, vO 87), (1, vI x1)]) dX14_root_3 rfl (by decide) rfl ?_
  refine v_sub [2, 1, 0] (L1 := [(0, vO 87), (2, vI x1), (3, vI 0)]) rfl ?_
  obtain ⟨y1, s2, e3, h⟩ := lq_1_some h
  refine wl_X14_root_4  FU x1 0 s _ e3 rx1 (rgl rfl) ?_
  unfold E_X14_root_4
  intro y1' s2' z_ r4
  cases z_
  exact wj_X14_root_58 h r4

def E_X14_itemIn_7 (rv : Option vA) (σo : vS) (q : (vS) ⊕ (Int × vS)) : Prop := (∀ (s' : vS), q = .inl s' → VW cX14_itemIn (RX14, rv, σo, (some .int), 1, 24, 4, []) (P0 []) s' 46 [] []) ∧ (∀ (v : Int) (s' : vS), q = .inr (v, s') → rv = some (vI v) ∧ σo = s')
def l_X14_itemIn_7 : Nat → Int → Int → Int → vS → Option ((vS) ⊕ (Int × vS))
  | 0, _, _, _, _ => none
  | n + 1, x1, x2, x3, s =>
    gd (inb x1 (gN s 102)) <|
    gd (inb x1 (gN s 103)) <|
    if (w32 ((gE s 102 x1) + (gE s 103 x1))) ≤ x3 then
      some (.inl s)
    else
      gd (inb x3 (gN s 112)) <|
      bd (f_X14_sameName (gE s 112 x3) x2 s) fun r8 s5 =>
      if r8 = 0 then
        vl (w32 (x3 + 1)) fun y11 =>
        l_X14_itemIn_7 n x1 x2 y11 s5
      else
        some (.inr (x3, s5))
theorem wl_X14_itemIn_7 {x1 : Int} {x2 : Int} {rv : Option vA} {σo : vS}  (rx1 : rg x1) (rx2 : rg x2) : ∀ (n : Nat) (x3 : Int) (s : vS) (q : (vS) ⊕ (Int × vS)), l_X14_itemIn_7 n x1 x2 x3 s = some q → rg x3 → E_X14_itemIn_7 rv σo q → VW cX14_itemIn (RX14, rv, σo, (some .int), 1, 24, 4, []) (P0 []) s 7 [(0, vO 87), (1, vI x1), (2, vI x2), (3, vI x3)] [] := by
  intro n
  induction n with
  | zero => intro x3 s q h; cases h
  | succ n ih =>
    intro x3 s q h rx3 hE
    unfold l_X14_itemIn_7 at h
    refine v_iload_n dX14_itemIn_7 3 rfl rfl ?_
    refine v_aload_n dX14_itemIn_8 0 rfl rfl ?_
    refine v_getS (f := 26) (t := 102) cf14 oc87 rfl rfl rfl (by decide) q2396 dX14_itemIn_9 ?_
    refine v_iload_n dX14_itemIn_12 1 rfl rfl ?_
    obtain ⟨g1, h⟩ := gd_some h
    refine v_iald oc102 rx1 g1.1 g1.2 dX14_itemIn_13 ?_
    refine v_aload_n dX14_itemIn_14 0 rfl rfl ?_
    refine v_getS (f := 27) (t := 103) cf14 oc87 rfl rfl rfl (by decide) q2397 dX14_itemIn_15 ?_
    refine v_iload_n dX14_itemIn_18 1 rfl rfl ?_
    obtain ⟨g2, h⟩ := gd_some h
    refine v_iald oc103 rx1 g2.1 g2.2 dX14_itemIn_19 ?_
    refine v_iadd dX14_itemIn_20 ?_
    refine v_icmp_ge (tgt := 46) dX14_itemIn_21 rx3 (w32_rg _) (by decide) (fun c3 => ?_) (fun c3 => ?_)
    · rw [if_pos c3] at h
      cases h
      refine v_sub [] (L1 := []) rfl ?_
      exact hE.1 _ rfl 
    · rw [if_neg c3] at h
      refine v_aload_n dX14_itemIn_24 0 rfl rfl ?_
      refine v_aload_n dX14_itemIn_25 0 rfl rfl ?_
      refine v_getS (f := 38) (t := 112) cf14 oc87 rfl rfl rfl (by decide) q2408 dX14_itemIn_26 ?_
      refine v_iload_n dX14_itemIn_29 3 rfl rfl ?_
      obtain ⟨g4, h⟩ := gd_some h
      refine v_iald oc112 rx3 g4.1 g4.2 dX14_itemIn_30 ?_
      refine v_iload_n dX14_itemIn_31 2 rfl rfl ?_
      obtain ⟨r8, s5, e6, h⟩ := bd_some h
      have k7 := c_X14_sameName e6 (gE_rg _ _ _) rx2
      have r9 : rg r8 := k7.1.2.2
      refine v_callV (st := []) cf14 oc87 k7 (lw_V q3089 q3091 qs202 q311 q3092) rfl yk_X14_sameName ⟨Nat.le_of_ble_eq_true rfl, Nat.le_of_ble_eq_true rfl⟩ trivial ⟨kc87, trivial⟩ (Nat.le_of_ble_eq_true rfl) rfl dX14_itemIn_32 ?_
      refine v_if_eq (tgt := 40) dX14_itemIn_35 r9 (by decide) (fun c10 => ?_) (fun c10 => ?_)
      · rw [if_pos c10] at h
        obtain ⟨y11, e12, h⟩ := vl_some h
        refine v_iinc (L1 := [(3, vI (w32 (x3 + 1))), (0, vO 87), (1, vI x1), (2, vI x2)]) dX14_itemIn_40 3 rfl (by decide) rfl ?_
        rw [← e12]
        have r13 : rg y11 := by rw [e12]; exact w32_rg _
        refine v_goto (tgt := 7) dX14_itemIn_43 (by decide) ?_
        refine v_sub [1, 2, 3, 0] (L1 := [(0, vO 87), (1, vI x1), (2, vI x2), (3, vI y11)]) rfl ?_
        exact ih y11 s5 _ h r13 hE
      · rw [if_neg c10] at h
        refine v_iload_n dX14_itemIn_38 3 rfl rfl ?_
        cases h
        obtain ⟨z1, z2⟩ := hE.2 _ _ rfl
        subst z1
        subst z2
        exact v_iret rx3 dX14_itemIn_39

def f_X14_itemIn (x1 : Int) (x2 : Int) (s : vS) : Option (Int × vS) :=
  gd (inb x1 (gN s 102)) <|
  vl (gE s 102 x1) fun y2 =>
  lqs_0 (l_X14_itemIn_7 FU x1 x2 y2 s) (fun s5 =>
    some ((-1), s5))
    (fun q => some q)
theorem yk_X14_itemIn : yOk yX14_itemIn 2 := ⟨by decide, by decide, by decide +kernel⟩
theorem c_X14_itemIn {x1 : Int} {x2 : Int} {s : vS} {out : Int × vS} (h : f_X14_itemIn x1 x2 s = some out)  (rx1 : rg x1) (rx2 : rg x2) : VC yX14_itemIn cX14_itemIn 4 (some .int) 1 24 [vO 87, vI x1, vI x2] s (some (vI out.1)) out.2 [] := by
  unfold f_X14_itemIn at h
  refine VC.of RX14 (by decide) rfl (Nat.le_of_ble_eq_true rfl) ?_
  show VW cX14_itemIn (RX14, (some (vI out.1)), out.2, (some .int), 1, 24, 4, []) (P0 []) s 0 [(0, vO 87), (1, vI x1), (2, vI x2)] []
  refine v_aload_n dX14_itemIn_0 0 rfl rfl ?_
  refine v_getS (f := 26) (t := 102) cf14 oc87 rfl rfl rfl (by decide) q2396 dX14_itemIn_1 ?_
  refine v_iload_n dX14_itemIn_4 1 rfl rfl ?_
  obtain ⟨g1, h⟩ := gd_some h
  refine v_iald oc102 rx1 g1.1 g1.2 dX14_itemIn_5 ?_
  obtain ⟨y2, e3, h⟩ := vl_some h
  rw [← e3]
  have r4 : rg y2 := by rw [e3]; exact gE_rg _ _ _
  refine v_istore_n (L1 := [(3, vI y2), (0, vO 87), (1, vI x1), (2, vI x2)]) dX14_itemIn_6 rfl (by decide) rfl ?_
  refine v_sub [1, 2, 3, 0] (L1 := [(0, vO 87), (1, vI x1), (2, vI x2), (3, vI y2)]) rfl ?_
  rcases lqs_0_some h with ⟨s5, e6, h⟩ | ⟨q9, e6, h⟩
  · refine wl_X14_itemIn_7 rx1 rx2 FU y2 s _ e6 r4 ?_
    unfold E_X14_itemIn_7
    refine ⟨?_, fun v9 s9 z_ => (by cases z_)⟩
    intro s5' z_
    cases z_
    refine v_iconst dX14_itemIn_46 ?_
    cases h
    exact v_iret (rgl rfl) dX14_itemIn_47
  · cases h
    refine wl_X14_itemIn_7 rx1 rx2 FU y2 s _ e6 r4 ?_
    unfold E_X14_itemIn_7
    refine ⟨fun _ z_ => (by cases z_), ?_⟩
    intro v9 s9 z_
    cases z_
    exact ⟨rfl, rfl⟩

def j_X14_itemOf_40 (x2 : Int) (x4 : Int) (s : vS) : Option (Int × vS) :=
  bd (f_X14_itemIn x4 x2 s) fun r4 s1 =>
  some (r4, s1)
theorem wj_X14_itemOf_40 {x2 : Int} {x4 : Int} {s : vS} {out : Int × vS} (h : j_X14_itemOf_40 x2 x4 s = some out)  (rx2 : rg x2) (rx4 : rg x4) : VW cX14_itemOf (RX14, (some (vI out.1)), out.2, (some .int), 2, 47, 5, []) (P0 []) s 40 [(0, vO 87), (2, vI x2), (4, vI x4)] [] := by
  unfold j_X14_itemOf_40 at h
  refine v_aload_n dX14_itemOf_40 0 rfl rfl ?_
  refine v_iload dX14_itemOf_41 2 rfl ?_
  refine v_iload_n dX14_itemOf_43 1 rfl rfl ?_
  obtain ⟨r4, s1, e2, h⟩ := bd_some h
  have k3 := c_X14_itemIn e2 rx4 rx2
  have r5 : rg r4 := k3.1.2.2
  refine v_callV (st := []) cf14 oc87 k3 (lw_V q3133 q3135 qs213 q311 q3136) rfl yk_X14_itemIn ⟨Nat.le_of_ble_eq_true rfl, Nat.le_of_ble_eq_true rfl⟩ trivial ⟨kc87, trivial⟩ (Nat.le_of_ble_eq_true rfl) rfl dX14_itemOf_44 ?_
  cases h
  exact v_iret r5 dX14_itemOf_47

def f_X14_itemOf (x1 : Int) (x2 : Int) (x3 : Int) (s : vS) : Option (Int × vS) :=
  bd (f_X14_root x1 s) fun r4 s1 =>
  if r4 < 0 then
    some ((-1), s1)
  else
    gd (inb r4 (gN s1 97)) <|
    if (gE s1 97 r4) = 2 then
      j_X14_itemOf_40 x2 r4 s1
    else
      gd (inb r4 (gN s1 97)) <|
      if (gE s1 97 r4) = 3 then
        if x3 = 0 then
          some ((-1), s1)
        else
          j_X14_itemOf_40 x2 r4 s1
      else
        some ((-1), s1)
theorem yk_X14_itemOf : yOk yX14_itemOf 3 := ⟨by decide, by decide, by decide +kernel⟩
theorem c_X14_itemOf {x1 : Int} {x2 : Int} {x3 : Int} {s : vS} {out : Int × vS} (h : f_X14_itemOf x1 x2 x3 s = some out)  (rx1 : rg x1) (rx2 : rg x2) (rx3 : rg x3) : VC yX14_itemOf cX14_itemOf 5 (some .int) 2 47 [vO 87, vI x1, vI x2, vI x3] s (some (vI out.1)) out.2 [] := by
  unfold f_X14_itemOf at h
  refine VC.of RX14 (by decide) rfl (Nat.le_of_ble_eq_true rfl) ?_
  show VW cX14_itemOf (RX14, (some (vI out.1)), out.2, (some .int), 2, 47, 5, []) (P0 []) s 0 [(0, vO 87), (1, vI x1), (2, vI x2), (3, vI x3)] []
  refine v_aload_n dX14_itemOf_0 0 rfl rfl ?_
  refine v_iload_n dX14_itemOf_1 1 rfl rfl ?_
  obtain ⟨r4, s1, e2, h⟩ := bd_some h
  have k3 := c_X14_root e2 rx1
  have r5 : rg r4 := k3.1.2.2
  refine v_callV (st := []) cf14 oc87 k3 (lw_V q3129 q3131 qs212 q311 q3132) rfl yk_X14_root ⟨Nat.le_of_ble_eq_true rfl, Nat.le_of_ble_eq_true rfl⟩ trivial ⟨kc87, trivial⟩ (Nat.le_of_ble_eq_true rfl) rfl dX14_itemOf_2 ?_
  refine v_istore (L1 := [(4, vI r4), (0, vO 87), (1, vI x1), (2, vI x2), (3, vI x3)]) dX14_itemOf_5 (by decide) rfl ?_
  refine v_iload dX14_itemOf_7 0 rfl ?_
  refine v_if_lt (tgt := 38) dX14_itemOf_9 r5 (by decide) (fun c6 => ?_) (fun c6 => ?_)
  · rw [if_pos c6] at h
    refine v_iconst dX14_itemOf_38 ?_
    cases h
    exact v_iret (rgl rfl) dX14_itemOf_39
  · rw [if_neg c6] at h
    refine v_aload_n dX14_itemOf_12 1 rfl rfl ?_
    refine v_getS (f := 21) (t := 97) cf14 oc87 rfl rfl rfl (by decide) q2391 dX14_itemOf_13 ?_
    refine v_iload dX14_itemOf_16 0 rfl ?_
    obtain ⟨g7, h⟩ := gd_some h
    refine v_iald oc97 r5 g7.1 g7.2 dX14_itemOf_18 ?_
    refine v_iconst dX14_itemOf_19 ?_
    refine v_icmp_eq (tgt := 40) dX14_itemOf_20 (gE_rg _ _ _) (rgl rfl) (by decide) (fun c8 => ?_) (fun c8 => ?_)
    · rw [if_pos c8] at h
      refine v_sub [1, 3, 0] (L1 := [(0, vO 87), (2, vI x2), (4, vI r4)]) rfl ?_
      exact wj_X14_itemOf_40 h rx2 r5
    · rw [if_neg c8] at h
      refine v_aload_n dX14_itemOf_23 1 rfl rfl ?_
      refine v_getS (f := 21) (t := 97) cf14 oc87 rfl rfl rfl (by decide) q2391 dX14_itemOf_24 ?_
      refine v_iload dX14_itemOf_27 0 rfl ?_
      obtain ⟨g9, h⟩ := gd_some h
      refine v_iald oc97 r5 g9.1 g9.2 dX14_itemOf_29 ?_
      refine v_iconst dX14_itemOf_30 ?_
      refine v_icmp_ne (tgt := 38) dX14_itemOf_31 (gE_rg _ _ _) (rgl rfl) (by decide) (fun c10 => ?_) (fun c10 => ?_)
      · rw [if_neg c10] at h
        refine v_iconst dX14_itemOf_38 ?_
        cases h
        exact v_iret (rgl rfl) dX14_itemOf_39
      · rw [if_pos c10] at h
        refine v_iload_n dX14_itemOf_34 4 rfl rfl ?_
        refine v_if_ne (tgt := 40) dX14_itemOf_35 rx3 (by decide) (fun c11 => ?_) (fun c11 => ?_)
        · rw [if_neg c11] at h
          refine v_sub [1, 3, 0] (L1 := [(0, vO 87), (2, vI x2), (4, vI r4)]) rfl ?_
          exact wj_X14_itemOf_40 h rx2 r5
        · rw [if_pos c11] at h
          refine v_iconst dX14_itemOf_38 ?_
          cases h
          exact v_iret (rgl rfl) dX14_itemOf_39

def f_X14_checkBound (x1 : Int) (x2 : Int) (s : vS) : Option (vS) :=
  gd (inb x2 (gN s 94)) <|
  if (gE s 94 x2) = 2 then
    bd (f_X14_itemOf x1 x2 0 s) fun r6 s3 =>
    if 0 ≤ r6 then
      some s3
    else
      bd (f_X14_assignmentOf x2 s3) fun r12 s9 =>
      if 0 ≤ r12 then
        some s9
      else
        gd (inb x2 (gN s9 95)) <|
        bdv (f_X14_first (gE s9 95 x2) s9) fun s16 =>
        some s16
  else
    some s
theorem yk_X14_checkBound : yOk yX14_checkBound 2 := ⟨by decide, by decide, by decide +kernel⟩
theorem c_X14_checkBound {x1 : Int} {x2 : Int} {s : vS} {out : vS} (h : f_X14_checkBound x1 x2 s = some out)  (rx1 : rg x1) (rx2 : rg x2) : VC yX14_checkBound cX14_checkBound 3 none 3 71 [vO 87, vI x1, vI x2] s none out [] := by
  unfold f_X14_checkBound at h
  refine VC.of RX14 (by decide) rfl (Nat.le_of_ble_eq_true rfl) ?_
  show VW cX14_checkBound (RX14, none, out, none, 3, 71, 3, []) (P0 []) s 0 [(0, vO 87), (1, vI x1), (2, vI x2)] []
  refine v_aload_n dX14_checkBound_0 0 rfl rfl ?_
  refine v_getS (f := 16) (t := 94) cf14 oc87 rfl rfl rfl (by decide) q2386 dX14_checkBound_1 ?_
  refine v_iload_n dX14_checkBound_4 2 rfl rfl ?_
  obtain ⟨g1, h⟩ := gd_some h
  refine v_iald oc94 rx2 g1.1 g1.2 dX14_checkBound_5 ?_
  refine v_iconst dX14_checkBound_6 ?_
  refine v_icmp_ne (tgt := 38) dX14_checkBound_7 (gE_rg _ _ _) (rgl rfl) (by decide) (fun c2 => ?_) (fun c2 => ?_)
  · rw [if_neg c2] at h
    cases h
    exact v_vret dX14_checkBound_38
  · rw [if_pos c2] at h
    refine v_aload_n dX14_checkBound_10 0 rfl rfl ?_
    refine v_iload_n dX14_checkBound_11 1 rfl rfl ?_
    refine v_iload_n dX14_checkBound_12 2 rfl rfl ?_
    refine v_iconst dX14_checkBound_13 ?_
    obtain ⟨r6, s3, e4, h⟩ := bd_some h
    have k5 := c_X14_itemOf e4 rx1 rx2 (rgl rfl)
    have r7 : rg r6 := k5.1.2.2
    refine v_callV (st := []) cf14 oc87 k5 (lw_V q3125 q3127 qs211 q311 q3128) rfl yk_X14_itemOf ⟨Nat.le_of_ble_eq_true rfl, Nat.le_of_ble_eq_true rfl⟩ trivial ⟨kc87, trivial⟩ (Nat.le_of_ble_eq_true rfl) rfl dX14_checkBound_14 ?_
    refine v_if_ge (tgt := 38) dX14_checkBound_17 r7 (by decide) (fun c8 => ?_) (fun c8 => ?_)
    · rw [if_pos c8] at h
      cases h
      exact v_vret dX14_checkBound_38
    · rw [if_neg c8] at h
      refine v_aload_n dX14_checkBound_20 0 rfl rfl ?_
      refine v_iload_n dX14_checkBound_21 2 rfl rfl ?_
      obtain ⟨r12, s9, e10, h⟩ := bd_some h
      have k11 := c_X14_assignmentOf e10 rx2
      have r13 : rg r12 := k11.1.2.2
      refine v_callV (st := []) cf14 oc87 k11 (lw_V q3081 q3083 qs200 q311 q3084) rfl yk_X14_assignmentOf ⟨Nat.le_of_ble_eq_true rfl, Nat.le_of_ble_eq_true rfl⟩ trivial ⟨kc87, trivial⟩ (Nat.le_of_ble_eq_true rfl) rfl dX14_checkBound_22 ?_
      refine v_if_ge (tgt := 38) dX14_checkBound_25 r13 (by decide) (fun c14 => ?_) (fun c14 => ?_)
      · rw [if_pos c14] at h
        cases h
        exact v_vret dX14_checkBound_38
      · rw [if_neg c14] at h
        refine v_aload_n dX14_checkBound_28 0 rfl rfl ?_
        refine v_aload_n dX14_checkBound_29 0 rfl rfl ?_
        refine v_getS (f := 17) (t := 95) cf14 oc87 rfl rfl rfl (by decide) q2387 dX14_checkBound_30 ?_
        refine v_iload_n dX14_checkBound_33 2 rfl rfl ?_
        obtain ⟨g15, h⟩ := gd_some h
        refine v_iald oc95 rx2 g15.1 g15.2 dX14_checkBound_34 ?_
        obtain ⟨s16, e17, h⟩ := bdv_some h
        have k18 := c_X14_first e17 (gE_rg _ _ _)
        refine v_callV (st := []) cf14 oc87 k18 (lw_V q3093 q3095 qs203 q311 q3096) rfl yk_X14_first ⟨Nat.le_of_ble_eq_true rfl, Nat.le_of_ble_eq_true rfl⟩ trivial ⟨kc87, trivial⟩ (Nat.le_of_ble_eq_true rfl) rfl dX14_checkBound_35 ?_
        cases h
        exact v_vret dX14_checkBound_38

def E_X14_checkUnknown_2 (rv : Option vA) (σo : vS) (q : vS) : Prop := ∀ (s' : vS), q = s' → VW cX14_checkUnknown (RX14, rv, σo, none, 4, 93, 4, []) (P0 []) s' 64 [(0, vO 87)] []
def l_X14_checkUnknown_2 : Nat → Int → vS → Option (vS)
  | 0, _, _ => none
  | n + 1, x1, s =>
    if (gI s 87 20) ≤ x1 then
      some s
    else
      gd (inb x1 (gN s 97)) <|
      if (gE s 97 x1) = 17 then
        gd (inb x1 (gN s 101)) <|
        vl (gE s 101 x1) fun y8 =>
        bd (f_X14_assignmentOf y8 s) fun r14 s11 =>
        gd (gN s11 101 = gN s 101) <|
        gd (inb x1 (gN s11 101)) <|
        stp (sE s11 101 x1 r14) fun s18 =>
        gd (inb x1 (gN s18 101)) <|
        if 0 ≤ (gE s18 101 x1) then
          vl (w32 (x1 + 1)) fun y22 =>
          l_X14_checkUnknown_2 n y22 s18
        else
          gd (inb y8 (gN s18 95)) <|
          bdv (f_X14_first (gE s18 95 y8) s18) fun s26 =>
          vl (w32 (x1 + 1)) fun y29 =>
          l_X14_checkUnknown_2 n y29 s26
      else
        vl (w32 (x1 + 1)) fun y4 =>
        l_X14_checkUnknown_2 n y4 s
theorem wl_X14_checkUnknown_2 {rv : Option vA} {σo : vS}  : ∀ (n : Nat) (x1 : Int) (s : vS) (q : vS), l_X14_checkUnknown_2 n x1 s = some q → rg x1 → E_X14_checkUnknown_2 rv σo q → VW cX14_checkUnknown (RX14, rv, σo, none, 4, 93, 4, []) (P0 []) s 2 [(0, vO 87), (1, vI x1)] [] := by
  intro n
  induction n with
  | zero => intro x1 s q h; cases h
  | succ n ih =>
    intro x1 s q h rx1 hE
    unfold l_X14_checkUnknown_2 at h
    refine v_iload_n dX14_checkUnknown_2 1 rfl rfl ?_
    refine v_aload_n dX14_checkUnknown_3 0 rfl rfl ?_
    refine v_getI (f := 20) cf14 oc87 rfl (by decide) q2390 dX14_checkUnknown_4 ?_
    refine v_icmp_ge (tgt := 64) dX14_checkUnknown_7 rx1 (gI_rg _ _ _) (by decide) (fun c1 => ?_) (fun c1 => ?_)
    · rw [if_pos c1] at h
      cases h
      refine v_sub [0] (L1 := [(0, vO 87)]) rfl ?_
      exact hE _ rfl 
    · rw [if_neg c1] at h
      refine v_aload_n dX14_checkUnknown_10 0 rfl rfl ?_
      refine v_getS (f := 21) (t := 97) cf14 oc87 rfl rfl rfl (by decide) q2391 dX14_checkUnknown_11 ?_
      refine v_iload_n dX14_checkUnknown_14 1 rfl rfl ?_
      obtain ⟨g2, h⟩ := gd_some h
      refine v_iald oc97 rx1 g2.1 g2.2 dX14_checkUnknown_15 ?_
      refine v_bipush dX14_checkUnknown_16 rfl ?_
      refine v_icmp_ne (tgt := 58) dX14_checkUnknown_18 (gE_rg _ _ _) (rgl rfl) (by decide) (fun c3 => ?_) (fun c3 => ?_)
      · rw [if_neg c3] at h
        obtain ⟨y4, e5, h⟩ := vl_some h
        refine v_iinc (L1 := [(1, vI (w32 (x1 + 1))), (0, vO 87)]) dX14_checkUnknown_58 1 rfl (by decide) rfl ?_
        rw [← e5]
        have r6 : rg y4 := by rw [e5]; exact w32_rg _
        refine v_goto (tgt := 2) dX14_checkUnknown_61 (by decide) ?_
        refine v_sub [1, 0] (L1 := [(0, vO 87), (1, vI y4)]) rfl ?_
        exact ih y4 s _ h r6 hE
      · rw [if_pos c3] at h
        refine v_aload_n dX14_checkUnknown_21 0 rfl rfl ?_
        refine v_getS (f := 25) (t := 101) cf14 oc87 rfl rfl rfl (by decide) q2395 dX14_checkUnknown_22 ?_
        refine v_iload_n dX14_checkUnknown_25 1 rfl rfl ?_
        obtain ⟨g7, h⟩ := gd_some h
        refine v_iald oc101 rx1 g7.1 g7.2 dX14_checkUnknown_26 ?_
        obtain ⟨y8, e9, h⟩ := vl_some h
        rw [← e9]
        have r10 : rg y8 := by rw [e9]; exact gE_rg _ _ _
        refine v_istore_n (L1 := [(2, vI y8), (0, vO 87), (1, vI x1)]) dX14_checkUnknown_27 rfl (by decide) rfl ?_
        refine v_aload_n dX14_checkUnknown_28 1 rfl rfl ?_
        refine v_getS (f := 25) (t := 101) cf14 oc87 rfl rfl rfl (by decide) q2395 dX14_checkUnknown_29 ?_
        refine v_iload_n dX14_checkUnknown_32 2 rfl rfl ?_
        refine v_aload_n dX14_checkUnknown_33 1 rfl rfl ?_
        refine v_iload_n dX14_checkUnknown_34 0 rfl rfl ?_
        obtain ⟨r14, s11, e12, h⟩ := bd_some h
        have k13 := c_X14_assignmentOf e12 r10
        have r15 : rg r14 := k13.1.2.2
        obtain ⟨g16, h⟩ := gd_some h
        refine v_callV (st := [vI x1, vO 101]) cf14 oc87 k13 (lw_V q3081 q3083 qs200 q311 q3084) rfl yk_X14_assignmentOf ⟨Nat.le_of_ble_eq_true rfl, Nat.le_of_ble_eq_true rfl⟩ ⟨(kp_arr (by decide) g16), trivial⟩ ⟨kc87, trivial⟩ (Nat.le_of_ble_eq_true rfl) rfl dX14_checkUnknown_35 ?_
        obtain ⟨g17, h⟩ := gd_some h
        obtain ⟨s18, e19, h⟩ := stp_some h
        refine v_iast oc101 rx1 g17.1 g17.2 dX14_checkUnknown_38 ?_
        rw [← e19]
        refine v_aload_n dX14_checkUnknown_39 1 rfl rfl ?_
        refine v_getS (f := 25) (t := 101) cf14 oc87 rfl rfl rfl (by decide) q2395 dX14_checkUnknown_40 ?_
        refine v_iload_n dX14_checkUnknown_43 2 rfl rfl ?_
        obtain ⟨g20, h⟩ := gd_some h
        refine v_iald oc101 rx1 g20.1 g20.2 dX14_checkUnknown_44 ?_
        refine v_if_ge (tgt := 58) dX14_checkUnknown_45 (gE_rg _ _ _) (by decide) (fun c21 => ?_) (fun c21 => ?_)
        · rw [if_pos c21] at h
          obtain ⟨y22, e23, h⟩ := vl_some h
          refine v_iinc (L1 := [(1, vI (w32 (x1 + 1))), (2, vI y8), (0, vO 87)]) dX14_checkUnknown_58 2 rfl (by decide) rfl ?_
          rw [← e23]
          have r24 : rg y22 := by rw [e23]; exact w32_rg _
          refine v_goto (tgt := 2) dX14_checkUnknown_61 (by decide) ?_
          refine v_sub [2, 0] (L1 := [(0, vO 87), (1, vI y22)]) rfl ?_
          exact ih y22 s18 _ h r24 hE
        · rw [if_neg c21] at h
          refine v_aload_n dX14_checkUnknown_48 1 rfl rfl ?_
          refine v_aload_n dX14_checkUnknown_49 1 rfl rfl ?_
          refine v_getS (f := 17) (t := 95) cf14 oc87 rfl rfl rfl (by decide) q2387 dX14_checkUnknown_50 ?_
          refine v_iload_n dX14_checkUnknown_53 0 rfl rfl ?_
          obtain ⟨g25, h⟩ := gd_some h
          refine v_iald oc95 r10 g25.1 g25.2 dX14_checkUnknown_54 ?_
          obtain ⟨s26, e27, h⟩ := bdv_some h
          have k28 := c_X14_first e27 (gE_rg _ _ _)
          refine v_callV (st := []) cf14 oc87 k28 (lw_V q3093 q3095 qs203 q311 q3096) rfl yk_X14_first ⟨Nat.le_of_ble_eq_true rfl, Nat.le_of_ble_eq_true rfl⟩ trivial ⟨kc87, trivial⟩ (Nat.le_of_ble_eq_true rfl) rfl dX14_checkUnknown_55 ?_
          obtain ⟨y29, e30, h⟩ := vl_some h
          refine v_iinc (L1 := [(1, vI (w32 (x1 + 1))), (2, vI y8), (0, vO 87)]) dX14_checkUnknown_58 2 rfl (by decide) rfl ?_
          rw [← e30]
          have r31 : rg y29 := by rw [e30]; exact w32_rg _
          refine v_goto (tgt := 2) dX14_checkUnknown_61 (by decide) ?_
          refine v_sub [2, 0] (L1 := [(0, vO 87), (1, vI y29)]) rfl ?_
          exact ih y29 s26 _ h r31 hE

def E_X14_checkUnknown_66 (rv : Option vA) (σo : vS) (q : vS) : Prop := ∀ (s' : vS), q = s' → VW cX14_checkUnknown (RX14, rv, σo, none, 4, 93, 4, []) (P0 []) s' 153 [(0, vO 87)] []
def E_X14_checkUnknown_81 (x1 : Int) (rv : Option vA) (σo : vS) (q : vS) : Prop := ∀ (s' : vS), q = s' → VW cX14_checkUnknown (RX14, rv, σo, none, 4, 93, 4, []) (P0 []) s' 147 [(0, vO 87), (1, vI x1)] []
def E_X14_checkUnknown_92 (x1 : Int) (x2 : Int) (rv : Option vA) (σo : vS) (q : vS) : Prop := ∀ (s' : vS), q = s' → VW cX14_checkUnknown (RX14, rv, σo, none, 4, 93, 4, []) (P0 []) s' 137 [(0, vO 87), (1, vI x1), (2, vI x2)] []
def l_X14_checkUnknown_92 : Nat → Int → Int → Int → vS → Option (vS)
  | 0, _, _, _, _ => none
  | n + 1, x1, x2, x3, s =>
    gd (inb x2 (gN s 123)) <|
    gd (inb x2 (gN s 124)) <|
    if (w32 ((gE s 123 x2) + (gE s 124 x2))) ≤ x3 then
      some s
    else
      gd (inb x3 (gN s 126)) <|
      bdv (f_X14_checkBound x1 (gE s 126 x3) s) fun s5 =>
      gd (inb x3 (gN s5 128)) <|
      bdv (f_X14_checkBound x1 (gE s5 128 x3) s5) fun s9 =>
      vl (w32 (x3 + 1)) fun y12 =>
      l_X14_checkUnknown_92 n x1 x2 y12 s9
theorem wl_X14_checkUnknown_92 {x1 : Int} {x2 : Int} {rv : Option vA} {σo : vS}  (rx1 : rg x1) (rx2 : rg x2) : ∀ (n : Nat) (x3 : Int) (s : vS) (q : vS), l_X14_checkUnknown_92 n x1 x2 x3 s = some q → rg x3 → E_X14_checkUnknown_92 x1 x2 rv σo q → VW cX14_checkUnknown (RX14, rv, σo, none, 4, 93, 4, []) (P0 []) s 92 [(0, vO 87), (1, vI x1), (2, vI x2), (3, vI x3)] [] := by
  intro n
  induction n with
  | zero => intro x3 s q h; cases h
  | succ n ih =>
    intro x3 s q h rx3 hE
    unfold l_X14_checkUnknown_92 at h
    refine v_iload_n dX14_checkUnknown_92 3 rfl rfl ?_
    refine v_aload_n dX14_checkUnknown_93 0 rfl rfl ?_
    refine v_getS (f := 51) (t := 123) cf14 oc87 rfl rfl rfl (by decide) q2421 dX14_checkUnknown_94 ?_
    refine v_iload_n dX14_checkUnknown_97 2 rfl rfl ?_
    obtain ⟨g1, h⟩ := gd_some h
    refine v_iald oc123 rx2 g1.1 g1.2 dX14_checkUnknown_98 ?_
    refine v_aload_n dX14_checkUnknown_99 0 rfl rfl ?_
    refine v_getS (f := 52) (t := 124) cf14 oc87 rfl rfl rfl (by decide) q2422 dX14_checkUnknown_100 ?_
    refine v_iload_n dX14_checkUnknown_103 2 rfl rfl ?_
    obtain ⟨g2, h⟩ := gd_some h
    refine v_iald oc124 rx2 g2.1 g2.2 dX14_checkUnknown_104 ?_
    refine v_iadd dX14_checkUnknown_105 ?_
    refine v_icmp_ge (tgt := 137) dX14_checkUnknown_106 rx3 (w32_rg _) (by decide) (fun c3 => ?_) (fun c3 => ?_)
    · rw [if_pos c3] at h
      cases h
      refine v_sub [0, 1, 2] (L1 := [(0, vO 87), (1, vI x1), (2, vI x2)]) rfl ?_
      exact hE _ rfl 
    · rw [if_neg c3] at h
      refine v_aload_n dX14_checkUnknown_109 0 rfl rfl ?_
      refine v_iload_n dX14_checkUnknown_110 1 rfl rfl ?_
      refine v_aload_n dX14_checkUnknown_111 0 rfl rfl ?_
      refine v_getS (f := 55) (t := 126) cf14 oc87 rfl rfl rfl (by decide) q2425 dX14_checkUnknown_112 ?_
      refine v_iload_n dX14_checkUnknown_115 3 rfl rfl ?_
      obtain ⟨g4, h⟩ := gd_some h
      refine v_iald oc126 rx3 g4.1 g4.2 dX14_checkUnknown_116 ?_
      obtain ⟨s5, e6, h⟩ := bdv_some h
      have k7 := c_X14_checkBound e6 rx1 (gE_rg _ _ _)
      refine v_callV (st := []) cf14 oc87 k7 (lw_V q3121 q3123 qs210 q311 q3124) rfl yk_X14_checkBound ⟨Nat.le_of_ble_eq_true rfl, Nat.le_of_ble_eq_true rfl⟩ trivial ⟨kc87, trivial⟩ (Nat.le_of_ble_eq_true rfl) rfl dX14_checkUnknown_117 ?_
      refine v_aload_n dX14_checkUnknown_120 0 rfl rfl ?_
      refine v_iload_n dX14_checkUnknown_121 1 rfl rfl ?_
      refine v_aload_n dX14_checkUnknown_122 0 rfl rfl ?_
      refine v_getS (f := 57) (t := 128) cf14 oc87 rfl rfl rfl (by decide) q2427 dX14_checkUnknown_123 ?_
      refine v_iload_n dX14_checkUnknown_126 3 rfl rfl ?_
      obtain ⟨g8, h⟩ := gd_some h
      refine v_iald oc128 rx3 g8.1 g8.2 dX14_checkUnknown_127 ?_
      obtain ⟨s9, e10, h⟩ := bdv_some h
      have k11 := c_X14_checkBound e10 rx1 (gE_rg _ _ _)
      refine v_callV (st := []) cf14 oc87 k11 (lw_V q3121 q3123 qs210 q311 q3124) rfl yk_X14_checkBound ⟨Nat.le_of_ble_eq_true rfl, Nat.le_of_ble_eq_true rfl⟩ trivial ⟨kc87, trivial⟩ (Nat.le_of_ble_eq_true rfl) rfl dX14_checkUnknown_128 ?_
      obtain ⟨y12, e13, h⟩ := vl_some h
      refine v_iinc (L1 := [(3, vI (w32 (x3 + 1))), (0, vO 87), (1, vI x1), (2, vI x2)]) dX14_checkUnknown_131 3 rfl (by decide) rfl ?_
      rw [← e13]
      have r14 : rg y12 := by rw [e13]; exact w32_rg _
      refine v_goto (tgt := 92) dX14_checkUnknown_134 (by decide) ?_
      refine v_sub [1, 2, 3, 0] (L1 := [(0, vO 87), (1, vI x1), (2, vI x2), (3, vI y12)]) rfl ?_
      exact ih y12 s9 _ h r14 hE

def l_X14_checkUnknown_81 : Nat → Int → Int → vS → Option (vS)
  | 0, _, _, _ => none
  | n + 1, x1, x2, s =>
    if x2 < 0 then
      some s
    else
      gd (inb x2 (gN s 123)) <|
      vl (gE s 123 x2) fun y3 =>
      lq_0 (l_X14_checkUnknown_92 FU x1 x2 y3 s) fun s6 =>
      gd (inb x2 (gN s6 125)) <|
      vl (gE s6 125 x2) fun y9 =>
      l_X14_checkUnknown_81 n x1 y9 s6
theorem wl_X14_checkUnknown_81 {x1 : Int} {rv : Option vA} {σo : vS}  (rx1 : rg x1) : ∀ (n : Nat) (x2 : Int) (s : vS) (q : vS), l_X14_checkUnknown_81 n x1 x2 s = some q → rg x2 → E_X14_checkUnknown_81 x1 rv σo q → VW cX14_checkUnknown (RX14, rv, σo, none, 4, 93, 4, []) (P0 []) s 81 [(0, vO 87), (1, vI x1), (2, vI x2)] [] := by
  intro n
  induction n with
  | zero => intro x2 s q h; cases h
  | succ n ih =>
    intro x2 s q h rx2 hE
    unfold l_X14_checkUnknown_81 at h
    refine v_iload_n dX14_checkUnknown_81 2 rfl rfl ?_
    refine v_if_lt (tgt := 147) dX14_checkUnknown_82 rx2 (by decide) (fun c1 => ?_) (fun c1 => ?_)
    · rw [if_pos c1] at h
      cases h
      refine v_sub [0, 1] (L1 := [(0, vO 87), (1, vI x1)]) rfl ?_
      exact hE _ rfl 
    · rw [if_neg c1] at h
      refine v_aload_n dX14_checkUnknown_85 0 rfl rfl ?_
      refine v_getS (f := 51) (t := 123) cf14 oc87 rfl rfl rfl (by decide) q2421 dX14_checkUnknown_86 ?_
      refine v_iload_n dX14_checkUnknown_89 2 rfl rfl ?_
      obtain ⟨g2, h⟩ := gd_some h
      refine v_iald oc123 rx2 g2.1 g2.2 dX14_checkUnknown_90 ?_
      obtain ⟨y3, e4, h⟩ := vl_some h
      rw [← e4]
      have r5 : rg y3 := by rw [e4]; exact gE_rg _ _ _
      refine v_istore_n (L1 := [(3, vI y3), (0, vO 87), (1, vI x1), (2, vI x2)]) dX14_checkUnknown_91 rfl (by decide) rfl ?_
      refine v_sub [1, 2, 3, 0] (L1 := [(0, vO 87), (1, vI x1), (2, vI x2), (3, vI y3)]) rfl ?_
      obtain ⟨s6, e7, h⟩ := lq_0_some h
      refine wl_X14_checkUnknown_92 rx1 rx2 FU y3 s _ e7 r5 ?_
      unfold E_X14_checkUnknown_92
      intro s6' z_
      cases z_
      refine v_aload_n dX14_checkUnknown_137 0 rfl rfl ?_
      refine v_getS (f := 53) (t := 125) cf14 oc87 rfl rfl rfl (by decide) q2423 dX14_checkUnknown_138 ?_
      refine v_iload_n dX14_checkUnknown_141 2 rfl rfl ?_
      obtain ⟨g8, h⟩ := gd_some h
      refine v_iald oc125 rx2 g8.1 g8.2 dX14_checkUnknown_142 ?_
      obtain ⟨y9, e10, h⟩ := vl_some h
      rw [← e10]
      have r11 : rg y9 := by rw [e10]; exact gE_rg _ _ _
      refine v_istore_n (L1 := [(2, vI y9), (0, vO 87), (1, vI x1)]) dX14_checkUnknown_143 rfl (by decide) rfl ?_
      refine v_goto (tgt := 81) dX14_checkUnknown_144 (by decide) ?_
      refine v_sub [1, 2, 0] (L1 := [(0, vO 87), (1, vI x1), (2, vI y9)]) rfl ?_
      exact ih y9 s6 _ h r11 hE

def l_X14_checkUnknown_66 : Nat → Int → vS → Option (vS)
  | 0, _, _ => none
  | n + 1, x1, s =>
    if (gI s 87 20) ≤ x1 then
      some s
    else
      gd (inb x1 (gN s 107)) <|
      vl (gE s 107 x1) fun y3 =>
      lq_0 (l_X14_checkUnknown_81 FU x1 y3 s) fun s6 =>
      vl (w32 (x1 + 1)) fun y8 =>
      l_X14_checkUnknown_66 n y8 s6
theorem wl_X14_checkUnknown_66 {rv : Option vA} {σo : vS}  : ∀ (n : Nat) (x1 : Int) (s : vS) (q : vS), l_X14_checkUnknown_66 n x1 s = some q → rg x1 → E_X14_checkUnknown_66 rv σo q → VW cX14_checkUnknown (RX14, rv, σo, none, 4, 93, 4, []) (P0 []) s 66 [(0, vO 87), (1, vI x1)] [] := by
  intro n
  induction n with
  | zero => intro x1 s q h; cases h
  | succ n ih =>
    intro x1 s q h rx1 hE
    unfold l_X14_checkUnknown_66 at h
    refine v_iload_n dX14_checkUnknown_66 1 rfl rfl ?_
    refine v_aload_n dX14_checkUnknown_67 0 rfl rfl ?_
    refine v_getI (f := 20) cf14 oc87 rfl (by decide) q2390 dX14_checkUnknown_68 ?_
    refine v_icmp_ge (tgt := 153) dX14_checkUnknown_71 rx1 (gI_rg _ _ _) (by decide) (fun c1 => ?_) (fun c1 => ?_)
    · rw [if_pos c1] at h
      cases h
      refine v_sub [0] (L1 := [(0, vO 87)]) rfl ?_
      exact hE _ rfl 
    · rw [if_neg c1] at h
      refine v_aload_n dX14_checkUnknown_74 0 rfl rfl ?_
      refine v_getS (f := 31) (t := 107) cf14 oc87 rfl rfl rfl (by decide) q2401 dX14_checkUnknown_75 ?_
      refine v_iload_n dX14_checkUnknown_78 1 rfl rfl ?_
      obtain ⟨g2, h⟩ := gd_some h
      refine v_iald oc107 rx1 g2.1 g2.2 dX14_checkUnknown_79 ?_
      obtain ⟨y3, e4, h⟩ := vl_some h
      rw [← e4]
      have r5 : rg y3 := by rw [e4]; exact gE_rg _ _ _
      refine v_istore_n (L1 := [(2, vI y3), (0, vO 87), (1, vI x1)]) dX14_checkUnknown_80 rfl (by decide) rfl ?_
      refine v_sub [1, 2, 0] (L1 := [(0, vO 87), (1, vI x1), (2, vI y3)]) rfl ?_
      obtain ⟨s6, e7, h⟩ := lq_0_some h
      refine wl_X14_checkUnknown_81 rx1 FU y3 s _ e7 r5 ?_
      unfold E_X14_checkUnknown_81
      intro s6' z_
      cases z_
      obtain ⟨y8, e9, h⟩ := vl_some h
      refine v_iinc (L1 := [(1, vI (w32 (x1 + 1))), (0, vO 87)]) dX14_checkUnknown_147 1 rfl (by decide) rfl ?_
      rw [← e9]
      have r10 : rg y8 := by rw [e9]; exact w32_rg _
      refine v_goto (tgt := 66) dX14_checkUnknown_150 (by decide) ?_
      refine v_sub [1, 0] (L1 := [(0, vO 87), (1, vI y8)]) rfl ?_
      exact ih y8 s6 _ h r10 hE

def E_X14_checkUnknown_155 (rv : Option vA) (σo : vS) (q : vS) : Prop := ∀ (s' : vS), q = s' → VW cX14_checkUnknown (RX14, rv, σo, none, 4, 93, 4, []) (P0 []) s' 227 [(0, vO 87)] []
def l_X14_checkUnknown_155 : Nat → Int → vS → Option (vS)
  | 0, _, _ => none
  | n + 1, x1, s =>
    if (gI s 87 61) ≤ x1 then
      some s
    else
      gd (inb x1 (gN s 132)) <|
      if (gE s 132 x1) = 2 then
        gd (inb x1 (gN s 138)) <|
        gd (inb x1 (gN s 134)) <|
        bd (f_X14_itemOf (gE s 138 x1) (gE s 134 x1) 1 s) fun r12 s9 =>
        if 0 ≤ r12 then
          vl (w32 (x1 + 1)) fun y15 =>
          l_X14_checkUnknown_155 n y15 s9
        else
          gd (inb x1 (gN s9 134)) <|
          bd (f_X14_assignmentOf (gE s9 134 x1) s9) fun r22 s19 =>
          if 0 ≤ r22 then
            vl (w32 (x1 + 1)) fun y25 =>
            l_X14_checkUnknown_155 n y25 s19
          else
            gd (inb x1 (gN s19 134)) <|
            gd (inb (gE s19 134 x1) (gN s19 95)) <|
            bdv (f_X14_first (gE s19 95 (gE s19 134 x1)) s19) fun s30 =>
            vl (w32 (x1 + 1)) fun y33 =>
            l_X14_checkUnknown_155 n y33 s30
      else
        vl (w32 (x1 + 1)) fun y4 =>
        l_X14_checkUnknown_155 n y4 s
theorem wl_X14_checkUnknown_155 {rv : Option vA} {σo : vS}  : ∀ (n : Nat) (x1 : Int) (s : vS) (q : vS), l_X14_checkUnknown_155 n x1 s = some q → rg x1 → E_X14_checkUnknown_155 rv σo q → VW cX14_checkUnknown (RX14, rv, σo, none, 4, 93, 4, []) (P0 []) s 155 [(0, vO 87), (1, vI x1)] [] := by
  intro n
  induction n with
  | zero => intro x1 s q h; cases h
  | succ n ih =>
    intro x1 s q h rx1 hE
    unfold l_X14_checkUnknown_155 at h
    refine v_iload_n dX14_checkUnknown_155 1 rfl rfl ?_
    refine v_aload_n dX14_checkUnknown_156 0 rfl rfl ?_
    refine v_getI (f := 61) cf14 oc87 rfl (by decide) q2431 dX14_checkUnknown_157 ?_
    refine v_icmp_ge (tgt := 227) dX14_checkUnknown_160 rx1 (gI_rg _ _ _) (by decide) (fun c1 => ?_) (fun c1 => ?_)
    · rw [if_pos c1] at h
      cases h
      refine v_sub [0] (L1 := [(0, vO 87)]) rfl ?_
      exact hE _ rfl 
    · rw [if_neg c1] at h
      refine v_aload_n dX14_checkUnknown_163 0 rfl rfl ?_
      refine v_getS (f := 62) (t := 132) cf14 oc87 rfl rfl rfl (by decide) q2432 dX14_checkUnknown_164 ?_
      refine v_iload_n dX14_checkUnknown_167 1 rfl rfl ?_
      obtain ⟨g2, h⟩ := gd_some h
      refine v_iald oc132 rx1 g2.1 g2.2 dX14_checkUnknown_168 ?_
      refine v_iconst dX14_checkUnknown_169 ?_
      refine v_icmp_ne (tgt := 221) dX14_checkUnknown_170 (gE_rg _ _ _) (rgl rfl) (by decide) (fun c3 => ?_) (fun c3 => ?_)
      · rw [if_neg c3] at h
        obtain ⟨y4, e5, h⟩ := vl_some h
        refine v_iinc (L1 := [(1, vI (w32 (x1 + 1))), (0, vO 87)]) dX14_checkUnknown_221 1 rfl (by decide) rfl ?_
        rw [← e5]
        have r6 : rg y4 := by rw [e5]; exact w32_rg _
        refine v_goto (tgt := 155) dX14_checkUnknown_224 (by decide) ?_
        refine v_sub [1, 0] (L1 := [(0, vO 87), (1, vI y4)]) rfl ?_
        exact ih y4 s _ h r6 hE
      · rw [if_pos c3] at h
        refine v_aload_n dX14_checkUnknown_173 0 rfl rfl ?_
        refine v_aload_n dX14_checkUnknown_174 0 rfl rfl ?_
        refine v_getS (f := 68) (t := 138) cf14 oc87 rfl rfl rfl (by decide) q2438 dX14_checkUnknown_175 ?_
        refine v_iload_n dX14_checkUnknown_178 1 rfl rfl ?_
        obtain ⟨g7, h⟩ := gd_some h
        refine v_iald oc138 rx1 g7.1 g7.2 dX14_checkUnknown_179 ?_
        refine v_aload_n dX14_checkUnknown_180 0 rfl rfl ?_
        refine v_getS (f := 64) (t := 134) cf14 oc87 rfl rfl rfl (by decide) q2434 dX14_checkUnknown_181 ?_
        refine v_iload_n dX14_checkUnknown_184 1 rfl rfl ?_
        obtain ⟨g8, h⟩ := gd_some h
        refine v_iald oc134 rx1 g8.1 g8.2 dX14_checkUnknown_185 ?_
        refine v_iconst dX14_checkUnknown_186 ?_
        obtain ⟨r12, s9, e10, h⟩ := bd_some h
        have k11 := c_X14_itemOf e10 (gE_rg _ _ _) (gE_rg _ _ _) (rgl rfl)
        have r13 : rg r12 := k11.1.2.2
        refine v_callV (st := []) cf14 oc87 k11 (lw_V q3125 q3127 qs211 q311 q3128) rfl yk_X14_itemOf ⟨Nat.le_of_ble_eq_true rfl, Nat.le_of_ble_eq_true rfl⟩ trivial ⟨kc87, trivial⟩ (Nat.le_of_ble_eq_true rfl) rfl dX14_checkUnknown_187 ?_
        refine v_if_ge (tgt := 221) dX14_checkUnknown_190 r13 (by decide) (fun c14 => ?_) (fun c14 => ?_)
        · rw [if_pos c14] at h
          obtain ⟨y15, e16, h⟩ := vl_some h
          refine v_iinc (L1 := [(1, vI (w32 (x1 + 1))), (0, vO 87)]) dX14_checkUnknown_221 1 rfl (by decide) rfl ?_
          rw [← e16]
          have r17 : rg y15 := by rw [e16]; exact w32_rg _
          refine v_goto (tgt := 155) dX14_checkUnknown_224 (by decide) ?_
          refine v_sub [1, 0] (L1 := [(0, vO 87), (1, vI y15)]) rfl ?_
          exact ih y15 s9 _ h r17 hE
        · rw [if_neg c14] at h
          refine v_aload_n dX14_checkUnknown_193 0 rfl rfl ?_
          refine v_aload_n dX14_checkUnknown_194 0 rfl rfl ?_
          refine v_getS (f := 64) (t := 134) cf14 oc87 rfl rfl rfl (by decide) q2434 dX14_checkUnknown_195 ?_
          refine v_iload_n dX14_checkUnknown_198 1 rfl rfl ?_
          obtain ⟨g18, h⟩ := gd_some h
          refine v_iald oc134 rx1 g18.1 g18.2 dX14_checkUnknown_199 ?_
          obtain ⟨r22, s19, e20, h⟩ := bd_some h
          have k21 := c_X14_assignmentOf e20 (gE_rg _ _ _)
          have r23 : rg r22 := k21.1.2.2
          refine v_callV (st := []) cf14 oc87 k21 (lw_V q3081 q3083 qs200 q311 q3084) rfl yk_X14_assignmentOf ⟨Nat.le_of_ble_eq_true rfl, Nat.le_of_ble_eq_true rfl⟩ trivial ⟨kc87, trivial⟩ (Nat.le_of_ble_eq_true rfl) rfl dX14_checkUnknown_200 ?_
          refine v_if_ge (tgt := 221) dX14_checkUnknown_203 r23 (by decide) (fun c24 => ?_) (fun c24 => ?_)
          · rw [if_pos c24] at h
            obtain ⟨y25, e26, h⟩ := vl_some h
            refine v_iinc (L1 := [(1, vI (w32 (x1 + 1))), (0, vO 87)]) dX14_checkUnknown_221 1 rfl (by decide) rfl ?_
            rw [← e26]
            have r27 : rg y25 := by rw [e26]; exact w32_rg _
            refine v_goto (tgt := 155) dX14_checkUnknown_224 (by decide) ?_
            refine v_sub [1, 0] (L1 := [(0, vO 87), (1, vI y25)]) rfl ?_
            exact ih y25 s19 _ h r27 hE
          · rw [if_neg c24] at h
            refine v_aload_n dX14_checkUnknown_206 0 rfl rfl ?_
            refine v_aload_n dX14_checkUnknown_207 0 rfl rfl ?_
            refine v_getS (f := 17) (t := 95) cf14 oc87 rfl rfl rfl (by decide) q2387 dX14_checkUnknown_208 ?_
            refine v_aload_n dX14_checkUnknown_211 0 rfl rfl ?_
            refine v_getS (f := 64) (t := 134) cf14 oc87 rfl rfl rfl (by decide) q2434 dX14_checkUnknown_212 ?_
            refine v_iload_n dX14_checkUnknown_215 1 rfl rfl ?_
            obtain ⟨g28, h⟩ := gd_some h
            refine v_iald oc134 rx1 g28.1 g28.2 dX14_checkUnknown_216 ?_
            obtain ⟨g29, h⟩ := gd_some h
            refine v_iald oc95 (gE_rg _ _ _) g29.1 g29.2 dX14_checkUnknown_217 ?_
            obtain ⟨s30, e31, h⟩ := bdv_some h
            have k32 := c_X14_first e31 (gE_rg _ _ _)
            refine v_callV (st := []) cf14 oc87 k32 (lw_V q3093 q3095 qs203 q311 q3096) rfl yk_X14_first ⟨Nat.le_of_ble_eq_true rfl, Nat.le_of_ble_eq_true rfl⟩ trivial ⟨kc87, trivial⟩ (Nat.le_of_ble_eq_true rfl) rfl dX14_checkUnknown_218 ?_
            obtain ⟨y33, e34, h⟩ := vl_some h
            refine v_iinc (L1 := [(1, vI (w32 (x1 + 1))), (0, vO 87)]) dX14_checkUnknown_221 1 rfl (by decide) rfl ?_
            rw [← e34]
            have r35 : rg y33 := by rw [e34]; exact w32_rg _
            refine v_goto (tgt := 155) dX14_checkUnknown_224 (by decide) ?_
            refine v_sub [1, 0] (L1 := [(0, vO 87), (1, vI y33)]) rfl ?_
            exact ih y33 s30 _ h r35 hE

def f_X14_checkUnknown (s : vS) : Option (vS) :=
  lq_0 (l_X14_checkUnknown_2 FU 0 s) fun s1 =>
  lq_0 (l_X14_checkUnknown_66 FU 0 s1) fun s3 =>
  lq_0 (l_X14_checkUnknown_155 FU 0 s3) fun s5 =>
  bdv (f_X14_told 6 s5) fun s7 =>
  some s7
theorem yk_X14_checkUnknown : yOk yX14_checkUnknown 0 := ⟨by decide, by decide, by decide +kernel⟩
theorem c_X14_checkUnknown {s : vS} {out : vS} (h : f_X14_checkUnknown s = some out)   : VC yX14_checkUnknown cX14_checkUnknown 4 none 4 93 [vO 87] s none out [] := by
  unfold f_X14_checkUnknown at h
  refine VC.of RX14 (by decide) rfl (Nat.le_of_ble_eq_true rfl) ?_
  show VW cX14_checkUnknown (RX14, none, out, none, 4, 93, 4, []) (P0 []) s 0 [(0, vO 87)] []
  refine v_iconst dX14_checkUnknown_0 ?_
  refine v_istore_n (L1 := [(1, vI 0), (0, vO 87)]) dX14_checkUnknown_1 rfl (by decide) rfl ?_
  refine v_sub [1, 0] (L1 := [(0, vO 87), (1, vI 0)]) rfl ?_
  obtain ⟨s1, e2, h⟩ := lq_0_some h
  refine wl_X14_checkUnknown_2  FU 0 s _ e2 (rgl rfl) ?_
  unfold E_X14_checkUnknown_2
  intro s1' z_
  cases z_
  refine v_iconst dX14_checkUnknown_64 ?_
  refine v_istore_n (L1 := [(1, vI 0), (0, vO 87)]) dX14_checkUnknown_65 rfl (by decide) rfl ?_
  refine v_sub [1, 0] (L1 := [(0, vO 87), (1, vI 0)]) rfl ?_
  obtain ⟨s3, e4, h⟩ := lq_0_some h
  refine wl_X14_checkUnknown_66  FU 0 s1 _ e4 (rgl rfl) ?_
  unfold E_X14_checkUnknown_66
  intro s3' z_
  cases z_
  refine v_iconst dX14_checkUnknown_153 ?_
  refine v_istore_n (L1 := [(1, vI 0), (0, vO 87)]) dX14_checkUnknown_154 rfl (by decide) rfl ?_
  refine v_sub [1, 0] (L1 := [(0, vO 87), (1, vI 0)]) rfl ?_
  obtain ⟨s5, e6, h⟩ := lq_0_some h
  refine wl_X14_checkUnknown_155  FU 0 s3 _ e6 (rgl rfl) ?_
  unfold E_X14_checkUnknown_155
  intro s5' z_
  cases z_
  refine v_aload_n dX14_checkUnknown_227 0 rfl rfl ?_
  refine v_bipush dX14_checkUnknown_228 rfl ?_
  obtain ⟨s7, e8, h⟩ := bdv_some h
  have k9 := c_X14_told e8 (rgl rfl)
  refine v_callV (st := []) cf14 oc87 k9 (lw_V q3101 q3103 qs205 q311 q3104) rfl yk_X14_told ⟨Nat.le_of_ble_eq_true rfl, Nat.le_of_ble_eq_true rfl⟩ trivial ⟨kc87, trivial⟩ (Nat.le_of_ble_eq_true rfl) rfl dX14_checkUnknown_230 ?_
  cases h
  exact v_vret dX14_checkUnknown_233

def E_X14_isFinite_63 (x2 : Int) (rv : Option vA) (σo : vS) (q : Int × Int × vS) : Prop := ∀ (x3' : Int) (x4' : Int) (s' : vS), q = (x3', x4', s') → rg x3' → rg x4' → VW cX14_isFinite (RX14, rv, σo, (some .boolean), 0, 0, 6, []) (P0 []) s' 142 [(2, vI x2), (3, vI x3'), (4, vI x4')] []
def j_X14_isFinite_102 (rec : Int → Int → Int → Int → vS → Option (Int × Int × vS)) (x2 : Int) (x4 : Int) (x5 : Int) (z0 : Int) (s : vS) : Option (Int × Int × vS) :=
  if x4 = 0 then
    gd (inb x5 (gN s 117)) <|
    gd (inb (gE s 117 x5) (gN s 155)) <|
    if (gZ s 155 (gE s 117 x5)) = 0 then
      gd (inb x5 (gN s 120)) <|
      vl (gE s 120 x5) fun y10 =>
      rec x2 z0 0 y10 s
    else
      gd (inb x5 (gN s 120)) <|
      vl (gE s 120 x5) fun y14 =>
      rec x2 z0 1 y14 s
  else
    gd (inb x5 (gN s 120)) <|
    vl (gE s 120 x5) fun y3 =>
    rec x2 z0 1 y3 s
theorem wj_X14_isFinite_102 {x2 : Int} {x4 : Int} {x5 : Int} {z0 : Int} {s : vS} {rv : Option vA} {σo : vS} {rec : Int → Int → Int → Int → vS → Option (Int × Int × vS)} {q : Int × Int × vS} (h : j_X14_isFinite_102 rec x2 x4 x5 z0 s = some q)  (rx2 : rg x2) (rx4 : rg x4) (rx5 : rg x5) (rz0 : rg z0) (hrec : ∀ (y3 : Int) (y4 : Int) (y5 : Int) (s : vS) (q : Int × Int × vS), rec x2 y3 y4 y5 s = some q → rg y3 → rg y4 → rg y5 → E_X14_isFinite_63 x2 rv σo q → VW cX14_isFinite (RX14, rv, σo, (some .boolean), 0, 0, 6, []) (P0 []) s 63 [(0, vO 87), (2, vI x2), (3, vI y3), (4, vI y4), (5, vI y5)] []) (hE : E_X14_isFinite_63 x2 rv σo q) : VW cX14_isFinite (RX14, rv, σo, (some .boolean), 0, 0, 6, []) (P0 []) s 102 [(0, vO 87), (2, vI x2), (4, vI x4), (5, vI x5)] [vI z0] := by
  unfold j_X14_isFinite_102 at h
  refine v_istore_n (L1 := [(3, vI z0), (0, vO 87), (2, vI x2), (4, vI x4), (5, vI x5)]) dX14_isFinite_102 rfl (by decide) rfl ?_
  refine v_iload dX14_isFinite_103 3 rfl ?_
  refine v_if_ne (tgt := 123) dX14_isFinite_105 rx4 (by decide) (fun c1 => ?_) (fun c1 => ?_)
  · rw [if_neg c1] at h
    refine v_iconst dX14_isFinite_123 ?_
    refine v_goto (tgt := 128) dX14_isFinite_124 (by decide) ?_
    refine v_istore (L1 := [(4, vI 1), (3, vI z0), (0, vO 87), (2, vI x2), (5, vI x5)]) dX14_isFinite_128 (by decide) rfl ?_
    refine v_aload_n dX14_isFinite_130 2 rfl rfl ?_
    refine v_getS (f := 47) (t := 120) cf14 oc87 rfl rfl rfl (by decide) q2417 dX14_isFinite_131 ?_
    refine v_iload dX14_isFinite_134 4 rfl ?_
    obtain ⟨g2, h⟩ := gd_some h
    refine v_iald oc120 rx5 g2.1 g2.2 dX14_isFinite_136 ?_
    obtain ⟨y3, e4, h⟩ := vl_some h
    rw [← e4]
    have r5 : rg y3 := by rw [e4]; exact gE_rg _ _ _
    refine v_istore (L1 := [(5, vI y3), (4, vI 1), (3, vI z0), (0, vO 87), (2, vI x2)]) dX14_isFinite_137 (by decide) rfl ?_
    refine v_goto (tgt := 63) dX14_isFinite_139 (by decide) ?_
    refine v_sub [3, 4, 2, 1, 0] (L1 := [(0, vO 87), (2, vI x2), (3, vI z0), (4, vI 1), (5, vI y3)]) rfl ?_
    exact hrec z0 1 y3 s _ h rz0 (rgl rfl) r5 hE
  · rw [if_pos c1] at h
    refine v_aload_n dX14_isFinite_108 1 rfl rfl ?_
    refine v_getS (f := 95) (t := 155) cf14 oc87 rfl rfl rfl (by decide) q2465 dX14_isFinite_109 ?_
    refine v_aload_n dX14_isFinite_112 1 rfl rfl ?_
    refine v_getS (f := 44) (t := 117) cf14 oc87 rfl rfl rfl (by decide) q2414 dX14_isFinite_113 ?_
    refine v_iload dX14_isFinite_116 4 rfl ?_
    obtain ⟨g6, h⟩ := gd_some h
    refine v_iald oc117 rx5 g6.1 g6.2 dX14_isFinite_118 ?_
    obtain ⟨g7, h⟩ := gd_some h
    refine v_zald oc155 (gE_rg _ _ _) g7.1 g7.2 dX14_isFinite_119 ?_
    refine v_if_eq (tgt := 127) dX14_isFinite_120 (gZ_rg _ _ _) (by decide) (fun c8 => ?_) (fun c8 => ?_)
    · rw [if_pos c8] at h
      refine v_iconst dX14_isFinite_127 ?_
      refine v_istore (L1 := [(4, vI 0), (3, vI z0), (0, vO 87), (2, vI x2), (5, vI x5)]) dX14_isFinite_128 (by decide) rfl ?_
      refine v_aload_n dX14_isFinite_130 2 rfl rfl ?_
      refine v_getS (f := 47) (t := 120) cf14 oc87 rfl rfl rfl (by decide) q2417 dX14_isFinite_131 ?_
      refine v_iload dX14_isFinite_134 4 rfl ?_
      obtain ⟨g9, h⟩ := gd_some h
      refine v_iald oc120 rx5 g9.1 g9.2 dX14_isFinite_136 ?_
      obtain ⟨y10, e11, h⟩ := vl_some h
      rw [← e11]
      have r12 : rg y10 := by rw [e11]; exact gE_rg _ _ _
      refine v_istore (L1 := [(5, vI y10), (4, vI 0), (3, vI z0), (0, vO 87), (2, vI x2)]) dX14_isFinite_137 (by decide) rfl ?_
      refine v_goto (tgt := 63) dX14_isFinite_139 (by decide) ?_
      refine v_sub [3, 4, 2, 1, 0] (L1 := [(0, vO 87), (2, vI x2), (3, vI z0), (4, vI 0), (5, vI y10)]) rfl ?_
      exact hrec z0 0 y10 s _ h rz0 (rgl rfl) r12 hE
    · rw [if_neg c8] at h
      refine v_iconst dX14_isFinite_123 ?_
      refine v_goto (tgt := 128) dX14_isFinite_124 (by decide) ?_
      refine v_istore (L1 := [(4, vI 1), (3, vI z0), (0, vO 87), (2, vI x2), (5, vI x5)]) dX14_isFinite_128 (by decide) rfl ?_
      refine v_aload_n dX14_isFinite_130 2 rfl rfl ?_
      refine v_getS (f := 47) (t := 120) cf14 oc87 rfl rfl rfl (by decide) q2417 dX14_isFinite_131 ?_
      refine v_iload dX14_isFinite_134 4 rfl ?_
      obtain ⟨g13, h⟩ := gd_some h
      refine v_iald oc120 rx5 g13.1 g13.2 dX14_isFinite_136 ?_
      obtain ⟨y14, e15, h⟩ := vl_some h
      rw [← e15]
      have r16 : rg y14 := by rw [e15]; exact gE_rg _ _ _
      refine v_istore (L1 := [(5, vI y14), (4, vI 1), (3, vI z0), (0, vO 87), (2, vI x2)]) dX14_isFinite_137 (by decide) rfl ?_
      refine v_goto (tgt := 63) dX14_isFinite_139 (by decide) ?_
      refine v_sub [3, 4, 2, 1, 0] (L1 := [(0, vO 87), (2, vI x2), (3, vI z0), (4, vI 1), (5, vI y14)]) rfl ?_
      exact hrec z0 1 y14 s _ h rz0 (rgl rfl) r16 hE

def l_X14_isFinite_63 : Nat → Int → Int → Int → Int → vS → Option (Int × Int × vS)
  | 0, _, _, _, _, _ => none
  | n + 1, x2, x3, x4, x5, s =>
    if x5 < 0 then
      some (x3, x4, s)
    else
      if x3 = 0 then
        j_X14_isFinite_102 (l_X14_isFinite_63 n) x2 x4 x5 0 s
      else
        gd (inb x5 (gN s 118)) <|
        if 0 < (gE s 118 x5) then
          j_X14_isFinite_102 (l_X14_isFinite_63 n) x2 x4 x5 1 s
        else
          gd (inb x5 (gN s 117)) <|
          gd (inb (gE s 117 x5) (gN s 155)) <|
          if (gZ s 155 (gE s 117 x5)) = 0 then
            j_X14_isFinite_102 (l_X14_isFinite_63 n) x2 x4 x5 0 s
          else
            j_X14_isFinite_102 (l_X14_isFinite_63 n) x2 x4 x5 1 s
theorem wl_X14_isFinite_63 {x2 : Int} {rv : Option vA} {σo : vS}  (rx2 : rg x2) : ∀ (n : Nat) (x3 : Int) (x4 : Int) (x5 : Int) (s : vS) (q : Int × Int × vS), l_X14_isFinite_63 n x2 x3 x4 x5 s = some q → rg x3 → rg x4 → rg x5 → E_X14_isFinite_63 x2 rv σo q → VW cX14_isFinite (RX14, rv, σo, (some .boolean), 0, 0, 6, []) (P0 []) s 63 [(0, vO 87), (2, vI x2), (3, vI x3), (4, vI x4), (5, vI x5)] [] := by
  intro n
  induction n with
  | zero => intro x3 x4 x5 s q h; cases h
  | succ n ih =>
    intro x3 x4 x5 s q h rx3 rx4 rx5 hE
    unfold l_X14_isFinite_63 at h
    refine v_iload dX14_isFinite_63 4 rfl ?_
    refine v_if_lt (tgt := 142) dX14_isFinite_65 rx5 (by decide) (fun c1 => ?_) (fun c1 => ?_)
    · rw [if_pos c1] at h
      cases h
      refine v_sub [1, 2, 3] (L1 := [(2, vI x2), (3, vI x3), (4, vI x4)]) rfl ?_
      exact hE _ _ _ rfl rx3 rx4
    · rw [if_neg c1] at h
      refine v_iload_n dX14_isFinite_68 2 rfl rfl ?_
      refine v_if_eq (tgt := 101) dX14_isFinite_69 rx3 (by decide) (fun c2 => ?_) (fun c2 => ?_)
      · rw [if_pos c2] at h
        refine v_iconst dX14_isFinite_101 ?_
        refine v_sub [0, 1, 3, 4] (L1 := [(0, vO 87), (2, vI x2), (4, vI x4), (5, vI x5)]) rfl ?_
        exact wj_X14_isFinite_102 h rx2 rx4 rx5 (rgl rfl) ih hE
      · rw [if_neg c2] at h
        refine v_aload_n dX14_isFinite_72 0 rfl rfl ?_
        refine v_getS (f := 45) (t := 118) cf14 oc87 rfl rfl rfl (by decide) q2415 dX14_isFinite_73 ?_
        refine v_iload dX14_isFinite_76 4 rfl ?_
        obtain ⟨g3, h⟩ := gd_some h
        refine v_iald oc118 rx5 g3.1 g3.2 dX14_isFinite_78 ?_
        refine v_if_gt (tgt := 97) dX14_isFinite_79 (gE_rg _ _ _) (by decide) (fun c4 => ?_) (fun c4 => ?_)
        · rw [if_pos c4] at h
          refine v_iconst dX14_isFinite_97 ?_
          refine v_goto (tgt := 102) dX14_isFinite_98 (by decide) ?_
          refine v_sub [0, 1, 3, 4] (L1 := [(0, vO 87), (2, vI x2), (4, vI x4), (5, vI x5)]) rfl ?_
          exact wj_X14_isFinite_102 h rx2 rx4 rx5 (rgl rfl) ih hE
        · rw [if_neg c4] at h
          refine v_aload_n dX14_isFinite_82 0 rfl rfl ?_
          refine v_getS (f := 95) (t := 155) cf14 oc87 rfl rfl rfl (by decide) q2465 dX14_isFinite_83 ?_
          refine v_aload_n dX14_isFinite_86 0 rfl rfl ?_
          refine v_getS (f := 44) (t := 117) cf14 oc87 rfl rfl rfl (by decide) q2414 dX14_isFinite_87 ?_
          refine v_iload dX14_isFinite_90 4 rfl ?_
          obtain ⟨g5, h⟩ := gd_some h
          refine v_iald oc117 rx5 g5.1 g5.2 dX14_isFinite_92 ?_
          obtain ⟨g6, h⟩ := gd_some h
          refine v_zald oc155 (gE_rg _ _ _) g6.1 g6.2 dX14_isFinite_93 ?_
          refine v_if_eq (tgt := 101) dX14_isFinite_94 (gZ_rg _ _ _) (by decide) (fun c7 => ?_) (fun c7 => ?_)
          · rw [if_pos c7] at h
            refine v_iconst dX14_isFinite_101 ?_
            refine v_sub [0, 1, 3, 4] (L1 := [(0, vO 87), (2, vI x2), (4, vI x4), (5, vI x5)]) rfl ?_
            exact wj_X14_isFinite_102 h rx2 rx4 rx5 (rgl rfl) ih hE
          · rw [if_neg c7] at h
            refine v_iconst dX14_isFinite_97 ?_
            refine v_goto (tgt := 102) dX14_isFinite_98 (by decide) ?_
            refine v_sub [0, 1, 3, 4] (L1 := [(0, vO 87), (2, vI x2), (4, vI x4), (5, vI x5)]) rfl ?_
            exact wj_X14_isFinite_102 h rx2 rx4 rx5 (rgl rfl) ih hE

def j_X14_isFinite_50 (x1 : Int) (x2 : Int) (s : vS) : Option (Int × vS) :=
  gd (inb x1 (gN s 104)) <|
  vl (gE s 104 x1) fun y2 =>
  lq_2 (l_X14_isFinite_63 FU x2 1 0 y2 s) fun y5 y6 s7 =>
  if x2 = 16 then
    gd (y6 = 0 ∨ y6 = 1) <|
    some (y6, s7)
  else
    gd (y5 = 0 ∨ y5 = 1) <|
    some (y5, s7)
theorem wj_X14_isFinite_50 {x1 : Int} {x2 : Int} {s : vS} {out : Int × vS} (h : j_X14_isFinite_50 x1 x2 s = some out)  (rx1 : rg x1) (rx2 : rg x2) : VW cX14_isFinite (RX14, (some (vI out.1)), out.2, (some .boolean), 0, 0, 6, []) (P0 []) s 50 [(0, vO 87), (1, vI x1), (2, vI x2)] [] := by
  unfold j_X14_isFinite_50 at h
  refine v_iconst dX14_isFinite_50 ?_
  refine v_istore_n (L1 := [(3, vI 1), (0, vO 87), (1, vI x1), (2, vI x2)]) dX14_isFinite_51 rfl (by decide) rfl ?_
  refine v_iconst dX14_isFinite_52 ?_
  refine v_istore (L1 := [(4, vI 0), (3, vI 1), (0, vO 87), (1, vI x1), (2, vI x2)]) dX14_isFinite_53 (by decide) rfl ?_
  refine v_aload_n dX14_isFinite_55 2 rfl rfl ?_
  refine v_getS (f := 28) (t := 104) cf14 oc87 rfl rfl rfl (by decide) q2398 dX14_isFinite_56 ?_
  refine v_iload_n dX14_isFinite_59 3 rfl rfl ?_
  obtain ⟨g1, h⟩ := gd_some h
  refine v_iald oc104 rx1 g1.1 g1.2 dX14_isFinite_60 ?_
  obtain ⟨y2, e3, h⟩ := vl_some h
  rw [← e3]
  have r4 : rg y2 := by rw [e3]; exact gE_rg _ _ _
  refine v_istore (L1 := [(5, vI y2), (4, vI 0), (3, vI 1), (0, vO 87), (1, vI x1), (2, vI x2)]) dX14_isFinite_61 (by decide) rfl ?_
  refine v_sub [3, 5, 2, 1, 0] (L1 := [(0, vO 87), (2, vI x2), (3, vI 1), (4, vI 0), (5, vI y2)]) rfl ?_
  obtain ⟨y5, y6, s7, e8, h⟩ := lq_2_some h
  refine wl_X14_isFinite_63 rx2 FU 1 0 y2 s _ e8 (rgl rfl) (rgl rfl) r4 ?_
  unfold E_X14_isFinite_63
  intro y5' y6' s7' z_ r9 r10
  cases z_
  refine v_iload_n dX14_isFinite_142 0 rfl rfl ?_
  refine v_bipush dX14_isFinite_143 rfl ?_
  refine v_icmp_ne (tgt := 153) dX14_isFinite_145 rx2 (rgl rfl) (by decide) (fun c11 => ?_) (fun c11 => ?_)
  · rw [if_neg c11] at h
    refine v_iload_n dX14_isFinite_153 1 rfl rfl ?_
    obtain ⟨g12, h⟩ := gd_some h
    cases h
    exact v_zret g12 dX14_isFinite_154
  · rw [if_pos c11] at h
    refine v_iload dX14_isFinite_148 2 rfl ?_
    refine v_goto (tgt := 154) dX14_isFinite_150 (by decide) ?_
    obtain ⟨g13, h⟩ := gd_some h
    cases h
    exact v_zret g13 dX14_isFinite_154

def f_X14_isFinite (x1 : Int) (s : vS) : Option (Int × vS) :=
  gd (inb x1 (gN s 97)) <|
  vl (gE s 97 x1) fun y2 =>
  if y2 = 17 then
    gd (inb x1 (gN s 101)) <|
    gd (inb (gE s 101 x1) (gN s 142)) <|
    gd (inb (gE s 142 (gE s 101 x1)) (gN s 155)) <|
    gd ((gZ s 155 (gE s 142 (gE s 101 x1))) = 0 ∨ (gZ s 155 (gE s 142 (gE s 101 x1))) = 1) <|
    some (gZ s 155 (gE s 142 (gE s 101 x1)), s)
  else
    if y2 = 12 then
      j_X14_isFinite_50 x1 y2 s
    else
      if y2 = 13 then
        j_X14_isFinite_50 x1 y2 s
      else
        if y2 = 16 then
          j_X14_isFinite_50 x1 y2 s
        else
          some (1, s)
theorem yk_X14_isFinite : yOk yX14_isFinite 1 := ⟨by decide, by decide, by decide +kernel⟩
theorem c_X14_isFinite {x1 : Int} {s : vS} {out : Int × vS} (h : f_X14_isFinite x1 s = some out)  (rx1 : rg x1) : VC yX14_isFinite cX14_isFinite 6 (some .boolean) 0 0 [vO 87, vI x1] s (some (vI out.1)) out.2 [] := by
  unfold f_X14_isFinite at h
  refine VC.of RX14 (by decide) rfl (Nat.le_of_ble_eq_true rfl) ?_
  show VW cX14_isFinite (RX14, (some (vI out.1)), out.2, (some .boolean), 0, 0, 6, []) (P0 []) s 0 [(0, vO 87), (1, vI x1)] []
  refine v_aload_n dX14_isFinite_0 0 rfl rfl ?_
  refine v_getS (f := 21) (t := 97) cf14 oc87 rfl rfl rfl (by decide) q2391 dX14_isFinite_1 ?_
  refine v_iload_n dX14_isFinite_4 1 rfl rfl ?_
  obtain ⟨g1, h⟩ := gd_some h
  refine v_iald oc97 rx1 g1.1 g1.2 dX14_isFinite_5 ?_
  obtain ⟨y2, e3, h⟩ := vl_some h
  rw [← e3]
  have r4 : rg y2 := by rw [e3]; exact gE_rg _ _ _
  refine v_istore_n (L1 := [(2, vI y2), (0, vO 87), (1, vI x1)]) dX14_isFinite_6 rfl (by decide) rfl ?_
  refine v_iload_n dX14_isFinite_7 0 rfl rfl ?_
  refine v_bipush dX14_isFinite_8 rfl ?_
  refine v_icmp_ne (tgt := 30) dX14_isFinite_10 r4 (rgl rfl) (by decide) (fun c5 => ?_) (fun c5 => ?_)
  · rw [if_neg c5] at h
    refine v_iload_n dX14_isFinite_30 0 rfl rfl ?_
    refine v_bipush dX14_isFinite_31 rfl ?_
    refine v_icmp_eq (tgt := 50) dX14_isFinite_33 r4 (rgl rfl) (by decide) (fun c6 => ?_) (fun c6 => ?_)
    · rw [if_pos c6] at h
      refine v_sub [1, 2, 0] (L1 := [(0, vO 87), (1, vI x1), (2, vI y2)]) rfl ?_
      exact wj_X14_isFinite_50 h rx1 r4
    · rw [if_neg c6] at h
      refine v_iload_n dX14_isFinite_36 0 rfl rfl ?_
      refine v_bipush dX14_isFinite_37 rfl ?_
      refine v_icmp_eq (tgt := 50) dX14_isFinite_39 r4 (rgl rfl) (by decide) (fun c7 => ?_) (fun c7 => ?_)
      · rw [if_pos c7] at h
        refine v_sub [1, 2, 0] (L1 := [(0, vO 87), (1, vI x1), (2, vI y2)]) rfl ?_
        exact wj_X14_isFinite_50 h rx1 r4
      · rw [if_neg c7] at h
        refine v_iload_n dX14_isFinite_42 0 rfl rfl ?_
        refine v_bipush dX14_isFinite_43 rfl ?_
        refine v_icmp_eq (tgt := 50) dX14_isFinite_45 r4 (rgl rfl) (by decide) (fun c8 => ?_) (fun c8 => ?_)
        · rw [if_pos c8] at h
          refine v_sub [1, 2, 0] (L1 := [(0, vO 87), (1, vI x1), (2, vI y2)]) rfl ?_
          exact wj_X14_isFinite_50 h rx1 r4
        · rw [if_neg c8] at h
          refine v_iconst dX14_isFinite_48 ?_
          cases h
          exact v_zret (Or.inr rfl) dX14_isFinite_49
  · rw [if_pos c5] at h
    refine v_aload_n dX14_isFinite_13 1 rfl rfl ?_
    refine v_getS (f := 95) (t := 155) cf14 oc87 rfl rfl rfl (by decide) q2465 dX14_isFinite_14 ?_
    refine v_aload_n dX14_isFinite_17 1 rfl rfl ?_
    refine v_getS (f := 74) (t := 142) cf14 oc87 rfl rfl rfl (by decide) q2444 dX14_isFinite_18 ?_
    refine v_aload_n dX14_isFinite_21 1 rfl rfl ?_
    refine v_getS (f := 25) (t := 101) cf14 oc87 rfl rfl rfl (by decide) q2395 dX14_isFinite_22 ?_
    refine v_iload_n dX14_isFinite_25 2 rfl rfl ?_
    obtain ⟨g9, h⟩ := gd_some h
    refine v_iald oc101 rx1 g9.1 g9.2 dX14_isFinite_26 ?_
    obtain ⟨g10, h⟩ := gd_some h
    refine v_iald oc142 (gE_rg _ _ _) g10.1 g10.2 dX14_isFinite_27 ?_
    obtain ⟨g11, h⟩ := gd_some h
    refine v_zald oc155 (gE_rg _ _ _) g11.1 g11.2 dX14_isFinite_28 ?_
    obtain ⟨g12, h⟩ := gd_some h
    cases h
    exact v_zret g12 dX14_isFinite_29
