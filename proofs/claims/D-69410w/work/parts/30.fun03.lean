set_option maxRecDepth 100000
set_option maxHeartbeats 1000000
def f_X10_has (x1 : Int) (s : vS) : Option (Int × vS) :=
  bd (f_X10_slot x1 s) fun r4 s1 =>
  gd (gN s1 29 = gN s 29) <|
  gd (inb r4 (gN s1 29)) <|
  if (gE s1 29 r4) = 0 then
    some (0, s1)
  else
    some (1, s1)
theorem yk_X10_has : yOk yX10_has 1 := ⟨by decide, by decide, by decide +kernel⟩
theorem c_X10_has {x1 : Int} {s : vS} {out : Int × vS} (h : f_X10_has x1 s = some out)  (rx1 : rg x1) : VC yX10_has cX10_has 2 (some .boolean) 1 22 [vO 28, vI x1] s (some (vI out.1)) out.2 [] := by
  unfold f_X10_has at h
  refine VC.of RX10 (by decide) rfl (Nat.le_of_ble_eq_true rfl) ?_
  show VW cX10_has (RX10, (some (vI out.1)), out.2, (some .boolean), 1, 22, 2, []) (P0 []) s 0 [(0, vO 28), (1, vI x1)] []
  refine v_aload_n dX10_has_0 0 rfl rfl ?_
  refine v_getS (f := 0) (t := 29) cf10 oc28 rfl rfl rfl (by decide) q599 dX10_has_1 ?_
  refine v_aload_n dX10_has_4 0 rfl rfl ?_
  refine v_iload_n dX10_has_5 1 rfl rfl ?_
  obtain ⟨r4, s1, e2, h⟩ := bd_some h
  have k3 := c_X10_slot e2 rx1
  have r5 : rg r4 := k3.1.2.2
  obtain ⟨g6, h⟩ := gd_some h
  refine v_callV (st := [vO 29]) cf10 oc28 k3 (lw_V q1558 q1560 qs55 q307 q1561) rfl yk_X10_slot ⟨Nat.le_of_ble_eq_true rfl, Nat.le_of_ble_eq_true rfl⟩ ⟨(kp_arr (by decide) g6), trivial⟩ ⟨kc28, trivial⟩ (Nat.le_of_ble_eq_true rfl) rfl dX10_has_6 ?_
  obtain ⟨g7, h⟩ := gd_some h
  refine v_iald oc29 r5 g7.1 g7.2 dX10_has_9 ?_
  refine v_if_eq (tgt := 17) dX10_has_10 (gE_rg _ _ _) (by decide) (fun c8 => ?_) (fun c8 => ?_)
  · rw [if_pos c8] at h
    refine v_iconst dX10_has_17 ?_
    cases h
    exact v_zret (Or.inl rfl) dX10_has_18
  · rw [if_neg c8] at h
    refine v_iconst dX10_has_13 ?_
    refine v_goto (tgt := 18) dX10_has_14 (by decide) ?_
    cases h
    exact v_zret (Or.inr rfl) dX10_has_18

def E_X6_distinct_2_16 (rv : Option vA) (σo : vS) (q : vS) : Prop := ∀ (s' : vS), q = s' → VW cX6_distinct_2 (RX6, rv, σo, none, 8, 186, 6, []) (P0 []) s' 170 [] []
def E_X6_distinct_2_39 (x2 : Int) (x3 : Int) (rv : Option vA) (σo : vS) (q : Int × vS) : Prop := ∀ (x4' : Int) (s' : vS), q = (x4', s') → rg x4' → VW cX6_distinct_2 (RX6, rv, σo, none, 8, 186, 6, []) (P0 []) s' 83 [(0, vO 13), (2, vI x2), (3, vI x3), (4, vI x4')] []
def l_X6_distinct_2_39 : Nat → Int → Int → Int → Int → vS → Option (Int × vS)
  | 0, _, _, _, _, _ => none
  | n + 1, x2, x3, x4, x5, s =>
    if (gI s 13 23) ≤ x5 then
      some (x4, s)
    else
      if x4 = 0 then
        gd (inb x5 (gN s 42)) <|
        bd (f_X10_has (gE s 42 x5) s) fun r10 s7 =>
        if r10 = 0 then
          vl (w32 (x5 + 1)) fun y13 =>
          l_X6_distinct_2_39 n x2 x3 0 y13 s7
        else
          vl (w32 (x5 + 1)) fun y16 =>
          l_X6_distinct_2_39 n x2 x3 1 y16 s7
      else
        vl (w32 (x5 + 1)) fun y3 =>
        l_X6_distinct_2_39 n x2 x3 1 y3 s
theorem wl_X6_distinct_2_39 {x2 : Int} {x3 : Int} {rv : Option vA} {σo : vS}  (rx2 : rg x2) (rx3 : rg x3) : ∀ (n : Nat) (x4 : Int) (x5 : Int) (s : vS) (q : Int × vS), l_X6_distinct_2_39 n x2 x3 x4 x5 s = some q → rg x4 → rg x5 → E_X6_distinct_2_39 x2 x3 rv σo q → VW cX6_distinct_2 (RX6, rv, σo, none, 8, 186, 6, []) (P0 []) s 39 [(0, vO 13), (2, vI x2), (3, vI x3), (4, vI x4), (5, vI x5)] [] := by
  intro n
  induction n with
  | zero => intro x4 x5 s q h; cases h
  | succ n ih =>
    intro x4 x5 s q h rx4 rx5 hE
    unfold l_X6_distinct_2_39 at h
    refine v_iload dX6_distinct_2_39 4 rfl ?_
    refine v_aload_n dX6_distinct_2_41 0 rfl rfl ?_
    refine v_getI (f := 23) cf6 oc13 rfl (by decide) q650 dX6_distinct_2_42 ?_
    refine v_icmp_ge (tgt := 83) dX6_distinct_2_45 rx5 (gI_rg _ _ _) (by decide) (fun c1 => ?_) (fun c1 => ?_)
    · rw [if_pos c1] at h
      cases h
      refine v_sub [0, 1, 2, 3] (L1 := [(0, vO 13), (2, vI x2), (3, vI x3), (4, vI x4)]) rfl ?_
      exact hE _ _ rfl rx4
    · rw [if_neg c1] at h
      refine v_iload dX6_distinct_2_48 3 rfl ?_
      refine v_if_ne (tgt := 70) dX6_distinct_2_50 rx4 (by decide) (fun c2 => ?_) (fun c2 => ?_)
      · rw [if_neg c2] at h
        refine v_iconst dX6_distinct_2_70 ?_
        refine v_goto (tgt := 75) dX6_distinct_2_71 (by decide) ?_
        refine v_istore (L1 := [(4, vI 1), (0, vO 13), (2, vI x2), (3, vI x3), (5, vI x5)]) dX6_distinct_2_75 (by decide) rfl ?_
        obtain ⟨y3, e4, h⟩ := vl_some h
        refine v_iinc (L1 := [(5, vI (w32 (x5 + 1))), (4, vI 1), (0, vO 13), (2, vI x2), (3, vI x3)]) dX6_distinct_2_77 4 rfl (by decide) rfl ?_
        rw [← e4]
        have r5 : rg y3 := by rw [e4]; exact w32_rg _
        refine v_goto (tgt := 39) dX6_distinct_2_80 (by decide) ?_
        refine v_sub [2, 3, 4, 1, 0] (L1 := [(0, vO 13), (2, vI x2), (3, vI x3), (4, vI 1), (5, vI y3)]) rfl ?_
        exact ih 1 y3 s _ h (rgl rfl) r5 hE
      · rw [if_pos c2] at h
        refine v_aload_n dX6_distinct_2_53 0 rfl rfl ?_
        refine v_getS (f := 8) (t := 28) cf6 oc13 rfl rfl rfl (by decide) q635 dX6_distinct_2_54 ?_
        refine v_aload_n dX6_distinct_2_57 0 rfl rfl ?_
        refine v_getS (f := 22) (t := 42) cf6 oc13 rfl rfl rfl (by decide) q649 dX6_distinct_2_58 ?_
        refine v_iload dX6_distinct_2_61 4 rfl ?_
        obtain ⟨g6, h⟩ := gd_some h
        refine v_iald oc42 rx5 g6.1 g6.2 dX6_distinct_2_63 ?_
        obtain ⟨r10, s7, e8, h⟩ := bd_some h
        have k9 := c_X10_has e8 (gE_rg _ _ _)
        have r11 : rg r10 := k9.1.2.2
        refine v_callV (st := []) cf10 oc28 k9 (lw_V q1648 q1649 q1650 q307 q1651) rfl yk_X10_has ⟨Nat.le_of_ble_eq_true rfl, Nat.le_of_ble_eq_true rfl⟩ trivial ⟨kc13, trivial⟩ (Nat.le_of_ble_eq_true rfl) rfl dX6_distinct_2_64 ?_
        refine v_if_eq (tgt := 74) dX6_distinct_2_67 r11 (by decide) (fun c12 => ?_) (fun c12 => ?_)
        · rw [if_pos c12] at h
          refine v_iconst dX6_distinct_2_74 ?_
          refine v_istore (L1 := [(4, vI 0), (0, vO 13), (2, vI x2), (3, vI x3), (5, vI x5)]) dX6_distinct_2_75 (by decide) rfl ?_
          obtain ⟨y13, e14, h⟩ := vl_some h
          refine v_iinc (L1 := [(5, vI (w32 (x5 + 1))), (4, vI 0), (0, vO 13), (2, vI x2), (3, vI x3)]) dX6_distinct_2_77 4 rfl (by decide) rfl ?_
          rw [← e14]
          have r15 : rg y13 := by rw [e14]; exact w32_rg _
          refine v_goto (tgt := 39) dX6_distinct_2_80 (by decide) ?_
          refine v_sub [2, 3, 4, 1, 0] (L1 := [(0, vO 13), (2, vI x2), (3, vI x3), (4, vI 0), (5, vI y13)]) rfl ?_
          exact ih 0 y13 s7 _ h (rgl rfl) r15 hE
        · rw [if_neg c12] at h
          refine v_iconst dX6_distinct_2_70 ?_
          refine v_goto (tgt := 75) dX6_distinct_2_71 (by decide) ?_
          refine v_istore (L1 := [(4, vI 1), (0, vO 13), (2, vI x2), (3, vI x3), (5, vI x5)]) dX6_distinct_2_75 (by decide) rfl ?_
          obtain ⟨y16, e17, h⟩ := vl_some h
          refine v_iinc (L1 := [(5, vI (w32 (x5 + 1))), (4, vI 1), (0, vO 13), (2, vI x2), (3, vI x3)]) dX6_distinct_2_77 4 rfl (by decide) rfl ?_
          rw [← e17]
          have r18 : rg y16 := by rw [e17]; exact w32_rg _
          refine v_goto (tgt := 39) dX6_distinct_2_80 (by decide) ?_
          refine v_sub [2, 3, 4, 1, 0] (L1 := [(0, vO 13), (2, vI x2), (3, vI x3), (4, vI 1), (5, vI y16)]) rfl ?_
          exact ih 1 y16 s7 _ h (rgl rfl) r18 hE

def E_X6_distinct_2_105 (x2 : Int) (x3 : Int) (rv : Option vA) (σo : vS) (q : vS) : Prop := ∀ (s' : vS), q = s' → VW cX6_distinct_2 (RX6, rv, σo, none, 8, 186, 6, []) (P0 []) s' 135 [(0, vO 13), (2, vI x2), (3, vI x3)] []
def l_X6_distinct_2_105 : Nat → Int → Int → Int → vS → Option (vS)
  | 0, _, _, _, _ => none
  | n + 1, x2, x3, x5, s =>
    if (gI s 13 23) ≤ x5 then
      some s
    else
      gd (inb x5 (gN s 42)) <|
      bd (f_X10_add (gE s 42 x5) s) fun r6 s3 =>
      vl (w32 (x5 + 1)) fun y8 =>
      l_X6_distinct_2_105 n x2 x3 y8 s3
theorem wl_X6_distinct_2_105 {x2 : Int} {x3 : Int} {rv : Option vA} {σo : vS}  (rx2 : rg x2) (rx3 : rg x3) : ∀ (n : Nat) (x5 : Int) (s : vS) (q : vS), l_X6_distinct_2_105 n x2 x3 x5 s = some q → rg x5 → E_X6_distinct_2_105 x2 x3 rv σo q → VW cX6_distinct_2 (RX6, rv, σo, none, 8, 186, 6, []) (P0 []) s 105 [(0, vO 13), (2, vI x2), (3, vI x3), (5, vI x5)] [] := by
  intro n
  induction n with
  | zero => intro x5 s q h; cases h
  | succ n ih =>
    intro x5 s q h rx5 hE
    unfold l_X6_distinct_2_105 at h
    refine v_iload dX6_distinct_2_105 3 rfl ?_
    refine v_aload_n dX6_distinct_2_107 0 rfl rfl ?_
    refine v_getI (f := 23) cf6 oc13 rfl (by decide) q650 dX6_distinct_2_108 ?_
    refine v_icmp_ge (tgt := 135) dX6_distinct_2_111 rx5 (gI_rg _ _ _) (by decide) (fun c1 => ?_) (fun c1 => ?_)
    · rw [if_pos c1] at h
      cases h
      refine v_sub [0, 1, 2] (L1 := [(0, vO 13), (2, vI x2), (3, vI x3)]) rfl ?_
      exact hE _ rfl 
    · rw [if_neg c1] at h
      refine v_aload_n dX6_distinct_2_114 0 rfl rfl ?_
      refine v_getS (f := 8) (t := 28) cf6 oc13 rfl rfl rfl (by decide) q635 dX6_distinct_2_115 ?_
      refine v_aload_n dX6_distinct_2_118 0 rfl rfl ?_
      refine v_getS (f := 22) (t := 42) cf6 oc13 rfl rfl rfl (by decide) q649 dX6_distinct_2_119 ?_
      refine v_iload dX6_distinct_2_122 3 rfl ?_
      obtain ⟨g2, h⟩ := gd_some h
      refine v_iald oc42 rx5 g2.1 g2.2 dX6_distinct_2_124 ?_
      obtain ⟨r6, s3, e4, h⟩ := bd_some h
      have k5 := c_X10_add e4 (gE_rg _ _ _)
      have r7 : rg r6 := k5.1.2.2
      refine v_callV (st := []) cf10 oc28 k5 (lw_V q1554 q1555 q1556 q307 q1557) rfl yk_X10_add ⟨Nat.le_of_ble_eq_true rfl, Nat.le_of_ble_eq_true rfl⟩ trivial ⟨kc13, trivial⟩ (Nat.le_of_ble_eq_true rfl) rfl dX6_distinct_2_125 ?_
      refine v_popI dX6_distinct_2_128 ?_
      obtain ⟨y8, e9, h⟩ := vl_some h
      refine v_iinc (L1 := [(5, vI (w32 (x5 + 1))), (0, vO 13), (2, vI x2), (3, vI x3)]) dX6_distinct_2_129 3 rfl (by decide) rfl ?_
      rw [← e9]
      have r10 : rg y8 := by rw [e9]; exact w32_rg _
      refine v_goto (tgt := 105) dX6_distinct_2_132 (by decide) ?_
      refine v_sub [1, 2, 3, 0] (L1 := [(0, vO 13), (2, vI x2), (3, vI x3), (5, vI y8)]) rfl ?_
      exact ih y8 s3 _ h r10 hE

def j_X6_distinct_2_158 (rec : Int → Int → vS → Option (vS)) (x2 : Int) (x3 : Int) (s : vS) : Option (vS) :=
  bd (f_X4_next x3 s) fun r4 s1 =>
  rec x2 r4 s1
theorem wj_X6_distinct_2_158 {x2 : Int} {x3 : Int} {s : vS} {rv : Option vA} {σo : vS} {rec : Int → Int → vS → Option (vS)} {q : vS} (h : j_X6_distinct_2_158 rec x2 x3 s = some q)  (rx2 : rg x2) (rx3 : rg x3) (hrec : ∀ (y3 : Int) (s : vS) (q : vS), rec x2 y3 s = some q → rg y3 → E_X6_distinct_2_16 rv σo q → VW cX6_distinct_2 (RX6, rv, σo, none, 8, 186, 6, []) (P0 []) s 16 [(0, vO 13), (2, vI x2), (3, vI y3)] []) (hE : E_X6_distinct_2_16 rv σo q) : VW cX6_distinct_2 (RX6, rv, σo, none, 8, 186, 6, []) (P0 []) s 158 [(0, vO 13), (2, vI x2), (3, vI x3)] [] := by
  unfold j_X6_distinct_2_158 at h
  refine v_aload_n dX6_distinct_2_158 0 rfl rfl ?_
  refine v_getS (f := 1) (t := 10) cf6 oc13 rfl rfl rfl (by decide) q628 dX6_distinct_2_159 ?_
  refine v_iload_n dX6_distinct_2_162 2 rfl rfl ?_
  obtain ⟨r4, s1, e2, h⟩ := bd_some h
  have k3 := c_X4_next e2 rx3
  have r5 : rg r4 := k3.1.2.2
  refine v_callV (st := []) cf4 oc10 k3 (lw_V q1483 q1404 q1405 q301 q1406) rfl yk_X4_next ⟨Nat.le_of_ble_eq_true rfl, Nat.le_of_ble_eq_true rfl⟩ trivial ⟨kc13, trivial⟩ (Nat.le_of_ble_eq_true rfl) rfl dX6_distinct_2_163 ?_
  refine v_istore_n (L1 := [(3, vI r4), (0, vO 13), (2, vI x2)]) dX6_distinct_2_166 rfl (by decide) rfl ?_
  refine v_goto (tgt := 16) dX6_distinct_2_167 (by decide) ?_
  refine v_sub [1, 2, 0] (L1 := [(0, vO 13), (2, vI x2), (3, vI r4)]) rfl ?_
  exact hrec r4 s1 _ h r5 hE

def l_X6_distinct_2_16 : Nat → Int → Int → vS → Option (vS)
  | 0, _, _, _ => none
  | n + 1, x2, x3, s =>
    if x3 = (-1) then
      some s
    else
      bd (f_X4_parts x3 s) fun r5 s2 =>
      bdv (f_X6_collect r5 s2) fun s7 =>
      lq_1 (l_X6_distinct_2_39 FU x2 x3 0 0 s7) fun y10 s11 =>
      if y10 = 0 then
        lq_0 (l_X6_distinct_2_105 FU x2 x3 0 s11) fun s15 =>
        if x2 = 0 then
          j_X6_distinct_2_158 (l_X6_distinct_2_16 n) x2 x3 s15
        else
          bd (f_X4_at x3 5 s15) fun r21 s18 =>
          if r21 = 0 then
            bdv (f_X10_clear s18) fun s24 =>
            j_X6_distinct_2_158 (l_X6_distinct_2_16 n) x2 x3 s24
          else
            j_X6_distinct_2_158 (l_X6_distinct_2_16 n) x2 x3 s18
      else
        bd (f_X4_lexeme x3 s11) fun r30 s27 =>
        bdv (f_X6_blame 9 r30 s27) fun s32 =>
        lq_0 (l_X6_distinct_2_105 FU x2 x3 0 s32) fun s35 =>
        if x2 = 0 then
          j_X6_distinct_2_158 (l_X6_distinct_2_16 n) x2 x3 s35
        else
          bd (f_X4_at x3 5 s35) fun r41 s38 =>
          if r41 = 0 then
            bdv (f_X10_clear s38) fun s44 =>
            j_X6_distinct_2_158 (l_X6_distinct_2_16 n) x2 x3 s44
          else
            j_X6_distinct_2_158 (l_X6_distinct_2_16 n) x2 x3 s38
theorem wl_X6_distinct_2_16 {x2 : Int} {rv : Option vA} {σo : vS}  (rx2 : rg x2) : ∀ (n : Nat) (x3 : Int) (s : vS) (q : vS), l_X6_distinct_2_16 n x2 x3 s = some q → rg x3 → E_X6_distinct_2_16 rv σo q → VW cX6_distinct_2 (RX6, rv, σo, none, 8, 186, 6, []) (P0 []) s 16 [(0, vO 13), (2, vI x2), (3, vI x3)] [] := by
  intro n
  induction n with
  | zero => intro x3 s q h; cases h
  | succ n ih =>
    intro x3 s q h rx3 hE
    unfold l_X6_distinct_2_16 at h
    refine v_iload_n dX6_distinct_2_16 2 rfl rfl ?_
    refine v_iconst dX6_distinct_2_17 ?_
    refine v_icmp_eq (tgt := 170) dX6_distinct_2_18 rx3 (rgl rfl) (by decide) (fun c1 => ?_) (fun c1 => ?_)
    · rw [if_pos c1] at h
      cases h
      refine v_sub [] (L1 := []) rfl ?_
      exact hE _ rfl 
    · rw [if_neg c1] at h
      refine v_aload_n dX6_distinct_2_21 0 rfl rfl ?_
      refine v_aload_n dX6_distinct_2_22 0 rfl rfl ?_
      refine v_getS (f := 1) (t := 10) cf6 oc13 rfl rfl rfl (by decide) q628 dX6_distinct_2_23 ?_
      refine v_iload_n dX6_distinct_2_26 2 rfl rfl ?_
      obtain ⟨r5, s2, e3, h⟩ := bd_some h
      have k4 := c_X4_parts e3 rx3
      have r6 : rg r5 := k4.1.2.2
      refine v_callV (st := [vO 13]) cf4 oc10 k4 (lw_V q1492 q1493 q1494 q301 q1495) rfl yk_X4_parts ⟨Nat.le_of_ble_eq_true rfl, Nat.le_of_ble_eq_true rfl⟩ ⟨kc13, trivial⟩ ⟨kc13, trivial⟩ (Nat.le_of_ble_eq_true rfl) rfl dX6_distinct_2_27 ?_
      obtain ⟨s7, e8, h⟩ := bdv_some h
      have k9 := c_X6_collect e8 r6
      refine v_callV (st := []) cf6 oc13 k9 (lw_V q1640 q1642 qs72 q303 q1643) rfl yk_X6_collect ⟨Nat.le_of_ble_eq_true rfl, Nat.le_of_ble_eq_true rfl⟩ trivial ⟨kc13, trivial⟩ (Nat.le_of_ble_eq_true rfl) rfl dX6_distinct_2_30 ?_
      refine v_iconst dX6_distinct_2_33 ?_
      refine v_istore (L1 := [(4, vI 0), (0, vO 13), (2, vI x2), (3, vI x3)]) dX6_distinct_2_34 (by decide) rfl ?_
      refine v_iconst dX6_distinct_2_36 ?_
      refine v_istore (L1 := [(5, vI 0), (4, vI 0), (0, vO 13), (2, vI x2), (3, vI x3)]) dX6_distinct_2_37 (by decide) rfl ?_
      refine v_sub [2, 3, 4, 1, 0] (L1 := [(0, vO 13), (2, vI x2), (3, vI x3), (4, vI 0), (5, vI 0)]) rfl ?_
      obtain ⟨y10, s11, e12, h⟩ := lq_1_some h
      refine wl_X6_distinct_2_39 rx2 rx3 FU 0 0 s7 _ e12 (rgl rfl) (rgl rfl) ?_
      unfold E_X6_distinct_2_39
      intro y10' s11' z_ r13
      cases z_
      refine v_iload dX6_distinct_2_83 3 rfl ?_
      refine v_if_eq (tgt := 102) dX6_distinct_2_85 r13 (by decide) (fun c14 => ?_) (fun c14 => ?_)
      · rw [if_pos c14] at h
        refine v_iconst dX6_distinct_2_102 ?_
        refine v_istore (L1 := [(5, vI 0), (0, vO 13), (2, vI x2), (3, vI x3), (4, vI y10)]) dX6_distinct_2_103 (by decide) rfl ?_
        refine v_sub [1, 2, 3, 0] (L1 := [(0, vO 13), (2, vI x2), (3, vI x3), (5, vI 0)]) rfl ?_
        obtain ⟨s15, e16, h⟩ := lq_0_some h
        refine wl_X6_distinct_2_105 rx2 rx3 FU 0 s11 _ e16 (rgl rfl) ?_
        unfold E_X6_distinct_2_105
        intro s15' z_
        cases z_
        refine v_iload_n dX6_distinct_2_135 1 rfl rfl ?_
        refine v_if_eq (tgt := 158) dX6_distinct_2_136 rx2 (by decide) (fun c17 => ?_) (fun c17 => ?_)
        · rw [if_pos c17] at h
          exact wj_X6_distinct_2_158 h rx2 rx3 ih hE
        · rw [if_neg c17] at h
          refine v_aload_n dX6_distinct_2_139 0 rfl rfl ?_
          refine v_getS (f := 1) (t := 10) cf6 oc13 rfl rfl rfl (by decide) q628 dX6_distinct_2_140 ?_
          refine v_iload_n dX6_distinct_2_143 2 rfl rfl ?_
          refine v_iconst dX6_distinct_2_144 ?_
          obtain ⟨r21, s18, e19, h⟩ := bd_some h
          have k20 := c_X4_at e19 rx3 (rgl rfl)
          have r22 : rg r21 := k20.1.2.2
          refine v_callV (st := []) cf4 oc10 k20 (lw_V q1500 q1400 q1401 q301 q1402) rfl yk_X4_at ⟨Nat.le_of_ble_eq_true rfl, Nat.le_of_ble_eq_true rfl⟩ trivial ⟨kc13, trivial⟩ (Nat.le_of_ble_eq_true rfl) rfl dX6_distinct_2_145 ?_
          refine v_if_ne (tgt := 158) dX6_distinct_2_148 r22 (by decide) (fun c23 => ?_) (fun c23 => ?_)
          · rw [if_neg c23] at h
            exact wj_X6_distinct_2_158 h rx2 rx3 ih hE
          · rw [if_pos c23] at h
            refine v_aload_n dX6_distinct_2_151 0 rfl rfl ?_
            refine v_getS (f := 8) (t := 28) cf6 oc13 rfl rfl rfl (by decide) q635 dX6_distinct_2_152 ?_
            obtain ⟨s24, e25, h⟩ := bdv_some h
            have k26 := c_X10_clear e25
            refine v_callV (st := []) cf10 oc28 k26 (lw_V q1545 q1546 q1547 q307 q1548) rfl yk_X10_clear ⟨Nat.le_of_ble_eq_true rfl, Nat.le_of_ble_eq_true rfl⟩ trivial ⟨kc13, trivial⟩ (Nat.le_of_ble_eq_true rfl) rfl dX6_distinct_2_155 ?_
            exact wj_X6_distinct_2_158 h rx2 rx3 ih hE
      · rw [if_neg c14] at h
        refine v_aload_n dX6_distinct_2_88 0 rfl rfl ?_
        refine v_bipush dX6_distinct_2_89 rfl ?_
        refine v_aload_n dX6_distinct_2_91 0 rfl rfl ?_
        refine v_getS (f := 1) (t := 10) cf6 oc13 rfl rfl rfl (by decide) q628 dX6_distinct_2_92 ?_
        refine v_iload_n dX6_distinct_2_95 2 rfl rfl ?_
        obtain ⟨r30, s27, e28, h⟩ := bd_some h
        have k29 := c_X4_lexeme e28 rx3
        have r31 : rg r30 := k29.1.2.2
        refine v_callV (st := [vI 9, vO 13]) cf4 oc10 k29 (lw_V q1449 q1450 q1451 q301 q1452) rfl yk_X4_lexeme ⟨Nat.le_of_ble_eq_true rfl, Nat.le_of_ble_eq_true rfl⟩ ⟨kc13, trivial⟩ ⟨kc13, trivial⟩ (Nat.le_of_ble_eq_true rfl) rfl dX6_distinct_2_96 ?_
        obtain ⟨s32, e33, h⟩ := bdv_some h
        have k34 := c_X6_blame e33 (rgl rfl) r31
        refine v_callV (st := []) cf6 oc13 k34 (lw_V q1478 q1480 qs45 q303 q1481) rfl yk_X6_blame ⟨Nat.le_of_ble_eq_true rfl, Nat.le_of_ble_eq_true rfl⟩ trivial ⟨kc13, trivial⟩ (Nat.le_of_ble_eq_true rfl) rfl dX6_distinct_2_99 ?_
        refine v_iconst dX6_distinct_2_102 ?_
        refine v_istore (L1 := [(5, vI 0), (0, vO 13), (2, vI x2), (3, vI x3), (4, vI y10)]) dX6_distinct_2_103 (by decide) rfl ?_
        refine v_sub [1, 2, 3, 0] (L1 := [(0, vO 13), (2, vI x2), (3, vI x3), (5, vI 0)]) rfl ?_
        obtain ⟨s35, e36, h⟩ := lq_0_some h
        refine wl_X6_distinct_2_105 rx2 rx3 FU 0 s32 _ e36 (rgl rfl) ?_
        unfold E_X6_distinct_2_105
        intro s35' z_
        cases z_
        refine v_iload_n dX6_distinct_2_135 1 rfl rfl ?_
        refine v_if_eq (tgt := 158) dX6_distinct_2_136 rx2 (by decide) (fun c37 => ?_) (fun c37 => ?_)
        · rw [if_pos c37] at h
          exact wj_X6_distinct_2_158 h rx2 rx3 ih hE
        · rw [if_neg c37] at h
          refine v_aload_n dX6_distinct_2_139 0 rfl rfl ?_
          refine v_getS (f := 1) (t := 10) cf6 oc13 rfl rfl rfl (by decide) q628 dX6_distinct_2_140 ?_
          refine v_iload_n dX6_distinct_2_143 2 rfl rfl ?_
          refine v_iconst dX6_distinct_2_144 ?_
          obtain ⟨r41, s38, e39, h⟩ := bd_some h
          have k40 := c_X4_at e39 rx3 (rgl rfl)
          have r42 : rg r41 := k40.1.2.2
          refine v_callV (st := []) cf4 oc10 k40 (lw_V q1500 q1400 q1401 q301 q1402) rfl yk_X4_at ⟨Nat.le_of_ble_eq_true rfl, Nat.le_of_ble_eq_true rfl⟩ trivial ⟨kc13, trivial⟩ (Nat.le_of_ble_eq_true rfl) rfl dX6_distinct_2_145 ?_
          refine v_if_ne (tgt := 158) dX6_distinct_2_148 r42 (by decide) (fun c43 => ?_) (fun c43 => ?_)
          · rw [if_neg c43] at h
            exact wj_X6_distinct_2_158 h rx2 rx3 ih hE
          · rw [if_pos c43] at h
            refine v_aload_n dX6_distinct_2_151 0 rfl rfl ?_
            refine v_getS (f := 8) (t := 28) cf6 oc13 rfl rfl rfl (by decide) q635 dX6_distinct_2_152 ?_
            obtain ⟨s44, e45, h⟩ := bdv_some h
            have k46 := c_X10_clear e45
            refine v_callV (st := []) cf10 oc28 k46 (lw_V q1545 q1546 q1547 q307 q1548) rfl yk_X10_clear ⟨Nat.le_of_ble_eq_true rfl, Nat.le_of_ble_eq_true rfl⟩ trivial ⟨kc13, trivial⟩ (Nat.le_of_ble_eq_true rfl) rfl dX6_distinct_2_155 ?_
            exact wj_X6_distinct_2_158 h rx2 rx3 ih hE

def f_X6_distinct_2 (x1 : Int) (x2 : Int) (s : vS) : Option (vS) :=
  bdv (f_X10_clear s) fun s1 =>
  bd (f_X4_parts x1 s1) fun r7 s4 =>
  lq_0 (l_X6_distinct_2_16 FU x2 r7 s4) fun s9 =>
  some s9
theorem yk_X6_distinct_2 : yOk yX6_distinct_2 2 := ⟨by decide, by decide, by decide +kernel⟩
theorem c_X6_distinct_2 {x1 : Int} {x2 : Int} {s : vS} {out : vS} (h : f_X6_distinct_2 x1 x2 s = some out)  (rx1 : rg x1) (rx2 : rg x2) : VC yX6_distinct_2 cX6_distinct_2 6 none 8 186 [vO 13, vI x1, vI x2] s none out [] := by
  unfold f_X6_distinct_2 at h
  refine VC.of RX6 (by decide) rfl (Nat.le_of_ble_eq_true rfl) ?_
  show VW cX6_distinct_2 (RX6, none, out, none, 8, 186, 6, []) (P0 []) s 0 [(0, vO 13), (1, vI x1), (2, vI x2)] []
  refine v_aload_n dX6_distinct_2_0 0 rfl rfl ?_
  refine v_getS (f := 8) (t := 28) cf6 oc13 rfl rfl rfl (by decide) q635 dX6_distinct_2_1 ?_
  obtain ⟨s1, e2, h⟩ := bdv_some h
  have k3 := c_X10_clear e2
  refine v_callV (st := []) cf10 oc28 k3 (lw_V q1545 q1546 q1547 q307 q1548) rfl yk_X10_clear ⟨Nat.le_of_ble_eq_true rfl, Nat.le_of_ble_eq_true rfl⟩ trivial ⟨kc13, trivial⟩ (Nat.le_of_ble_eq_true rfl) rfl dX6_distinct_2_4 ?_
  refine v_aload_n dX6_distinct_2_7 0 rfl rfl ?_
  refine v_getS (f := 1) (t := 10) cf6 oc13 rfl rfl rfl (by decide) q628 dX6_distinct_2_8 ?_
  refine v_iload_n dX6_distinct_2_11 1 rfl rfl ?_
  obtain ⟨r7, s4, e5, h⟩ := bd_some h
  have k6 := c_X4_parts e5 rx1
  have r8 : rg r7 := k6.1.2.2
  refine v_callV (st := []) cf4 oc10 k6 (lw_V q1492 q1493 q1494 q301 q1495) rfl yk_X4_parts ⟨Nat.le_of_ble_eq_true rfl, Nat.le_of_ble_eq_true rfl⟩ trivial ⟨kc13, trivial⟩ (Nat.le_of_ble_eq_true rfl) rfl dX6_distinct_2_12 ?_
  refine v_istore_n (L1 := [(3, vI r7), (0, vO 13), (1, vI x1), (2, vI x2)]) dX6_distinct_2_15 rfl (by decide) rfl ?_
  refine v_sub [1, 3, 0] (L1 := [(0, vO 13), (2, vI x2), (3, vI r7)]) rfl ?_
  obtain ⟨s9, e10, h⟩ := lq_0_some h
  refine wl_X6_distinct_2_16 rx2 FU r7 s4 _ e10 r8 ?_
  unfold E_X6_distinct_2_16
  intro s9' z_
  cases z_
  cases h
  exact v_vret dX6_distinct_2_170

def E_X6_distinct_2 (rv : Option vA) (σo : vS) (q : vS) : Prop := ∀ (s' : vS), q = s' → VW cX6_distinct (RX6, rv, σo, (some .boolean), 9, 211, 3, []) (P0 []) s' 26 [(0, vO 13)] []
def l_X6_distinct_2 : Nat → Int → vS → Option (vS)
  | 0, _, _ => none
  | n + 1, x1, s =>
    bd (f_X4_size s) fun r4 s1 =>
    if r4 ≤ x1 then
      some s1
    else
      gd (inb x1 (gN s1 38)) <|
      stp (sE s1 38 x1 0) fun s8 =>
      vl (w32 (x1 + 1)) fun y10 =>
      l_X6_distinct_2 n y10 s8
theorem wl_X6_distinct_2 {rv : Option vA} {σo : vS}  : ∀ (n : Nat) (x1 : Int) (s : vS) (q : vS), l_X6_distinct_2 n x1 s = some q → rg x1 → E_X6_distinct_2 rv σo q → VW cX6_distinct (RX6, rv, σo, (some .boolean), 9, 211, 3, []) (P0 []) s 2 [(0, vO 13), (1, vI x1)] [] := by
  intro n
  induction n with
  | zero => intro x1 s q h; cases h
  | succ n ih =>
    intro x1 s q h rx1 hE
    unfold l_X6_distinct_2 at h
    refine v_iload_n dX6_distinct_2 1 rfl rfl ?_
    refine v_aload_n dX6_distinct_3 0 rfl rfl ?_
    refine v_getS (f := 1) (t := 10) cf6 oc13 rfl rfl rfl (by decide) q628 dX6_distinct_4 ?_
    obtain ⟨r4, s1, e2, h⟩ := bd_some h
    have k3 := c_X4_size e2
    have r5 : rg r4 := k3.1.2.2
    refine v_callV (st := [vI x1]) cf4 oc10 k3 (lw_V q1427 q1428 q1429 q301 q1430) rfl yk_X4_size ⟨Nat.le_of_ble_eq_true rfl, Nat.le_of_ble_eq_true rfl⟩ trivial ⟨kc13, trivial⟩ (Nat.le_of_ble_eq_true rfl) rfl dX6_distinct_7 ?_
    refine v_icmp_ge (tgt := 26) dX6_distinct_10 rx1 r5 (by decide) (fun c6 => ?_) (fun c6 => ?_)
    · rw [if_pos c6] at h
      cases h
      refine v_sub [0] (L1 := [(0, vO 13)]) rfl ?_
      exact hE _ rfl 
    · rw [if_neg c6] at h
      refine v_aload_n dX6_distinct_13 0 rfl rfl ?_
      refine v_getS (f := 15) (t := 38) cf6 oc13 rfl rfl rfl (by decide) q642 dX6_distinct_14 ?_
      refine v_iload_n dX6_distinct_17 1 rfl rfl ?_
      refine v_iconst dX6_distinct_18 ?_
      obtain ⟨g7, h⟩ := gd_some h
      obtain ⟨s8, e9, h⟩ := stp_some h
      refine v_iast oc38 rx1 g7.1 g7.2 dX6_distinct_19 ?_
      rw [← e9]
      obtain ⟨y10, e11, h⟩ := vl_some h
      refine v_iinc (L1 := [(1, vI (w32 (x1 + 1))), (0, vO 13)]) dX6_distinct_20 1 rfl (by decide) rfl ?_
      rw [← e11]
      have r12 : rg y10 := by rw [e11]; exact w32_rg _
      refine v_goto (tgt := 2) dX6_distinct_23 (by decide) ?_
      refine v_sub [1, 0] (L1 := [(0, vO 13), (1, vI y10)]) rfl ?_
      exact ih y10 s8 _ h r12 hE

def E_X6_distinct_33 (rv : Option vA) (σo : vS) (q : vS) : Prop := ∀ (s' : vS), q = s' → VW cX6_distinct (RX6, rv, σo, (some .boolean), 9, 211, 3, []) (P0 []) s' 93 [(0, vO 13)] []
def j_X6_distinct_84 (rec : Int → vS → Option (vS)) (x1 : Int) (z1 : Int) (z2 : Int) (s : vS) : Option (vS) :=
  bdv (f_X6_distinct_2 z1 z2 s) fun s1 =>
  vl (w32 (x1 + 1)) fun y4 =>
  rec y4 s1
theorem wj_X6_distinct_84 {x1 : Int} {z1 : Int} {z2 : Int} {s : vS} {rv : Option vA} {σo : vS} {rec : Int → vS → Option (vS)} {q : vS} (h : j_X6_distinct_84 rec x1 z1 z2 s = some q)  (rx1 : rg x1) (rz1 : rg z1) (rz2 : rg z2) (hrec : ∀ (y1 : Int) (s : vS) (q : vS), rec y1 s = some q → rg y1 → E_X6_distinct_33 rv σo q → VW cX6_distinct (RX6, rv, σo, (some .boolean), 9, 211, 3, []) (P0 []) s 33 [(0, vO 13), (1, vI y1)] []) (hE : E_X6_distinct_33 rv σo q) : VW cX6_distinct (RX6, rv, σo, (some .boolean), 9, 211, 3, []) (P0 []) s 84 [(0, vO 13), (1, vI x1)] [vI z2, vI z1, vO 13] := by
  unfold j_X6_distinct_84 at h
  obtain ⟨s1, e2, h⟩ := bdv_some h
  have k3 := c_X6_distinct_2 e2 rz1 rz2
  refine v_callV (st := []) cf6 oc13 k3 (lw_V q1636 q1638 qs71 q303 q1639) rfl yk_X6_distinct_2 ⟨Nat.le_of_ble_eq_true rfl, Nat.le_of_ble_eq_true rfl⟩ trivial ⟨kc13, trivial⟩ (Nat.le_of_ble_eq_true rfl) rfl dX6_distinct_84 ?_
  obtain ⟨y4, e5, h⟩ := vl_some h
  refine v_iinc (L1 := [(1, vI (w32 (x1 + 1))), (0, vO 13)]) dX6_distinct_87 1 rfl (by decide) rfl ?_
  rw [← e5]
  have r6 : rg y4 := by rw [e5]; exact w32_rg _
  refine v_goto (tgt := 33) dX6_distinct_90 (by decide) ?_
  refine v_sub [1, 0] (L1 := [(0, vO 13), (1, vI y4)]) rfl ?_
  exact hrec y4 s1 _ h r6 hE

def j_X6_distinct_71 (rec : Int → vS → Option (vS)) (x1 : Int) (x2 : Int) (s : vS) : Option (vS) :=
  if x2 = 12 then
    j_X6_distinct_84 rec x1 x1 1 s
  else
    j_X6_distinct_84 rec x1 x1 0 s
theorem wj_X6_distinct_71 {x1 : Int} {x2 : Int} {s : vS} {rv : Option vA} {σo : vS} {rec : Int → vS → Option (vS)} {q : vS} (h : j_X6_distinct_71 rec x1 x2 s = some q)  (rx1 : rg x1) (rx2 : rg x2) (hrec : ∀ (y1 : Int) (s : vS) (q : vS), rec y1 s = some q → rg y1 → E_X6_distinct_33 rv σo q → VW cX6_distinct (RX6, rv, σo, (some .boolean), 9, 211, 3, []) (P0 []) s 33 [(0, vO 13), (1, vI y1)] []) (hE : E_X6_distinct_33 rv σo q) : VW cX6_distinct (RX6, rv, σo, (some .boolean), 9, 211, 3, []) (P0 []) s 71 [(0, vO 13), (1, vI x1), (2, vI x2)] [] := by
  unfold j_X6_distinct_71 at h
  refine v_aload_n dX6_distinct_71 0 rfl rfl ?_
  refine v_iload_n dX6_distinct_72 1 rfl rfl ?_
  refine v_iload_n dX6_distinct_73 2 rfl rfl ?_
  refine v_bipush dX6_distinct_74 rfl ?_
  refine v_icmp_ne (tgt := 83) dX6_distinct_76 rx2 (rgl rfl) (by decide) (fun c1 => ?_) (fun c1 => ?_)
  · rw [if_neg c1] at h
    refine v_iconst dX6_distinct_83 ?_
    refine v_sub [0, 1] (L1 := [(0, vO 13), (1, vI x1)]) rfl ?_
    exact wj_X6_distinct_84 h rx1 rx1 (rgl rfl) hrec hE
  · rw [if_pos c1] at h
    refine v_iconst dX6_distinct_79 ?_
    refine v_goto (tgt := 84) dX6_distinct_80 (by decide) ?_
    refine v_sub [0, 1] (L1 := [(0, vO 13), (1, vI x1)]) rfl ?_
    exact wj_X6_distinct_84 h rx1 rx1 (rgl rfl) hrec hE

def l_X6_distinct_33 : Nat → Int → vS → Option (vS)
  | 0, _, _ => none
  | n + 1, x1, s =>
    bd (f_X4_size s) fun r4 s1 =>
    if r4 ≤ x1 then
      some s1
    else
      bd (f_X4_kind x1 s1) fun r10 s7 =>
      if r10 = 12 then
        j_X6_distinct_71 (l_X6_distinct_33 n) x1 r10 s7
      else
        if r10 = 13 then
          j_X6_distinct_71 (l_X6_distinct_33 n) x1 r10 s7
        else
          if r10 = 16 then
            j_X6_distinct_71 (l_X6_distinct_33 n) x1 r10 s7
          else
            vl (w32 (x1 + 1)) fun y15 =>
            l_X6_distinct_33 n y15 s7
theorem wl_X6_distinct_33 {rv : Option vA} {σo : vS}  : ∀ (n : Nat) (x1 : Int) (s : vS) (q : vS), l_X6_distinct_33 n x1 s = some q → rg x1 → E_X6_distinct_33 rv σo q → VW cX6_distinct (RX6, rv, σo, (some .boolean), 9, 211, 3, []) (P0 []) s 33 [(0, vO 13), (1, vI x1)] [] := by
  intro n
  induction n with
  | zero => intro x1 s q h; cases h
  | succ n ih =>
    intro x1 s q h rx1 hE
    unfold l_X6_distinct_33 at h
    refine v_iload_n dX6_distinct_33 1 rfl rfl ?_
    refine v_aload_n dX6_distinct_34 0 rfl rfl ?_
    refine v_getS (f := 1) (t := 10) cf6 oc13 rfl rfl rfl (by decide) q628 dX6_distinct_35 ?_
    obtain ⟨r4, s1, e2, h⟩ := bd_some h
    have k3 := c_X4_size e2
    have r5 : rg r4 := k3.1.2.2
    refine v_callV (st := [vI x1]) cf4 oc10 k3 (lw_V q1427 q1428 q1429 q301 q1430) rfl yk_X4_size ⟨Nat.le_of_ble_eq_true rfl, Nat.le_of_ble_eq_true rfl⟩ trivial ⟨kc13, trivial⟩ (Nat.le_of_ble_eq_true rfl) rfl dX6_distinct_38 ?_
    refine v_icmp_ge (tgt := 93) dX6_distinct_41 rx1 r5 (by decide) (fun c6 => ?_) (fun c6 => ?_)
    · rw [if_pos c6] at h
      cases h
      refine v_sub [0] (L1 := [(0, vO 13)]) rfl ?_
      exact hE _ rfl 
    · rw [if_neg c6] at h
      refine v_aload_n dX6_distinct_44 0 rfl rfl ?_
      refine v_getS (f := 1) (t := 10) cf6 oc13 rfl rfl rfl (by decide) q628 dX6_distinct_45 ?_
      refine v_iload_n dX6_distinct_48 1 rfl rfl ?_
      obtain ⟨r10, s7, e8, h⟩ := bd_some h
      have k9 := c_X4_kind e8 rx1
      have r11 : rg r10 := k9.1.2.2
      refine v_callV (st := []) cf4 oc10 k9 (lw_V q1445 q1446 q1447 q301 q1448) rfl yk_X4_kind ⟨Nat.le_of_ble_eq_true rfl, Nat.le_of_ble_eq_true rfl⟩ trivial ⟨kc13, trivial⟩ (Nat.le_of_ble_eq_true rfl) rfl dX6_distinct_49 ?_
      refine v_istore_n (L1 := [(2, vI r10), (0, vO 13), (1, vI x1)]) dX6_distinct_52 rfl (by decide) rfl ?_
      refine v_iload_n dX6_distinct_53 0 rfl rfl ?_
      refine v_bipush dX6_distinct_54 rfl ?_
      refine v_icmp_eq (tgt := 71) dX6_distinct_56 r11 (rgl rfl) (by decide) (fun c12 => ?_) (fun c12 => ?_)
      · rw [if_pos c12] at h
        refine v_sub [1, 2, 0] (L1 := [(0, vO 13), (1, vI x1), (2, vI r10)]) rfl ?_
        exact wj_X6_distinct_71 h rx1 r11 ih hE
      · rw [if_neg c12] at h
        refine v_iload_n dX6_distinct_59 0 rfl rfl ?_
        refine v_bipush dX6_distinct_60 rfl ?_
        refine v_icmp_eq (tgt := 71) dX6_distinct_62 r11 (rgl rfl) (by decide) (fun c13 => ?_) (fun c13 => ?_)
        · rw [if_pos c13] at h
          refine v_sub [1, 2, 0] (L1 := [(0, vO 13), (1, vI x1), (2, vI r10)]) rfl ?_
          exact wj_X6_distinct_71 h rx1 r11 ih hE
        · rw [if_neg c13] at h
          refine v_iload_n dX6_distinct_65 0 rfl rfl ?_
          refine v_bipush dX6_distinct_66 rfl ?_
          refine v_icmp_ne (tgt := 87) dX6_distinct_68 r11 (rgl rfl) (by decide) (fun c14 => ?_) (fun c14 => ?_)
          · rw [if_neg c14] at h
            obtain ⟨y15, e16, h⟩ := vl_some h
            refine v_iinc (L1 := [(1, vI (w32 (x1 + 1))), (2, vI r10), (0, vO 13)]) dX6_distinct_87 2 rfl (by decide) rfl ?_
            rw [← e16]
            have r17 : rg y15 := by rw [e16]; exact w32_rg _
            refine v_goto (tgt := 33) dX6_distinct_90 (by decide) ?_
            refine v_sub [2, 0] (L1 := [(0, vO 13), (1, vI y15)]) rfl ?_
            exact ih y15 s7 _ h r17 hE
          · rw [if_pos c14] at h
            refine v_sub [1, 2, 0] (L1 := [(0, vO 13), (1, vI x1), (2, vI r10)]) rfl ?_
            exact wj_X6_distinct_71 h rx1 r11 ih hE

def f_X6_distinct (s : vS) : Option (Int × vS) :=
  lq_0 (l_X6_distinct_2 FU 0 s) fun s1 =>
  stp (sI s1 13 24 0) fun s3 =>
  lq_0 (l_X6_distinct_33 FU 0 s3) fun s5 =>
  if (gI s5 13 20) = 0 then
    some (1, s5)
  else
    some (0, s5)
theorem yk_X6_distinct : yOk yX6_distinct 0 := ⟨by decide, by decide, by decide +kernel⟩
theorem c_X6_distinct {s : vS} {out : Int × vS} (h : f_X6_distinct s = some out)   : VC yX6_distinct cX6_distinct 3 (some .boolean) 9 211 [vO 13] s (some (vI out.1)) out.2 [] := by
  unfold f_X6_distinct at h
  refine VC.of RX6 (by decide) rfl (Nat.le_of_ble_eq_true rfl) ?_
  show VW cX6_distinct (RX6, (some (vI out.1)), out.2, (some .boolean), 9, 211, 3, []) (P0 []) s 0 [(0, vO 13)] []
  refine v_iconst dX6_distinct_0 ?_
  refine v_istore_n (L1 := [(1, vI 0), (0, vO 13)]) dX6_distinct_1 rfl (by decide) rfl ?_
  refine v_sub [1, 0] (L1 := [(0, vO 13), (1, vI 0)]) rfl ?_
  obtain ⟨s1, e2, h⟩ := lq_0_some h
  refine wl_X6_distinct_2  FU 0 s _ e2 (rgl rfl) ?_
  unfold E_X6_distinct_2
  intro s1' z_
  cases z_
  refine v_aload_n dX6_distinct_26 0 rfl rfl ?_
  refine v_iconst dX6_distinct_27 ?_
  obtain ⟨s3, e4, h⟩ := stp_some h
  refine v_putI (f := 24) cf6 oc13 rfl (by decide) q651 dX6_distinct_28 rfl rfl ?_
  rw [← e4]
  refine v_iconst dX6_distinct_31 ?_
  refine v_istore_n (L1 := [(1, vI 0), (0, vO 13)]) dX6_distinct_32 rfl (by decide) rfl ?_
  refine v_sub [1, 0] (L1 := [(0, vO 13), (1, vI 0)]) rfl ?_
  obtain ⟨s5, e6, h⟩ := lq_0_some h
  refine wl_X6_distinct_33  FU 0 s3 _ e6 (rgl rfl) ?_
  unfold E_X6_distinct_33
  intro s5' z_
  cases z_
  refine v_aload_n dX6_distinct_93 0 rfl rfl ?_
  refine v_getI (f := 20) cf6 oc13 rfl (by decide) q647 dX6_distinct_94 ?_
  refine v_if_ne (tgt := 104) dX6_distinct_97 (gI_rg _ _ _) (by decide) (fun c7 => ?_) (fun c7 => ?_)
  · rw [if_neg c7] at h
    refine v_iconst dX6_distinct_104 ?_
    cases h
    exact v_zret (Or.inl rfl) dX6_distinct_105
  · rw [if_pos c7] at h
    refine v_iconst dX6_distinct_100 ?_
    refine v_goto (tgt := 105) dX6_distinct_101 (by decide) ?_
    cases h
    exact v_zret (Or.inr rfl) dX6_distinct_105

def f_X6_follow (x1 : Int) (s : vS) : Option (Int × vS) :=
  bd (f_X4_limits x1 s) fun r4 s1 =>
  bd (f_X4_at r4 5 s1) fun r9 s6 =>
  if r9 = 4 then
    bd (f_X4_parts x1 s6) fun r15 s12 =>
    bd (f_X4_lexeme r4 s12) fun r20 s17 =>
    bd (f_X6_itemOf r15 r20 1 s17) fun r25 s22 =>
    if r25 = (-1) then
      bd (f_X4_lexeme r4 s22) fun r31 s28 =>
      bd (f_X9_find 22 r31 s28) fun r36 s33 =>
      some (r36, s33)
    else
      some ((-1), s22)
  else
    some ((-1), s6)
theorem yk_X6_follow : yOk yX6_follow 1 := ⟨by decide, by decide, by decide +kernel⟩
theorem c_X6_follow {x1 : Int} {s : vS} {out : Int × vS} (h : f_X6_follow x1 s = some out)  (rx1 : rg x1) : VC yX6_follow cX6_follow 3 (some .int) 8 186 [vO 13, vI x1] s (some (vI out.1)) out.2 [] := by
  unfold f_X6_follow at h
  refine VC.of RX6 (by decide) rfl (Nat.le_of_ble_eq_true rfl) ?_
  show VW cX6_follow (RX6, (some (vI out.1)), out.2, (some .int), 8, 186, 3, []) (P0 []) s 0 [(0, vO 13), (1, vI x1)] []
  refine v_aload_n dX6_follow_0 0 rfl rfl ?_
  refine v_getS (f := 1) (t := 10) cf6 oc13 rfl rfl rfl (by decide) q628 dX6_follow_1 ?_
  refine v_iload_n dX6_follow_4 1 rfl rfl ?_
  obtain ⟨r4, s1, e2, h⟩ := bd_some h
  have k3 := c_X4_limits e2 rx1
  have r5 : rg r4 := k3.1.2.2
  refine v_callV (st := []) cf4 oc10 k3 (lw_V q1579 q1396 q1397 q301 q1398) rfl yk_X4_limits ⟨Nat.le_of_ble_eq_true rfl, Nat.le_of_ble_eq_true rfl⟩ trivial ⟨kc13, trivial⟩ (Nat.le_of_ble_eq_true rfl) rfl dX6_follow_5 ?_
  refine v_istore_n (L1 := [(2, vI r4), (0, vO 13), (1, vI x1)]) dX6_follow_8 rfl (by decide) rfl ?_
  refine v_aload_n dX6_follow_9 1 rfl rfl ?_
  refine v_getS (f := 1) (t := 10) cf6 oc13 rfl rfl rfl (by decide) q628 dX6_follow_10 ?_
  refine v_iload_n dX6_follow_13 0 rfl rfl ?_
  refine v_iconst dX6_follow_14 ?_
  obtain ⟨r9, s6, e7, h⟩ := bd_some h
  have k8 := c_X4_at e7 r5 (rgl rfl)
  have r10 : rg r9 := k8.1.2.2
  refine v_callV (st := []) cf4 oc10 k8 (lw_V q1500 q1400 q1401 q301 q1402) rfl yk_X4_at ⟨Nat.le_of_ble_eq_true rfl, Nat.le_of_ble_eq_true rfl⟩ trivial ⟨kc13, trivial⟩ (Nat.le_of_ble_eq_true rfl) rfl dX6_follow_15 ?_
  refine v_iconst dX6_follow_18 ?_
  refine v_icmp_ne (tgt := 47) dX6_follow_19 r10 (rgl rfl) (by decide) (fun c11 => ?_) (fun c11 => ?_)
  · rw [if_neg c11] at h
    refine v_iconst dX6_follow_47 ?_
    cases h
    exact v_iret (rgl rfl) dX6_follow_48
  · rw [if_pos c11] at h
    refine v_aload_n dX6_follow_22 1 rfl rfl ?_
    refine v_aload_n dX6_follow_23 1 rfl rfl ?_
    refine v_getS (f := 1) (t := 10) cf6 oc13 rfl rfl rfl (by decide) q628 dX6_follow_24 ?_
    refine v_iload_n dX6_follow_27 2 rfl rfl ?_
    obtain ⟨r15, s12, e13, h⟩ := bd_some h
    have k14 := c_X4_parts e13 rx1
    have r16 : rg r15 := k14.1.2.2
    refine v_callV (st := [vO 13]) cf4 oc10 k14 (lw_V q1492 q1493 q1494 q301 q1495) rfl yk_X4_parts ⟨Nat.le_of_ble_eq_true rfl, Nat.le_of_ble_eq_true rfl⟩ ⟨kc13, trivial⟩ ⟨kc13, trivial⟩ (Nat.le_of_ble_eq_true rfl) rfl dX6_follow_28 ?_
    refine v_aload_n dX6_follow_31 1 rfl rfl ?_
    refine v_getS (f := 1) (t := 10) cf6 oc13 rfl rfl rfl (by decide) q628 dX6_follow_32 ?_
    refine v_iload_n dX6_follow_35 0 rfl rfl ?_
    obtain ⟨r20, s17, e18, h⟩ := bd_some h
    have k19 := c_X4_lexeme e18 r5
    have r21 : rg r20 := k19.1.2.2
    refine v_callV (st := [vI r15, vO 13]) cf4 oc10 k19 (lw_V q1449 q1450 q1451 q301 q1452) rfl yk_X4_lexeme ⟨Nat.le_of_ble_eq_true rfl, Nat.le_of_ble_eq_true rfl⟩ ⟨kc13, trivial⟩ ⟨kc13, trivial⟩ (Nat.le_of_ble_eq_true rfl) rfl dX6_follow_36 ?_
    refine v_iconst dX6_follow_39 ?_
    obtain ⟨r25, s22, e23, h⟩ := bd_some h
    have k24 := c_X6_itemOf e23 r16 r21 (rgl rfl)
    have r26 : rg r25 := k24.1.2.2
    refine v_callV (st := []) cf6 oc13 k24 (lw_V q1584 q1586 qs59 q303 q1587) rfl yk_X6_itemOf ⟨Nat.le_of_ble_eq_true rfl, Nat.le_of_ble_eq_true rfl⟩ trivial ⟨kc13, trivial⟩ (Nat.le_of_ble_eq_true rfl) rfl dX6_follow_40 ?_
    refine v_iconst dX6_follow_43 ?_
    refine v_icmp_eq (tgt := 49) dX6_follow_44 r26 (rgl rfl) (by decide) (fun c27 => ?_) (fun c27 => ?_)
    · rw [if_pos c27] at h
      refine v_aload_n dX6_follow_49 1 rfl rfl ?_
      refine v_getS (f := 6) (t := 22) cf6 oc13 rfl rfl rfl (by decide) q633 dX6_follow_50 ?_
      refine v_aload_n dX6_follow_53 1 rfl rfl ?_
      refine v_getS (f := 1) (t := 10) cf6 oc13 rfl rfl rfl (by decide) q628 dX6_follow_54 ?_
      refine v_iload_n dX6_follow_57 0 rfl rfl ?_
      obtain ⟨r31, s28, e29, h⟩ := bd_some h
      have k30 := c_X4_lexeme e29 r5
      have r32 : rg r31 := k30.1.2.2
      refine v_callV (st := [vO 22]) cf4 oc10 k30 (lw_V q1449 q1450 q1451 q301 q1452) rfl yk_X4_lexeme ⟨Nat.le_of_ble_eq_true rfl, Nat.le_of_ble_eq_true rfl⟩ ⟨kc22, trivial⟩ ⟨kc13, trivial⟩ (Nat.le_of_ble_eq_true rfl) rfl dX6_follow_58 ?_
      obtain ⟨r36, s33, e34, h⟩ := bd_some h
      have k35 := c_X9_find e34 (⟨by decide, rfl⟩ : okB 22 8) r32
      have r37 : rg r36 := k35.1.2.2
      refine v_callV (st := []) cf9 oc22 k35 (lw_V q1575 q1576 q1577 q306 q1578) rfl yk_X9_find ⟨Nat.le_of_ble_eq_true rfl, Nat.le_of_ble_eq_true rfl⟩ trivial ⟨kc13, trivial⟩ (Nat.le_of_ble_eq_true rfl) rfl dX6_follow_61 ?_
      cases h
      exact v_iret r37 dX6_follow_64
    · rw [if_neg c27] at h
      refine v_iconst dX6_follow_47 ?_
      cases h
      exact v_iret (rgl rfl) dX6_follow_48

def E_X6_straight_2 (rv : Option vA) (σo : vS) (q : vS) : Prop := ∀ (s' : vS), q = s' → VW cX6_straight (RX6, rv, σo, (some .boolean), 9, 208, 4, []) (P0 []) s' 26 [(0, vO 13)] []
def l_X6_straight_2 : Nat → Int → vS → Option (vS)
  | 0, _, _ => none
  | n + 1, x1, s =>
    bd (f_X4_size s) fun r4 s1 =>
    if r4 ≤ x1 then
      some s1
    else
      gd (inb x1 (gN s1 38)) <|
      stp (sE s1 38 x1 0) fun s8 =>
      vl (w32 (x1 + 1)) fun y10 =>
      l_X6_straight_2 n y10 s8
theorem wl_X6_straight_2 {rv : Option vA} {σo : vS}  : ∀ (n : Nat) (x1 : Int) (s : vS) (q : vS), l_X6_straight_2 n x1 s = some q → rg x1 → E_X6_straight_2 rv σo q → VW cX6_straight (RX6, rv, σo, (some .boolean), 9, 208, 4, []) (P0 []) s 2 [(0, vO 13), (1, vI x1)] [] := by
  intro n
  induction n with
  | zero => intro x1 s q h; cases h
  | succ n ih =>
    intro x1 s q h rx1 hE
    unfold l_X6_straight_2 at h
    refine v_iload_n dX6_straight_2 1 rfl rfl ?_
    refine v_aload_n dX6_straight_3 0 rfl rfl ?_
    refine v_getS (f := 1) (t := 10) cf6 oc13 rfl rfl rfl (by decide) q628 dX6_straight_4 ?_
    obtain ⟨r4, s1, e2, h⟩ := bd_some h
    have k3 := c_X4_size e2
    have r5 : rg r4 := k3.1.2.2
    refine v_callV (st := [vI x1]) cf4 oc10 k3 (lw_V q1427 q1428 q1429 q301 q1430) rfl yk_X4_size ⟨Nat.le_of_ble_eq_true rfl, Nat.le_of_ble_eq_true rfl⟩ trivial ⟨kc13, trivial⟩ (Nat.le_of_ble_eq_true rfl) rfl dX6_straight_7 ?_
    refine v_icmp_ge (tgt := 26) dX6_straight_10 rx1 r5 (by decide) (fun c6 => ?_) (fun c6 => ?_)
    · rw [if_pos c6] at h
      cases h
      refine v_sub [0] (L1 := [(0, vO 13)]) rfl ?_
      exact hE _ rfl 
    · rw [if_neg c6] at h
      refine v_aload_n dX6_straight_13 0 rfl rfl ?_
      refine v_getS (f := 15) (t := 38) cf6 oc13 rfl rfl rfl (by decide) q642 dX6_straight_14 ?_
      refine v_iload_n dX6_straight_17 1 rfl rfl ?_
      refine v_iconst dX6_straight_18 ?_
      obtain ⟨g7, h⟩ := gd_some h
      obtain ⟨s8, e9, h⟩ := stp_some h
      refine v_iast oc38 rx1 g7.1 g7.2 dX6_straight_19 ?_
      rw [← e9]
      obtain ⟨y10, e11, h⟩ := vl_some h
      refine v_iinc (L1 := [(1, vI (w32 (x1 + 1))), (0, vO 13)]) dX6_straight_20 1 rfl (by decide) rfl ?_
      rw [← e11]
      have r12 : rg y10 := by rw [e11]; exact w32_rg _
      refine v_goto (tgt := 2) dX6_straight_23 (by decide) ?_
      refine v_sub [1, 0] (L1 := [(0, vO 13), (1, vI y10)]) rfl ?_
      exact ih y10 s8 _ h r12 hE

def E_X6_straight_34 (rv : Option vA) (σo : vS) (q : vS) : Prop := ∀ (s' : vS), q = s' → VW cX6_straight (RX6, rv, σo, (some .boolean), 9, 208, 4, []) (P0 []) s' 151 [(0, vO 13)] []
def j_X6_straight_139 (rec : Int → vS → Option (vS)) (x1 : Int) (s : vS) : Option (vS) :=
  bd (f_X4_next x1 s) fun r4 s1 =>
  rec r4 s1
theorem wj_X6_straight_139 {x1 : Int} {s : vS} {rv : Option vA} {σo : vS} {rec : Int → vS → Option (vS)} {q : vS} (h : j_X6_straight_139 rec x1 s = some q)  (rx1 : rg x1) (hrec : ∀ (y1 : Int) (s : vS) (q : vS), rec y1 s = some q → rg y1 → E_X6_straight_34 rv σo q → VW cX6_straight (RX6, rv, σo, (some .boolean), 9, 208, 4, []) (P0 []) s 34 [(0, vO 13), (1, vI y1)] []) (hE : E_X6_straight_34 rv σo q) : VW cX6_straight (RX6, rv, σo, (some .boolean), 9, 208, 4, []) (P0 []) s 139 [(0, vO 13), (1, vI x1)] [] := by
  unfold j_X6_straight_139 at h
  refine v_aload_n dX6_straight_139 0 rfl rfl ?_
  refine v_getS (f := 1) (t := 10) cf6 oc13 rfl rfl rfl (by decide) q628 dX6_straight_140 ?_
  refine v_iload_n dX6_straight_143 1 rfl rfl ?_
  obtain ⟨r4, s1, e2, h⟩ := bd_some h
  have k3 := c_X4_next e2 rx1
  have r5 : rg r4 := k3.1.2.2
  refine v_callV (st := []) cf4 oc10 k3 (lw_V q1483 q1404 q1405 q301 q1406) rfl yk_X4_next ⟨Nat.le_of_ble_eq_true rfl, Nat.le_of_ble_eq_true rfl⟩ trivial ⟨kc13, trivial⟩ (Nat.le_of_ble_eq_true rfl) rfl dX6_straight_144 ?_
  refine v_istore_n (L1 := [(1, vI r4), (0, vO 13)]) dX6_straight_147 rfl (by decide) rfl ?_
  refine v_goto (tgt := 34) dX6_straight_148 (by decide) ?_
  refine v_sub [1, 0] (L1 := [(0, vO 13), (1, vI r4)]) rfl ?_
  exact hrec r4 s1 _ h r5 hE

def E_X6_straight_63 (x1 : Int) (rv : Option vA) (σo : vS) (q : Int × vS) : Prop := ∀ (x2' : Int) (s' : vS), q = (x2', s') → rg x2' → VW cX6_straight (RX6, rv, σo, (some .boolean), 9, 208, 4, []) (P0 []) s' 95 [(0, vO 13), (1, vI x1), (2, vI x2')] []
def l_X6_straight_63 : Nat → Int → Int → vS → Option (Int × vS)
  | 0, _, _, _ => none
  | n + 1, x1, x2, s =>
    if x2 = (-1) then
      some (x2, s)
    else
      gd (inb x2 (gN s 38)) <|
      if (gE s 38 x2) = 0 then
        gd (inb x2 (gN s 38)) <|
        stp (sE s 38 x2 (w32 (x1 + 1))) fun s5 =>
        bd (f_X6_follow x2 s5) fun r10 s7 =>
        l_X6_straight_63 n x1 r10 s7
      else
        some (x2, s)
theorem wl_X6_straight_63 {x1 : Int} {rv : Option vA} {σo : vS}  (rx1 : rg x1) : ∀ (n : Nat) (x2 : Int) (s : vS) (q : Int × vS), l_X6_straight_63 n x1 x2 s = some q → rg x2 → E_X6_straight_63 x1 rv σo q → VW cX6_straight (RX6, rv, σo, (some .boolean), 9, 208, 4, []) (P0 []) s 63 [(0, vO 13), (1, vI x1), (2, vI x2)] [] := by
  intro n
  induction n with
  | zero => intro x2 s q h; cases h
  | succ n ih =>
    intro x2 s q h rx2 hE
    unfold l_X6_straight_63 at h
    refine v_iload_n dX6_straight_63 2 rfl rfl ?_
    refine v_iconst dX6_straight_64 ?_
    refine v_icmp_eq (tgt := 95) dX6_straight_65 rx2 (rgl rfl) (by decide) (fun c1 => ?_) (fun c1 => ?_)
    · rw [if_pos c1] at h
      cases h
      exact hE _ _ rfl rx2
    · rw [if_neg c1] at h
      refine v_aload_n dX6_straight_68 0 rfl rfl ?_
      refine v_getS (f := 15) (t := 38) cf6 oc13 rfl rfl rfl (by decide) q642 dX6_straight_69 ?_
      refine v_iload_n dX6_straight_72 2 rfl rfl ?_
      obtain ⟨g2, h⟩ := gd_some h
      refine v_iald oc38 rx2 g2.1 g2.2 dX6_straight_73 ?_
      refine v_if_ne (tgt := 95) dX6_straight_74 (gE_rg _ _ _) (by decide) (fun c3 => ?_) (fun c3 => ?_)
      · rw [if_neg c3] at h
        cases h
        exact hE _ _ rfl rx2
      · rw [if_pos c3] at h
        refine v_aload_n dX6_straight_77 0 rfl rfl ?_
        refine v_getS (f := 15) (t := 38) cf6 oc13 rfl rfl rfl (by decide) q642 dX6_straight_78 ?_
        refine v_iload_n dX6_straight_81 2 rfl rfl ?_
        refine v_iload_n dX6_straight_82 1 rfl rfl ?_
        refine v_iconst dX6_straight_83 ?_
        refine v_iadd dX6_straight_84 ?_
        obtain ⟨g4, h⟩ := gd_some h
        obtain ⟨s5, e6, h⟩ := stp_some h
        refine v_iast oc38 rx2 g4.1 g4.2 dX6_straight_85 ?_
        rw [← e6]
        refine v_aload_n dX6_straight_86 0 rfl rfl ?_
        refine v_iload_n dX6_straight_87 2 rfl rfl ?_
        obtain ⟨r10, s7, e8, h⟩ := bd_some h
        have k9 := c_X6_follow e8 rx2
        have r11 : rg r10 := k9.1.2.2
        refine v_callV (st := []) cf6 oc13 k9 (lw_V q1656 q1658 qs74 q303 q1659) rfl yk_X6_follow ⟨Nat.le_of_ble_eq_true rfl, Nat.le_of_ble_eq_true rfl⟩ trivial ⟨kc13, trivial⟩ (Nat.le_of_ble_eq_true rfl) rfl dX6_straight_88 ?_
        refine v_istore_n (L1 := [(2, vI r10), (0, vO 13), (1, vI x1)]) dX6_straight_91 rfl (by decide) rfl ?_
        refine v_goto (tgt := 63) dX6_straight_92 (by decide) ?_
        refine v_sub [1, 2, 0] (L1 := [(0, vO 13), (1, vI x1), (2, vI r10)]) rfl ?_
        exact ih r10 s7 _ h r11 hE

def E_X6_straight_114 (x1 : Int) (rv : Option vA) (σo : vS) (q : vS) : Prop := ∀ (s' : vS), q = s' → VW cX6_straight (RX6, rv, σo, (some .boolean), 9, 208, 4, []) (P0 []) s' 139 [(0, vO 13), (1, vI x1)] []
def l_X6_straight_114 : Nat → Int → Int → Int → vS → Option (vS)
  | 0, _, _, _, _ => none
  | n + 1, x1, x2, x3, s =>
    bd (f_X4_lexeme x3 s) fun r4 s1 =>
    bdv (f_X6_blame 10 r4 s1) fun s6 =>
    bd (f_X6_follow x3 s6) fun r12 s9 =>
    if r12 = x2 then
      some s9
    else
      l_X6_straight_114 n x1 x2 r12 s9
theorem wl_X6_straight_114 {x1 : Int} {x2 : Int} {rv : Option vA} {σo : vS}  (rx1 : rg x1) (rx2 : rg x2) : ∀ (n : Nat) (x3 : Int) (s : vS) (q : vS), l_X6_straight_114 n x1 x2 x3 s = some q → rg x3 → E_X6_straight_114 x1 rv σo q → VW cX6_straight (RX6, rv, σo, (some .boolean), 9, 208, 4, []) (P0 []) s 114 [(0, vO 13), (1, vI x1), (2, vI x2), (3, vI x3)] [] := by
  intro n
  induction n with
  | zero => intro x3 s q h; cases h
  | succ n ih =>
    intro x3 s q h rx3 hE
    unfold l_X6_straight_114 at h
    refine v_aload_n dX6_straight_114 0 rfl rfl ?_
    refine v_bipush dX6_straight_115 rfl ?_
    refine v_aload_n dX6_straight_117 0 rfl rfl ?_
    refine v_getS (f := 1) (t := 10) cf6 oc13 rfl rfl rfl (by decide) q628 dX6_straight_118 ?_
    refine v_iload_n dX6_straight_121 3 rfl rfl ?_
    obtain ⟨r4, s1, e2, h⟩ := bd_some h
    have k3 := c_X4_lexeme e2 rx3
    have r5 : rg r4 := k3.1.2.2
    refine v_callV (st := [vI 10, vO 13]) cf4 oc10 k3 (lw_V q1449 q1450 q1451 q301 q1452) rfl yk_X4_lexeme ⟨Nat.le_of_ble_eq_true rfl, Nat.le_of_ble_eq_true rfl⟩ ⟨kc13, trivial⟩ ⟨kc13, trivial⟩ (Nat.le_of_ble_eq_true rfl) rfl dX6_straight_122 ?_
    obtain ⟨s6, e7, h⟩ := bdv_some h
    have k8 := c_X6_blame e7 (rgl rfl) r5
    refine v_callV (st := []) cf6 oc13 k8 (lw_V q1478 q1480 qs45 q303 q1481) rfl yk_X6_blame ⟨Nat.le_of_ble_eq_true rfl, Nat.le_of_ble_eq_true rfl⟩ trivial ⟨kc13, trivial⟩ (Nat.le_of_ble_eq_true rfl) rfl dX6_straight_125 ?_
    refine v_aload_n dX6_straight_128 0 rfl rfl ?_
    refine v_iload_n dX6_straight_129 3 rfl rfl ?_
    obtain ⟨r12, s9, e10, h⟩ := bd_some h
    have k11 := c_X6_follow e10 rx3
    have r13 : rg r12 := k11.1.2.2
    refine v_callV (st := []) cf6 oc13 k11 (lw_V q1656 q1658 qs74 q303 q1659) rfl yk_X6_follow ⟨Nat.le_of_ble_eq_true rfl, Nat.le_of_ble_eq_true rfl⟩ trivial ⟨kc13, trivial⟩ (Nat.le_of_ble_eq_true rfl) rfl dX6_straight_130 ?_
    refine v_istore_n (L1 := [(3, vI r12), (0, vO 13), (1, vI x1), (2, vI x2)]) dX6_straight_133 rfl (by decide) rfl ?_
    refine v_iload_n dX6_straight_134 0 rfl rfl ?_
    refine v_iload_n dX6_straight_135 3 rfl rfl ?_
    refine v_icmp_ne (tgt := 114) dX6_straight_136 r13 rx2 (by decide) (fun c14 => ?_) (fun c14 => ?_)
    · rw [if_neg c14] at h
      refine v_sub [1, 2, 3, 0] (L1 := [(0, vO 13), (1, vI x1), (2, vI x2), (3, vI r12)]) rfl ?_
      exact ih r12 s9 _ h r13 hE
    · rw [if_pos c14] at h
      cases h
      refine v_sub [1, 2] (L1 := [(0, vO 13), (1, vI x1)]) rfl ?_
      exact hE _ rfl 

def j_X6_straight_95 (rec : Int → vS → Option (vS)) (x1 : Int) (x2 : Int) (s : vS) : Option (vS) :=
  if x2 = (-1) then
    j_X6_straight_139 rec x1 s
  else
    gd (inb x2 (gN s 38)) <|
    if (gE s 38 x2) = (w32 (x1 + 1)) then
      lq_0 (l_X6_straight_114 FU x1 x2 x2 s) fun s4 =>
      j_X6_straight_139 rec x1 s4
    else
      j_X6_straight_139 rec x1 s
theorem wj_X6_straight_95 {x1 : Int} {x2 : Int} {s : vS} {rv : Option vA} {σo : vS} {rec : Int → vS → Option (vS)} {q : vS} (h : j_X6_straight_95 rec x1 x2 s = some q)  (rx1 : rg x1) (rx2 : rg x2) (hrec : ∀ (y1 : Int) (s : vS) (q : vS), rec y1 s = some q → rg y1 → E_X6_straight_34 rv σo q → VW cX6_straight (RX6, rv, σo, (some .boolean), 9, 208, 4, []) (P0 []) s 34 [(0, vO 13), (1, vI y1)] []) (hE : E_X6_straight_34 rv σo q) : VW cX6_straight (RX6, rv, σo, (some .boolean), 9, 208, 4, []) (P0 []) s 95 [(0, vO 13), (1, vI x1), (2, vI x2)] [] := by
  unfold j_X6_straight_95 at h
  refine v_iload_n dX6_straight_95 2 rfl rfl ?_
  refine v_iconst dX6_straight_96 ?_
  refine v_icmp_eq (tgt := 139) dX6_straight_97 rx2 (rgl rfl) (by decide) (fun c1 => ?_) (fun c1 => ?_)
  · rw [if_pos c1] at h
    refine v_sub [0, 1] (L1 := [(0, vO 13), (1, vI x1)]) rfl ?_
    exact wj_X6_straight_139 h rx1 hrec hE
  · rw [if_neg c1] at h
    refine v_aload_n dX6_straight_100 0 rfl rfl ?_
    refine v_getS (f := 15) (t := 38) cf6 oc13 rfl rfl rfl (by decide) q642 dX6_straight_101 ?_
    refine v_iload_n dX6_straight_104 2 rfl rfl ?_
    obtain ⟨g2, h⟩ := gd_some h
    refine v_iald oc38 rx2 g2.1 g2.2 dX6_straight_105 ?_
    refine v_iload_n dX6_straight_106 1 rfl rfl ?_
    refine v_iconst dX6_straight_107 ?_
    refine v_iadd dX6_straight_108 ?_
    refine v_icmp_ne (tgt := 139) dX6_straight_109 (gE_rg _ _ _) (w32_rg _) (by decide) (fun c3 => ?_) (fun c3 => ?_)
    · rw [if_neg c3] at h
      refine v_sub [0, 1] (L1 := [(0, vO 13), (1, vI x1)]) rfl ?_
      exact wj_X6_straight_139 h rx1 hrec hE
    · rw [if_pos c3] at h
      refine v_iload_n dX6_straight_112 2 rfl rfl ?_
      refine v_istore_n (L1 := [(3, vI x2), (0, vO 13), (1, vI x1), (2, vI x2)]) dX6_straight_113 rfl (by decide) rfl ?_
      refine v_sub [1, 2, 3, 0] (L1 := [(0, vO 13), (1, vI x1), (2, vI x2), (3, vI x2)]) rfl ?_
      obtain ⟨s4, e5, h⟩ := lq_0_some h
      refine wl_X6_straight_114 rx1 rx2 FU x2 s _ e5 rx2 ?_
      unfold E_X6_straight_114
      intro s4' z_
      cases z_
      exact wj_X6_straight_139 h rx1 hrec hE

def l_X6_straight_34 : Nat → Int → vS → Option (vS)
  | 0, _, _ => none
  | n + 1, x1, s =>
    if x1 = (-1) then
      some s
    else
      bd (f_X4_kind x1 s) fun r5 s2 =>
      if r5 = 29 then
        gd (inb x1 (gN s2 38)) <|
        if (gE s2 38 x1) = 0 then
          lq_1 (l_X6_straight_63 FU x1 x1 s2) fun y10 s11 =>
          j_X6_straight_95 (l_X6_straight_34 n) x1 y10 s11
        else
          j_X6_straight_139 (l_X6_straight_34 n) x1 s2
      else
        j_X6_straight_139 (l_X6_straight_34 n) x1 s2
theorem wl_X6_straight_34 {rv : Option vA} {σo : vS}  : ∀ (n : Nat) (x1 : Int) (s : vS) (q : vS), l_X6_straight_34 n x1 s = some q → rg x1 → E_X6_straight_34 rv σo q → VW cX6_straight (RX6, rv, σo, (some .boolean), 9, 208, 4, []) (P0 []) s 34 [(0, vO 13), (1, vI x1)] [] := by
  intro n
  induction n with
  | zero => intro x1 s q h; cases h
  | succ n ih =>
    intro x1 s q h rx1 hE
    unfold l_X6_straight_34 at h
    refine v_iload_n dX6_straight_34 1 rfl rfl ?_
    refine v_iconst dX6_straight_35 ?_
    refine v_icmp_eq (tgt := 151) dX6_straight_36 rx1 (rgl rfl) (by decide) (fun c1 => ?_) (fun c1 => ?_)
    · rw [if_pos c1] at h
      cases h
      refine v_sub [0] (L1 := [(0, vO 13)]) rfl ?_
      exact hE _ rfl 
    · rw [if_neg c1] at h
      refine v_aload_n dX6_straight_39 0 rfl rfl ?_
      refine v_getS (f := 1) (t := 10) cf6 oc13 rfl rfl rfl (by decide) q628 dX6_straight_40 ?_
      refine v_iload_n dX6_straight_43 1 rfl rfl ?_
      obtain ⟨r5, s2, e3, h⟩ := bd_some h
      have k4 := c_X4_kind e3 rx1
      have r6 : rg r5 := k4.1.2.2
      refine v_callV (st := []) cf4 oc10 k4 (lw_V q1445 q1446 q1447 q301 q1448) rfl yk_X4_kind ⟨Nat.le_of_ble_eq_true rfl, Nat.le_of_ble_eq_true rfl⟩ trivial ⟨kc13, trivial⟩ (Nat.le_of_ble_eq_true rfl) rfl dX6_straight_44 ?_
      refine v_bipush dX6_straight_47 rfl ?_
      refine v_icmp_ne (tgt := 139) dX6_straight_49 r6 (rgl rfl) (by decide) (fun c7 => ?_) (fun c7 => ?_)
      · rw [if_neg c7] at h
        exact wj_X6_straight_139 h rx1 ih hE
      · rw [if_pos c7] at h
        refine v_aload_n dX6_straight_52 0 rfl rfl ?_
        refine v_getS (f := 15) (t := 38) cf6 oc13 rfl rfl rfl (by decide) q642 dX6_straight_53 ?_
        refine v_iload_n dX6_straight_56 1 rfl rfl ?_
        obtain ⟨g8, h⟩ := gd_some h
        refine v_iald oc38 rx1 g8.1 g8.2 dX6_straight_57 ?_
        refine v_if_ne (tgt := 139) dX6_straight_58 (gE_rg _ _ _) (by decide) (fun c9 => ?_) (fun c9 => ?_)
        · rw [if_neg c9] at h
          exact wj_X6_straight_139 h rx1 ih hE
        · rw [if_pos c9] at h
          refine v_iload_n dX6_straight_61 1 rfl rfl ?_
          refine v_istore_n (L1 := [(2, vI x1), (0, vO 13), (1, vI x1)]) dX6_straight_62 rfl (by decide) rfl ?_
          refine v_sub [1, 2, 0] (L1 := [(0, vO 13), (1, vI x1), (2, vI x1)]) rfl ?_
          obtain ⟨y10, s11, e12, h⟩ := lq_1_some h
          refine wl_X6_straight_63 rx1 FU x1 s2 _ e12 rx1 ?_
          unfold E_X6_straight_63
          intro y10' s11' z_ r13
          cases z_
          exact wj_X6_straight_95 h rx1 r13 ih hE

def f_X6_straight (s : vS) : Option (Int × vS) :=
  lq_0 (l_X6_straight_2 FU 0 s) fun s1 =>
  vl (gI s1 10 2) fun y3 =>
  lq_0 (l_X6_straight_34 FU y3 s1) fun s6 =>
  if (gI s6 13 20) = 0 then
    some (1, s6)
  else
    some (0, s6)
theorem yk_X6_straight : yOk yX6_straight 0 := ⟨by decide, by decide, by decide +kernel⟩
theorem c_X6_straight {s : vS} {out : Int × vS} (h : f_X6_straight s = some out)   : VC yX6_straight cX6_straight 4 (some .boolean) 9 208 [vO 13] s (some (vI out.1)) out.2 [] := by
  unfold f_X6_straight at h
  refine VC.of RX6 (by decide) rfl (Nat.le_of_ble_eq_true rfl) ?_
  show VW cX6_straight (RX6, (some (vI out.1)), out.2, (some .boolean), 9, 208, 4, []) (P0 []) s 0 [(0, vO 13)] []
  refine v_iconst dX6_straight_0 ?_
  refine v_istore_n (L1 := [(1, vI 0), (0, vO 13)]) dX6_straight_1 rfl (by decide) rfl ?_
  refine v_sub [1, 0] (L1 := [(0, vO 13), (1, vI 0)]) rfl ?_
  obtain ⟨s1, e2, h⟩ := lq_0_some h
  refine wl_X6_straight_2  FU 0 s _ e2 (rgl rfl) ?_
  unfold E_X6_straight_2
  intro s1' z_
  cases z_
  refine v_aload_n dX6_straight_26 0 rfl rfl ?_
  refine v_getS (f := 1) (t := 10) cf6 oc13 rfl rfl rfl (by decide) q628 dX6_straight_27 ?_
  refine v_getIN (f := 2) cf4 oc10 rfl (by decide) q469 dX6_straight_30 ?_
  obtain ⟨y3, e4, h⟩ := vl_some h
  rw [← e4]
  have r5 : rg y3 := by rw [e4]; exact gI_rg _ _ _
  refine v_istore_n (L1 := [(1, vI y3), (0, vO 13)]) dX6_straight_33 rfl (by decide) rfl ?_
  refine v_sub [1, 0] (L1 := [(0, vO 13), (1, vI y3)]) rfl ?_
  obtain ⟨s6, e7, h⟩ := lq_0_some h
  refine wl_X6_straight_34  FU y3 s1 _ e7 r5 ?_
  unfold E_X6_straight_34
  intro s6' z_
  cases z_
  refine v_aload_n dX6_straight_151 0 rfl rfl ?_
  refine v_getI (f := 20) cf6 oc13 rfl (by decide) q647 dX6_straight_152 ?_
  refine v_if_ne (tgt := 162) dX6_straight_155 (gI_rg _ _ _) (by decide) (fun c8 => ?_) (fun c8 => ?_)
  · rw [if_neg c8] at h
    refine v_iconst dX6_straight_162 ?_
    cases h
    exact v_zret (Or.inl rfl) dX6_straight_163
  · rw [if_pos c8] at h
    refine v_iconst dX6_straight_158 ?_
    refine v_goto (tgt := 163) dX6_straight_159 (by decide) ?_
    cases h
    exact v_zret (Or.inr rfl) dX6_straight_163

def f_X6_hasSizes (x1 : Int) (s : vS) : Option (Int × vS) :=
  if x1 = 4 then
    some (1, s)
  else
    if x1 = 5 then
      some (1, s)
    else
      if x1 = 7 then
        some (1, s)
      else
        if x1 = 8 then
          some (1, s)
        else
          if x1 = 9 then
            some (1, s)
          else
            if x1 = 14 then
              some (1, s)
            else
              if x1 = 15 then
                some (1, s)
              else
                some (0, s)
theorem yk_X6_hasSizes : yOk yX6_hasSizes 1 := ⟨by decide, by decide, by decide +kernel⟩
theorem c_X6_hasSizes {x1 : Int} {s : vS} {out : Int × vS} (h : f_X6_hasSizes x1 s = some out)  (rx1 : rg x1) : VC yX6_hasSizes cX6_hasSizes 2 (some .boolean) 0 0 [vO 13, vI x1] s (some (vI out.1)) out.2 [] := by
  unfold f_X6_hasSizes at h
  refine VC.of RX6 (by decide) rfl (Nat.le_of_ble_eq_true rfl) ?_
  show VW cX6_hasSizes (RX6, (some (vI out.1)), out.2, (some .boolean), 0, 0, 2, []) (P0 []) s 0 [(0, vO 13), (1, vI x1)] []
  refine v_iload_n dX6_hasSizes_0 1 rfl rfl ?_
  refine v_iconst dX6_hasSizes_1 ?_
  refine v_icmp_eq (tgt := 40) dX6_hasSizes_2 rx1 (rgl rfl) (by decide) (fun c1 => ?_) (fun c1 => ?_)
  · rw [if_pos c1] at h
    refine v_iconst dX6_hasSizes_40 ?_
    refine v_goto (tgt := 45) dX6_hasSizes_41 (by decide) ?_
    cases h
    exact v_zret (Or.inr rfl) dX6_hasSizes_45
  · rw [if_neg c1] at h
    refine v_iload_n dX6_hasSizes_5 1 rfl rfl ?_
    refine v_iconst dX6_hasSizes_6 ?_
    refine v_icmp_eq (tgt := 40) dX6_hasSizes_7 rx1 (rgl rfl) (by decide) (fun c2 => ?_) (fun c2 => ?_)
    · rw [if_pos c2] at h
      refine v_iconst dX6_hasSizes_40 ?_
      refine v_goto (tgt := 45) dX6_hasSizes_41 (by decide) ?_
      cases h
      exact v_zret (Or.inr rfl) dX6_hasSizes_45
    · rw [if_neg c2] at h
      refine v_iload_n dX6_hasSizes_10 1 rfl rfl ?_
      refine v_bipush dX6_hasSizes_11 rfl ?_
      refine v_icmp_eq (tgt := 40) dX6_hasSizes_13 rx1 (rgl rfl) (by decide) (fun c3 => ?_) (fun c3 => ?_)
      · rw [if_pos c3] at h
        refine v_iconst dX6_hasSizes_40 ?_
        refine v_goto (tgt := 45) dX6_hasSizes_41 (by decide) ?_
        cases h
        exact v_zret (Or.inr rfl) dX6_hasSizes_45
      · rw [if_neg c3] at h
        refine v_iload_n dX6_hasSizes_16 1 rfl rfl ?_
        refine v_bipush dX6_hasSizes_17 rfl ?_
        refine v_icmp_eq (tgt := 40) dX6_hasSizes_19 rx1 (rgl rfl) (by decide) (fun c4 => ?_) (fun c4 => ?_)
        · rw [if_pos c4] at h
          refine v_iconst dX6_hasSizes_40 ?_
          refine v_goto (tgt := 45) dX6_hasSizes_41 (by decide) ?_
          cases h
          exact v_zret (Or.inr rfl) dX6_hasSizes_45
        · rw [if_neg c4] at h
          refine v_iload_n dX6_hasSizes_22 1 rfl rfl ?_
          refine v_bipush dX6_hasSizes_23 rfl ?_
          refine v_icmp_eq (tgt := 40) dX6_hasSizes_25 rx1 (rgl rfl) (by decide) (fun c5 => ?_) (fun c5 => ?_)
          · rw [if_pos c5] at h
            refine v_iconst dX6_hasSizes_40 ?_
            refine v_goto (tgt := 45) dX6_hasSizes_41 (by decide) ?_
            cases h
            exact v_zret (Or.inr rfl) dX6_hasSizes_45
          · rw [if_neg c5] at h
            refine v_iload_n dX6_hasSizes_28 1 rfl rfl ?_
            refine v_bipush dX6_hasSizes_29 rfl ?_
            refine v_icmp_eq (tgt := 40) dX6_hasSizes_31 rx1 (rgl rfl) (by decide) (fun c6 => ?_) (fun c6 => ?_)
            · rw [if_pos c6] at h
              refine v_iconst dX6_hasSizes_40 ?_
              refine v_goto (tgt := 45) dX6_hasSizes_41 (by decide) ?_
              cases h
              exact v_zret (Or.inr rfl) dX6_hasSizes_45
            · rw [if_neg c6] at h
              refine v_iload_n dX6_hasSizes_34 1 rfl rfl ?_
              refine v_bipush dX6_hasSizes_35 rfl ?_
              refine v_icmp_ne (tgt := 44) dX6_hasSizes_37 rx1 (rgl rfl) (by decide) (fun c7 => ?_) (fun c7 => ?_)
              · rw [if_neg c7] at h
                refine v_iconst dX6_hasSizes_44 ?_
                cases h
                exact v_zret (Or.inl rfl) dX6_hasSizes_45
              · rw [if_pos c7] at h
                refine v_iconst dX6_hasSizes_40 ?_
                refine v_goto (tgt := 45) dX6_hasSizes_41 (by decide) ?_
                cases h
                exact v_zret (Or.inr rfl) dX6_hasSizes_45

def E_X6_meant_4 (rv : Option vA) (σo : vS) (q : Int × Int × vS) : Prop := ∀ (x2' : Int) (x3' : Int) (s' : vS), q = (x2', x3', s') → rg x2' → rg x3' → VW cX6_meant (RX6, rv, σo, (some .int), 8, 186, 9, []) (P0 []) s' 272 [(0, vO 13), (2, vI x2'), (3, vI x3')] []
def j_X6_meant_126 (rec : Int → Int → vS → Option (Int × Int × vS)) (x2 : Int) (x3 : Int) (s : vS) : Option (Int × Int × vS) :=
  gd (inb x3 (gN s 38)) <|
  stp (sE s 38 x3 1) fun s2 =>
  rec x2 x3 s2
theorem wj_X6_meant_126 {x2 : Int} {x3 : Int} {s : vS} {rv : Option vA} {σo : vS} {rec : Int → Int → vS → Option (Int × Int × vS)} {q : Int × Int × vS} (h : j_X6_meant_126 rec x2 x3 s = some q)  (rx2 : rg x2) (rx3 : rg x3) (hrec : ∀ (y2 : Int) (y3 : Int) (s : vS) (q : Int × Int × vS), rec y2 y3 s = some q → rg y2 → rg y3 → E_X6_meant_4 rv σo q → VW cX6_meant (RX6, rv, σo, (some .int), 8, 186, 9, []) (P0 []) s 4 [(0, vO 13), (2, vI y2), (3, vI y3)] []) (hE : E_X6_meant_4 rv σo q) : VW cX6_meant (RX6, rv, σo, (some .int), 8, 186, 9, []) (P0 []) s 126 [(0, vO 13), (2, vI x2), (3, vI x3)] [] := by
  unfold j_X6_meant_126 at h
  refine v_aload_n dX6_meant_126 0 rfl rfl ?_
  refine v_getS (f := 15) (t := 38) cf6 oc13 rfl rfl rfl (by decide) q642 dX6_meant_127 ?_
  refine v_iload_n dX6_meant_130 2 rfl rfl ?_
  refine v_iconst dX6_meant_131 ?_
  obtain ⟨g1, h⟩ := gd_some h
  obtain ⟨s2, e3, h⟩ := stp_some h
  refine v_iast oc38 rx3 g1.1 g1.2 dX6_meant_132 ?_
  rw [← e3]
  refine v_goto (tgt := 269) dX6_meant_133 (by decide) ?_
  refine v_goto (tgt := 4) dX6_meant_269 (by decide) ?_
  exact hrec x2 x3 s2 _ h rx2 rx3 hE

def j_X6_meant_248 (rec : Int → Int → vS → Option (Int × Int × vS)) (x2 : Int) (x3 : Int) (z0 : Int) (s : vS) : Option (Int × Int × vS) :=
  if z0 = (-1) then
    gd (inb x3 (gN s 38)) <|
    stp (sE s 38 x3 1) fun s3 =>
    rec x2 x3 s3
  else
    rec x2 z0 s
theorem wj_X6_meant_248 {x2 : Int} {x3 : Int} {z0 : Int} {s : vS} {rv : Option vA} {σo : vS} {rec : Int → Int → vS → Option (Int × Int × vS)} {q : Int × Int × vS} (h : j_X6_meant_248 rec x2 x3 z0 s = some q)  (rx2 : rg x2) (rx3 : rg x3) (rz0 : rg z0) (hrec : ∀ (y2 : Int) (y3 : Int) (s : vS) (q : Int × Int × vS), rec y2 y3 s = some q → rg y2 → rg y3 → E_X6_meant_4 rv σo q → VW cX6_meant (RX6, rv, σo, (some .int), 8, 186, 9, []) (P0 []) s 4 [(0, vO 13), (2, vI y2), (3, vI y3)] []) (hE : E_X6_meant_4 rv σo q) : VW cX6_meant (RX6, rv, σo, (some .int), 8, 186, 9, []) (P0 []) s 248 [(0, vO 13), (2, vI x2), (3, vI x3)] [vI z0] := by
  unfold j_X6_meant_248 at h
  refine v_istore (L1 := [(8, vI z0), (0, vO 13), (2, vI x2), (3, vI x3)]) dX6_meant_248 (by decide) rfl ?_
  refine v_iload dX6_meant_250 0 rfl ?_
  refine v_iconst dX6_meant_252 ?_
  refine v_icmp_ne (tgt := 266) dX6_meant_253 rz0 (rgl rfl) (by decide) (fun c1 => ?_) (fun c1 => ?_)
  · rw [if_neg c1] at h
    refine v_iload dX6_meant_266 0 rfl ?_
    refine v_istore_n (L1 := [(3, vI z0), (8, vI z0), (0, vO 13), (2, vI x2)]) dX6_meant_268 rfl (by decide) rfl ?_
    refine v_goto (tgt := 4) dX6_meant_269 (by decide) ?_
    refine v_sub [2, 3, 0] (L1 := [(0, vO 13), (2, vI x2), (3, vI z0)]) rfl ?_
    exact hrec x2 z0 s _ h rx2 rz0 hE
  · rw [if_pos c1] at h
    refine v_aload_n dX6_meant_256 1 rfl rfl ?_
    refine v_getS (f := 15) (t := 38) cf6 oc13 rfl rfl rfl (by decide) q642 dX6_meant_257 ?_
    refine v_iload_n dX6_meant_260 3 rfl rfl ?_
    refine v_iconst dX6_meant_261 ?_
    obtain ⟨g2, h⟩ := gd_some h
    obtain ⟨s3, e4, h⟩ := stp_some h
    refine v_iast oc38 rx3 g2.1 g2.2 dX6_meant_262 ?_
    rw [← e4]
    refine v_goto (tgt := 269) dX6_meant_263 (by decide) ?_
    refine v_goto (tgt := 4) dX6_meant_269 (by decide) ?_
    refine v_sub [1, 2, 3] (L1 := [(0, vO 13), (2, vI x2), (3, vI x3)]) rfl ?_
    exact hrec x2 x3 s3 _ h rx2 rx3 hE

def j_X6_meant_190 (rec : Int → Int → vS → Option (Int × Int × vS)) (x2 : Int) (x3 : Int) (x5 : Int) (s : vS) : Option (Int × Int × vS) :=
  gd (inb x3 (gN s 38)) <|
  stp (sE s 38 x3 (w32 (2 + x5))) fun s2 =>
  rec x2 x3 s2
theorem wj_X6_meant_190 {x2 : Int} {x3 : Int} {x5 : Int} {s : vS} {rv : Option vA} {σo : vS} {rec : Int → Int → vS → Option (Int × Int × vS)} {q : Int × Int × vS} (h : j_X6_meant_190 rec x2 x3 x5 s = some q)  (rx2 : rg x2) (rx3 : rg x3) (rx5 : rg x5) (hrec : ∀ (y2 : Int) (y3 : Int) (s : vS) (q : Int × Int × vS), rec y2 y3 s = some q → rg y2 → rg y3 → E_X6_meant_4 rv σo q → VW cX6_meant (RX6, rv, σo, (some .int), 8, 186, 9, []) (P0 []) s 4 [(0, vO 13), (2, vI y2), (3, vI y3)] []) (hE : E_X6_meant_4 rv σo q) : VW cX6_meant (RX6, rv, σo, (some .int), 8, 186, 9, []) (P0 []) s 190 [(0, vO 13), (2, vI x2), (3, vI x3), (5, vI x5)] [] := by
  unfold j_X6_meant_190 at h
  refine v_aload_n dX6_meant_190 0 rfl rfl ?_
  refine v_getS (f := 15) (t := 38) cf6 oc13 rfl rfl rfl (by decide) q642 dX6_meant_191 ?_
  refine v_iload_n dX6_meant_194 2 rfl rfl ?_
  refine v_iconst dX6_meant_195 ?_
  refine v_iload dX6_meant_196 3 rfl ?_
  refine v_iadd dX6_meant_198 ?_
  obtain ⟨g1, h⟩ := gd_some h
  obtain ⟨s2, e3, h⟩ := stp_some h
  refine v_iast oc38 rx3 g1.1 g1.2 dX6_meant_199 ?_
  rw [← e3]
  refine v_goto (tgt := 269) dX6_meant_200 (by decide) ?_
  refine v_goto (tgt := 4) dX6_meant_269 (by decide) ?_
  refine v_sub [0, 1, 2] (L1 := [(0, vO 13), (2, vI x2), (3, vI x3)]) rfl ?_
  exact hrec x2 x3 s2 _ h rx2 rx3 hE

def j_X6_meant_187 (rec : Int → Int → vS → Option (Int × Int × vS)) (x2 : Int) (x3 : Int) (x5 : Int) (z1 : Int) (z2 : Int) (z3 : Int) (s : vS) : Option (Int × Int × vS) :=
  bdv (f_X6_number z1 z2 z3 s) fun s1 =>
  j_X6_meant_190 rec x2 x3 x5 s1
theorem wj_X6_meant_187 {x2 : Int} {x3 : Int} {x5 : Int} {z1 : Int} {z2 : Int} {z3 : Int} {s : vS} {rv : Option vA} {σo : vS} {rec : Int → Int → vS → Option (Int × Int × vS)} {q : Int × Int × vS} (h : j_X6_meant_187 rec x2 x3 x5 z1 z2 z3 s = some q)  (rx2 : rg x2) (rx3 : rg x3) (rx5 : rg x5) (rz1 : rg z1) (rz2 : rg z2) (rz3 : rg z3) (hrec : ∀ (y2 : Int) (y3 : Int) (s : vS) (q : Int × Int × vS), rec y2 y3 s = some q → rg y2 → rg y3 → E_X6_meant_4 rv σo q → VW cX6_meant (RX6, rv, σo, (some .int), 8, 186, 9, []) (P0 []) s 4 [(0, vO 13), (2, vI y2), (3, vI y3)] []) (hE : E_X6_meant_4 rv σo q) : VW cX6_meant (RX6, rv, σo, (some .int), 8, 186, 9, []) (P0 []) s 187 [(0, vO 13), (2, vI x2), (3, vI x3), (5, vI x5)] [vI z3, vI z2, vI z1, vO 13] := by
  unfold j_X6_meant_187 at h
  obtain ⟨s1, e2, h⟩ := bdv_some h
  have k3 := c_X6_number e2 rz1 rz2 rz3
  refine v_callV (st := []) cf6 oc13 k3 (lw_V q1501 q1503 qs49 q303 q1504) rfl yk_X6_number ⟨Nat.le_of_ble_eq_true rfl, Nat.le_of_ble_eq_true rfl⟩ trivial ⟨kc13, trivial⟩ (Nat.le_of_ble_eq_true rfl) rfl dX6_meant_187 ?_
  exact wj_X6_meant_190 h rx2 rx3 rx5 hrec hE

def j_X6_meant_105 (rec : Int → Int → vS → Option (Int × Int × vS)) (x2 : Int) (x3 : Int) (x4 : Int) (x5 : Int) (x6 : Int) (z0 : Int) (s : vS) : Option (Int × Int × vS) :=
  if x4 = (-1) then
    j_X6_meant_126 rec x2 x3 s
  else
    bd (f_X4_kind x4 s) fun r5 s2 =>
    if r5 = 2 then
      if x6 = 3 then
        gd (inb x5 (gN s2 34)) <|
        if (gE s2 34 x5) = (-1) then
          bd (f_X4_at x5 7 s2) fun r29 s26 =>
          bd (f_X4_at x5 6 s26) fun r34 s31 =>
          if r34 = 1 then
            j_X6_meant_187 rec x2 x3 x5 x5 r29 1 s31
          else
            j_X6_meant_187 rec x2 x3 x5 x5 r29 0 s31
        else
          j_X6_meant_190 rec x2 x3 x5 s2
      else
        if z0 = (-1) then
          if x6 = 4 then
            bd (f_X4_lexeme x5 s2) fun r14 s11 =>
            bd (f_X9_find 22 r14 s11) fun r19 s16 =>
            j_X6_meant_248 rec x2 x3 r19 s16
          else
            j_X6_meant_248 rec x2 x3 (-1) s2
        else
          gd (inb x3 (gN s2 38)) <|
          stp (sE s2 38 x3 (w32 (2 + z0))) fun s22 =>
          rec x2 x3 s22
    else
      j_X6_meant_126 rec x2 x3 s2
theorem wj_X6_meant_105 {x2 : Int} {x3 : Int} {x4 : Int} {x5 : Int} {x6 : Int} {z0 : Int} {s : vS} {rv : Option vA} {σo : vS} {rec : Int → Int → vS → Option (Int × Int × vS)} {q : Int × Int × vS} (h : j_X6_meant_105 rec x2 x3 x4 x5 x6 z0 s = some q)  (rx2 : rg x2) (rx3 : rg x3) (rx4 : rg x4) (rx5 : rg x5) (rx6 : rg x6) (rz0 : rg z0) (hrec : ∀ (y2 : Int) (y3 : Int) (s : vS) (q : Int × Int × vS), rec y2 y3 s = some q → rg y2 → rg y3 → E_X6_meant_4 rv σo q → VW cX6_meant (RX6, rv, σo, (some .int), 8, 186, 9, []) (P0 []) s 4 [(0, vO 13), (2, vI y2), (3, vI y3)] []) (hE : E_X6_meant_4 rv σo q) : VW cX6_meant (RX6, rv, σo, (some .int), 8, 186, 9, []) (P0 []) s 105 [(0, vO 13), (2, vI x2), (3, vI x3), (4, vI x4), (5, vI x5), (6, vI x6)] [vI z0] := by
  unfold j_X6_meant_105 at h
  refine v_istore (L1 := [(7, vI z0), (0, vO 13), (2, vI x2), (3, vI x3), (4, vI x4), (5, vI x5), (6, vI x6)]) dX6_meant_105 (by decide) rfl ?_
  refine v_iload dX6_meant_107 4 rfl ?_
  refine v_iconst dX6_meant_109 ?_
  refine v_icmp_eq (tgt := 126) dX6_meant_110 rx4 (rgl rfl) (by decide) (fun c1 => ?_) (fun c1 => ?_)
  · rw [if_pos c1] at h
    refine v_sub [1, 2, 3] (L1 := [(0, vO 13), (2, vI x2), (3, vI x3)]) rfl ?_
    exact wj_X6_meant_126 h rx2 rx3 hrec hE
  · rw [if_neg c1] at h
    refine v_aload_n dX6_meant_113 1 rfl rfl ?_
    refine v_getS (f := 1) (t := 10) cf6 oc13 rfl rfl rfl (by decide) q628 dX6_meant_114 ?_
    refine v_iload dX6_meant_117 4 rfl ?_
    obtain ⟨r5, s2, e3, h⟩ := bd_some h
    have k4 := c_X4_kind e3 rx4
    have r6 : rg r5 := k4.1.2.2
    refine v_callV (st := []) cf4 oc10 k4 (lw_V q1445 q1446 q1447 q301 q1448) rfl yk_X4_kind ⟨Nat.le_of_ble_eq_true rfl, Nat.le_of_ble_eq_true rfl⟩ trivial ⟨kc13, trivial⟩ (Nat.le_of_ble_eq_true rfl) rfl dX6_meant_119 ?_
    refine v_iconst dX6_meant_122 ?_
    refine v_icmp_eq (tgt := 136) dX6_meant_123 r6 (rgl rfl) (by decide) (fun c7 => ?_) (fun c7 => ?_)
    · rw [if_pos c7] at h
      refine v_iload dX6_meant_136 6 rfl ?_
      refine v_iconst dX6_meant_138 ?_
      refine v_icmp_ne (tgt := 203) dX6_meant_139 rx6 (rgl rfl) (by decide) (fun c8 => ?_) (fun c8 => ?_)
      · rw [if_neg c8] at h
        refine v_iload dX6_meant_203 0 rfl ?_
        refine v_iconst dX6_meant_205 ?_
        refine v_icmp_eq (tgt := 222) dX6_meant_206 rz0 (rgl rfl) (by decide) (fun c9 => ?_) (fun c9 => ?_)
        · rw [if_pos c9] at h
          refine v_iload dX6_meant_222 6 rfl ?_
          refine v_iconst dX6_meant_224 ?_
          refine v_icmp_ne (tgt := 247) dX6_meant_225 rx6 (rgl rfl) (by decide) (fun c10 => ?_) (fun c10 => ?_)
          · rw [if_neg c10] at h
            refine v_iconst dX6_meant_247 ?_
            refine v_sub [1, 2, 3] (L1 := [(0, vO 13), (2, vI x2), (3, vI x3)]) rfl ?_
            exact wj_X6_meant_248 h rx2 rx3 (rgl rfl) hrec hE
          · rw [if_pos c10] at h
            refine v_aload_n dX6_meant_228 1 rfl rfl ?_
            refine v_getS (f := 6) (t := 22) cf6 oc13 rfl rfl rfl (by decide) q633 dX6_meant_229 ?_
            refine v_aload_n dX6_meant_232 1 rfl rfl ?_
            refine v_getS (f := 1) (t := 10) cf6 oc13 rfl rfl rfl (by decide) q628 dX6_meant_233 ?_
            refine v_iload dX6_meant_236 5 rfl ?_
            obtain ⟨r14, s11, e12, h⟩ := bd_some h
            have k13 := c_X4_lexeme e12 rx5
            have r15 : rg r14 := k13.1.2.2
            refine v_callV (st := [vO 22]) cf4 oc10 k13 (lw_V q1449 q1450 q1451 q301 q1452) rfl yk_X4_lexeme ⟨Nat.le_of_ble_eq_true rfl, Nat.le_of_ble_eq_true rfl⟩ ⟨kc22, trivial⟩ ⟨kc13, trivial⟩ (Nat.le_of_ble_eq_true rfl) rfl dX6_meant_238 ?_
            obtain ⟨r19, s16, e17, h⟩ := bd_some h
            have k18 := c_X9_find e17 (⟨by decide, rfl⟩ : okB 22 8) r15
            have r20 : rg r19 := k18.1.2.2
            refine v_callV (st := []) cf9 oc22 k18 (lw_V q1575 q1576 q1577 q306 q1578) rfl yk_X9_find ⟨Nat.le_of_ble_eq_true rfl, Nat.le_of_ble_eq_true rfl⟩ trivial ⟨kc13, trivial⟩ (Nat.le_of_ble_eq_true rfl) rfl dX6_meant_241 ?_
            refine v_goto (tgt := 248) dX6_meant_244 (by decide) ?_
            refine v_sub [1, 2, 3] (L1 := [(0, vO 13), (2, vI x2), (3, vI x3)]) rfl ?_
            exact wj_X6_meant_248 h rx2 rx3 r20 hrec hE
        · rw [if_neg c9] at h
          refine v_aload_n dX6_meant_209 1 rfl rfl ?_
          refine v_getS (f := 15) (t := 38) cf6 oc13 rfl rfl rfl (by decide) q642 dX6_meant_210 ?_
          refine v_iload_n dX6_meant_213 3 rfl rfl ?_
          refine v_iconst dX6_meant_214 ?_
          refine v_iload dX6_meant_215 0 rfl ?_
          refine v_iadd dX6_meant_217 ?_
          obtain ⟨g21, h⟩ := gd_some h
          obtain ⟨s22, e23, h⟩ := stp_some h
          refine v_iast oc38 rx3 g21.1 g21.2 dX6_meant_218 ?_
          rw [← e23]
          refine v_goto (tgt := 269) dX6_meant_219 (by decide) ?_
          refine v_goto (tgt := 4) dX6_meant_269 (by decide) ?_
          refine v_sub [1, 2, 3] (L1 := [(0, vO 13), (2, vI x2), (3, vI x3)]) rfl ?_
          exact hrec x2 x3 s22 _ h rx2 rx3 hE
      · rw [if_pos c8] at h
        refine v_aload_n dX6_meant_142 1 rfl rfl ?_
        refine v_getS (f := 11) (t := 34) cf6 oc13 rfl rfl rfl (by decide) q638 dX6_meant_143 ?_
        refine v_iload dX6_meant_146 5 rfl ?_
        obtain ⟨g24, h⟩ := gd_some h
        refine v_iald oc34 rx5 g24.1 g24.2 dX6_meant_148 ?_
        refine v_iconst dX6_meant_149 ?_
        refine v_icmp_ne (tgt := 190) dX6_meant_150 (gE_rg _ _ _) (rgl rfl) (by decide) (fun c25 => ?_) (fun c25 => ?_)
        · rw [if_neg c25] at h
          refine v_sub [1, 2, 3, 5] (L1 := [(0, vO 13), (2, vI x2), (3, vI x3), (5, vI x5)]) rfl ?_
          exact wj_X6_meant_190 h rx2 rx3 rx5 hrec hE
        · rw [if_pos c25] at h
          refine v_aload_n dX6_meant_153 1 rfl rfl ?_
          refine v_iload dX6_meant_154 5 rfl ?_
          refine v_aload_n dX6_meant_156 1 rfl rfl ?_
          refine v_getS (f := 1) (t := 10) cf6 oc13 rfl rfl rfl (by decide) q628 dX6_meant_157 ?_
          refine v_iload dX6_meant_160 5 rfl ?_
          refine v_bipush dX6_meant_162 rfl ?_
          obtain ⟨r29, s26, e27, h⟩ := bd_some h
          have k28 := c_X4_at e27 rx5 (rgl rfl)
          have r30 : rg r29 := k28.1.2.2
          refine v_callV (st := [vI x5, vO 13]) cf4 oc10 k28 (lw_V q1500 q1400 q1401 q301 q1402) rfl yk_X4_at ⟨Nat.le_of_ble_eq_true rfl, Nat.le_of_ble_eq_true rfl⟩ ⟨kc13, trivial⟩ ⟨kc13, trivial⟩ (Nat.le_of_ble_eq_true rfl) rfl dX6_meant_164 ?_
          refine v_aload_n dX6_meant_167 1 rfl rfl ?_
          refine v_getS (f := 1) (t := 10) cf6 oc13 rfl rfl rfl (by decide) q628 dX6_meant_168 ?_
          refine v_iload dX6_meant_171 5 rfl ?_
          refine v_bipush dX6_meant_173 rfl ?_
          obtain ⟨r34, s31, e32, h⟩ := bd_some h
          have k33 := c_X4_at e32 rx5 (rgl rfl)
          have r35 : rg r34 := k33.1.2.2
          refine v_callV (st := [vI r29, vI x5, vO 13]) cf4 oc10 k33 (lw_V q1500 q1400 q1401 q301 q1402) rfl yk_X4_at ⟨Nat.le_of_ble_eq_true rfl, Nat.le_of_ble_eq_true rfl⟩ ⟨kc13, trivial⟩ ⟨kc13, trivial⟩ (Nat.le_of_ble_eq_true rfl) rfl dX6_meant_175 ?_
          refine v_iconst dX6_meant_178 ?_
          refine v_icmp_ne (tgt := 186) dX6_meant_179 r35 (rgl rfl) (by decide) (fun c36 => ?_) (fun c36 => ?_)
          · rw [if_neg c36] at h
            refine v_iconst dX6_meant_186 ?_
            refine v_sub [1, 2, 3, 5] (L1 := [(0, vO 13), (2, vI x2), (3, vI x3), (5, vI x5)]) rfl ?_
            exact wj_X6_meant_187 h rx2 rx3 rx5 rx5 r30 (rgl rfl) hrec hE
          · rw [if_pos c36] at h
            refine v_iconst dX6_meant_182 ?_
            refine v_goto (tgt := 187) dX6_meant_183 (by decide) ?_
            refine v_sub [1, 2, 3, 5] (L1 := [(0, vO 13), (2, vI x2), (3, vI x3), (5, vI x5)]) rfl ?_
            exact wj_X6_meant_187 h rx2 rx3 rx5 rx5 r30 (rgl rfl) hrec hE
    · rw [if_neg c7] at h
      refine v_sub [1, 2, 3] (L1 := [(0, vO 13), (2, vI x2), (3, vI x3)]) rfl ?_
      exact wj_X6_meant_126 h rx2 rx3 hrec hE

def l_X6_meant_4 : Nat → Int → Int → vS → Option (Int × Int × vS)
  | 0, _, _, _ => none
  | n + 1, x2, x3, s =>
    gd (inb x3 (gN s 38)) <|
    if (gE s 38 x3) = 0 then
      bd (f_X6_grown 41 (w32 (x2 + 1)) s) fun r6 s7 =>
      gd (r6 = 0 ∨ (2 * gN s7 41 ≤ gN s7 199 ∧ 2 ≤ gN s7 199)) <|
      stp (grw s7 41 r6) fun s11 =>
      gd (inb x2 (gN s11 41)) <|
      stp (sE s11 41 x2 x3) fun s14 =>
      vl (w32 (x2 + 1)) fun y16 =>
      bd (f_X4_parts x3 s14) fun r22 s19 =>
      bd (f_X6_base r22 s19) fun r27 s24 =>
      bd (f_X4_limits x3 s24) fun r32 s29 =>
      bd (f_X4_at r32 5 s29) fun r37 s34 =>
      if r37 = 4 then
        bd (f_X4_parts x3 s34) fun r43 s40 =>
        bd (f_X4_lexeme r32 s40) fun r48 s45 =>
        bd (f_X6_itemOf r43 r48 0 s45) fun r53 s50 =>
        j_X6_meant_105 (l_X6_meant_4 n) y16 x3 r27 r32 r37 r53 s50
      else
        j_X6_meant_105 (l_X6_meant_4 n) y16 x3 r27 r32 r37 (-1) s34
    else
      some (x2, x3, s)
theorem wl_X6_meant_4 {rv : Option vA} {σo : vS}  : ∀ (n : Nat) (x2 : Int) (x3 : Int) (s : vS) (q : Int × Int × vS), l_X6_meant_4 n x2 x3 s = some q → rg x2 → rg x3 → E_X6_meant_4 rv σo q → VW cX6_meant (RX6, rv, σo, (some .int), 8, 186, 9, []) (P0 []) s 4 [(0, vO 13), (2, vI x2), (3, vI x3)] [] := by
  intro n
  induction n with
  | zero => intro x2 x3 s q h; cases h
  | succ n ih =>
    intro x2 x3 s q h rx2 rx3 hE
    unfold l_X6_meant_4 at h
    refine v_aload_n dX6_meant_4 0 rfl rfl ?_
    refine v_getS (f := 15) (t := 38) cf6 oc13 rfl rfl rfl (by decide) q642 dX6_meant_5 ?_
    refine v_iload_n dX6_meant_8 2 rfl rfl ?_
    obtain ⟨g1, h⟩ := gd_some h
    refine v_iald oc38 rx3 g1.1 g1.2 dX6_meant_9 ?_
    refine v_if_ne (tgt := 272) dX6_meant_10 (gE_rg _ _ _) (by decide) (fun c2 => ?_) (fun c2 => ?_)
    · rw [if_neg c2] at h
      cases h
      exact hE _ _ _ rfl rx2 rx3
    · rw [if_pos c2] at h
      refine v_aload_n dX6_meant_13 0 rfl rfl ?_
      refine v_aload_n dX6_meant_14 0 rfl rfl ?_
      refine v_getS (f := 19) (t := 41) cf6 oc13 rfl rfl rfl (by decide) q646 dX6_meant_15 ?_
      refine v_iload_n dX6_meant_18 1 rfl rfl ?_
      refine v_iconst dX6_meant_19 ?_
      refine v_iadd dX6_meant_20 ?_
      obtain ⟨r6, s7, e8, h⟩ := bd_some h
      have k9 := c_X6_grown e8 (⟨by decide, rfl⟩ : okB 41 24) (w32_rg _)
      obtain ⟨g10, h⟩ := gd_some h
      obtain ⟨s11, e12, h⟩ := stp_some h
      refine v_regrow (f := 19) k9 (lw_S q1431 q1432 q303 q1433) yk_X6_grown ⟨Nat.le_of_ble_eq_true rfl, Nat.le_of_ble_eq_true rfl⟩ ⟨kc13, trivial⟩ ⟨kc13, trivial⟩ (Nat.le_of_ble_eq_true rfl) dX6_meant_21 cf6 (⟨by decide, rfl⟩ : okB 13 5) rfl (by decide) rfl rfl g10 q646 dX6_meant_24 rfl rfl rfl rfl ⟨(by decide), trivial⟩ trivial ?_
      rw [← e12]
      refine v_aload_n dX6_meant_27 0 rfl rfl ?_
      refine v_getS (f := 19) (t := 41) cf6 oc13 rfl rfl rfl (by decide) q646 dX6_meant_28 ?_
      refine v_iload_n dX6_meant_31 1 rfl rfl ?_
      refine v_iload_n dX6_meant_32 2 rfl rfl ?_
      obtain ⟨g13, h⟩ := gd_some h
      obtain ⟨s14, e15, h⟩ := stp_some h
      refine v_iast oc41 rx2 g13.1 g13.2 dX6_meant_33 ?_
      rw [← e15]
      obtain ⟨y16, e17, h⟩ := vl_some h
      refine v_iinc (L1 := [(2, vI (w32 (x2 + 1))), (0, vO 13), (3, vI x3)]) dX6_meant_34 1 rfl (by decide) rfl ?_
      rw [← e17]
      have r18 : rg y16 := by rw [e17]; exact w32_rg _
      refine v_aload_n dX6_meant_37 1 rfl rfl ?_
      refine v_aload_n dX6_meant_38 1 rfl rfl ?_
      refine v_getS (f := 1) (t := 10) cf6 oc13 rfl rfl rfl (by decide) q628 dX6_meant_39 ?_
      refine v_iload_n dX6_meant_42 2 rfl rfl ?_
      obtain ⟨r22, s19, e20, h⟩ := bd_some h
      have k21 := c_X4_parts e20 rx3
      have r23 : rg r22 := k21.1.2.2
      refine v_callV (st := [vO 13]) cf4 oc10 k21 (lw_V q1492 q1493 q1494 q301 q1495) rfl yk_X4_parts ⟨Nat.le_of_ble_eq_true rfl, Nat.le_of_ble_eq_true rfl⟩ ⟨kc13, trivial⟩ ⟨kc13, trivial⟩ (Nat.le_of_ble_eq_true rfl) rfl dX6_meant_43 ?_
      obtain ⟨r27, s24, e25, h⟩ := bd_some h
      have k26 := c_X6_base e25 r23
      have r28 : rg r27 := k26.1.2.2
      refine v_callV (st := []) cf6 oc13 k26 (lw_V q1588 q1590 qs60 q303 q1591) rfl yk_X6_base ⟨Nat.le_of_ble_eq_true rfl, Nat.le_of_ble_eq_true rfl⟩ trivial ⟨kc13, trivial⟩ (Nat.le_of_ble_eq_true rfl) rfl dX6_meant_46 ?_
      refine v_istore (L1 := [(4, vI r27), (2, vI y16), (0, vO 13), (3, vI x3)]) dX6_meant_49 (by decide) rfl ?_
      refine v_aload_n dX6_meant_51 2 rfl rfl ?_
      refine v_getS (f := 1) (t := 10) cf6 oc13 rfl rfl rfl (by decide) q628 dX6_meant_52 ?_
      refine v_iload_n dX6_meant_55 3 rfl rfl ?_
      obtain ⟨r32, s29, e30, h⟩ := bd_some h
      have k31 := c_X4_limits e30 rx3
      have r33 : rg r32 := k31.1.2.2
      refine v_callV (st := []) cf4 oc10 k31 (lw_V q1579 q1396 q1397 q301 q1398) rfl yk_X4_limits ⟨Nat.le_of_ble_eq_true rfl, Nat.le_of_ble_eq_true rfl⟩ trivial ⟨kc13, trivial⟩ (Nat.le_of_ble_eq_true rfl) rfl dX6_meant_56 ?_
      refine v_istore (L1 := [(5, vI r32), (4, vI r27), (2, vI y16), (0, vO 13), (3, vI x3)]) dX6_meant_59 (by decide) rfl ?_
      refine v_aload_n dX6_meant_61 3 rfl rfl ?_
      refine v_getS (f := 1) (t := 10) cf6 oc13 rfl rfl rfl (by decide) q628 dX6_meant_62 ?_
      refine v_iload dX6_meant_65 0 rfl ?_
      refine v_iconst dX6_meant_67 ?_
      obtain ⟨r37, s34, e35, h⟩ := bd_some h
      have k36 := c_X4_at e35 r33 (rgl rfl)
      have r38 : rg r37 := k36.1.2.2
      refine v_callV (st := []) cf4 oc10 k36 (lw_V q1500 q1400 q1401 q301 q1402) rfl yk_X4_at ⟨Nat.le_of_ble_eq_true rfl, Nat.le_of_ble_eq_true rfl⟩ trivial ⟨kc13, trivial⟩ (Nat.le_of_ble_eq_true rfl) rfl dX6_meant_68 ?_
      refine v_istore (L1 := [(6, vI r37), (5, vI r32), (4, vI r27), (2, vI y16), (0, vO 13), (3, vI x3)]) dX6_meant_71 (by decide) rfl ?_
      refine v_iload dX6_meant_73 0 rfl ?_
      refine v_iconst dX6_meant_75 ?_
      refine v_icmp_ne (tgt := 104) dX6_meant_76 r38 (rgl rfl) (by decide) (fun c39 => ?_) (fun c39 => ?_)
      · rw [if_neg c39] at h
        refine v_iconst dX6_meant_104 ?_
        refine v_sub [4, 3, 5, 2, 1, 0] (L1 := [(0, vO 13), (2, vI y16), (3, vI x3), (4, vI r27), (5, vI r32), (6, vI r37)]) rfl ?_
        exact wj_X6_meant_105 h r18 rx3 r28 r33 r38 (rgl rfl) ih hE
      · rw [if_pos c39] at h
        refine v_aload_n dX6_meant_79 4 rfl rfl ?_
        refine v_aload_n dX6_meant_80 4 rfl rfl ?_
        refine v_getS (f := 1) (t := 10) cf6 oc13 rfl rfl rfl (by decide) q628 dX6_meant_81 ?_
        refine v_iload_n dX6_meant_84 5 rfl rfl ?_
        obtain ⟨r43, s40, e41, h⟩ := bd_some h
        have k42 := c_X4_parts e41 rx3
        have r44 : rg r43 := k42.1.2.2
        refine v_callV (st := [vO 13]) cf4 oc10 k42 (lw_V q1492 q1493 q1494 q301 q1495) rfl yk_X4_parts ⟨Nat.le_of_ble_eq_true rfl, Nat.le_of_ble_eq_true rfl⟩ ⟨kc13, trivial⟩ ⟨kc13, trivial⟩ (Nat.le_of_ble_eq_true rfl) rfl dX6_meant_85 ?_
        refine v_aload_n dX6_meant_88 4 rfl rfl ?_
        refine v_getS (f := 1) (t := 10) cf6 oc13 rfl rfl rfl (by decide) q628 dX6_meant_89 ?_
        refine v_iload dX6_meant_92 1 rfl ?_
        obtain ⟨r48, s45, e46, h⟩ := bd_some h
        have k47 := c_X4_lexeme e46 r33
        have r49 : rg r48 := k47.1.2.2
        refine v_callV (st := [vI r43, vO 13]) cf4 oc10 k47 (lw_V q1449 q1450 q1451 q301 q1452) rfl yk_X4_lexeme ⟨Nat.le_of_ble_eq_true rfl, Nat.le_of_ble_eq_true rfl⟩ ⟨kc13, trivial⟩ ⟨kc13, trivial⟩ (Nat.le_of_ble_eq_true rfl) rfl dX6_meant_94 ?_
        refine v_iconst dX6_meant_97 ?_
        obtain ⟨r53, s50, e51, h⟩ := bd_some h
        have k52 := c_X6_itemOf e51 r44 r49 (rgl rfl)
        have r54 : rg r53 := k52.1.2.2
        refine v_callV (st := []) cf6 oc13 k52 (lw_V q1584 q1586 qs59 q303 q1587) rfl yk_X6_itemOf ⟨Nat.le_of_ble_eq_true rfl, Nat.le_of_ble_eq_true rfl⟩ trivial ⟨kc13, trivial⟩ (Nat.le_of_ble_eq_true rfl) rfl dX6_meant_98 ?_
        refine v_goto (tgt := 105) dX6_meant_101 (by decide) ?_
        refine v_sub [4, 3, 5, 2, 1, 0] (L1 := [(0, vO 13), (2, vI y16), (3, vI x3), (4, vI r27), (5, vI r32), (6, vI r37)]) rfl ?_
        exact wj_X6_meant_105 h r18 rx3 r28 r33 r38 r54 ih hE

def E_X6_meant_272 (x3 : Int) (rv : Option vA) (σo : vS) (q : vS) : Prop := ∀ (s' : vS), q = s' → VW cX6_meant (RX6, rv, σo, (some .int), 8, 186, 9, []) (P0 []) s' 299 [(0, vO 13), (3, vI x3)] []
def l_X6_meant_272 : Nat → Int → Int → vS → Option (vS)
  | 0, _, _, _ => none
  | n + 1, x2, x3, s =>
    if x2 ≤ 0 then
      some s
    else
      vl (w32 (x2 + (-1))) fun y2 =>
      gd (inb y2 (gN s 41)) <|
      gd (inb x3 (gN s 38)) <|
      gd (inb (gE s 41 y2) (gN s 38)) <|
      stp (sE s 38 (gE s 41 y2) (gE s 38 x3)) fun s8 =>
      l_X6_meant_272 n y2 x3 s8
theorem wl_X6_meant_272 {x3 : Int} {rv : Option vA} {σo : vS}  (rx3 : rg x3) : ∀ (n : Nat) (x2 : Int) (s : vS) (q : vS), l_X6_meant_272 n x2 x3 s = some q → rg x2 → E_X6_meant_272 x3 rv σo q → VW cX6_meant (RX6, rv, σo, (some .int), 8, 186, 9, []) (P0 []) s 272 [(0, vO 13), (2, vI x2), (3, vI x3)] [] := by
  intro n
  induction n with
  | zero => intro x2 s q h; cases h
  | succ n ih =>
    intro x2 s q h rx2 hE
    unfold l_X6_meant_272 at h
    refine v_iload_n dX6_meant_272 1 rfl rfl ?_
    refine v_if_le (tgt := 299) dX6_meant_273 rx2 (by decide) (fun c1 => ?_) (fun c1 => ?_)
    · rw [if_pos c1] at h
      cases h
      refine v_sub [0, 2] (L1 := [(0, vO 13), (3, vI x3)]) rfl ?_
      exact hE _ rfl 
    · rw [if_neg c1] at h
      obtain ⟨y2, e3, h⟩ := vl_some h
      refine v_iinc (L1 := [(2, vI (w32 (x2 + (-1)))), (0, vO 13), (3, vI x3)]) dX6_meant_276 1 rfl (by decide) rfl ?_
      rw [← e3]
      have r4 : rg y2 := by rw [e3]; exact w32_rg _
      refine v_aload_n dX6_meant_279 1 rfl rfl ?_
      refine v_getS (f := 15) (t := 38) cf6 oc13 rfl rfl rfl (by decide) q642 dX6_meant_280 ?_
      refine v_aload_n dX6_meant_283 1 rfl rfl ?_
      refine v_getS (f := 19) (t := 41) cf6 oc13 rfl rfl rfl (by decide) q646 dX6_meant_284 ?_
      refine v_iload_n dX6_meant_287 0 rfl rfl ?_
      obtain ⟨g5, h⟩ := gd_some h
      refine v_iald oc41 r4 g5.1 g5.2 dX6_meant_288 ?_
      refine v_aload_n dX6_meant_289 1 rfl rfl ?_
      refine v_getS (f := 15) (t := 38) cf6 oc13 rfl rfl rfl (by decide) q642 dX6_meant_290 ?_
      refine v_iload_n dX6_meant_293 2 rfl rfl ?_
      obtain ⟨g6, h⟩ := gd_some h
      refine v_iald oc38 rx3 g6.1 g6.2 dX6_meant_294 ?_
      obtain ⟨g7, h⟩ := gd_some h
      obtain ⟨s8, e9, h⟩ := stp_some h
      refine v_iast oc38 (gE_rg _ _ _) g7.1 g7.2 dX6_meant_295 ?_
      rw [← e9]
      refine v_goto (tgt := 272) dX6_meant_296 (by decide) ?_
      refine v_sub [1, 0, 2] (L1 := [(0, vO 13), (2, vI y2), (3, vI x3)]) rfl ?_
      exact ih y2 s8 _ h r4 hE

def f_X6_meant (x1 : Int) (s : vS) : Option (Int × vS) :=
  lq_2 (l_X6_meant_4 FU 0 x1 s) fun y1 y2 s3 =>
  lq_0 (l_X6_meant_272 FU y1 y2 s3) fun s7 =>
  gd (inb y2 (gN s7 38)) <|
  if 0 ≤ (w32 ((gE s7 38 y2) - 2)) then
    gd (inb y2 (gN s7 38)) <|
    some (w32 ((gE s7 38 y2) - 2), s7)
  else
    some ((-1), s7)
theorem yk_X6_meant : yOk yX6_meant 1 := ⟨by decide, by decide, by decide +kernel⟩
theorem c_X6_meant {x1 : Int} {s : vS} {out : Int × vS} (h : f_X6_meant x1 s = some out)  (rx1 : rg x1) : VC yX6_meant cX6_meant 9 (some .int) 8 186 [vO 13, vI x1] s (some (vI out.1)) out.2 [] := by
  unfold f_X6_meant at h
  refine VC.of RX6 (by decide) rfl (Nat.le_of_ble_eq_true rfl) ?_
  show VW cX6_meant (RX6, (some (vI out.1)), out.2, (some .int), 8, 186, 9, []) (P0 []) s 0 [(0, vO 13), (1, vI x1)] []
  refine v_iconst dX6_meant_0 ?_
  refine v_istore_n (L1 := [(2, vI 0), (0, vO 13), (1, vI x1)]) dX6_meant_1 rfl (by decide) rfl ?_
  refine v_iload_n dX6_meant_2 2 rfl rfl ?_
  refine v_istore_n (L1 := [(3, vI x1), (2, vI 0), (0, vO 13), (1, vI x1)]) dX6_meant_3 rfl (by decide) rfl ?_
  refine v_sub [2, 1, 0] (L1 := [(0, vO 13), (2, vI 0), (3, vI x1)]) rfl ?_
  obtain ⟨y1, y2, s3, e4, h⟩ := lq_2_some h
  refine wl_X6_meant_4  FU 0 x1 s _ e4 (rgl rfl) rx1 ?_
  unfold E_X6_meant_4
  intro y1' y2' s3' z_ r5 r6
  cases z_
  obtain ⟨s7, e8, h⟩ := lq_0_some h
  refine wl_X6_meant_272 r6 FU y1 s3 _ e8 r5 ?_
  unfold E_X6_meant_272
  intro s7' z_
  cases z_
  refine v_aload_n dX6_meant_299 0 rfl rfl ?_
  refine v_getS (f := 15) (t := 38) cf6 oc13 rfl rfl rfl (by decide) q642 dX6_meant_300 ?_
  refine v_iload_n dX6_meant_303 1 rfl rfl ?_
  obtain ⟨g9, h⟩ := gd_some h
  refine v_iald oc38 r6 g9.1 g9.2 dX6_meant_304 ?_
  refine v_iconst dX6_meant_305 ?_
  refine v_isub dX6_meant_306 ?_
  refine v_if_ge (tgt := 314) dX6_meant_307 (w32_rg _) (by decide) (fun c10 => ?_) (fun c10 => ?_)
  · rw [if_pos c10] at h
    refine v_aload_n dX6_meant_314 0 rfl rfl ?_
    refine v_getS (f := 15) (t := 38) cf6 oc13 rfl rfl rfl (by decide) q642 dX6_meant_315 ?_
    refine v_iload_n dX6_meant_318 1 rfl rfl ?_
    obtain ⟨g11, h⟩ := gd_some h
    refine v_iald oc38 r6 g11.1 g11.2 dX6_meant_319 ?_
    refine v_iconst dX6_meant_320 ?_
    refine v_isub dX6_meant_321 ?_
    cases h
    exact v_iret (w32_rg _) dX6_meant_322
  · rw [if_neg c10] at h
    refine v_iconst dX6_meant_310 ?_
    refine v_goto (tgt := 322) dX6_meant_311 (by decide) ?_
    cases h
    exact v_iret (rgl rfl) dX6_meant_322

def j_X6_wordNumber_43 (x1 : Int) (x4 : Int) (s : vS) : Option (Int × vS) :=
  if x4 = (-1) then
    some (0, s)
  else
    gd (inb x4 (gN s 34)) <|
    gd (inb x1 (gN s 34)) <|
    stp (sE s 34 x1 (gE s 34 x4)) fun s4 =>
    gd (inb x4 (gN s4 35)) <|
    gd (inb x1 (gN s4 35)) <|
    stp (sE s4 35 x1 (gE s4 35 x4)) fun s8 =>
    some (1, s8)
theorem wj_X6_wordNumber_43 {x1 : Int} {x4 : Int} {s : vS} {out : Int × vS} (h : j_X6_wordNumber_43 x1 x4 s = some out)  (rx1 : rg x1) (rx4 : rg x4) : VW cX6_wordNumber (RX6, (some (vI out.1)), out.2, (some .boolean), 9, 214, 6, []) (P0 []) s 43 [(0, vO 13), (1, vI x1), (4, vI x4)] [] := by
  unfold j_X6_wordNumber_43 at h
  refine v_iload dX6_wordNumber_43 2 rfl ?_
  refine v_iconst dX6_wordNumber_45 ?_
  refine v_icmp_ne (tgt := 51) dX6_wordNumber_46 rx4 (rgl rfl) (by decide) (fun c1 => ?_) (fun c1 => ?_)
  · rw [if_neg c1] at h
    refine v_aload_n dX6_wordNumber_51 0 rfl rfl ?_
    refine v_getS (f := 11) (t := 34) cf6 oc13 rfl rfl rfl (by decide) q638 dX6_wordNumber_52 ?_
    refine v_iload_n dX6_wordNumber_55 1 rfl rfl ?_
    refine v_aload_n dX6_wordNumber_56 0 rfl rfl ?_
    refine v_getS (f := 11) (t := 34) cf6 oc13 rfl rfl rfl (by decide) q638 dX6_wordNumber_57 ?_
    refine v_iload dX6_wordNumber_60 2 rfl ?_
    obtain ⟨g2, h⟩ := gd_some h
    refine v_iald oc34 rx4 g2.1 g2.2 dX6_wordNumber_62 ?_
    obtain ⟨g3, h⟩ := gd_some h
    obtain ⟨s4, e5, h⟩ := stp_some h
    refine v_iast oc34 rx1 g3.1 g3.2 dX6_wordNumber_63 ?_
    rw [← e5]
    refine v_aload_n dX6_wordNumber_64 0 rfl rfl ?_
    refine v_getS (f := 12) (t := 35) cf6 oc13 rfl rfl rfl (by decide) q639 dX6_wordNumber_65 ?_
    refine v_iload_n dX6_wordNumber_68 1 rfl rfl ?_
    refine v_aload_n dX6_wordNumber_69 0 rfl rfl ?_
    refine v_getS (f := 12) (t := 35) cf6 oc13 rfl rfl rfl (by decide) q639 dX6_wordNumber_70 ?_
    refine v_iload dX6_wordNumber_73 2 rfl ?_
    obtain ⟨g6, h⟩ := gd_some h
    refine v_iald oc35 rx4 g6.1 g6.2 dX6_wordNumber_75 ?_
    obtain ⟨g7, h⟩ := gd_some h
    obtain ⟨s8, e9, h⟩ := stp_some h
    refine v_iast oc35 rx1 g7.1 g7.2 dX6_wordNumber_76 ?_
    rw [← e9]
    refine v_iconst dX6_wordNumber_77 ?_
    cases h
    exact v_zret (Or.inr rfl) dX6_wordNumber_78
  · rw [if_pos c1] at h
    refine v_iconst dX6_wordNumber_49 ?_
    cases h
    exact v_zret (Or.inl rfl) dX6_wordNumber_50

def f_X6_wordNumber (x1 : Int) (x2 : Int) (x3 : Int) (s : vS) : Option (Int × vS) :=
  bd (f_X6_itemOf x2 x3 0 s) fun r4 s1 =>
  if r4 = (-1) then
    bd (f_X9_find 22 x3 s1) fun r10 s7 =>
    if r10 = (-1) then
      j_X6_wordNumber_43 x1 (-1) s7
    else
      bd (f_X6_meant r10 s7) fun r16 s13 =>
      j_X6_wordNumber_43 x1 r16 s13
  else
    j_X6_wordNumber_43 x1 r4 s1
theorem yk_X6_wordNumber : yOk yX6_wordNumber 3 := ⟨by decide, by decide, by decide +kernel⟩
theorem c_X6_wordNumber {x1 : Int} {x2 : Int} {x3 : Int} {s : vS} {out : Int × vS} (h : f_X6_wordNumber x1 x2 x3 s = some out)  (rx1 : rg x1) (rx2 : rg x2) (rx3 : rg x3) : VC yX6_wordNumber cX6_wordNumber 6 (some .boolean) 9 214 [vO 13, vI x1, vI x2, vI x3] s (some (vI out.1)) out.2 [] := by
  unfold f_X6_wordNumber at h
  refine VC.of RX6 (by decide) rfl (Nat.le_of_ble_eq_true rfl) ?_
  show VW cX6_wordNumber (RX6, (some (vI out.1)), out.2, (some .boolean), 9, 214, 6, []) (P0 []) s 0 [(0, vO 13), (1, vI x1), (2, vI x2), (3, vI x3)] []
  refine v_aload_n dX6_wordNumber_0 0 rfl rfl ?_
  refine v_iload_n dX6_wordNumber_1 2 rfl rfl ?_
  refine v_iload_n dX6_wordNumber_2 3 rfl rfl ?_
  refine v_iconst dX6_wordNumber_3 ?_
  obtain ⟨r4, s1, e2, h⟩ := bd_some h
  have k3 := c_X6_itemOf e2 rx2 rx3 (rgl rfl)
  have r5 : rg r4 := k3.1.2.2
  refine v_callV (st := []) cf6 oc13 k3 (lw_V q1584 q1586 qs59 q303 q1587) rfl yk_X6_itemOf ⟨Nat.le_of_ble_eq_true rfl, Nat.le_of_ble_eq_true rfl⟩ trivial ⟨kc13, trivial⟩ (Nat.le_of_ble_eq_true rfl) rfl dX6_wordNumber_4 ?_
  refine v_istore (L1 := [(4, vI r4), (0, vO 13), (1, vI x1), (2, vI x2), (3, vI x3)]) dX6_wordNumber_7 (by decide) rfl ?_
  refine v_iload dX6_wordNumber_9 0 rfl ?_
  refine v_iconst dX6_wordNumber_11 ?_
  refine v_icmp_ne (tgt := 43) dX6_wordNumber_12 r5 (rgl rfl) (by decide) (fun c6 => ?_) (fun c6 => ?_)
  · rw [if_neg c6] at h
    refine v_sub [1, 2, 0] (L1 := [(0, vO 13), (1, vI x1), (4, vI r4)]) rfl ?_
    exact wj_X6_wordNumber_43 h rx1 r5
  · rw [if_pos c6] at h
    refine v_aload_n dX6_wordNumber_15 1 rfl rfl ?_
    refine v_getS (f := 6) (t := 22) cf6 oc13 rfl rfl rfl (by decide) q633 dX6_wordNumber_16 ?_
    refine v_iload_n dX6_wordNumber_19 4 rfl rfl ?_
    obtain ⟨r10, s7, e8, h⟩ := bd_some h
    have k9 := c_X9_find e8 (⟨by decide, rfl⟩ : okB 22 8) rx3
    have r11 : rg r10 := k9.1.2.2
    refine v_callV (st := []) cf9 oc22 k9 (lw_V q1575 q1576 q1577 q306 q1578) rfl yk_X9_find ⟨Nat.le_of_ble_eq_true rfl, Nat.le_of_ble_eq_true rfl⟩ trivial ⟨kc13, trivial⟩ (Nat.le_of_ble_eq_true rfl) rfl dX6_wordNumber_20 ?_
    refine v_istore (L1 := [(5, vI r10), (4, vI r4), (0, vO 13), (1, vI x1), (2, vI x2), (3, vI x3)]) dX6_wordNumber_23 (by decide) rfl ?_
    refine v_iload dX6_wordNumber_25 0 rfl ?_
    refine v_iconst dX6_wordNumber_27 ?_
    refine v_icmp_ne (tgt := 35) dX6_wordNumber_28 r11 (rgl rfl) (by decide) (fun c12 => ?_) (fun c12 => ?_)
    · rw [if_neg c12] at h
      refine v_aload_n dX6_wordNumber_35 2 rfl rfl ?_
      refine v_iload dX6_wordNumber_36 0 rfl ?_
      obtain ⟨r16, s13, e14, h⟩ := bd_some h
      have k15 := c_X6_meant e14 r11
      have r17 : rg r16 := k15.1.2.2
      refine v_callV (st := []) cf6 oc13 k15 (lw_V q1680 q1682 qs80 q303 q1683) rfl yk_X6_meant ⟨Nat.le_of_ble_eq_true rfl, Nat.le_of_ble_eq_true rfl⟩ trivial ⟨kc13, trivial⟩ (Nat.le_of_ble_eq_true rfl) rfl dX6_wordNumber_38 ?_
      refine v_istore (L1 := [(4, vI r16), (5, vI r10), (0, vO 13), (1, vI x1), (2, vI x2), (3, vI x3)]) dX6_wordNumber_41 (by decide) rfl ?_
      refine v_sub [2, 3, 0] (L1 := [(0, vO 13), (1, vI x1), (4, vI r16)]) rfl ?_
      exact wj_X6_wordNumber_43 h rx1 r17
    · rw [if_pos c12] at h
      refine v_iconst dX6_wordNumber_31 ?_
      refine v_goto (tgt := 41) dX6_wordNumber_32 (by decide) ?_
      refine v_istore (L1 := [(4, vI (-1)), (5, vI r10), (0, vO 13), (1, vI x1), (2, vI x2), (3, vI x3)]) dX6_wordNumber_41 (by decide) rfl ?_
      refine v_sub [2, 3, 0] (L1 := [(0, vO 13), (1, vI x1), (4, vI (-1))]) rfl ?_
      exact wj_X6_wordNumber_43 h rx1 (rgl rfl)

def j_X6_isBound_86 (x1 : Int) (x3 : Int) (s : vS) : Option (Int × vS) :=
  if x3 = 0 then
    some (1, s)
  else
    gd (inb x1 (gN s 34)) <|
    bd (f_X2_at 30 (gE s 34 x1) s) fun r6 s3 =>
    if 128 ≤ r6 then
      some (0, s3)
    else
      some (1, s3)
theorem wj_X6_isBound_86 {x1 : Int} {x3 : Int} {s : vS} {out : Int × vS} (h : j_X6_isBound_86 x1 x3 s = some out)  (rx1 : rg x1) (rx3 : rg x3) : VW cX6_isBound (RX6, (some (vI out.1)), out.2, (some .boolean), 10, 239, 5, []) (P0 []) s 86 [(0, vO 13), (1, vI x1), (3, vI x3)] [] := by
  unfold j_X6_isBound_86 at h
  refine v_iload_n dX6_isBound_86 2 rfl rfl ?_
  refine v_if_eq (tgt := 109) dX6_isBound_87 rx3 (by decide) (fun c1 => ?_) (fun c1 => ?_)
  · rw [if_pos c1] at h
    refine v_iconst dX6_isBound_109 ?_
    refine v_goto (tgt := 114) dX6_isBound_110 (by decide) ?_
    cases h
    exact v_zret (Or.inr rfl) dX6_isBound_114
  · rw [if_neg c1] at h
    refine v_aload_n dX6_isBound_90 0 rfl rfl ?_
    refine v_getS (f := 9) (t := 30) cf6 oc13 rfl rfl rfl (by decide) q636 dX6_isBound_91 ?_
    refine v_aload_n dX6_isBound_94 0 rfl rfl ?_
    refine v_getS (f := 11) (t := 34) cf6 oc13 rfl rfl rfl (by decide) q638 dX6_isBound_95 ?_
    refine v_iload_n dX6_isBound_98 1 rfl rfl ?_
    obtain ⟨g2, h⟩ := gd_some h
    refine v_iald oc34 rx1 g2.1 g2.2 dX6_isBound_99 ?_
    obtain ⟨r6, s3, e4, h⟩ := bd_some h
    have k5 := c_X2_at e4 (⟨by decide, rfl⟩ : okB 30 1) (gE_rg _ _ _)
    have r7 : rg r6 := k5.1.2.2
    refine v_callV (st := []) cf2 oc30 k5 (lw_V q1549 q1072 q1073 q299 q1074) rfl yk_X2_at ⟨Nat.le_of_ble_eq_true rfl, Nat.le_of_ble_eq_true rfl⟩ trivial ⟨kc13, trivial⟩ (Nat.le_of_ble_eq_true rfl) rfl dX6_isBound_100 ?_
    refine v_sipush dX6_isBound_103 rfl ?_
    refine v_icmp_ge (tgt := 113) dX6_isBound_106 r7 (rgl rfl) (by decide) (fun c8 => ?_) (fun c8 => ?_)
    · rw [if_pos c8] at h
      refine v_iconst dX6_isBound_113 ?_
      cases h
      exact v_zret (Or.inl rfl) dX6_isBound_114
    · rw [if_neg c8] at h
      refine v_iconst dX6_isBound_109 ?_
      refine v_goto (tgt := 114) dX6_isBound_110 (by decide) ?_
      cases h
      exact v_zret (Or.inr rfl) dX6_isBound_114

def j_X6_isBound_61 (x1 : Int) (x3 : Int) (z1 : Int) (z2 : Int) (z3 : Int) (s : vS) : Option (Int × vS) :=
  bdv (f_X6_number z1 z2 z3 s) fun s1 =>
  j_X6_isBound_86 x1 x3 s1
theorem wj_X6_isBound_61 {x1 : Int} {x3 : Int} {z1 : Int} {z2 : Int} {z3 : Int} {s : vS} {out : Int × vS} (h : j_X6_isBound_61 x1 x3 z1 z2 z3 s = some out)  (rx1 : rg x1) (rx3 : rg x3) (rz1 : rg z1) (rz2 : rg z2) (rz3 : rg z3) : VW cX6_isBound (RX6, (some (vI out.1)), out.2, (some .boolean), 10, 239, 5, []) (P0 []) s 61 [(0, vO 13), (1, vI x1), (3, vI x3)] [vI z3, vI z2, vI z1, vO 13] := by
  unfold j_X6_isBound_61 at h
  obtain ⟨s1, e2, h⟩ := bdv_some h
  have k3 := c_X6_number e2 rz1 rz2 rz3
  refine v_callV (st := []) cf6 oc13 k3 (lw_V q1501 q1503 qs49 q303 q1504) rfl yk_X6_number ⟨Nat.le_of_ble_eq_true rfl, Nat.le_of_ble_eq_true rfl⟩ trivial ⟨kc13, trivial⟩ (Nat.le_of_ble_eq_true rfl) rfl dX6_isBound_61 ?_
  refine v_goto (tgt := 86) dX6_isBound_64 (by decide) ?_
  exact wj_X6_isBound_86 h rx1 rx3

def f_X6_isBound (x1 : Int) (x2 : Int) (x3 : Int) (s : vS) : Option (Int × vS) :=
  bd (f_X4_at x1 5 s) fun r4 s1 =>
  if r4 = 0 then
    some (1, s1)
  else
    if r4 = 1 then
      some (1, s1)
    else
      if r4 = 2 then
        bd (f_X4_at x1 7 s1) fun r23 s20 =>
        bd (f_X4_at x1 6 s20) fun r28 s25 =>
        if r28 = 1 then
          j_X6_isBound_61 x1 x3 x1 r23 1 s25
        else
          j_X6_isBound_61 x1 x3 x1 r23 0 s25
      else
        bd (f_X4_lexeme x1 s1) fun r12 s9 =>
        bd (f_X6_wordNumber x1 x2 r12 s9) fun r17 s14 =>
        if r17 = 0 then
          some (0, s14)
        else
          j_X6_isBound_86 x1 x3 s14
theorem yk_X6_isBound : yOk yX6_isBound 3 := ⟨by decide, by decide, by decide +kernel⟩
theorem c_X6_isBound {x1 : Int} {x2 : Int} {x3 : Int} {s : vS} {out : Int × vS} (h : f_X6_isBound x1 x2 x3 s = some out)  (rx1 : rg x1) (rx2 : rg x2) (rx3 : rg x3) : VC yX6_isBound cX6_isBound 5 (some .boolean) 10 239 [vO 13, vI x1, vI x2, vI x3] s (some (vI out.1)) out.2 [] := by
  unfold f_X6_isBound at h
  refine VC.of RX6 (by decide) rfl (Nat.le_of_ble_eq_true rfl) ?_
  show VW cX6_isBound (RX6, (some (vI out.1)), out.2, (some .boolean), 10, 239, 5, []) (P0 []) s 0 [(0, vO 13), (1, vI x1), (2, vI x2), (3, vI x3)] []
  refine v_aload_n dX6_isBound_0 0 rfl rfl ?_
  refine v_getS (f := 1) (t := 10) cf6 oc13 rfl rfl rfl (by decide) q628 dX6_isBound_1 ?_
  refine v_iload_n dX6_isBound_4 1 rfl rfl ?_
  refine v_iconst dX6_isBound_5 ?_
  obtain ⟨r4, s1, e2, h⟩ := bd_some h
  have k3 := c_X4_at e2 rx1 (rgl rfl)
  have r5 : rg r4 := k3.1.2.2
  refine v_callV (st := []) cf4 oc10 k3 (lw_V q1500 q1400 q1401 q301 q1402) rfl yk_X4_at ⟨Nat.le_of_ble_eq_true rfl, Nat.le_of_ble_eq_true rfl⟩ trivial ⟨kc13, trivial⟩ (Nat.le_of_ble_eq_true rfl) rfl dX6_isBound_6 ?_
  refine v_istore (L1 := [(4, vI r4), (0, vO 13), (1, vI x1), (2, vI x2), (3, vI x3)]) dX6_isBound_9 (by decide) rfl ?_
  refine v_iload dX6_isBound_11 0 rfl ?_
  refine v_if_eq (tgt := 22) dX6_isBound_13 r5 (by decide) (fun c6 => ?_) (fun c6 => ?_)
  · rw [if_pos c6] at h
    refine v_iconst dX6_isBound_22 ?_
    cases h
    exact v_zret (Or.inr rfl) dX6_isBound_23
  · rw [if_neg c6] at h
    refine v_iload dX6_isBound_16 0 rfl ?_
    refine v_iconst dX6_isBound_18 ?_
    refine v_icmp_ne (tgt := 24) dX6_isBound_19 r5 (rgl rfl) (by decide) (fun c7 => ?_) (fun c7 => ?_)
    · rw [if_neg c7] at h
      refine v_iload dX6_isBound_24 0 rfl ?_
      refine v_iconst dX6_isBound_26 ?_
      refine v_icmp_ne (tgt := 67) dX6_isBound_27 r5 (rgl rfl) (by decide) (fun c8 => ?_) (fun c8 => ?_)
      · rw [if_neg c8] at h
        refine v_aload_n dX6_isBound_67 1 rfl rfl ?_
        refine v_iload_n dX6_isBound_68 2 rfl rfl ?_
        refine v_iload_n dX6_isBound_69 3 rfl rfl ?_
        refine v_aload_n dX6_isBound_70 1 rfl rfl ?_
        refine v_getS (f := 1) (t := 10) cf6 oc13 rfl rfl rfl (by decide) q628 dX6_isBound_71 ?_
        refine v_iload_n dX6_isBound_74 2 rfl rfl ?_
        obtain ⟨r12, s9, e10, h⟩ := bd_some h
        have k11 := c_X4_lexeme e10 rx1
        have r13 : rg r12 := k11.1.2.2
        refine v_callV (st := [vI x2, vI x1, vO 13]) cf4 oc10 k11 (lw_V q1449 q1450 q1451 q301 q1452) rfl yk_X4_lexeme ⟨Nat.le_of_ble_eq_true rfl, Nat.le_of_ble_eq_true rfl⟩ ⟨kc13, trivial⟩ ⟨kc13, trivial⟩ (Nat.le_of_ble_eq_true rfl) rfl dX6_isBound_75 ?_
        obtain ⟨r17, s14, e15, h⟩ := bd_some h
        have k16 := c_X6_wordNumber e15 rx1 rx2 r13
        have r18 : rg r17 := k16.1.2.2
        refine v_callV (st := []) cf6 oc13 k16 (lw_V q1676 q1678 qs79 q303 q1679) rfl yk_X6_wordNumber ⟨Nat.le_of_ble_eq_true rfl, Nat.le_of_ble_eq_true rfl⟩ trivial ⟨kc13, trivial⟩ (Nat.le_of_ble_eq_true rfl) rfl dX6_isBound_78 ?_
        refine v_if_ne (tgt := 86) dX6_isBound_81 r18 (by decide) (fun c19 => ?_) (fun c19 => ?_)
        · rw [if_neg c19] at h
          refine v_sub [1, 2, 4] (L1 := [(0, vO 13), (1, vI x1), (3, vI x3)]) rfl ?_
          exact wj_X6_isBound_86 h rx1 rx3
        · rw [if_pos c19] at h
          refine v_iconst dX6_isBound_84 ?_
          cases h
          exact v_zret (Or.inl rfl) dX6_isBound_85
      · rw [if_pos c8] at h
        refine v_aload_n dX6_isBound_30 1 rfl rfl ?_
        refine v_iload_n dX6_isBound_31 2 rfl rfl ?_
        refine v_aload_n dX6_isBound_32 1 rfl rfl ?_
        refine v_getS (f := 1) (t := 10) cf6 oc13 rfl rfl rfl (by decide) q628 dX6_isBound_33 ?_
        refine v_iload_n dX6_isBound_36 2 rfl rfl ?_
        refine v_bipush dX6_isBound_37 rfl ?_
        obtain ⟨r23, s20, e21, h⟩ := bd_some h
        have k22 := c_X4_at e21 rx1 (rgl rfl)
        have r24 : rg r23 := k22.1.2.2
        refine v_callV (st := [vI x1, vO 13]) cf4 oc10 k22 (lw_V q1500 q1400 q1401 q301 q1402) rfl yk_X4_at ⟨Nat.le_of_ble_eq_true rfl, Nat.le_of_ble_eq_true rfl⟩ ⟨kc13, trivial⟩ ⟨kc13, trivial⟩ (Nat.le_of_ble_eq_true rfl) rfl dX6_isBound_39 ?_
        refine v_aload_n dX6_isBound_42 1 rfl rfl ?_
        refine v_getS (f := 1) (t := 10) cf6 oc13 rfl rfl rfl (by decide) q628 dX6_isBound_43 ?_
        refine v_iload_n dX6_isBound_46 2 rfl rfl ?_
        refine v_bipush dX6_isBound_47 rfl ?_
        obtain ⟨r28, s25, e26, h⟩ := bd_some h
        have k27 := c_X4_at e26 rx1 (rgl rfl)
        have r29 : rg r28 := k27.1.2.2
        refine v_callV (st := [vI r23, vI x1, vO 13]) cf4 oc10 k27 (lw_V q1500 q1400 q1401 q301 q1402) rfl yk_X4_at ⟨Nat.le_of_ble_eq_true rfl, Nat.le_of_ble_eq_true rfl⟩ ⟨kc13, trivial⟩ ⟨kc13, trivial⟩ (Nat.le_of_ble_eq_true rfl) rfl dX6_isBound_49 ?_
        refine v_iconst dX6_isBound_52 ?_
        refine v_icmp_ne (tgt := 60) dX6_isBound_53 r29 (rgl rfl) (by decide) (fun c30 => ?_) (fun c30 => ?_)
        · rw [if_neg c30] at h
          refine v_iconst dX6_isBound_60 ?_
          refine v_sub [1, 2, 4] (L1 := [(0, vO 13), (1, vI x1), (3, vI x3)]) rfl ?_
          exact wj_X6_isBound_61 h rx1 rx3 rx1 r24 (rgl rfl)
        · rw [if_pos c30] at h
          refine v_iconst dX6_isBound_56 ?_
          refine v_goto (tgt := 61) dX6_isBound_57 (by decide) ?_
          refine v_sub [1, 2, 4] (L1 := [(0, vO 13), (1, vI x1), (3, vI x3)]) rfl ?_
          exact wj_X6_isBound_61 h rx1 rx3 rx1 r24 (rgl rfl)
    · rw [if_pos c7] at h
      refine v_iconst dX6_isBound_22 ?_
      cases h
      exact v_zret (Or.inr rfl) dX6_isBound_23

def j_X7_compare_76 (p0 : Nat) (p3 : Nat) (x6 : Int) (z0 : Int) (s : vS) : Option (Int × vS) :=
  if z0 = x6 then
    some (1, s)
  else
    some ((-1), s)
theorem wj_X7_compare_76 {p0 : Nat} {p3 : Nat} {x6 : Int} {z0 : Int} {s : vS} {out : Int × vS} (h : j_X7_compare_76 p0 p3 x6 z0 s = some out) (hp0 : okB p0 1) (hp3 : okB p3 1) (rx6 : rg x6) (rz0 : rg z0) : VW cX7_compare (RX7, (some (vI out.1)), out.2, (some .int), 2, 49, 7, []) (P0 []) s 76 [(6, vI x6)] [vI z0] := by
  unfold j_X7_compare_76 at h
  refine v_iload dX7_compare_76 0 rfl ?_
  refine v_icmp_ne (tgt := 85) dX7_compare_78 rz0 rx6 (by decide) (fun c1 => ?_) (fun c1 => ?_)
  · rw [if_neg c1] at h
    refine v_iconst dX7_compare_85 ?_
    cases h
    exact v_iret (rgl rfl) dX7_compare_86
  · rw [if_pos c1] at h
    refine v_iconst dX7_compare_81 ?_
    refine v_goto (tgt := 86) dX7_compare_82 (by decide) ?_
    cases h
    exact v_iret (rgl rfl) dX7_compare_86

def j_X7_compare_35 (p0 : Nat) (p3 : Nat) (x1 : Int) (x2 : Int) (x4 : Int) (x5 : Int) (x6 : Int) (z0 : Int) (z1 : Int) (s : vS) : Option (Int × vS) :=
  if z0 = z1 then
    if (w32 (x2 - x1)) = (w32 (x5 - x4)) then
      bd (f_X2_compare p0 x1 x2 p3 x4 x5 s) fun r6 s3 =>
      some (r6, s3)
    else
      if (w32 (x5 - x4)) ≤ (w32 (x2 - x1)) then
        j_X7_compare_76 p0 p3 x6 0 s
      else
        j_X7_compare_76 p0 p3 x6 1 s
  else
    if x6 = 0 then
      some (1, s)
    else
      some ((-1), s)
theorem wj_X7_compare_35 {p0 : Nat} {p3 : Nat} {x1 : Int} {x2 : Int} {x4 : Int} {x5 : Int} {x6 : Int} {z0 : Int} {z1 : Int} {s : vS} {out : Int × vS} (h : j_X7_compare_35 p0 p3 x1 x2 x4 x5 x6 z0 z1 s = some out) (hp0 : okB p0 1) (hp3 : okB p3 1) (rx1 : rg x1) (rx2 : rg x2) (rx4 : rg x4) (rx5 : rg x5) (rx6 : rg x6) (rz0 : rg z0) (rz1 : rg z1) : VW cX7_compare (RX7, (some (vI out.1)), out.2, (some .int), 2, 49, 7, []) (P0 []) s 35 [(0, vO p0), (1, vI x1), (2, vI x2), (3, vO p3), (4, vI x4), (5, vI x5), (6, vI x6)] [vI z1, vI z0] := by
  unfold j_X7_compare_35 at h
  refine v_icmp_eq (tgt := 49) dX7_compare_35 rz0 rz1 (by decide) (fun c1 => ?_) (fun c1 => ?_)
  · rw [if_pos c1] at h
    refine v_iload_n dX7_compare_49 2 rfl rfl ?_
    refine v_iload_n dX7_compare_50 1 rfl rfl ?_
    refine v_isub dX7_compare_51 ?_
    refine v_iload dX7_compare_52 5 rfl ?_
    refine v_iload dX7_compare_54 4 rfl ?_
    refine v_isub dX7_compare_56 ?_
    refine v_icmp_eq (tgt := 87) dX7_compare_57 (w32_rg _) (w32_rg _) (by decide) (fun c2 => ?_) (fun c2 => ?_)
    · rw [if_pos c2] at h
      refine v_aload_n dX7_compare_87 0 rfl rfl ?_
      refine v_iload_n dX7_compare_88 1 rfl rfl ?_
      refine v_iload_n dX7_compare_89 2 rfl rfl ?_
      refine v_aload_n dX7_compare_90 3 rfl rfl ?_
      refine v_iload dX7_compare_91 4 rfl ?_
      refine v_iload dX7_compare_93 5 rfl ?_
      obtain ⟨r6, s3, e4, h⟩ := bd_some h
      have k5 := c_X2_compare e4 hp0 hp3 rx1 rx2 rx4 rx5
      have r7 : rg r6 := k5.1.2.2
      refine v_callV (st := []) cf2 (okB_ok hp0) k5 (lw_V q1691 q1470 q1471 q299 q1472) rfl yk_X2_compare ⟨Nat.le_of_ble_eq_true rfl, Nat.le_of_ble_eq_true rfl⟩ trivial ⟨(okB_kp hp0 (by decide)), (okB_kp hp3 (by decide)), trivial⟩ (Nat.le_of_ble_eq_true rfl) rfl dX7_compare_95 ?_
      cases h
      exact v_iret r7 dX7_compare_98
    · rw [if_neg c2] at h
      refine v_iload_n dX7_compare_60 2 rfl rfl ?_
      refine v_iload_n dX7_compare_61 1 rfl rfl ?_
      refine v_isub dX7_compare_62 ?_
      refine v_iload dX7_compare_63 5 rfl ?_
      refine v_iload dX7_compare_65 4 rfl ?_
      refine v_isub dX7_compare_67 ?_
      refine v_icmp_ge (tgt := 75) dX7_compare_68 (w32_rg _) (w32_rg _) (by decide) (fun c8 => ?_) (fun c8 => ?_)
      · rw [if_pos c8] at h
        refine v_iconst dX7_compare_75 ?_
        refine v_sub [6] (L1 := [(6, vI x6)]) rfl ?_
        exact wj_X7_compare_76 h hp0 hp3 rx6 (rgl rfl)
      · rw [if_neg c8] at h
        refine v_iconst dX7_compare_71 ?_
        refine v_goto (tgt := 76) dX7_compare_72 (by decide) ?_
        refine v_sub [6] (L1 := [(6, vI x6)]) rfl ?_
        exact wj_X7_compare_76 h hp0 hp3 rx6 (rgl rfl)
  · rw [if_neg c1] at h
    refine v_iload dX7_compare_38 6 rfl ?_
    refine v_if_eq (tgt := 47) dX7_compare_40 rx6 (by decide) (fun c9 => ?_) (fun c9 => ?_)
    · rw [if_pos c9] at h
      refine v_iconst dX7_compare_47 ?_
      cases h
      exact v_iret (rgl rfl) dX7_compare_48
    · rw [if_neg c9] at h
      refine v_iconst dX7_compare_43 ?_
      refine v_goto (tgt := 48) dX7_compare_44 (by decide) ?_
      cases h
      exact v_iret (rgl rfl) dX7_compare_48

def j_X7_compare_15 (p0 : Nat) (p3 : Nat) (x1 : Int) (x2 : Int) (x4 : Int) (x5 : Int) (z0 : Int) (s : vS) : Option (Int × vS) :=
  bd (f_X2_at p3 x4 s) fun r4 s1 =>
  if r4 ≤ 127 then
    j_X7_compare_35 p0 p3 x1 x2 x4 x5 z0 z0 0 s1
  else
    j_X7_compare_35 p0 p3 x1 x2 x4 x5 z0 z0 1 s1
theorem wj_X7_compare_15 {p0 : Nat} {p3 : Nat} {x1 : Int} {x2 : Int} {x4 : Int} {x5 : Int} {z0 : Int} {s : vS} {out : Int × vS} (h : j_X7_compare_15 p0 p3 x1 x2 x4 x5 z0 s = some out) (hp0 : okB p0 1) (hp3 : okB p3 1) (rx1 : rg x1) (rx2 : rg x2) (rx4 : rg x4) (rx5 : rg x5) (rz0 : rg z0) : VW cX7_compare (RX7, (some (vI out.1)), out.2, (some .int), 2, 49, 7, []) (P0 []) s 15 [(0, vO p0), (1, vI x1), (2, vI x2), (3, vO p3), (4, vI x4), (5, vI x5)] [vI z0] := by
  unfold j_X7_compare_15 at h
  refine v_istore (L1 := [(6, vI z0), (0, vO p0), (1, vI x1), (2, vI x2), (3, vO p3), (4, vI x4), (5, vI x5)]) dX7_compare_15 (by decide) rfl ?_
  refine v_iload dX7_compare_17 0 rfl ?_
  refine v_aload_n dX7_compare_19 4 rfl rfl ?_
  refine v_iload dX7_compare_20 5 rfl ?_
  obtain ⟨r4, s1, e2, h⟩ := bd_some h
  have k3 := c_X2_at e2 hp3 rx4
  have r5 : rg r4 := k3.1.2.2
  refine v_callV (st := [vI z0]) cf2 (okB_ok hp3) k3 (lw_V q1512 q1072 q1073 q299 q1074) rfl yk_X2_at ⟨Nat.le_of_ble_eq_true rfl, Nat.le_of_ble_eq_true rfl⟩ trivial ⟨(okB_kp hp0 (by decide)), (okB_kp hp3 (by decide)), trivial⟩ (Nat.le_of_ble_eq_true rfl) rfl dX7_compare_22 ?_
  refine v_bipush dX7_compare_25 rfl ?_
  refine v_icmp_le (tgt := 34) dX7_compare_27 r5 (rgl rfl) (by decide) (fun c6 => ?_) (fun c6 => ?_)
  · rw [if_pos c6] at h
    refine v_iconst dX7_compare_34 ?_
    refine v_sub [1, 2, 3, 4, 5, 6, 0] (L1 := [(0, vO p0), (1, vI x1), (2, vI x2), (3, vO p3), (4, vI x4), (5, vI x5), (6, vI z0)]) rfl ?_
    exact wj_X7_compare_35 h hp0 hp3 rx1 rx2 rx4 rx5 rz0 rz0 (rgl rfl)
  · rw [if_neg c6] at h
    refine v_iconst dX7_compare_30 ?_
    refine v_goto (tgt := 35) dX7_compare_31 (by decide) ?_
    refine v_sub [1, 2, 3, 4, 5, 6, 0] (L1 := [(0, vO p0), (1, vI x1), (2, vI x2), (3, vO p3), (4, vI x4), (5, vI x5), (6, vI z0)]) rfl ?_
    exact wj_X7_compare_35 h hp0 hp3 rx1 rx2 rx4 rx5 rz0 rz0 (rgl rfl)

def f_X7_compare (p0 : Nat) (x1 : Int) (x2 : Int) (p3 : Nat) (x4 : Int) (x5 : Int) (s : vS) : Option (Int × vS) :=
  bd (f_X2_at p0 x1 s) fun r4 s1 =>
  if r4 ≤ 127 then
    j_X7_compare_15 p0 p3 x1 x2 x4 x5 0 s1
  else
    j_X7_compare_15 p0 p3 x1 x2 x4 x5 1 s1
theorem yk_X7_compare : yOk yX7_compare 6 := ⟨by decide, by decide, by decide +kernel⟩
theorem c_X7_compare {p0 : Nat} {x1 : Int} {x2 : Int} {p3 : Nat} {x4 : Int} {x5 : Int} {s : vS} {out : Int × vS} (h : f_X7_compare p0 x1 x2 p3 x4 x5 s = some out) (hp0 : okB p0 1) (hp3 : okB p3 1) (rx1 : rg x1) (rx2 : rg x2) (rx4 : rg x4) (rx5 : rg x5) : VC yX7_compare cX7_compare 7 (some .int) 2 49 [vO p0, vI x1, vI x2, vO p3, vI x4, vI x5] s (some (vI out.1)) out.2 [] := by
  unfold f_X7_compare at h
  refine VC.of RX7 (by decide) rfl (Nat.le_of_ble_eq_true rfl) ?_
  show VW cX7_compare (RX7, (some (vI out.1)), out.2, (some .int), 2, 49, 7, []) (P0 []) s 0 [(0, vO p0), (1, vI x1), (2, vI x2), (3, vO p3), (4, vI x4), (5, vI x5)] []
  refine v_aload_n dX7_compare_0 0 rfl rfl ?_
  refine v_iload_n dX7_compare_1 1 rfl rfl ?_
  obtain ⟨r4, s1, e2, h⟩ := bd_some h
  have k3 := c_X2_at e2 hp0 rx1
  have r5 : rg r4 := k3.1.2.2
  refine v_callV (st := []) cf2 (okB_ok hp0) k3 (lw_V q1512 q1072 q1073 q299 q1074) rfl yk_X2_at ⟨Nat.le_of_ble_eq_true rfl, Nat.le_of_ble_eq_true rfl⟩ trivial ⟨(okB_kp hp0 (by decide)), (okB_kp hp3 (by decide)), trivial⟩ (Nat.le_of_ble_eq_true rfl) rfl dX7_compare_2 ?_
  refine v_bipush dX7_compare_5 rfl ?_
  refine v_icmp_le (tgt := 14) dX7_compare_7 r5 (rgl rfl) (by decide) (fun c6 => ?_) (fun c6 => ?_)
  · rw [if_pos c6] at h
    refine v_iconst dX7_compare_14 ?_
    exact wj_X7_compare_15 h hp0 hp3 rx1 rx2 rx4 rx5 (rgl rfl)
  · rw [if_neg c6] at h
    refine v_iconst dX7_compare_10 ?_
    refine v_goto (tgt := 15) dX7_compare_11 (by decide) ?_
    exact wj_X7_compare_15 h hp0 hp3 rx1 rx2 rx4 rx5 (rgl rfl)

def f_X6_isAbove (x1 : Int) (x2 : Int) (x3 : Int) (s : vS) : Option (Int × vS) :=
  bd (f_X4_at x1 5 s) fun r4 s1 =>
  bd (f_X4_at x2 5 s1) fun r9 s6 =>
  if x1 = x2 then
    some (0, s6)
  else
    if r4 = 0 then
      some (0, s6)
    else
      if r9 = 1 then
        some (0, s6)
      else
        if r4 = 1 then
          some (1, s6)
        else
          if r9 = 0 then
            if x3 = 0 then
              some (1, s6)
            else
              gd (inb x1 (gN s6 34)) <|
              bd (f_X2_at 30 (gE s6 34 x1) s6) fun r31 s28 =>
              if r31 = 0 then
                gd (inb x1 (gN s28 35)) <|
                gd (inb x1 (gN s28 34)) <|
                if (w32 ((gE s28 35 x1) - (gE s28 34 x1))) ≤ 1 then
                  some (0, s28)
                else
                  some (1, s28)
              else
                some (1, s28)
          else
            gd (inb x1 (gN s6 34)) <|
            gd (inb x1 (gN s6 35)) <|
            gd (inb x2 (gN s6 34)) <|
            gd (inb x2 (gN s6 35)) <|
            bd (f_X7_compare 30 (gE s6 34 x1) (gE s6 35 x1) 30 (gE s6 34 x2) (gE s6 35 x2) s6) fun r23 s20 =>
            if r23 ≤ 0 then
              some (0, s20)
            else
              some (1, s20)
theorem yk_X6_isAbove : yOk yX6_isAbove 3 := ⟨by decide, by decide, by decide +kernel⟩
theorem c_X6_isAbove {x1 : Int} {x2 : Int} {x3 : Int} {s : vS} {out : Int × vS} (h : f_X6_isAbove x1 x2 x3 s = some out)  (rx1 : rg x1) (rx2 : rg x2) (rx3 : rg x3) : VC yX6_isAbove cX6_isAbove 6 (some .boolean) 3 75 [vO 13, vI x1, vI x2, vI x3] s (some (vI out.1)) out.2 [] := by
  unfold f_X6_isAbove at h
  refine VC.of RX6 (by decide) rfl (Nat.le_of_ble_eq_true rfl) ?_
  show VW cX6_isAbove (RX6, (some (vI out.1)), out.2, (some .boolean), 3, 75, 6, []) (P0 []) s 0 [(0, vO 13), (1, vI x1), (2, vI x2), (3, vI x3)] []
  refine v_aload_n dX6_isAbove_0 0 rfl rfl ?_
  refine v_getS (f := 1) (t := 10) cf6 oc13 rfl rfl rfl (by decide) q628 dX6_isAbove_1 ?_
  refine v_iload_n dX6_isAbove_4 1 rfl rfl ?_
  refine v_iconst dX6_isAbove_5 ?_
  obtain ⟨r4, s1, e2, h⟩ := bd_some h
  have k3 := c_X4_at e2 rx1 (rgl rfl)
  have r5 : rg r4 := k3.1.2.2
  refine v_callV (st := []) cf4 oc10 k3 (lw_V q1500 q1400 q1401 q301 q1402) rfl yk_X4_at ⟨Nat.le_of_ble_eq_true rfl, Nat.le_of_ble_eq_true rfl⟩ trivial ⟨kc13, trivial⟩ (Nat.le_of_ble_eq_true rfl) rfl dX6_isAbove_6 ?_
  refine v_istore (L1 := [(4, vI r4), (0, vO 13), (1, vI x1), (2, vI x2), (3, vI x3)]) dX6_isAbove_9 (by decide) rfl ?_
  refine v_aload_n dX6_isAbove_11 1 rfl rfl ?_
  refine v_getS (f := 1) (t := 10) cf6 oc13 rfl rfl rfl (by decide) q628 dX6_isAbove_12 ?_
  refine v_iload_n dX6_isAbove_15 3 rfl rfl ?_
  refine v_iconst dX6_isAbove_16 ?_
  obtain ⟨r9, s6, e7, h⟩ := bd_some h
  have k8 := c_X4_at e7 rx2 (rgl rfl)
  have r10 : rg r9 := k8.1.2.2
  refine v_callV (st := []) cf4 oc10 k8 (lw_V q1500 q1400 q1401 q301 q1402) rfl yk_X4_at ⟨Nat.le_of_ble_eq_true rfl, Nat.le_of_ble_eq_true rfl⟩ trivial ⟨kc13, trivial⟩ (Nat.le_of_ble_eq_true rfl) rfl dX6_isAbove_17 ?_
  refine v_istore (L1 := [(5, vI r9), (4, vI r4), (0, vO 13), (1, vI x1), (2, vI x2), (3, vI x3)]) dX6_isAbove_20 (by decide) rfl ?_
  refine v_iload_n dX6_isAbove_22 3 rfl rfl ?_
  refine v_iload_n dX6_isAbove_23 4 rfl rfl ?_
  refine v_icmp_eq (tgt := 38) dX6_isAbove_24 rx1 rx2 (by decide) (fun c11 => ?_) (fun c11 => ?_)
  · rw [if_pos c11] at h
    refine v_iconst dX6_isAbove_38 ?_
    cases h
    exact v_zret (Or.inl rfl) dX6_isAbove_39
  · rw [if_neg c11] at h
    refine v_iload dX6_isAbove_27 1 rfl ?_
    refine v_if_eq (tgt := 38) dX6_isAbove_29 r5 (by decide) (fun c12 => ?_) (fun c12 => ?_)
    · rw [if_pos c12] at h
      refine v_iconst dX6_isAbove_38 ?_
      cases h
      exact v_zret (Or.inl rfl) dX6_isAbove_39
    · rw [if_neg c12] at h
      refine v_iload dX6_isAbove_32 0 rfl ?_
      refine v_iconst dX6_isAbove_34 ?_
      refine v_icmp_ne (tgt := 40) dX6_isAbove_35 r10 (rgl rfl) (by decide) (fun c13 => ?_) (fun c13 => ?_)
      · rw [if_neg c13] at h
        refine v_iload dX6_isAbove_40 1 rfl ?_
        refine v_iconst dX6_isAbove_42 ?_
        refine v_icmp_ne (tgt := 48) dX6_isAbove_43 r5 (rgl rfl) (by decide) (fun c14 => ?_) (fun c14 => ?_)
        · rw [if_neg c14] at h
          refine v_iload dX6_isAbove_48 0 rfl ?_
          refine v_if_ne (tgt := 96) dX6_isAbove_50 r10 (by decide) (fun c15 => ?_) (fun c15 => ?_)
          · rw [if_neg c15] at h
            refine v_aload_n dX6_isAbove_96 2 rfl rfl ?_
            refine v_getS (f := 9) (t := 30) cf6 oc13 rfl rfl rfl (by decide) q636 dX6_isAbove_97 ?_
            refine v_aload_n dX6_isAbove_100 2 rfl rfl ?_
            refine v_getS (f := 11) (t := 34) cf6 oc13 rfl rfl rfl (by decide) q638 dX6_isAbove_101 ?_
            refine v_iload_n dX6_isAbove_104 3 rfl rfl ?_
            obtain ⟨g16, h⟩ := gd_some h
            refine v_iald oc34 rx1 g16.1 g16.2 dX6_isAbove_105 ?_
            refine v_aload_n dX6_isAbove_106 2 rfl rfl ?_
            refine v_getS (f := 12) (t := 35) cf6 oc13 rfl rfl rfl (by decide) q639 dX6_isAbove_107 ?_
            refine v_iload_n dX6_isAbove_110 3 rfl rfl ?_
            obtain ⟨g17, h⟩ := gd_some h
            refine v_iald oc35 rx1 g17.1 g17.2 dX6_isAbove_111 ?_
            refine v_aload_n dX6_isAbove_112 2 rfl rfl ?_
            refine v_getS (f := 9) (t := 30) cf6 oc13 rfl rfl rfl (by decide) q636 dX6_isAbove_113 ?_
            refine v_aload_n dX6_isAbove_116 2 rfl rfl ?_
            refine v_getS (f := 11) (t := 34) cf6 oc13 rfl rfl rfl (by decide) q638 dX6_isAbove_117 ?_
            refine v_iload_n dX6_isAbove_120 4 rfl rfl ?_
            obtain ⟨g18, h⟩ := gd_some h
            refine v_iald oc34 rx2 g18.1 g18.2 dX6_isAbove_121 ?_
            refine v_aload_n dX6_isAbove_122 2 rfl rfl ?_
            refine v_getS (f := 12) (t := 35) cf6 oc13 rfl rfl rfl (by decide) q639 dX6_isAbove_123 ?_
            refine v_iload_n dX6_isAbove_126 4 rfl rfl ?_
            obtain ⟨g19, h⟩ := gd_some h
            refine v_iald oc35 rx2 g19.1 g19.2 dX6_isAbove_127 ?_
            obtain ⟨r23, s20, e21, h⟩ := bd_some h
            have k22 := c_X7_compare e21 (⟨by decide, rfl⟩ : okB 30 1) (⟨by decide, rfl⟩ : okB 30 1) (gE_rg _ _ _) (gE_rg _ _ _) (gE_rg _ _ _) (gE_rg _ _ _)
            have r24 : rg r23 := k22.1.2.2
            refine v_callS (st := []) k22 (lw_S q1688 q1689 q304 q1690) yk_X7_compare ⟨Nat.le_of_ble_eq_true rfl, Nat.le_of_ble_eq_true rfl⟩ trivial ⟨kc13, trivial⟩ (Nat.le_of_ble_eq_true rfl) rfl dX6_isAbove_128 ?_
            refine v_if_le (tgt := 138) dX6_isAbove_131 r24 (by decide) (fun c25 => ?_) (fun c25 => ?_)
            · rw [if_pos c25] at h
              refine v_iconst dX6_isAbove_138 ?_
              cases h
              exact v_zret (Or.inl rfl) dX6_isAbove_139
            · rw [if_neg c25] at h
              refine v_iconst dX6_isAbove_134 ?_
              refine v_goto (tgt := 139) dX6_isAbove_135 (by decide) ?_
              cases h
              exact v_zret (Or.inr rfl) dX6_isAbove_139
          · rw [if_pos c15] at h
            refine v_iload_n dX6_isAbove_53 5 rfl rfl ?_
            refine v_if_eq (tgt := 90) dX6_isAbove_54 rx3 (by decide) (fun c26 => ?_) (fun c26 => ?_)
            · rw [if_pos c26] at h
              refine v_iconst dX6_isAbove_90 ?_
              refine v_goto (tgt := 95) dX6_isAbove_91 (by decide) ?_
              cases h
              exact v_zret (Or.inr rfl) dX6_isAbove_95
            · rw [if_neg c26] at h
              refine v_aload_n dX6_isAbove_57 2 rfl rfl ?_
              refine v_getS (f := 9) (t := 30) cf6 oc13 rfl rfl rfl (by decide) q636 dX6_isAbove_58 ?_
              refine v_aload_n dX6_isAbove_61 2 rfl rfl ?_
              refine v_getS (f := 11) (t := 34) cf6 oc13 rfl rfl rfl (by decide) q638 dX6_isAbove_62 ?_
              refine v_iload_n dX6_isAbove_65 3 rfl rfl ?_
              obtain ⟨g27, h⟩ := gd_some h
              refine v_iald oc34 rx1 g27.1 g27.2 dX6_isAbove_66 ?_
              obtain ⟨r31, s28, e29, h⟩ := bd_some h
              have k30 := c_X2_at e29 (⟨by decide, rfl⟩ : okB 30 1) (gE_rg _ _ _)
              have r32 : rg r31 := k30.1.2.2
              refine v_callV (st := []) cf2 oc30 k30 (lw_V q1549 q1072 q1073 q299 q1074) rfl yk_X2_at ⟨Nat.le_of_ble_eq_true rfl, Nat.le_of_ble_eq_true rfl⟩ trivial ⟨kc13, trivial⟩ (Nat.le_of_ble_eq_true rfl) rfl dX6_isAbove_67 ?_
              refine v_if_ne (tgt := 90) dX6_isAbove_70 r32 (by decide) (fun c33 => ?_) (fun c33 => ?_)
              · rw [if_neg c33] at h
                refine v_iconst dX6_isAbove_90 ?_
                refine v_goto (tgt := 95) dX6_isAbove_91 (by decide) ?_
                cases h
                exact v_zret (Or.inr rfl) dX6_isAbove_95
              · rw [if_pos c33] at h
                refine v_aload_n dX6_isAbove_73 2 rfl rfl ?_
                refine v_getS (f := 12) (t := 35) cf6 oc13 rfl rfl rfl (by decide) q639 dX6_isAbove_74 ?_
                refine v_iload_n dX6_isAbove_77 3 rfl rfl ?_
                obtain ⟨g34, h⟩ := gd_some h
                refine v_iald oc35 rx1 g34.1 g34.2 dX6_isAbove_78 ?_
                refine v_aload_n dX6_isAbove_79 2 rfl rfl ?_
                refine v_getS (f := 11) (t := 34) cf6 oc13 rfl rfl rfl (by decide) q638 dX6_isAbove_80 ?_
                refine v_iload_n dX6_isAbove_83 3 rfl rfl ?_
                obtain ⟨g35, h⟩ := gd_some h
                refine v_iald oc34 rx1 g35.1 g35.2 dX6_isAbove_84 ?_
                refine v_isub dX6_isAbove_85 ?_
                refine v_iconst dX6_isAbove_86 ?_
                refine v_icmp_le (tgt := 94) dX6_isAbove_87 (w32_rg _) (rgl rfl) (by decide) (fun c36 => ?_) (fun c36 => ?_)
                · rw [if_pos c36] at h
                  refine v_iconst dX6_isAbove_94 ?_
                  cases h
                  exact v_zret (Or.inl rfl) dX6_isAbove_95
                · rw [if_neg c36] at h
                  refine v_iconst dX6_isAbove_90 ?_
                  refine v_goto (tgt := 95) dX6_isAbove_91 (by decide) ?_
                  cases h
                  exact v_zret (Or.inr rfl) dX6_isAbove_95
        · rw [if_pos c14] at h
          refine v_iconst dX6_isAbove_46 ?_
          cases h
          exact v_zret (Or.inr rfl) dX6_isAbove_47
      · rw [if_pos c13] at h
        refine v_iconst dX6_isAbove_38 ?_
        cases h
        exact v_zret (Or.inl rfl) dX6_isAbove_39

def E_X6_bounded_2_86 (rv : Option vA) (σo : vS) (q : vS) : Prop := ∀ (s' : vS), q = s' → VW cX6_bounded_2 (RX6, rv, σo, none, 11, 263, 10, []) (P0 []) s' 236 [] []
def E_X6_bounded_2_139 (x1 : Int) (x4 : Int) (x5 : Int) (x6 : Int) (x7 : Int) (rv : Option vA) (σo : vS) (q : Int × vS) : Prop := ∀ (x8' : Int) (s' : vS), q = (x8', s') → rg x8' → VW cX6_bounded_2 (RX6, rv, σo, none, 11, 263, 10, []) (P0 []) s' 189 [(0, vO 13), (1, vI x1), (4, vI x4), (5, vI x5), (6, vI x6), (7, vI x7), (8, vI x8')] []
def j_X6_bounded_2_175 (rec : Int → Int → Int → Int → Int → Int → Int → vS → Option (Int × vS)) (x1 : Int) (x4 : Int) (x5 : Int) (x6 : Int) (x7 : Int) (x8 : Int) (x9 : Int) (s : vS) : Option (Int × vS) :=
  bd (f_X4_next x9 s) fun r4 s1 =>
  rec x1 x4 x5 x6 x7 x8 r4 s1
theorem wj_X6_bounded_2_175 {x1 : Int} {x4 : Int} {x5 : Int} {x6 : Int} {x7 : Int} {x8 : Int} {x9 : Int} {s : vS} {rv : Option vA} {σo : vS} {rec : Int → Int → Int → Int → Int → Int → Int → vS → Option (Int × vS)} {q : Int × vS} (h : j_X6_bounded_2_175 rec x1 x4 x5 x6 x7 x8 x9 s = some q)  (rx1 : rg x1) (rx4 : rg x4) (rx5 : rg x5) (rx6 : rg x6) (rx7 : rg x7) (rx8 : rg x8) (rx9 : rg x9) (hrec : ∀ (y8 : Int) (y9 : Int) (s : vS) (q : Int × vS), rec x1 x4 x5 x6 x7 y8 y9 s = some q → rg y8 → rg y9 → E_X6_bounded_2_139 x1 x4 x5 x6 x7 rv σo q → VW cX6_bounded_2 (RX6, rv, σo, none, 11, 263, 10, []) (P0 []) s 139 [(0, vO 13), (1, vI x1), (4, vI x4), (5, vI x5), (6, vI x6), (7, vI x7), (8, vI y8), (9, vI y9)] []) (hE : E_X6_bounded_2_139 x1 x4 x5 x6 x7 rv σo q) : VW cX6_bounded_2 (RX6, rv, σo, none, 11, 263, 10, []) (P0 []) s 175 [(0, vO 13), (1, vI x1), (4, vI x4), (5, vI x5), (6, vI x6), (7, vI x7), (8, vI x8), (9, vI x9)] [] := by
  unfold j_X6_bounded_2_175 at h
  refine v_aload_n dX6_bounded_2_175 0 rfl rfl ?_
  refine v_getS (f := 1) (t := 10) cf6 oc13 rfl rfl rfl (by decide) q628 dX6_bounded_2_176 ?_
  refine v_iload dX6_bounded_2_179 7 rfl ?_
  obtain ⟨r4, s1, e2, h⟩ := bd_some h
  have k3 := c_X4_next e2 rx9
  have r5 : rg r4 := k3.1.2.2
  refine v_callV (st := []) cf4 oc10 k3 (lw_V q1483 q1404 q1405 q301 q1406) rfl yk_X4_next ⟨Nat.le_of_ble_eq_true rfl, Nat.le_of_ble_eq_true rfl⟩ trivial ⟨kc13, trivial⟩ (Nat.le_of_ble_eq_true rfl) rfl dX6_bounded_2_181 ?_
  refine v_istore (L1 := [(9, vI r4), (0, vO 13), (1, vI x1), (4, vI x4), (5, vI x5), (6, vI x6), (7, vI x7), (8, vI x8)]) dX6_bounded_2_184 (by decide) rfl ?_
  refine v_goto (tgt := 139) dX6_bounded_2_186 (by decide) ?_
  refine v_sub [1, 2, 3, 4, 5, 6, 7, 0] (L1 := [(0, vO 13), (1, vI x1), (4, vI x4), (5, vI x5), (6, vI x6), (7, vI x7), (8, vI x8), (9, vI r4)]) rfl ?_
  exact hrec x8 r4 s1 _ h rx8 r5 hE

def l_X6_bounded_2_139 : Nat → Int → Int → Int → Int → Int → Int → Int → vS → Option (Int × vS)
  | 0, _, _, _, _, _, _, _, _ => none
  | n + 1, x1, x4, x5, x6, x7, x8, x9, s =>
    if x9 = (-1) then
      some (x8, s)
    else
      bd (f_X6_isBound x9 x1 x4 s) fun r5 s2 =>
      if r5 = 0 then
        bd (f_X4_lexeme x9 s2) fun r11 s8 =>
        bdv (f_X6_blame 11 r11 s8) fun s13 =>
        j_X6_bounded_2_175 (l_X6_bounded_2_139 n) x1 x4 x5 x6 x7 0 x9 s13
      else
        j_X6_bounded_2_175 (l_X6_bounded_2_139 n) x1 x4 x5 x6 x7 x8 x9 s2
theorem wl_X6_bounded_2_139 {x1 : Int} {x4 : Int} {x5 : Int} {x6 : Int} {x7 : Int} {rv : Option vA} {σo : vS}  (rx1 : rg x1) (rx4 : rg x4) (rx5 : rg x5) (rx6 : rg x6) (rx7 : rg x7) : ∀ (n : Nat) (x8 : Int) (x9 : Int) (s : vS) (q : Int × vS), l_X6_bounded_2_139 n x1 x4 x5 x6 x7 x8 x9 s = some q → rg x8 → rg x9 → E_X6_bounded_2_139 x1 x4 x5 x6 x7 rv σo q → VW cX6_bounded_2 (RX6, rv, σo, none, 11, 263, 10, []) (P0 []) s 139 [(0, vO 13), (1, vI x1), (4, vI x4), (5, vI x5), (6, vI x6), (7, vI x7), (8, vI x8), (9, vI x9)] [] := by
  intro n
  induction n with
  | zero => intro x8 x9 s q h; cases h
  | succ n ih =>
    intro x8 x9 s q h rx8 rx9 hE
    unfold l_X6_bounded_2_139 at h
    refine v_iload dX6_bounded_2_139 7 rfl ?_
    refine v_iconst dX6_bounded_2_141 ?_
    refine v_icmp_eq (tgt := 189) dX6_bounded_2_142 rx9 (rgl rfl) (by decide) (fun c1 => ?_) (fun c1 => ?_)
    · rw [if_pos c1] at h
      cases h
      refine v_sub [0, 1, 2, 3, 4, 5, 6] (L1 := [(0, vO 13), (1, vI x1), (4, vI x4), (5, vI x5), (6, vI x6), (7, vI x7), (8, vI x8)]) rfl ?_
      exact hE _ _ rfl rx8
    · rw [if_neg c1] at h
      refine v_aload_n dX6_bounded_2_145 0 rfl rfl ?_
      refine v_iload dX6_bounded_2_146 7 rfl ?_
      refine v_iload_n dX6_bounded_2_148 1 rfl rfl ?_
      refine v_iload dX6_bounded_2_149 2 rfl ?_
      obtain ⟨r5, s2, e3, h⟩ := bd_some h
      have k4 := c_X6_isBound e3 rx9 rx1 rx4
      have r6 : rg r5 := k4.1.2.2
      refine v_callV (st := []) cf6 oc13 k4 (lw_V q1672 q1674 qs78 q303 q1675) rfl yk_X6_isBound ⟨Nat.le_of_ble_eq_true rfl, Nat.le_of_ble_eq_true rfl⟩ trivial ⟨kc13, trivial⟩ (Nat.le_of_ble_eq_true rfl) rfl dX6_bounded_2_151 ?_
      refine v_if_ne (tgt := 175) dX6_bounded_2_154 r6 (by decide) (fun c7 => ?_) (fun c7 => ?_)
      · rw [if_neg c7] at h
        exact wj_X6_bounded_2_175 h rx1 rx4 rx5 rx6 rx7 rx8 rx9 ih hE
      · rw [if_pos c7] at h
        refine v_aload_n dX6_bounded_2_157 0 rfl rfl ?_
        refine v_bipush dX6_bounded_2_158 rfl ?_
        refine v_aload_n dX6_bounded_2_160 0 rfl rfl ?_
        refine v_getS (f := 1) (t := 10) cf6 oc13 rfl rfl rfl (by decide) q628 dX6_bounded_2_161 ?_
        refine v_iload dX6_bounded_2_164 7 rfl ?_
        obtain ⟨r11, s8, e9, h⟩ := bd_some h
        have k10 := c_X4_lexeme e9 rx9
        have r12 : rg r11 := k10.1.2.2
        refine v_callV (st := [vI 11, vO 13]) cf4 oc10 k10 (lw_V q1449 q1450 q1451 q301 q1452) rfl yk_X4_lexeme ⟨Nat.le_of_ble_eq_true rfl, Nat.le_of_ble_eq_true rfl⟩ ⟨kc13, trivial⟩ ⟨kc13, trivial⟩ (Nat.le_of_ble_eq_true rfl) rfl dX6_bounded_2_166 ?_
        obtain ⟨s13, e14, h⟩ := bdv_some h
        have k15 := c_X6_blame e14 (rgl rfl) r12
        refine v_callV (st := []) cf6 oc13 k15 (lw_V q1478 q1480 qs45 q303 q1481) rfl yk_X6_blame ⟨Nat.le_of_ble_eq_true rfl, Nat.le_of_ble_eq_true rfl⟩ trivial ⟨kc13, trivial⟩ (Nat.le_of_ble_eq_true rfl) rfl dX6_bounded_2_169 ?_
        refine v_iconst dX6_bounded_2_172 ?_
        refine v_istore (L1 := [(8, vI 0), (0, vO 13), (1, vI x1), (4, vI x4), (5, vI x5), (6, vI x6), (7, vI x7), (9, vI x9)]) dX6_bounded_2_173 (by decide) rfl ?_
        refine v_sub [1, 2, 3, 4, 5, 6, 0, 7] (L1 := [(0, vO 13), (1, vI x1), (4, vI x4), (5, vI x5), (6, vI x6), (7, vI x7), (8, vI 0), (9, vI x9)]) rfl ?_
        exact wj_X6_bounded_2_175 h rx1 rx4 rx5 rx6 rx7 (rgl rfl) rx9 ih hE

def j_X6_bounded_2_222 (rec : Int → Int → Int → vS → Option (vS)) (x1 : Int) (x4 : Int) (x5 : Int) (s : vS) : Option (vS) :=
  bd (f_X4_next x5 s) fun r4 s1 =>
  rec x1 x4 r4 s1
theorem wj_X6_bounded_2_222 {x1 : Int} {x4 : Int} {x5 : Int} {s : vS} {rv : Option vA} {σo : vS} {rec : Int → Int → Int → vS → Option (vS)} {q : vS} (h : j_X6_bounded_2_222 rec x1 x4 x5 s = some q)  (rx1 : rg x1) (rx4 : rg x4) (rx5 : rg x5) (hrec : ∀ (y5 : Int) (s : vS) (q : vS), rec x1 x4 y5 s = some q → rg y5 → E_X6_bounded_2_86 rv σo q → VW cX6_bounded_2 (RX6, rv, σo, none, 11, 263, 10, []) (P0 []) s 86 [(0, vO 13), (1, vI x1), (4, vI x4), (5, vI y5)] []) (hE : E_X6_bounded_2_86 rv σo q) : VW cX6_bounded_2 (RX6, rv, σo, none, 11, 263, 10, []) (P0 []) s 222 [(0, vO 13), (1, vI x1), (4, vI x4), (5, vI x5)] [] := by
  unfold j_X6_bounded_2_222 at h
  refine v_aload_n dX6_bounded_2_222 0 rfl rfl ?_
  refine v_getS (f := 1) (t := 10) cf6 oc13 rfl rfl rfl (by decide) q628 dX6_bounded_2_223 ?_
  refine v_iload dX6_bounded_2_226 3 rfl ?_
  obtain ⟨r4, s1, e2, h⟩ := bd_some h
  have k3 := c_X4_next e2 rx5
  have r5 : rg r4 := k3.1.2.2
  refine v_callV (st := []) cf4 oc10 k3 (lw_V q1483 q1404 q1405 q301 q1406) rfl yk_X4_next ⟨Nat.le_of_ble_eq_true rfl, Nat.le_of_ble_eq_true rfl⟩ trivial ⟨kc13, trivial⟩ (Nat.le_of_ble_eq_true rfl) rfl dX6_bounded_2_228 ?_
  refine v_istore (L1 := [(5, vI r4), (0, vO 13), (1, vI x1), (4, vI x4)]) dX6_bounded_2_231 (by decide) rfl ?_
  refine v_goto (tgt := 86) dX6_bounded_2_233 (by decide) ?_
  refine v_sub [1, 2, 3, 0] (L1 := [(0, vO 13), (1, vI x1), (4, vI x4), (5, vI r4)]) rfl ?_
  exact hrec r4 s1 _ h r5 hE

def l_X6_bounded_2_86 : Nat → Int → Int → Int → vS → Option (vS)
  | 0, _, _, _, _ => none
  | n + 1, x1, x4, x5, s =>
    if x5 = (-1) then
      some s
    else
      bd (f_X4_parts x5 s) fun r5 s2 =>
      bd (f_X4_next r5 s2) fun r10 s7 =>
      if r10 = (-1) then
        lq_1 (l_X6_bounded_2_139 FU x1 x4 x5 r5 r5 1 r5 s7) fun y37 s38 =>
        if y37 = 0 then
          j_X6_bounded_2_222 (l_X6_bounded_2_86 n) x1 x4 x5 s38
        else
          bd (f_X6_isAbove r5 r5 x4 s38) fun r45 s42 =>
          if r45 = 0 then
            j_X6_bounded_2_222 (l_X6_bounded_2_86 n) x1 x4 x5 s42
          else
            bd (f_X4_lexeme x5 s42) fun r51 s48 =>
            bdv (f_X6_blame 11 r51 s48) fun s53 =>
            j_X6_bounded_2_222 (l_X6_bounded_2_86 n) x1 x4 x5 s53
      else
        bd (f_X4_next r5 s7) fun r16 s13 =>
        lq_1 (l_X6_bounded_2_139 FU x1 x4 x5 r5 r16 1 r5 s13) fun y18 s19 =>
        if y18 = 0 then
          j_X6_bounded_2_222 (l_X6_bounded_2_86 n) x1 x4 x5 s19
        else
          bd (f_X6_isAbove r5 r16 x4 s19) fun r26 s23 =>
          if r26 = 0 then
            j_X6_bounded_2_222 (l_X6_bounded_2_86 n) x1 x4 x5 s23
          else
            bd (f_X4_lexeme x5 s23) fun r32 s29 =>
            bdv (f_X6_blame 11 r32 s29) fun s34 =>
            j_X6_bounded_2_222 (l_X6_bounded_2_86 n) x1 x4 x5 s34
theorem wl_X6_bounded_2_86 {x1 : Int} {x4 : Int} {rv : Option vA} {σo : vS}  (rx1 : rg x1) (rx4 : rg x4) : ∀ (n : Nat) (x5 : Int) (s : vS) (q : vS), l_X6_bounded_2_86 n x1 x4 x5 s = some q → rg x5 → E_X6_bounded_2_86 rv σo q → VW cX6_bounded_2 (RX6, rv, σo, none, 11, 263, 10, []) (P0 []) s 86 [(0, vO 13), (1, vI x1), (4, vI x4), (5, vI x5)] [] := by
  intro n
  induction n with
  | zero => intro x5 s q h; cases h
  | succ n ih =>
    intro x5 s q h rx5 hE
    unfold l_X6_bounded_2_86 at h
    refine v_iload dX6_bounded_2_86 3 rfl ?_
    refine v_iconst dX6_bounded_2_88 ?_
    refine v_icmp_eq (tgt := 236) dX6_bounded_2_89 rx5 (rgl rfl) (by decide) (fun c1 => ?_) (fun c1 => ?_)
    · rw [if_pos c1] at h
      cases h
      refine v_sub [] (L1 := []) rfl ?_
      exact hE _ rfl 
    · rw [if_neg c1] at h
      refine v_aload_n dX6_bounded_2_92 0 rfl rfl ?_
      refine v_getS (f := 1) (t := 10) cf6 oc13 rfl rfl rfl (by decide) q628 dX6_bounded_2_93 ?_
      refine v_iload dX6_bounded_2_96 3 rfl ?_
      obtain ⟨r5, s2, e3, h⟩ := bd_some h
      have k4 := c_X4_parts e3 rx5
      have r6 : rg r5 := k4.1.2.2
      refine v_callV (st := []) cf4 oc10 k4 (lw_V q1492 q1493 q1494 q301 q1495) rfl yk_X4_parts ⟨Nat.le_of_ble_eq_true rfl, Nat.le_of_ble_eq_true rfl⟩ trivial ⟨kc13, trivial⟩ (Nat.le_of_ble_eq_true rfl) rfl dX6_bounded_2_98 ?_
      refine v_istore (L1 := [(6, vI r5), (0, vO 13), (1, vI x1), (4, vI x4), (5, vI x5)]) dX6_bounded_2_101 (by decide) rfl ?_
      refine v_aload_n dX6_bounded_2_103 1 rfl rfl ?_
      refine v_getS (f := 1) (t := 10) cf6 oc13 rfl rfl rfl (by decide) q628 dX6_bounded_2_104 ?_
      refine v_iload dX6_bounded_2_107 0 rfl ?_
      obtain ⟨r10, s7, e8, h⟩ := bd_some h
      have k9 := c_X4_next e8 r6
      have r11 : rg r10 := k9.1.2.2
      refine v_callV (st := []) cf4 oc10 k9 (lw_V q1483 q1404 q1405 q301 q1406) rfl yk_X4_next ⟨Nat.le_of_ble_eq_true rfl, Nat.le_of_ble_eq_true rfl⟩ trivial ⟨kc13, trivial⟩ (Nat.le_of_ble_eq_true rfl) rfl dX6_bounded_2_109 ?_
      refine v_iconst dX6_bounded_2_112 ?_
      refine v_icmp_ne (tgt := 121) dX6_bounded_2_113 r11 (rgl rfl) (by decide) (fun c12 => ?_) (fun c12 => ?_)
      · rw [if_neg c12] at h
        refine v_aload_n dX6_bounded_2_121 1 rfl rfl ?_
        refine v_getS (f := 1) (t := 10) cf6 oc13 rfl rfl rfl (by decide) q628 dX6_bounded_2_122 ?_
        refine v_iload dX6_bounded_2_125 0 rfl ?_
        obtain ⟨r16, s13, e14, h⟩ := bd_some h
        have k15 := c_X4_next e14 r6
        have r17 : rg r16 := k15.1.2.2
        refine v_callV (st := []) cf4 oc10 k15 (lw_V q1483 q1404 q1405 q301 q1406) rfl yk_X4_next ⟨Nat.le_of_ble_eq_true rfl, Nat.le_of_ble_eq_true rfl⟩ trivial ⟨kc13, trivial⟩ (Nat.le_of_ble_eq_true rfl) rfl dX6_bounded_2_127 ?_
        refine v_istore (L1 := [(7, vI r16), (6, vI r5), (0, vO 13), (1, vI x1), (4, vI x4), (5, vI x5)]) dX6_bounded_2_130 (by decide) rfl ?_
        refine v_iconst dX6_bounded_2_132 ?_
        refine v_istore (L1 := [(8, vI 1), (7, vI r16), (6, vI r5), (0, vO 13), (1, vI x1), (4, vI x4), (5, vI x5)]) dX6_bounded_2_133 (by decide) rfl ?_
        refine v_iload dX6_bounded_2_135 2 rfl ?_
        refine v_istore (L1 := [(9, vI r5), (8, vI 1), (7, vI r16), (6, vI r5), (0, vO 13), (1, vI x1), (4, vI x4), (5, vI x5)]) dX6_bounded_2_137 (by decide) rfl ?_
        refine v_sub [4, 5, 6, 7, 3, 2, 1, 0] (L1 := [(0, vO 13), (1, vI x1), (4, vI x4), (5, vI x5), (6, vI r5), (7, vI r16), (8, vI 1), (9, vI r5)]) rfl ?_
        obtain ⟨y18, s19, e20, h⟩ := lq_1_some h
        refine wl_X6_bounded_2_139 rx1 rx4 rx5 r6 r17 FU 1 r5 s13 _ e20 (rgl rfl) r6 ?_
        unfold E_X6_bounded_2_139
        intro y18' s19' z_ r21
        cases z_
        refine v_iload dX6_bounded_2_189 6 rfl ?_
        refine v_if_eq (tgt := 222) dX6_bounded_2_191 r21 (by decide) (fun c22 => ?_) (fun c22 => ?_)
        · rw [if_pos c22] at h
          refine v_sub [0, 1, 2, 3] (L1 := [(0, vO 13), (1, vI x1), (4, vI x4), (5, vI x5)]) rfl ?_
          exact wj_X6_bounded_2_222 h rx1 rx4 rx5 ih hE
        · rw [if_neg c22] at h
          refine v_aload_n dX6_bounded_2_194 0 rfl rfl ?_
          refine v_iload dX6_bounded_2_195 4 rfl ?_
          refine v_iload dX6_bounded_2_197 5 rfl ?_
          refine v_iload dX6_bounded_2_199 2 rfl ?_
          obtain ⟨r26, s23, e24, h⟩ := bd_some h
          have k25 := c_X6_isAbove e24 r6 r17 rx4
          have r27 : rg r26 := k25.1.2.2
          refine v_callV (st := []) cf6 oc13 k25 (lw_V q1684 q1686 qs81 q303 q1687) rfl yk_X6_isAbove ⟨Nat.le_of_ble_eq_true rfl, Nat.le_of_ble_eq_true rfl⟩ trivial ⟨kc13, trivial⟩ (Nat.le_of_ble_eq_true rfl) rfl dX6_bounded_2_201 ?_
          refine v_if_eq (tgt := 222) dX6_bounded_2_204 r27 (by decide) (fun c28 => ?_) (fun c28 => ?_)
          · rw [if_pos c28] at h
            refine v_sub [0, 1, 2, 3] (L1 := [(0, vO 13), (1, vI x1), (4, vI x4), (5, vI x5)]) rfl ?_
            exact wj_X6_bounded_2_222 h rx1 rx4 rx5 ih hE
          · rw [if_neg c28] at h
            refine v_aload_n dX6_bounded_2_207 0 rfl rfl ?_
            refine v_bipush dX6_bounded_2_208 rfl ?_
            refine v_aload_n dX6_bounded_2_210 0 rfl rfl ?_
            refine v_getS (f := 1) (t := 10) cf6 oc13 rfl rfl rfl (by decide) q628 dX6_bounded_2_211 ?_
            refine v_iload dX6_bounded_2_214 3 rfl ?_
            obtain ⟨r32, s29, e30, h⟩ := bd_some h
            have k31 := c_X4_lexeme e30 rx5
            have r33 : rg r32 := k31.1.2.2
            refine v_callV (st := [vI 11, vO 13]) cf4 oc10 k31 (lw_V q1449 q1450 q1451 q301 q1452) rfl yk_X4_lexeme ⟨Nat.le_of_ble_eq_true rfl, Nat.le_of_ble_eq_true rfl⟩ ⟨kc13, trivial⟩ ⟨kc13, trivial⟩ (Nat.le_of_ble_eq_true rfl) rfl dX6_bounded_2_216 ?_
            obtain ⟨s34, e35, h⟩ := bdv_some h
            have k36 := c_X6_blame e35 (rgl rfl) r33
            refine v_callV (st := []) cf6 oc13 k36 (lw_V q1478 q1480 qs45 q303 q1481) rfl yk_X6_blame ⟨Nat.le_of_ble_eq_true rfl, Nat.le_of_ble_eq_true rfl⟩ trivial ⟨kc13, trivial⟩ (Nat.le_of_ble_eq_true rfl) rfl dX6_bounded_2_219 ?_
            refine v_sub [0, 1, 2, 3] (L1 := [(0, vO 13), (1, vI x1), (4, vI x4), (5, vI x5)]) rfl ?_
            exact wj_X6_bounded_2_222 h rx1 rx4 rx5 ih hE
      · rw [if_pos c12] at h
        refine v_iload dX6_bounded_2_116 0 rfl ?_
        refine v_goto (tgt := 130) dX6_bounded_2_118 (by decide) ?_
        refine v_istore (L1 := [(7, vI r5), (6, vI r5), (0, vO 13), (1, vI x1), (4, vI x4), (5, vI x5)]) dX6_bounded_2_130 (by decide) rfl ?_
        refine v_iconst dX6_bounded_2_132 ?_
        refine v_istore (L1 := [(8, vI 1), (7, vI r5), (6, vI r5), (0, vO 13), (1, vI x1), (4, vI x4), (5, vI x5)]) dX6_bounded_2_133 (by decide) rfl ?_
        refine v_iload dX6_bounded_2_135 2 rfl ?_
        refine v_istore (L1 := [(9, vI r5), (8, vI 1), (7, vI r5), (6, vI r5), (0, vO 13), (1, vI x1), (4, vI x4), (5, vI x5)]) dX6_bounded_2_137 (by decide) rfl ?_
        refine v_sub [4, 5, 6, 7, 3, 2, 1, 0] (L1 := [(0, vO 13), (1, vI x1), (4, vI x4), (5, vI x5), (6, vI r5), (7, vI r5), (8, vI 1), (9, vI r5)]) rfl ?_
        obtain ⟨y37, s38, e39, h⟩ := lq_1_some h
        refine wl_X6_bounded_2_139 rx1 rx4 rx5 r6 r6 FU 1 r5 s7 _ e39 (rgl rfl) r6 ?_
        unfold E_X6_bounded_2_139
        intro y37' s38' z_ r40
        cases z_
        refine v_iload dX6_bounded_2_189 6 rfl ?_
        refine v_if_eq (tgt := 222) dX6_bounded_2_191 r40 (by decide) (fun c41 => ?_) (fun c41 => ?_)
        · rw [if_pos c41] at h
          refine v_sub [0, 1, 2, 3] (L1 := [(0, vO 13), (1, vI x1), (4, vI x4), (5, vI x5)]) rfl ?_
          exact wj_X6_bounded_2_222 h rx1 rx4 rx5 ih hE
        · rw [if_neg c41] at h
          refine v_aload_n dX6_bounded_2_194 0 rfl rfl ?_
          refine v_iload dX6_bounded_2_195 4 rfl ?_
          refine v_iload dX6_bounded_2_197 5 rfl ?_
          refine v_iload dX6_bounded_2_199 2 rfl ?_
          obtain ⟨r45, s42, e43, h⟩ := bd_some h
          have k44 := c_X6_isAbove e43 r6 r6 rx4
          have r46 : rg r45 := k44.1.2.2
          refine v_callV (st := []) cf6 oc13 k44 (lw_V q1684 q1686 qs81 q303 q1687) rfl yk_X6_isAbove ⟨Nat.le_of_ble_eq_true rfl, Nat.le_of_ble_eq_true rfl⟩ trivial ⟨kc13, trivial⟩ (Nat.le_of_ble_eq_true rfl) rfl dX6_bounded_2_201 ?_
          refine v_if_eq (tgt := 222) dX6_bounded_2_204 r46 (by decide) (fun c47 => ?_) (fun c47 => ?_)
          · rw [if_pos c47] at h
            refine v_sub [0, 1, 2, 3] (L1 := [(0, vO 13), (1, vI x1), (4, vI x4), (5, vI x5)]) rfl ?_
            exact wj_X6_bounded_2_222 h rx1 rx4 rx5 ih hE
          · rw [if_neg c47] at h
            refine v_aload_n dX6_bounded_2_207 0 rfl rfl ?_
            refine v_bipush dX6_bounded_2_208 rfl ?_
            refine v_aload_n dX6_bounded_2_210 0 rfl rfl ?_
            refine v_getS (f := 1) (t := 10) cf6 oc13 rfl rfl rfl (by decide) q628 dX6_bounded_2_211 ?_
            refine v_iload dX6_bounded_2_214 3 rfl ?_
            obtain ⟨r51, s48, e49, h⟩ := bd_some h
            have k50 := c_X4_lexeme e49 rx5
            have r52 : rg r51 := k50.1.2.2
            refine v_callV (st := [vI 11, vO 13]) cf4 oc10 k50 (lw_V q1449 q1450 q1451 q301 q1452) rfl yk_X4_lexeme ⟨Nat.le_of_ble_eq_true rfl, Nat.le_of_ble_eq_true rfl⟩ ⟨kc13, trivial⟩ ⟨kc13, trivial⟩ (Nat.le_of_ble_eq_true rfl) rfl dX6_bounded_2_216 ?_
            obtain ⟨s53, e54, h⟩ := bdv_some h
            have k55 := c_X6_blame e54 (rgl rfl) r52
            refine v_callV (st := []) cf6 oc13 k55 (lw_V q1478 q1480 qs45 q303 q1481) rfl yk_X6_blame ⟨Nat.le_of_ble_eq_true rfl, Nat.le_of_ble_eq_true rfl⟩ trivial ⟨kc13, trivial⟩ (Nat.le_of_ble_eq_true rfl) rfl dX6_bounded_2_219 ?_
            refine v_sub [0, 1, 2, 3] (L1 := [(0, vO 13), (1, vI x1), (4, vI x4), (5, vI x5)]) rfl ?_
            exact wj_X6_bounded_2_222 h rx1 rx4 rx5 ih hE

def j_X6_bounded_2_76 (x1 : Int) (x2 : Int) (x4 : Int) (s : vS) : Option (vS) :=
  bd (f_X4_parts x2 s) fun r4 s1 =>
  lq_0 (l_X6_bounded_2_86 FU x1 x4 r4 s1) fun s6 =>
  some s6
theorem wj_X6_bounded_2_76 {x1 : Int} {x2 : Int} {x4 : Int} {s : vS} {out : vS} (h : j_X6_bounded_2_76 x1 x2 x4 s = some out)  (rx1 : rg x1) (rx2 : rg x2) (rx4 : rg x4) : VW cX6_bounded_2 (RX6, none, out, none, 11, 263, 10, []) (P0 []) s 76 [(0, vO 13), (1, vI x1), (2, vI x2), (4, vI x4)] [] := by
  unfold j_X6_bounded_2_76 at h
  refine v_aload_n dX6_bounded_2_76 0 rfl rfl ?_
  refine v_getS (f := 1) (t := 10) cf6 oc13 rfl rfl rfl (by decide) q628 dX6_bounded_2_77 ?_
  refine v_iload_n dX6_bounded_2_80 2 rfl rfl ?_
  obtain ⟨r4, s1, e2, h⟩ := bd_some h
  have k3 := c_X4_parts e2 rx2
  have r5 : rg r4 := k3.1.2.2
  refine v_callV (st := []) cf4 oc10 k3 (lw_V q1492 q1493 q1494 q301 q1495) rfl yk_X4_parts ⟨Nat.le_of_ble_eq_true rfl, Nat.le_of_ble_eq_true rfl⟩ trivial ⟨kc13, trivial⟩ (Nat.le_of_ble_eq_true rfl) rfl dX6_bounded_2_81 ?_
  refine v_istore (L1 := [(5, vI r4), (0, vO 13), (1, vI x1), (2, vI x2), (4, vI x4)]) dX6_bounded_2_84 (by decide) rfl ?_
  refine v_sub [1, 2, 4, 0] (L1 := [(0, vO 13), (1, vI x1), (4, vI x4), (5, vI r4)]) rfl ?_
  obtain ⟨s6, e7, h⟩ := lq_0_some h
  refine wl_X6_bounded_2_86 rx1 rx4 FU r4 s1 _ e7 r5 ?_
  unfold E_X6_bounded_2_86
  intro s6' z_
  cases z_
  cases h
  exact v_vret dX6_bounded_2_236

def j_X6_bounded_2_61 (x2 : Int) (s : vS) : Option (vS) :=
  bd (f_X4_lexeme x2 s) fun r4 s1 =>
  bdv (f_X6_blame 11 r4 s1) fun s6 =>
  some s6
theorem wj_X6_bounded_2_61 {x2 : Int} {s : vS} {out : vS} (h : j_X6_bounded_2_61 x2 s = some out)  (rx2 : rg x2) : VW cX6_bounded_2 (RX6, none, out, none, 11, 263, 10, []) (P0 []) s 61 [(0, vO 13), (2, vI x2)] [] := by
  unfold j_X6_bounded_2_61 at h
  refine v_aload_n dX6_bounded_2_61 0 rfl rfl ?_
  refine v_bipush dX6_bounded_2_62 rfl ?_
  refine v_aload_n dX6_bounded_2_64 0 rfl rfl ?_
  refine v_getS (f := 1) (t := 10) cf6 oc13 rfl rfl rfl (by decide) q628 dX6_bounded_2_65 ?_
  refine v_iload_n dX6_bounded_2_68 1 rfl rfl ?_
  obtain ⟨r4, s1, e2, h⟩ := bd_some h
  have k3 := c_X4_lexeme e2 rx2
  have r5 : rg r4 := k3.1.2.2
  refine v_callV (st := [vI 11, vO 13]) cf4 oc10 k3 (lw_V q1449 q1450 q1451 q301 q1452) rfl yk_X4_lexeme ⟨Nat.le_of_ble_eq_true rfl, Nat.le_of_ble_eq_true rfl⟩ ⟨kc13, trivial⟩ ⟨kc13, trivial⟩ (Nat.le_of_ble_eq_true rfl) rfl dX6_bounded_2_69 ?_
  obtain ⟨s6, e7, h⟩ := bdv_some h
  have k8 := c_X6_blame e7 (rgl rfl) r5
  refine v_callV (st := []) cf6 oc13 k8 (lw_V q1478 q1480 qs45 q303 q1481) rfl yk_X6_blame ⟨Nat.le_of_ble_eq_true rfl, Nat.le_of_ble_eq_true rfl⟩ trivial ⟨kc13, trivial⟩ (Nat.le_of_ble_eq_true rfl) rfl dX6_bounded_2_72 ?_
  cases h
  exact v_vret dX6_bounded_2_75

def j_X6_bounded_2_24 (x1 : Int) (x2 : Int) (x3 : Int) (z0 : Int) (s : vS) : Option (vS) :=
  if z0 = 0 then
    bd (f_X4_kind x3 s) fun r5 s2 =>
    if r5 = 2 then
      j_X6_bounded_2_76 x1 x2 z0 s2
    else
      j_X6_bounded_2_61 x2 s2
  else
    bd (f_X4_kind x3 s) fun r11 s8 =>
    bd (f_X6_hasSizes r11 s8) fun r16 s13 =>
    if r16 = 0 then
      j_X6_bounded_2_61 x2 s13
    else
      j_X6_bounded_2_76 x1 x2 z0 s13
theorem wj_X6_bounded_2_24 {x1 : Int} {x2 : Int} {x3 : Int} {z0 : Int} {s : vS} {out : vS} (h : j_X6_bounded_2_24 x1 x2 x3 z0 s = some out)  (rx1 : rg x1) (rx2 : rg x2) (rx3 : rg x3) (rz0 : rg z0) : VW cX6_bounded_2 (RX6, none, out, none, 11, 263, 10, []) (P0 []) s 24 [(0, vO 13), (1, vI x1), (2, vI x2), (3, vI x3)] [vI z0] := by
  unfold j_X6_bounded_2_24 at h
  refine v_istore (L1 := [(4, vI z0), (0, vO 13), (1, vI x1), (2, vI x2), (3, vI x3)]) dX6_bounded_2_24 (by decide) rfl ?_
  refine v_iload dX6_bounded_2_26 0 rfl ?_
  refine v_if_eq (tgt := 49) dX6_bounded_2_28 rz0 (by decide) (fun c1 => ?_) (fun c1 => ?_)
  · rw [if_pos c1] at h
    refine v_aload_n dX6_bounded_2_49 1 rfl rfl ?_
    refine v_getS (f := 1) (t := 10) cf6 oc13 rfl rfl rfl (by decide) q628 dX6_bounded_2_50 ?_
    refine v_iload_n dX6_bounded_2_53 4 rfl rfl ?_
    obtain ⟨r5, s2, e3, h⟩ := bd_some h
    have k4 := c_X4_kind e3 rx3
    have r6 : rg r5 := k4.1.2.2
    refine v_callV (st := []) cf4 oc10 k4 (lw_V q1445 q1446 q1447 q301 q1448) rfl yk_X4_kind ⟨Nat.le_of_ble_eq_true rfl, Nat.le_of_ble_eq_true rfl⟩ trivial ⟨kc13, trivial⟩ (Nat.le_of_ble_eq_true rfl) rfl dX6_bounded_2_54 ?_
    refine v_iconst dX6_bounded_2_57 ?_
    refine v_icmp_eq (tgt := 76) dX6_bounded_2_58 r6 (rgl rfl) (by decide) (fun c7 => ?_) (fun c7 => ?_)
    · rw [if_pos c7] at h
      refine v_sub [1, 2, 3, 0] (L1 := [(0, vO 13), (1, vI x1), (2, vI x2), (4, vI z0)]) rfl ?_
      exact wj_X6_bounded_2_76 h rx1 rx2 rz0
    · rw [if_neg c7] at h
      refine v_sub [1, 3] (L1 := [(0, vO 13), (2, vI x2)]) rfl ?_
      exact wj_X6_bounded_2_61 h rx2
  · rw [if_neg c1] at h
    refine v_aload_n dX6_bounded_2_31 1 rfl rfl ?_
    refine v_aload_n dX6_bounded_2_32 1 rfl rfl ?_
    refine v_getS (f := 1) (t := 10) cf6 oc13 rfl rfl rfl (by decide) q628 dX6_bounded_2_33 ?_
    refine v_iload_n dX6_bounded_2_36 4 rfl rfl ?_
    obtain ⟨r11, s8, e9, h⟩ := bd_some h
    have k10 := c_X4_kind e9 rx3
    have r12 : rg r11 := k10.1.2.2
    refine v_callV (st := [vO 13]) cf4 oc10 k10 (lw_V q1445 q1446 q1447 q301 q1448) rfl yk_X4_kind ⟨Nat.le_of_ble_eq_true rfl, Nat.le_of_ble_eq_true rfl⟩ ⟨kc13, trivial⟩ ⟨kc13, trivial⟩ (Nat.le_of_ble_eq_true rfl) rfl dX6_bounded_2_37 ?_
    obtain ⟨r16, s13, e14, h⟩ := bd_some h
    have k15 := c_X6_hasSizes e14 r12
    have r17 : rg r16 := k15.1.2.2
    refine v_callV (st := []) cf6 oc13 k15 (lw_V q1668 q1670 qs77 q303 q1671) rfl yk_X6_hasSizes ⟨Nat.le_of_ble_eq_true rfl, Nat.le_of_ble_eq_true rfl⟩ trivial ⟨kc13, trivial⟩ (Nat.le_of_ble_eq_true rfl) rfl dX6_bounded_2_40 ?_
    refine v_if_ne (tgt := 76) dX6_bounded_2_43 r17 (by decide) (fun c18 => ?_) (fun c18 => ?_)
    · rw [if_neg c18] at h
      refine v_sub [1, 2, 3, 0] (L1 := [(0, vO 13), (1, vI x1), (2, vI x2), (4, vI z0)]) rfl ?_
      exact wj_X6_bounded_2_76 h rx1 rx2 rz0
    · rw [if_pos c18] at h
      refine v_goto (tgt := 61) dX6_bounded_2_46 (by decide) ?_
      refine v_sub [1, 3] (L1 := [(0, vO 13), (2, vI x2)]) rfl ?_
      exact wj_X6_bounded_2_61 h rx2

def f_X6_bounded_2 (x1 : Int) (x2 : Int) (s : vS) : Option (vS) :=
  bd (f_X6_base x1 s) fun r4 s1 =>
  bd (f_X4_at x2 5 s1) fun r9 s6 =>
  if r9 = 1 then
    j_X6_bounded_2_24 x1 x2 r4 1 s6
  else
    j_X6_bounded_2_24 x1 x2 r4 0 s6
theorem yk_X6_bounded_2 : yOk yX6_bounded_2 2 := ⟨by decide, by decide, by decide +kernel⟩
theorem c_X6_bounded_2 {x1 : Int} {x2 : Int} {s : vS} {out : vS} (h : f_X6_bounded_2 x1 x2 s = some out)  (rx1 : rg x1) (rx2 : rg x2) : VC yX6_bounded_2 cX6_bounded_2 10 none 11 263 [vO 13, vI x1, vI x2] s none out [] := by
  unfold f_X6_bounded_2 at h
  refine VC.of RX6 (by decide) rfl (Nat.le_of_ble_eq_true rfl) ?_
  show VW cX6_bounded_2 (RX6, none, out, none, 11, 263, 10, []) (P0 []) s 0 [(0, vO 13), (1, vI x1), (2, vI x2)] []
  refine v_aload_n dX6_bounded_2_0 0 rfl rfl ?_
  refine v_iload_n dX6_bounded_2_1 1 rfl rfl ?_
  obtain ⟨r4, s1, e2, h⟩ := bd_some h
  have k3 := c_X6_base e2 rx1
  have r5 : rg r4 := k3.1.2.2
  refine v_callV (st := []) cf6 oc13 k3 (lw_V q1588 q1590 qs60 q303 q1591) rfl yk_X6_base ⟨Nat.le_of_ble_eq_true rfl, Nat.le_of_ble_eq_true rfl⟩ trivial ⟨kc13, trivial⟩ (Nat.le_of_ble_eq_true rfl) rfl dX6_bounded_2_2 ?_
  refine v_istore_n (L1 := [(3, vI r4), (0, vO 13), (1, vI x1), (2, vI x2)]) dX6_bounded_2_5 rfl (by decide) rfl ?_
  refine v_aload_n dX6_bounded_2_6 1 rfl rfl ?_
  refine v_getS (f := 1) (t := 10) cf6 oc13 rfl rfl rfl (by decide) q628 dX6_bounded_2_7 ?_
  refine v_iload_n dX6_bounded_2_10 3 rfl rfl ?_
  refine v_iconst dX6_bounded_2_11 ?_
  obtain ⟨r9, s6, e7, h⟩ := bd_some h
  have k8 := c_X4_at e7 rx2 (rgl rfl)
  have r10 : rg r9 := k8.1.2.2
  refine v_callV (st := []) cf4 oc10 k8 (lw_V q1500 q1400 q1401 q301 q1402) rfl yk_X4_at ⟨Nat.le_of_ble_eq_true rfl, Nat.le_of_ble_eq_true rfl⟩ trivial ⟨kc13, trivial⟩ (Nat.le_of_ble_eq_true rfl) rfl dX6_bounded_2_12 ?_
  refine v_iconst dX6_bounded_2_15 ?_
  refine v_icmp_ne (tgt := 23) dX6_bounded_2_16 r10 (rgl rfl) (by decide) (fun c11 => ?_) (fun c11 => ?_)
  · rw [if_neg c11] at h
    refine v_iconst dX6_bounded_2_23 ?_
    refine v_sub [1, 2, 3, 0] (L1 := [(0, vO 13), (1, vI x1), (2, vI x2), (3, vI r4)]) rfl ?_
    exact wj_X6_bounded_2_24 h rx1 rx2 r5 (rgl rfl)
  · rw [if_pos c11] at h
    refine v_iconst dX6_bounded_2_19 ?_
    refine v_goto (tgt := 24) dX6_bounded_2_20 (by decide) ?_
    refine v_sub [1, 2, 3, 0] (L1 := [(0, vO 13), (1, vI x1), (2, vI x2), (3, vI r4)]) rfl ?_
    exact wj_X6_bounded_2_24 h rx1 rx2 r5 (rgl rfl)

def E_X6_bounded_2 (rv : Option vA) (σo : vS) (q : vS) : Prop := ∀ (s' : vS), q = s' → VW cX6_bounded (RX6, rv, σo, (some .boolean), 12, 292, 3, []) (P0 []) s' 26 [(0, vO 13)] []
def l_X6_bounded_2 : Nat → Int → vS → Option (vS)
  | 0, _, _ => none
  | n + 1, x1, s =>
    bd (f_X4_size s) fun r4 s1 =>
    if r4 ≤ x1 then
      some s1
    else
      gd (inb x1 (gN s1 38)) <|
      stp (sE s1 38 x1 0) fun s8 =>
      vl (w32 (x1 + 1)) fun y10 =>
      l_X6_bounded_2 n y10 s8
theorem wl_X6_bounded_2 {rv : Option vA} {σo : vS}  : ∀ (n : Nat) (x1 : Int) (s : vS) (q : vS), l_X6_bounded_2 n x1 s = some q → rg x1 → E_X6_bounded_2 rv σo q → VW cX6_bounded (RX6, rv, σo, (some .boolean), 12, 292, 3, []) (P0 []) s 2 [(0, vO 13), (1, vI x1)] [] := by
  intro n
  induction n with
  | zero => intro x1 s q h; cases h
  | succ n ih =>
    intro x1 s q h rx1 hE
    unfold l_X6_bounded_2 at h
    refine v_iload_n dX6_bounded_2 1 rfl rfl ?_
    refine v_aload_n dX6_bounded_3 0 rfl rfl ?_
    refine v_getS (f := 1) (t := 10) cf6 oc13 rfl rfl rfl (by decide) q628 dX6_bounded_4 ?_
    obtain ⟨r4, s1, e2, h⟩ := bd_some h
    have k3 := c_X4_size e2
    have r5 : rg r4 := k3.1.2.2
    refine v_callV (st := [vI x1]) cf4 oc10 k3 (lw_V q1427 q1428 q1429 q301 q1430) rfl yk_X4_size ⟨Nat.le_of_ble_eq_true rfl, Nat.le_of_ble_eq_true rfl⟩ trivial ⟨kc13, trivial⟩ (Nat.le_of_ble_eq_true rfl) rfl dX6_bounded_7 ?_
    refine v_icmp_ge (tgt := 26) dX6_bounded_10 rx1 r5 (by decide) (fun c6 => ?_) (fun c6 => ?_)
    · rw [if_pos c6] at h
      cases h
      refine v_sub [0] (L1 := [(0, vO 13)]) rfl ?_
      exact hE _ rfl 
    · rw [if_neg c6] at h
      refine v_aload_n dX6_bounded_13 0 rfl rfl ?_
      refine v_getS (f := 15) (t := 38) cf6 oc13 rfl rfl rfl (by decide) q642 dX6_bounded_14 ?_
      refine v_iload_n dX6_bounded_17 1 rfl rfl ?_
      refine v_iconst dX6_bounded_18 ?_
      obtain ⟨g7, h⟩ := gd_some h
      obtain ⟨s8, e9, h⟩ := stp_some h
      refine v_iast oc38 rx1 g7.1 g7.2 dX6_bounded_19 ?_
      rw [← e9]
      obtain ⟨y10, e11, h⟩ := vl_some h
      refine v_iinc (L1 := [(1, vI (w32 (x1 + 1))), (0, vO 13)]) dX6_bounded_20 1 rfl (by decide) rfl ?_
      rw [← e11]
      have r12 : rg y10 := by rw [e11]; exact w32_rg _
      refine v_goto (tgt := 2) dX6_bounded_23 (by decide) ?_
      refine v_sub [1, 0] (L1 := [(0, vO 13), (1, vI y10)]) rfl ?_
      exact ih y10 s8 _ h r12 hE

def E_X6_bounded_28 (rv : Option vA) (σo : vS) (q : vS) : Prop := ∀ (s' : vS), q = s' → VW cX6_bounded (RX6, rv, σo, (some .boolean), 12, 292, 3, []) (P0 []) s' 85 [(0, vO 13)] []
def E_X6_bounded_56 (x1 : Int) (rv : Option vA) (σo : vS) (q : vS) : Prop := ∀ (s' : vS), q = s' → VW cX6_bounded (RX6, rv, σo, (some .boolean), 12, 292, 3, []) (P0 []) s' 79 [(0, vO 13), (1, vI x1)] []
def l_X6_bounded_56 : Nat → Int → Int → vS → Option (vS)
  | 0, _, _, _ => none
  | n + 1, x1, x2, s =>
    if x2 = (-1) then
      some s
    else
      bdv (f_X6_bounded_2 x1 x2 s) fun s2 =>
      bd (f_X4_next x2 s2) fun r8 s5 =>
      l_X6_bounded_56 n x1 r8 s5
theorem wl_X6_bounded_56 {x1 : Int} {rv : Option vA} {σo : vS}  (rx1 : rg x1) : ∀ (n : Nat) (x2 : Int) (s : vS) (q : vS), l_X6_bounded_56 n x1 x2 s = some q → rg x2 → E_X6_bounded_56 x1 rv σo q → VW cX6_bounded (RX6, rv, σo, (some .boolean), 12, 292, 3, []) (P0 []) s 56 [(0, vO 13), (1, vI x1), (2, vI x2)] [] := by
  intro n
  induction n with
  | zero => intro x2 s q h; cases h
  | succ n ih =>
    intro x2 s q h rx2 hE
    unfold l_X6_bounded_56 at h
    refine v_iload_n dX6_bounded_56 2 rfl rfl ?_
    refine v_iconst dX6_bounded_57 ?_
    refine v_icmp_eq (tgt := 79) dX6_bounded_58 rx2 (rgl rfl) (by decide) (fun c1 => ?_) (fun c1 => ?_)
    · rw [if_pos c1] at h
      cases h
      refine v_sub [0, 1] (L1 := [(0, vO 13), (1, vI x1)]) rfl ?_
      exact hE _ rfl 
    · rw [if_neg c1] at h
      refine v_aload_n dX6_bounded_61 0 rfl rfl ?_
      refine v_iload_n dX6_bounded_62 1 rfl rfl ?_
      refine v_iload_n dX6_bounded_63 2 rfl rfl ?_
      obtain ⟨s2, e3, h⟩ := bdv_some h
      have k4 := c_X6_bounded_2 e3 rx1 rx2
      refine v_callV (st := []) cf6 oc13 k4 (lw_V q1664 q1666 qs76 q303 q1667) rfl yk_X6_bounded_2 ⟨Nat.le_of_ble_eq_true rfl, Nat.le_of_ble_eq_true rfl⟩ trivial ⟨kc13, trivial⟩ (Nat.le_of_ble_eq_true rfl) rfl dX6_bounded_64 ?_
      refine v_aload_n dX6_bounded_67 0 rfl rfl ?_
      refine v_getS (f := 1) (t := 10) cf6 oc13 rfl rfl rfl (by decide) q628 dX6_bounded_68 ?_
      refine v_iload_n dX6_bounded_71 2 rfl rfl ?_
      obtain ⟨r8, s5, e6, h⟩ := bd_some h
      have k7 := c_X4_next e6 rx2
      have r9 : rg r8 := k7.1.2.2
      refine v_callV (st := []) cf4 oc10 k7 (lw_V q1483 q1404 q1405 q301 q1406) rfl yk_X4_next ⟨Nat.le_of_ble_eq_true rfl, Nat.le_of_ble_eq_true rfl⟩ trivial ⟨kc13, trivial⟩ (Nat.le_of_ble_eq_true rfl) rfl dX6_bounded_72 ?_
      refine v_istore_n (L1 := [(2, vI r8), (0, vO 13), (1, vI x1)]) dX6_bounded_75 rfl (by decide) rfl ?_
      refine v_goto (tgt := 56) dX6_bounded_76 (by decide) ?_
      refine v_sub [1, 2, 0] (L1 := [(0, vO 13), (1, vI x1), (2, vI r8)]) rfl ?_
      exact ih r8 s5 _ h r9 hE

def l_X6_bounded_28 : Nat → Int → vS → Option (vS)
  | 0, _, _ => none
  | n + 1, x1, s =>
    bd (f_X4_size s) fun r4 s1 =>
    if r4 ≤ x1 then
      some s1
    else
      bd (f_X6_isType x1 s1) fun r10 s7 =>
      if r10 = 0 then
        vl (w32 (x1 + 1)) fun y13 =>
        l_X6_bounded_28 n y13 s7
      else
        bd (f_X4_limits x1 s7) fun r19 s16 =>
        lq_0 (l_X6_bounded_56 FU x1 r19 s16) fun s21 =>
        vl (w32 (x1 + 1)) fun y23 =>
        l_X6_bounded_28 n y23 s21
theorem wl_X6_bounded_28 {rv : Option vA} {σo : vS}  : ∀ (n : Nat) (x1 : Int) (s : vS) (q : vS), l_X6_bounded_28 n x1 s = some q → rg x1 → E_X6_bounded_28 rv σo q → VW cX6_bounded (RX6, rv, σo, (some .boolean), 12, 292, 3, []) (P0 []) s 28 [(0, vO 13), (1, vI x1)] [] := by
  intro n
  induction n with
  | zero => intro x1 s q h; cases h
  | succ n ih =>
    intro x1 s q h rx1 hE
    unfold l_X6_bounded_28 at h
    refine v_iload_n dX6_bounded_28 1 rfl rfl ?_
    refine v_aload_n dX6_bounded_29 0 rfl rfl ?_
    refine v_getS (f := 1) (t := 10) cf6 oc13 rfl rfl rfl (by decide) q628 dX6_bounded_30 ?_
    obtain ⟨r4, s1, e2, h⟩ := bd_some h
    have k3 := c_X4_size e2
    have r5 : rg r4 := k3.1.2.2
    refine v_callV (st := [vI x1]) cf4 oc10 k3 (lw_V q1427 q1428 q1429 q301 q1430) rfl yk_X4_size ⟨Nat.le_of_ble_eq_true rfl, Nat.le_of_ble_eq_true rfl⟩ trivial ⟨kc13, trivial⟩ (Nat.le_of_ble_eq_true rfl) rfl dX6_bounded_33 ?_
    refine v_icmp_ge (tgt := 85) dX6_bounded_36 rx1 r5 (by decide) (fun c6 => ?_) (fun c6 => ?_)
    · rw [if_pos c6] at h
      cases h
      refine v_sub [0] (L1 := [(0, vO 13)]) rfl ?_
      exact hE _ rfl 
    · rw [if_neg c6] at h
      refine v_aload_n dX6_bounded_39 0 rfl rfl ?_
      refine v_iload_n dX6_bounded_40 1 rfl rfl ?_
      obtain ⟨r10, s7, e8, h⟩ := bd_some h
      have k9 := c_X6_isType e8 rx1
      have r11 : rg r10 := k9.1.2.2
      refine v_callV (st := []) cf6 oc13 k9 (lw_V q1488 q1490 qs47 q303 q1491) rfl yk_X6_isType ⟨Nat.le_of_ble_eq_true rfl, Nat.le_of_ble_eq_true rfl⟩ trivial ⟨kc13, trivial⟩ (Nat.le_of_ble_eq_true rfl) rfl dX6_bounded_41 ?_
      refine v_if_eq (tgt := 79) dX6_bounded_44 r11 (by decide) (fun c12 => ?_) (fun c12 => ?_)
      · rw [if_pos c12] at h
        obtain ⟨y13, e14, h⟩ := vl_some h
        refine v_iinc (L1 := [(1, vI (w32 (x1 + 1))), (0, vO 13)]) dX6_bounded_79 1 rfl (by decide) rfl ?_
        rw [← e14]
        have r15 : rg y13 := by rw [e14]; exact w32_rg _
        refine v_goto (tgt := 28) dX6_bounded_82 (by decide) ?_
        refine v_sub [1, 0] (L1 := [(0, vO 13), (1, vI y13)]) rfl ?_
        exact ih y13 s7 _ h r15 hE
      · rw [if_neg c12] at h
        refine v_aload_n dX6_bounded_47 0 rfl rfl ?_
        refine v_getS (f := 1) (t := 10) cf6 oc13 rfl rfl rfl (by decide) q628 dX6_bounded_48 ?_
        refine v_iload_n dX6_bounded_51 1 rfl rfl ?_
        obtain ⟨r19, s16, e17, h⟩ := bd_some h
        have k18 := c_X4_limits e17 rx1
        have r20 : rg r19 := k18.1.2.2
        refine v_callV (st := []) cf4 oc10 k18 (lw_V q1579 q1396 q1397 q301 q1398) rfl yk_X4_limits ⟨Nat.le_of_ble_eq_true rfl, Nat.le_of_ble_eq_true rfl⟩ trivial ⟨kc13, trivial⟩ (Nat.le_of_ble_eq_true rfl) rfl dX6_bounded_52 ?_
        refine v_istore_n (L1 := [(2, vI r19), (0, vO 13), (1, vI x1)]) dX6_bounded_55 rfl (by decide) rfl ?_
        refine v_sub [1, 2, 0] (L1 := [(0, vO 13), (1, vI x1), (2, vI r19)]) rfl ?_
        obtain ⟨s21, e22, h⟩ := lq_0_some h
        refine wl_X6_bounded_56 rx1 FU r19 s16 _ e22 r20 ?_
        unfold E_X6_bounded_56
        intro s21' z_
        cases z_
        obtain ⟨y23, e24, h⟩ := vl_some h
        refine v_iinc (L1 := [(1, vI (w32 (x1 + 1))), (0, vO 13)]) dX6_bounded_79 1 rfl (by decide) rfl ?_
        rw [← e24]
        have r25 : rg y23 := by rw [e24]; exact w32_rg _
        refine v_goto (tgt := 28) dX6_bounded_82 (by decide) ?_
        refine v_sub [1, 0] (L1 := [(0, vO 13), (1, vI y23)]) rfl ?_
        exact ih y23 s21 _ h r25 hE

def f_X6_bounded (s : vS) : Option (Int × vS) :=
  lq_0 (l_X6_bounded_2 FU 0 s) fun s1 =>
  lq_0 (l_X6_bounded_28 FU 0 s1) fun s3 =>
  if (gI s3 13 20) = 0 then
    some (1, s3)
  else
    some (0, s3)
theorem yk_X6_bounded : yOk yX6_bounded 0 := ⟨by decide, by decide, by decide +kernel⟩
theorem c_X6_bounded {s : vS} {out : Int × vS} (h : f_X6_bounded s = some out)   : VC yX6_bounded cX6_bounded 3 (some .boolean) 12 292 [vO 13] s (some (vI out.1)) out.2 [] := by
  unfold f_X6_bounded at h
  refine VC.of RX6 (by decide) rfl (Nat.le_of_ble_eq_true rfl) ?_
  show VW cX6_bounded (RX6, (some (vI out.1)), out.2, (some .boolean), 12, 292, 3, []) (P0 []) s 0 [(0, vO 13)] []
  refine v_iconst dX6_bounded_0 ?_
  refine v_istore_n (L1 := [(1, vI 0), (0, vO 13)]) dX6_bounded_1 rfl (by decide) rfl ?_
  refine v_sub [1, 0] (L1 := [(0, vO 13), (1, vI 0)]) rfl ?_
  obtain ⟨s1, e2, h⟩ := lq_0_some h
  refine wl_X6_bounded_2  FU 0 s _ e2 (rgl rfl) ?_
  unfold E_X6_bounded_2
  intro s1' z_
  cases z_
  refine v_iconst dX6_bounded_26 ?_
  refine v_istore_n (L1 := [(1, vI 0), (0, vO 13)]) dX6_bounded_27 rfl (by decide) rfl ?_
  refine v_sub [1, 0] (L1 := [(0, vO 13), (1, vI 0)]) rfl ?_
  obtain ⟨s3, e4, h⟩ := lq_0_some h
  refine wl_X6_bounded_28  FU 0 s1 _ e4 (rgl rfl) ?_
  unfold E_X6_bounded_28
  intro s3' z_
  cases z_
  refine v_aload_n dX6_bounded_85 0 rfl rfl ?_
  refine v_getI (f := 20) cf6 oc13 rfl (by decide) q647 dX6_bounded_86 ?_
  refine v_if_ne (tgt := 96) dX6_bounded_89 (gI_rg _ _ _) (by decide) (fun c5 => ?_) (fun c5 => ?_)
  · rw [if_neg c5] at h
    refine v_iconst dX6_bounded_96 ?_
    cases h
    exact v_zret (Or.inl rfl) dX6_bounded_97
  · rw [if_pos c5] at h
    refine v_iconst dX6_bounded_92 ?_
    refine v_goto (tgt := 97) dX6_bounded_93 (by decide) ?_
    cases h
    exact v_zret (Or.inr rfl) dX6_bounded_97

def f_X6_copy (x1 : Int) (x2 : Int) (s : vS) : Option (Int × vS) :=
  gd (inb x2 (gN s 34)) <|
  gd (inb x1 (gN s 34)) <|
  stp (sE s 34 x1 (gE s 34 x2)) fun s3 =>
  gd (inb x2 (gN s3 35)) <|
  gd (inb x1 (gN s3 35)) <|
  stp (sE s3 35 x1 (gE s3 35 x2)) fun s7 =>
  some (1, s7)
theorem yk_X6_copy : yOk yX6_copy 2 := ⟨by decide, by decide, by decide +kernel⟩
theorem c_X6_copy {x1 : Int} {x2 : Int} {s : vS} {out : Int × vS} (h : f_X6_copy x1 x2 s = some out)  (rx1 : rg x1) (rx2 : rg x2) : VC yX6_copy cX6_copy 3 (some .boolean) 0 0 [vO 13, vI x1, vI x2] s (some (vI out.1)) out.2 [] := by
  unfold f_X6_copy at h
  refine VC.of RX6 (by decide) rfl (Nat.le_of_ble_eq_true rfl) ?_
  show VW cX6_copy (RX6, (some (vI out.1)), out.2, (some .boolean), 0, 0, 3, []) (P0 []) s 0 [(0, vO 13), (1, vI x1), (2, vI x2)] []
  refine v_aload_n dX6_copy_0 0 rfl rfl ?_
  refine v_getS (f := 11) (t := 34) cf6 oc13 rfl rfl rfl (by decide) q638 dX6_copy_1 ?_
  refine v_iload_n dX6_copy_4 1 rfl rfl ?_
  refine v_aload_n dX6_copy_5 0 rfl rfl ?_
  refine v_getS (f := 11) (t := 34) cf6 oc13 rfl rfl rfl (by decide) q638 dX6_copy_6 ?_
  refine v_iload_n dX6_copy_9 2 rfl rfl ?_
  obtain ⟨g1, h⟩ := gd_some h
  refine v_iald oc34 rx2 g1.1 g1.2 dX6_copy_10 ?_
  obtain ⟨g2, h⟩ := gd_some h
  obtain ⟨s3, e4, h⟩ := stp_some h
  refine v_iast oc34 rx1 g2.1 g2.2 dX6_copy_11 ?_
  rw [← e4]
  refine v_aload_n dX6_copy_12 0 rfl rfl ?_
  refine v_getS (f := 12) (t := 35) cf6 oc13 rfl rfl rfl (by decide) q639 dX6_copy_13 ?_
  refine v_iload_n dX6_copy_16 1 rfl rfl ?_
  refine v_aload_n dX6_copy_17 0 rfl rfl ?_
  refine v_getS (f := 12) (t := 35) cf6 oc13 rfl rfl rfl (by decide) q639 dX6_copy_18 ?_
  refine v_iload_n dX6_copy_21 2 rfl rfl ?_
  obtain ⟨g5, h⟩ := gd_some h
  refine v_iald oc35 rx2 g5.1 g5.2 dX6_copy_22 ?_
  obtain ⟨g6, h⟩ := gd_some h
  obtain ⟨s7, e8, h⟩ := stp_some h
  refine v_iast oc35 rx1 g6.1 g6.2 dX6_copy_23 ?_
  rw [← e8]
  refine v_iconst dX6_copy_24 ?_
  cases h
  exact v_zret (Or.inr rfl) dX6_copy_25

def f_X6_single (x1 : Int) (x2 : Int) (x3 : Int) (s : vS) : Option (Int × vS) :=
  if x3 = 0 then
    if x2 ≤ 0 then
      some (0, s)
    else
      some (1, s)
  else
    if 0 ≤ x2 then
      some (0, s)
    else
      some (1, s)
theorem yk_X6_single : yOk yX6_single 3 := ⟨by decide, by decide, by decide +kernel⟩
theorem c_X6_single {x1 : Int} {x2 : Int} {x3 : Int} {s : vS} {out : Int × vS} (h : f_X6_single x1 x2 x3 s = some out)  (rx1 : rg x1) (rx2 : rg x2) (rx3 : rg x3) : VC yX6_single cX6_single 4 (some .boolean) 0 0 [vO 13, vI x1, vI x2, vI x3] s (some (vI out.1)) out.2 [] := by
  unfold f_X6_single at h
  refine VC.of RX6 (by decide) rfl (Nat.le_of_ble_eq_true rfl) ?_
  show VW cX6_single (RX6, (some (vI out.1)), out.2, (some .boolean), 0, 0, 4, []) (P0 []) s 0 [(0, vO 13), (1, vI x1), (2, vI x2), (3, vI x3)] []
  refine v_iload_n dX6_single_0 3 rfl rfl ?_
  refine v_if_ne (tgt := 16) dX6_single_1 rx3 (by decide) (fun c1 => ?_) (fun c1 => ?_)
  · rw [if_neg c1] at h
    refine v_iload_n dX6_single_16 2 rfl rfl ?_
    refine v_if_ge (tgt := 24) dX6_single_17 rx2 (by decide) (fun c2 => ?_) (fun c2 => ?_)
    · rw [if_pos c2] at h
      refine v_iconst dX6_single_24 ?_
      cases h
      exact v_zret (Or.inl rfl) dX6_single_25
    · rw [if_neg c2] at h
      refine v_iconst dX6_single_20 ?_
      refine v_goto (tgt := 25) dX6_single_21 (by decide) ?_
      cases h
      exact v_zret (Or.inr rfl) dX6_single_25
  · rw [if_pos c1] at h
    refine v_iload_n dX6_single_4 2 rfl rfl ?_
    refine v_if_le (tgt := 12) dX6_single_5 rx2 (by decide) (fun c3 => ?_) (fun c3 => ?_)
    · rw [if_pos c3] at h
      refine v_iconst dX6_single_12 ?_
      refine v_goto (tgt := 25) dX6_single_13 (by decide) ?_
      cases h
      exact v_zret (Or.inl rfl) dX6_single_25
    · rw [if_neg c3] at h
      refine v_iconst dX6_single_8 ?_
      refine v_goto (tgt := 25) dX6_single_9 (by decide) ?_
      cases h
      exact v_zret (Or.inr rfl) dX6_single_25

def j_X6_isBelow_23 (p1 : Nat) (x4 : Int) (x5 : Int) (x6 : Int) (s : vS) : Option (Int × vS) :=
  bd (f_X6_single x4 x5 x6 s) fun r4 s1 =>
  gd (r4 = 0 ∨ r4 = 1) <|
  some (r4, s1)
theorem wj_X6_isBelow_23 {p1 : Nat} {x4 : Int} {x5 : Int} {x6 : Int} {s : vS} {out : Int × vS} (h : j_X6_isBelow_23 p1 x4 x5 x6 s = some out) (hp1 : okB p1 1) (rx4 : rg x4) (rx5 : rg x5) (rx6 : rg x6) : VW cX6_isBelow (RX6, (some (vI out.1)), out.2, (some .boolean), 3, 75, 7, []) (P0 []) s 23 [(0, vO 13), (4, vI x4), (5, vI x5), (6, vI x6)] [] := by
  unfold j_X6_isBelow_23 at h
  refine v_aload_n dX6_isBelow_23 0 rfl rfl ?_
  refine v_iload dX6_isBelow_24 1 rfl ?_
  refine v_iload dX6_isBelow_26 2 rfl ?_
  refine v_iload dX6_isBelow_28 3 rfl ?_
  obtain ⟨r4, s1, e2, h⟩ := bd_some h
  have k3 := c_X6_single e2 rx4 rx5 rx6
  have r5 : rg r4 := k3.1.2.2
  refine v_callV (st := []) cf6 oc13 k3 (lw_V q1724 q1726 qs89 q303 q1727) rfl yk_X6_single ⟨Nat.le_of_ble_eq_true rfl, Nat.le_of_ble_eq_true rfl⟩ trivial ⟨kc13, trivial⟩ (Nat.le_of_ble_eq_true rfl) rfl dX6_isBelow_30 ?_
  obtain ⟨g6, h⟩ := gd_some h
  cases h
  exact v_zret g6 dX6_isBelow_33

def f_X6_isBelow (p1 : Nat) (x2 : Int) (x3 : Int) (x4 : Int) (x5 : Int) (s : vS) : Option (Int × vS) :=
  bd (f_X4_at x4 5 s) fun r4 s1 =>
  if r4 = 0 then
    j_X6_isBelow_23 p1 x4 x5 r4 s1
  else
    if r4 = 1 then
      j_X6_isBelow_23 p1 x4 x5 r4 s1
    else
      gd (inb x4 (gN s1 34)) <|
      gd (inb x4 (gN s1 35)) <|
      bd (f_X7_compare p1 x2 x3 30 (gE s1 34 x4) (gE s1 35 x4) s1) fun r13 s10 =>
      if (w32 (r13 * x5)) ≤ 0 then
        some (0, s10)
      else
        some (1, s10)
theorem yk_X6_isBelow : yOk yX6_isBelow 5 := ⟨by decide, by decide, by decide +kernel⟩
theorem c_X6_isBelow {p1 : Nat} {x2 : Int} {x3 : Int} {x4 : Int} {x5 : Int} {s : vS} {out : Int × vS} (h : f_X6_isBelow p1 x2 x3 x4 x5 s = some out) (hp1 : okB p1 1) (rx2 : rg x2) (rx3 : rg x3) (rx4 : rg x4) (rx5 : rg x5) : VC yX6_isBelow cX6_isBelow 7 (some .boolean) 3 75 [vO 13, vO p1, vI x2, vI x3, vI x4, vI x5] s (some (vI out.1)) out.2 [] := by
  unfold f_X6_isBelow at h
  refine VC.of RX6 (by decide) rfl (Nat.le_of_ble_eq_true rfl) ?_
  show VW cX6_isBelow (RX6, (some (vI out.1)), out.2, (some .boolean), 3, 75, 7, []) (P0 []) s 0 [(0, vO 13), (1, vO p1), (2, vI x2), (3, vI x3), (4, vI x4), (5, vI x5)] []
  refine v_aload_n dX6_isBelow_0 0 rfl rfl ?_
  refine v_getS (f := 1) (t := 10) cf6 oc13 rfl rfl rfl (by decide) q628 dX6_isBelow_1 ?_
  refine v_iload dX6_isBelow_4 4 rfl ?_
  refine v_iconst dX6_isBelow_6 ?_
  obtain ⟨r4, s1, e2, h⟩ := bd_some h
  have k3 := c_X4_at e2 rx4 (rgl rfl)
  have r5 : rg r4 := k3.1.2.2
  refine v_callV (st := []) cf4 oc10 k3 (lw_V q1500 q1400 q1401 q301 q1402) rfl yk_X4_at ⟨Nat.le_of_ble_eq_true rfl, Nat.le_of_ble_eq_true rfl⟩ trivial ⟨kc13, (okB_kp hp1 (by decide)), trivial⟩ (Nat.le_of_ble_eq_true rfl) rfl dX6_isBelow_7 ?_
  refine v_istore (L1 := [(6, vI r4), (0, vO 13), (1, vO p1), (2, vI x2), (3, vI x3), (4, vI x4), (5, vI x5)]) dX6_isBelow_10 (by decide) rfl ?_
  refine v_iload dX6_isBelow_12 0 rfl ?_
  refine v_if_eq (tgt := 23) dX6_isBelow_14 r5 (by decide) (fun c6 => ?_) (fun c6 => ?_)
  · rw [if_pos c6] at h
    refine v_sub [1, 5, 6, 0] (L1 := [(0, vO 13), (4, vI x4), (5, vI x5), (6, vI r4)]) rfl ?_
    exact wj_X6_isBelow_23 h hp1 rx4 rx5 r5
  · rw [if_neg c6] at h
    refine v_iload dX6_isBelow_17 0 rfl ?_
    refine v_iconst dX6_isBelow_19 ?_
    refine v_icmp_ne (tgt := 34) dX6_isBelow_20 r5 (rgl rfl) (by decide) (fun c7 => ?_) (fun c7 => ?_)
    · rw [if_neg c7] at h
      refine v_aload_n dX6_isBelow_34 2 rfl rfl ?_
      refine v_iload_n dX6_isBelow_35 3 rfl rfl ?_
      refine v_iload_n dX6_isBelow_36 4 rfl rfl ?_
      refine v_aload_n dX6_isBelow_37 1 rfl rfl ?_
      refine v_getS (f := 9) (t := 30) cf6 oc13 rfl rfl rfl (by decide) q636 dX6_isBelow_38 ?_
      refine v_aload_n dX6_isBelow_41 1 rfl rfl ?_
      refine v_getS (f := 11) (t := 34) cf6 oc13 rfl rfl rfl (by decide) q638 dX6_isBelow_42 ?_
      refine v_iload dX6_isBelow_45 5 rfl ?_
      obtain ⟨g8, h⟩ := gd_some h
      refine v_iald oc34 rx4 g8.1 g8.2 dX6_isBelow_47 ?_
      refine v_aload_n dX6_isBelow_48 1 rfl rfl ?_
      refine v_getS (f := 12) (t := 35) cf6 oc13 rfl rfl rfl (by decide) q639 dX6_isBelow_49 ?_
      refine v_iload dX6_isBelow_52 5 rfl ?_
      obtain ⟨g9, h⟩ := gd_some h
      refine v_iald oc35 rx4 g9.1 g9.2 dX6_isBelow_54 ?_
      obtain ⟨r13, s10, e11, h⟩ := bd_some h
      have k12 := c_X7_compare e11 hp1 (⟨by decide, rfl⟩ : okB 30 1) rx2 rx3 (gE_rg _ _ _) (gE_rg _ _ _)
      have r14 : rg r13 := k12.1.2.2
      refine v_callS (st := []) k12 (lw_S q1688 q1689 q304 q1690) yk_X7_compare ⟨Nat.le_of_ble_eq_true rfl, Nat.le_of_ble_eq_true rfl⟩ trivial ⟨kc13, (okB_kp hp1 (by decide)), trivial⟩ (Nat.le_of_ble_eq_true rfl) rfl dX6_isBelow_55 ?_
      refine v_iload dX6_isBelow_58 6 rfl ?_
      refine v_imul dX6_isBelow_60 ?_
      refine v_if_le (tgt := 68) dX6_isBelow_61 (w32_rg _) (by decide) (fun c15 => ?_) (fun c15 => ?_)
      · rw [if_pos c15] at h
        refine v_iconst dX6_isBelow_68 ?_
        cases h
        exact v_zret (Or.inl rfl) dX6_isBelow_69
      · rw [if_neg c15] at h
        refine v_iconst dX6_isBelow_64 ?_
        refine v_goto (tgt := 69) dX6_isBelow_65 (by decide) ?_
        cases h
        exact v_zret (Or.inr rfl) dX6_isBelow_69
    · rw [if_pos c7] at h
      refine v_sub [1, 5, 6, 0] (L1 := [(0, vO 13), (4, vI x4), (5, vI x5), (6, vI r4)]) rfl ?_
      exact wj_X6_isBelow_23 h hp1 rx4 rx5 r5

def E_X6_isIn_10 (p2 : Nat) (rv : Option vA) (σo : vS) (q : (vS) ⊕ (Int × vS)) : Prop := (∀ (s' : vS), q = .inl s' → VW cX6_isIn (RX6, rv, σo, (some .boolean), 4, 101, 8, []) (P0 []) s' 100 [] []) ∧ (∀ (v : Int) (s' : vS), q = .inr (v, s') → rv = some (vI v) ∧ σo = s')
def j_X6_isIn_86 (p2 : Nat) (rec : Int → Int → Int → vS → Option ((vS) ⊕ (Int × vS))) (x3 : Int) (x4 : Int) (x5 : Int) (s : vS) : Option ((vS) ⊕ (Int × vS)) :=
  bd (f_X4_next x5 s) fun r4 s1 =>
  rec x3 x4 r4 s1
theorem wj_X6_isIn_86 {p2 : Nat} {x3 : Int} {x4 : Int} {x5 : Int} {s : vS} {rv : Option vA} {σo : vS} {rec : Int → Int → Int → vS → Option ((vS) ⊕ (Int × vS))} {q : (vS) ⊕ (Int × vS)} (h : j_X6_isIn_86 p2 rec x3 x4 x5 s = some q) (hp2 : okB p2 1) (rx3 : rg x3) (rx4 : rg x4) (rx5 : rg x5) (hrec : ∀ (y5 : Int) (s : vS) (q : (vS) ⊕ (Int × vS)), rec x3 x4 y5 s = some q → rg y5 → E_X6_isIn_10 p2 rv σo q → VW cX6_isIn (RX6, rv, σo, (some .boolean), 4, 101, 8, []) (P0 []) s 10 [(0, vO 13), (2, vO p2), (3, vI x3), (4, vI x4), (5, vI y5)] []) (hE : E_X6_isIn_10 p2 rv σo q) : VW cX6_isIn (RX6, rv, σo, (some .boolean), 4, 101, 8, []) (P0 []) s 86 [(0, vO 13), (2, vO p2), (3, vI x3), (4, vI x4), (5, vI x5)] [] := by
  unfold j_X6_isIn_86 at h
  refine v_aload_n dX6_isIn_86 0 rfl rfl ?_
  refine v_getS (f := 1) (t := 10) cf6 oc13 rfl rfl rfl (by decide) q628 dX6_isIn_87 ?_
  refine v_iload dX6_isIn_90 4 rfl ?_
  obtain ⟨r4, s1, e2, h⟩ := bd_some h
  have k3 := c_X4_next e2 rx5
  have r5 : rg r4 := k3.1.2.2
  refine v_callV (st := []) cf4 oc10 k3 (lw_V q1483 q1404 q1405 q301 q1406) rfl yk_X4_next ⟨Nat.le_of_ble_eq_true rfl, Nat.le_of_ble_eq_true rfl⟩ trivial ⟨kc13, (okB_kp hp2 (by decide)), trivial⟩ (Nat.le_of_ble_eq_true rfl) rfl dX6_isIn_92 ?_
  refine v_istore (L1 := [(5, vI r4), (0, vO 13), (2, vO p2), (3, vI x3), (4, vI x4)]) dX6_isIn_95 (by decide) rfl ?_
  refine v_goto (tgt := 10) dX6_isIn_97 (by decide) ?_
  refine v_sub [1, 2, 3, 4, 0] (L1 := [(0, vO 13), (2, vO p2), (3, vI x3), (4, vI x4), (5, vI r4)]) rfl ?_
  exact hrec r4 s1 _ h r5 hE

def j_X6_isIn_54 (p2 : Nat) (rec : Int → Int → Int → vS → Option ((vS) ⊕ (Int × vS))) (x3 : Int) (x4 : Int) (x5 : Int) (x6 : Int) (z0 : Int) (s : vS) : Option ((vS) ⊕ (Int × vS)) :=
  bd (f_X6_isBelow p2 x3 x4 x6 (-1) s) fun r4 s1 =>
  if r4 = 0 then
    bd (f_X6_isBelow p2 x3 x4 z0 1 s1) fun r10 s7 =>
    if r10 = 0 then
      some (.inr (1, s7))
    else
      j_X6_isIn_86 p2 rec x3 x4 x5 s7
  else
    j_X6_isIn_86 p2 rec x3 x4 x5 s1
theorem wj_X6_isIn_54 {p2 : Nat} {x3 : Int} {x4 : Int} {x5 : Int} {x6 : Int} {z0 : Int} {s : vS} {rv : Option vA} {σo : vS} {rec : Int → Int → Int → vS → Option ((vS) ⊕ (Int × vS))} {q : (vS) ⊕ (Int × vS)} (h : j_X6_isIn_54 p2 rec x3 x4 x5 x6 z0 s = some q) (hp2 : okB p2 1) (rx3 : rg x3) (rx4 : rg x4) (rx5 : rg x5) (rx6 : rg x6) (rz0 : rg z0) (hrec : ∀ (y5 : Int) (s : vS) (q : (vS) ⊕ (Int × vS)), rec x3 x4 y5 s = some q → rg y5 → E_X6_isIn_10 p2 rv σo q → VW cX6_isIn (RX6, rv, σo, (some .boolean), 4, 101, 8, []) (P0 []) s 10 [(0, vO 13), (2, vO p2), (3, vI x3), (4, vI x4), (5, vI y5)] []) (hE : E_X6_isIn_10 p2 rv σo q) : VW cX6_isIn (RX6, rv, σo, (some .boolean), 4, 101, 8, []) (P0 []) s 54 [(0, vO 13), (2, vO p2), (3, vI x3), (4, vI x4), (5, vI x5), (6, vI x6)] [vI z0] := by
  unfold j_X6_isIn_54 at h
  refine v_istore (L1 := [(7, vI z0), (0, vO 13), (2, vO p2), (3, vI x3), (4, vI x4), (5, vI x5), (6, vI x6)]) dX6_isIn_54 (by decide) rfl ?_
  refine v_aload_n dX6_isIn_56 1 rfl rfl ?_
  refine v_aload_n dX6_isIn_57 2 rfl rfl ?_
  refine v_iload_n dX6_isIn_58 3 rfl rfl ?_
  refine v_iload dX6_isIn_59 4 rfl ?_
  refine v_iload dX6_isIn_61 6 rfl ?_
  refine v_iconst dX6_isIn_63 ?_
  obtain ⟨r4, s1, e2, h⟩ := bd_some h
  have k3 := c_X6_isBelow e2 hp2 rx3 rx4 rx6 (rgl rfl)
  have r5 : rg r4 := k3.1.2.2
  refine v_callV (st := []) cf6 oc13 k3 (lw_V q1720 q1722 qs88 q303 q1723) rfl yk_X6_isBelow ⟨Nat.le_of_ble_eq_true rfl, Nat.le_of_ble_eq_true rfl⟩ trivial ⟨kc13, (okB_kp hp2 (by decide)), trivial⟩ (Nat.le_of_ble_eq_true rfl) rfl dX6_isIn_64 ?_
  refine v_if_ne (tgt := 86) dX6_isIn_67 r5 (by decide) (fun c6 => ?_) (fun c6 => ?_)
  · rw [if_neg c6] at h
    refine v_sub [1, 2, 3, 4, 5] (L1 := [(0, vO 13), (2, vO p2), (3, vI x3), (4, vI x4), (5, vI x5)]) rfl ?_
    exact wj_X6_isIn_86 h hp2 rx3 rx4 rx5 hrec hE
  · rw [if_pos c6] at h
    refine v_aload_n dX6_isIn_70 1 rfl rfl ?_
    refine v_aload_n dX6_isIn_71 2 rfl rfl ?_
    refine v_iload_n dX6_isIn_72 3 rfl rfl ?_
    refine v_iload dX6_isIn_73 4 rfl ?_
    refine v_iload dX6_isIn_75 0 rfl ?_
    refine v_iconst dX6_isIn_77 ?_
    obtain ⟨r10, s7, e8, h⟩ := bd_some h
    have k9 := c_X6_isBelow e8 hp2 rx3 rx4 rz0 (rgl rfl)
    have r11 : rg r10 := k9.1.2.2
    refine v_callV (st := []) cf6 oc13 k9 (lw_V q1720 q1722 qs88 q303 q1723) rfl yk_X6_isBelow ⟨Nat.le_of_ble_eq_true rfl, Nat.le_of_ble_eq_true rfl⟩ trivial ⟨kc13, (okB_kp hp2 (by decide)), trivial⟩ (Nat.le_of_ble_eq_true rfl) rfl dX6_isIn_78 ?_
    refine v_if_ne (tgt := 86) dX6_isIn_81 r11 (by decide) (fun c12 => ?_) (fun c12 => ?_)
    · rw [if_neg c12] at h
      refine v_sub [1, 2, 3, 4, 5] (L1 := [(0, vO 13), (2, vO p2), (3, vI x3), (4, vI x4), (5, vI x5)]) rfl ?_
      exact wj_X6_isIn_86 h hp2 rx3 rx4 rx5 hrec hE
    · rw [if_pos c12] at h
      refine v_iconst dX6_isIn_84 ?_
      cases h
      obtain ⟨z1, z2⟩ := hE.2 _ _ rfl
      subst z1
      subst z2
      exact v_zret (Or.inr rfl) dX6_isIn_85

def l_X6_isIn_10 (p2 : Nat) : Nat → Int → Int → Int → vS → Option ((vS) ⊕ (Int × vS))
  | 0, _, _, _, _ => none
  | n + 1, x3, x4, x5, s =>
    if x5 = (-1) then
      some (.inl s)
    else
      bd (f_X4_parts x5 s) fun r5 s2 =>
      bd (f_X4_next r5 s2) fun r10 s7 =>
      if r10 = (-1) then
        j_X6_isIn_54 p2 (l_X6_isIn_10 p2 n) x3 x4 x5 r5 r5 s7
      else
        bd (f_X4_next r5 s7) fun r16 s13 =>
        j_X6_isIn_54 p2 (l_X6_isIn_10 p2 n) x3 x4 x5 r5 r16 s13
theorem wl_X6_isIn_10 (p2 : Nat) {x3 : Int} {x4 : Int} {rv : Option vA} {σo : vS} (hp2 : okB p2 1) (rx3 : rg x3) (rx4 : rg x4) : ∀ (n : Nat) (x5 : Int) (s : vS) (q : (vS) ⊕ (Int × vS)), l_X6_isIn_10 p2 n x3 x4 x5 s = some q → rg x5 → E_X6_isIn_10 p2 rv σo q → VW cX6_isIn (RX6, rv, σo, (some .boolean), 4, 101, 8, []) (P0 []) s 10 [(0, vO 13), (2, vO p2), (3, vI x3), (4, vI x4), (5, vI x5)] [] := by
  intro n
  induction n with
  | zero => intro x5 s q h; cases h
  | succ n ih =>
    intro x5 s q h rx5 hE
    unfold l_X6_isIn_10 at h
    refine v_iload dX6_isIn_10 4 rfl ?_
    refine v_iconst dX6_isIn_12 ?_
    refine v_icmp_eq (tgt := 100) dX6_isIn_13 rx5 (rgl rfl) (by decide) (fun c1 => ?_) (fun c1 => ?_)
    · rw [if_pos c1] at h
      cases h
      refine v_sub [] (L1 := []) rfl ?_
      exact hE.1 _ rfl 
    · rw [if_neg c1] at h
      refine v_aload_n dX6_isIn_16 0 rfl rfl ?_
      refine v_getS (f := 1) (t := 10) cf6 oc13 rfl rfl rfl (by decide) q628 dX6_isIn_17 ?_
      refine v_iload dX6_isIn_20 4 rfl ?_
      obtain ⟨r5, s2, e3, h⟩ := bd_some h
      have k4 := c_X4_parts e3 rx5
      have r6 : rg r5 := k4.1.2.2
      refine v_callV (st := []) cf4 oc10 k4 (lw_V q1492 q1493 q1494 q301 q1495) rfl yk_X4_parts ⟨Nat.le_of_ble_eq_true rfl, Nat.le_of_ble_eq_true rfl⟩ trivial ⟨kc13, (okB_kp hp2 (by decide)), trivial⟩ (Nat.le_of_ble_eq_true rfl) rfl dX6_isIn_22 ?_
      refine v_istore (L1 := [(6, vI r5), (0, vO 13), (2, vO p2), (3, vI x3), (4, vI x4), (5, vI x5)]) dX6_isIn_25 (by decide) rfl ?_
      refine v_aload_n dX6_isIn_27 1 rfl rfl ?_
      refine v_getS (f := 1) (t := 10) cf6 oc13 rfl rfl rfl (by decide) q628 dX6_isIn_28 ?_
      refine v_iload dX6_isIn_31 0 rfl ?_
      obtain ⟨r10, s7, e8, h⟩ := bd_some h
      have k9 := c_X4_next e8 r6
      have r11 : rg r10 := k9.1.2.2
      refine v_callV (st := []) cf4 oc10 k9 (lw_V q1483 q1404 q1405 q301 q1406) rfl yk_X4_next ⟨Nat.le_of_ble_eq_true rfl, Nat.le_of_ble_eq_true rfl⟩ trivial ⟨kc13, (okB_kp hp2 (by decide)), trivial⟩ (Nat.le_of_ble_eq_true rfl) rfl dX6_isIn_33 ?_
      refine v_iconst dX6_isIn_36 ?_
      refine v_icmp_ne (tgt := 45) dX6_isIn_37 r11 (rgl rfl) (by decide) (fun c12 => ?_) (fun c12 => ?_)
      · rw [if_neg c12] at h
        refine v_aload_n dX6_isIn_45 1 rfl rfl ?_
        refine v_getS (f := 1) (t := 10) cf6 oc13 rfl rfl rfl (by decide) q628 dX6_isIn_46 ?_
        refine v_iload dX6_isIn_49 0 rfl ?_
        obtain ⟨r16, s13, e14, h⟩ := bd_some h
        have k15 := c_X4_next e14 r6
        have r17 : rg r16 := k15.1.2.2
        refine v_callV (st := []) cf4 oc10 k15 (lw_V q1483 q1404 q1405 q301 q1406) rfl yk_X4_next ⟨Nat.le_of_ble_eq_true rfl, Nat.le_of_ble_eq_true rfl⟩ trivial ⟨kc13, (okB_kp hp2 (by decide)), trivial⟩ (Nat.le_of_ble_eq_true rfl) rfl dX6_isIn_51 ?_
        refine v_sub [1, 2, 3, 4, 5, 0] (L1 := [(0, vO 13), (2, vO p2), (3, vI x3), (4, vI x4), (5, vI x5), (6, vI r5)]) rfl ?_
        exact wj_X6_isIn_54 h hp2 rx3 rx4 rx5 r6 r17 ih hE
      · rw [if_pos c12] at h
        refine v_iload dX6_isIn_40 0 rfl ?_
        refine v_goto (tgt := 54) dX6_isIn_42 (by decide) ?_
        refine v_sub [1, 2, 3, 4, 5, 0] (L1 := [(0, vO 13), (2, vO p2), (3, vI x3), (4, vI x4), (5, vI x5), (6, vI r5)]) rfl ?_
        exact wj_X6_isIn_54 h hp2 rx3 rx4 rx5 r6 r6 ih hE

def f_X6_isIn (x1 : Int) (p2 : Nat) (x3 : Int) (x4 : Int) (s : vS) : Option (Int × vS) :=
  bd (f_X4_parts x1 s) fun r4 s1 =>
  lqs_0 (l_X6_isIn_10 p2 FU x3 x4 r4 s1) (fun s6 =>
    some (0, s6))
    (fun q => some q)
theorem yk_X6_isIn : yOk yX6_isIn 4 := ⟨by decide, by decide, by decide +kernel⟩
theorem c_X6_isIn {x1 : Int} {p2 : Nat} {x3 : Int} {x4 : Int} {s : vS} {out : Int × vS} (h : f_X6_isIn x1 p2 x3 x4 s = some out) (hp2 : okB p2 1) (rx1 : rg x1) (rx3 : rg x3) (rx4 : rg x4) : VC yX6_isIn cX6_isIn 8 (some .boolean) 4 101 [vO 13, vI x1, vO p2, vI x3, vI x4] s (some (vI out.1)) out.2 [] := by
  unfold f_X6_isIn at h
  refine VC.of RX6 (by decide) rfl (Nat.le_of_ble_eq_true rfl) ?_
  show VW cX6_isIn (RX6, (some (vI out.1)), out.2, (some .boolean), 4, 101, 8, []) (P0 []) s 0 [(0, vO 13), (1, vI x1), (2, vO p2), (3, vI x3), (4, vI x4)] []
  refine v_aload_n dX6_isIn_0 0 rfl rfl ?_
  refine v_getS (f := 1) (t := 10) cf6 oc13 rfl rfl rfl (by decide) q628 dX6_isIn_1 ?_
  refine v_iload_n dX6_isIn_4 1 rfl rfl ?_
  obtain ⟨r4, s1, e2, h⟩ := bd_some h
  have k3 := c_X4_parts e2 rx1
  have r5 : rg r4 := k3.1.2.2
  refine v_callV (st := []) cf4 oc10 k3 (lw_V q1492 q1493 q1494 q301 q1495) rfl yk_X4_parts ⟨Nat.le_of_ble_eq_true rfl, Nat.le_of_ble_eq_true rfl⟩ trivial ⟨kc13, (okB_kp hp2 (by decide)), trivial⟩ (Nat.le_of_ble_eq_true rfl) rfl dX6_isIn_5 ?_
  refine v_istore (L1 := [(5, vI r4), (0, vO 13), (1, vI x1), (2, vO p2), (3, vI x3), (4, vI x4)]) dX6_isIn_8 (by decide) rfl ?_
  refine v_sub [1, 3, 4, 5, 0] (L1 := [(0, vO 13), (2, vO p2), (3, vI x3), (4, vI x4), (5, vI r4)]) rfl ?_
  rcases lqs_0_some h with ⟨s6, e7, h⟩ | ⟨q9, e7, h⟩
  · refine wl_X6_isIn_10 p2 hp2 rx3 rx4 FU r4 s1 _ e7 r5 ?_
    unfold E_X6_isIn_10
    refine ⟨?_, fun v9 s9 z_ => (by cases z_)⟩
    intro s6' z_
    cases z_
    refine v_iconst dX6_isIn_100 ?_
    cases h
    exact v_zret (Or.inl rfl) dX6_isIn_101
  · cases h
    refine wl_X6_isIn_10 p2 hp2 rx3 rx4 FU r4 s1 _ e7 r5 ?_
    unfold E_X6_isIn_10
    refine ⟨fun _ z_ => (by cases z_), ?_⟩
    intro v9 s9 z_
    cases z_
    exact ⟨rfl, rfl⟩

def E_X6_isInRange_3 (p2 : Nat) (rv : Option vA) (σo : vS) (q : (vS) ⊕ (Int × vS)) : Prop := (∀ (s' : vS), q = .inl s' → VW cX6_isInRange (RX6, rv, σo, (some .boolean), 6, 138, 7, []) (P0 []) s' 63 [] []) ∧ (∀ (v : Int) (s' : vS), q = .inr (v, s') → rv = some (vI v) ∧ σo = s')
def E_X6_isInRange_14 (p2 : Nat) (x3 : Int) (x4 : Int) (x5 : Int) (rv : Option vA) (σo : vS) (q : (vS) ⊕ (Int × vS)) : Prop := (∀ (s' : vS), q = .inl s' → VW cX6_isInRange (RX6, rv, σo, (some .boolean), 6, 138, 7, []) (P0 []) s' 49 [(0, vO 13), (2, vO p2), (3, vI x3), (4, vI x4), (5, vI x5)] []) ∧ (∀ (v : Int) (s' : vS), q = .inr (v, s') → rv = some (vI v) ∧ σo = s')
def l_X6_isInRange_14 (p2 : Nat) : Nat → Int → Int → Int → Int → vS → Option ((vS) ⊕ (Int × vS))
  | 0, _, _, _, _, _ => none
  | n + 1, x3, x4, x5, x6, s =>
    if x6 = (-1) then
      some (.inl s)
    else
      bd (f_X6_isIn x6 p2 x3 x4 s) fun r5 s2 =>
      if r5 = 0 then
        some (.inr (0, s2))
      else
        bd (f_X4_next x6 s2) fun r11 s8 =>
        l_X6_isInRange_14 p2 n x3 x4 x5 r11 s8
theorem wl_X6_isInRange_14 (p2 : Nat) {x3 : Int} {x4 : Int} {x5 : Int} {rv : Option vA} {σo : vS} (hp2 : okB p2 1) (rx3 : rg x3) (rx4 : rg x4) (rx5 : rg x5) : ∀ (n : Nat) (x6 : Int) (s : vS) (q : (vS) ⊕ (Int × vS)), l_X6_isInRange_14 p2 n x3 x4 x5 x6 s = some q → rg x6 → E_X6_isInRange_14 p2 x3 x4 x5 rv σo q → VW cX6_isInRange (RX6, rv, σo, (some .boolean), 6, 138, 7, []) (P0 []) s 14 [(0, vO 13), (2, vO p2), (3, vI x3), (4, vI x4), (5, vI x5), (6, vI x6)] [] := by
  intro n
  induction n with
  | zero => intro x6 s q h; cases h
  | succ n ih =>
    intro x6 s q h rx6 hE
    unfold l_X6_isInRange_14 at h
    refine v_iload dX6_isInRange_14 5 rfl ?_
    refine v_iconst dX6_isInRange_16 ?_
    refine v_icmp_eq (tgt := 49) dX6_isInRange_17 rx6 (rgl rfl) (by decide) (fun c1 => ?_) (fun c1 => ?_)
    · rw [if_pos c1] at h
      cases h
      refine v_sub [0, 1, 2, 3, 4] (L1 := [(0, vO 13), (2, vO p2), (3, vI x3), (4, vI x4), (5, vI x5)]) rfl ?_
      exact hE.1 _ rfl 
    · rw [if_neg c1] at h
      refine v_aload_n dX6_isInRange_20 0 rfl rfl ?_
      refine v_iload dX6_isInRange_21 5 rfl ?_
      refine v_aload_n dX6_isInRange_23 1 rfl rfl ?_
      refine v_iload_n dX6_isInRange_24 2 rfl rfl ?_
      refine v_iload dX6_isInRange_25 3 rfl ?_
      obtain ⟨r5, s2, e3, h⟩ := bd_some h
      have k4 := c_X6_isIn e3 hp2 rx6 rx3 rx4
      have r6 : rg r5 := k4.1.2.2
      refine v_callV (st := []) cf6 oc13 k4 (lw_V q1716 q1718 qs87 q303 q1719) rfl yk_X6_isIn ⟨Nat.le_of_ble_eq_true rfl, Nat.le_of_ble_eq_true rfl⟩ trivial ⟨kc13, (okB_kp hp2 (by decide)), trivial⟩ (Nat.le_of_ble_eq_true rfl) rfl dX6_isInRange_27 ?_
      refine v_if_ne (tgt := 35) dX6_isInRange_30 r6 (by decide) (fun c7 => ?_) (fun c7 => ?_)
      · rw [if_neg c7] at h
        refine v_aload_n dX6_isInRange_35 0 rfl rfl ?_
        refine v_getS (f := 1) (t := 10) cf6 oc13 rfl rfl rfl (by decide) q628 dX6_isInRange_36 ?_
        refine v_iload dX6_isInRange_39 5 rfl ?_
        obtain ⟨r11, s8, e9, h⟩ := bd_some h
        have k10 := c_X4_next e9 rx6
        have r12 : rg r11 := k10.1.2.2
        refine v_callV (st := []) cf4 oc10 k10 (lw_V q1483 q1404 q1405 q301 q1406) rfl yk_X4_next ⟨Nat.le_of_ble_eq_true rfl, Nat.le_of_ble_eq_true rfl⟩ trivial ⟨kc13, (okB_kp hp2 (by decide)), trivial⟩ (Nat.le_of_ble_eq_true rfl) rfl dX6_isInRange_41 ?_
        refine v_istore (L1 := [(6, vI r11), (0, vO 13), (2, vO p2), (3, vI x3), (4, vI x4), (5, vI x5)]) dX6_isInRange_44 (by decide) rfl ?_
        refine v_goto (tgt := 14) dX6_isInRange_46 (by decide) ?_
        refine v_sub [1, 2, 3, 4, 5, 0] (L1 := [(0, vO 13), (2, vO p2), (3, vI x3), (4, vI x4), (5, vI x5), (6, vI r11)]) rfl ?_
        exact ih r11 s8 _ h r12 hE
      · rw [if_pos c7] at h
        refine v_iconst dX6_isInRange_33 ?_
        cases h
        obtain ⟨z1, z2⟩ := hE.2 _ _ rfl
        subst z1
        subst z2
        exact v_zret (Or.inl rfl) dX6_isInRange_34

def l_X6_isInRange_3 (p2 : Nat) : Nat → Int → Int → Int → vS → Option ((vS) ⊕ (Int × vS))
  | 0, _, _, _, _ => none
  | n + 1, x3, x4, x5, s =>
    bd (f_X4_limits x5 s) fun r4 s1 =>
    lqs_0 (l_X6_isInRange_14 p2 FU x3 x4 x5 r4 s1) (fun s6 =>
      bd (f_X4_kind x5 s6) fun r11 s8 =>
      if r11 = 17 then
        bd (f_X6_assignedType x5 s8) fun r17 s14 =>
        l_X6_isInRange_3 p2 n x3 x4 r17 s14
      else
        some (.inl s8))
      (fun q => some (.inr q))
theorem wl_X6_isInRange_3 (p2 : Nat) {x3 : Int} {x4 : Int} {rv : Option vA} {σo : vS} (hp2 : okB p2 1) (rx3 : rg x3) (rx4 : rg x4) : ∀ (n : Nat) (x5 : Int) (s : vS) (q : (vS) ⊕ (Int × vS)), l_X6_isInRange_3 p2 n x3 x4 x5 s = some q → rg x5 → E_X6_isInRange_3 p2 rv σo q → VW cX6_isInRange (RX6, rv, σo, (some .boolean), 6, 138, 7, []) (P0 []) s 3 [(0, vO 13), (2, vO p2), (3, vI x3), (4, vI x4), (5, vI x5)] [] := by
  intro n
  induction n with
  | zero => intro x5 s q h; cases h
  | succ n ih =>
    intro x5 s q h rx5 hE
    unfold l_X6_isInRange_3 at h
    refine v_aload_n dX6_isInRange_3 0 rfl rfl ?_
    refine v_getS (f := 1) (t := 10) cf6 oc13 rfl rfl rfl (by decide) q628 dX6_isInRange_4 ?_
    refine v_iload dX6_isInRange_7 4 rfl ?_
    obtain ⟨r4, s1, e2, h⟩ := bd_some h
    have k3 := c_X4_limits e2 rx5
    have r5 : rg r4 := k3.1.2.2
    refine v_callV (st := []) cf4 oc10 k3 (lw_V q1579 q1396 q1397 q301 q1398) rfl yk_X4_limits ⟨Nat.le_of_ble_eq_true rfl, Nat.le_of_ble_eq_true rfl⟩ trivial ⟨kc13, (okB_kp hp2 (by decide)), trivial⟩ (Nat.le_of_ble_eq_true rfl) rfl dX6_isInRange_9 ?_
    refine v_istore (L1 := [(6, vI r4), (0, vO 13), (2, vO p2), (3, vI x3), (4, vI x4), (5, vI x5)]) dX6_isInRange_12 (by decide) rfl ?_
    refine v_sub [1, 2, 3, 4, 5, 0] (L1 := [(0, vO 13), (2, vO p2), (3, vI x3), (4, vI x4), (5, vI x5), (6, vI r4)]) rfl ?_
    rcases lqs_0_some h with ⟨s6, e7, h⟩ | ⟨q9, e7, h⟩
    · refine wl_X6_isInRange_14 p2 hp2 rx3 rx4 rx5 FU r4 s1 _ e7 r5 ?_
      unfold E_X6_isInRange_14
      refine ⟨?_, fun v9 s9 z_ => (by cases z_)⟩
      intro s6' z_
      cases z_
      refine v_aload_n dX6_isInRange_49 0 rfl rfl ?_
      refine v_getS (f := 1) (t := 10) cf6 oc13 rfl rfl rfl (by decide) q628 dX6_isInRange_50 ?_
      refine v_iload dX6_isInRange_53 4 rfl ?_
      obtain ⟨r11, s8, e9, h⟩ := bd_some h
      have k10 := c_X4_kind e9 rx5
      have r12 : rg r11 := k10.1.2.2
      refine v_callV (st := []) cf4 oc10 k10 (lw_V q1445 q1446 q1447 q301 q1448) rfl yk_X4_kind ⟨Nat.le_of_ble_eq_true rfl, Nat.le_of_ble_eq_true rfl⟩ trivial ⟨kc13, (okB_kp hp2 (by decide)), trivial⟩ (Nat.le_of_ble_eq_true rfl) rfl dX6_isInRange_55 ?_
      refine v_bipush dX6_isInRange_58 rfl ?_
      refine v_icmp_eq (tgt := 65) dX6_isInRange_60 r12 (rgl rfl) (by decide) (fun c13 => ?_) (fun c13 => ?_)
      · rw [if_pos c13] at h
        refine v_aload_n dX6_isInRange_65 0 rfl rfl ?_
        refine v_iload dX6_isInRange_66 4 rfl ?_
        obtain ⟨r17, s14, e15, h⟩ := bd_some h
        have k16 := c_X6_assignedType e15 rx5
        have r18 : rg r17 := k16.1.2.2
        refine v_callV (st := []) cf6 oc13 k16 (lw_V q1571 q1573 qs57 q303 q1574) rfl yk_X6_assignedType ⟨Nat.le_of_ble_eq_true rfl, Nat.le_of_ble_eq_true rfl⟩ trivial ⟨kc13, (okB_kp hp2 (by decide)), trivial⟩ (Nat.le_of_ble_eq_true rfl) rfl dX6_isInRange_68 ?_
        refine v_istore (L1 := [(5, vI r17), (0, vO 13), (2, vO p2), (3, vI x3), (4, vI x4)]) dX6_isInRange_71 (by decide) rfl ?_
        refine v_goto (tgt := 3) dX6_isInRange_73 (by decide) ?_
        refine v_sub [1, 2, 3, 4, 0] (L1 := [(0, vO 13), (2, vO p2), (3, vI x3), (4, vI x4), (5, vI r17)]) rfl ?_
        exact ih r17 s14 _ h r18 hE
      · rw [if_neg c13] at h
        cases h
        refine v_sub [] (L1 := []) rfl ?_
        exact hE.1 _ rfl 
    · cases h
      refine wl_X6_isInRange_14 p2 hp2 rx3 rx4 rx5 FU r4 s1 _ e7 r5 ?_
      unfold E_X6_isInRange_14
      refine ⟨fun _ z_ => (by cases z_), ?_⟩
      intro v9 s9 z_
      cases z_
      exact hE.2 _ _ rfl

def f_X6_isInRange (x1 : Int) (p2 : Nat) (x3 : Int) (x4 : Int) (s : vS) : Option (Int × vS) :=
  lqs_0 (l_X6_isInRange_3 p2 FU x3 x4 x1 s) (fun s1 =>
    some (1, s1))
    (fun q => some q)
theorem yk_X6_isInRange : yOk yX6_isInRange 4 := ⟨by decide, by decide, by decide +kernel⟩
theorem c_X6_isInRange {x1 : Int} {p2 : Nat} {x3 : Int} {x4 : Int} {s : vS} {out : Int × vS} (h : f_X6_isInRange x1 p2 x3 x4 s = some out) (hp2 : okB p2 1) (rx1 : rg x1) (rx3 : rg x3) (rx4 : rg x4) : VC yX6_isInRange cX6_isInRange 7 (some .boolean) 6 138 [vO 13, vI x1, vO p2, vI x3, vI x4] s (some (vI out.1)) out.2 [] := by
  unfold f_X6_isInRange at h
  refine VC.of RX6 (by decide) rfl (Nat.le_of_ble_eq_true rfl) ?_
  show VW cX6_isInRange (RX6, (some (vI out.1)), out.2, (some .boolean), 6, 138, 7, []) (P0 []) s 0 [(0, vO 13), (1, vI x1), (2, vO p2), (3, vI x3), (4, vI x4)] []
  refine v_iload_n dX6_isInRange_0 1 rfl rfl ?_
  refine v_istore (L1 := [(5, vI x1), (0, vO 13), (1, vI x1), (2, vO p2), (3, vI x3), (4, vI x4)]) dX6_isInRange_1 (by decide) rfl ?_
  refine v_sub [1, 3, 4, 5, 0] (L1 := [(0, vO 13), (2, vO p2), (3, vI x3), (4, vI x4), (5, vI x1)]) rfl ?_
  rcases lqs_0_some h with ⟨s1, e2, h⟩ | ⟨q9, e2, h⟩
  · refine wl_X6_isInRange_3 p2 hp2 rx3 rx4 FU x1 s _ e2 rx1 ?_
    unfold E_X6_isInRange_3
    refine ⟨?_, fun v9 s9 z_ => (by cases z_)⟩
    intro s1' z_
    cases z_
    refine v_iconst dX6_isInRange_63 ?_
    cases h
    exact v_zret (Or.inr rfl) dX6_isInRange_64
  · cases h
    refine wl_X6_isInRange_3 p2 hp2 rx3 rx4 FU x1 s _ e2 rx1 ?_
    unfold E_X6_isInRange_3
    refine ⟨fun _ z_ => (by cases z_), ?_⟩
    intro v9 s9 z_
    cases z_
    exact ⟨rfl, rfl⟩

def E_X6_isItem_10 (p2 : Nat) (rv : Option vA) (σo : vS) (q : (vS) ⊕ (Int × vS)) : Prop := (∀ (s' : vS), q = .inl s' → VW cX6_isItem (RX6, rv, σo, (some .boolean), 2, 49, 6, []) (P0 []) s' 60 [] []) ∧ (∀ (v : Int) (s' : vS), q = .inr (v, s') → rv = some (vI v) ∧ σo = s')
def l_X6_isItem_10 (p2 : Nat) : Nat → Int → Int → Int → vS → Option ((vS) ⊕ (Int × vS))
  | 0, _, _, _, _ => none
  | n + 1, x3, x4, x5, s =>
    if x5 = (-1) then
      some (.inl s)
    else
      gd (inb x5 (gN s 34)) <|
      gd (inb x5 (gN s 35)) <|
      bd (f_X2_compare p2 x3 x4 30 (gE s 34 x5) (gE s 35 x5) s) fun r7 s4 =>
      if r7 = 0 then
        some (.inr (1, s4))
      else
        bd (f_X4_next x5 s4) fun r13 s10 =>
        l_X6_isItem_10 p2 n x3 x4 r13 s10
theorem wl_X6_isItem_10 (p2 : Nat) {x3 : Int} {x4 : Int} {rv : Option vA} {σo : vS} (hp2 : okB p2 1) (rx3 : rg x3) (rx4 : rg x4) : ∀ (n : Nat) (x5 : Int) (s : vS) (q : (vS) ⊕ (Int × vS)), l_X6_isItem_10 p2 n x3 x4 x5 s = some q → rg x5 → E_X6_isItem_10 p2 rv σo q → VW cX6_isItem (RX6, rv, σo, (some .boolean), 2, 49, 6, []) (P0 []) s 10 [(0, vO 13), (2, vO p2), (3, vI x3), (4, vI x4), (5, vI x5)] [] := by
  intro n
  induction n with
  | zero => intro x5 s q h; cases h
  | succ n ih =>
    intro x5 s q h rx5 hE
    unfold l_X6_isItem_10 at h
    refine v_iload dX6_isItem_10 4 rfl ?_
    refine v_iconst dX6_isItem_12 ?_
    refine v_icmp_eq (tgt := 60) dX6_isItem_13 rx5 (rgl rfl) (by decide) (fun c1 => ?_) (fun c1 => ?_)
    · rw [if_pos c1] at h
      cases h
      refine v_sub [] (L1 := []) rfl ?_
      exact hE.1 _ rfl 
    · rw [if_neg c1] at h
      refine v_aload_n dX6_isItem_16 1 rfl rfl ?_
      refine v_iload_n dX6_isItem_17 2 rfl rfl ?_
      refine v_iload dX6_isItem_18 3 rfl ?_
      refine v_aload_n dX6_isItem_20 0 rfl rfl ?_
      refine v_getS (f := 9) (t := 30) cf6 oc13 rfl rfl rfl (by decide) q636 dX6_isItem_21 ?_
      refine v_aload_n dX6_isItem_24 0 rfl rfl ?_
      refine v_getS (f := 11) (t := 34) cf6 oc13 rfl rfl rfl (by decide) q638 dX6_isItem_25 ?_
      refine v_iload dX6_isItem_28 4 rfl ?_
      obtain ⟨g2, h⟩ := gd_some h
      refine v_iald oc34 rx5 g2.1 g2.2 dX6_isItem_30 ?_
      refine v_aload_n dX6_isItem_31 0 rfl rfl ?_
      refine v_getS (f := 12) (t := 35) cf6 oc13 rfl rfl rfl (by decide) q639 dX6_isItem_32 ?_
      refine v_iload dX6_isItem_35 4 rfl ?_
      obtain ⟨g3, h⟩ := gd_some h
      refine v_iald oc35 rx5 g3.1 g3.2 dX6_isItem_37 ?_
      obtain ⟨r7, s4, e5, h⟩ := bd_some h
      have k6 := c_X2_compare e5 hp2 (⟨by decide, rfl⟩ : okB 30 1) rx3 rx4 (gE_rg _ _ _) (gE_rg _ _ _)
      have r8 : rg r7 := k6.1.2.2
      refine v_callV (st := []) cf2 (okB_ok hp2) k6 (lw_V q1544 q1470 q1471 q299 q1472) rfl yk_X2_compare ⟨Nat.le_of_ble_eq_true rfl, Nat.le_of_ble_eq_true rfl⟩ trivial ⟨kc13, (okB_kp hp2 (by decide)), trivial⟩ (Nat.le_of_ble_eq_true rfl) rfl dX6_isItem_38 ?_
      refine v_if_ne (tgt := 46) dX6_isItem_41 r8 (by decide) (fun c9 => ?_) (fun c9 => ?_)
      · rw [if_neg c9] at h
        refine v_aload_n dX6_isItem_46 0 rfl rfl ?_
        refine v_getS (f := 1) (t := 10) cf6 oc13 rfl rfl rfl (by decide) q628 dX6_isItem_47 ?_
        refine v_iload dX6_isItem_50 4 rfl ?_
        obtain ⟨r13, s10, e11, h⟩ := bd_some h
        have k12 := c_X4_next e11 rx5
        have r14 : rg r13 := k12.1.2.2
        refine v_callV (st := []) cf4 oc10 k12 (lw_V q1483 q1404 q1405 q301 q1406) rfl yk_X4_next ⟨Nat.le_of_ble_eq_true rfl, Nat.le_of_ble_eq_true rfl⟩ trivial ⟨kc13, (okB_kp hp2 (by decide)), trivial⟩ (Nat.le_of_ble_eq_true rfl) rfl dX6_isItem_52 ?_
        refine v_istore (L1 := [(5, vI r13), (0, vO 13), (2, vO p2), (3, vI x3), (4, vI x4)]) dX6_isItem_55 (by decide) rfl ?_
        refine v_goto (tgt := 10) dX6_isItem_57 (by decide) ?_
        refine v_sub [1, 2, 3, 4, 0] (L1 := [(0, vO 13), (2, vO p2), (3, vI x3), (4, vI x4), (5, vI r13)]) rfl ?_
        exact ih r13 s10 _ h r14 hE
      · rw [if_pos c9] at h
        refine v_iconst dX6_isItem_44 ?_
        cases h
        obtain ⟨z1, z2⟩ := hE.2 _ _ rfl
        subst z1
        subst z2
        exact v_zret (Or.inr rfl) dX6_isItem_45

def f_X6_isItem (x1 : Int) (p2 : Nat) (x3 : Int) (x4 : Int) (s : vS) : Option (Int × vS) :=
  bd (f_X4_parts x1 s) fun r4 s1 =>
  lqs_0 (l_X6_isItem_10 p2 FU x3 x4 r4 s1) (fun s6 =>
    some (0, s6))
    (fun q => some q)
theorem yk_X6_isItem : yOk yX6_isItem 4 := ⟨by decide, by decide, by decide +kernel⟩
theorem c_X6_isItem {x1 : Int} {p2 : Nat} {x3 : Int} {x4 : Int} {s : vS} {out : Int × vS} (h : f_X6_isItem x1 p2 x3 x4 s = some out) (hp2 : okB p2 1) (rx1 : rg x1) (rx3 : rg x3) (rx4 : rg x4) : VC yX6_isItem cX6_isItem 6 (some .boolean) 2 49 [vO 13, vI x1, vO p2, vI x3, vI x4] s (some (vI out.1)) out.2 [] := by
  unfold f_X6_isItem at h
  refine VC.of RX6 (by decide) rfl (Nat.le_of_ble_eq_true rfl) ?_
  show VW cX6_isItem (RX6, (some (vI out.1)), out.2, (some .boolean), 2, 49, 6, []) (P0 []) s 0 [(0, vO 13), (1, vI x1), (2, vO p2), (3, vI x3), (4, vI x4)] []
  refine v_aload_n dX6_isItem_0 0 rfl rfl ?_
  refine v_getS (f := 1) (t := 10) cf6 oc13 rfl rfl rfl (by decide) q628 dX6_isItem_1 ?_
  refine v_iload_n dX6_isItem_4 1 rfl rfl ?_
  obtain ⟨r4, s1, e2, h⟩ := bd_some h
  have k3 := c_X4_parts e2 rx1
  have r5 : rg r4 := k3.1.2.2
  refine v_callV (st := []) cf4 oc10 k3 (lw_V q1492 q1493 q1494 q301 q1495) rfl yk_X4_parts ⟨Nat.le_of_ble_eq_true rfl, Nat.le_of_ble_eq_true rfl⟩ trivial ⟨kc13, (okB_kp hp2 (by decide)), trivial⟩ (Nat.le_of_ble_eq_true rfl) rfl dX6_isItem_5 ?_
  refine v_istore (L1 := [(5, vI r4), (0, vO 13), (1, vI x1), (2, vO p2), (3, vI x3), (4, vI x4)]) dX6_isItem_8 (by decide) rfl ?_
  refine v_sub [1, 3, 4, 5, 0] (L1 := [(0, vO 13), (2, vO p2), (3, vI x3), (4, vI x4), (5, vI r4)]) rfl ?_
  rcases lqs_0_some h with ⟨s6, e7, h⟩ | ⟨q9, e7, h⟩
  · refine wl_X6_isItem_10 p2 hp2 rx3 rx4 FU r4 s1 _ e7 r5 ?_
    unfold E_X6_isItem_10
    refine ⟨?_, fun v9 s9 z_ => (by cases z_)⟩
    intro s6' z_
    cases z_
    refine v_iconst dX6_isItem_60 ?_
    cases h
    exact v_zret (Or.inl rfl) dX6_isItem_61
  · cases h
    refine wl_X6_isItem_10 p2 hp2 rx3 rx4 FU r4 s1 _ e7 r5 ?_
    unfold E_X6_isItem_10
    refine ⟨fun _ z_ => (by cases z_), ?_⟩
    intro v9 s9 z_
    cases z_
    exact ⟨rfl, rfl⟩

def f_X6_hasItems (x1 : Int) (s : vS) : Option (Int × vS) :=
  bd (f_X4_parts x1 s) fun r4 s1 =>
  if r4 = (-1) then
    some (0, s1)
  else
    some (1, s1)
theorem yk_X6_hasItems : yOk yX6_hasItems 1 := ⟨by decide, by decide, by decide +kernel⟩
theorem c_X6_hasItems {x1 : Int} {s : vS} {out : Int × vS} (h : f_X6_hasItems x1 s = some out)  (rx1 : rg x1) : VC yX6_hasItems cX6_hasItems 2 (some .boolean) 2 43 [vO 13, vI x1] s (some (vI out.1)) out.2 [] := by
  unfold f_X6_hasItems at h
  refine VC.of RX6 (by decide) rfl (Nat.le_of_ble_eq_true rfl) ?_
  show VW cX6_hasItems (RX6, (some (vI out.1)), out.2, (some .boolean), 2, 43, 2, []) (P0 []) s 0 [(0, vO 13), (1, vI x1)] []
  refine v_aload_n dX6_hasItems_0 0 rfl rfl ?_
  refine v_getS (f := 1) (t := 10) cf6 oc13 rfl rfl rfl (by decide) q628 dX6_hasItems_1 ?_
  refine v_iload_n dX6_hasItems_4 1 rfl rfl ?_
  obtain ⟨r4, s1, e2, h⟩ := bd_some h
  have k3 := c_X4_parts e2 rx1
  have r5 : rg r4 := k3.1.2.2
  refine v_callV (st := []) cf4 oc10 k3 (lw_V q1492 q1493 q1494 q301 q1495) rfl yk_X4_parts ⟨Nat.le_of_ble_eq_true rfl, Nat.le_of_ble_eq_true rfl⟩ trivial ⟨kc13, trivial⟩ (Nat.le_of_ble_eq_true rfl) rfl dX6_hasItems_5 ?_
  refine v_iconst dX6_hasItems_8 ?_
  refine v_icmp_eq (tgt := 16) dX6_hasItems_9 r5 (rgl rfl) (by decide) (fun c6 => ?_) (fun c6 => ?_)
  · rw [if_pos c6] at h
    refine v_iconst dX6_hasItems_16 ?_
    cases h
    exact v_zret (Or.inl rfl) dX6_hasItems_17
  · rw [if_neg c6] at h
    refine v_iconst dX6_hasItems_12 ?_
    refine v_goto (tgt := 17) dX6_hasItems_13 (by decide) ?_
    cases h
    exact v_zret (Or.inr rfl) dX6_hasItems_17

def f_X11_bits (p0 : Nat) (x1 : Int) (x2 : Int) (s : vS) : Option (Int × vS) :=
  bd (f_X2_at p0 x1 s) fun r4 s1 =>
  some (w32 ((w32 (8 * (w32 ((w32 (x2 - x1)) - 1)))) - r4), s1)
theorem yk_X11_bits : yOk yX11_bits 3 := ⟨by decide, by decide, by decide +kernel⟩
theorem c_X11_bits {p0 : Nat} {x1 : Int} {x2 : Int} {s : vS} {out : Int × vS} (h : f_X11_bits p0 x1 x2 s = some out) (hp0 : okB p0 1) (rx1 : rg x1) (rx2 : rg x2) : VC yX11_bits cX11_bits 3 (some .int) 1 21 [vO p0, vI x1, vI x2] s (some (vI out.1)) out.2 [] := by
  unfold f_X11_bits at h
  refine VC.of RX11 (by decide) rfl (Nat.le_of_ble_eq_true rfl) ?_
  show VW cX11_bits (RX11, (some (vI out.1)), out.2, (some .int), 1, 21, 3, []) (P0 []) s 0 [(0, vO p0), (1, vI x1), (2, vI x2)] []
  refine v_bipush dX11_bits_0 rfl ?_
  refine v_iload_n dX11_bits_2 2 rfl rfl ?_
  refine v_iload_n dX11_bits_3 1 rfl rfl ?_
  refine v_isub dX11_bits_4 ?_
  refine v_iconst dX11_bits_5 ?_
  refine v_isub dX11_bits_6 ?_
  refine v_imul dX11_bits_7 ?_
  refine v_aload_n dX11_bits_8 0 rfl rfl ?_
  refine v_iload_n dX11_bits_9 1 rfl rfl ?_
  obtain ⟨r4, s1, e2, h⟩ := bd_some h
  have k3 := c_X2_at e2 hp0 rx1
  have r5 : rg r4 := k3.1.2.2
  refine v_callV (st := [vI (w32 (8 * (w32 ((w32 (x2 - x1)) - 1))))]) cf2 (okB_ok hp0) k3 (lw_V q1747 q1072 q1073 q299 q1074) rfl yk_X2_at ⟨Nat.le_of_ble_eq_true rfl, Nat.le_of_ble_eq_true rfl⟩ trivial ⟨(okB_kp hp0 (by decide)), trivial⟩ (Nat.le_of_ble_eq_true rfl) rfl dX11_bits_10 ?_
  refine v_isub dX11_bits_13 ?_
  cases h
  exact v_iret (w32_rg _) dX11_bits_14

def E_X6_sizeOf_35 (rv : Option vA) (σo : vS) (q : (Int × vS) ⊕ (Int × vS)) : Prop := (∀ (x3' : Int) (s' : vS), q = .inl (x3', s') → rg x3' → VW cX6_sizeOf (RX6, rv, σo, (some .int), 1, 22, 5, []) (P0 []) s' 78 [(3, vI x3')] []) ∧ (∀ (v : Int) (s' : vS), q = .inr (v, s') → rv = some (vI v) ∧ σo = s')
def l_X6_sizeOf_35 : Nat → Int → Int → Int → vS → Option ((Int × vS) ⊕ (Int × vS))
  | 0, _, _, _, _ => none
  | n + 1, x1, x3, x4, s =>
    gd (inb x1 (gN s 35)) <|
    if (gE s 35 x1) ≤ x4 then
      some (.inl (x3, s))
    else
      if x3 ≤ 8388607 then
        bd (f_X2_at 30 x4 s) fun r7 s4 =>
        vl (or32 (shl32 x3 8) r7) fun y9 =>
        vl (w32 (x4 + 1)) fun y12 =>
        l_X6_sizeOf_35 n x1 y9 y12 s4
      else
        some (.inr (2147483647, s))
theorem wl_X6_sizeOf_35 {x1 : Int} {rv : Option vA} {σo : vS}  (rx1 : rg x1) : ∀ (n : Nat) (x3 : Int) (x4 : Int) (s : vS) (q : (Int × vS) ⊕ (Int × vS)), l_X6_sizeOf_35 n x1 x3 x4 s = some q → rg x3 → rg x4 → E_X6_sizeOf_35 rv σo q → VW cX6_sizeOf (RX6, rv, σo, (some .int), 1, 22, 5, []) (P0 []) s 35 [(0, vO 13), (1, vI x1), (3, vI x3), (4, vI x4)] [] := by
  intro n
  induction n with
  | zero => intro x3 x4 s q h; cases h
  | succ n ih =>
    intro x3 x4 s q h rx3 rx4 hE
    unfold l_X6_sizeOf_35 at h
    refine v_iload dX6_sizeOf_35 3 rfl ?_
    refine v_aload_n dX6_sizeOf_37 0 rfl rfl ?_
    refine v_getS (f := 12) (t := 35) cf6 oc13 rfl rfl rfl (by decide) q639 dX6_sizeOf_38 ?_
    refine v_iload_n dX6_sizeOf_41 1 rfl rfl ?_
    obtain ⟨g1, h⟩ := gd_some h
    refine v_iald oc35 rx1 g1.1 g1.2 dX6_sizeOf_42 ?_
    refine v_icmp_ge (tgt := 78) dX6_sizeOf_43 rx4 (gE_rg _ _ _) (by decide) (fun c2 => ?_) (fun c2 => ?_)
    · rw [if_pos c2] at h
      cases h
      refine v_sub [2] (L1 := [(3, vI x3)]) rfl ?_
      exact hE.1 _ _ rfl rx3
    · rw [if_neg c2] at h
      refine v_iload_n dX6_sizeOf_46 2 rfl rfl ?_
      refine v_ldcw (n := 8388607) dX6_sizeOf_47 q1761 rfl ?_
      refine v_icmp_le (tgt := 57) dX6_sizeOf_50 rx3 (rgl rfl) (by decide) (fun c3 => ?_) (fun c3 => ?_)
      · rw [if_pos c3] at h
        refine v_iload_n dX6_sizeOf_57 2 rfl rfl ?_
        refine v_bipush dX6_sizeOf_58 rfl ?_
        refine v_ishl dX6_sizeOf_60 ?_
        refine v_aload_n dX6_sizeOf_61 0 rfl rfl ?_
        refine v_getS (f := 9) (t := 30) cf6 oc13 rfl rfl rfl (by decide) q636 dX6_sizeOf_62 ?_
        refine v_iload dX6_sizeOf_65 3 rfl ?_
        obtain ⟨r7, s4, e5, h⟩ := bd_some h
        have k6 := c_X2_at e5 (⟨by decide, rfl⟩ : okB 30 1) rx4
        have r8 : rg r7 := k6.1.2.2
        refine v_callV (st := [vI (shl32 x3 8)]) cf2 oc30 k6 (lw_V q1549 q1072 q1073 q299 q1074) rfl yk_X2_at ⟨Nat.le_of_ble_eq_true rfl, Nat.le_of_ble_eq_true rfl⟩ trivial ⟨kc13, trivial⟩ (Nat.le_of_ble_eq_true rfl) rfl dX6_sizeOf_67 ?_
        refine v_ior dX6_sizeOf_70 ?_
        obtain ⟨y9, e10, h⟩ := vl_some h
        rw [← e10]
        have r11 : rg y9 := by rw [e10]; exact or32_rg _ _
        refine v_istore_n (L1 := [(3, vI y9), (0, vO 13), (1, vI x1), (4, vI x4)]) dX6_sizeOf_71 rfl (by decide) rfl ?_
        obtain ⟨y12, e13, h⟩ := vl_some h
        refine v_iinc (L1 := [(4, vI (w32 (x4 + 1))), (3, vI y9), (0, vO 13), (1, vI x1)]) dX6_sizeOf_72 3 rfl (by decide) rfl ?_
        rw [← e13]
        have r14 : rg y12 := by rw [e13]; exact w32_rg _
        refine v_goto (tgt := 35) dX6_sizeOf_75 (by decide) ?_
        refine v_sub [2, 3, 1, 0] (L1 := [(0, vO 13), (1, vI x1), (3, vI y9), (4, vI y12)]) rfl ?_
        exact ih y9 y12 s4 _ h r11 r14 hE
      · rw [if_neg c3] at h
        refine v_ldcw (n := 2147483647) dX6_sizeOf_53 q1760 rfl ?_
        cases h
        obtain ⟨z1, z2⟩ := hE.2 _ _ rfl
        subst z1
        subst z2
        exact v_iret (rgl rfl) dX6_sizeOf_56

def f_X6_sizeOf (x1 : Int) (s : vS) : Option (Int × vS) :=
  bd (f_X4_at x1 5 s) fun r4 s1 =>
  if r4 = 0 then
    some (0, s1)
  else
    if r4 = 1 then
      some (2147483647, s1)
    else
      gd (inb x1 (gN s1 34)) <|
      vl (gE s1 34 x1) fun y9 =>
      lqs_1 (l_X6_sizeOf_35 FU x1 0 y9 s1) (fun y12 s13 =>
        some (y12, s13))
        (fun q => some q)
theorem yk_X6_sizeOf : yOk yX6_sizeOf 1 := ⟨by decide, by decide, by decide +kernel⟩
theorem c_X6_sizeOf {x1 : Int} {s : vS} {out : Int × vS} (h : f_X6_sizeOf x1 s = some out)  (rx1 : rg x1) : VC yX6_sizeOf cX6_sizeOf 5 (some .int) 1 22 [vO 13, vI x1] s (some (vI out.1)) out.2 [] := by
  unfold f_X6_sizeOf at h
  refine VC.of RX6 (by decide) rfl (Nat.le_of_ble_eq_true rfl) ?_
  show VW cX6_sizeOf (RX6, (some (vI out.1)), out.2, (some .int), 1, 22, 5, []) (P0 []) s 0 [(0, vO 13), (1, vI x1)] []
  refine v_aload_n dX6_sizeOf_0 0 rfl rfl ?_
  refine v_getS (f := 1) (t := 10) cf6 oc13 rfl rfl rfl (by decide) q628 dX6_sizeOf_1 ?_
  refine v_iload_n dX6_sizeOf_4 1 rfl rfl ?_
  refine v_iconst dX6_sizeOf_5 ?_
  obtain ⟨r4, s1, e2, h⟩ := bd_some h
  have k3 := c_X4_at e2 rx1 (rgl rfl)
  have r5 : rg r4 := k3.1.2.2
  refine v_callV (st := []) cf4 oc10 k3 (lw_V q1500 q1400 q1401 q301 q1402) rfl yk_X4_at ⟨Nat.le_of_ble_eq_true rfl, Nat.le_of_ble_eq_true rfl⟩ trivial ⟨kc13, trivial⟩ (Nat.le_of_ble_eq_true rfl) rfl dX6_sizeOf_6 ?_
  refine v_istore_n (L1 := [(2, vI r4), (0, vO 13), (1, vI x1)]) dX6_sizeOf_9 rfl (by decide) rfl ?_
  refine v_iload_n dX6_sizeOf_10 0 rfl rfl ?_
  refine v_if_ne (tgt := 16) dX6_sizeOf_11 r5 (by decide) (fun c6 => ?_) (fun c6 => ?_)
  · rw [if_neg c6] at h
    refine v_iload_n dX6_sizeOf_16 0 rfl rfl ?_
    refine v_iconst dX6_sizeOf_17 ?_
    refine v_icmp_ne (tgt := 25) dX6_sizeOf_18 r5 (rgl rfl) (by decide) (fun c7 => ?_) (fun c7 => ?_)
    · rw [if_neg c7] at h
      refine v_iconst dX6_sizeOf_25 ?_
      refine v_istore_n (L1 := [(3, vI 0), (2, vI r4), (0, vO 13), (1, vI x1)]) dX6_sizeOf_26 rfl (by decide) rfl ?_
      refine v_aload_n dX6_sizeOf_27 2 rfl rfl ?_
      refine v_getS (f := 11) (t := 34) cf6 oc13 rfl rfl rfl (by decide) q638 dX6_sizeOf_28 ?_
      refine v_iload_n dX6_sizeOf_31 3 rfl rfl ?_
      obtain ⟨g8, h⟩ := gd_some h
      refine v_iald oc34 rx1 g8.1 g8.2 dX6_sizeOf_32 ?_
      obtain ⟨y9, e10, h⟩ := vl_some h
      rw [← e10]
      have r11 : rg y9 := by rw [e10]; exact gE_rg _ _ _
      refine v_istore (L1 := [(4, vI y9), (3, vI 0), (2, vI r4), (0, vO 13), (1, vI x1)]) dX6_sizeOf_33 (by decide) rfl ?_
      refine v_sub [3, 4, 1, 0] (L1 := [(0, vO 13), (1, vI x1), (3, vI 0), (4, vI y9)]) rfl ?_
      rcases lqs_1_some h with ⟨y12, s13, e14, h⟩ | ⟨q9, e14, h⟩
      · refine wl_X6_sizeOf_35 rx1 FU 0 y9 s1 _ e14 (rgl rfl) r11 ?_
        unfold E_X6_sizeOf_35
        refine ⟨?_, fun v9 s9 z_ => (by cases z_)⟩
        intro y12' s13' z_ r15
        cases z_
        refine v_iload_n dX6_sizeOf_78 0 rfl rfl ?_
        cases h
        exact v_iret r15 dX6_sizeOf_79
      · cases h
        refine wl_X6_sizeOf_35 rx1 FU 0 y9 s1 _ e14 (rgl rfl) r11 ?_
        unfold E_X6_sizeOf_35
        refine ⟨fun _ _ z_ => (by cases z_), ?_⟩
        intro v9 s9 z_
        cases z_
        exact ⟨rfl, rfl⟩
    · rw [if_pos c7] at h
      refine v_ldcw (n := 2147483647) dX6_sizeOf_21 q1760 rfl ?_
      cases h
      exact v_iret (rgl rfl) dX6_sizeOf_24
  · rw [if_pos c6] at h
    refine v_iconst dX6_sizeOf_14 ?_
    cases h
    exact v_iret (rgl rfl) dX6_sizeOf_15

def E_X6_leastSize_12 (rv : Option vA) (σo : vS) (q : Int × vS) : Prop := ∀ (x3' : Int) (s' : vS), q = (x3', s') → rg x3' → VW cX6_leastSize (RX6, rv, σo, (some .int), 2, 46, 8, []) (P0 []) s' 109 [(3, vI x3')] []
def j_X6_leastSize_95 (rec : Int → Int → Int → vS → Option (Int × vS)) (x2 : Int) (x3 : Int) (x4 : Int) (s : vS) : Option (Int × vS) :=
  bd (f_X4_next x4 s) fun r4 s1 =>
  rec x2 x3 r4 s1
theorem wj_X6_leastSize_95 {x2 : Int} {x3 : Int} {x4 : Int} {s : vS} {rv : Option vA} {σo : vS} {rec : Int → Int → Int → vS → Option (Int × vS)} {q : Int × vS} (h : j_X6_leastSize_95 rec x2 x3 x4 s = some q)  (rx2 : rg x2) (rx3 : rg x3) (rx4 : rg x4) (hrec : ∀ (y3 : Int) (y4 : Int) (s : vS) (q : Int × vS), rec x2 y3 y4 s = some q → rg y3 → rg y4 → E_X6_leastSize_12 rv σo q → VW cX6_leastSize (RX6, rv, σo, (some .int), 2, 46, 8, []) (P0 []) s 12 [(0, vO 13), (2, vI x2), (3, vI y3), (4, vI y4)] []) (hE : E_X6_leastSize_12 rv σo q) : VW cX6_leastSize (RX6, rv, σo, (some .int), 2, 46, 8, []) (P0 []) s 95 [(0, vO 13), (2, vI x2), (3, vI x3), (4, vI x4)] [] := by
  unfold j_X6_leastSize_95 at h
  refine v_aload_n dX6_leastSize_95 0 rfl rfl ?_
  refine v_getS (f := 1) (t := 10) cf6 oc13 rfl rfl rfl (by decide) q628 dX6_leastSize_96 ?_
  refine v_iload dX6_leastSize_99 3 rfl ?_
  obtain ⟨r4, s1, e2, h⟩ := bd_some h
  have k3 := c_X4_next e2 rx4
  have r5 : rg r4 := k3.1.2.2
  refine v_callV (st := []) cf4 oc10 k3 (lw_V q1483 q1404 q1405 q301 q1406) rfl yk_X4_next ⟨Nat.le_of_ble_eq_true rfl, Nat.le_of_ble_eq_true rfl⟩ trivial ⟨kc13, trivial⟩ (Nat.le_of_ble_eq_true rfl) rfl dX6_leastSize_101 ?_
  refine v_istore (L1 := [(4, vI r4), (0, vO 13), (2, vI x2), (3, vI x3)]) dX6_leastSize_104 (by decide) rfl ?_
  refine v_goto (tgt := 12) dX6_leastSize_106 (by decide) ?_
  refine v_sub [1, 2, 3, 0] (L1 := [(0, vO 13), (2, vI x2), (3, vI x3), (4, vI r4)]) rfl ?_
  exact hrec x3 r4 s1 _ h rx3 r5 hE

def j_X6_leastSize_56 (rec : Int → Int → Int → vS → Option (Int × vS)) (x2 : Int) (x3 : Int) (x4 : Int) (x5 : Int) (z0 : Int) (s : vS) : Option (Int × vS) :=
  bd (f_X6_sizeOf x5 s) fun r4 s1 =>
  vl (max x2 r4) fun y6 =>
  bd (f_X6_sizeOf z0 s1) fun r12 s9 =>
  if r12 < y6 then
    j_X6_leastSize_95 rec x2 x3 x4 s9
  else
    if x3 = (-1) then
      j_X6_leastSize_95 rec x2 y6 x4 s9
    else
      if x3 ≤ y6 then
        j_X6_leastSize_95 rec x2 x3 x4 s9
      else
        j_X6_leastSize_95 rec x2 y6 x4 s9
theorem wj_X6_leastSize_56 {x2 : Int} {x3 : Int} {x4 : Int} {x5 : Int} {z0 : Int} {s : vS} {rv : Option vA} {σo : vS} {rec : Int → Int → Int → vS → Option (Int × vS)} {q : Int × vS} (h : j_X6_leastSize_56 rec x2 x3 x4 x5 z0 s = some q)  (rx2 : rg x2) (rx3 : rg x3) (rx4 : rg x4) (rx5 : rg x5) (rz0 : rg z0) (hrec : ∀ (y3 : Int) (y4 : Int) (s : vS) (q : Int × vS), rec x2 y3 y4 s = some q → rg y3 → rg y4 → E_X6_leastSize_12 rv σo q → VW cX6_leastSize (RX6, rv, σo, (some .int), 2, 46, 8, []) (P0 []) s 12 [(0, vO 13), (2, vI x2), (3, vI y3), (4, vI y4)] []) (hE : E_X6_leastSize_12 rv σo q) : VW cX6_leastSize (RX6, rv, σo, (some .int), 2, 46, 8, []) (P0 []) s 56 [(0, vO 13), (2, vI x2), (3, vI x3), (4, vI x4), (5, vI x5)] [vI z0] := by
  unfold j_X6_leastSize_56 at h
  refine v_istore (L1 := [(6, vI z0), (0, vO 13), (2, vI x2), (3, vI x3), (4, vI x4), (5, vI x5)]) dX6_leastSize_56 (by decide) rfl ?_
  refine v_iload_n dX6_leastSize_58 2 rfl rfl ?_
  refine v_aload_n dX6_leastSize_59 1 rfl rfl ?_
  refine v_iload dX6_leastSize_60 5 rfl ?_
  obtain ⟨r4, s1, e2, h⟩ := bd_some h
  have k3 := c_X6_sizeOf e2 rx5
  have r5 : rg r4 := k3.1.2.2
  refine v_callV (st := [vI x2]) cf6 oc13 k3 (lw_V q1756 q1758 qs92 q303 q1759) rfl yk_X6_sizeOf ⟨Nat.le_of_ble_eq_true rfl, Nat.le_of_ble_eq_true rfl⟩ trivial ⟨kc13, trivial⟩ (Nat.le_of_ble_eq_true rfl) rfl dX6_leastSize_62 ?_
  refine v_max rx2 r5 (Nat.le_of_ble_eq_true rfl) (Nat.le_of_ble_eq_true rfl) q1434 dX6_leastSize_65 ?_
  obtain ⟨y6, e7, h⟩ := vl_some h
  rw [← e7]
  have r8 : rg y6 := by rw [e7]; exact max_rg rx2 r5
  refine v_istore (L1 := [(7, vI y6), (6, vI z0), (0, vO 13), (2, vI x2), (3, vI x3), (4, vI x4), (5, vI x5)]) dX6_leastSize_68 (by decide) rfl ?_
  refine v_iload dX6_leastSize_70 0 rfl ?_
  refine v_aload_n dX6_leastSize_72 2 rfl rfl ?_
  refine v_iload dX6_leastSize_73 1 rfl ?_
  obtain ⟨r12, s9, e10, h⟩ := bd_some h
  have k11 := c_X6_sizeOf e10 rz0
  have r13 : rg r12 := k11.1.2.2
  refine v_callV (st := [vI y6]) cf6 oc13 k11 (lw_V q1756 q1758 qs92 q303 q1759) rfl yk_X6_sizeOf ⟨Nat.le_of_ble_eq_true rfl, Nat.le_of_ble_eq_true rfl⟩ trivial ⟨kc13, trivial⟩ (Nat.le_of_ble_eq_true rfl) rfl dX6_leastSize_75 ?_
  refine v_icmp_gt (tgt := 95) dX6_leastSize_78 r8 r13 (by decide) (fun c14 => ?_) (fun c14 => ?_)
  · rw [if_pos c14] at h
    refine v_sub [2, 3, 4, 5] (L1 := [(0, vO 13), (2, vI x2), (3, vI x3), (4, vI x4)]) rfl ?_
    exact wj_X6_leastSize_95 h rx2 rx3 rx4 hrec hE
  · rw [if_neg c14] at h
    refine v_iload_n dX6_leastSize_81 4 rfl rfl ?_
    refine v_iconst dX6_leastSize_82 ?_
    refine v_icmp_eq (tgt := 92) dX6_leastSize_83 rx3 (rgl rfl) (by decide) (fun c15 => ?_) (fun c15 => ?_)
    · rw [if_pos c15] at h
      refine v_iload dX6_leastSize_92 0 rfl ?_
      refine v_istore_n (L1 := [(3, vI y6), (7, vI y6), (6, vI z0), (0, vO 13), (2, vI x2), (4, vI x4), (5, vI x5)]) dX6_leastSize_94 rfl (by decide) rfl ?_
      refine v_sub [3, 4, 0, 5] (L1 := [(0, vO 13), (2, vI x2), (3, vI y6), (4, vI x4)]) rfl ?_
      exact wj_X6_leastSize_95 h rx2 r8 rx4 hrec hE
    · rw [if_neg c15] at h
      refine v_iload dX6_leastSize_86 0 rfl ?_
      refine v_iload_n dX6_leastSize_88 4 rfl rfl ?_
      refine v_icmp_ge (tgt := 95) dX6_leastSize_89 r8 rx3 (by decide) (fun c16 => ?_) (fun c16 => ?_)
      · rw [if_pos c16] at h
        refine v_sub [2, 3, 4, 5] (L1 := [(0, vO 13), (2, vI x2), (3, vI x3), (4, vI x4)]) rfl ?_
        exact wj_X6_leastSize_95 h rx2 rx3 rx4 hrec hE
      · rw [if_neg c16] at h
        refine v_iload dX6_leastSize_92 0 rfl ?_
        refine v_istore_n (L1 := [(3, vI y6), (7, vI y6), (6, vI z0), (0, vO 13), (2, vI x2), (4, vI x4), (5, vI x5)]) dX6_leastSize_94 rfl (by decide) rfl ?_
        refine v_sub [3, 4, 0, 5] (L1 := [(0, vO 13), (2, vI x2), (3, vI y6), (4, vI x4)]) rfl ?_
        exact wj_X6_leastSize_95 h rx2 r8 rx4 hrec hE

def l_X6_leastSize_12 : Nat → Int → Int → Int → vS → Option (Int × vS)
  | 0, _, _, _, _ => none
  | n + 1, x2, x3, x4, s =>
    if x4 = (-1) then
      some (x3, s)
    else
      bd (f_X4_parts x4 s) fun r5 s2 =>
      bd (f_X4_next r5 s2) fun r10 s7 =>
      if r10 = (-1) then
        j_X6_leastSize_56 (l_X6_leastSize_12 n) x2 x3 x4 r5 r5 s7
      else
        bd (f_X4_next r5 s7) fun r16 s13 =>
        j_X6_leastSize_56 (l_X6_leastSize_12 n) x2 x3 x4 r5 r16 s13
theorem wl_X6_leastSize_12 {x2 : Int} {rv : Option vA} {σo : vS}  (rx2 : rg x2) : ∀ (n : Nat) (x3 : Int) (x4 : Int) (s : vS) (q : Int × vS), l_X6_leastSize_12 n x2 x3 x4 s = some q → rg x3 → rg x4 → E_X6_leastSize_12 rv σo q → VW cX6_leastSize (RX6, rv, σo, (some .int), 2, 46, 8, []) (P0 []) s 12 [(0, vO 13), (2, vI x2), (3, vI x3), (4, vI x4)] [] := by
  intro n
  induction n with
  | zero => intro x3 x4 s q h; cases h
  | succ n ih =>
    intro x3 x4 s q h rx3 rx4 hE
    unfold l_X6_leastSize_12 at h
    refine v_iload dX6_leastSize_12 3 rfl ?_
    refine v_iconst dX6_leastSize_14 ?_
    refine v_icmp_eq (tgt := 109) dX6_leastSize_15 rx4 (rgl rfl) (by decide) (fun c1 => ?_) (fun c1 => ?_)
    · rw [if_pos c1] at h
      cases h
      refine v_sub [2] (L1 := [(3, vI x3)]) rfl ?_
      exact hE _ _ rfl rx3
    · rw [if_neg c1] at h
      refine v_aload_n dX6_leastSize_18 0 rfl rfl ?_
      refine v_getS (f := 1) (t := 10) cf6 oc13 rfl rfl rfl (by decide) q628 dX6_leastSize_19 ?_
      refine v_iload dX6_leastSize_22 3 rfl ?_
      obtain ⟨r5, s2, e3, h⟩ := bd_some h
      have k4 := c_X4_parts e3 rx4
      have r6 : rg r5 := k4.1.2.2
      refine v_callV (st := []) cf4 oc10 k4 (lw_V q1492 q1493 q1494 q301 q1495) rfl yk_X4_parts ⟨Nat.le_of_ble_eq_true rfl, Nat.le_of_ble_eq_true rfl⟩ trivial ⟨kc13, trivial⟩ (Nat.le_of_ble_eq_true rfl) rfl dX6_leastSize_24 ?_
      refine v_istore (L1 := [(5, vI r5), (0, vO 13), (2, vI x2), (3, vI x3), (4, vI x4)]) dX6_leastSize_27 (by decide) rfl ?_
      refine v_aload_n dX6_leastSize_29 1 rfl rfl ?_
      refine v_getS (f := 1) (t := 10) cf6 oc13 rfl rfl rfl (by decide) q628 dX6_leastSize_30 ?_
      refine v_iload dX6_leastSize_33 0 rfl ?_
      obtain ⟨r10, s7, e8, h⟩ := bd_some h
      have k9 := c_X4_next e8 r6
      have r11 : rg r10 := k9.1.2.2
      refine v_callV (st := []) cf4 oc10 k9 (lw_V q1483 q1404 q1405 q301 q1406) rfl yk_X4_next ⟨Nat.le_of_ble_eq_true rfl, Nat.le_of_ble_eq_true rfl⟩ trivial ⟨kc13, trivial⟩ (Nat.le_of_ble_eq_true rfl) rfl dX6_leastSize_35 ?_
      refine v_iconst dX6_leastSize_38 ?_
      refine v_icmp_ne (tgt := 47) dX6_leastSize_39 r11 (rgl rfl) (by decide) (fun c12 => ?_) (fun c12 => ?_)
      · rw [if_neg c12] at h
        refine v_aload_n dX6_leastSize_47 1 rfl rfl ?_
        refine v_getS (f := 1) (t := 10) cf6 oc13 rfl rfl rfl (by decide) q628 dX6_leastSize_48 ?_
        refine v_iload dX6_leastSize_51 0 rfl ?_
        obtain ⟨r16, s13, e14, h⟩ := bd_some h
        have k15 := c_X4_next e14 r6
        have r17 : rg r16 := k15.1.2.2
        refine v_callV (st := []) cf4 oc10 k15 (lw_V q1483 q1404 q1405 q301 q1406) rfl yk_X4_next ⟨Nat.le_of_ble_eq_true rfl, Nat.le_of_ble_eq_true rfl⟩ trivial ⟨kc13, trivial⟩ (Nat.le_of_ble_eq_true rfl) rfl dX6_leastSize_53 ?_
        refine v_sub [1, 2, 3, 4, 0] (L1 := [(0, vO 13), (2, vI x2), (3, vI x3), (4, vI x4), (5, vI r5)]) rfl ?_
        exact wj_X6_leastSize_56 h rx2 rx3 rx4 r6 r17 ih hE
      · rw [if_pos c12] at h
        refine v_iload dX6_leastSize_42 0 rfl ?_
        refine v_goto (tgt := 56) dX6_leastSize_44 (by decide) ?_
        refine v_sub [1, 2, 3, 4, 0] (L1 := [(0, vO 13), (2, vI x2), (3, vI x3), (4, vI x4), (5, vI r5)]) rfl ?_
        exact wj_X6_leastSize_56 h rx2 rx3 rx4 r6 r6 ih hE

def f_X6_leastSize (x1 : Int) (x2 : Int) (s : vS) : Option (Int × vS) :=
  bd (f_X4_parts x1 s) fun r4 s1 =>
  lq_1 (l_X6_leastSize_12 FU x2 (-1) r4 s1) fun y6 s7 =>
  some (y6, s7)
theorem yk_X6_leastSize : yOk yX6_leastSize 2 := ⟨by decide, by decide, by decide +kernel⟩
theorem c_X6_leastSize {x1 : Int} {x2 : Int} {s : vS} {out : Int × vS} (h : f_X6_leastSize x1 x2 s = some out)  (rx1 : rg x1) (rx2 : rg x2) : VC yX6_leastSize cX6_leastSize 8 (some .int) 2 46 [vO 13, vI x1, vI x2] s (some (vI out.1)) out.2 [] := by
  unfold f_X6_leastSize at h
  refine VC.of RX6 (by decide) rfl (Nat.le_of_ble_eq_true rfl) ?_
  show VW cX6_leastSize (RX6, (some (vI out.1)), out.2, (some .int), 2, 46, 8, []) (P0 []) s 0 [(0, vO 13), (1, vI x1), (2, vI x2)] []
  refine v_iconst dX6_leastSize_0 ?_
  refine v_istore_n (L1 := [(3, vI (-1)), (0, vO 13), (1, vI x1), (2, vI x2)]) dX6_leastSize_1 rfl (by decide) rfl ?_
  refine v_aload_n dX6_leastSize_2 1 rfl rfl ?_
  refine v_getS (f := 1) (t := 10) cf6 oc13 rfl rfl rfl (by decide) q628 dX6_leastSize_3 ?_
  refine v_iload_n dX6_leastSize_6 2 rfl rfl ?_
  obtain ⟨r4, s1, e2, h⟩ := bd_some h
  have k3 := c_X4_parts e2 rx1
  have r5 : rg r4 := k3.1.2.2
  refine v_callV (st := []) cf4 oc10 k3 (lw_V q1492 q1493 q1494 q301 q1495) rfl yk_X4_parts ⟨Nat.le_of_ble_eq_true rfl, Nat.le_of_ble_eq_true rfl⟩ trivial ⟨kc13, trivial⟩ (Nat.le_of_ble_eq_true rfl) rfl dX6_leastSize_7 ?_
  refine v_istore (L1 := [(4, vI r4), (3, vI (-1)), (0, vO 13), (1, vI x1), (2, vI x2)]) dX6_leastSize_10 (by decide) rfl ?_
  refine v_sub [2, 4, 1, 0] (L1 := [(0, vO 13), (2, vI x2), (3, vI (-1)), (4, vI r4)]) rfl ?_
  obtain ⟨y6, s7, e8, h⟩ := lq_1_some h
  refine wl_X6_leastSize_12 rx2 FU (-1) r4 s1 _ e8 (rgl rfl) r5 ?_
  unfold E_X6_leastSize_12
  intro y6' s7' z_ r9
  cases z_
  refine v_iload_n dX6_leastSize_109 0 rfl rfl ?_
  cases h
  exact v_iret r9 dX6_leastSize_110

def E_X6_isSize_2 (rv : Option vA) (σo : vS) (q : (vS) ⊕ (Int × vS)) : Prop := (∀ (s' : vS), q = .inl s' → VW cX6_isSize (RX6, rv, σo, (some .boolean), 6, 138, 5, []) (P0 []) s' 58 [] []) ∧ (∀ (v : Int) (s' : vS), q = .inr (v, s') → rv = some (vI v) ∧ σo = s')
def E_X6_isSize_12 (x2 : Int) (x3 : Int) (rv : Option vA) (σo : vS) (q : (vS) ⊕ (Int × vS)) : Prop := (∀ (s' : vS), q = .inl s' → VW cX6_isSize (RX6, rv, σo, (some .boolean), 6, 138, 5, []) (P0 []) s' 45 [(0, vO 13), (2, vI x2), (3, vI x3)] []) ∧ (∀ (v : Int) (s' : vS), q = .inr (v, s') → rv = some (vI v) ∧ σo = s')
def l_X6_isSize_12 : Nat → Int → Int → Int → vS → Option ((vS) ⊕ (Int × vS))
  | 0, _, _, _, _ => none
  | n + 1, x2, x3, x4, s =>
    if x4 = (-1) then
      some (.inl s)
    else
      bd (f_X6_leastSize x4 x2 s) fun r5 s2 =>
      if r5 = x2 then
        bd (f_X4_next x4 s2) fun r11 s8 =>
        l_X6_isSize_12 n x2 x3 r11 s8
      else
        some (.inr (0, s2))
theorem wl_X6_isSize_12 {x2 : Int} {x3 : Int} {rv : Option vA} {σo : vS}  (rx2 : rg x2) (rx3 : rg x3) : ∀ (n : Nat) (x4 : Int) (s : vS) (q : (vS) ⊕ (Int × vS)), l_X6_isSize_12 n x2 x3 x4 s = some q → rg x4 → E_X6_isSize_12 x2 x3 rv σo q → VW cX6_isSize (RX6, rv, σo, (some .boolean), 6, 138, 5, []) (P0 []) s 12 [(0, vO 13), (2, vI x2), (3, vI x3), (4, vI x4)] [] := by
  intro n
  induction n with
  | zero => intro x4 s q h; cases h
  | succ n ih =>
    intro x4 s q h rx4 hE
    unfold l_X6_isSize_12 at h
    refine v_iload dX6_isSize_12 3 rfl ?_
    refine v_iconst dX6_isSize_14 ?_
    refine v_icmp_eq (tgt := 45) dX6_isSize_15 rx4 (rgl rfl) (by decide) (fun c1 => ?_) (fun c1 => ?_)
    · rw [if_pos c1] at h
      cases h
      refine v_sub [0, 1, 2] (L1 := [(0, vO 13), (2, vI x2), (3, vI x3)]) rfl ?_
      exact hE.1 _ rfl 
    · rw [if_neg c1] at h
      refine v_aload_n dX6_isSize_18 0 rfl rfl ?_
      refine v_iload dX6_isSize_19 3 rfl ?_
      refine v_iload_n dX6_isSize_21 1 rfl rfl ?_
      obtain ⟨r5, s2, e3, h⟩ := bd_some h
      have k4 := c_X6_leastSize e3 rx4 rx2
      have r6 : rg r5 := k4.1.2.2
      refine v_callV (st := []) cf6 oc13 k4 (lw_V q1752 q1754 qs91 q303 q1755) rfl yk_X6_leastSize ⟨Nat.le_of_ble_eq_true rfl, Nat.le_of_ble_eq_true rfl⟩ trivial ⟨kc13, trivial⟩ (Nat.le_of_ble_eq_true rfl) rfl dX6_isSize_22 ?_
      refine v_iload_n dX6_isSize_25 1 rfl rfl ?_
      refine v_icmp_eq (tgt := 31) dX6_isSize_26 r6 rx2 (by decide) (fun c7 => ?_) (fun c7 => ?_)
      · rw [if_pos c7] at h
        refine v_aload_n dX6_isSize_31 0 rfl rfl ?_
        refine v_getS (f := 1) (t := 10) cf6 oc13 rfl rfl rfl (by decide) q628 dX6_isSize_32 ?_
        refine v_iload dX6_isSize_35 3 rfl ?_
        obtain ⟨r11, s8, e9, h⟩ := bd_some h
        have k10 := c_X4_next e9 rx4
        have r12 : rg r11 := k10.1.2.2
        refine v_callV (st := []) cf4 oc10 k10 (lw_V q1483 q1404 q1405 q301 q1406) rfl yk_X4_next ⟨Nat.le_of_ble_eq_true rfl, Nat.le_of_ble_eq_true rfl⟩ trivial ⟨kc13, trivial⟩ (Nat.le_of_ble_eq_true rfl) rfl dX6_isSize_37 ?_
        refine v_istore (L1 := [(4, vI r11), (0, vO 13), (2, vI x2), (3, vI x3)]) dX6_isSize_40 (by decide) rfl ?_
        refine v_goto (tgt := 12) dX6_isSize_42 (by decide) ?_
        refine v_sub [1, 2, 3, 0] (L1 := [(0, vO 13), (2, vI x2), (3, vI x3), (4, vI r11)]) rfl ?_
        exact ih r11 s8 _ h r12 hE
      · rw [if_neg c7] at h
        refine v_iconst dX6_isSize_29 ?_
        cases h
        obtain ⟨z1, z2⟩ := hE.2 _ _ rfl
        subst z1
        subst z2
        exact v_zret (Or.inl rfl) dX6_isSize_30

def l_X6_isSize_2 : Nat → Int → Int → vS → Option ((vS) ⊕ (Int × vS))
  | 0, _, _, _ => none
  | n + 1, x2, x3, s =>
    bd (f_X4_limits x3 s) fun r4 s1 =>
    lqs_0 (l_X6_isSize_12 FU x2 x3 r4 s1) (fun s6 =>
      bd (f_X4_kind x3 s6) fun r11 s8 =>
      if r11 = 17 then
        bd (f_X6_assignedType x3 s8) fun r17 s14 =>
        l_X6_isSize_2 n x2 r17 s14
      else
        some (.inl s8))
      (fun q => some (.inr q))
theorem wl_X6_isSize_2 {x2 : Int} {rv : Option vA} {σo : vS}  (rx2 : rg x2) : ∀ (n : Nat) (x3 : Int) (s : vS) (q : (vS) ⊕ (Int × vS)), l_X6_isSize_2 n x2 x3 s = some q → rg x3 → E_X6_isSize_2 rv σo q → VW cX6_isSize (RX6, rv, σo, (some .boolean), 6, 138, 5, []) (P0 []) s 2 [(0, vO 13), (2, vI x2), (3, vI x3)] [] := by
  intro n
  induction n with
  | zero => intro x3 s q h; cases h
  | succ n ih =>
    intro x3 s q h rx3 hE
    unfold l_X6_isSize_2 at h
    refine v_aload_n dX6_isSize_2 0 rfl rfl ?_
    refine v_getS (f := 1) (t := 10) cf6 oc13 rfl rfl rfl (by decide) q628 dX6_isSize_3 ?_
    refine v_iload_n dX6_isSize_6 2 rfl rfl ?_
    obtain ⟨r4, s1, e2, h⟩ := bd_some h
    have k3 := c_X4_limits e2 rx3
    have r5 : rg r4 := k3.1.2.2
    refine v_callV (st := []) cf4 oc10 k3 (lw_V q1579 q1396 q1397 q301 q1398) rfl yk_X4_limits ⟨Nat.le_of_ble_eq_true rfl, Nat.le_of_ble_eq_true rfl⟩ trivial ⟨kc13, trivial⟩ (Nat.le_of_ble_eq_true rfl) rfl dX6_isSize_7 ?_
    refine v_istore (L1 := [(4, vI r4), (0, vO 13), (2, vI x2), (3, vI x3)]) dX6_isSize_10 (by decide) rfl ?_
    refine v_sub [1, 2, 3, 0] (L1 := [(0, vO 13), (2, vI x2), (3, vI x3), (4, vI r4)]) rfl ?_
    rcases lqs_0_some h with ⟨s6, e7, h⟩ | ⟨q9, e7, h⟩
    · refine wl_X6_isSize_12 rx2 rx3 FU r4 s1 _ e7 r5 ?_
      unfold E_X6_isSize_12
      refine ⟨?_, fun v9 s9 z_ => (by cases z_)⟩
      intro s6' z_
      cases z_
      refine v_aload_n dX6_isSize_45 0 rfl rfl ?_
      refine v_getS (f := 1) (t := 10) cf6 oc13 rfl rfl rfl (by decide) q628 dX6_isSize_46 ?_
      refine v_iload_n dX6_isSize_49 2 rfl rfl ?_
      obtain ⟨r11, s8, e9, h⟩ := bd_some h
      have k10 := c_X4_kind e9 rx3
      have r12 : rg r11 := k10.1.2.2
      refine v_callV (st := []) cf4 oc10 k10 (lw_V q1445 q1446 q1447 q301 q1448) rfl yk_X4_kind ⟨Nat.le_of_ble_eq_true rfl, Nat.le_of_ble_eq_true rfl⟩ trivial ⟨kc13, trivial⟩ (Nat.le_of_ble_eq_true rfl) rfl dX6_isSize_50 ?_
      refine v_bipush dX6_isSize_53 rfl ?_
      refine v_icmp_eq (tgt := 60) dX6_isSize_55 r12 (rgl rfl) (by decide) (fun c13 => ?_) (fun c13 => ?_)
      · rw [if_pos c13] at h
        refine v_aload_n dX6_isSize_60 0 rfl rfl ?_
        refine v_iload_n dX6_isSize_61 2 rfl rfl ?_
        obtain ⟨r17, s14, e15, h⟩ := bd_some h
        have k16 := c_X6_assignedType e15 rx3
        have r18 : rg r17 := k16.1.2.2
        refine v_callV (st := []) cf6 oc13 k16 (lw_V q1571 q1573 qs57 q303 q1574) rfl yk_X6_assignedType ⟨Nat.le_of_ble_eq_true rfl, Nat.le_of_ble_eq_true rfl⟩ trivial ⟨kc13, trivial⟩ (Nat.le_of_ble_eq_true rfl) rfl dX6_isSize_62 ?_
        refine v_istore_n (L1 := [(3, vI r17), (0, vO 13), (2, vI x2)]) dX6_isSize_65 rfl (by decide) rfl ?_
        refine v_goto (tgt := 2) dX6_isSize_66 (by decide) ?_
        refine v_sub [1, 2, 0] (L1 := [(0, vO 13), (2, vI x2), (3, vI r17)]) rfl ?_
        exact ih r17 s14 _ h r18 hE
      · rw [if_neg c13] at h
        cases h
        refine v_sub [] (L1 := []) rfl ?_
        exact hE.1 _ rfl 
    · cases h
      refine wl_X6_isSize_12 rx2 rx3 FU r4 s1 _ e7 r5 ?_
      unfold E_X6_isSize_12
      refine ⟨fun _ z_ => (by cases z_), ?_⟩
      intro v9 s9 z_
      cases z_
      exact hE.2 _ _ rfl

def f_X6_isSize (x1 : Int) (x2 : Int) (s : vS) : Option (Int × vS) :=
  lqs_0 (l_X6_isSize_2 FU x2 x1 s) (fun s1 =>
    some (1, s1))
    (fun q => some q)
theorem yk_X6_isSize : yOk yX6_isSize 2 := ⟨by decide, by decide, by decide +kernel⟩
theorem c_X6_isSize {x1 : Int} {x2 : Int} {s : vS} {out : Int × vS} (h : f_X6_isSize x1 x2 s = some out)  (rx1 : rg x1) (rx2 : rg x2) : VC yX6_isSize cX6_isSize 5 (some .boolean) 6 138 [vO 13, vI x1, vI x2] s (some (vI out.1)) out.2 [] := by
  unfold f_X6_isSize at h
  refine VC.of RX6 (by decide) rfl (Nat.le_of_ble_eq_true rfl) ?_
  show VW cX6_isSize (RX6, (some (vI out.1)), out.2, (some .boolean), 6, 138, 5, []) (P0 []) s 0 [(0, vO 13), (1, vI x1), (2, vI x2)] []
  refine v_iload_n dX6_isSize_0 1 rfl rfl ?_
  refine v_istore_n (L1 := [(3, vI x1), (0, vO 13), (1, vI x1), (2, vI x2)]) dX6_isSize_1 rfl (by decide) rfl ?_
  refine v_sub [1, 3, 0] (L1 := [(0, vO 13), (2, vI x2), (3, vI x1)]) rfl ?_
  rcases lqs_0_some h with ⟨s1, e2, h⟩ | ⟨q9, e2, h⟩
  · refine wl_X6_isSize_2 rx2 FU x1 s _ e2 rx1 ?_
    unfold E_X6_isSize_2
    refine ⟨?_, fun v9 s9 z_ => (by cases z_)⟩
    intro s1' z_
    cases z_
    refine v_iconst dX6_isSize_58 ?_
    cases h
    exact v_zret (Or.inr rfl) dX6_isSize_59
  · cases h
    refine wl_X6_isSize_2 rx2 FU x1 s _ e2 rx1 ?_
    unfold E_X6_isSize_2
    refine ⟨fun _ z_ => (by cases z_), ?_⟩
    intro v9 s9 z_
    cases z_
    exact ⟨rfl, rfl⟩

def f_X11_bit (p0 : Nat) (x1 : Int) (x2 : Int) (s : vS) : Option (Int × vS) :=
  bd (f_X2_at p0 (w32 ((w32 (x1 + 1)) + (d32 x2 8))) s) fun r4 s1 =>
  if (and32 (shr32 r4 (w32 (7 - (m32 x2 8)))) 1) = 1 then
    some (1, s1)
  else
    some (0, s1)
theorem yk_X11_bit : yOk yX11_bit 3 := ⟨by decide, by decide, by decide +kernel⟩
theorem c_X11_bit {p0 : Nat} {x1 : Int} {x2 : Int} {s : vS} {out : Int × vS} (h : f_X11_bit p0 x1 x2 s = some out) (hp0 : okB p0 1) (rx1 : rg x1) (rx2 : rg x2) : VC yX11_bit cX11_bit 3 (some .boolean) 1 21 [vO p0, vI x1, vI x2] s (some (vI out.1)) out.2 [] := by
  unfold f_X11_bit at h
  refine VC.of RX11 (by decide) rfl (Nat.le_of_ble_eq_true rfl) ?_
  show VW cX11_bit (RX11, (some (vI out.1)), out.2, (some .boolean), 1, 21, 3, []) (P0 []) s 0 [(0, vO p0), (1, vI x1), (2, vI x2)] []
  refine v_aload_n dX11_bit_0 0 rfl rfl ?_
  refine v_iload_n dX11_bit_1 1 rfl rfl ?_
  refine v_iconst dX11_bit_2 ?_
  refine v_iadd dX11_bit_3 ?_
  refine v_iload_n dX11_bit_4 2 rfl rfl ?_
  refine v_bipush dX11_bit_5 rfl ?_
  refine v_idiv dX11_bit_7 (rgl rfl) (by decide) ?_
  refine v_iadd dX11_bit_8 ?_
  obtain ⟨r4, s1, e2, h⟩ := bd_some h
  have k3 := c_X2_at e2 hp0 (w32_rg _)
  have r5 : rg r4 := k3.1.2.2
  refine v_callV (st := []) cf2 (okB_ok hp0) k3 (lw_V q1747 q1072 q1073 q299 q1074) rfl yk_X2_at ⟨Nat.le_of_ble_eq_true rfl, Nat.le_of_ble_eq_true rfl⟩ trivial ⟨(okB_kp hp0 (by decide)), trivial⟩ (Nat.le_of_ble_eq_true rfl) rfl dX11_bit_9 ?_
  refine v_bipush dX11_bit_12 rfl ?_
  refine v_iload_n dX11_bit_14 2 rfl rfl ?_
  refine v_bipush dX11_bit_15 rfl ?_
  refine v_irem dX11_bit_17 (rgl rfl) (by decide) ?_
  refine v_isub dX11_bit_18 ?_
  refine v_ishr dX11_bit_19 ?_
  refine v_iconst dX11_bit_20 ?_
  refine v_iand dX11_bit_21 ?_
  refine v_iconst dX11_bit_22 ?_
  refine v_icmp_ne (tgt := 30) dX11_bit_23 (and32_rg _ _) (rgl rfl) (by decide) (fun c6 => ?_) (fun c6 => ?_)
  · rw [if_neg c6] at h
    refine v_iconst dX11_bit_30 ?_
    cases h
    exact v_zret (Or.inl rfl) dX11_bit_31
  · rw [if_pos c6] at h
    refine v_iconst dX11_bit_26 ?_
    refine v_goto (tgt := 31) dX11_bit_27 (by decide) ?_
    cases h
    exact v_zret (Or.inr rfl) dX11_bit_31

def E_X11_needed_7 (p0 : Nat) (rv : Option vA) (σo : vS) (q : Int × vS) : Prop := ∀ (x3' : Int) (s' : vS), q = (x3', s') → rg x3' → VW cX11_needed (RX11, rv, σo, (some .int), 2, 43, 4, []) (P0 []) s' 28 [(3, vI x3')] []
def l_X11_needed_7 (p0 : Nat) : Nat → Int → Int → vS → Option (Int × vS)
  | 0, _, _, _ => none
  | n + 1, x1, x3, s =>
    if x3 ≤ 0 then
      some (x3, s)
    else
      bd (f_X11_bit p0 x1 (w32 (x3 - 1)) s) fun r5 s2 =>
      if r5 = 0 then
        vl (w32 (x3 + (-1))) fun y8 =>
        l_X11_needed_7 p0 n x1 y8 s2
      else
        some (x3, s2)
theorem wl_X11_needed_7 (p0 : Nat) {x1 : Int} {rv : Option vA} {σo : vS} (hp0 : okB p0 1) (rx1 : rg x1) : ∀ (n : Nat) (x3 : Int) (s : vS) (q : Int × vS), l_X11_needed_7 p0 n x1 x3 s = some q → rg x3 → E_X11_needed_7 p0 rv σo q → VW cX11_needed (RX11, rv, σo, (some .int), 2, 43, 4, []) (P0 []) s 7 [(0, vO p0), (1, vI x1), (3, vI x3)] [] := by
  intro n
  induction n with
  | zero => intro x3 s q h; cases h
  | succ n ih =>
    intro x3 s q h rx3 hE
    unfold l_X11_needed_7 at h
    refine v_iload_n dX11_needed_7 2 rfl rfl ?_
    refine v_if_le (tgt := 28) dX11_needed_8 rx3 (by decide) (fun c1 => ?_) (fun c1 => ?_)
    · rw [if_pos c1] at h
      cases h
      refine v_sub [2] (L1 := [(3, vI x3)]) rfl ?_
      exact hE _ _ rfl rx3
    · rw [if_neg c1] at h
      refine v_aload_n dX11_needed_11 0 rfl rfl ?_
      refine v_iload_n dX11_needed_12 1 rfl rfl ?_
      refine v_iload_n dX11_needed_13 2 rfl rfl ?_
      refine v_iconst dX11_needed_14 ?_
      refine v_isub dX11_needed_15 ?_
      obtain ⟨r5, s2, e3, h⟩ := bd_some h
      have k4 := c_X11_bit e3 hp0 rx1 (w32_rg _)
      have r6 : rg r5 := k4.1.2.2
      refine v_callS (st := []) k4 (lw_S q1766 q1767 q308 q1768) yk_X11_bit ⟨Nat.le_of_ble_eq_true rfl, Nat.le_of_ble_eq_true rfl⟩ trivial ⟨(okB_kp hp0 (by decide)), trivial⟩ (Nat.le_of_ble_eq_true rfl) rfl dX11_needed_16 ?_
      refine v_if_ne (tgt := 28) dX11_needed_19 r6 (by decide) (fun c7 => ?_) (fun c7 => ?_)
      · rw [if_neg c7] at h
        cases h
        refine v_sub [2] (L1 := [(3, vI x3)]) rfl ?_
        exact hE _ _ rfl rx3
      · rw [if_pos c7] at h
        obtain ⟨y8, e9, h⟩ := vl_some h
        refine v_iinc (L1 := [(3, vI (w32 (x3 + (-1)))), (0, vO p0), (1, vI x1)]) dX11_needed_22 2 rfl (by decide) rfl ?_
        rw [← e9]
        have r10 : rg y8 := by rw [e9]; exact w32_rg _
        refine v_goto (tgt := 7) dX11_needed_25 (by decide) ?_
        refine v_sub [1, 2, 0] (L1 := [(0, vO p0), (1, vI x1), (3, vI y8)]) rfl ?_
        exact ih y8 s2 _ h r10 hE

def f_X11_needed (p0 : Nat) (x1 : Int) (x2 : Int) (s : vS) : Option (Int × vS) :=
  bd (f_X11_bits p0 x1 x2 s) fun r4 s1 =>
  lq_1 (l_X11_needed_7 p0 FU x1 r4 s1) fun y6 s7 =>
  some (y6, s7)
theorem yk_X11_needed : yOk yX11_needed 3 := ⟨by decide, by decide, by decide +kernel⟩
theorem c_X11_needed {p0 : Nat} {x1 : Int} {x2 : Int} {s : vS} {out : Int × vS} (h : f_X11_needed p0 x1 x2 s = some out) (hp0 : okB p0 1) (rx1 : rg x1) (rx2 : rg x2) : VC yX11_needed cX11_needed 4 (some .int) 2 43 [vO p0, vI x1, vI x2] s (some (vI out.1)) out.2 [] := by
  unfold f_X11_needed at h
  refine VC.of RX11 (by decide) rfl (Nat.le_of_ble_eq_true rfl) ?_
  show VW cX11_needed (RX11, (some (vI out.1)), out.2, (some .int), 2, 43, 4, []) (P0 []) s 0 [(0, vO p0), (1, vI x1), (2, vI x2)] []
  refine v_aload_n dX11_needed_0 0 rfl rfl ?_
  refine v_iload_n dX11_needed_1 1 rfl rfl ?_
  refine v_iload_n dX11_needed_2 2 rfl rfl ?_
  obtain ⟨r4, s1, e2, h⟩ := bd_some h
  have k3 := c_X11_bits e2 hp0 rx1 rx2
  have r5 : rg r4 := k3.1.2.2
  refine v_callS (st := []) k3 (lw_S q1765 q1745 q308 q1746) yk_X11_bits ⟨Nat.le_of_ble_eq_true rfl, Nat.le_of_ble_eq_true rfl⟩ trivial ⟨(okB_kp hp0 (by decide)), trivial⟩ (Nat.le_of_ble_eq_true rfl) rfl dX11_needed_3 ?_
  refine v_istore_n (L1 := [(3, vI r4), (0, vO p0), (1, vI x1), (2, vI x2)]) dX11_needed_6 rfl (by decide) rfl ?_
  refine v_sub [1, 2, 0] (L1 := [(0, vO p0), (1, vI x1), (3, vI r4)]) rfl ?_
  obtain ⟨y6, s7, e8, h⟩ := lq_1_some h
  refine wl_X11_needed_7 p0 hp0 rx1 FU r4 s1 _ e8 r5 ?_
  unfold E_X11_needed_7
  intro y6' s7' z_ r9
  cases z_
  refine v_iload_n dX11_needed_28 0 rfl rfl ?_
  cases h
  exact v_iret r9 dX11_needed_29

def E_X6_sizeFrom_5 (rv : Option vA) (σo : vS) (q : (Int × vS) ⊕ (Int × vS)) : Prop := (∀ (x3' : Int) (s' : vS), q = .inl (x3', s') → rg x3' → VW cX6_sizeFrom (RX6, rv, σo, (some .int), 6, 138, 8, []) (P0 []) s' 117 [(3, vI x3')] []) ∧ (∀ (v : Int) (s' : vS), q = .inr (v, s') → rv = some (vI v) ∧ σo = s')
def E_X6_sizeFrom_20 (x1 : Int) (x4 : Int) (rv : Option vA) (σo : vS) (q : (Int × vS) ⊕ (Int × vS)) : Prop := (∀ (x3' : Int) (s' : vS), q = .inl (x3', s') → rg x3' → VW cX6_sizeFrom (RX6, rv, σo, (some .int), 6, 138, 8, []) (P0 []) s' 114 [(0, vO 13), (1, vI x1), (3, vI x3'), (4, vI x4)] []) ∧ (∀ (v : Int) (s' : vS), q = .inr (v, s') → rv = some (vI v) ∧ σo = s')
def E_X6_sizeFrom_36 (x1 : Int) (x4 : Int) (x5 : Int) (rv : Option vA) (σo : vS) (q : (Int × vS) ⊕ (Int × vS)) : Prop := (∀ (x3' : Int) (s' : vS), q = .inl (x3', s') → rg x3' → VW cX6_sizeFrom (RX6, rv, σo, (some .int), 6, 138, 8, []) (P0 []) s' 77 [(0, vO 13), (1, vI x1), (3, vI x3'), (4, vI x4), (5, vI x5)] []) ∧ (∀ (v : Int) (s' : vS), q = .inr (v, s') → rv = some (vI v) ∧ σo = s')
def l_X6_sizeFrom_36 : Nat → Int → Int → Int → Int → Int → vS → Option ((Int × vS) ⊕ (Int × vS))
  | 0, _, _, _, _, _, _ => none
  | n + 1, x1, x3, x4, x5, x7, s =>
    if x7 = (-1) then
      some (.inl (x3, s))
    else
      bd (f_X6_leastSize x7 x3 s) fun r5 s2 =>
      if r5 = (-1) then
        some (.inr (r5, s2))
      else
        if r5 ≤ 64 then
          bd (f_X4_next x7 s2) fun r12 s9 =>
          l_X6_sizeFrom_36 n x1 r5 x4 x5 r12 s9
        else
          some (.inr (r5, s2))
theorem wl_X6_sizeFrom_36 {x1 : Int} {x4 : Int} {x5 : Int} {rv : Option vA} {σo : vS}  (rx1 : rg x1) (rx4 : rg x4) (rx5 : rg x5) : ∀ (n : Nat) (x3 : Int) (x7 : Int) (s : vS) (q : (Int × vS) ⊕ (Int × vS)), l_X6_sizeFrom_36 n x1 x3 x4 x5 x7 s = some q → rg x3 → rg x7 → E_X6_sizeFrom_36 x1 x4 x5 rv σo q → VW cX6_sizeFrom (RX6, rv, σo, (some .int), 6, 138, 8, []) (P0 []) s 36 [(0, vO 13), (1, vI x1), (3, vI x3), (4, vI x4), (5, vI x5), (7, vI x7)] [] := by
  intro n
  induction n with
  | zero => intro x3 x7 s q h; cases h
  | succ n ih =>
    intro x3 x7 s q h rx3 rx7 hE
    unfold l_X6_sizeFrom_36 at h
    refine v_iload dX6_sizeFrom_36 5 rfl ?_
    refine v_iconst dX6_sizeFrom_38 ?_
    refine v_icmp_eq (tgt := 77) dX6_sizeFrom_39 rx7 (rgl rfl) (by decide) (fun c1 => ?_) (fun c1 => ?_)
    · rw [if_pos c1] at h
      cases h
      refine v_sub [0, 1, 2, 3, 4] (L1 := [(0, vO 13), (1, vI x1), (3, vI x3), (4, vI x4), (5, vI x5)]) rfl ?_
      exact hE.1 _ _ rfl rx3
    · rw [if_neg c1] at h
      refine v_aload_n dX6_sizeFrom_42 0 rfl rfl ?_
      refine v_iload dX6_sizeFrom_43 5 rfl ?_
      refine v_iload_n dX6_sizeFrom_45 2 rfl rfl ?_
      obtain ⟨r5, s2, e3, h⟩ := bd_some h
      have k4 := c_X6_leastSize e3 rx7 rx3
      have r6 : rg r5 := k4.1.2.2
      refine v_callV (st := []) cf6 oc13 k4 (lw_V q1752 q1754 qs91 q303 q1755) rfl yk_X6_leastSize ⟨Nat.le_of_ble_eq_true rfl, Nat.le_of_ble_eq_true rfl⟩ trivial ⟨kc13, trivial⟩ (Nat.le_of_ble_eq_true rfl) rfl dX6_sizeFrom_46 ?_
      refine v_istore_n (L1 := [(3, vI r5), (0, vO 13), (1, vI x1), (4, vI x4), (5, vI x5), (7, vI x7)]) dX6_sizeFrom_49 rfl (by decide) rfl ?_
      refine v_iload_n dX6_sizeFrom_50 0 rfl rfl ?_
      refine v_iconst dX6_sizeFrom_51 ?_
      refine v_icmp_eq (tgt := 61) dX6_sizeFrom_52 r6 (rgl rfl) (by decide) (fun c7 => ?_) (fun c7 => ?_)
      · rw [if_pos c7] at h
        refine v_iload_n dX6_sizeFrom_61 0 rfl rfl ?_
        cases h
        obtain ⟨z1, z2⟩ := hE.2 _ _ rfl
        subst z1
        subst z2
        exact v_iret r6 dX6_sizeFrom_62
      · rw [if_neg c7] at h
        refine v_iload_n dX6_sizeFrom_55 0 rfl rfl ?_
        refine v_bipush dX6_sizeFrom_56 rfl ?_
        refine v_icmp_le (tgt := 63) dX6_sizeFrom_58 r6 (rgl rfl) (by decide) (fun c8 => ?_) (fun c8 => ?_)
        · rw [if_pos c8] at h
          refine v_aload_n dX6_sizeFrom_63 1 rfl rfl ?_
          refine v_getS (f := 1) (t := 10) cf6 oc13 rfl rfl rfl (by decide) q628 dX6_sizeFrom_64 ?_
          refine v_iload dX6_sizeFrom_67 5 rfl ?_
          obtain ⟨r12, s9, e10, h⟩ := bd_some h
          have k11 := c_X4_next e10 rx7
          have r13 : rg r12 := k11.1.2.2
          refine v_callV (st := []) cf4 oc10 k11 (lw_V q1483 q1404 q1405 q301 q1406) rfl yk_X4_next ⟨Nat.le_of_ble_eq_true rfl, Nat.le_of_ble_eq_true rfl⟩ trivial ⟨kc13, trivial⟩ (Nat.le_of_ble_eq_true rfl) rfl dX6_sizeFrom_69 ?_
          refine v_istore (L1 := [(7, vI r12), (3, vI r5), (0, vO 13), (1, vI x1), (4, vI x4), (5, vI x5)]) dX6_sizeFrom_72 (by decide) rfl ?_
          refine v_goto (tgt := 36) dX6_sizeFrom_74 (by decide) ?_
          refine v_sub [2, 3, 1, 4, 5, 0] (L1 := [(0, vO 13), (1, vI x1), (3, vI r5), (4, vI x4), (5, vI x5), (7, vI r12)]) rfl ?_
          exact ih r5 r12 s9 _ h r6 r13 hE
        · rw [if_neg c8] at h
          refine v_iload_n dX6_sizeFrom_61 0 rfl rfl ?_
          cases h
          obtain ⟨z1, z2⟩ := hE.2 _ _ rfl
          subst z1
          subst z2
          exact v_iret r6 dX6_sizeFrom_62

def j_X6_sizeFrom_96 (rec : Int → Int → Int → Int → Int → vS → Option ((Int × vS) ⊕ (Int × vS))) (x1 : Int) (x3 : Int) (x4 : Int) (x5 : Int) (z0 : Int) (s : vS) : Option ((Int × vS) ⊕ (Int × vS)) :=
  if z0 = 0 then
    rec x1 x3 x4 x5 z0 s
  else
    bd (f_X6_assignedType x5 s) fun r5 s2 =>
    rec x1 x3 x4 r5 z0 s2
theorem wj_X6_sizeFrom_96 {x1 : Int} {x3 : Int} {x4 : Int} {x5 : Int} {z0 : Int} {s : vS} {rv : Option vA} {σo : vS} {rec : Int → Int → Int → Int → Int → vS → Option ((Int × vS) ⊕ (Int × vS))} {q : (Int × vS) ⊕ (Int × vS)} (h : j_X6_sizeFrom_96 rec x1 x3 x4 x5 z0 s = some q)  (rx1 : rg x1) (rx3 : rg x3) (rx4 : rg x4) (rx5 : rg x5) (rz0 : rg z0) (hrec : ∀ (y3 : Int) (y5 : Int) (y6 : Int) (s : vS) (q : (Int × vS) ⊕ (Int × vS)), rec x1 y3 x4 y5 y6 s = some q → rg y3 → rg y5 → rg y6 → E_X6_sizeFrom_20 x1 x4 rv σo q → VW cX6_sizeFrom (RX6, rv, σo, (some .int), 6, 138, 8, []) (P0 []) s 20 [(0, vO 13), (1, vI x1), (3, vI y3), (4, vI x4), (5, vI y5), (6, vI y6)] []) (hE : E_X6_sizeFrom_20 x1 x4 rv σo q) : VW cX6_sizeFrom (RX6, rv, σo, (some .int), 6, 138, 8, []) (P0 []) s 96 [(0, vO 13), (1, vI x1), (3, vI x3), (4, vI x4), (5, vI x5)] [vI z0] := by
  unfold j_X6_sizeFrom_96 at h
  refine v_istore (L1 := [(6, vI z0), (0, vO 13), (1, vI x1), (3, vI x3), (4, vI x4), (5, vI x5)]) dX6_sizeFrom_96 (by decide) rfl ?_
  refine v_iload dX6_sizeFrom_98 0 rfl ?_
  refine v_if_eq (tgt := 20) dX6_sizeFrom_100 rz0 (by decide) (fun c1 => ?_) (fun c1 => ?_)
  · rw [if_pos c1] at h
    refine v_sub [1, 2, 3, 4, 5, 0] (L1 := [(0, vO 13), (1, vI x1), (3, vI x3), (4, vI x4), (5, vI x5), (6, vI z0)]) rfl ?_
    exact hrec x3 x5 z0 s _ h rx3 rx5 rz0 hE
  · rw [if_neg c1] at h
    refine v_aload_n dX6_sizeFrom_103 1 rfl rfl ?_
    refine v_iload dX6_sizeFrom_104 5 rfl ?_
    obtain ⟨r5, s2, e3, h⟩ := bd_some h
    have k4 := c_X6_assignedType e3 rx5
    have r6 : rg r5 := k4.1.2.2
    refine v_callV (st := []) cf6 oc13 k4 (lw_V q1571 q1573 qs57 q303 q1574) rfl yk_X6_assignedType ⟨Nat.le_of_ble_eq_true rfl, Nat.le_of_ble_eq_true rfl⟩ trivial ⟨kc13, trivial⟩ (Nat.le_of_ble_eq_true rfl) rfl dX6_sizeFrom_106 ?_
    refine v_istore (L1 := [(5, vI r5), (6, vI z0), (0, vO 13), (1, vI x1), (3, vI x3), (4, vI x4)]) dX6_sizeFrom_109 (by decide) rfl ?_
    refine v_goto (tgt := 20) dX6_sizeFrom_111 (by decide) ?_
    refine v_sub [2, 3, 4, 5, 0, 1] (L1 := [(0, vO 13), (1, vI x1), (3, vI x3), (4, vI x4), (5, vI r5), (6, vI z0)]) rfl ?_
    exact hrec x3 r5 z0 s2 _ h rx3 r6 rz0 hE

def l_X6_sizeFrom_20 : Nat → Int → Int → Int → Int → Int → vS → Option ((Int × vS) ⊕ (Int × vS))
  | 0, _, _, _, _, _, _ => none
  | n + 1, x1, x3, x4, x5, x6, s =>
    if x6 = 0 then
      some (.inl (x3, s))
    else
      bd (f_X4_limits x5 s) fun r5 s2 =>
      lqs_1 (l_X6_sizeFrom_36 FU x1 x3 x4 x5 r5 s2) (fun y7 s8 =>
        bd (f_X4_kind x5 s8) fun r14 s11 =>
        if r14 = 17 then
          j_X6_sizeFrom_96 (l_X6_sizeFrom_20 n) x1 y7 x4 x5 1 s11
        else
          j_X6_sizeFrom_96 (l_X6_sizeFrom_20 n) x1 y7 x4 x5 0 s11)
        (fun q => some (.inr q))
theorem wl_X6_sizeFrom_20 {x1 : Int} {x4 : Int} {rv : Option vA} {σo : vS}  (rx1 : rg x1) (rx4 : rg x4) : ∀ (n : Nat) (x3 : Int) (x5 : Int) (x6 : Int) (s : vS) (q : (Int × vS) ⊕ (Int × vS)), l_X6_sizeFrom_20 n x1 x3 x4 x5 x6 s = some q → rg x3 → rg x5 → rg x6 → E_X6_sizeFrom_20 x1 x4 rv σo q → VW cX6_sizeFrom (RX6, rv, σo, (some .int), 6, 138, 8, []) (P0 []) s 20 [(0, vO 13), (1, vI x1), (3, vI x3), (4, vI x4), (5, vI x5), (6, vI x6)] [] := by
  intro n
  induction n with
  | zero => intro x3 x5 x6 s q h; cases h
  | succ n ih =>
    intro x3 x5 x6 s q h rx3 rx5 rx6 hE
    unfold l_X6_sizeFrom_20 at h
    refine v_iload dX6_sizeFrom_20 5 rfl ?_
    refine v_if_eq (tgt := 114) dX6_sizeFrom_22 rx6 (by decide) (fun c1 => ?_) (fun c1 => ?_)
    · rw [if_pos c1] at h
      cases h
      refine v_sub [0, 1, 2, 3] (L1 := [(0, vO 13), (1, vI x1), (3, vI x3), (4, vI x4)]) rfl ?_
      exact hE.1 _ _ rfl rx3
    · rw [if_neg c1] at h
      refine v_aload_n dX6_sizeFrom_25 0 rfl rfl ?_
      refine v_getS (f := 1) (t := 10) cf6 oc13 rfl rfl rfl (by decide) q628 dX6_sizeFrom_26 ?_
      refine v_iload dX6_sizeFrom_29 4 rfl ?_
      obtain ⟨r5, s2, e3, h⟩ := bd_some h
      have k4 := c_X4_limits e3 rx5
      have r6 : rg r5 := k4.1.2.2
      refine v_callV (st := []) cf4 oc10 k4 (lw_V q1579 q1396 q1397 q301 q1398) rfl yk_X4_limits ⟨Nat.le_of_ble_eq_true rfl, Nat.le_of_ble_eq_true rfl⟩ trivial ⟨kc13, trivial⟩ (Nat.le_of_ble_eq_true rfl) rfl dX6_sizeFrom_31 ?_
      refine v_istore (L1 := [(7, vI r5), (0, vO 13), (1, vI x1), (3, vI x3), (4, vI x4), (5, vI x5), (6, vI x6)]) dX6_sizeFrom_34 (by decide) rfl ?_
      refine v_sub [1, 2, 3, 4, 5, 0] (L1 := [(0, vO 13), (1, vI x1), (3, vI x3), (4, vI x4), (5, vI x5), (7, vI r5)]) rfl ?_
      rcases lqs_1_some h with ⟨y7, s8, e9, h⟩ | ⟨q9, e9, h⟩
      · refine wl_X6_sizeFrom_36 rx1 rx4 rx5 FU x3 r5 s2 _ e9 rx3 r6 ?_
        unfold E_X6_sizeFrom_36
        refine ⟨?_, fun v9 s9 z_ => (by cases z_)⟩
        intro y7' s8' z_ r10
        cases z_
        refine v_aload_n dX6_sizeFrom_77 0 rfl rfl ?_
        refine v_getS (f := 1) (t := 10) cf6 oc13 rfl rfl rfl (by decide) q628 dX6_sizeFrom_78 ?_
        refine v_iload dX6_sizeFrom_81 4 rfl ?_
        obtain ⟨r14, s11, e12, h⟩ := bd_some h
        have k13 := c_X4_kind e12 rx5
        have r15 : rg r14 := k13.1.2.2
        refine v_callV (st := []) cf4 oc10 k13 (lw_V q1445 q1446 q1447 q301 q1448) rfl yk_X4_kind ⟨Nat.le_of_ble_eq_true rfl, Nat.le_of_ble_eq_true rfl⟩ trivial ⟨kc13, trivial⟩ (Nat.le_of_ble_eq_true rfl) rfl dX6_sizeFrom_83 ?_
        refine v_bipush dX6_sizeFrom_86 rfl ?_
        refine v_icmp_ne (tgt := 95) dX6_sizeFrom_88 r15 (rgl rfl) (by decide) (fun c16 => ?_) (fun c16 => ?_)
        · rw [if_neg c16] at h
          refine v_iconst dX6_sizeFrom_95 ?_
          exact wj_X6_sizeFrom_96 h rx1 r10 rx4 rx5 (rgl rfl) ih hE
        · rw [if_pos c16] at h
          refine v_iconst dX6_sizeFrom_91 ?_
          refine v_goto (tgt := 96) dX6_sizeFrom_92 (by decide) ?_
          exact wj_X6_sizeFrom_96 h rx1 r10 rx4 rx5 (rgl rfl) ih hE
      · cases h
        refine wl_X6_sizeFrom_36 rx1 rx4 rx5 FU x3 r5 s2 _ e9 rx3 r6 ?_
        unfold E_X6_sizeFrom_36
        refine ⟨fun _ _ z_ => (by cases z_), ?_⟩
        intro v9 s9 z_
        cases z_
        exact hE.2 _ _ rfl

def l_X6_sizeFrom_5 : Nat → Int → Int → Int → vS → Option ((Int × vS) ⊕ (Int × vS))
  | 0, _, _, _, _ => none
  | n + 1, x1, x3, x4, s =>
    if x3 = x4 then
      some (.inl (x3, s))
    else
      lqs_1 (l_X6_sizeFrom_20 FU x1 x3 x3 x1 1 s) (fun y2 s3 =>
        l_X6_sizeFrom_5 n x1 y2 x3 s3)
        (fun q => some (.inr q))
theorem wl_X6_sizeFrom_5 {x1 : Int} {rv : Option vA} {σo : vS}  (rx1 : rg x1) : ∀ (n : Nat) (x3 : Int) (x4 : Int) (s : vS) (q : (Int × vS) ⊕ (Int × vS)), l_X6_sizeFrom_5 n x1 x3 x4 s = some q → rg x3 → rg x4 → E_X6_sizeFrom_5 rv σo q → VW cX6_sizeFrom (RX6, rv, σo, (some .int), 6, 138, 8, []) (P0 []) s 5 [(0, vO 13), (1, vI x1), (3, vI x3), (4, vI x4)] [] := by
  intro n
  induction n with
  | zero => intro x3 x4 s q h; cases h
  | succ n ih =>
    intro x3 x4 s q h rx3 rx4 hE
    unfold l_X6_sizeFrom_5 at h
    refine v_iload_n dX6_sizeFrom_5 2 rfl rfl ?_
    refine v_iload dX6_sizeFrom_6 3 rfl ?_
    refine v_icmp_eq (tgt := 117) dX6_sizeFrom_8 rx3 rx4 (by decide) (fun c1 => ?_) (fun c1 => ?_)
    · rw [if_pos c1] at h
      cases h
      refine v_sub [2] (L1 := [(3, vI x3)]) rfl ?_
      exact hE.1 _ _ rfl rx3
    · rw [if_neg c1] at h
      refine v_iload_n dX6_sizeFrom_11 2 rfl rfl ?_
      refine v_istore (L1 := [(4, vI x3), (0, vO 13), (1, vI x1), (3, vI x3)]) dX6_sizeFrom_12 (by decide) rfl ?_
      refine v_iload_n dX6_sizeFrom_14 2 rfl rfl ?_
      refine v_istore (L1 := [(5, vI x1), (4, vI x3), (0, vO 13), (1, vI x1), (3, vI x3)]) dX6_sizeFrom_15 (by decide) rfl ?_
      refine v_iconst dX6_sizeFrom_17 ?_
      refine v_istore (L1 := [(6, vI 1), (5, vI x1), (4, vI x3), (0, vO 13), (1, vI x1), (3, vI x3)]) dX6_sizeFrom_18 (by decide) rfl ?_
      refine v_sub [3, 4, 5, 2, 1, 0] (L1 := [(0, vO 13), (1, vI x1), (3, vI x3), (4, vI x3), (5, vI x1), (6, vI 1)]) rfl ?_
      rcases lqs_1_some h with ⟨y2, s3, e4, h⟩ | ⟨q9, e4, h⟩
      · refine wl_X6_sizeFrom_20 rx1 rx3 FU x3 x1 1 s _ e4 rx3 rx1 (rgl rfl) ?_
        unfold E_X6_sizeFrom_20
        refine ⟨?_, fun v9 s9 z_ => (by cases z_)⟩
        intro y2' s3' z_ r5
        cases z_
        refine v_goto (tgt := 5) dX6_sizeFrom_114 (by decide) ?_
        exact ih y2 x3 s3 _ h r5 rx3 hE
      · cases h
        refine wl_X6_sizeFrom_20 rx1 rx3 FU x3 x1 1 s _ e4 rx3 rx1 (rgl rfl) ?_
        unfold E_X6_sizeFrom_20
        refine ⟨fun _ _ z_ => (by cases z_), ?_⟩
        intro v9 s9 z_
        cases z_
        exact hE.2 _ _ rfl

def f_X6_sizeFrom (x1 : Int) (x2 : Int) (s : vS) : Option (Int × vS) :=
  lqs_1 (l_X6_sizeFrom_5 FU x1 x2 (-1) s) (fun y1 s2 =>
    some (y1, s2))
    (fun q => some q)
theorem yk_X6_sizeFrom : yOk yX6_sizeFrom 2 := ⟨by decide, by decide, by decide +kernel⟩
theorem c_X6_sizeFrom {x1 : Int} {x2 : Int} {s : vS} {out : Int × vS} (h : f_X6_sizeFrom x1 x2 s = some out)  (rx1 : rg x1) (rx2 : rg x2) : VC yX6_sizeFrom cX6_sizeFrom 8 (some .int) 6 138 [vO 13, vI x1, vI x2] s (some (vI out.1)) out.2 [] := by
  unfold f_X6_sizeFrom at h
  refine VC.of RX6 (by decide) rfl (Nat.le_of_ble_eq_true rfl) ?_
  show VW cX6_sizeFrom (RX6, (some (vI out.1)), out.2, (some .int), 6, 138, 8, []) (P0 []) s 0 [(0, vO 13), (1, vI x1), (2, vI x2)] []
  refine v_iload_n dX6_sizeFrom_0 2 rfl rfl ?_
  refine v_istore_n (L1 := [(3, vI x2), (0, vO 13), (1, vI x1), (2, vI x2)]) dX6_sizeFrom_1 rfl (by decide) rfl ?_
  refine v_iconst dX6_sizeFrom_2 ?_
  refine v_istore (L1 := [(4, vI (-1)), (3, vI x2), (0, vO 13), (1, vI x1), (2, vI x2)]) dX6_sizeFrom_3 (by decide) rfl ?_
  refine v_sub [2, 3, 1, 0] (L1 := [(0, vO 13), (1, vI x1), (3, vI x2), (4, vI (-1))]) rfl ?_
  rcases lqs_1_some h with ⟨y1, s2, e3, h⟩ | ⟨q9, e3, h⟩
  · refine wl_X6_sizeFrom_5 rx1 FU x2 (-1) s _ e3 rx2 (rgl rfl) ?_
    unfold E_X6_sizeFrom_5
    refine ⟨?_, fun v9 s9 z_ => (by cases z_)⟩
    intro y1' s2' z_ r4
    cases z_
    refine v_iload_n dX6_sizeFrom_117 0 rfl rfl ?_
    cases h
    exact v_iret r4 dX6_sizeFrom_118
  · cases h
    refine wl_X6_sizeFrom_5 rx1 FU x2 (-1) s _ e3 rx2 (rgl rfl) ?_
    unfold E_X6_sizeFrom_5
    refine ⟨fun _ _ z_ => (by cases z_), ?_⟩
    intro v9 s9 z_
    cases z_
    exact ⟨rfl, rfl⟩

def E_X6_hasLimits_2 (rv : Option vA) (σo : vS) (q : Int × vS) : Prop := ∀ (x2' : Int) (s' : vS), q = (x2', s') → rg x2' → VW cX6_hasLimits (RX6, rv, σo, (some .boolean), 6, 138, 3, []) (P0 []) s' 36 [(0, vO 13), (2, vI x2')] []
def l_X6_hasLimits_2 : Nat → Int → vS → Option (Int × vS)
  | 0, _, _ => none
  | n + 1, x2, s =>
    bd (f_X4_limits x2 s) fun r4 s1 =>
    if r4 = (-1) then
      bd (f_X4_kind x2 s1) fun r10 s7 =>
      if r10 = 17 then
        bd (f_X6_assignedType x2 s7) fun r16 s13 =>
        l_X6_hasLimits_2 n r16 s13
      else
        some (x2, s7)
    else
      some (x2, s1)
theorem wl_X6_hasLimits_2 {rv : Option vA} {σo : vS}  : ∀ (n : Nat) (x2 : Int) (s : vS) (q : Int × vS), l_X6_hasLimits_2 n x2 s = some q → rg x2 → E_X6_hasLimits_2 rv σo q → VW cX6_hasLimits (RX6, rv, σo, (some .boolean), 6, 138, 3, []) (P0 []) s 2 [(0, vO 13), (2, vI x2)] [] := by
  intro n
  induction n with
  | zero => intro x2 s q h; cases h
  | succ n ih =>
    intro x2 s q h rx2 hE
    unfold l_X6_hasLimits_2 at h
    refine v_aload_n dX6_hasLimits_2 0 rfl rfl ?_
    refine v_getS (f := 1) (t := 10) cf6 oc13 rfl rfl rfl (by decide) q628 dX6_hasLimits_3 ?_
    refine v_iload_n dX6_hasLimits_6 1 rfl rfl ?_
    obtain ⟨r4, s1, e2, h⟩ := bd_some h
    have k3 := c_X4_limits e2 rx2
    have r5 : rg r4 := k3.1.2.2
    refine v_callV (st := []) cf4 oc10 k3 (lw_V q1579 q1396 q1397 q301 q1398) rfl yk_X4_limits ⟨Nat.le_of_ble_eq_true rfl, Nat.le_of_ble_eq_true rfl⟩ trivial ⟨kc13, trivial⟩ (Nat.le_of_ble_eq_true rfl) rfl dX6_hasLimits_7 ?_
    refine v_iconst dX6_hasLimits_10 ?_
    refine v_icmp_ne (tgt := 36) dX6_hasLimits_11 r5 (rgl rfl) (by decide) (fun c6 => ?_) (fun c6 => ?_)
    · rw [if_neg c6] at h
      cases h
      exact hE _ _ rfl rx2
    · rw [if_pos c6] at h
      refine v_aload_n dX6_hasLimits_14 0 rfl rfl ?_
      refine v_getS (f := 1) (t := 10) cf6 oc13 rfl rfl rfl (by decide) q628 dX6_hasLimits_15 ?_
      refine v_iload_n dX6_hasLimits_18 1 rfl rfl ?_
      obtain ⟨r10, s7, e8, h⟩ := bd_some h
      have k9 := c_X4_kind e8 rx2
      have r11 : rg r10 := k9.1.2.2
      refine v_callV (st := []) cf4 oc10 k9 (lw_V q1445 q1446 q1447 q301 q1448) rfl yk_X4_kind ⟨Nat.le_of_ble_eq_true rfl, Nat.le_of_ble_eq_true rfl⟩ trivial ⟨kc13, trivial⟩ (Nat.le_of_ble_eq_true rfl) rfl dX6_hasLimits_19 ?_
      refine v_bipush dX6_hasLimits_22 rfl ?_
      refine v_icmp_ne (tgt := 36) dX6_hasLimits_24 r11 (rgl rfl) (by decide) (fun c12 => ?_) (fun c12 => ?_)
      · rw [if_neg c12] at h
        cases h
        exact hE _ _ rfl rx2
      · rw [if_pos c12] at h
        refine v_aload_n dX6_hasLimits_27 0 rfl rfl ?_
        refine v_iload_n dX6_hasLimits_28 1 rfl rfl ?_
        obtain ⟨r16, s13, e14, h⟩ := bd_some h
        have k15 := c_X6_assignedType e14 rx2
        have r17 : rg r16 := k15.1.2.2
        refine v_callV (st := []) cf6 oc13 k15 (lw_V q1571 q1573 qs57 q303 q1574) rfl yk_X6_assignedType ⟨Nat.le_of_ble_eq_true rfl, Nat.le_of_ble_eq_true rfl⟩ trivial ⟨kc13, trivial⟩ (Nat.le_of_ble_eq_true rfl) rfl dX6_hasLimits_29 ?_
        refine v_istore_n (L1 := [(2, vI r16), (0, vO 13)]) dX6_hasLimits_32 rfl (by decide) rfl ?_
        refine v_goto (tgt := 2) dX6_hasLimits_33 (by decide) ?_
        refine v_sub [1, 0] (L1 := [(0, vO 13), (2, vI r16)]) rfl ?_
        exact ih r16 s13 _ h r17 hE

def j_X6_hasLimits_36 (x2 : Int) (s : vS) : Option (Int × vS) :=
  bd (f_X4_limits x2 s) fun r4 s1 =>
  if r4 = (-1) then
    some (0, s1)
  else
    some (1, s1)
theorem wj_X6_hasLimits_36 {x2 : Int} {s : vS} {out : Int × vS} (h : j_X6_hasLimits_36 x2 s = some out)  (rx2 : rg x2) : VW cX6_hasLimits (RX6, (some (vI out.1)), out.2, (some .boolean), 6, 138, 3, []) (P0 []) s 36 [(0, vO 13), (2, vI x2)] [] := by
  unfold j_X6_hasLimits_36 at h
  refine v_aload_n dX6_hasLimits_36 0 rfl rfl ?_
  refine v_getS (f := 1) (t := 10) cf6 oc13 rfl rfl rfl (by decide) q628 dX6_hasLimits_37 ?_
  refine v_iload_n dX6_hasLimits_40 1 rfl rfl ?_
  obtain ⟨r4, s1, e2, h⟩ := bd_some h
  have k3 := c_X4_limits e2 rx2
  have r5 : rg r4 := k3.1.2.2
  refine v_callV (st := []) cf4 oc10 k3 (lw_V q1579 q1396 q1397 q301 q1398) rfl yk_X4_limits ⟨Nat.le_of_ble_eq_true rfl, Nat.le_of_ble_eq_true rfl⟩ trivial ⟨kc13, trivial⟩ (Nat.le_of_ble_eq_true rfl) rfl dX6_hasLimits_41 ?_
  refine v_iconst dX6_hasLimits_44 ?_
  refine v_icmp_eq (tgt := 52) dX6_hasLimits_45 r5 (rgl rfl) (by decide) (fun c6 => ?_) (fun c6 => ?_)
  · rw [if_pos c6] at h
    refine v_iconst dX6_hasLimits_52 ?_
    cases h
    exact v_zret (Or.inl rfl) dX6_hasLimits_53
  · rw [if_neg c6] at h
    refine v_iconst dX6_hasLimits_48 ?_
    refine v_goto (tgt := 53) dX6_hasLimits_49 (by decide) ?_
    cases h
    exact v_zret (Or.inr rfl) dX6_hasLimits_53

def f_X6_hasLimits (x1 : Int) (s : vS) : Option (Int × vS) :=
  lq_1 (l_X6_hasLimits_2 FU x1 s) fun y1 s2 =>
  j_X6_hasLimits_36 y1 s2
theorem yk_X6_hasLimits : yOk yX6_hasLimits 1 := ⟨by decide, by decide, by decide +kernel⟩
theorem c_X6_hasLimits {x1 : Int} {s : vS} {out : Int × vS} (h : f_X6_hasLimits x1 s = some out)  (rx1 : rg x1) : VC yX6_hasLimits cX6_hasLimits 3 (some .boolean) 6 138 [vO 13, vI x1] s (some (vI out.1)) out.2 [] := by
  unfold f_X6_hasLimits at h
  refine VC.of RX6 (by decide) rfl (Nat.le_of_ble_eq_true rfl) ?_
  show VW cX6_hasLimits (RX6, (some (vI out.1)), out.2, (some .boolean), 6, 138, 3, []) (P0 []) s 0 [(0, vO 13), (1, vI x1)] []
  refine v_iload_n dX6_hasLimits_0 1 rfl rfl ?_
  refine v_istore_n (L1 := [(2, vI x1), (0, vO 13), (1, vI x1)]) dX6_hasLimits_1 rfl (by decide) rfl ?_
  refine v_sub [1, 0] (L1 := [(0, vO 13), (2, vI x1)]) rfl ?_
  obtain ⟨y1, s2, e3, h⟩ := lq_1_some h
  refine wl_X6_hasLimits_2  FU x1 s _ e3 rx1 ?_
  unfold E_X6_hasLimits_2
  intro y1' s2' z_ r4
  cases z_
  exact wj_X6_hasLimits_36 h r4

def f_X6_bitsOf (x1 : Int) (x2 : Int) (p3 : Nat) (x4 : Int) (x5 : Int) (s : vS) : Option (Int × vS) :=
  bd (f_X6_hasItems x2 s) fun r4 s1 =>
  if r4 = 0 then
    bd (f_X11_bits p3 x4 x5 s1) fun r27 s24 =>
    bd (f_X6_isSize x1 r27 s24) fun r32 s29 =>
    if r32 = 0 then
      some ((-1), s29)
    else
      some (r27, s29)
  else
    bd (f_X11_needed p3 x4 x5 s1) fun r10 s7 =>
    bd (f_X6_sizeFrom x1 r10 s7) fun r15 s12 =>
    if r15 ≤ 64 then
      some (r15, s12)
    else
      bd (f_X6_hasLimits x1 s12) fun r21 s18 =>
      if r21 = 0 then
        some (r15, s18)
      else
        some ((-1), s18)
theorem yk_X6_bitsOf : yOk yX6_bitsOf 5 := ⟨by decide, by decide, by decide +kernel⟩
theorem c_X6_bitsOf {x1 : Int} {x2 : Int} {p3 : Nat} {x4 : Int} {x5 : Int} {s : vS} {out : Int × vS} (h : f_X6_bitsOf x1 x2 p3 x4 x5 s = some out) (hp3 : okB p3 1) (rx1 : rg x1) (rx2 : rg x2) (rx4 : rg x4) (rx5 : rg x5) : VC yX6_bitsOf cX6_bitsOf 7 (some .int) 7 165 [vO 13, vI x1, vI x2, vO p3, vI x4, vI x5] s (some (vI out.1)) out.2 [] := by
  unfold f_X6_bitsOf at h
  refine VC.of RX6 (by decide) rfl (Nat.le_of_ble_eq_true rfl) ?_
  show VW cX6_bitsOf (RX6, (some (vI out.1)), out.2, (some .int), 7, 165, 7, []) (P0 []) s 0 [(0, vO 13), (1, vI x1), (2, vI x2), (3, vO p3), (4, vI x4), (5, vI x5)] []
  refine v_aload_n dX6_bitsOf_0 0 rfl rfl ?_
  refine v_iload_n dX6_bitsOf_1 2 rfl rfl ?_
  obtain ⟨r4, s1, e2, h⟩ := bd_some h
  have k3 := c_X6_hasItems e2 rx2
  have r5 : rg r4 := k3.1.2.2
  refine v_callV (st := []) cf6 oc13 k3 (lw_V q1740 q1741 q1742 q303 q1743) rfl yk_X6_hasItems ⟨Nat.le_of_ble_eq_true rfl, Nat.le_of_ble_eq_true rfl⟩ trivial ⟨kc13, (okB_kp hp3 (by decide)), trivial⟩ (Nat.le_of_ble_eq_true rfl) rfl dX6_bitsOf_2 ?_
  refine v_if_ne (tgt := 35) dX6_bitsOf_5 r5 (by decide) (fun c6 => ?_) (fun c6 => ?_)
  · rw [if_neg c6] at h
    refine v_aload_n dX6_bitsOf_35 0 rfl rfl ?_
    refine v_iload_n dX6_bitsOf_36 1 rfl rfl ?_
    refine v_aload_n dX6_bitsOf_37 3 rfl rfl ?_
    refine v_iload dX6_bitsOf_38 4 rfl ?_
    refine v_iload dX6_bitsOf_40 5 rfl ?_
    obtain ⟨r10, s7, e8, h⟩ := bd_some h
    have k9 := c_X11_needed e8 hp3 rx4 rx5
    have r11 : rg r10 := k9.1.2.2
    refine v_callS (st := [vI x1, vO 13]) k9 (lw_S q1762 q1763 q308 q1764) yk_X11_needed ⟨Nat.le_of_ble_eq_true rfl, Nat.le_of_ble_eq_true rfl⟩ ⟨kc13, trivial⟩ ⟨kc13, (okB_kp hp3 (by decide)), trivial⟩ (Nat.le_of_ble_eq_true rfl) rfl dX6_bitsOf_42 ?_
    obtain ⟨r15, s12, e13, h⟩ := bd_some h
    have k14 := c_X6_sizeFrom e13 rx1 r11
    have r16 : rg r15 := k14.1.2.2
    refine v_callV (st := []) cf6 oc13 k14 (lw_V q1769 q1770 q1771 q303 q1772) rfl yk_X6_sizeFrom ⟨Nat.le_of_ble_eq_true rfl, Nat.le_of_ble_eq_true rfl⟩ trivial ⟨kc13, (okB_kp hp3 (by decide)), trivial⟩ (Nat.le_of_ble_eq_true rfl) rfl dX6_bitsOf_45 ?_
    refine v_istore (L1 := [(6, vI r15), (0, vO 13), (1, vI x1), (2, vI x2), (3, vO p3), (4, vI x4), (5, vI x5)]) dX6_bitsOf_48 (by decide) rfl ?_
    refine v_iload dX6_bitsOf_50 0 rfl ?_
    refine v_bipush dX6_bitsOf_52 rfl ?_
    refine v_icmp_le (tgt := 65) dX6_bitsOf_54 r16 (rgl rfl) (by decide) (fun c17 => ?_) (fun c17 => ?_)
    · rw [if_pos c17] at h
      refine v_iload dX6_bitsOf_65 0 rfl ?_
      refine v_goto (tgt := 71) dX6_bitsOf_67 (by decide) ?_
      cases h
      exact v_iret r16 dX6_bitsOf_71
    · rw [if_neg c17] at h
      refine v_aload_n dX6_bitsOf_57 1 rfl rfl ?_
      refine v_iload_n dX6_bitsOf_58 2 rfl rfl ?_
      obtain ⟨r21, s18, e19, h⟩ := bd_some h
      have k20 := c_X6_hasLimits e19 rx1
      have r22 : rg r21 := k20.1.2.2
      refine v_callV (st := []) cf6 oc13 k20 (lw_V q1773 q1775 qs93 q303 q1776) rfl yk_X6_hasLimits ⟨Nat.le_of_ble_eq_true rfl, Nat.le_of_ble_eq_true rfl⟩ trivial ⟨kc13, (okB_kp hp3 (by decide)), trivial⟩ (Nat.le_of_ble_eq_true rfl) rfl dX6_bitsOf_59 ?_
      refine v_if_ne (tgt := 70) dX6_bitsOf_62 r22 (by decide) (fun c23 => ?_) (fun c23 => ?_)
      · rw [if_neg c23] at h
        refine v_iconst dX6_bitsOf_70 ?_
        cases h
        exact v_iret (rgl rfl) dX6_bitsOf_71
      · rw [if_pos c23] at h
        refine v_iload dX6_bitsOf_65 0 rfl ?_
        refine v_goto (tgt := 71) dX6_bitsOf_67 (by decide) ?_
        cases h
        exact v_iret r16 dX6_bitsOf_71
  · rw [if_pos c6] at h
    refine v_aload_n dX6_bitsOf_8 3 rfl rfl ?_
    refine v_iload dX6_bitsOf_9 4 rfl ?_
    refine v_iload dX6_bitsOf_11 5 rfl ?_
    obtain ⟨r27, s24, e25, h⟩ := bd_some h
    have k26 := c_X11_bits e25 hp3 rx4 rx5
    have r28 : rg r27 := k26.1.2.2
    refine v_callS (st := []) k26 (lw_S q1744 q1745 q308 q1746) yk_X11_bits ⟨Nat.le_of_ble_eq_true rfl, Nat.le_of_ble_eq_true rfl⟩ trivial ⟨kc13, (okB_kp hp3 (by decide)), trivial⟩ (Nat.le_of_ble_eq_true rfl) rfl dX6_bitsOf_13 ?_
    refine v_istore (L1 := [(6, vI r27), (0, vO 13), (1, vI x1), (2, vI x2), (3, vO p3), (4, vI x4), (5, vI x5)]) dX6_bitsOf_16 (by decide) rfl ?_
    refine v_aload_n dX6_bitsOf_18 1 rfl rfl ?_
    refine v_iload_n dX6_bitsOf_19 2 rfl rfl ?_
    refine v_iload dX6_bitsOf_20 0 rfl ?_
    obtain ⟨r32, s29, e30, h⟩ := bd_some h
    have k31 := c_X6_isSize e30 rx1 r28
    have r33 : rg r32 := k31.1.2.2
    refine v_callV (st := []) cf6 oc13 k31 (lw_V q1748 q1749 q1750 q303 q1751) rfl yk_X6_isSize ⟨Nat.le_of_ble_eq_true rfl, Nat.le_of_ble_eq_true rfl⟩ trivial ⟨kc13, (okB_kp hp3 (by decide)), trivial⟩ (Nat.le_of_ble_eq_true rfl) rfl dX6_bitsOf_22 ?_
    refine v_if_eq (tgt := 33) dX6_bitsOf_25 r33 (by decide) (fun c34 => ?_) (fun c34 => ?_)
    · rw [if_pos c34] at h
      refine v_iconst dX6_bitsOf_33 ?_
      cases h
      exact v_iret (rgl rfl) dX6_bitsOf_34
    · rw [if_neg c34] at h
      refine v_iload dX6_bitsOf_28 0 rfl ?_
      refine v_goto (tgt := 34) dX6_bitsOf_30 (by decide) ?_
      cases h
      exact v_iret r28 dX6_bitsOf_34

def E_X11_write_26 (p0 : Nat) (p4 : Nat) (rv : Option vA) (σo : vS) (q : vS) : Prop := ∀ (s' : vS), q = s' → VW cX11_write (RX11, rv, σo, none, 3, 70, 9, []) (P0 []) s' 108 [] []
def E_X11_write_38 (p0 : Nat) (p4 : Nat) (x1 : Int) (x3 : Int) (x5 : Int) (x6 : Int) (rv : Option vA) (σo : vS) (q : Int × vS) : Prop := ∀ (x7' : Int) (s' : vS), q = (x7', s') → rg x7' → VW cX11_write (RX11, rv, σo, none, 3, 70, 9, []) (P0 []) s' 95 [(0, vO p0), (1, vI x1), (3, vI x3), (4, vO p4), (5, vI x5), (6, vI x6), (7, vI x7')] []
def l_X11_write_38 (p0 : Nat) (p4 : Nat) : Nat → Int → Int → Int → Int → Int → Int → vS → Option (Int × vS)
  | 0, _, _, _, _, _, _, _ => none
  | n + 1, x1, x3, x5, x6, x7, x8, s =>
    if 8 ≤ x8 then
      some (x7, s)
    else
      if x3 ≤ (w32 (x6 + x8)) then
        vl (or32 (shl32 x7 1) 0) fun y3 =>
        vl (w32 (x8 + 1)) fun y6 =>
        l_X11_write_38 p0 p4 n x1 x3 x5 x6 y3 y6 s
      else
        if x5 ≤ (w32 (x6 + x8)) then
          vl (or32 (shl32 x7 1) 0) fun y10 =>
          vl (w32 (x8 + 1)) fun y13 =>
          l_X11_write_38 p0 p4 n x1 x3 x5 x6 y10 y13 s
        else
          bd (f_X11_bit p0 x1 (w32 (x6 + x8)) s) fun r19 s16 =>
          if r19 = 0 then
            vl (or32 (shl32 x7 1) 0) fun y22 =>
            vl (w32 (x8 + 1)) fun y25 =>
            l_X11_write_38 p0 p4 n x1 x3 x5 x6 y22 y25 s16
          else
            vl (or32 (shl32 x7 1) 1) fun y28 =>
            vl (w32 (x8 + 1)) fun y31 =>
            l_X11_write_38 p0 p4 n x1 x3 x5 x6 y28 y31 s16
theorem wl_X11_write_38 (p0 : Nat) (p4 : Nat) {x1 : Int} {x3 : Int} {x5 : Int} {x6 : Int} {rv : Option vA} {σo : vS} (hp0 : okB p0 1) (hp4 : okB p4 1) (rx1 : rg x1) (rx3 : rg x3) (rx5 : rg x5) (rx6 : rg x6) : ∀ (n : Nat) (x7 : Int) (x8 : Int) (s : vS) (q : Int × vS), l_X11_write_38 p0 p4 n x1 x3 x5 x6 x7 x8 s = some q → rg x7 → rg x8 → E_X11_write_38 p0 p4 x1 x3 x5 x6 rv σo q → VW cX11_write (RX11, rv, σo, none, 3, 70, 9, []) (P0 []) s 38 [(0, vO p0), (1, vI x1), (3, vI x3), (4, vO p4), (5, vI x5), (6, vI x6), (7, vI x7), (8, vI x8)] [] := by
  intro n
  induction n with
  | zero => intro x7 x8 s q h; cases h
  | succ n ih =>
    intro x7 x8 s q h rx7 rx8 hE
    unfold l_X11_write_38 at h
    refine v_iload dX11_write_38 7 rfl ?_
    refine v_bipush dX11_write_40 rfl ?_
    refine v_icmp_ge (tgt := 95) dX11_write_42 rx8 (rgl rfl) (by decide) (fun c1 => ?_) (fun c1 => ?_)
    · rw [if_pos c1] at h
      cases h
      refine v_sub [0, 1, 2, 3, 4, 5, 6] (L1 := [(0, vO p0), (1, vI x1), (3, vI x3), (4, vO p4), (5, vI x5), (6, vI x6), (7, vI x7)]) rfl ?_
      exact hE _ _ rfl rx7
    · rw [if_neg c1] at h
      refine v_iload dX11_write_45 6 rfl ?_
      refine v_iconst dX11_write_47 ?_
      refine v_ishl dX11_write_48 ?_
      refine v_iload dX11_write_49 5 rfl ?_
      refine v_iload dX11_write_51 7 rfl ?_
      refine v_iadd dX11_write_53 ?_
      refine v_iload_n dX11_write_54 2 rfl rfl ?_
      refine v_icmp_ge (tgt := 85) dX11_write_55 (w32_rg _) rx3 (by decide) (fun c2 => ?_) (fun c2 => ?_)
      · rw [if_pos c2] at h
        refine v_iconst dX11_write_85 ?_
        refine v_ior dX11_write_86 ?_
        obtain ⟨y3, e4, h⟩ := vl_some h
        rw [← e4]
        have r5 : rg y3 := by rw [e4]; exact or32_rg _ _
        refine v_istore (L1 := [(7, vI y3), (0, vO p0), (1, vI x1), (3, vI x3), (4, vO p4), (5, vI x5), (6, vI x6), (8, vI x8)]) dX11_write_87 (by decide) rfl ?_
        obtain ⟨y6, e7, h⟩ := vl_some h
        refine v_iinc (L1 := [(8, vI (w32 (x8 + 1))), (7, vI y3), (0, vO p0), (1, vI x1), (3, vI x3), (4, vO p4), (5, vI x5), (6, vI x6)]) dX11_write_89 7 rfl (by decide) rfl ?_
        rw [← e7]
        have r8 : rg y6 := by rw [e7]; exact w32_rg _
        refine v_goto (tgt := 38) dX11_write_92 (by decide) ?_
        refine v_sub [2, 3, 4, 5, 6, 7, 1, 0] (L1 := [(0, vO p0), (1, vI x1), (3, vI x3), (4, vO p4), (5, vI x5), (6, vI x6), (7, vI y3), (8, vI y6)]) rfl ?_
        exact ih y3 y6 s _ h r5 r8 hE
      · rw [if_neg c2] at h
        refine v_iload dX11_write_58 5 rfl ?_
        refine v_iload dX11_write_60 7 rfl ?_
        refine v_iadd dX11_write_62 ?_
        refine v_iload dX11_write_63 4 rfl ?_
        refine v_icmp_ge (tgt := 85) dX11_write_65 (w32_rg _) rx5 (by decide) (fun c9 => ?_) (fun c9 => ?_)
        · rw [if_pos c9] at h
          refine v_iconst dX11_write_85 ?_
          refine v_ior dX11_write_86 ?_
          obtain ⟨y10, e11, h⟩ := vl_some h
          rw [← e11]
          have r12 : rg y10 := by rw [e11]; exact or32_rg _ _
          refine v_istore (L1 := [(7, vI y10), (0, vO p0), (1, vI x1), (3, vI x3), (4, vO p4), (5, vI x5), (6, vI x6), (8, vI x8)]) dX11_write_87 (by decide) rfl ?_
          obtain ⟨y13, e14, h⟩ := vl_some h
          refine v_iinc (L1 := [(8, vI (w32 (x8 + 1))), (7, vI y10), (0, vO p0), (1, vI x1), (3, vI x3), (4, vO p4), (5, vI x5), (6, vI x6)]) dX11_write_89 7 rfl (by decide) rfl ?_
          rw [← e14]
          have r15 : rg y13 := by rw [e14]; exact w32_rg _
          refine v_goto (tgt := 38) dX11_write_92 (by decide) ?_
          refine v_sub [2, 3, 4, 5, 6, 7, 1, 0] (L1 := [(0, vO p0), (1, vI x1), (3, vI x3), (4, vO p4), (5, vI x5), (6, vI x6), (7, vI y10), (8, vI y13)]) rfl ?_
          exact ih y10 y13 s _ h r12 r15 hE
        · rw [if_neg c9] at h
          refine v_aload_n dX11_write_68 0 rfl rfl ?_
          refine v_iload_n dX11_write_69 1 rfl rfl ?_
          refine v_iload dX11_write_70 5 rfl ?_
          refine v_iload dX11_write_72 7 rfl ?_
          refine v_iadd dX11_write_74 ?_
          obtain ⟨r19, s16, e17, h⟩ := bd_some h
          have k18 := c_X11_bit e17 hp0 rx1 (w32_rg _)
          have r20 : rg r19 := k18.1.2.2
          refine v_callS (st := [vI (shl32 x7 1)]) k18 (lw_S q1766 q1767 q308 q1768) yk_X11_bit ⟨Nat.le_of_ble_eq_true rfl, Nat.le_of_ble_eq_true rfl⟩ trivial ⟨(okB_kp hp0 (by decide)), (okB_kp hp4 (by decide)), trivial⟩ (Nat.le_of_ble_eq_true rfl) rfl dX11_write_75 ?_
          refine v_if_eq (tgt := 85) dX11_write_78 r20 (by decide) (fun c21 => ?_) (fun c21 => ?_)
          · rw [if_pos c21] at h
            refine v_iconst dX11_write_85 ?_
            refine v_ior dX11_write_86 ?_
            obtain ⟨y22, e23, h⟩ := vl_some h
            rw [← e23]
            have r24 : rg y22 := by rw [e23]; exact or32_rg _ _
            refine v_istore (L1 := [(7, vI y22), (0, vO p0), (1, vI x1), (3, vI x3), (4, vO p4), (5, vI x5), (6, vI x6), (8, vI x8)]) dX11_write_87 (by decide) rfl ?_
            obtain ⟨y25, e26, h⟩ := vl_some h
            refine v_iinc (L1 := [(8, vI (w32 (x8 + 1))), (7, vI y22), (0, vO p0), (1, vI x1), (3, vI x3), (4, vO p4), (5, vI x5), (6, vI x6)]) dX11_write_89 7 rfl (by decide) rfl ?_
            rw [← e26]
            have r27 : rg y25 := by rw [e26]; exact w32_rg _
            refine v_goto (tgt := 38) dX11_write_92 (by decide) ?_
            refine v_sub [2, 3, 4, 5, 6, 7, 1, 0] (L1 := [(0, vO p0), (1, vI x1), (3, vI x3), (4, vO p4), (5, vI x5), (6, vI x6), (7, vI y22), (8, vI y25)]) rfl ?_
            exact ih y22 y25 s16 _ h r24 r27 hE
          · rw [if_neg c21] at h
            refine v_iconst dX11_write_81 ?_
            refine v_goto (tgt := 86) dX11_write_82 (by decide) ?_
            refine v_ior dX11_write_86 ?_
            obtain ⟨y28, e29, h⟩ := vl_some h
            rw [← e29]
            have r30 : rg y28 := by rw [e29]; exact or32_rg _ _
            refine v_istore (L1 := [(7, vI y28), (0, vO p0), (1, vI x1), (3, vI x3), (4, vO p4), (5, vI x5), (6, vI x6), (8, vI x8)]) dX11_write_87 (by decide) rfl ?_
            obtain ⟨y31, e32, h⟩ := vl_some h
            refine v_iinc (L1 := [(8, vI (w32 (x8 + 1))), (7, vI y28), (0, vO p0), (1, vI x1), (3, vI x3), (4, vO p4), (5, vI x5), (6, vI x6)]) dX11_write_89 7 rfl (by decide) rfl ?_
            rw [← e32]
            have r33 : rg y31 := by rw [e32]; exact w32_rg _
            refine v_goto (tgt := 38) dX11_write_92 (by decide) ?_
            refine v_sub [2, 3, 4, 5, 6, 7, 1, 0] (L1 := [(0, vO p0), (1, vI x1), (3, vI x3), (4, vO p4), (5, vI x5), (6, vI x6), (7, vI y28), (8, vI y31)]) rfl ?_
            exact ih y28 y31 s16 _ h r30 r33 hE

def l_X11_write_26 (p0 : Nat) (p4 : Nat) : Nat → Int → Int → Int → Int → vS → Option (vS)
  | 0, _, _, _, _, _ => none
  | n + 1, x1, x3, x5, x6, s =>
    if x3 ≤ x6 then
      some s
    else
      lq_1 (l_X11_write_38 p0 p4 FU x1 x3 x5 x6 0 0 s) fun y2 s3 =>
      bdv (f_X2_add p4 y2 s3) fun s6 =>
      vl (w32 (x6 + 8)) fun y9 =>
      l_X11_write_26 p0 p4 n x1 x3 x5 y9 s6
theorem wl_X11_write_26 (p0 : Nat) (p4 : Nat) {x1 : Int} {x3 : Int} {x5 : Int} {rv : Option vA} {σo : vS} (hp0 : okB p0 1) (hp4 : okB p4 1) (rx1 : rg x1) (rx3 : rg x3) (rx5 : rg x5) : ∀ (n : Nat) (x6 : Int) (s : vS) (q : vS), l_X11_write_26 p0 p4 n x1 x3 x5 x6 s = some q → rg x6 → E_X11_write_26 p0 p4 rv σo q → VW cX11_write (RX11, rv, σo, none, 3, 70, 9, []) (P0 []) s 26 [(0, vO p0), (1, vI x1), (3, vI x3), (4, vO p4), (5, vI x5), (6, vI x6)] [] := by
  intro n
  induction n with
  | zero => intro x6 s q h; cases h
  | succ n ih =>
    intro x6 s q h rx6 hE
    unfold l_X11_write_26 at h
    refine v_iload dX11_write_26 5 rfl ?_
    refine v_iload_n dX11_write_28 2 rfl rfl ?_
    refine v_icmp_ge (tgt := 108) dX11_write_29 rx6 rx3 (by decide) (fun c1 => ?_) (fun c1 => ?_)
    · rw [if_pos c1] at h
      cases h
      refine v_sub [] (L1 := []) rfl ?_
      exact hE _ rfl 
    · rw [if_neg c1] at h
      refine v_iconst dX11_write_32 ?_
      refine v_istore (L1 := [(7, vI 0), (0, vO p0), (1, vI x1), (3, vI x3), (4, vO p4), (5, vI x5), (6, vI x6)]) dX11_write_33 (by decide) rfl ?_
      refine v_iconst dX11_write_35 ?_
      refine v_istore (L1 := [(8, vI 0), (7, vI 0), (0, vO p0), (1, vI x1), (3, vI x3), (4, vO p4), (5, vI x5), (6, vI x6)]) dX11_write_36 (by decide) rfl ?_
      refine v_sub [2, 3, 4, 5, 6, 7, 1, 0] (L1 := [(0, vO p0), (1, vI x1), (3, vI x3), (4, vO p4), (5, vI x5), (6, vI x6), (7, vI 0), (8, vI 0)]) rfl ?_
      obtain ⟨y2, s3, e4, h⟩ := lq_1_some h
      refine wl_X11_write_38 p0 p4 hp0 hp4 rx1 rx3 rx5 rx6 FU 0 0 s _ e4 (rgl rfl) (rgl rfl) ?_
      unfold E_X11_write_38
      intro y2' s3' z_ r5
      cases z_
      refine v_aload dX11_write_95 3 rfl ?_
      refine v_iload dX11_write_97 6 rfl ?_
      obtain ⟨s6, e7, h⟩ := bdv_some h
      have k8 := c_X2_add e7 hp4 r5
      refine v_callV (st := []) cf2 (okB_ok hp4) k8 (lw_V q1780 q1003 q1004 q299 q1005) rfl yk_X2_add ⟨Nat.le_of_ble_eq_true rfl, Nat.le_of_ble_eq_true rfl⟩ trivial ⟨(okB_kp hp0 (by decide)), (okB_kp hp4 (by decide)), trivial⟩ (Nat.le_of_ble_eq_true rfl) rfl dX11_write_99 ?_
      obtain ⟨y9, e10, h⟩ := vl_some h
      refine v_iinc (L1 := [(6, vI (w32 (x6 + 8))), (0, vO p0), (1, vI x1), (3, vI x3), (4, vO p4), (5, vI x5), (7, vI y2)]) dX11_write_102 5 rfl (by decide) rfl ?_
      rw [← e10]
      have r11 : rg y9 := by rw [e10]; exact w32_rg _
      refine v_goto (tgt := 26) dX11_write_105 (by decide) ?_
      refine v_sub [1, 2, 3, 4, 5, 0] (L1 := [(0, vO p0), (1, vI x1), (3, vI x3), (4, vO p4), (5, vI x5), (6, vI y9)]) rfl ?_
      exact ih y9 s6 _ h r11 hE

def f_X11_write (p0 : Nat) (x1 : Int) (x2 : Int) (x3 : Int) (p4 : Nat) (s : vS) : Option (vS) :=
  bd (f_X11_bits p0 x1 x2 s) fun r4 s1 =>
  bdv (f_X2_add p4 (m32 (w32 (8 - (m32 x3 8))) 8) s1) fun s6 =>
  lq_0 (l_X11_write_26 p0 p4 FU x1 x3 r4 0 s6) fun s9 =>
  some s9
theorem yk_X11_write : yOk yX11_write 5 := ⟨by decide, by decide, by decide +kernel⟩
theorem c_X11_write {p0 : Nat} {x1 : Int} {x2 : Int} {x3 : Int} {p4 : Nat} {s : vS} {out : vS} (h : f_X11_write p0 x1 x2 x3 p4 s = some out) (hp0 : okB p0 1) (hp4 : okB p4 1) (rx1 : rg x1) (rx2 : rg x2) (rx3 : rg x3) : VC yX11_write cX11_write 9 none 3 70 [vO p0, vI x1, vI x2, vI x3, vO p4] s none out [] := by
  unfold f_X11_write at h
  refine VC.of RX11 (by decide) rfl (Nat.le_of_ble_eq_true rfl) ?_
  show VW cX11_write (RX11, none, out, none, 3, 70, 9, []) (P0 []) s 0 [(0, vO p0), (1, vI x1), (2, vI x2), (3, vI x3), (4, vO p4)] []
  refine v_aload_n dX11_write_0 0 rfl rfl ?_
  refine v_iload_n dX11_write_1 1 rfl rfl ?_
  refine v_iload_n dX11_write_2 2 rfl rfl ?_
  obtain ⟨r4, s1, e2, h⟩ := bd_some h
  have k3 := c_X11_bits e2 hp0 rx1 rx2
  have r5 : rg r4 := k3.1.2.2
  refine v_callS (st := []) k3 (lw_S q1765 q1745 q308 q1746) yk_X11_bits ⟨Nat.le_of_ble_eq_true rfl, Nat.le_of_ble_eq_true rfl⟩ trivial ⟨(okB_kp hp0 (by decide)), (okB_kp hp4 (by decide)), trivial⟩ (Nat.le_of_ble_eq_true rfl) rfl dX11_write_3 ?_
  refine v_istore (L1 := [(5, vI r4), (0, vO p0), (1, vI x1), (2, vI x2), (3, vI x3), (4, vO p4)]) dX11_write_6 (by decide) rfl ?_
  refine v_aload dX11_write_8 5 rfl ?_
  refine v_bipush dX11_write_10 rfl ?_
  refine v_iload_n dX11_write_12 4 rfl rfl ?_
  refine v_bipush dX11_write_13 rfl ?_
  refine v_irem dX11_write_15 (rgl rfl) (by decide) ?_
  refine v_isub dX11_write_16 ?_
  refine v_bipush dX11_write_17 rfl ?_
  refine v_irem dX11_write_19 (rgl rfl) (by decide) ?_
  obtain ⟨s6, e7, h⟩ := bdv_some h
  have k8 := c_X2_add e7 hp4 (m32_rg _ _)
  refine v_callV (st := []) cf2 (okB_ok hp4) k8 (lw_V q1780 q1003 q1004 q299 q1005) rfl yk_X2_add ⟨Nat.le_of_ble_eq_true rfl, Nat.le_of_ble_eq_true rfl⟩ trivial ⟨(okB_kp hp0 (by decide)), (okB_kp hp4 (by decide)), trivial⟩ (Nat.le_of_ble_eq_true rfl) rfl dX11_write_20 ?_
  refine v_iconst dX11_write_23 ?_
  refine v_istore (L1 := [(6, vI 0), (5, vI r4), (0, vO p0), (1, vI x1), (2, vI x2), (3, vI x3), (4, vO p4)]) dX11_write_24 (by decide) rfl ?_
  refine v_sub [2, 3, 5, 6, 1, 0] (L1 := [(0, vO p0), (1, vI x1), (3, vI x3), (4, vO p4), (5, vI r4), (6, vI 0)]) rfl ?_
  obtain ⟨s9, e10, h⟩ := lq_0_some h
  refine wl_X11_write_26 p0 p4 hp0 hp4 rx1 rx3 r5 FU 0 s6 _ e10 (rgl rfl) ?_
  unfold E_X11_write_26
  intro s9' z_
  cases z_
  cases h
  exact v_vret dX11_write_108

def f_X6_bits (x1 : Int) (x2 : Int) (x3 : Int) (s : vS) : Option (Int × vS) :=
  gd (inb x1 (gN s 34)) <|
  gd (inb x1 (gN s 35)) <|
  bd (f_X6_bitsOf x2 x3 30 (gE s 34 x1) (gE s 35 x1) s) fun r6 s3 =>
  if r6 = (-1) then
    some (0, s3)
  else
    bd (f_X6_hasItems x3 s3) fun r12 s9 =>
    if r12 = 0 then
      some (1, s9)
    else
      gd (inb x1 (gN s9 34)) <|
      gd (inb x1 (gN s9 35)) <|
      bd (f_X11_needed 30 (gE s9 34 x1) (gE s9 35 x1) s9) fun r20 s17 =>
      if r20 ≤ 64 then
        bdv (f_X2_clear 32 s17) fun s23 =>
        gd (inb x1 (gN s23 34)) <|
        gd (inb x1 (gN s23 35)) <|
        bdv (f_X11_write 30 (gE s23 34 x1) (gE s23 35 x1) r6 32 s23) fun s28 =>
        bd (f_X2_size 30 s28) fun r34 s31 =>
        gd (gN s31 34 = gN s28 34) <|
        gd (inb x1 (gN s31 34)) <|
        stp (sE s31 34 x1 r34) fun s38 =>
        bd (f_X2_size 32 s38) fun r43 s40 =>
        bdv (f_X2_all 30 32 0 r43 s40) fun s45 =>
        bd (f_X2_size 30 s45) fun r51 s48 =>
        gd (gN s48 35 = gN s45 35) <|
        gd (inb x1 (gN s48 35)) <|
        stp (sE s48 35 x1 r51) fun s55 =>
        some (1, s55)
      else
        some (0, s17)
theorem yk_X6_bits : yOk yX6_bits 3 := ⟨by decide, by decide, by decide +kernel⟩
theorem c_X6_bits {x1 : Int} {x2 : Int} {x3 : Int} {s : vS} {out : Int × vS} (h : f_X6_bits x1 x2 x3 s = some out)  (rx1 : rg x1) (rx2 : rg x2) (rx3 : rg x3) : VC yX6_bits cX6_bits 5 (some .boolean) 8 191 [vO 13, vI x1, vI x2, vI x3] s (some (vI out.1)) out.2 [] := by
  unfold f_X6_bits at h
  refine VC.of RX6 (by decide) rfl (Nat.le_of_ble_eq_true rfl) ?_
  show VW cX6_bits (RX6, (some (vI out.1)), out.2, (some .boolean), 8, 191, 5, []) (P0 []) s 0 [(0, vO 13), (1, vI x1), (2, vI x2), (3, vI x3)] []
  refine v_aload_n dX6_bits_0 0 rfl rfl ?_
  refine v_iload_n dX6_bits_1 2 rfl rfl ?_
  refine v_iload_n dX6_bits_2 3 rfl rfl ?_
  refine v_aload_n dX6_bits_3 0 rfl rfl ?_
  refine v_getS (f := 9) (t := 30) cf6 oc13 rfl rfl rfl (by decide) q636 dX6_bits_4 ?_
  refine v_aload_n dX6_bits_7 0 rfl rfl ?_
  refine v_getS (f := 11) (t := 34) cf6 oc13 rfl rfl rfl (by decide) q638 dX6_bits_8 ?_
  refine v_iload_n dX6_bits_11 1 rfl rfl ?_
  obtain ⟨g1, h⟩ := gd_some h
  refine v_iald oc34 rx1 g1.1 g1.2 dX6_bits_12 ?_
  refine v_aload_n dX6_bits_13 0 rfl rfl ?_
  refine v_getS (f := 12) (t := 35) cf6 oc13 rfl rfl rfl (by decide) q639 dX6_bits_14 ?_
  refine v_iload_n dX6_bits_17 1 rfl rfl ?_
  obtain ⟨g2, h⟩ := gd_some h
  refine v_iald oc35 rx1 g2.1 g2.2 dX6_bits_18 ?_
  obtain ⟨r6, s3, e4, h⟩ := bd_some h
  have k5 := c_X6_bitsOf e4 (⟨by decide, rfl⟩ : okB 30 1) rx2 rx3 (gE_rg _ _ _) (gE_rg _ _ _)
  have r7 : rg r6 := k5.1.2.2
  refine v_callV (st := []) cf6 oc13 k5 (lw_V q1736 q1737 q1738 q303 q1739) rfl yk_X6_bitsOf ⟨Nat.le_of_ble_eq_true rfl, Nat.le_of_ble_eq_true rfl⟩ trivial ⟨kc13, trivial⟩ (Nat.le_of_ble_eq_true rfl) rfl dX6_bits_19 ?_
  refine v_istore (L1 := [(4, vI r6), (0, vO 13), (1, vI x1), (2, vI x2), (3, vI x3)]) dX6_bits_22 (by decide) rfl ?_
  refine v_iload dX6_bits_24 0 rfl ?_
  refine v_iconst dX6_bits_26 ?_
  refine v_icmp_ne (tgt := 32) dX6_bits_27 r7 (rgl rfl) (by decide) (fun c8 => ?_) (fun c8 => ?_)
  · rw [if_neg c8] at h
    refine v_aload_n dX6_bits_32 1 rfl rfl ?_
    refine v_iload_n dX6_bits_33 4 rfl rfl ?_
    obtain ⟨r12, s9, e10, h⟩ := bd_some h
    have k11 := c_X6_hasItems e10 rx3
    have r13 : rg r12 := k11.1.2.2
    refine v_callV (st := []) cf6 oc13 k11 (lw_V q1740 q1741 q1742 q303 q1743) rfl yk_X6_hasItems ⟨Nat.le_of_ble_eq_true rfl, Nat.le_of_ble_eq_true rfl⟩ trivial ⟨kc13, trivial⟩ (Nat.le_of_ble_eq_true rfl) rfl dX6_bits_34 ?_
    refine v_if_ne (tgt := 42) dX6_bits_37 r13 (by decide) (fun c14 => ?_) (fun c14 => ?_)
    · rw [if_neg c14] at h
      refine v_aload_n dX6_bits_42 1 rfl rfl ?_
      refine v_getS (f := 9) (t := 30) cf6 oc13 rfl rfl rfl (by decide) q636 dX6_bits_43 ?_
      refine v_aload_n dX6_bits_46 1 rfl rfl ?_
      refine v_getS (f := 11) (t := 34) cf6 oc13 rfl rfl rfl (by decide) q638 dX6_bits_47 ?_
      refine v_iload_n dX6_bits_50 2 rfl rfl ?_
      obtain ⟨g15, h⟩ := gd_some h
      refine v_iald oc34 rx1 g15.1 g15.2 dX6_bits_51 ?_
      refine v_aload_n dX6_bits_52 1 rfl rfl ?_
      refine v_getS (f := 12) (t := 35) cf6 oc13 rfl rfl rfl (by decide) q639 dX6_bits_53 ?_
      refine v_iload_n dX6_bits_56 2 rfl rfl ?_
      obtain ⟨g16, h⟩ := gd_some h
      refine v_iald oc35 rx1 g16.1 g16.2 dX6_bits_57 ?_
      obtain ⟨r20, s17, e18, h⟩ := bd_some h
      have k19 := c_X11_needed e18 (⟨by decide, rfl⟩ : okB 30 1) (gE_rg _ _ _) (gE_rg _ _ _)
      have r21 : rg r20 := k19.1.2.2
      refine v_callS (st := []) k19 (lw_S q1762 q1763 q308 q1764) yk_X11_needed ⟨Nat.le_of_ble_eq_true rfl, Nat.le_of_ble_eq_true rfl⟩ trivial ⟨kc13, trivial⟩ (Nat.le_of_ble_eq_true rfl) rfl dX6_bits_58 ?_
      refine v_bipush dX6_bits_61 rfl ?_
      refine v_icmp_le (tgt := 68) dX6_bits_63 r21 (rgl rfl) (by decide) (fun c22 => ?_) (fun c22 => ?_)
      · rw [if_pos c22] at h
        refine v_aload_n dX6_bits_68 1 rfl rfl ?_
        refine v_getS (f := 10) (t := 32) cf6 oc13 rfl rfl rfl (by decide) q637 dX6_bits_69 ?_
        obtain ⟨s23, e24, h⟩ := bdv_some h
        have k25 := c_X2_clear e24 (⟨by decide, rfl⟩ : okB 32 1)
        refine v_callV (st := []) cf2 oc32 k25 (lw_V q1436 q1055 q1056 q299 q1057) rfl yk_X2_clear ⟨Nat.le_of_ble_eq_true rfl, Nat.le_of_ble_eq_true rfl⟩ trivial ⟨kc13, trivial⟩ (Nat.le_of_ble_eq_true rfl) rfl dX6_bits_72 ?_
        refine v_aload_n dX6_bits_75 1 rfl rfl ?_
        refine v_getS (f := 9) (t := 30) cf6 oc13 rfl rfl rfl (by decide) q636 dX6_bits_76 ?_
        refine v_aload_n dX6_bits_79 1 rfl rfl ?_
        refine v_getS (f := 11) (t := 34) cf6 oc13 rfl rfl rfl (by decide) q638 dX6_bits_80 ?_
        refine v_iload_n dX6_bits_83 2 rfl rfl ?_
        obtain ⟨g26, h⟩ := gd_some h
        refine v_iald oc34 rx1 g26.1 g26.2 dX6_bits_84 ?_
        refine v_aload_n dX6_bits_85 1 rfl rfl ?_
        refine v_getS (f := 12) (t := 35) cf6 oc13 rfl rfl rfl (by decide) q639 dX6_bits_86 ?_
        refine v_iload_n dX6_bits_89 2 rfl rfl ?_
        obtain ⟨g27, h⟩ := gd_some h
        refine v_iald oc35 rx1 g27.1 g27.2 dX6_bits_90 ?_
        refine v_iload dX6_bits_91 0 rfl ?_
        refine v_aload_n dX6_bits_93 1 rfl rfl ?_
        refine v_getS (f := 10) (t := 32) cf6 oc13 rfl rfl rfl (by decide) q637 dX6_bits_94 ?_
        obtain ⟨s28, e29, h⟩ := bdv_some h
        have k30 := c_X11_write e29 (⟨by decide, rfl⟩ : okB 30 1) (⟨by decide, rfl⟩ : okB 32 1) (gE_rg _ _ _) (gE_rg _ _ _) r7
        refine v_callS (st := []) k30 (lw_S q1777 q1778 q308 q1779) yk_X11_write ⟨Nat.le_of_ble_eq_true rfl, Nat.le_of_ble_eq_true rfl⟩ trivial ⟨kc13, trivial⟩ (Nat.le_of_ble_eq_true rfl) rfl dX6_bits_97 ?_
        refine v_aload_n dX6_bits_100 1 rfl rfl ?_
        refine v_getS (f := 11) (t := 34) cf6 oc13 rfl rfl rfl (by decide) q638 dX6_bits_101 ?_
        refine v_iload_n dX6_bits_104 2 rfl rfl ?_
        refine v_aload_n dX6_bits_105 1 rfl rfl ?_
        refine v_getS (f := 9) (t := 30) cf6 oc13 rfl rfl rfl (by decide) q636 dX6_bits_106 ?_
        obtain ⟨r34, s31, e32, h⟩ := bd_some h
        have k33 := c_X2_size e32 (⟨by decide, rfl⟩ : okB 30 1)
        have r35 : rg r34 := k33.1.2.2
        obtain ⟨g36, h⟩ := gd_some h
        refine v_callV (st := [vI x1, vO 34]) cf2 oc30 k33 (lw_V q1524 q918 q919 q299 q920) rfl yk_X2_size ⟨Nat.le_of_ble_eq_true rfl, Nat.le_of_ble_eq_true rfl⟩ ⟨(kp_arr (by decide) g36), trivial⟩ ⟨kc13, trivial⟩ (Nat.le_of_ble_eq_true rfl) rfl dX6_bits_109 ?_
        obtain ⟨g37, h⟩ := gd_some h
        obtain ⟨s38, e39, h⟩ := stp_some h
        refine v_iast oc34 rx1 g37.1 g37.2 dX6_bits_112 ?_
        rw [← e39]
        refine v_aload_n dX6_bits_113 1 rfl rfl ?_
        refine v_getS (f := 9) (t := 30) cf6 oc13 rfl rfl rfl (by decide) q636 dX6_bits_114 ?_
        refine v_aload_n dX6_bits_117 1 rfl rfl ?_
        refine v_getS (f := 10) (t := 32) cf6 oc13 rfl rfl rfl (by decide) q637 dX6_bits_118 ?_
        refine v_iconst dX6_bits_121 ?_
        refine v_aload_n dX6_bits_122 1 rfl rfl ?_
        refine v_getS (f := 10) (t := 32) cf6 oc13 rfl rfl rfl (by decide) q637 dX6_bits_123 ?_
        obtain ⟨r43, s40, e41, h⟩ := bd_some h
        have k42 := c_X2_size e41 (⟨by decide, rfl⟩ : okB 32 1)
        have r44 : rg r43 := k42.1.2.2
        refine v_callV (st := [vI 0, vO 32, vO 30]) cf2 oc32 k42 (lw_V q1524 q918 q919 q299 q920) rfl yk_X2_size ⟨Nat.le_of_ble_eq_true rfl, Nat.le_of_ble_eq_true rfl⟩ ⟨kc32, kc30, trivial⟩ ⟨kc13, trivial⟩ (Nat.le_of_ble_eq_true rfl) rfl dX6_bits_126 ?_
        obtain ⟨s45, e46, h⟩ := bdv_some h
        have k47 := c_X2_all e46 (⟨by decide, rfl⟩ : okB 30 1) (⟨by decide, rfl⟩ : okB 32 1) (rgl rfl) r44
        refine v_callV (st := []) cf2 oc30 k47 (lw_V q1781 q1059 q1060 q299 q1061) rfl yk_X2_all ⟨Nat.le_of_ble_eq_true rfl, Nat.le_of_ble_eq_true rfl⟩ trivial ⟨kc13, trivial⟩ (Nat.le_of_ble_eq_true rfl) rfl dX6_bits_129 ?_
        refine v_aload_n dX6_bits_132 1 rfl rfl ?_
        refine v_getS (f := 12) (t := 35) cf6 oc13 rfl rfl rfl (by decide) q639 dX6_bits_133 ?_
        refine v_iload_n dX6_bits_136 2 rfl rfl ?_
        refine v_aload_n dX6_bits_137 1 rfl rfl ?_
        refine v_getS (f := 9) (t := 30) cf6 oc13 rfl rfl rfl (by decide) q636 dX6_bits_138 ?_
        obtain ⟨r51, s48, e49, h⟩ := bd_some h
        have k50 := c_X2_size e49 (⟨by decide, rfl⟩ : okB 30 1)
        have r52 : rg r51 := k50.1.2.2
        obtain ⟨g53, h⟩ := gd_some h
        refine v_callV (st := [vI x1, vO 35]) cf2 oc30 k50 (lw_V q1524 q918 q919 q299 q920) rfl yk_X2_size ⟨Nat.le_of_ble_eq_true rfl, Nat.le_of_ble_eq_true rfl⟩ ⟨(kp_arr (by decide) g53), trivial⟩ ⟨kc13, trivial⟩ (Nat.le_of_ble_eq_true rfl) rfl dX6_bits_141 ?_
        obtain ⟨g54, h⟩ := gd_some h
        obtain ⟨s55, e56, h⟩ := stp_some h
        refine v_iast oc35 rx1 g54.1 g54.2 dX6_bits_144 ?_
        rw [← e56]
        refine v_iconst dX6_bits_145 ?_
        cases h
        exact v_zret (Or.inr rfl) dX6_bits_146
      · rw [if_neg c22] at h
        refine v_iconst dX6_bits_66 ?_
        cases h
        exact v_zret (Or.inl rfl) dX6_bits_67
    · rw [if_pos c14] at h
      refine v_iconst dX6_bits_40 ?_
      cases h
      exact v_zret (Or.inr rfl) dX6_bits_41
  · rw [if_pos c8] at h
    refine v_iconst dX6_bits_30 ?_
    cases h
    exact v_zret (Or.inl rfl) dX6_bits_31

def E_X6_mayBeEmpty_37 (rv : Option vA) (σo : vS) (q : (vS) ⊕ (Int × vS)) : Prop := (∀ (s' : vS), q = .inl s' → VW cX6_mayBeEmpty (RX6, rv, σo, (some .boolean), 2, 43, 3, []) (P0 []) s' 68 [] []) ∧ (∀ (v : Int) (s' : vS), q = .inr (v, s') → rv = some (vI v) ∧ σo = s')
def l_X6_mayBeEmpty_37 : Nat → Int → vS → Option ((vS) ⊕ (Int × vS))
  | 0, _, _ => none
  | n + 1, x2, s =>
    if x2 = (-1) then
      some (.inl s)
    else
      bd (f_X4_at x2 5 s) fun r5 s2 =>
      if r5 = 0 then
        some (.inr (0, s2))
      else
        bd (f_X4_next x2 s2) fun r11 s8 =>
        l_X6_mayBeEmpty_37 n r11 s8
theorem wl_X6_mayBeEmpty_37 {rv : Option vA} {σo : vS}  : ∀ (n : Nat) (x2 : Int) (s : vS) (q : (vS) ⊕ (Int × vS)), l_X6_mayBeEmpty_37 n x2 s = some q → rg x2 → E_X6_mayBeEmpty_37 rv σo q → VW cX6_mayBeEmpty (RX6, rv, σo, (some .boolean), 2, 43, 3, []) (P0 []) s 37 [(0, vO 13), (2, vI x2)] [] := by
  intro n
  induction n with
  | zero => intro x2 s q h; cases h
  | succ n ih =>
    intro x2 s q h rx2 hE
    unfold l_X6_mayBeEmpty_37 at h
    refine v_iload_n dX6_mayBeEmpty_37 1 rfl rfl ?_
    refine v_iconst dX6_mayBeEmpty_38 ?_
    refine v_icmp_eq (tgt := 68) dX6_mayBeEmpty_39 rx2 (rgl rfl) (by decide) (fun c1 => ?_) (fun c1 => ?_)
    · rw [if_pos c1] at h
      cases h
      refine v_sub [] (L1 := []) rfl ?_
      exact hE.1 _ rfl 
    · rw [if_neg c1] at h
      refine v_aload_n dX6_mayBeEmpty_42 0 rfl rfl ?_
      refine v_getS (f := 1) (t := 10) cf6 oc13 rfl rfl rfl (by decide) q628 dX6_mayBeEmpty_43 ?_
      refine v_iload_n dX6_mayBeEmpty_46 1 rfl rfl ?_
      refine v_iconst dX6_mayBeEmpty_47 ?_
      obtain ⟨r5, s2, e3, h⟩ := bd_some h
      have k4 := c_X4_at e3 rx2 (rgl rfl)
      have r6 : rg r5 := k4.1.2.2
      refine v_callV (st := []) cf4 oc10 k4 (lw_V q1500 q1400 q1401 q301 q1402) rfl yk_X4_at ⟨Nat.le_of_ble_eq_true rfl, Nat.le_of_ble_eq_true rfl⟩ trivial ⟨kc13, trivial⟩ (Nat.le_of_ble_eq_true rfl) rfl dX6_mayBeEmpty_48 ?_
      refine v_if_ne (tgt := 56) dX6_mayBeEmpty_51 r6 (by decide) (fun c7 => ?_) (fun c7 => ?_)
      · rw [if_neg c7] at h
        refine v_aload_n dX6_mayBeEmpty_56 0 rfl rfl ?_
        refine v_getS (f := 1) (t := 10) cf6 oc13 rfl rfl rfl (by decide) q628 dX6_mayBeEmpty_57 ?_
        refine v_iload_n dX6_mayBeEmpty_60 1 rfl rfl ?_
        obtain ⟨r11, s8, e9, h⟩ := bd_some h
        have k10 := c_X4_next e9 rx2
        have r12 : rg r11 := k10.1.2.2
        refine v_callV (st := []) cf4 oc10 k10 (lw_V q1483 q1404 q1405 q301 q1406) rfl yk_X4_next ⟨Nat.le_of_ble_eq_true rfl, Nat.le_of_ble_eq_true rfl⟩ trivial ⟨kc13, trivial⟩ (Nat.le_of_ble_eq_true rfl) rfl dX6_mayBeEmpty_61 ?_
        refine v_istore_n (L1 := [(2, vI r11), (0, vO 13)]) dX6_mayBeEmpty_64 rfl (by decide) rfl ?_
        refine v_goto (tgt := 37) dX6_mayBeEmpty_65 (by decide) ?_
        refine v_sub [1, 0] (L1 := [(0, vO 13), (2, vI r11)]) rfl ?_
        exact ih r11 s8 _ h r12 hE
      · rw [if_pos c7] at h
        refine v_iconst dX6_mayBeEmpty_54 ?_
        cases h
        obtain ⟨z1, z2⟩ := hE.2 _ _ rfl
        subst z1
        subst z2
        exact v_zret (Or.inl rfl) dX6_mayBeEmpty_55

def f_X6_mayBeEmpty (x1 : Int) (s : vS) : Option (Int × vS) :=
  bd (f_X4_kind x1 s) fun r4 s1 =>
  if r4 = 14 then
    some (1, s1)
  else
    bd (f_X4_kind x1 s1) fun r10 s7 =>
    if r10 = 15 then
      some (1, s7)
    else
      bd (f_X4_parts x1 s7) fun r16 s13 =>
      lqs_0 (l_X6_mayBeEmpty_37 FU r16 s13) (fun s18 =>
        some (1, s18))
        (fun q => some q)
theorem yk_X6_mayBeEmpty : yOk yX6_mayBeEmpty 1 := ⟨by decide, by decide, by decide +kernel⟩
theorem c_X6_mayBeEmpty {x1 : Int} {s : vS} {out : Int × vS} (h : f_X6_mayBeEmpty x1 s = some out)  (rx1 : rg x1) : VC yX6_mayBeEmpty cX6_mayBeEmpty 3 (some .boolean) 2 43 [vO 13, vI x1] s (some (vI out.1)) out.2 [] := by
  unfold f_X6_mayBeEmpty at h
  refine VC.of RX6 (by decide) rfl (Nat.le_of_ble_eq_true rfl) ?_
  show VW cX6_mayBeEmpty (RX6, (some (vI out.1)), out.2, (some .boolean), 2, 43, 3, []) (P0 []) s 0 [(0, vO 13), (1, vI x1)] []
  refine v_aload_n dX6_mayBeEmpty_0 0 rfl rfl ?_
  refine v_getS (f := 1) (t := 10) cf6 oc13 rfl rfl rfl (by decide) q628 dX6_mayBeEmpty_1 ?_
  refine v_iload_n dX6_mayBeEmpty_4 1 rfl rfl ?_
  obtain ⟨r4, s1, e2, h⟩ := bd_some h
  have k3 := c_X4_kind e2 rx1
  have r5 : rg r4 := k3.1.2.2
  refine v_callV (st := []) cf4 oc10 k3 (lw_V q1445 q1446 q1447 q301 q1448) rfl yk_X4_kind ⟨Nat.le_of_ble_eq_true rfl, Nat.le_of_ble_eq_true rfl⟩ trivial ⟨kc13, trivial⟩ (Nat.le_of_ble_eq_true rfl) rfl dX6_mayBeEmpty_5 ?_
  refine v_bipush dX6_mayBeEmpty_8 rfl ?_
  refine v_icmp_eq (tgt := 26) dX6_mayBeEmpty_10 r5 (rgl rfl) (by decide) (fun c6 => ?_) (fun c6 => ?_)
  · rw [if_pos c6] at h
    refine v_iconst dX6_mayBeEmpty_26 ?_
    cases h
    exact v_zret (Or.inr rfl) dX6_mayBeEmpty_27
  · rw [if_neg c6] at h
    refine v_aload_n dX6_mayBeEmpty_13 0 rfl rfl ?_
    refine v_getS (f := 1) (t := 10) cf6 oc13 rfl rfl rfl (by decide) q628 dX6_mayBeEmpty_14 ?_
    refine v_iload_n dX6_mayBeEmpty_17 1 rfl rfl ?_
    obtain ⟨r10, s7, e8, h⟩ := bd_some h
    have k9 := c_X4_kind e8 rx1
    have r11 : rg r10 := k9.1.2.2
    refine v_callV (st := []) cf4 oc10 k9 (lw_V q1445 q1446 q1447 q301 q1448) rfl yk_X4_kind ⟨Nat.le_of_ble_eq_true rfl, Nat.le_of_ble_eq_true rfl⟩ trivial ⟨kc13, trivial⟩ (Nat.le_of_ble_eq_true rfl) rfl dX6_mayBeEmpty_18 ?_
    refine v_bipush dX6_mayBeEmpty_21 rfl ?_
    refine v_icmp_ne (tgt := 28) dX6_mayBeEmpty_23 r11 (rgl rfl) (by decide) (fun c12 => ?_) (fun c12 => ?_)
    · rw [if_neg c12] at h
      refine v_aload_n dX6_mayBeEmpty_28 0 rfl rfl ?_
      refine v_getS (f := 1) (t := 10) cf6 oc13 rfl rfl rfl (by decide) q628 dX6_mayBeEmpty_29 ?_
      refine v_iload_n dX6_mayBeEmpty_32 1 rfl rfl ?_
      obtain ⟨r16, s13, e14, h⟩ := bd_some h
      have k15 := c_X4_parts e14 rx1
      have r17 : rg r16 := k15.1.2.2
      refine v_callV (st := []) cf4 oc10 k15 (lw_V q1492 q1493 q1494 q301 q1495) rfl yk_X4_parts ⟨Nat.le_of_ble_eq_true rfl, Nat.le_of_ble_eq_true rfl⟩ trivial ⟨kc13, trivial⟩ (Nat.le_of_ble_eq_true rfl) rfl dX6_mayBeEmpty_33 ?_
      refine v_istore_n (L1 := [(2, vI r16), (0, vO 13), (1, vI x1)]) dX6_mayBeEmpty_36 rfl (by decide) rfl ?_
      refine v_sub [1, 0] (L1 := [(0, vO 13), (2, vI r16)]) rfl ?_
      rcases lqs_0_some h with ⟨s18, e19, h⟩ | ⟨q9, e19, h⟩
      · refine wl_X6_mayBeEmpty_37  FU r16 s13 _ e19 r17 ?_
        unfold E_X6_mayBeEmpty_37
        refine ⟨?_, fun v9 s9 z_ => (by cases z_)⟩
        intro s18' z_
        cases z_
        refine v_iconst dX6_mayBeEmpty_68 ?_
        cases h
        exact v_zret (Or.inr rfl) dX6_mayBeEmpty_69
      · cases h
        refine wl_X6_mayBeEmpty_37  FU r16 s13 _ e19 r17 ?_
        unfold E_X6_mayBeEmpty_37
        refine ⟨fun _ z_ => (by cases z_), ?_⟩
        intro v9 s9 z_
        cases z_
        exact ⟨rfl, rfl⟩
    · rw [if_pos c12] at h
      refine v_iconst dX6_mayBeEmpty_26 ?_
      cases h
      exact v_zret (Or.inr rfl) dX6_mayBeEmpty_27

def j_X6_holds_94 (x2 : Int) (s : vS) : Option (Int × vS) :=
  bd (f_X6_isSize x2 0 s) fun r4 s1 =>
  gd (r4 = 0 ∨ r4 = 1) <|
  some (r4, s1)
theorem wj_X6_holds_94 {x2 : Int} {s : vS} {out : Int × vS} (h : j_X6_holds_94 x2 s = some out)  (rx2 : rg x2) : VW cX6_holds (RX6, (some (vI out.1)), out.2, (some .boolean), 9, 215, 5, []) (P0 []) s 94 [(0, vO 13), (2, vI x2)] [] := by
  unfold j_X6_holds_94 at h
  refine v_aload_n dX6_holds_94 0 rfl rfl ?_
  refine v_iload_n dX6_holds_95 1 rfl rfl ?_
  refine v_iconst dX6_holds_96 ?_
  obtain ⟨r4, s1, e2, h⟩ := bd_some h
  have k3 := c_X6_isSize e2 rx2 (rgl rfl)
  have r5 : rg r4 := k3.1.2.2
  refine v_callV (st := []) cf6 oc13 k3 (lw_V q1748 q1749 q1750 q303 q1751) rfl yk_X6_isSize ⟨Nat.le_of_ble_eq_true rfl, Nat.le_of_ble_eq_true rfl⟩ trivial ⟨kc13, trivial⟩ (Nat.le_of_ble_eq_true rfl) rfl dX6_holds_97 ?_
  obtain ⟨g6, h⟩ := gd_some h
  cases h
  exact v_zret g6 dX6_holds_100

def j_X6_holds_115 (x3 : Int) (s : vS) : Option (Int × vS) :=
  bd (f_X6_mayBeEmpty x3 s) fun r4 s1 =>
  gd (r4 = 0 ∨ r4 = 1) <|
  some (r4, s1)
theorem wj_X6_holds_115 {x3 : Int} {s : vS} {out : Int × vS} (h : j_X6_holds_115 x3 s = some out)  (rx3 : rg x3) : VW cX6_holds (RX6, (some (vI out.1)), out.2, (some .boolean), 9, 215, 5, []) (P0 []) s 115 [(0, vO 13), (3, vI x3)] [] := by
  unfold j_X6_holds_115 at h
  refine v_aload_n dX6_holds_115 0 rfl rfl ?_
  refine v_iload_n dX6_holds_116 1 rfl rfl ?_
  obtain ⟨r4, s1, e2, h⟩ := bd_some h
  have k3 := c_X6_mayBeEmpty e2 rx3
  have r5 : rg r4 := k3.1.2.2
  refine v_callV (st := []) cf6 oc13 k3 (lw_V q1782 q1784 qs94 q303 q1785) rfl yk_X6_mayBeEmpty ⟨Nat.le_of_ble_eq_true rfl, Nat.le_of_ble_eq_true rfl⟩ trivial ⟨kc13, trivial⟩ (Nat.le_of_ble_eq_true rfl) rfl dX6_holds_117 ?_
  obtain ⟨g6, h⟩ := gd_some h
  cases h
  exact v_zret g6 dX6_holds_120

def j_X6_holds_148 (x1 : Int) (x2 : Int) (s : vS) : Option (Int × vS) :=
  gd (inb x1 (gN s 35)) <|
  gd (inb x1 (gN s 34)) <|
  bd (f_X6_isSize x2 (w32 ((gE s 35 x1) - (gE s 34 x1))) s) fun r6 s3 =>
  gd (r6 = 0 ∨ r6 = 1) <|
  some (r6, s3)
theorem wj_X6_holds_148 {x1 : Int} {x2 : Int} {s : vS} {out : Int × vS} (h : j_X6_holds_148 x1 x2 s = some out)  (rx1 : rg x1) (rx2 : rg x2) : VW cX6_holds (RX6, (some (vI out.1)), out.2, (some .boolean), 9, 215, 5, []) (P0 []) s 148 [(0, vO 13), (1, vI x1), (2, vI x2)] [] := by
  unfold j_X6_holds_148 at h
  refine v_aload_n dX6_holds_148 0 rfl rfl ?_
  refine v_iload_n dX6_holds_149 2 rfl rfl ?_
  refine v_aload_n dX6_holds_150 0 rfl rfl ?_
  refine v_getS (f := 12) (t := 35) cf6 oc13 rfl rfl rfl (by decide) q639 dX6_holds_151 ?_
  refine v_iload_n dX6_holds_154 1 rfl rfl ?_
  obtain ⟨g1, h⟩ := gd_some h
  refine v_iald oc35 rx1 g1.1 g1.2 dX6_holds_155 ?_
  refine v_aload_n dX6_holds_156 0 rfl rfl ?_
  refine v_getS (f := 11) (t := 34) cf6 oc13 rfl rfl rfl (by decide) q638 dX6_holds_157 ?_
  refine v_iload_n dX6_holds_160 1 rfl rfl ?_
  obtain ⟨g2, h⟩ := gd_some h
  refine v_iald oc34 rx1 g2.1 g2.2 dX6_holds_161 ?_
  refine v_isub dX6_holds_162 ?_
  obtain ⟨r6, s3, e4, h⟩ := bd_some h
  have k5 := c_X6_isSize e4 rx2 (w32_rg _)
  have r7 : rg r6 := k5.1.2.2
  refine v_callV (st := []) cf6 oc13 k5 (lw_V q1748 q1749 q1750 q303 q1751) rfl yk_X6_isSize ⟨Nat.le_of_ble_eq_true rfl, Nat.le_of_ble_eq_true rfl⟩ trivial ⟨kc13, trivial⟩ (Nat.le_of_ble_eq_true rfl) rfl dX6_holds_163 ?_
  obtain ⟨g8, h⟩ := gd_some h
  cases h
  exact v_zret g8 dX6_holds_166

def f_X6_holds (x1 : Int) (x2 : Int) (x3 : Int) (s : vS) : Option (Int × vS) :=
  bd (f_X4_kind x3 s) fun r4 s1 =>
  if r4 = 2 then
    gd (inb x1 (gN s1 34)) <|
    gd (inb x1 (gN s1 35)) <|
    bd (f_X6_isInRange x2 30 (gE s1 34 x1) (gE s1 35 x1) s1) fun r36 s33 =>
    gd (r36 = 0 ∨ r36 = 1) <|
    some (r36, s33)
  else
    if r4 = 3 then
      gd (inb x1 (gN s1 34)) <|
      gd (inb x1 (gN s1 35)) <|
      bd (f_X6_isItem x3 30 (gE s1 34 x1) (gE s1 35 x1) s1) fun r28 s25 =>
      gd (r28 = 0 ∨ r28 = 1) <|
      some (r28, s25)
    else
      if r4 = 4 then
        bd (f_X6_bits x1 x2 x3 s1) fun r20 s17 =>
        gd (r20 = 0 ∨ r20 = 1) <|
        some (r20, s17)
      else
        if r4 = 14 then
          j_X6_holds_94 x2 s1
        else
          if r4 = 15 then
            j_X6_holds_94 x2 s1
          else
            if r4 = 12 then
              j_X6_holds_115 x3 s1
            else
              if r4 = 13 then
                j_X6_holds_115 x3 s1
              else
                if r4 = 7 then
                  j_X6_holds_148 x1 x2 s1
                else
                  if r4 = 8 then
                    j_X6_holds_148 x1 x2 s1
                  else
                    if r4 = 9 then
                      j_X6_holds_148 x1 x2 s1
                    else
                      if r4 = 5 then
                        j_X6_holds_148 x1 x2 s1
                      else
                        some (1, s1)
theorem yk_X6_holds : yOk yX6_holds 3 := ⟨by decide, by decide, by decide +kernel⟩
theorem c_X6_holds {x1 : Int} {x2 : Int} {x3 : Int} {s : vS} {out : Int × vS} (h : f_X6_holds x1 x2 x3 s = some out)  (rx1 : rg x1) (rx2 : rg x2) (rx3 : rg x3) : VC yX6_holds cX6_holds 5 (some .boolean) 9 215 [vO 13, vI x1, vI x2, vI x3] s (some (vI out.1)) out.2 [] := by
  unfold f_X6_holds at h
  refine VC.of RX6 (by decide) rfl (Nat.le_of_ble_eq_true rfl) ?_
  show VW cX6_holds (RX6, (some (vI out.1)), out.2, (some .boolean), 9, 215, 5, []) (P0 []) s 0 [(0, vO 13), (1, vI x1), (2, vI x2), (3, vI x3)] []
  refine v_aload_n dX6_holds_0 0 rfl rfl ?_
  refine v_getS (f := 1) (t := 10) cf6 oc13 rfl rfl rfl (by decide) q628 dX6_holds_1 ?_
  refine v_iload_n dX6_holds_4 3 rfl rfl ?_
  obtain ⟨r4, s1, e2, h⟩ := bd_some h
  have k3 := c_X4_kind e2 rx3
  have r5 : rg r4 := k3.1.2.2
  refine v_callV (st := []) cf4 oc10 k3 (lw_V q1445 q1446 q1447 q301 q1448) rfl yk_X4_kind ⟨Nat.le_of_ble_eq_true rfl, Nat.le_of_ble_eq_true rfl⟩ trivial ⟨kc13, trivial⟩ (Nat.le_of_ble_eq_true rfl) rfl dX6_holds_5 ?_
  refine v_istore (L1 := [(4, vI r4), (0, vO 13), (1, vI x1), (2, vI x2), (3, vI x3)]) dX6_holds_8 (by decide) rfl ?_
  refine v_iload dX6_holds_10 0 rfl ?_
  refine v_iconst dX6_holds_12 ?_
  refine v_icmp_ne (tgt := 38) dX6_holds_13 r5 (rgl rfl) (by decide) (fun c6 => ?_) (fun c6 => ?_)
  · rw [if_neg c6] at h
    refine v_iload dX6_holds_38 0 rfl ?_
    refine v_iconst dX6_holds_40 ?_
    refine v_icmp_ne (tgt := 66) dX6_holds_41 r5 (rgl rfl) (by decide) (fun c7 => ?_) (fun c7 => ?_)
    · rw [if_neg c7] at h
      refine v_iload dX6_holds_66 0 rfl ?_
      refine v_iconst dX6_holds_68 ?_
      refine v_icmp_ne (tgt := 80) dX6_holds_69 r5 (rgl rfl) (by decide) (fun c8 => ?_) (fun c8 => ?_)
      · rw [if_neg c8] at h
        refine v_iload dX6_holds_80 0 rfl ?_
        refine v_bipush dX6_holds_82 rfl ?_
        refine v_icmp_eq (tgt := 94) dX6_holds_84 r5 (rgl rfl) (by decide) (fun c9 => ?_) (fun c9 => ?_)
        · rw [if_pos c9] at h
          refine v_sub [1, 3] (L1 := [(0, vO 13), (2, vI x2)]) rfl ?_
          exact wj_X6_holds_94 h rx2
        · rw [if_neg c9] at h
          refine v_iload dX6_holds_87 0 rfl ?_
          refine v_bipush dX6_holds_89 rfl ?_
          refine v_icmp_ne (tgt := 101) dX6_holds_91 r5 (rgl rfl) (by decide) (fun c10 => ?_) (fun c10 => ?_)
          · rw [if_neg c10] at h
            refine v_iload dX6_holds_101 0 rfl ?_
            refine v_bipush dX6_holds_103 rfl ?_
            refine v_icmp_eq (tgt := 115) dX6_holds_105 r5 (rgl rfl) (by decide) (fun c11 => ?_) (fun c11 => ?_)
            · rw [if_pos c11] at h
              refine v_sub [1, 4] (L1 := [(0, vO 13), (3, vI x3)]) rfl ?_
              exact wj_X6_holds_115 h rx3
            · rw [if_neg c11] at h
              refine v_iload dX6_holds_108 0 rfl ?_
              refine v_bipush dX6_holds_110 rfl ?_
              refine v_icmp_ne (tgt := 121) dX6_holds_112 r5 (rgl rfl) (by decide) (fun c12 => ?_) (fun c12 => ?_)
              · rw [if_neg c12] at h
                refine v_iload dX6_holds_121 0 rfl ?_
                refine v_bipush dX6_holds_123 rfl ?_
                refine v_icmp_eq (tgt := 148) dX6_holds_125 r5 (rgl rfl) (by decide) (fun c13 => ?_) (fun c13 => ?_)
                · rw [if_pos c13] at h
                  refine v_sub [1, 2, 3] (L1 := [(0, vO 13), (1, vI x1), (2, vI x2)]) rfl ?_
                  exact wj_X6_holds_148 h rx1 rx2
                · rw [if_neg c13] at h
                  refine v_iload dX6_holds_128 0 rfl ?_
                  refine v_bipush dX6_holds_130 rfl ?_
                  refine v_icmp_eq (tgt := 148) dX6_holds_132 r5 (rgl rfl) (by decide) (fun c14 => ?_) (fun c14 => ?_)
                  · rw [if_pos c14] at h
                    refine v_sub [1, 2, 3] (L1 := [(0, vO 13), (1, vI x1), (2, vI x2)]) rfl ?_
                    exact wj_X6_holds_148 h rx1 rx2
                  · rw [if_neg c14] at h
                    refine v_iload dX6_holds_135 0 rfl ?_
                    refine v_bipush dX6_holds_137 rfl ?_
                    refine v_icmp_eq (tgt := 148) dX6_holds_139 r5 (rgl rfl) (by decide) (fun c15 => ?_) (fun c15 => ?_)
                    · rw [if_pos c15] at h
                      refine v_sub [1, 2, 3] (L1 := [(0, vO 13), (1, vI x1), (2, vI x2)]) rfl ?_
                      exact wj_X6_holds_148 h rx1 rx2
                    · rw [if_neg c15] at h
                      refine v_iload dX6_holds_142 0 rfl ?_
                      refine v_iconst dX6_holds_144 ?_
                      refine v_icmp_ne (tgt := 167) dX6_holds_145 r5 (rgl rfl) (by decide) (fun c16 => ?_) (fun c16 => ?_)
                      · rw [if_neg c16] at h
                        refine v_iconst dX6_holds_167 ?_
                        cases h
                        exact v_zret (Or.inr rfl) dX6_holds_168
                      · rw [if_pos c16] at h
                        refine v_sub [1, 2, 3] (L1 := [(0, vO 13), (1, vI x1), (2, vI x2)]) rfl ?_
                        exact wj_X6_holds_148 h rx1 rx2
              · rw [if_pos c12] at h
                refine v_sub [1, 4] (L1 := [(0, vO 13), (3, vI x3)]) rfl ?_
                exact wj_X6_holds_115 h rx3
          · rw [if_pos c10] at h
            refine v_sub [1, 3] (L1 := [(0, vO 13), (2, vI x2)]) rfl ?_
            exact wj_X6_holds_94 h rx2
      · rw [if_pos c8] at h
        refine v_aload_n dX6_holds_72 1 rfl rfl ?_
        refine v_iload_n dX6_holds_73 2 rfl rfl ?_
        refine v_iload_n dX6_holds_74 3 rfl rfl ?_
        refine v_iload_n dX6_holds_75 4 rfl rfl ?_
        obtain ⟨r20, s17, e18, h⟩ := bd_some h
        have k19 := c_X6_bits e18 rx1 rx2 rx3
        have r21 : rg r20 := k19.1.2.2
        refine v_callV (st := []) cf6 oc13 k19 (lw_V q1732 q1734 qs90 q303 q1735) rfl yk_X6_bits ⟨Nat.le_of_ble_eq_true rfl, Nat.le_of_ble_eq_true rfl⟩ trivial ⟨kc13, trivial⟩ (Nat.le_of_ble_eq_true rfl) rfl dX6_holds_76 ?_
        obtain ⟨g22, h⟩ := gd_some h
        cases h
        exact v_zret g22 dX6_holds_79
    · rw [if_pos c7] at h
      refine v_aload_n dX6_holds_44 1 rfl rfl ?_
      refine v_iload_n dX6_holds_45 4 rfl rfl ?_
      refine v_aload_n dX6_holds_46 1 rfl rfl ?_
      refine v_getS (f := 9) (t := 30) cf6 oc13 rfl rfl rfl (by decide) q636 dX6_holds_47 ?_
      refine v_aload_n dX6_holds_50 1 rfl rfl ?_
      refine v_getS (f := 11) (t := 34) cf6 oc13 rfl rfl rfl (by decide) q638 dX6_holds_51 ?_
      refine v_iload_n dX6_holds_54 2 rfl rfl ?_
      obtain ⟨g23, h⟩ := gd_some h
      refine v_iald oc34 rx1 g23.1 g23.2 dX6_holds_55 ?_
      refine v_aload_n dX6_holds_56 1 rfl rfl ?_
      refine v_getS (f := 12) (t := 35) cf6 oc13 rfl rfl rfl (by decide) q639 dX6_holds_57 ?_
      refine v_iload_n dX6_holds_60 2 rfl rfl ?_
      obtain ⟨g24, h⟩ := gd_some h
      refine v_iald oc35 rx1 g24.1 g24.2 dX6_holds_61 ?_
      obtain ⟨r28, s25, e26, h⟩ := bd_some h
      have k27 := c_X6_isItem e26 (⟨by decide, rfl⟩ : okB 30 1) rx3 (gE_rg _ _ _) (gE_rg _ _ _)
      have r29 : rg r28 := k27.1.2.2
      refine v_callV (st := []) cf6 oc13 k27 (lw_V q1728 q1729 q1730 q303 q1731) rfl yk_X6_isItem ⟨Nat.le_of_ble_eq_true rfl, Nat.le_of_ble_eq_true rfl⟩ trivial ⟨kc13, trivial⟩ (Nat.le_of_ble_eq_true rfl) rfl dX6_holds_62 ?_
      obtain ⟨g30, h⟩ := gd_some h
      cases h
      exact v_zret g30 dX6_holds_65
  · rw [if_pos c6] at h
    refine v_aload_n dX6_holds_16 1 rfl rfl ?_
    refine v_iload_n dX6_holds_17 3 rfl rfl ?_
    refine v_aload_n dX6_holds_18 1 rfl rfl ?_
    refine v_getS (f := 9) (t := 30) cf6 oc13 rfl rfl rfl (by decide) q636 dX6_holds_19 ?_
    refine v_aload_n dX6_holds_22 1 rfl rfl ?_
    refine v_getS (f := 11) (t := 34) cf6 oc13 rfl rfl rfl (by decide) q638 dX6_holds_23 ?_
    refine v_iload_n dX6_holds_26 2 rfl rfl ?_
    obtain ⟨g31, h⟩ := gd_some h
    refine v_iald oc34 rx1 g31.1 g31.2 dX6_holds_27 ?_
    refine v_aload_n dX6_holds_28 1 rfl rfl ?_
    refine v_getS (f := 12) (t := 35) cf6 oc13 rfl rfl rfl (by decide) q639 dX6_holds_29 ?_
    refine v_iload_n dX6_holds_32 2 rfl rfl ?_
    obtain ⟨g32, h⟩ := gd_some h
    refine v_iald oc35 rx1 g32.1 g32.2 dX6_holds_33 ?_
    obtain ⟨r36, s33, e34, h⟩ := bd_some h
    have k35 := c_X6_isInRange e34 (⟨by decide, rfl⟩ : okB 30 1) rx2 (gE_rg _ _ _) (gE_rg _ _ _)
    have r37 : rg r36 := k35.1.2.2
    refine v_callV (st := []) cf6 oc13 k35 (lw_V q1712 q1713 q1714 q303 q1715) rfl yk_X6_isInRange ⟨Nat.le_of_ble_eq_true rfl, Nat.le_of_ble_eq_true rfl⟩ trivial ⟨kc13, trivial⟩ (Nat.le_of_ble_eq_true rfl) rfl dX6_holds_34 ?_
    obtain ⟨g38, h⟩ := gd_some h
    cases h
    exact v_zret g38 dX6_holds_37

def E_X6_digits_30 (x3 : Int) (rv : Option vA) (σo : vS) (q : Int × Int × vS) : Prop := ∀ (x4' : Int) (x5' : Int) (s' : vS), q = (x4', x5', s') → rg x4' → rg x5' → VW cX6_digits (RX6, rv, σo, (some .boolean), 3, 70, 9, []) (P0 []) s' 155 [(0, vO 13), (3, vI x3), (4, vI x4'), (5, vI x5')] []
def j_X6_digits_122 (rec : Int → Int → Int → Int → Int → Int → vS → Option (Int × Int × vS)) (x1 : Int) (x2 : Int) (x3 : Int) (x5 : Int) (x6 : Int) (z0 : Int) (z1 : Int) (s : vS) : Option (Int × Int × vS) :=
  vl (w32 (z0 + z1)) fun y1 =>
  if (m32 y1 8) = 0 then
    bdv (f_X2_add 30 (and32 x5 255) s) fun s8 =>
    vl (w32 (x6 + 1)) fun y11 =>
    rec x1 x2 x3 y1 0 y11 s8
  else
    vl (w32 (x6 + 1)) fun y5 =>
    rec x1 x2 x3 y1 x5 y5 s
theorem wj_X6_digits_122 {x1 : Int} {x2 : Int} {x3 : Int} {x5 : Int} {x6 : Int} {z0 : Int} {z1 : Int} {s : vS} {rv : Option vA} {σo : vS} {rec : Int → Int → Int → Int → Int → Int → vS → Option (Int × Int × vS)} {q : Int × Int × vS} (h : j_X6_digits_122 rec x1 x2 x3 x5 x6 z0 z1 s = some q)  (rx1 : rg x1) (rx2 : rg x2) (rx3 : rg x3) (rx5 : rg x5) (rx6 : rg x6) (rz0 : rg z0) (rz1 : rg z1) (hrec : ∀ (y4 : Int) (y5 : Int) (y6 : Int) (s : vS) (q : Int × Int × vS), rec x1 x2 x3 y4 y5 y6 s = some q → rg y4 → rg y5 → rg y6 → E_X6_digits_30 x3 rv σo q → VW cX6_digits (RX6, rv, σo, (some .boolean), 3, 70, 9, []) (P0 []) s 30 [(0, vO 13), (1, vI x1), (2, vI x2), (3, vI x3), (4, vI y4), (5, vI y5), (6, vI y6)] []) (hE : E_X6_digits_30 x3 rv σo q) : VW cX6_digits (RX6, rv, σo, (some .boolean), 3, 70, 9, []) (P0 []) s 122 [(0, vO 13), (1, vI x1), (2, vI x2), (3, vI x3), (5, vI x5), (6, vI x6)] [vI z1, vI z0] := by
  unfold j_X6_digits_122 at h
  refine v_iadd dX6_digits_122 ?_
  obtain ⟨y1, e2, h⟩ := vl_some h
  rw [← e2]
  have r3 : rg y1 := by rw [e2]; exact w32_rg _
  refine v_istore (L1 := [(4, vI y1), (0, vO 13), (1, vI x1), (2, vI x2), (3, vI x3), (5, vI x5), (6, vI x6)]) dX6_digits_123 (by decide) rfl ?_
  refine v_iload dX6_digits_125 0 rfl ?_
  refine v_bipush dX6_digits_127 rfl ?_
  refine v_irem dX6_digits_129 (rgl rfl) (by decide) ?_
  refine v_if_ne (tgt := 149) dX6_digits_130 (m32_rg _ _) (by decide) (fun c4 => ?_) (fun c4 => ?_)
  · rw [if_neg c4] at h
    obtain ⟨y5, e6, h⟩ := vl_some h
    refine v_iinc (L1 := [(6, vI (w32 (x6 + 1))), (4, vI y1), (0, vO 13), (1, vI x1), (2, vI x2), (3, vI x3), (5, vI x5)]) dX6_digits_149 6 rfl (by decide) rfl ?_
    rw [← e6]
    have r7 : rg y5 := by rw [e6]; exact w32_rg _
    refine v_goto (tgt := 30) dX6_digits_152 (by decide) ?_
    refine v_sub [2, 3, 4, 5, 1, 6, 0] (L1 := [(0, vO 13), (1, vI x1), (2, vI x2), (3, vI x3), (4, vI y1), (5, vI x5), (6, vI y5)]) rfl ?_
    exact hrec y1 x5 y5 s _ h r3 rx5 r7 hE
  · rw [if_pos c4] at h
    refine v_aload_n dX6_digits_133 1 rfl rfl ?_
    refine v_getS (f := 9) (t := 30) cf6 oc13 rfl rfl rfl (by decide) q636 dX6_digits_134 ?_
    refine v_iload dX6_digits_137 5 rfl ?_
    refine v_sipush dX6_digits_139 rfl ?_
    refine v_iand dX6_digits_142 ?_
    obtain ⟨s8, e9, h⟩ := bdv_some h
    have k10 := c_X2_add e9 (⟨by decide, rfl⟩ : okB 30 1) (and32_rg _ _)
    refine v_callV (st := []) cf2 oc30 k10 (lw_V q1790 q1003 q1004 q299 q1005) rfl yk_X2_add ⟨Nat.le_of_ble_eq_true rfl, Nat.le_of_ble_eq_true rfl⟩ trivial ⟨kc13, trivial⟩ (Nat.le_of_ble_eq_true rfl) rfl dX6_digits_143 ?_
    refine v_iconst dX6_digits_146 ?_
    refine v_istore (L1 := [(5, vI 0), (4, vI y1), (0, vO 13), (1, vI x1), (2, vI x2), (3, vI x3), (6, vI x6)]) dX6_digits_147 (by decide) rfl ?_
    obtain ⟨y11, e12, h⟩ := vl_some h
    refine v_iinc (L1 := [(6, vI (w32 (x6 + 1))), (5, vI 0), (4, vI y1), (0, vO 13), (1, vI x1), (2, vI x2), (3, vI x3)]) dX6_digits_149 6 rfl (by decide) rfl ?_
    rw [← e12]
    have r13 : rg y11 := by rw [e12]; exact w32_rg _
    refine v_goto (tgt := 30) dX6_digits_152 (by decide) ?_
    refine v_sub [3, 4, 5, 6, 2, 1, 0] (L1 := [(0, vO 13), (1, vI x1), (2, vI x2), (3, vI x3), (4, vI y1), (5, vI 0), (6, vI y11)]) rfl ?_
    exact hrec y1 0 y11 s8 _ h r3 (rgl rfl) r13 hE

def j_X6_digits_109 (rec : Int → Int → Int → Int → Int → Int → vS → Option (Int × Int × vS)) (x1 : Int) (x2 : Int) (x3 : Int) (x4 : Int) (x6 : Int) (z0 : Int) (s : vS) : Option (Int × Int × vS) :=
  if x2 = 0 then
    j_X6_digits_122 rec x1 x2 x3 z0 x6 x4 1 s
  else
    j_X6_digits_122 rec x1 x2 x3 z0 x6 x4 4 s
theorem wj_X6_digits_109 {x1 : Int} {x2 : Int} {x3 : Int} {x4 : Int} {x6 : Int} {z0 : Int} {s : vS} {rv : Option vA} {σo : vS} {rec : Int → Int → Int → Int → Int → Int → vS → Option (Int × Int × vS)} {q : Int × Int × vS} (h : j_X6_digits_109 rec x1 x2 x3 x4 x6 z0 s = some q)  (rx1 : rg x1) (rx2 : rg x2) (rx3 : rg x3) (rx4 : rg x4) (rx6 : rg x6) (rz0 : rg z0) (hrec : ∀ (y4 : Int) (y5 : Int) (y6 : Int) (s : vS) (q : Int × Int × vS), rec x1 x2 x3 y4 y5 y6 s = some q → rg y4 → rg y5 → rg y6 → E_X6_digits_30 x3 rv σo q → VW cX6_digits (RX6, rv, σo, (some .boolean), 3, 70, 9, []) (P0 []) s 30 [(0, vO 13), (1, vI x1), (2, vI x2), (3, vI x3), (4, vI y4), (5, vI y5), (6, vI y6)] []) (hE : E_X6_digits_30 x3 rv σo q) : VW cX6_digits (RX6, rv, σo, (some .boolean), 3, 70, 9, []) (P0 []) s 109 [(0, vO 13), (1, vI x1), (2, vI x2), (3, vI x3), (4, vI x4), (6, vI x6)] [vI z0] := by
  unfold j_X6_digits_109 at h
  refine v_istore (L1 := [(5, vI z0), (0, vO 13), (1, vI x1), (2, vI x2), (3, vI x3), (4, vI x4), (6, vI x6)]) dX6_digits_109 (by decide) rfl ?_
  refine v_iload dX6_digits_111 5 rfl ?_
  refine v_iload_n dX6_digits_113 3 rfl rfl ?_
  refine v_if_eq (tgt := 121) dX6_digits_114 rx2 (by decide) (fun c1 => ?_) (fun c1 => ?_)
  · rw [if_pos c1] at h
    refine v_iconst dX6_digits_121 ?_
    refine v_sub [1, 2, 3, 4, 0, 6] (L1 := [(0, vO 13), (1, vI x1), (2, vI x2), (3, vI x3), (5, vI z0), (6, vI x6)]) rfl ?_
    exact wj_X6_digits_122 h rx1 rx2 rx3 rz0 rx6 rx4 (rgl rfl) hrec hE
  · rw [if_neg c1] at h
    refine v_iconst dX6_digits_117 ?_
    refine v_goto (tgt := 122) dX6_digits_118 (by decide) ?_
    refine v_sub [1, 2, 3, 4, 0, 6] (L1 := [(0, vO 13), (1, vI x1), (2, vI x2), (3, vI x3), (5, vI z0), (6, vI x6)]) rfl ?_
    exact wj_X6_digits_122 h rx1 rx2 rx3 rz0 rx6 rx4 (rgl rfl) hrec hE

def j_X6_digits_86 (rec : Int → Int → Int → Int → Int → Int → vS → Option (Int × Int × vS)) (x1 : Int) (x2 : Int) (x3 : Int) (x4 : Int) (x5 : Int) (x6 : Int) (z0 : Int) (s : vS) : Option (Int × Int × vS) :=
  if x2 = 0 then
    j_X6_digits_109 rec x1 x2 x3 x4 x6 (or32 (shl32 x5 1) z0) s
  else
    j_X6_digits_109 rec x1 x2 x3 x4 x6 (or32 (shl32 x5 4) z0) s
theorem wj_X6_digits_86 {x1 : Int} {x2 : Int} {x3 : Int} {x4 : Int} {x5 : Int} {x6 : Int} {z0 : Int} {s : vS} {rv : Option vA} {σo : vS} {rec : Int → Int → Int → Int → Int → Int → vS → Option (Int × Int × vS)} {q : Int × Int × vS} (h : j_X6_digits_86 rec x1 x2 x3 x4 x5 x6 z0 s = some q)  (rx1 : rg x1) (rx2 : rg x2) (rx3 : rg x3) (rx4 : rg x4) (rx5 : rg x5) (rx6 : rg x6) (rz0 : rg z0) (hrec : ∀ (y4 : Int) (y5 : Int) (y6 : Int) (s : vS) (q : Int × Int × vS), rec x1 x2 x3 y4 y5 y6 s = some q → rg y4 → rg y5 → rg y6 → E_X6_digits_30 x3 rv σo q → VW cX6_digits (RX6, rv, σo, (some .boolean), 3, 70, 9, []) (P0 []) s 30 [(0, vO 13), (1, vI x1), (2, vI x2), (3, vI x3), (4, vI y4), (5, vI y5), (6, vI y6)] []) (hE : E_X6_digits_30 x3 rv σo q) : VW cX6_digits (RX6, rv, σo, (some .boolean), 3, 70, 9, []) (P0 []) s 86 [(0, vO 13), (1, vI x1), (2, vI x2), (3, vI x3), (4, vI x4), (5, vI x5), (6, vI x6)] [vI z0] := by
  unfold j_X6_digits_86 at h
  refine v_istore (L1 := [(8, vI z0), (0, vO 13), (1, vI x1), (2, vI x2), (3, vI x3), (4, vI x4), (5, vI x5), (6, vI x6)]) dX6_digits_86 (by decide) rfl ?_
  refine v_iload_n dX6_digits_88 3 rfl rfl ?_
  refine v_if_eq (tgt := 102) dX6_digits_89 rx2 (by decide) (fun c1 => ?_) (fun c1 => ?_)
  · rw [if_pos c1] at h
    refine v_iload dX6_digits_102 6 rfl ?_
    refine v_iconst dX6_digits_104 ?_
    refine v_ishl dX6_digits_105 ?_
    refine v_iload dX6_digits_106 0 rfl ?_
    refine v_ior dX6_digits_108 ?_
    refine v_sub [1, 2, 3, 4, 5, 7] (L1 := [(0, vO 13), (1, vI x1), (2, vI x2), (3, vI x3), (4, vI x4), (6, vI x6)]) rfl ?_
    exact wj_X6_digits_109 h rx1 rx2 rx3 rx4 rx6 (or32_rg _ _) hrec hE
  · rw [if_neg c1] at h
    refine v_iload dX6_digits_92 6 rfl ?_
    refine v_iconst dX6_digits_94 ?_
    refine v_ishl dX6_digits_95 ?_
    refine v_iload dX6_digits_96 0 rfl ?_
    refine v_ior dX6_digits_98 ?_
    refine v_goto (tgt := 109) dX6_digits_99 (by decide) ?_
    refine v_sub [1, 2, 3, 4, 5, 7] (L1 := [(0, vO 13), (1, vI x1), (2, vI x2), (3, vI x3), (4, vI x4), (6, vI x6)]) rfl ?_
    exact wj_X6_digits_109 h rx1 rx2 rx3 rx4 rx6 (or32_rg _ _) hrec hE

def l_X6_digits_30 : Nat → Int → Int → Int → Int → Int → Int → vS → Option (Int × Int × vS)
  | 0, _, _, _, _, _, _, _ => none
  | n + 1, x1, x2, x3, x4, x5, x6, s =>
    gd (gR s 13 0 = 5) <|
    bd (f_X3_end x1 s) fun r5 s2 =>
    if (w32 (r5 - 2)) ≤ x6 then
      some (x4, x5, s2)
    else
      gd (gR s2 13 0 = 5) <|
      bdo (f_X3_text s2) fun r12 s9 =>
      gd (okB r12 1) <|
      bd (f_X2_at r12 x6 s9) fun r17 s14 =>
      if r17 ≤ 32 then
        vl (w32 (x6 + 1)) fun y20 =>
        l_X6_digits_30 n x1 x2 x3 x4 x5 y20 s14
      else
        if r17 ≤ 57 then
          j_X6_digits_86 (l_X6_digits_30 n) x1 x2 x3 x4 x5 x6 (w32 (r17 - 48)) s14
        else
          j_X6_digits_86 (l_X6_digits_30 n) x1 x2 x3 x4 x5 x6 (w32 (r17 - 55)) s14
theorem wl_X6_digits_30 {x1 : Int} {x2 : Int} {x3 : Int} {rv : Option vA} {σo : vS}  (rx1 : rg x1) (rx2 : rg x2) (rx3 : rg x3) : ∀ (n : Nat) (x4 : Int) (x5 : Int) (x6 : Int) (s : vS) (q : Int × Int × vS), l_X6_digits_30 n x1 x2 x3 x4 x5 x6 s = some q → rg x4 → rg x5 → rg x6 → E_X6_digits_30 x3 rv σo q → VW cX6_digits (RX6, rv, σo, (some .boolean), 3, 70, 9, []) (P0 []) s 30 [(0, vO 13), (1, vI x1), (2, vI x2), (3, vI x3), (4, vI x4), (5, vI x5), (6, vI x6)] [] := by
  intro n
  induction n with
  | zero => intro x4 x5 x6 s q h; cases h
  | succ n ih =>
    intro x4 x5 x6 s q h rx4 rx5 rx6 hE
    unfold l_X6_digits_30 at h
    refine v_iload dX6_digits_30 6 rfl ?_
    refine v_aload_n dX6_digits_32 0 rfl rfl ?_
    obtain ⟨g1, h⟩ := gd_some h
    refine v_getR (f := 0) cf6 oc13 rfl (by rw [g1]; decide) (by decide) q627 dX6_digits_33 ?_
    rw [g1]
    refine v_iload_n dX6_digits_36 1 rfl rfl ?_
    obtain ⟨r5, s2, e3, h⟩ := bd_some h
    have k4 := c_X3_end e3 rx1
    have r6 : rg r5 := k4.1.2.2
    refine v_callV (st := [vI x6]) cf3 oc5 k4 (lw_V q1506 q1322 q1323 q300 q1324) rfl yk_X3_end ⟨Nat.le_of_ble_eq_true rfl, Nat.le_of_ble_eq_true rfl⟩ trivial ⟨kc13, trivial⟩ (Nat.le_of_ble_eq_true rfl) rfl dX6_digits_37 ?_
    refine v_iconst dX6_digits_40 ?_
    refine v_isub dX6_digits_41 ?_
    refine v_icmp_ge (tgt := 155) dX6_digits_42 rx6 (w32_rg _) (by decide) (fun c7 => ?_) (fun c7 => ?_)
    · rw [if_pos c7] at h
      cases h
      refine v_sub [0, 3, 4, 5] (L1 := [(0, vO 13), (3, vI x3), (4, vI x4), (5, vI x5)]) rfl ?_
      exact hE _ _ _ rfl rx4 rx5
    · rw [if_neg c7] at h
      refine v_aload_n dX6_digits_45 0 rfl rfl ?_
      obtain ⟨g8, h⟩ := gd_some h
      refine v_getR (f := 0) cf6 oc13 rfl (by rw [g8]; decide) (by decide) q627 dX6_digits_46 ?_
      rw [g8]
      obtain ⟨r12, s9, e10, h⟩ := bdo_some h
      have k11 := c_X3_text e10
      obtain ⟨g13, h⟩ := gd_some h
      refine v_callV (st := []) cf3 oc5 k11 (lw_V q1505 q1328 q1329 q300 q1330) rfl yk_X3_text ⟨Nat.le_of_ble_eq_true rfl, Nat.le_of_ble_eq_true rfl⟩ trivial ⟨kc13, trivial⟩ (Nat.le_of_ble_eq_true rfl) rfl dX6_digits_49 ?_
      refine v_iload dX6_digits_52 6 rfl ?_
      obtain ⟨r17, s14, e15, h⟩ := bd_some h
      have k16 := c_X2_at e15 g13 rx6
      have r18 : rg r17 := k16.1.2.2
      refine v_callV (st := []) cf2 (okB_ok g13) k16 (lw_V q1549 q1072 q1073 q299 q1074) rfl yk_X2_at ⟨Nat.le_of_ble_eq_true rfl, Nat.le_of_ble_eq_true rfl⟩ trivial ⟨kc13, trivial⟩ (Nat.le_of_ble_eq_true rfl) rfl dX6_digits_54 ?_
      refine v_istore (L1 := [(7, vI r17), (0, vO 13), (1, vI x1), (2, vI x2), (3, vI x3), (4, vI x4), (5, vI x5), (6, vI x6)]) dX6_digits_57 (by decide) rfl ?_
      refine v_iload dX6_digits_59 0 rfl ?_
      refine v_bipush dX6_digits_61 rfl ?_
      refine v_icmp_le (tgt := 149) dX6_digits_63 r18 (rgl rfl) (by decide) (fun c19 => ?_) (fun c19 => ?_)
      · rw [if_pos c19] at h
        obtain ⟨y20, e21, h⟩ := vl_some h
        refine v_iinc (L1 := [(6, vI (w32 (x6 + 1))), (7, vI r17), (0, vO 13), (1, vI x1), (2, vI x2), (3, vI x3), (4, vI x4), (5, vI x5)]) dX6_digits_149 7 rfl (by decide) rfl ?_
        rw [← e21]
        have r22 : rg y20 := by rw [e21]; exact w32_rg _
        refine v_goto (tgt := 30) dX6_digits_152 (by decide) ?_
        refine v_sub [2, 3, 4, 5, 6, 7, 0] (L1 := [(0, vO 13), (1, vI x1), (2, vI x2), (3, vI x3), (4, vI x4), (5, vI x5), (6, vI y20)]) rfl ?_
        exact ih x4 x5 y20 s14 _ h rx4 rx5 r22 hE
      · rw [if_neg c19] at h
        refine v_iload dX6_digits_66 0 rfl ?_
        refine v_bipush dX6_digits_68 rfl ?_
        refine v_icmp_le (tgt := 81) dX6_digits_70 r18 (rgl rfl) (by decide) (fun c23 => ?_) (fun c23 => ?_)
        · rw [if_pos c23] at h
          refine v_iload dX6_digits_81 0 rfl ?_
          refine v_bipush dX6_digits_83 rfl ?_
          refine v_isub dX6_digits_85 ?_
          refine v_sub [1, 2, 3, 4, 5, 6, 7] (L1 := [(0, vO 13), (1, vI x1), (2, vI x2), (3, vI x3), (4, vI x4), (5, vI x5), (6, vI x6)]) rfl ?_
          exact wj_X6_digits_86 h rx1 rx2 rx3 rx4 rx5 rx6 (w32_rg _) ih hE
        · rw [if_neg c23] at h
          refine v_iload dX6_digits_73 0 rfl ?_
          refine v_bipush dX6_digits_75 rfl ?_
          refine v_isub dX6_digits_77 ?_
          refine v_goto (tgt := 86) dX6_digits_78 (by decide) ?_
          refine v_sub [1, 2, 3, 4, 5, 6, 7] (L1 := [(0, vO 13), (1, vI x1), (2, vI x2), (3, vI x3), (4, vI x4), (5, vI x5), (6, vI x6)]) rfl ?_
          exact wj_X6_digits_86 h rx1 rx2 rx3 rx4 rx5 rx6 (w32_rg _) ih hE

def j_X6_digits_189 (x3 : Int) (x4 : Int) (x6 : Int) (s : vS) : Option (Int × vS) :=
  if x3 = 0 then
    some (1, s)
  else
    bd (f_X2_size 30 s) fun r5 s2 =>
    bdv (f_X2_set 30 (w32 ((w32 (r5 - 1)) - (d32 (w32 (x4 + 7)) 8))) x6 s2) fun s7 =>
    some (1, s7)
theorem wj_X6_digits_189 {x3 : Int} {x4 : Int} {x6 : Int} {s : vS} {out : Int × vS} (h : j_X6_digits_189 x3 x4 x6 s = some out)  (rx3 : rg x3) (rx4 : rg x4) (rx6 : rg x6) : VW cX6_digits (RX6, (some (vI out.1)), out.2, (some .boolean), 3, 70, 9, []) (P0 []) s 189 [(0, vO 13), (3, vI x3), (4, vI x4), (6, vI x6)] [] := by
  unfold j_X6_digits_189 at h
  refine v_iload_n dX6_digits_189 1 rfl rfl ?_
  refine v_if_eq (tgt := 220) dX6_digits_190 rx3 (by decide) (fun c1 => ?_) (fun c1 => ?_)
  · rw [if_pos c1] at h
    refine v_iconst dX6_digits_220 ?_
    cases h
    exact v_zret (Or.inr rfl) dX6_digits_221
  · rw [if_neg c1] at h
    refine v_aload_n dX6_digits_193 0 rfl rfl ?_
    refine v_getS (f := 9) (t := 30) cf6 oc13 rfl rfl rfl (by decide) q636 dX6_digits_194 ?_
    refine v_aload_n dX6_digits_197 0 rfl rfl ?_
    refine v_getS (f := 9) (t := 30) cf6 oc13 rfl rfl rfl (by decide) q636 dX6_digits_198 ?_
    obtain ⟨r5, s2, e3, h⟩ := bd_some h
    have k4 := c_X2_size e3 (⟨by decide, rfl⟩ : okB 30 1)
    have r6 : rg r5 := k4.1.2.2
    refine v_callV (st := [vO 30]) cf2 oc30 k4 (lw_V q1524 q918 q919 q299 q920) rfl yk_X2_size ⟨Nat.le_of_ble_eq_true rfl, Nat.le_of_ble_eq_true rfl⟩ ⟨kc30, trivial⟩ ⟨kc13, trivial⟩ (Nat.le_of_ble_eq_true rfl) rfl dX6_digits_201 ?_
    refine v_iconst dX6_digits_204 ?_
    refine v_isub dX6_digits_205 ?_
    refine v_iload dX6_digits_206 2 rfl ?_
    refine v_bipush dX6_digits_208 rfl ?_
    refine v_iadd dX6_digits_210 ?_
    refine v_bipush dX6_digits_211 rfl ?_
    refine v_idiv dX6_digits_213 (rgl rfl) (by decide) ?_
    refine v_isub dX6_digits_214 ?_
    refine v_iload dX6_digits_215 3 rfl ?_
    obtain ⟨s7, e8, h⟩ := bdv_some h
    have k9 := c_X2_set e8 (⟨by decide, rfl⟩ : okB 30 1) (w32_rg _) rx6
    refine v_callV (st := []) cf2 oc30 k9 (lw_V q1795 q1536 q1537 q299 q1538) rfl yk_X2_set ⟨Nat.le_of_ble_eq_true rfl, Nat.le_of_ble_eq_true rfl⟩ trivial ⟨kc13, trivial⟩ (Nat.le_of_ble_eq_true rfl) rfl dX6_digits_217 ?_
    refine v_iconst dX6_digits_220 ?_
    cases h
    exact v_zret (Or.inr rfl) dX6_digits_221

def j_X6_digits_18 (x1 : Int) (x2 : Int) (x3 : Int) (x4 : Int) (x5 : Int) (s : vS) : Option (Int × vS) :=
  gd (gR s 13 0 = 5) <|
  bd (f_X3_start x1 s) fun r5 s2 =>
  vl (w32 (r5 + 1)) fun y7 =>
  lq_2 (l_X6_digits_30 FU x1 x2 x3 x4 x5 y7 s2) fun y10 y11 s12 =>
  vl (m32 (w32 (8 - (m32 y10 8))) 8) fun y16 =>
  if y16 ≤ 0 then
    j_X6_digits_189 x3 y10 y16 s12
  else
    bdv (f_X2_add 30 (and32 (shl32 y11 y16) 255) s12) fun s20 =>
    j_X6_digits_189 x3 y10 y16 s20
theorem wj_X6_digits_18 {x1 : Int} {x2 : Int} {x3 : Int} {x4 : Int} {x5 : Int} {s : vS} {out : Int × vS} (h : j_X6_digits_18 x1 x2 x3 x4 x5 s = some out)  (rx1 : rg x1) (rx2 : rg x2) (rx3 : rg x3) (rx4 : rg x4) (rx5 : rg x5) : VW cX6_digits (RX6, (some (vI out.1)), out.2, (some .boolean), 3, 70, 9, []) (P0 []) s 18 [(0, vO 13), (1, vI x1), (2, vI x2), (3, vI x3), (4, vI x4), (5, vI x5)] [] := by
  unfold j_X6_digits_18 at h
  refine v_aload_n dX6_digits_18 0 rfl rfl ?_
  obtain ⟨g1, h⟩ := gd_some h
  refine v_getR (f := 0) cf6 oc13 rfl (by rw [g1]; decide) (by decide) q627 dX6_digits_19 ?_
  rw [g1]
  refine v_iload_n dX6_digits_22 1 rfl rfl ?_
  obtain ⟨r5, s2, e3, h⟩ := bd_some h
  have k4 := c_X3_start e3 rx1
  have r6 : rg r5 := k4.1.2.2
  refine v_callV (st := []) cf3 oc5 k4 (lw_V q1482 q1288 q1289 q300 q1290) rfl yk_X3_start ⟨Nat.le_of_ble_eq_true rfl, Nat.le_of_ble_eq_true rfl⟩ trivial ⟨kc13, trivial⟩ (Nat.le_of_ble_eq_true rfl) rfl dX6_digits_23 ?_
  refine v_iconst dX6_digits_26 ?_
  refine v_iadd dX6_digits_27 ?_
  obtain ⟨y7, e8, h⟩ := vl_some h
  rw [← e8]
  have r9 : rg y7 := by rw [e8]; exact w32_rg _
  refine v_istore (L1 := [(6, vI y7), (0, vO 13), (1, vI x1), (2, vI x2), (3, vI x3), (4, vI x4), (5, vI x5)]) dX6_digits_28 (by decide) rfl ?_
  refine v_sub [1, 2, 3, 4, 5, 6, 0] (L1 := [(0, vO 13), (1, vI x1), (2, vI x2), (3, vI x3), (4, vI x4), (5, vI x5), (6, vI y7)]) rfl ?_
  obtain ⟨y10, y11, s12, e13, h⟩ := lq_2_some h
  refine wl_X6_digits_30 rx1 rx2 rx3 FU x4 x5 y7 s2 _ e13 rx4 rx5 r9 ?_
  unfold E_X6_digits_30
  intro y10' y11' s12' z_ r14 r15
  cases z_
  refine v_bipush dX6_digits_155 rfl ?_
  refine v_iload dX6_digits_157 2 rfl ?_
  refine v_bipush dX6_digits_159 rfl ?_
  refine v_irem dX6_digits_161 (rgl rfl) (by decide) ?_
  refine v_isub dX6_digits_162 ?_
  refine v_bipush dX6_digits_163 rfl ?_
  refine v_irem dX6_digits_165 (rgl rfl) (by decide) ?_
  obtain ⟨y16, e17, h⟩ := vl_some h
  rw [← e17]
  have r18 : rg y16 := by rw [e17]; exact m32_rg _ _
  refine v_istore (L1 := [(6, vI y16), (0, vO 13), (3, vI x3), (4, vI y10), (5, vI y11)]) dX6_digits_166 (by decide) rfl ?_
  refine v_iload dX6_digits_168 0 rfl ?_
  refine v_if_le (tgt := 189) dX6_digits_170 r18 (by decide) (fun c19 => ?_) (fun c19 => ?_)
  · rw [if_pos c19] at h
    refine v_sub [1, 2, 3, 0] (L1 := [(0, vO 13), (3, vI x3), (4, vI y10), (6, vI y16)]) rfl ?_
    exact wj_X6_digits_189 h rx3 r14 r18
  · rw [if_neg c19] at h
    refine v_aload_n dX6_digits_173 1 rfl rfl ?_
    refine v_getS (f := 9) (t := 30) cf6 oc13 rfl rfl rfl (by decide) q636 dX6_digits_174 ?_
    refine v_iload dX6_digits_177 4 rfl ?_
    refine v_iload dX6_digits_179 0 rfl ?_
    refine v_ishl dX6_digits_181 ?_
    refine v_sipush dX6_digits_182 rfl ?_
    refine v_iand dX6_digits_185 ?_
    obtain ⟨s20, e21, h⟩ := bdv_some h
    have k22 := c_X2_add e21 (⟨by decide, rfl⟩ : okB 30 1) (and32_rg _ _)
    refine v_callV (st := []) cf2 oc30 k22 (lw_V q1790 q1003 q1004 q299 q1005) rfl yk_X2_add ⟨Nat.le_of_ble_eq_true rfl, Nat.le_of_ble_eq_true rfl⟩ trivial ⟨kc13, trivial⟩ (Nat.le_of_ble_eq_true rfl) rfl dX6_digits_186 ?_
    refine v_sub [1, 2, 3, 0] (L1 := [(0, vO 13), (3, vI x3), (4, vI y10), (6, vI y16)]) rfl ?_
    exact wj_X6_digits_189 h rx3 r14 r18

def f_X6_digits (x1 : Int) (x2 : Int) (x3 : Int) (s : vS) : Option (Int × vS) :=
  if x3 = 0 then
    j_X6_digits_18 x1 x2 x3 0 0 s
  else
    bdv (f_X2_add 30 0 s) fun s2 =>
    j_X6_digits_18 x1 x2 x3 0 0 s2
theorem yk_X6_digits : yOk yX6_digits 3 := ⟨by decide, by decide, by decide +kernel⟩
theorem c_X6_digits {x1 : Int} {x2 : Int} {x3 : Int} {s : vS} {out : Int × vS} (h : f_X6_digits x1 x2 x3 s = some out)  (rx1 : rg x1) (rx2 : rg x2) (rx3 : rg x3) : VC yX6_digits cX6_digits 9 (some .boolean) 3 70 [vO 13, vI x1, vI x2, vI x3] s (some (vI out.1)) out.2 [] := by
  unfold f_X6_digits at h
  refine VC.of RX6 (by decide) rfl (Nat.le_of_ble_eq_true rfl) ?_
  show VW cX6_digits (RX6, (some (vI out.1)), out.2, (some .boolean), 3, 70, 9, []) (P0 []) s 0 [(0, vO 13), (1, vI x1), (2, vI x2), (3, vI x3)] []
  refine v_iconst dX6_digits_0 ?_
  refine v_istore (L1 := [(4, vI 0), (0, vO 13), (1, vI x1), (2, vI x2), (3, vI x3)]) dX6_digits_1 (by decide) rfl ?_
  refine v_iconst dX6_digits_3 ?_
  refine v_istore (L1 := [(5, vI 0), (4, vI 0), (0, vO 13), (1, vI x1), (2, vI x2), (3, vI x3)]) dX6_digits_4 (by decide) rfl ?_
  refine v_iload_n dX6_digits_6 5 rfl rfl ?_
  refine v_if_eq (tgt := 18) dX6_digits_7 rx3 (by decide) (fun c1 => ?_) (fun c1 => ?_)
  · rw [if_pos c1] at h
    refine v_sub [2, 3, 4, 5, 1, 0] (L1 := [(0, vO 13), (1, vI x1), (2, vI x2), (3, vI x3), (4, vI 0), (5, vI 0)]) rfl ?_
    exact wj_X6_digits_18 h rx1 rx2 rx3 (rgl rfl) (rgl rfl)
  · rw [if_neg c1] at h
    refine v_aload_n dX6_digits_10 2 rfl rfl ?_
    refine v_getS (f := 9) (t := 30) cf6 oc13 rfl rfl rfl (by decide) q636 dX6_digits_11 ?_
    refine v_iconst dX6_digits_14 ?_
    obtain ⟨s2, e3, h⟩ := bdv_some h
    have k4 := c_X2_add e3 (⟨by decide, rfl⟩ : okB 30 1) (rgl rfl)
    refine v_callV (st := []) cf2 oc30 k4 (lw_V q1790 q1003 q1004 q299 q1005) rfl yk_X2_add ⟨Nat.le_of_ble_eq_true rfl, Nat.le_of_ble_eq_true rfl⟩ trivial ⟨kc13, trivial⟩ (Nat.le_of_ble_eq_true rfl) rfl dX6_digits_15 ?_
    refine v_sub [2, 3, 4, 5, 1, 0] (L1 := [(0, vO 13), (1, vI x1), (2, vI x2), (3, vI x3), (4, vI 0), (5, vI 0)]) rfl ?_
    exact wj_X6_digits_18 h rx1 rx2 rx3 (rgl rfl) (rgl rfl)

def E_X6_bitList_12 (x1 : Int) (x2 : Int) (rv : Option vA) (σo : vS) (q : (Int × vS) ⊕ (Int × vS)) : Prop := (∀ (x3' : Int) (s' : vS), q = .inl (x3', s') → rg x3' → VW cX6_bitList (RX6, rv, σo, (some .boolean), 4, 94, 7, []) (P0 []) s' 87 [(0, vO 13), (1, vI x1), (2, vI x2), (3, vI x3')] []) ∧ (∀ (v : Int) (s' : vS), q = .inr (v, s') → rv = some (vI v) ∧ σo = s')
def j_X6_bitList_50 (rec : Int → Int → Int → Int → vS → Option ((Int × vS) ⊕ (Int × vS))) (x1 : Int) (x2 : Int) (x3 : Int) (x4 : Int) (z0 : Int) (s : vS) : Option ((Int × vS) ⊕ (Int × vS)) :=
  if z0 = (-1) then
    some (.inr (0, s))
  else
    bd (f_X6_small z0 s) fun r5 s2 =>
    vl (max x3 (w32 (r5 + 1))) fun y7 =>
    bd (f_X4_next x4 s2) fun r13 s10 =>
    rec x1 x2 y7 r13 s10
theorem wj_X6_bitList_50 {x1 : Int} {x2 : Int} {x3 : Int} {x4 : Int} {z0 : Int} {s : vS} {rv : Option vA} {σo : vS} {rec : Int → Int → Int → Int → vS → Option ((Int × vS) ⊕ (Int × vS))} {q : (Int × vS) ⊕ (Int × vS)} (h : j_X6_bitList_50 rec x1 x2 x3 x4 z0 s = some q)  (rx1 : rg x1) (rx2 : rg x2) (rx3 : rg x3) (rx4 : rg x4) (rz0 : rg z0) (hrec : ∀ (y3 : Int) (y4 : Int) (s : vS) (q : (Int × vS) ⊕ (Int × vS)), rec x1 x2 y3 y4 s = some q → rg y3 → rg y4 → E_X6_bitList_12 x1 x2 rv σo q → VW cX6_bitList (RX6, rv, σo, (some .boolean), 4, 94, 7, []) (P0 []) s 12 [(0, vO 13), (1, vI x1), (2, vI x2), (3, vI y3), (4, vI y4)] []) (hE : E_X6_bitList_12 x1 x2 rv σo q) : VW cX6_bitList (RX6, rv, σo, (some .boolean), 4, 94, 7, []) (P0 []) s 50 [(0, vO 13), (1, vI x1), (2, vI x2), (3, vI x3), (4, vI x4)] [vI z0] := by
  unfold j_X6_bitList_50 at h
  refine v_istore (L1 := [(5, vI z0), (0, vO 13), (1, vI x1), (2, vI x2), (3, vI x3), (4, vI x4)]) dX6_bitList_50 (by decide) rfl ?_
  refine v_iload dX6_bitList_52 0 rfl ?_
  refine v_iconst dX6_bitList_54 ?_
  refine v_icmp_ne (tgt := 60) dX6_bitList_55 rz0 (rgl rfl) (by decide) (fun c1 => ?_) (fun c1 => ?_)
  · rw [if_neg c1] at h
    refine v_iload_n dX6_bitList_60 4 rfl rfl ?_
    refine v_aload_n dX6_bitList_61 1 rfl rfl ?_
    refine v_iload dX6_bitList_62 0 rfl ?_
    obtain ⟨r5, s2, e3, h⟩ := bd_some h
    have k4 := c_X6_small e3 rz0
    have r6 : rg r5 := k4.1.2.2
    refine v_callV (st := [vI x3]) cf6 oc13 k4 (lw_V q1550 q1552 qs54 q303 q1553) rfl yk_X6_small ⟨Nat.le_of_ble_eq_true rfl, Nat.le_of_ble_eq_true rfl⟩ trivial ⟨kc13, trivial⟩ (Nat.le_of_ble_eq_true rfl) rfl dX6_bitList_64 ?_
    refine v_iconst dX6_bitList_67 ?_
    refine v_iadd dX6_bitList_68 ?_
    refine v_max rx3 (w32_rg _) (Nat.le_of_ble_eq_true rfl) (Nat.le_of_ble_eq_true rfl) q1434 dX6_bitList_69 ?_
    obtain ⟨y7, e8, h⟩ := vl_some h
    rw [← e8]
    have r9 : rg y7 := by rw [e8]; exact max_rg rx3 (w32_rg _)
    refine v_istore_n (L1 := [(3, vI y7), (5, vI z0), (0, vO 13), (1, vI x1), (2, vI x2), (4, vI x4)]) dX6_bitList_72 rfl (by decide) rfl ?_
    refine v_aload_n dX6_bitList_73 2 rfl rfl ?_
    refine v_getS (f := 1) (t := 10) cf6 oc13 rfl rfl rfl (by decide) q628 dX6_bitList_74 ?_
    refine v_iload dX6_bitList_77 5 rfl ?_
    obtain ⟨r13, s10, e11, h⟩ := bd_some h
    have k12 := c_X4_next e11 rx4
    have r14 : rg r13 := k12.1.2.2
    refine v_callV (st := []) cf4 oc10 k12 (lw_V q1483 q1404 q1405 q301 q1406) rfl yk_X4_next ⟨Nat.le_of_ble_eq_true rfl, Nat.le_of_ble_eq_true rfl⟩ trivial ⟨kc13, trivial⟩ (Nat.le_of_ble_eq_true rfl) rfl dX6_bitList_79 ?_
    refine v_istore (L1 := [(4, vI r13), (3, vI y7), (5, vI z0), (0, vO 13), (1, vI x1), (2, vI x2)]) dX6_bitList_82 (by decide) rfl ?_
    refine v_goto (tgt := 12) dX6_bitList_84 (by decide) ?_
    refine v_sub [3, 4, 5, 1, 0] (L1 := [(0, vO 13), (1, vI x1), (2, vI x2), (3, vI y7), (4, vI r13)]) rfl ?_
    exact hrec y7 r13 s10 _ h r9 r14 hE
  · rw [if_pos c1] at h
    refine v_iconst dX6_bitList_58 ?_
    cases h
    obtain ⟨z1, z2⟩ := hE.2 _ _ rfl
    subst z1
    subst z2
    exact v_zret (Or.inl rfl) dX6_bitList_59

def l_X6_bitList_12 : Nat → Int → Int → Int → Int → vS → Option ((Int × vS) ⊕ (Int × vS))
  | 0, _, _, _, _, _ => none
  | n + 1, x1, x2, x3, x4, s =>
    if x4 = (-1) then
      some (.inl (x3, s))
    else
      bd (f_X4_at x4 5 s) fun r5 s2 =>
      if r5 = (-1) then
        bd (f_X4_lexeme x4 s2) fun r11 s8 =>
        bd (f_X6_item x2 r11 s8) fun r16 s13 =>
        j_X6_bitList_50 (l_X6_bitList_12 n) x1 x2 x3 x4 r16 s13
      else
        j_X6_bitList_50 (l_X6_bitList_12 n) x1 x2 x3 x4 (-1) s2
theorem wl_X6_bitList_12 {x1 : Int} {x2 : Int} {rv : Option vA} {σo : vS}  (rx1 : rg x1) (rx2 : rg x2) : ∀ (n : Nat) (x3 : Int) (x4 : Int) (s : vS) (q : (Int × vS) ⊕ (Int × vS)), l_X6_bitList_12 n x1 x2 x3 x4 s = some q → rg x3 → rg x4 → E_X6_bitList_12 x1 x2 rv σo q → VW cX6_bitList (RX6, rv, σo, (some .boolean), 4, 94, 7, []) (P0 []) s 12 [(0, vO 13), (1, vI x1), (2, vI x2), (3, vI x3), (4, vI x4)] [] := by
  intro n
  induction n with
  | zero => intro x3 x4 s q h; cases h
  | succ n ih =>
    intro x3 x4 s q h rx3 rx4 hE
    unfold l_X6_bitList_12 at h
    refine v_iload dX6_bitList_12 4 rfl ?_
    refine v_iconst dX6_bitList_14 ?_
    refine v_icmp_eq (tgt := 87) dX6_bitList_15 rx4 (rgl rfl) (by decide) (fun c1 => ?_) (fun c1 => ?_)
    · rw [if_pos c1] at h
      cases h
      refine v_sub [0, 1, 2, 3] (L1 := [(0, vO 13), (1, vI x1), (2, vI x2), (3, vI x3)]) rfl ?_
      exact hE.1 _ _ rfl rx3
    · rw [if_neg c1] at h
      refine v_aload_n dX6_bitList_18 0 rfl rfl ?_
      refine v_getS (f := 1) (t := 10) cf6 oc13 rfl rfl rfl (by decide) q628 dX6_bitList_19 ?_
      refine v_iload dX6_bitList_22 4 rfl ?_
      refine v_iconst dX6_bitList_24 ?_
      obtain ⟨r5, s2, e3, h⟩ := bd_some h
      have k4 := c_X4_at e3 rx4 (rgl rfl)
      have r6 : rg r5 := k4.1.2.2
      refine v_callV (st := []) cf4 oc10 k4 (lw_V q1500 q1400 q1401 q301 q1402) rfl yk_X4_at ⟨Nat.le_of_ble_eq_true rfl, Nat.le_of_ble_eq_true rfl⟩ trivial ⟨kc13, trivial⟩ (Nat.le_of_ble_eq_true rfl) rfl dX6_bitList_25 ?_
      refine v_iconst dX6_bitList_28 ?_
      refine v_icmp_ne (tgt := 49) dX6_bitList_29 r6 (rgl rfl) (by decide) (fun c7 => ?_) (fun c7 => ?_)
      · rw [if_neg c7] at h
        refine v_iconst dX6_bitList_49 ?_
        exact wj_X6_bitList_50 h rx1 rx2 rx3 rx4 (rgl rfl) ih hE
      · rw [if_pos c7] at h
        refine v_aload_n dX6_bitList_32 0 rfl rfl ?_
        refine v_iload_n dX6_bitList_33 2 rfl rfl ?_
        refine v_aload_n dX6_bitList_34 0 rfl rfl ?_
        refine v_getS (f := 1) (t := 10) cf6 oc13 rfl rfl rfl (by decide) q628 dX6_bitList_35 ?_
        refine v_iload dX6_bitList_38 4 rfl ?_
        obtain ⟨r11, s8, e9, h⟩ := bd_some h
        have k10 := c_X4_lexeme e9 rx4
        have r12 : rg r11 := k10.1.2.2
        refine v_callV (st := [vI x2, vO 13]) cf4 oc10 k10 (lw_V q1449 q1450 q1451 q301 q1452) rfl yk_X4_lexeme ⟨Nat.le_of_ble_eq_true rfl, Nat.le_of_ble_eq_true rfl⟩ ⟨kc13, trivial⟩ ⟨kc13, trivial⟩ (Nat.le_of_ble_eq_true rfl) rfl dX6_bitList_40 ?_
        obtain ⟨r16, s13, e14, h⟩ := bd_some h
        have k15 := c_X6_item e14 rx2 r12
        have r17 : rg r16 := k15.1.2.2
        refine v_callV (st := []) cf6 oc13 k15 (lw_V q1592 q1594 qs61 q303 q1595) rfl yk_X6_item ⟨Nat.le_of_ble_eq_true rfl, Nat.le_of_ble_eq_true rfl⟩ trivial ⟨kc13, trivial⟩ (Nat.le_of_ble_eq_true rfl) rfl dX6_bitList_43 ?_
        refine v_goto (tgt := 50) dX6_bitList_46 (by decide) ?_
        exact wj_X6_bitList_50 h rx1 rx2 rx3 rx4 r17 ih hE

def E_X6_bitList_116 (x1 : Int) (x2 : Int) (x4 : Int) (rv : Option vA) (σo : vS) (q : vS) : Prop := ∀ (s' : vS), q = s' → VW cX6_bitList (RX6, rv, σo, (some .boolean), 4, 94, 7, []) (P0 []) s' 136 [(0, vO 13), (1, vI x1), (2, vI x2), (4, vI x4)] []
def l_X6_bitList_116 : Nat → Int → Int → Int → Int → Int → vS → Option (vS)
  | 0, _, _, _, _, _, _ => none
  | n + 1, x1, x2, x3, x4, x5, s =>
    if x3 ≤ x5 then
      some s
    else
      bdv (f_X2_add 30 0 s) fun s2 =>
      vl (w32 (x5 + 8)) fun y5 =>
      l_X6_bitList_116 n x1 x2 x3 x4 y5 s2
theorem wl_X6_bitList_116 {x1 : Int} {x2 : Int} {x3 : Int} {x4 : Int} {rv : Option vA} {σo : vS}  (rx1 : rg x1) (rx2 : rg x2) (rx3 : rg x3) (rx4 : rg x4) : ∀ (n : Nat) (x5 : Int) (s : vS) (q : vS), l_X6_bitList_116 n x1 x2 x3 x4 x5 s = some q → rg x5 → E_X6_bitList_116 x1 x2 x4 rv σo q → VW cX6_bitList (RX6, rv, σo, (some .boolean), 4, 94, 7, []) (P0 []) s 116 [(0, vO 13), (1, vI x1), (2, vI x2), (3, vI x3), (4, vI x4), (5, vI x5)] [] := by
  intro n
  induction n with
  | zero => intro x5 s q h; cases h
  | succ n ih =>
    intro x5 s q h rx5 hE
    unfold l_X6_bitList_116 at h
    refine v_iload dX6_bitList_116 5 rfl ?_
    refine v_iload_n dX6_bitList_118 3 rfl rfl ?_
    refine v_icmp_ge (tgt := 136) dX6_bitList_119 rx5 rx3 (by decide) (fun c1 => ?_) (fun c1 => ?_)
    · rw [if_pos c1] at h
      cases h
      refine v_sub [0, 1, 2, 4] (L1 := [(0, vO 13), (1, vI x1), (2, vI x2), (4, vI x4)]) rfl ?_
      exact hE _ rfl 
    · rw [if_neg c1] at h
      refine v_aload_n dX6_bitList_122 0 rfl rfl ?_
      refine v_getS (f := 9) (t := 30) cf6 oc13 rfl rfl rfl (by decide) q636 dX6_bitList_123 ?_
      refine v_iconst dX6_bitList_126 ?_
      obtain ⟨s2, e3, h⟩ := bdv_some h
      have k4 := c_X2_add e3 (⟨by decide, rfl⟩ : okB 30 1) (rgl rfl)
      refine v_callV (st := []) cf2 oc30 k4 (lw_V q1790 q1003 q1004 q299 q1005) rfl yk_X2_add ⟨Nat.le_of_ble_eq_true rfl, Nat.le_of_ble_eq_true rfl⟩ trivial ⟨kc13, trivial⟩ (Nat.le_of_ble_eq_true rfl) rfl dX6_bitList_127 ?_
      obtain ⟨y5, e6, h⟩ := vl_some h
      refine v_iinc (L1 := [(5, vI (w32 (x5 + 8))), (0, vO 13), (1, vI x1), (2, vI x2), (3, vI x3), (4, vI x4)]) dX6_bitList_130 5 rfl (by decide) rfl ?_
      rw [← e6]
      have r7 : rg y5 := by rw [e6]; exact w32_rg _
      refine v_goto (tgt := 116) dX6_bitList_133 (by decide) ?_
      refine v_sub [1, 2, 3, 4, 5, 0] (L1 := [(0, vO 13), (1, vI x1), (2, vI x2), (3, vI x3), (4, vI x4), (5, vI y5)]) rfl ?_
      exact ih y5 s2 _ h r7 hE

def E_X6_bitList_146 (rv : Option vA) (σo : vS) (q : vS) : Prop := ∀ (s' : vS), q = s' → VW cX6_bitList (RX6, rv, σo, (some .boolean), 4, 94, 7, []) (P0 []) s' 230 [] []
def l_X6_bitList_146 : Nat → Int → Int → Int → vS → Option (vS)
  | 0, _, _, _, _ => none
  | n + 1, x2, x4, x5, s =>
    if x5 = (-1) then
      some s
    else
      bd (f_X4_lexeme x5 s) fun r5 s2 =>
      bd (f_X6_item x2 r5 s2) fun r10 s7 =>
      bd (f_X6_small r10 s7) fun r15 s12 =>
      bd (f_X2_at 30 (w32 ((w32 (x4 + 1)) + (d32 r15 8))) s12) fun r20 s17 =>
      bdv (f_X2_set 30 (w32 ((w32 (x4 + 1)) + (d32 r15 8))) (or32 r20 (shr32 128 (m32 r15 8))) s17) fun s22 =>
      bd (f_X4_next x5 s22) fun r28 s25 =>
      l_X6_bitList_146 n x2 x4 r28 s25
theorem wl_X6_bitList_146 {x2 : Int} {x4 : Int} {rv : Option vA} {σo : vS}  (rx2 : rg x2) (rx4 : rg x4) : ∀ (n : Nat) (x5 : Int) (s : vS) (q : vS), l_X6_bitList_146 n x2 x4 x5 s = some q → rg x5 → E_X6_bitList_146 rv σo q → VW cX6_bitList (RX6, rv, σo, (some .boolean), 4, 94, 7, []) (P0 []) s 146 [(0, vO 13), (2, vI x2), (4, vI x4), (5, vI x5)] [] := by
  intro n
  induction n with
  | zero => intro x5 s q h; cases h
  | succ n ih =>
    intro x5 s q h rx5 hE
    unfold l_X6_bitList_146 at h
    refine v_iload dX6_bitList_146 3 rfl ?_
    refine v_iconst dX6_bitList_148 ?_
    refine v_icmp_eq (tgt := 230) dX6_bitList_149 rx5 (rgl rfl) (by decide) (fun c1 => ?_) (fun c1 => ?_)
    · rw [if_pos c1] at h
      cases h
      refine v_sub [] (L1 := []) rfl ?_
      exact hE _ rfl 
    · rw [if_neg c1] at h
      refine v_aload_n dX6_bitList_152 0 rfl rfl ?_
      refine v_aload_n dX6_bitList_153 0 rfl rfl ?_
      refine v_iload_n dX6_bitList_154 1 rfl rfl ?_
      refine v_aload_n dX6_bitList_155 0 rfl rfl ?_
      refine v_getS (f := 1) (t := 10) cf6 oc13 rfl rfl rfl (by decide) q628 dX6_bitList_156 ?_
      refine v_iload dX6_bitList_159 3 rfl ?_
      obtain ⟨r5, s2, e3, h⟩ := bd_some h
      have k4 := c_X4_lexeme e3 rx5
      have r6 : rg r5 := k4.1.2.2
      refine v_callV (st := [vI x2, vO 13, vO 13]) cf4 oc10 k4 (lw_V q1449 q1450 q1451 q301 q1452) rfl yk_X4_lexeme ⟨Nat.le_of_ble_eq_true rfl, Nat.le_of_ble_eq_true rfl⟩ ⟨kc13, kc13, trivial⟩ ⟨kc13, trivial⟩ (Nat.le_of_ble_eq_true rfl) rfl dX6_bitList_161 ?_
      obtain ⟨r10, s7, e8, h⟩ := bd_some h
      have k9 := c_X6_item e8 rx2 r6
      have r11 : rg r10 := k9.1.2.2
      refine v_callV (st := [vO 13]) cf6 oc13 k9 (lw_V q1592 q1594 qs61 q303 q1595) rfl yk_X6_item ⟨Nat.le_of_ble_eq_true rfl, Nat.le_of_ble_eq_true rfl⟩ ⟨kc13, trivial⟩ ⟨kc13, trivial⟩ (Nat.le_of_ble_eq_true rfl) rfl dX6_bitList_164 ?_
      obtain ⟨r15, s12, e13, h⟩ := bd_some h
      have k14 := c_X6_small e13 r11
      have r16 : rg r15 := k14.1.2.2
      refine v_callV (st := []) cf6 oc13 k14 (lw_V q1550 q1552 qs54 q303 q1553) rfl yk_X6_small ⟨Nat.le_of_ble_eq_true rfl, Nat.le_of_ble_eq_true rfl⟩ trivial ⟨kc13, trivial⟩ (Nat.le_of_ble_eq_true rfl) rfl dX6_bitList_167 ?_
      refine v_istore (L1 := [(6, vI r15), (0, vO 13), (2, vI x2), (4, vI x4), (5, vI x5)]) dX6_bitList_170 (by decide) rfl ?_
      refine v_aload_n dX6_bitList_172 1 rfl rfl ?_
      refine v_getS (f := 9) (t := 30) cf6 oc13 rfl rfl rfl (by decide) q636 dX6_bitList_173 ?_
      refine v_iload dX6_bitList_176 3 rfl ?_
      refine v_iconst dX6_bitList_178 ?_
      refine v_iadd dX6_bitList_179 ?_
      refine v_iload dX6_bitList_180 0 rfl ?_
      refine v_bipush dX6_bitList_182 rfl ?_
      refine v_idiv dX6_bitList_184 (rgl rfl) (by decide) ?_
      refine v_iadd dX6_bitList_185 ?_
      refine v_aload_n dX6_bitList_186 1 rfl rfl ?_
      refine v_getS (f := 9) (t := 30) cf6 oc13 rfl rfl rfl (by decide) q636 dX6_bitList_187 ?_
      refine v_iload dX6_bitList_190 3 rfl ?_
      refine v_iconst dX6_bitList_192 ?_
      refine v_iadd dX6_bitList_193 ?_
      refine v_iload dX6_bitList_194 0 rfl ?_
      refine v_bipush dX6_bitList_196 rfl ?_
      refine v_idiv dX6_bitList_198 (rgl rfl) (by decide) ?_
      refine v_iadd dX6_bitList_199 ?_
      obtain ⟨r20, s17, e18, h⟩ := bd_some h
      have k19 := c_X2_at e18 (⟨by decide, rfl⟩ : okB 30 1) (w32_rg _)
      have r21 : rg r20 := k19.1.2.2
      refine v_callV (st := [vI (w32 ((w32 (x4 + 1)) + (d32 r15 8))), vO 30]) cf2 oc30 k19 (lw_V q1549 q1072 q1073 q299 q1074) rfl yk_X2_at ⟨Nat.le_of_ble_eq_true rfl, Nat.le_of_ble_eq_true rfl⟩ ⟨kc30, trivial⟩ ⟨kc13, trivial⟩ (Nat.le_of_ble_eq_true rfl) rfl dX6_bitList_200 ?_
      refine v_sipush dX6_bitList_203 rfl ?_
      refine v_iload dX6_bitList_206 0 rfl ?_
      refine v_bipush dX6_bitList_208 rfl ?_
      refine v_irem dX6_bitList_210 (rgl rfl) (by decide) ?_
      refine v_ishr dX6_bitList_211 ?_
      refine v_ior dX6_bitList_212 ?_
      obtain ⟨s22, e23, h⟩ := bdv_some h
      have k24 := c_X2_set e23 (⟨by decide, rfl⟩ : okB 30 1) (w32_rg _) (or32_rg _ _)
      refine v_callV (st := []) cf2 oc30 k24 (lw_V q1795 q1536 q1537 q299 q1538) rfl yk_X2_set ⟨Nat.le_of_ble_eq_true rfl, Nat.le_of_ble_eq_true rfl⟩ trivial ⟨kc13, trivial⟩ (Nat.le_of_ble_eq_true rfl) rfl dX6_bitList_213 ?_
      refine v_aload_n dX6_bitList_216 1 rfl rfl ?_
      refine v_getS (f := 1) (t := 10) cf6 oc13 rfl rfl rfl (by decide) q628 dX6_bitList_217 ?_
      refine v_iload dX6_bitList_220 4 rfl ?_
      obtain ⟨r28, s25, e26, h⟩ := bd_some h
      have k27 := c_X4_next e26 rx5
      have r29 : rg r28 := k27.1.2.2
      refine v_callV (st := []) cf4 oc10 k27 (lw_V q1483 q1404 q1405 q301 q1406) rfl yk_X4_next ⟨Nat.le_of_ble_eq_true rfl, Nat.le_of_ble_eq_true rfl⟩ trivial ⟨kc13, trivial⟩ (Nat.le_of_ble_eq_true rfl) rfl dX6_bitList_222 ?_
      refine v_istore (L1 := [(5, vI r28), (6, vI r15), (0, vO 13), (2, vI x2), (4, vI x4)]) dX6_bitList_225 (by decide) rfl ?_
      refine v_goto (tgt := 146) dX6_bitList_227 (by decide) ?_
      refine v_sub [2, 3, 4, 0] (L1 := [(0, vO 13), (2, vI x2), (4, vI x4), (5, vI r28)]) rfl ?_
      exact ih r28 s25 _ h r29 hE

def f_X6_bitList (x1 : Int) (x2 : Int) (s : vS) : Option (Int × vS) :=
  bd (f_X4_parts x1 s) fun r4 s1 =>
  lqs_1 (l_X6_bitList_12 FU x1 x2 0 r4 s1) (fun y6 s7 =>
    bd (f_X2_size 30 s7) fun r13 s10 =>
    bdv (f_X2_add 30 (m32 (w32 (8 - (m32 y6 8))) 8) s10) fun s15 =>
    lq_0 (l_X6_bitList_116 FU x1 x2 y6 r13 0 s15) fun s18 =>
    bd (f_X4_parts x1 s18) fun r23 s20 =>
    lq_0 (l_X6_bitList_146 FU x2 r13 r23 s20) fun s25 =>
    some (1, s25))
    (fun q => some q)
theorem yk_X6_bitList : yOk yX6_bitList 2 := ⟨by decide, by decide, by decide +kernel⟩
theorem c_X6_bitList {x1 : Int} {x2 : Int} {s : vS} {out : Int × vS} (h : f_X6_bitList x1 x2 s = some out)  (rx1 : rg x1) (rx2 : rg x2) : VC yX6_bitList cX6_bitList 7 (some .boolean) 4 94 [vO 13, vI x1, vI x2] s (some (vI out.1)) out.2 [] := by
  unfold f_X6_bitList at h
  refine VC.of RX6 (by decide) rfl (Nat.le_of_ble_eq_true rfl) ?_
  show VW cX6_bitList (RX6, (some (vI out.1)), out.2, (some .boolean), 4, 94, 7, []) (P0 []) s 0 [(0, vO 13), (1, vI x1), (2, vI x2)] []
  refine v_iconst dX6_bitList_0 ?_
  refine v_istore_n (L1 := [(3, vI 0), (0, vO 13), (1, vI x1), (2, vI x2)]) dX6_bitList_1 rfl (by decide) rfl ?_
  refine v_aload_n dX6_bitList_2 1 rfl rfl ?_
  refine v_getS (f := 1) (t := 10) cf6 oc13 rfl rfl rfl (by decide) q628 dX6_bitList_3 ?_
  refine v_iload_n dX6_bitList_6 2 rfl rfl ?_
  obtain ⟨r4, s1, e2, h⟩ := bd_some h
  have k3 := c_X4_parts e2 rx1
  have r5 : rg r4 := k3.1.2.2
  refine v_callV (st := []) cf4 oc10 k3 (lw_V q1492 q1493 q1494 q301 q1495) rfl yk_X4_parts ⟨Nat.le_of_ble_eq_true rfl, Nat.le_of_ble_eq_true rfl⟩ trivial ⟨kc13, trivial⟩ (Nat.le_of_ble_eq_true rfl) rfl dX6_bitList_7 ?_
  refine v_istore (L1 := [(4, vI r4), (3, vI 0), (0, vO 13), (1, vI x1), (2, vI x2)]) dX6_bitList_10 (by decide) rfl ?_
  refine v_sub [2, 3, 4, 1, 0] (L1 := [(0, vO 13), (1, vI x1), (2, vI x2), (3, vI 0), (4, vI r4)]) rfl ?_
  rcases lqs_1_some h with ⟨y6, s7, e8, h⟩ | ⟨q9, e8, h⟩
  · refine wl_X6_bitList_12 rx1 rx2 FU 0 r4 s1 _ e8 (rgl rfl) r5 ?_
    unfold E_X6_bitList_12
    refine ⟨?_, fun v9 s9 z_ => (by cases z_)⟩
    intro y6' s7' z_ r9
    cases z_
    refine v_aload_n dX6_bitList_87 0 rfl rfl ?_
    refine v_getS (f := 9) (t := 30) cf6 oc13 rfl rfl rfl (by decide) q636 dX6_bitList_88 ?_
    obtain ⟨r13, s10, e11, h⟩ := bd_some h
    have k12 := c_X2_size e11 (⟨by decide, rfl⟩ : okB 30 1)
    have r14 : rg r13 := k12.1.2.2
    refine v_callV (st := []) cf2 oc30 k12 (lw_V q1524 q918 q919 q299 q920) rfl yk_X2_size ⟨Nat.le_of_ble_eq_true rfl, Nat.le_of_ble_eq_true rfl⟩ trivial ⟨kc13, trivial⟩ (Nat.le_of_ble_eq_true rfl) rfl dX6_bitList_91 ?_
    refine v_istore (L1 := [(4, vI r13), (0, vO 13), (1, vI x1), (2, vI x2), (3, vI y6)]) dX6_bitList_94 (by decide) rfl ?_
    refine v_aload_n dX6_bitList_96 1 rfl rfl ?_
    refine v_getS (f := 9) (t := 30) cf6 oc13 rfl rfl rfl (by decide) q636 dX6_bitList_97 ?_
    refine v_bipush dX6_bitList_100 rfl ?_
    refine v_iload_n dX6_bitList_102 4 rfl rfl ?_
    refine v_bipush dX6_bitList_103 rfl ?_
    refine v_irem dX6_bitList_105 (rgl rfl) (by decide) ?_
    refine v_isub dX6_bitList_106 ?_
    refine v_bipush dX6_bitList_107 rfl ?_
    refine v_irem dX6_bitList_109 (rgl rfl) (by decide) ?_
    obtain ⟨s15, e16, h⟩ := bdv_some h
    have k17 := c_X2_add e16 (⟨by decide, rfl⟩ : okB 30 1) (m32_rg _ _)
    refine v_callV (st := []) cf2 oc30 k17 (lw_V q1790 q1003 q1004 q299 q1005) rfl yk_X2_add ⟨Nat.le_of_ble_eq_true rfl, Nat.le_of_ble_eq_true rfl⟩ trivial ⟨kc13, trivial⟩ (Nat.le_of_ble_eq_true rfl) rfl dX6_bitList_110 ?_
    refine v_iconst dX6_bitList_113 ?_
    refine v_istore (L1 := [(5, vI 0), (4, vI r13), (0, vO 13), (1, vI x1), (2, vI x2), (3, vI y6)]) dX6_bitList_114 (by decide) rfl ?_
    refine v_sub [2, 3, 4, 5, 1, 0] (L1 := [(0, vO 13), (1, vI x1), (2, vI x2), (3, vI y6), (4, vI r13), (5, vI 0)]) rfl ?_
    obtain ⟨s18, e19, h⟩ := lq_0_some h
    refine wl_X6_bitList_116 rx1 rx2 r9 r14 FU 0 s15 _ e19 (rgl rfl) ?_
    unfold E_X6_bitList_116
    intro s18' z_
    cases z_
    refine v_aload_n dX6_bitList_136 0 rfl rfl ?_
    refine v_getS (f := 1) (t := 10) cf6 oc13 rfl rfl rfl (by decide) q628 dX6_bitList_137 ?_
    refine v_iload_n dX6_bitList_140 1 rfl rfl ?_
    obtain ⟨r23, s20, e21, h⟩ := bd_some h
    have k22 := c_X4_parts e21 rx1
    have r24 : rg r23 := k22.1.2.2
    refine v_callV (st := []) cf4 oc10 k22 (lw_V q1492 q1493 q1494 q301 q1495) rfl yk_X4_parts ⟨Nat.le_of_ble_eq_true rfl, Nat.le_of_ble_eq_true rfl⟩ trivial ⟨kc13, trivial⟩ (Nat.le_of_ble_eq_true rfl) rfl dX6_bitList_141 ?_
    refine v_istore (L1 := [(5, vI r23), (0, vO 13), (1, vI x1), (2, vI x2), (4, vI r13)]) dX6_bitList_144 (by decide) rfl ?_
    refine v_sub [1, 3, 4, 0] (L1 := [(0, vO 13), (2, vI x2), (4, vI r13), (5, vI r23)]) rfl ?_
    obtain ⟨s25, e26, h⟩ := lq_0_some h
    refine wl_X6_bitList_146 rx2 r14 FU r23 s20 _ e26 r24 ?_
    unfold E_X6_bitList_146
    intro s25' z_
    cases z_
    refine v_iconst dX6_bitList_230 ?_
    cases h
    exact v_zret (Or.inr rfl) dX6_bitList_231
  · cases h
    refine wl_X6_bitList_12 rx1 rx2 FU 0 r4 s1 _ e8 (rgl rfl) r5 ?_
    unfold E_X6_bitList_12
    refine ⟨fun _ _ z_ => (by cases z_), ?_⟩
    intro v9 s9 z_
    cases z_
    exact ⟨rfl, rfl⟩

def f_X11_beginOid (o : Nat) (s : vS) : Option (vS) :=
  stp (sI s o 2 0) fun s1 =>
  some s1
theorem yk_X11_beginOid : yOk yX11_beginOid 0 := ⟨by decide, by decide, by decide +kernel⟩
theorem c_X11_beginOid {o : Nat} {s : vS} {out : vS} (h : f_X11_beginOid o s = some out) (ho : okB o 10)  : VC yX11_beginOid cX11_beginOid 1 none 0 0 [vO o] s none out [] := by
  unfold f_X11_beginOid at h
  refine VC.of RX11 (by decide) rfl (Nat.le_of_ble_eq_true rfl) ?_
  show VW cX11_beginOid (RX11, none, out, none, 0, 0, 1, []) (P0 []) s 0 [(0, vO o)] []
  refine v_aload_n dX11_beginOid_0 0 rfl rfl ?_
  refine v_iconst dX11_beginOid_1 ?_
  obtain ⟨s1, e2, h⟩ := stp_some h
  refine v_putI (f := 2) cf11 (okB_ok ho) rfl (by decide) q616 dX11_beginOid_2 rfl rfl ?_
  rw [← e2]
  cases h
  exact v_vret dX11_beginOid_5

def E_X6_isWord_28 (p2 : Nat) (rv : Option vA) (σo : vS) (q : (vS) ⊕ (Int × vS)) : Prop := (∀ (s' : vS), q = .inl s' → VW cX6_isWord (RX6, rv, σo, (some .boolean), 4, 85, 4, []) (P0 []) s' 72 [] []) ∧ (∀ (v : Int) (s' : vS), q = .inr (v, s') → rv = some (vI v) ∧ σo = s')
def l_X6_isWord_28 (p2 : Nat) : Nat → Int → Int → vS → Option ((vS) ⊕ (Int × vS))
  | 0, _, _, _ => none
  | n + 1, x1, x3, s =>
    if (sL p2) ≤ x3 then
      some (.inl s)
    else
      gd (gR s 13 0 = 5) <|
      bdo (f_X3_text s) fun r6 s3 =>
      gd (okB r6 1) <|
      gd (gR s3 13 0 = 5) <|
      bd (f_X3_start x1 s3) fun r12 s9 =>
      bd (f_X2_at r6 (w32 (r12 + x3)) s9) fun r17 s14 =>
      gd (0 ≤ x3 ∧ x3 < sL p2) <|
      if r17 = (sC p2 x3) then
        vl (w32 (x3 + 1)) fun y21 =>
        l_X6_isWord_28 p2 n x1 y21 s14
      else
        some (.inr (0, s14))
theorem wl_X6_isWord_28 (p2 : Nat) {x1 : Int} {rv : Option vA} {σo : vS} (hp2 : oS p2) (rx1 : rg x1) : ∀ (n : Nat) (x3 : Int) (s : vS) (q : (vS) ⊕ (Int × vS)), l_X6_isWord_28 p2 n x1 x3 s = some q → rg x3 → E_X6_isWord_28 p2 rv σo q → VW cX6_isWord (RX6, rv, σo, (some .boolean), 4, 85, 4, []) (P0 []) s 28 [(0, vO 13), (1, vI x1), (2, vO p2), (3, vI x3)] [] := by
  intro n
  induction n with
  | zero => intro x3 s q h; cases h
  | succ n ih =>
    intro x3 s q h rx3 hE
    unfold l_X6_isWord_28 at h
    refine v_iload_n dX6_isWord_28 3 rfl rfl ?_
    refine v_aload_n dX6_isWord_29 2 rfl rfl ?_
    refine v_callVS (st := [vI x3]) hp2 (c_yJ5_length (s := s) hp2) (lw_V q1817 q1111 q1112 q318 q1113) rfl yk_yJ5_length ⟨Nat.le_of_ble_eq_true rfl, Nat.le_of_ble_eq_true rfl⟩ trivial ⟨kc13, (Or.inr hp2.1), trivial⟩ (Nat.le_of_ble_eq_true rfl) rfl dX6_isWord_30 ?_
    refine v_icmp_ge (tgt := 72) dX6_isWord_33 rx3 ((sL_rg hp2)) (by decide) (fun c1 => ?_) (fun c1 => ?_)
    · rw [if_pos c1] at h
      cases h
      refine v_sub [] (L1 := []) rfl ?_
      exact hE.1 _ rfl 
    · rw [if_neg c1] at h
      refine v_aload_n dX6_isWord_36 0 rfl rfl ?_
      obtain ⟨g2, h⟩ := gd_some h
      refine v_getR (f := 0) cf6 oc13 rfl (by rw [g2]; decide) (by decide) q627 dX6_isWord_37 ?_
      rw [g2]
      obtain ⟨r6, s3, e4, h⟩ := bdo_some h
      have k5 := c_X3_text e4
      obtain ⟨g7, h⟩ := gd_some h
      refine v_callV (st := []) cf3 oc5 k5 (lw_V q1505 q1328 q1329 q300 q1330) rfl yk_X3_text ⟨Nat.le_of_ble_eq_true rfl, Nat.le_of_ble_eq_true rfl⟩ trivial ⟨kc13, (Or.inr hp2.1), trivial⟩ (Nat.le_of_ble_eq_true rfl) rfl dX6_isWord_40 ?_
      refine v_aload_n dX6_isWord_43 0 rfl rfl ?_
      obtain ⟨g8, h⟩ := gd_some h
      refine v_getR (f := 0) cf6 oc13 rfl (by rw [g8]; decide) (by decide) q627 dX6_isWord_44 ?_
      rw [g8]
      refine v_iload_n dX6_isWord_47 1 rfl rfl ?_
      obtain ⟨r12, s9, e10, h⟩ := bd_some h
      have k11 := c_X3_start e10 rx1
      have r13 : rg r12 := k11.1.2.2
      refine v_callV (st := [vO r6]) cf3 oc5 k11 (lw_V q1482 q1288 q1289 q300 q1290) rfl yk_X3_start ⟨Nat.le_of_ble_eq_true rfl, Nat.le_of_ble_eq_true rfl⟩ ⟨(okB_kp g7 (by decide)), trivial⟩ ⟨kc13, (Or.inr hp2.1), trivial⟩ (Nat.le_of_ble_eq_true rfl) rfl dX6_isWord_48 ?_
      refine v_iload_n dX6_isWord_51 3 rfl rfl ?_
      refine v_iadd dX6_isWord_52 ?_
      obtain ⟨r17, s14, e15, h⟩ := bd_some h
      have k16 := c_X2_at e15 g7 (w32_rg _)
      have r18 : rg r17 := k16.1.2.2
      refine v_callV (st := []) cf2 (okB_ok g7) k16 (lw_V q1549 q1072 q1073 q299 q1074) rfl yk_X2_at ⟨Nat.le_of_ble_eq_true rfl, Nat.le_of_ble_eq_true rfl⟩ trivial ⟨kc13, (Or.inr hp2.1), trivial⟩ (Nat.le_of_ble_eq_true rfl) rfl dX6_isWord_53 ?_
      refine v_aload_n dX6_isWord_56 2 rfl rfl ?_
      refine v_iload_n dX6_isWord_57 3 rfl rfl ?_
      obtain ⟨g19, h⟩ := gd_some h
      refine v_callVS (st := [vI r17]) hp2 (c_yJ5_charAt (s := s14) hp2 rx3 g19) (lw_V q1818 q1121 q1122 q318 q1123) rfl yk_yJ5_charAt ⟨Nat.le_of_ble_eq_true rfl, Nat.le_of_ble_eq_true rfl⟩ trivial ⟨kc13, (Or.inr hp2.1), trivial⟩ (Nat.le_of_ble_eq_true rfl) rfl dX6_isWord_58 ?_
      refine v_icmp_eq (tgt := 66) dX6_isWord_61 r18 ((sC_rg hp2 _)) (by decide) (fun c20 => ?_) (fun c20 => ?_)
      · rw [if_pos c20] at h
        obtain ⟨y21, e22, h⟩ := vl_some h
        refine v_iinc (L1 := [(3, vI (w32 (x3 + 1))), (0, vO 13), (1, vI x1), (2, vO p2)]) dX6_isWord_66 3 rfl (by decide) rfl ?_
        rw [← e22]
        have r23 : rg y21 := by rw [e22]; exact w32_rg _
        refine v_goto (tgt := 28) dX6_isWord_69 (by decide) ?_
        refine v_sub [1, 2, 3, 0] (L1 := [(0, vO 13), (1, vI x1), (2, vO p2), (3, vI y21)]) rfl ?_
        exact ih y21 s14 _ h r23 hE
      · rw [if_neg c20] at h
        refine v_iconst dX6_isWord_64 ?_
        cases h
        obtain ⟨z1, z2⟩ := hE.2 _ _ rfl
        subst z1
        subst z2
        exact v_zret (Or.inl rfl) dX6_isWord_65

def f_X6_isWord (x1 : Int) (p2 : Nat) (s : vS) : Option (Int × vS) :=
  gd (gR s 13 0 = 5) <|
  bd (f_X3_end x1 s) fun r5 s2 =>
  gd (gR s2 13 0 = 5) <|
  bd (f_X3_start x1 s2) fun r11 s8 =>
  if (w32 (r5 - r11)) = (sL p2) then
    lqs_0 (l_X6_isWord_28 p2 FU x1 0 s8) (fun s14 =>
      some (1, s14))
      (fun q => some q)
  else
    some (0, s8)
theorem yk_X6_isWord : yOk yX6_isWord 2 := ⟨by decide, by decide, by decide +kernel⟩
theorem c_X6_isWord {x1 : Int} {p2 : Nat} {s : vS} {out : Int × vS} (h : f_X6_isWord x1 p2 s = some out) (hp2 : oS p2) (rx1 : rg x1) : VC yX6_isWord cX6_isWord 4 (some .boolean) 4 85 [vO 13, vI x1, vO p2] s (some (vI out.1)) out.2 [] := by
  unfold f_X6_isWord at h
  refine VC.of RX6 (by decide) rfl (Nat.le_of_ble_eq_true rfl) ?_
  show VW cX6_isWord (RX6, (some (vI out.1)), out.2, (some .boolean), 4, 85, 4, []) (P0 []) s 0 [(0, vO 13), (1, vI x1), (2, vO p2)] []
  refine v_aload_n dX6_isWord_0 0 rfl rfl ?_
  obtain ⟨g1, h⟩ := gd_some h
  refine v_getR (f := 0) cf6 oc13 rfl (by rw [g1]; decide) (by decide) q627 dX6_isWord_1 ?_
  rw [g1]
  refine v_iload_n dX6_isWord_4 1 rfl rfl ?_
  obtain ⟨r5, s2, e3, h⟩ := bd_some h
  have k4 := c_X3_end e3 rx1
  have r6 : rg r5 := k4.1.2.2
  refine v_callV (st := []) cf3 oc5 k4 (lw_V q1506 q1322 q1323 q300 q1324) rfl yk_X3_end ⟨Nat.le_of_ble_eq_true rfl, Nat.le_of_ble_eq_true rfl⟩ trivial ⟨kc13, (Or.inr hp2.1), trivial⟩ (Nat.le_of_ble_eq_true rfl) rfl dX6_isWord_5 ?_
  refine v_aload_n dX6_isWord_8 0 rfl rfl ?_
  obtain ⟨g7, h⟩ := gd_some h
  refine v_getR (f := 0) cf6 oc13 rfl (by rw [g7]; decide) (by decide) q627 dX6_isWord_9 ?_
  rw [g7]
  refine v_iload_n dX6_isWord_12 1 rfl rfl ?_
  obtain ⟨r11, s8, e9, h⟩ := bd_some h
  have k10 := c_X3_start e9 rx1
  have r12 : rg r11 := k10.1.2.2
  refine v_callV (st := [vI r5]) cf3 oc5 k10 (lw_V q1482 q1288 q1289 q300 q1290) rfl yk_X3_start ⟨Nat.le_of_ble_eq_true rfl, Nat.le_of_ble_eq_true rfl⟩ trivial ⟨kc13, (Or.inr hp2.1), trivial⟩ (Nat.le_of_ble_eq_true rfl) rfl dX6_isWord_13 ?_
  refine v_isub dX6_isWord_16 ?_
  refine v_aload_n dX6_isWord_17 2 rfl rfl ?_
  refine v_callVS (st := [vI (w32 (r5 - r11))]) hp2 (c_yJ5_length (s := s8) hp2) (lw_V q1817 q1111 q1112 q318 q1113) rfl yk_yJ5_length ⟨Nat.le_of_ble_eq_true rfl, Nat.le_of_ble_eq_true rfl⟩ trivial ⟨kc13, (Or.inr hp2.1), trivial⟩ (Nat.le_of_ble_eq_true rfl) rfl dX6_isWord_18 ?_
  refine v_icmp_eq (tgt := 26) dX6_isWord_21 (w32_rg _) ((sL_rg hp2)) (by decide) (fun c13 => ?_) (fun c13 => ?_)
  · rw [if_pos c13] at h
    refine v_iconst dX6_isWord_26 ?_
    refine v_istore_n (L1 := [(3, vI 0), (0, vO 13), (1, vI x1), (2, vO p2)]) dX6_isWord_27 rfl (by decide) rfl ?_
    refine v_sub [1, 2, 3, 0] (L1 := [(0, vO 13), (1, vI x1), (2, vO p2), (3, vI 0)]) rfl ?_
    rcases lqs_0_some h with ⟨s14, e15, h⟩ | ⟨q9, e15, h⟩
    · refine wl_X6_isWord_28 p2 hp2 rx1 FU 0 s8 _ e15 (rgl rfl) ?_
      unfold E_X6_isWord_28
      refine ⟨?_, fun v9 s9 z_ => (by cases z_)⟩
      intro s14' z_
      cases z_
      refine v_iconst dX6_isWord_72 ?_
      cases h
      exact v_zret (Or.inr rfl) dX6_isWord_73
    · cases h
      refine wl_X6_isWord_28 p2 hp2 rx1 FU 0 s8 _ e15 (rgl rfl) ?_
      unfold E_X6_isWord_28
      refine ⟨fun _ z_ => (by cases z_), ?_⟩
      intro v9 s9 z_
      cases z_
      exact ⟨rfl, rfl⟩
  · rw [if_neg c13] at h
    refine v_iconst dX6_isWord_24 ?_
    cases h
    exact v_zret (Or.inl rfl) dX6_isWord_25

def f_X6_firstPart (x1 : Int) (s : vS) : Option (Int × vS) :=
  bd (f_X6_isWord x1 1078 s) fun r4 s1 =>
  if r4 = 0 then
    bd (f_X6_isWord x1 1079 s1) fun r10 s7 =>
    if r10 = 0 then
      bd (f_X6_isWord x1 1080 s7) fun r16 s13 =>
      if r16 = 0 then
        bd (f_X6_isWord x1 1081 s13) fun r22 s19 =>
        if r22 = 0 then
          bd (f_X6_isWord x1 1082 s19) fun r28 s25 =>
          if r28 = 0 then
            some ((-1), s25)
          else
            some (2, s25)
        else
          some (2, s19)
      else
        some (1, s13)
    else
      some (0, s7)
  else
    some (0, s1)
theorem yk_X6_firstPart : yOk yX6_firstPart 1 := ⟨by decide, by decide, by decide +kernel⟩
theorem c_X6_firstPart {x1 : Int} {s : vS} {out : Int × vS} (h : f_X6_firstPart x1 s = some out)  (rx1 : rg x1) : VC yX6_firstPart cX6_firstPart 2 (some .int) 5 108 [vO 13, vI x1] s (some (vI out.1)) out.2 [] := by
  unfold f_X6_firstPart at h
  refine VC.of RX6 (by decide) rfl (Nat.le_of_ble_eq_true rfl) ?_
  show VW cX6_firstPart (RX6, (some (vI out.1)), out.2, (some .int), 5, 108, 2, []) (P0 []) s 0 [(0, vO 13), (1, vI x1)] []
  refine v_aload_n dX6_firstPart_0 0 rfl rfl ?_
  refine v_iload_n dX6_firstPart_1 1 rfl rfl ?_
  refine v_ldcsW (i := 78) (by decide) rfl rfl dX6_firstPart_2 ?_
  obtain ⟨r4, s1, e2, h⟩ := bd_some h
  have k3 := c_X6_isWord e2 (⟨by decide, by decide⟩ : oS 1078) rx1
  have r5 : rg r4 := k3.1.2.2
  refine v_callV (st := []) cf6 oc13 k3 (lw_V q1813 q1815 qs100 q303 q1816) rfl yk_X6_isWord ⟨Nat.le_of_ble_eq_true rfl, Nat.le_of_ble_eq_true rfl⟩ trivial ⟨kc13, trivial⟩ (Nat.le_of_ble_eq_true rfl) rfl dX6_firstPart_5 ?_
  refine v_if_ne (tgt := 22) dX6_firstPart_8 r5 (by decide) (fun c6 => ?_) (fun c6 => ?_)
  · rw [if_neg c6] at h
    refine v_iconst dX6_firstPart_22 ?_
    cases h
    exact v_iret (rgl rfl) dX6_firstPart_23
  · rw [if_pos c6] at h
    refine v_aload_n dX6_firstPart_11 0 rfl rfl ?_
    refine v_iload_n dX6_firstPart_12 1 rfl rfl ?_
    refine v_ldcsW (i := 79) (by decide) rfl rfl dX6_firstPart_13 ?_
    obtain ⟨r10, s7, e8, h⟩ := bd_some h
    have k9 := c_X6_isWord e8 (⟨by decide, by decide⟩ : oS 1079) rx1
    have r11 : rg r10 := k9.1.2.2
    refine v_callV (st := []) cf6 oc13 k9 (lw_V q1813 q1815 qs100 q303 q1816) rfl yk_X6_isWord ⟨Nat.le_of_ble_eq_true rfl, Nat.le_of_ble_eq_true rfl⟩ trivial ⟨kc13, trivial⟩ (Nat.le_of_ble_eq_true rfl) rfl dX6_firstPart_16 ?_
    refine v_if_eq (tgt := 24) dX6_firstPart_19 r11 (by decide) (fun c12 => ?_) (fun c12 => ?_)
    · rw [if_pos c12] at h
      refine v_aload_n dX6_firstPart_24 0 rfl rfl ?_
      refine v_iload_n dX6_firstPart_25 1 rfl rfl ?_
      refine v_ldcsW (i := 80) (by decide) rfl rfl dX6_firstPart_26 ?_
      obtain ⟨r16, s13, e14, h⟩ := bd_some h
      have k15 := c_X6_isWord e14 (⟨by decide, by decide⟩ : oS 1080) rx1
      have r17 : rg r16 := k15.1.2.2
      refine v_callV (st := []) cf6 oc13 k15 (lw_V q1813 q1815 qs100 q303 q1816) rfl yk_X6_isWord ⟨Nat.le_of_ble_eq_true rfl, Nat.le_of_ble_eq_true rfl⟩ trivial ⟨kc13, trivial⟩ (Nat.le_of_ble_eq_true rfl) rfl dX6_firstPart_29 ?_
      refine v_if_eq (tgt := 37) dX6_firstPart_32 r17 (by decide) (fun c18 => ?_) (fun c18 => ?_)
      · rw [if_pos c18] at h
        refine v_aload_n dX6_firstPart_37 0 rfl rfl ?_
        refine v_iload_n dX6_firstPart_38 1 rfl rfl ?_
        refine v_ldcsW (i := 81) (by decide) rfl rfl dX6_firstPart_39 ?_
        obtain ⟨r22, s19, e20, h⟩ := bd_some h
        have k21 := c_X6_isWord e20 (⟨by decide, by decide⟩ : oS 1081) rx1
        have r23 : rg r22 := k21.1.2.2
        refine v_callV (st := []) cf6 oc13 k21 (lw_V q1813 q1815 qs100 q303 q1816) rfl yk_X6_isWord ⟨Nat.le_of_ble_eq_true rfl, Nat.le_of_ble_eq_true rfl⟩ trivial ⟨kc13, trivial⟩ (Nat.le_of_ble_eq_true rfl) rfl dX6_firstPart_42 ?_
        refine v_if_ne (tgt := 59) dX6_firstPart_45 r23 (by decide) (fun c24 => ?_) (fun c24 => ?_)
        · rw [if_neg c24] at h
          refine v_iconst dX6_firstPart_59 ?_
          refine v_goto (tgt := 64) dX6_firstPart_60 (by decide) ?_
          cases h
          exact v_iret (rgl rfl) dX6_firstPart_64
        · rw [if_pos c24] at h
          refine v_aload_n dX6_firstPart_48 0 rfl rfl ?_
          refine v_iload_n dX6_firstPart_49 1 rfl rfl ?_
          refine v_ldcsW (i := 82) (by decide) rfl rfl dX6_firstPart_50 ?_
          obtain ⟨r28, s25, e26, h⟩ := bd_some h
          have k27 := c_X6_isWord e26 (⟨by decide, by decide⟩ : oS 1082) rx1
          have r29 : rg r28 := k27.1.2.2
          refine v_callV (st := []) cf6 oc13 k27 (lw_V q1813 q1815 qs100 q303 q1816) rfl yk_X6_isWord ⟨Nat.le_of_ble_eq_true rfl, Nat.le_of_ble_eq_true rfl⟩ trivial ⟨kc13, trivial⟩ (Nat.le_of_ble_eq_true rfl) rfl dX6_firstPart_53 ?_
          refine v_if_eq (tgt := 63) dX6_firstPart_56 r29 (by decide) (fun c30 => ?_) (fun c30 => ?_)
          · rw [if_pos c30] at h
            refine v_iconst dX6_firstPart_63 ?_
            cases h
            exact v_iret (rgl rfl) dX6_firstPart_64
          · rw [if_neg c30] at h
            refine v_iconst dX6_firstPart_59 ?_
            refine v_goto (tgt := 64) dX6_firstPart_60 (by decide) ?_
            cases h
            exact v_iret (rgl rfl) dX6_firstPart_64
      · rw [if_neg c18] at h
        refine v_iconst dX6_firstPart_35 ?_
        cases h
        exact v_iret (rgl rfl) dX6_firstPart_36
    · rw [if_neg c12] at h
      refine v_iconst dX6_firstPart_22 ?_
      cases h
      exact v_iret (rgl rfl) dX6_firstPart_23

def f_X7_small (o : Nat) (x1 : Int) (s : vS) : Option (Int × vS) :=
  if (gI s o 1) = 0 then
    some (0, s)
  else
    if (gI s o 1) = 1 then
      gd (inb 0 (gN s (o + 1))) <|
      if (gE s (o + 1) 0) < 0 then
        some ((-1), s)
      else
        gd (inb 0 (gN s (o + 1))) <|
        if x1 < (gE s (o + 1) 0) then
          some ((-1), s)
        else
          gd (inb 0 (gN s (o + 1))) <|
          some (gE s (o + 1) 0, s)
    else
      some ((-1), s)
theorem yk_X7_small : yOk yX7_small 1 := ⟨by decide, by decide, by decide +kernel⟩
theorem c_X7_small {o : Nat} {x1 : Int} {s : vS} {out : Int × vS} (h : f_X7_small o x1 s = some out) (ho : okB o 6) (rx1 : rg x1) : VC yX7_small cX7_small 2 (some .int) 0 0 [vO o, vI x1] s (some (vI out.1)) out.2 [] := by
  unfold f_X7_small at h
  refine VC.of RX7 (by decide) rfl (Nat.le_of_ble_eq_true rfl) ?_
  show VW cX7_small (RX7, (some (vI out.1)), out.2, (some .int), 0, 0, 2, []) (P0 []) s 0 [(0, vO o), (1, vI x1)] []
  refine v_aload_n dX7_small_0 0 rfl rfl ?_
  refine v_getI (f := 1) cf7 (okB_ok ho) rfl (by decide) q529 dX7_small_1 ?_
  refine v_if_ne (tgt := 11) dX7_small_4 (gI_rg _ _ _) (by decide) (fun c1 => ?_) (fun c1 => ?_)
  · rw [if_neg c1] at h
    refine v_aload_n dX7_small_11 0 rfl rfl ?_
    refine v_getI (f := 1) cf7 (okB_ok ho) rfl (by decide) q529 dX7_small_12 ?_
    refine v_iconst dX7_small_15 ?_
    refine v_icmp_ne (tgt := 47) dX7_small_16 (gI_rg _ _ _) (rgl rfl) (by decide) (fun c2 => ?_) (fun c2 => ?_)
    · rw [if_neg c2] at h
      refine v_iconst dX7_small_47 ?_
      cases h
      exact v_iret (rgl rfl) dX7_small_48
    · rw [if_pos c2] at h
      refine v_aload_n dX7_small_19 0 rfl rfl ?_
      refine v_getS (f := 0) (t := o + 1) cf7 (okB_ok ho) rfl rfl rfl (by decide) q528 dX7_small_20 ?_
      refine v_iconst dX7_small_23 ?_
      obtain ⟨g3, h⟩ := gd_some h
      refine v_iald (okB_ok (ch_6_0 ho)) (rgl rfl) g3.1 g3.2 dX7_small_24 ?_
      refine v_if_lt (tgt := 47) dX7_small_25 (gE_rg _ _ _) (by decide) (fun c4 => ?_) (fun c4 => ?_)
      · rw [if_pos c4] at h
        refine v_iconst dX7_small_47 ?_
        cases h
        exact v_iret (rgl rfl) dX7_small_48
      · rw [if_neg c4] at h
        refine v_aload_n dX7_small_28 0 rfl rfl ?_
        refine v_getS (f := 0) (t := o + 1) cf7 (okB_ok ho) rfl rfl rfl (by decide) q528 dX7_small_29 ?_
        refine v_iconst dX7_small_32 ?_
        obtain ⟨g5, h⟩ := gd_some h
        refine v_iald (okB_ok (ch_6_0 ho)) (rgl rfl) g5.1 g5.2 dX7_small_33 ?_
        refine v_iload_n dX7_small_34 1 rfl rfl ?_
        refine v_icmp_gt (tgt := 47) dX7_small_35 (gE_rg _ _ _) rx1 (by decide) (fun c6 => ?_) (fun c6 => ?_)
        · rw [if_pos c6] at h
          refine v_iconst dX7_small_47 ?_
          cases h
          exact v_iret (rgl rfl) dX7_small_48
        · rw [if_neg c6] at h
          refine v_aload_n dX7_small_38 0 rfl rfl ?_
          refine v_getS (f := 0) (t := o + 1) cf7 (okB_ok ho) rfl rfl rfl (by decide) q528 dX7_small_39 ?_
          refine v_iconst dX7_small_42 ?_
          obtain ⟨g7, h⟩ := gd_some h
          refine v_iald (okB_ok (ch_6_0 ho)) (rgl rfl) g7.1 g7.2 dX7_small_43 ?_
          refine v_goto (tgt := 48) dX7_small_44 (by decide) ?_
          cases h
          exact v_iret (gE_rg _ _ _) dX7_small_48
  · rw [if_pos c1] at h
    refine v_iconst dX7_small_7 ?_
    refine v_goto (tgt := 48) dX7_small_8 (by decide) ?_
    cases h
    exact v_iret (rgl rfl) dX7_small_48

def f_X7_groupOf (o : Nat) (x1 : Int) (s : vS) : Option (Int × vS) :=
  vl (w32 (7 * x1)) fun y1 =>
  bd (f_X7_byteOf o (d32 y1 8) s) fun r7 s4 =>
  bd (f_X7_byteOf o (w32 ((d32 y1 8) + 1)) s4) fun r12 s9 =>
  some (and32 (shr32 (or32 r7 (shl32 r12 8)) (m32 y1 8)) 127, s9)
theorem yk_X7_groupOf : yOk yX7_groupOf 1 := ⟨by decide, by decide, by decide +kernel⟩
theorem c_X7_groupOf {o : Nat} {x1 : Int} {s : vS} {out : Int × vS} (h : f_X7_groupOf o x1 s = some out) (ho : okB o 6) (rx1 : rg x1) : VC yX7_groupOf cX7_groupOf 3 (some .int) 1 21 [vO o, vI x1] s (some (vI out.1)) out.2 [] := by
  unfold f_X7_groupOf at h
  refine VC.of RX7 (by decide) rfl (Nat.le_of_ble_eq_true rfl) ?_
  show VW cX7_groupOf (RX7, (some (vI out.1)), out.2, (some .int), 1, 21, 3, []) (P0 []) s 0 [(0, vO o), (1, vI x1)] []
  refine v_bipush dX7_groupOf_0 rfl ?_
  refine v_iload_n dX7_groupOf_2 1 rfl rfl ?_
  refine v_imul dX7_groupOf_3 ?_
  obtain ⟨y1, e2, h⟩ := vl_some h
  rw [← e2]
  have r3 : rg y1 := by rw [e2]; exact w32_rg _
  refine v_istore_n (L1 := [(2, vI y1), (0, vO o), (1, vI x1)]) dX7_groupOf_4 rfl (by decide) rfl ?_
  refine v_aload_n dX7_groupOf_5 1 rfl rfl ?_
  refine v_iload_n dX7_groupOf_6 0 rfl rfl ?_
  refine v_bipush dX7_groupOf_7 rfl ?_
  refine v_idiv dX7_groupOf_9 (rgl rfl) (by decide) ?_
  obtain ⟨r7, s4, e5, h⟩ := bd_some h
  have k6 := c_X7_byteOf e5 ho (d32_rg _ _)
  have r8 : rg r7 := k6.1.2.2
  refine v_callV (st := []) cf7 (okB_ok ho) k6 (lw_V q1529 q1531 qs52 q304 q1532) rfl yk_X7_byteOf ⟨Nat.le_of_ble_eq_true rfl, Nat.le_of_ble_eq_true rfl⟩ trivial ⟨(okB_kp ho (by decide)), trivial⟩ (Nat.le_of_ble_eq_true rfl) rfl dX7_groupOf_10 ?_
  refine v_aload_n dX7_groupOf_13 1 rfl rfl ?_
  refine v_iload_n dX7_groupOf_14 0 rfl rfl ?_
  refine v_bipush dX7_groupOf_15 rfl ?_
  refine v_idiv dX7_groupOf_17 (rgl rfl) (by decide) ?_
  refine v_iconst dX7_groupOf_18 ?_
  refine v_iadd dX7_groupOf_19 ?_
  obtain ⟨r12, s9, e10, h⟩ := bd_some h
  have k11 := c_X7_byteOf e10 ho (w32_rg _)
  have r13 : rg r12 := k11.1.2.2
  refine v_callV (st := [vI r7]) cf7 (okB_ok ho) k11 (lw_V q1529 q1531 qs52 q304 q1532) rfl yk_X7_byteOf ⟨Nat.le_of_ble_eq_true rfl, Nat.le_of_ble_eq_true rfl⟩ trivial ⟨(okB_kp ho (by decide)), trivial⟩ (Nat.le_of_ble_eq_true rfl) rfl dX7_groupOf_20 ?_
  refine v_bipush dX7_groupOf_23 rfl ?_
  refine v_ishl dX7_groupOf_25 ?_
  refine v_ior dX7_groupOf_26 ?_
  refine v_iload_n dX7_groupOf_27 0 rfl rfl ?_
  refine v_bipush dX7_groupOf_28 rfl ?_
  refine v_irem dX7_groupOf_30 (rgl rfl) (by decide) ?_
  refine v_ishr dX7_groupOf_31 ?_
  refine v_bipush dX7_groupOf_32 rfl ?_
  refine v_iand dX7_groupOf_34 ?_
  cases h
  exact v_iret (and32_rg _ _) dX7_groupOf_35

def E_X7_groups_21 (o : Nat) (p2 : Nat) (rv : Option vA) (σo : vS) (q : Int × vS) : Prop := ∀ (x3' : Int) (s' : vS), q = (x3', s') → rg x3' → VW cX7_groups (RX7, rv, σo, none, 3, 77, 5, []) (P0 []) s' 42 [(0, vO o), (2, vO p2), (3, vI x3')] []
def l_X7_groups_21 (o : Nat) (p2 : Nat) : Nat → Int → vS → Option (Int × vS)
  | 0, _, _ => none
  | n + 1, x3, s =>
    if x3 ≤ 1 then
      some (x3, s)
    else
      bd (f_X7_groupOf o (w32 (x3 - 1)) s) fun r5 s2 =>
      if r5 = 0 then
        vl (w32 (x3 + (-1))) fun y8 =>
        l_X7_groups_21 o p2 n y8 s2
      else
        some (x3, s2)
theorem wl_X7_groups_21 (o : Nat) (p2 : Nat) {rv : Option vA} {σo : vS} (ho : okB o 6) (hp2 : okB p2 1) : ∀ (n : Nat) (x3 : Int) (s : vS) (q : Int × vS), l_X7_groups_21 o p2 n x3 s = some q → rg x3 → E_X7_groups_21 o p2 rv σo q → VW cX7_groups (RX7, rv, σo, none, 3, 77, 5, []) (P0 []) s 21 [(0, vO o), (2, vO p2), (3, vI x3)] [] := by
  intro n
  induction n with
  | zero => intro x3 s q h; cases h
  | succ n ih =>
    intro x3 s q h rx3 hE
    unfold l_X7_groups_21 at h
    refine v_iload_n dX7_groups_21 2 rfl rfl ?_
    refine v_iconst dX7_groups_22 ?_
    refine v_icmp_le (tgt := 42) dX7_groups_23 rx3 (rgl rfl) (by decide) (fun c1 => ?_) (fun c1 => ?_)
    · rw [if_pos c1] at h
      cases h
      exact hE _ _ rfl rx3
    · rw [if_neg c1] at h
      refine v_aload_n dX7_groups_26 0 rfl rfl ?_
      refine v_iload_n dX7_groups_27 2 rfl rfl ?_
      refine v_iconst dX7_groups_28 ?_
      refine v_isub dX7_groups_29 ?_
      obtain ⟨r5, s2, e3, h⟩ := bd_some h
      have k4 := c_X7_groupOf e3 ho (w32_rg _)
      have r6 : rg r5 := k4.1.2.2
      refine v_callV (st := []) cf7 (okB_ok ho) k4 (lw_V q1840 q1842 qs102 q304 q1843) rfl yk_X7_groupOf ⟨Nat.le_of_ble_eq_true rfl, Nat.le_of_ble_eq_true rfl⟩ trivial ⟨(okB_kp ho (by decide)), (okB_kp hp2 (by decide)), trivial⟩ (Nat.le_of_ble_eq_true rfl) rfl dX7_groups_30 ?_
      refine v_if_ne (tgt := 42) dX7_groups_33 r6 (by decide) (fun c7 => ?_) (fun c7 => ?_)
      · rw [if_neg c7] at h
        cases h
        exact hE _ _ rfl rx3
      · rw [if_pos c7] at h
        obtain ⟨y8, e9, h⟩ := vl_some h
        refine v_iinc (L1 := [(3, vI (w32 (x3 + (-1)))), (0, vO o), (2, vO p2)]) dX7_groups_36 2 rfl (by decide) rfl ?_
        rw [← e9]
        have r10 : rg y8 := by rw [e9]; exact w32_rg _
        refine v_goto (tgt := 21) dX7_groups_39 (by decide) ?_
        refine v_sub [1, 2, 0] (L1 := [(0, vO o), (2, vO p2), (3, vI y8)]) rfl ?_
        exact ih y8 s2 _ h r10 hE

def E_X7_groups_51 (o : Nat) (p2 : Nat) (rv : Option vA) (σo : vS) (q : vS) : Prop := ∀ (s' : vS), q = s' → VW cX7_groups (RX7, rv, σo, none, 3, 77, 5, []) (P0 []) s' 85 [] []
def j_X7_groups_75 (o : Nat) (p2 : Nat) (rec : Int → vS → Option (vS)) (x4 : Int) (z1 : Int) (z2 : Int) (s : vS) : Option (vS) :=
  bdv (f_X2_add p2 (or32 z1 z2) s) fun s1 =>
  vl (w32 (x4 + (-1))) fun y4 =>
  rec y4 s1
theorem wj_X7_groups_75 {o : Nat} {p2 : Nat} {x4 : Int} {z1 : Int} {z2 : Int} {s : vS} {rv : Option vA} {σo : vS} {rec : Int → vS → Option (vS)} {q : vS} (h : j_X7_groups_75 o p2 rec x4 z1 z2 s = some q) (ho : okB o 6) (hp2 : okB p2 1) (rx4 : rg x4) (rz1 : rg z1) (rz2 : rg z2) (hrec : ∀ (y4 : Int) (s : vS) (q : vS), rec y4 s = some q → rg y4 → E_X7_groups_51 o p2 rv σo q → VW cX7_groups (RX7, rv, σo, none, 3, 77, 5, []) (P0 []) s 51 [(0, vO o), (2, vO p2), (4, vI y4)] []) (hE : E_X7_groups_51 o p2 rv σo q) : VW cX7_groups (RX7, rv, σo, none, 3, 77, 5, []) (P0 []) s 75 [(0, vO o), (2, vO p2), (4, vI x4)] [vI z2, vI z1, vO p2] := by
  unfold j_X7_groups_75 at h
  refine v_ior dX7_groups_75 ?_
  obtain ⟨s1, e2, h⟩ := bdv_some h
  have k3 := c_X2_add e2 hp2 (or32_rg _ _)
  refine v_callV (st := []) cf2 (okB_ok hp2) k3 (lw_V q1534 q1003 q1004 q299 q1005) rfl yk_X2_add ⟨Nat.le_of_ble_eq_true rfl, Nat.le_of_ble_eq_true rfl⟩ trivial ⟨(okB_kp ho (by decide)), (okB_kp hp2 (by decide)), trivial⟩ (Nat.le_of_ble_eq_true rfl) rfl dX7_groups_76 ?_
  obtain ⟨y4, e5, h⟩ := vl_some h
  refine v_iinc (L1 := [(4, vI (w32 (x4 + (-1)))), (0, vO o), (2, vO p2)]) dX7_groups_79 2 rfl (by decide) rfl ?_
  rw [← e5]
  have r6 : rg y4 := by rw [e5]; exact w32_rg _
  refine v_goto (tgt := 51) dX7_groups_82 (by decide) ?_
  refine v_sub [1, 2, 0] (L1 := [(0, vO o), (2, vO p2), (4, vI y4)]) rfl ?_
  exact hrec y4 s1 _ h r6 hE

def l_X7_groups_51 (o : Nat) (p2 : Nat) : Nat → Int → vS → Option (vS)
  | 0, _, _ => none
  | n + 1, x4, s =>
    if x4 < 0 then
      some s
    else
      bd (f_X7_groupOf o x4 s) fun r5 s2 =>
      if x4 ≤ 0 then
        j_X7_groups_75 o p2 (l_X7_groups_51 o p2 n) x4 r5 0 s2
      else
        j_X7_groups_75 o p2 (l_X7_groups_51 o p2 n) x4 r5 128 s2
theorem wl_X7_groups_51 (o : Nat) (p2 : Nat) {rv : Option vA} {σo : vS} (ho : okB o 6) (hp2 : okB p2 1) : ∀ (n : Nat) (x4 : Int) (s : vS) (q : vS), l_X7_groups_51 o p2 n x4 s = some q → rg x4 → E_X7_groups_51 o p2 rv σo q → VW cX7_groups (RX7, rv, σo, none, 3, 77, 5, []) (P0 []) s 51 [(0, vO o), (2, vO p2), (4, vI x4)] [] := by
  intro n
  induction n with
  | zero => intro x4 s q h; cases h
  | succ n ih =>
    intro x4 s q h rx4 hE
    unfold l_X7_groups_51 at h
    refine v_iload dX7_groups_51 2 rfl ?_
    refine v_if_lt (tgt := 85) dX7_groups_53 rx4 (by decide) (fun c1 => ?_) (fun c1 => ?_)
    · rw [if_pos c1] at h
      cases h
      refine v_sub [] (L1 := []) rfl ?_
      exact hE _ rfl 
    · rw [if_neg c1] at h
      refine v_aload_n dX7_groups_56 1 rfl rfl ?_
      refine v_aload_n dX7_groups_57 0 rfl rfl ?_
      refine v_iload dX7_groups_58 2 rfl ?_
      obtain ⟨r5, s2, e3, h⟩ := bd_some h
      have k4 := c_X7_groupOf e3 ho rx4
      have r6 : rg r5 := k4.1.2.2
      refine v_callV (st := [vO p2]) cf7 (okB_ok ho) k4 (lw_V q1840 q1842 qs102 q304 q1843) rfl yk_X7_groupOf ⟨Nat.le_of_ble_eq_true rfl, Nat.le_of_ble_eq_true rfl⟩ ⟨(okB_kp hp2 (by decide)), trivial⟩ ⟨(okB_kp ho (by decide)), (okB_kp hp2 (by decide)), trivial⟩ (Nat.le_of_ble_eq_true rfl) rfl dX7_groups_60 ?_
      refine v_iload dX7_groups_63 2 rfl ?_
      refine v_if_le (tgt := 74) dX7_groups_65 rx4 (by decide) (fun c7 => ?_) (fun c7 => ?_)
      · rw [if_pos c7] at h
        refine v_iconst dX7_groups_74 ?_
        exact wj_X7_groups_75 h ho hp2 rx4 r6 (rgl rfl) ih hE
      · rw [if_neg c7] at h
        refine v_sipush dX7_groups_68 rfl ?_
        refine v_goto (tgt := 75) dX7_groups_71 (by decide) ?_
        exact wj_X7_groups_75 h ho hp2 rx4 r6 (rgl rfl) ih hE

def j_X7_groups_42 (o : Nat) (p2 : Nat) (x3 : Int) (s : vS) : Option (vS) :=
  vl (w32 ((max x3 1) - 1)) fun y1 =>
  lq_0 (l_X7_groups_51 o p2 FU y1 s) fun s4 =>
  some s4
theorem wj_X7_groups_42 {o : Nat} {p2 : Nat} {x3 : Int} {s : vS} {out : vS} (h : j_X7_groups_42 o p2 x3 s = some out) (ho : okB o 6) (hp2 : okB p2 1) (rx3 : rg x3) : VW cX7_groups (RX7, none, out, none, 3, 77, 5, []) (P0 []) s 42 [(0, vO o), (2, vO p2), (3, vI x3)] [] := by
  unfold j_X7_groups_42 at h
  refine v_iload_n dX7_groups_42 2 rfl rfl ?_
  refine v_iconst dX7_groups_43 ?_
  refine v_max rx3 (rgl rfl) (Nat.le_of_ble_eq_true rfl) (Nat.le_of_ble_eq_true rfl) q1844 dX7_groups_44 ?_
  refine v_iconst dX7_groups_47 ?_
  refine v_isub dX7_groups_48 ?_
  obtain ⟨y1, e2, h⟩ := vl_some h
  rw [← e2]
  have r3 : rg y1 := by rw [e2]; exact w32_rg _
  refine v_istore (L1 := [(4, vI y1), (0, vO o), (2, vO p2), (3, vI x3)]) dX7_groups_49 (by decide) rfl ?_
  refine v_sub [1, 2, 0] (L1 := [(0, vO o), (2, vO p2), (4, vI y1)]) rfl ?_
  obtain ⟨s4, e5, h⟩ := lq_0_some h
  refine wl_X7_groups_51 o p2 ho hp2 FU y1 s _ e5 r3 ?_
  unfold E_X7_groups_51
  intro s4' z_
  cases z_
  cases h
  exact v_vret dX7_groups_85

def f_X7_groups (o : Nat) (x1 : Int) (p2 : Nat) (s : vS) : Option (vS) :=
  bdv (f_X7_grow o 1 x1 s) fun s1 =>
  vl (d32 (w32 ((w32 (32 * (gI s1 o 1))) + 6)) 7) fun y4 =>
  lq_1 (l_X7_groups_21 o p2 FU y4 s1) fun y7 s8 =>
  j_X7_groups_42 o p2 y7 s8
theorem yk_X7_groups : yOk yX7_groups 2 := ⟨by decide, by decide, by decide +kernel⟩
theorem c_X7_groups {o : Nat} {x1 : Int} {p2 : Nat} {s : vS} {out : vS} (h : f_X7_groups o x1 p2 s = some out) (ho : okB o 6) (hp2 : okB p2 1) (rx1 : rg x1) : VC yX7_groups cX7_groups 5 none 3 77 [vO o, vI x1, vO p2] s none out [] := by
  unfold f_X7_groups at h
  refine VC.of RX7 (by decide) rfl (Nat.le_of_ble_eq_true rfl) ?_
  show VW cX7_groups (RX7, none, out, none, 3, 77, 5, []) (P0 []) s 0 [(0, vO o), (1, vI x1), (2, vO p2)] []
  refine v_aload_n dX7_groups_0 0 rfl rfl ?_
  refine v_lconst (n := 1) dX7_groups_1 rfl ?_
  refine v_iload_n dX7_groups_2 1 rfl rfl ?_
  refine v_i2l dX7_groups_3 rx1 ?_
  obtain ⟨s1, e2, h⟩ := bdv_some h
  have k3 := c_X7_grow e2 ho (rglL rfl) (rg_rgL rx1)
  refine v_callV (st := []) cf7 (okB_ok ho) k3 (lw_V q1514 q1516 qs50 q304 q1517) rfl yk_X7_grow ⟨Nat.le_of_ble_eq_true rfl, Nat.le_of_ble_eq_true rfl⟩ trivial ⟨(okB_kp ho (by decide)), (okB_kp hp2 (by decide)), trivial⟩ (Nat.le_of_ble_eq_true rfl) rfl dX7_groups_4 ?_
  refine v_bipush dX7_groups_7 rfl ?_
  refine v_aload_n dX7_groups_9 0 rfl rfl ?_
  refine v_getI (f := 1) cf7 (okB_ok ho) rfl (by decide) q529 dX7_groups_10 ?_
  refine v_imul dX7_groups_13 ?_
  refine v_bipush dX7_groups_14 rfl ?_
  refine v_iadd dX7_groups_16 ?_
  refine v_bipush dX7_groups_17 rfl ?_
  refine v_idiv dX7_groups_19 (rgl rfl) (by decide) ?_
  obtain ⟨y4, e5, h⟩ := vl_some h
  rw [← e5]
  have r6 : rg y4 := by rw [e5]; exact d32_rg _ _
  refine v_istore_n (L1 := [(3, vI y4), (0, vO o), (1, vI x1), (2, vO p2)]) dX7_groups_20 rfl (by decide) rfl ?_
  refine v_sub [1, 3, 0] (L1 := [(0, vO o), (2, vO p2), (3, vI y4)]) rfl ?_
  obtain ⟨y7, s8, e9, h⟩ := lq_1_some h
  refine wl_X7_groups_21 o p2 ho hp2 FU y4 s1 _ e9 r6 ?_
  unfold E_X7_groups_21
  intro y7' s8' z_ r10
  cases z_
  exact wj_X7_groups_42 h ho hp2 r10

def j_X11_addOid_2_96 (o : Nat) (p1 : Nat) (z1 : Int) (s : vS) : Option (Int × vS) :=
  bdv (f_X7_groups (ft 10 0 o) z1 p1 s) fun s1 =>
  some (1, s1)
theorem wj_X11_addOid_2_96 {o : Nat} {p1 : Nat} {z1 : Int} {s : vS} {out : Int × vS} (h : j_X11_addOid_2_96 o p1 z1 s = some out) (ho : okB o 10) (hp1 : okB p1 1) (rz1 : rg z1) : VW cX11_addOid_2 (RX11, (some (vI out.1)), out.2, (some .boolean), 4, 101, 2, []) (P0 []) s 96 [(1, vO p1)] [vI z1, vO (ft 10 0 o)] := by
  unfold j_X11_addOid_2_96 at h
  refine v_aload_n dX11_addOid_2_96 0 rfl rfl ?_
  obtain ⟨s1, e2, h⟩ := bdv_some h
  have k3 := c_X7_groups e2 (ch_10_0 ho) hp1 rz1
  refine v_callV (st := []) cf7 (okB_ok (ch_10_0 ho)) k3 (lw_V q1836 q1837 q1838 q304 q1839) rfl yk_X7_groups ⟨Nat.le_of_ble_eq_true rfl, Nat.le_of_ble_eq_true rfl⟩ trivial ⟨(okB_kp hp1 (by decide)), trivial⟩ (Nat.le_of_ble_eq_true rfl) rfl dX11_addOid_2_97 ?_
  refine v_iconst dX11_addOid_2_100 ?_
  cases h
  exact v_zret (Or.inr rfl) dX11_addOid_2_101

def j_X11_addOid_2_73 (o : Nat) (p1 : Nat) (s : vS) : Option (Int × vS) :=
  if (gI s o 2) = 2 then
    j_X11_addOid_2_96 o p1 (w32 (40 * (gI s o 3))) s
  else
    j_X11_addOid_2_96 o p1 0 s
theorem wj_X11_addOid_2_73 {o : Nat} {p1 : Nat} {s : vS} {out : Int × vS} (h : j_X11_addOid_2_73 o p1 s = some out) (ho : okB o 10) (hp1 : okB p1 1) : VW cX11_addOid_2 (RX11, (some (vI out.1)), out.2, (some .boolean), 4, 101, 2, []) (P0 []) s 73 [(0, vO o), (1, vO p1)] [] := by
  unfold j_X11_addOid_2_73 at h
  refine v_aload_n dX11_addOid_2_73 0 rfl rfl ?_
  refine v_getS (f := 0) (t := ft 10 0 o) cf11 (okB_ok ho) rfl rfl rfl (by decide) q614 dX11_addOid_2_74 ?_
  refine v_aload_n dX11_addOid_2_77 0 rfl rfl ?_
  refine v_getI (f := 2) cf11 (okB_ok ho) rfl (by decide) q616 dX11_addOid_2_78 ?_
  refine v_iconst dX11_addOid_2_81 ?_
  refine v_icmp_ne (tgt := 95) dX11_addOid_2_82 (gI_rg _ _ _) (rgl rfl) (by decide) (fun c1 => ?_) (fun c1 => ?_)
  · rw [if_neg c1] at h
    refine v_iconst dX11_addOid_2_95 ?_
    refine v_sub [1] (L1 := [(1, vO p1)]) rfl ?_
    exact wj_X11_addOid_2_96 h ho hp1 (rgl rfl)
  · rw [if_pos c1] at h
    refine v_bipush dX11_addOid_2_85 rfl ?_
    refine v_aload_n dX11_addOid_2_87 0 rfl rfl ?_
    refine v_getI (f := 3) cf11 (okB_ok ho) rfl (by decide) q617 dX11_addOid_2_88 ?_
    refine v_imul dX11_addOid_2_91 ?_
    refine v_goto (tgt := 96) dX11_addOid_2_92 (by decide) ?_
    refine v_sub [1] (L1 := [(1, vO p1)]) rfl ?_
    exact wj_X11_addOid_2_96 h ho hp1 (w32_rg _)

def f_X11_addOid_2 (o : Nat) (p1 : Nat) (s : vS) : Option (Int × vS) :=
  stp (sI s o 2 (w32 ((gI s o 2) + 1))) fun s1 =>
  if (gI s1 o 2) = 1 then
    bd (f_X7_small (ft 10 0 o) 2 s1) fun r15 s12 =>
    stp (sI s12 o 3 r15) fun s17 =>
    if (gI s17 o 3) < 0 then
      some (0, s17)
    else
      some (1, s17)
  else
    if (gI s1 o 2) = 2 then
      if 2 ≤ (gI s1 o 3) then
        j_X11_addOid_2_73 o p1 s1
      else
        bd (f_X7_small (ft 10 0 o) 39 s1) fun r9 s6 =>
        if 0 ≤ r9 then
          j_X11_addOid_2_73 o p1 s6
        else
          some (0, s6)
    else
      j_X11_addOid_2_73 o p1 s1
theorem yk_X11_addOid_2 : yOk yX11_addOid_2 1 := ⟨by decide, by decide, by decide +kernel⟩
theorem c_X11_addOid_2 {o : Nat} {p1 : Nat} {s : vS} {out : Int × vS} (h : f_X11_addOid_2 o p1 s = some out) (ho : okB o 10) (hp1 : okB p1 1)  : VC yX11_addOid_2 cX11_addOid_2 2 (some .boolean) 4 101 [vO o, vO p1] s (some (vI out.1)) out.2 [] := by
  unfold f_X11_addOid_2 at h
  refine VC.of RX11 (by decide) rfl (Nat.le_of_ble_eq_true rfl) ?_
  show VW cX11_addOid_2 (RX11, (some (vI out.1)), out.2, (some .boolean), 4, 101, 2, []) (P0 []) s 0 [(0, vO o), (1, vO p1)] []
  refine v_aload_n dX11_addOid_2_0 0 rfl rfl ?_
  refine v_dupO dX11_addOid_2_1 ?_
  refine v_getI (f := 2) cf11 (okB_ok ho) rfl (by decide) q616 dX11_addOid_2_2 ?_
  refine v_iconst dX11_addOid_2_5 ?_
  refine v_iadd dX11_addOid_2_6 ?_
  obtain ⟨s1, e2, h⟩ := stp_some h
  refine v_putI (f := 2) cf11 (okB_ok ho) rfl (by decide) q616 dX11_addOid_2_7 rfl rfl ?_
  rw [← e2]
  refine v_aload_n dX11_addOid_2_10 0 rfl rfl ?_
  refine v_getI (f := 2) cf11 (okB_ok ho) rfl (by decide) q616 dX11_addOid_2_11 ?_
  refine v_iconst dX11_addOid_2_14 ?_
  refine v_icmp_ne (tgt := 43) dX11_addOid_2_15 (gI_rg _ _ _) (rgl rfl) (by decide) (fun c3 => ?_) (fun c3 => ?_)
  · rw [if_neg c3] at h
    refine v_aload_n dX11_addOid_2_43 0 rfl rfl ?_
    refine v_getI (f := 2) cf11 (okB_ok ho) rfl (by decide) q616 dX11_addOid_2_44 ?_
    refine v_iconst dX11_addOid_2_47 ?_
    refine v_icmp_ne (tgt := 73) dX11_addOid_2_48 (gI_rg _ _ _) (rgl rfl) (by decide) (fun c4 => ?_) (fun c4 => ?_)
    · rw [if_neg c4] at h
      exact wj_X11_addOid_2_73 h ho hp1
    · rw [if_pos c4] at h
      refine v_aload_n dX11_addOid_2_51 0 rfl rfl ?_
      refine v_getI (f := 3) cf11 (okB_ok ho) rfl (by decide) q617 dX11_addOid_2_52 ?_
      refine v_iconst dX11_addOid_2_55 ?_
      refine v_icmp_ge (tgt := 73) dX11_addOid_2_56 (gI_rg _ _ _) (rgl rfl) (by decide) (fun c5 => ?_) (fun c5 => ?_)
      · rw [if_pos c5] at h
        exact wj_X11_addOid_2_73 h ho hp1
      · rw [if_neg c5] at h
        refine v_aload_n dX11_addOid_2_59 0 rfl rfl ?_
        refine v_getS (f := 0) (t := ft 10 0 o) cf11 (okB_ok ho) rfl rfl rfl (by decide) q614 dX11_addOid_2_60 ?_
        refine v_bipush dX11_addOid_2_63 rfl ?_
        obtain ⟨r9, s6, e7, h⟩ := bd_some h
        have k8 := c_X7_small e7 (ch_10_0 ho) (rgl rfl)
        have r10 : rg r9 := k8.1.2.2
        refine v_callV (st := []) cf7 (okB_ok (ch_10_0 ho)) k8 (lw_V q1832 q1833 q1834 q304 q1835) rfl yk_X7_small ⟨Nat.le_of_ble_eq_true rfl, Nat.le_of_ble_eq_true rfl⟩ trivial ⟨(okB_kp ho (by decide)), (okB_kp hp1 (by decide)), trivial⟩ (Nat.le_of_ble_eq_true rfl) rfl dX11_addOid_2_65 ?_
        refine v_if_ge (tgt := 73) dX11_addOid_2_68 r10 (by decide) (fun c11 => ?_) (fun c11 => ?_)
        · rw [if_pos c11] at h
          exact wj_X11_addOid_2_73 h ho hp1
        · rw [if_neg c11] at h
          refine v_iconst dX11_addOid_2_71 ?_
          cases h
          exact v_zret (Or.inl rfl) dX11_addOid_2_72
  · rw [if_pos c3] at h
    refine v_aload_n dX11_addOid_2_18 0 rfl rfl ?_
    refine v_aload_n dX11_addOid_2_19 0 rfl rfl ?_
    refine v_getS (f := 0) (t := ft 10 0 o) cf11 (okB_ok ho) rfl rfl rfl (by decide) q614 dX11_addOid_2_20 ?_
    refine v_iconst dX11_addOid_2_23 ?_
    obtain ⟨r15, s12, e13, h⟩ := bd_some h
    have k14 := c_X7_small e13 (ch_10_0 ho) (rgl rfl)
    have r16 : rg r15 := k14.1.2.2
    refine v_callV (st := [vO o]) cf7 (okB_ok (ch_10_0 ho)) k14 (lw_V q1832 q1833 q1834 q304 q1835) rfl yk_X7_small ⟨Nat.le_of_ble_eq_true rfl, Nat.le_of_ble_eq_true rfl⟩ ⟨(okB_kp ho (by decide)), trivial⟩ ⟨(okB_kp ho (by decide)), (okB_kp hp1 (by decide)), trivial⟩ (Nat.le_of_ble_eq_true rfl) rfl dX11_addOid_2_24 ?_
    obtain ⟨s17, e18, h⟩ := stp_some h
    refine v_putI (f := 3) cf11 (okB_ok ho) rfl (by decide) q617 dX11_addOid_2_27 rfl rfl ?_
    rw [← e18]
    refine v_aload_n dX11_addOid_2_30 0 rfl rfl ?_
    refine v_getI (f := 3) cf11 (okB_ok ho) rfl (by decide) q617 dX11_addOid_2_31 ?_
    refine v_if_lt (tgt := 41) dX11_addOid_2_34 (gI_rg _ _ _) (by decide) (fun c19 => ?_) (fun c19 => ?_)
    · rw [if_pos c19] at h
      refine v_iconst dX11_addOid_2_41 ?_
      cases h
      exact v_zret (Or.inl rfl) dX11_addOid_2_42
    · rw [if_neg c19] at h
      refine v_iconst dX11_addOid_2_37 ?_
      refine v_goto (tgt := 42) dX11_addOid_2_38 (by decide) ?_
      cases h
      exact v_zret (Or.inr rfl) dX11_addOid_2_42

def f_X11_addOid (o : Nat) (x1 : Int) (p2 : Nat) (s : vS) : Option (Int × vS) :=
  bdv (f_X7_set (ft 10 0 o) x1 s) fun s1 =>
  bd (f_X11_addOid_2 o p2 s1) fun r7 s4 =>
  gd (r7 = 0 ∨ r7 = 1) <|
  some (r7, s4)
theorem yk_X11_addOid : yOk yX11_addOid 2 := ⟨by decide, by decide, by decide +kernel⟩
theorem c_X11_addOid {o : Nat} {x1 : Int} {p2 : Nat} {s : vS} {out : Int × vS} (h : f_X11_addOid o x1 p2 s = some out) (ho : okB o 10) (hp2 : okB p2 1) (rx1 : rg x1) : VC yX11_addOid cX11_addOid 3 (some .boolean) 5 122 [vO o, vI x1, vO p2] s (some (vI out.1)) out.2 [] := by
  unfold f_X11_addOid at h
  refine VC.of RX11 (by decide) rfl (Nat.le_of_ble_eq_true rfl) ?_
  show VW cX11_addOid (RX11, (some (vI out.1)), out.2, (some .boolean), 5, 122, 3, []) (P0 []) s 0 [(0, vO o), (1, vI x1), (2, vO p2)] []
  refine v_aload_n dX11_addOid_0 0 rfl rfl ?_
  refine v_getS (f := 0) (t := ft 10 0 o) cf11 (okB_ok ho) rfl rfl rfl (by decide) q614 dX11_addOid_1 ?_
  refine v_iload_n dX11_addOid_4 1 rfl rfl ?_
  obtain ⟨s1, e2, h⟩ := bdv_some h
  have k3 := c_X7_set e2 (ch_10_0 ho) rx1
  refine v_callV (st := []) cf7 (okB_ok (ch_10_0 ho)) k3 (lw_V q1827 q1564 q1565 q304 q1566) rfl yk_X7_set ⟨Nat.le_of_ble_eq_true rfl, Nat.le_of_ble_eq_true rfl⟩ trivial ⟨(okB_kp ho (by decide)), (okB_kp hp2 (by decide)), trivial⟩ (Nat.le_of_ble_eq_true rfl) rfl dX11_addOid_5 ?_
  refine v_aload_n dX11_addOid_8 0 rfl rfl ?_
  refine v_aload_n dX11_addOid_9 2 rfl rfl ?_
  obtain ⟨r7, s4, e5, h⟩ := bd_some h
  have k6 := c_X11_addOid_2 e5 ho hp2
  have r8 : rg r7 := k6.1.2.2
  refine v_callV (st := []) cf11 (okB_ok ho) k6 (lw_V q1828 q1830 qs101 q308 q1831) rfl yk_X11_addOid_2 ⟨Nat.le_of_ble_eq_true rfl, Nat.le_of_ble_eq_true rfl⟩ trivial ⟨(okB_kp ho (by decide)), (okB_kp hp2 (by decide)), trivial⟩ (Nat.le_of_ble_eq_true rfl) rfl dX11_addOid_10 ?_
  obtain ⟨g9, h⟩ := gd_some h
  cases h
  exact v_zret g9 dX11_addOid_13

def f_X11_addOid_3 (o : Nat) (p1 : Nat) (x2 : Int) (x3 : Int) (p4 : Nat) (s : vS) : Option (Int × vS) :=
  bdv (f_X7_read (ft 10 0 o) p1 x2 x3 s) fun s1 =>
  bd (f_X11_addOid_2 o p4 s1) fun r7 s4 =>
  gd (r7 = 0 ∨ r7 = 1) <|
  some (r7, s4)
theorem yk_X11_addOid_3 : yOk yX11_addOid_3 4 := ⟨by decide, by decide, by decide +kernel⟩
theorem c_X11_addOid_3 {o : Nat} {p1 : Nat} {x2 : Int} {x3 : Int} {p4 : Nat} {s : vS} {out : Int × vS} (h : f_X11_addOid_3 o p1 x2 x3 p4 s = some out) (ho : okB o 10) (hp1 : okB p1 1) (hp4 : okB p4 1) (rx2 : rg x2) (rx3 : rg x3) : VC yX11_addOid_3 cX11_addOid_3 5 (some .boolean) 5 122 [vO o, vO p1, vI x2, vI x3, vO p4] s (some (vI out.1)) out.2 [] := by
  unfold f_X11_addOid_3 at h
  refine VC.of RX11 (by decide) rfl (Nat.le_of_ble_eq_true rfl) ?_
  show VW cX11_addOid_3 (RX11, (some (vI out.1)), out.2, (some .boolean), 5, 122, 5, []) (P0 []) s 0 [(0, vO o), (1, vO p1), (2, vI x2), (3, vI x3), (4, vO p4)] []
  refine v_aload_n dX11_addOid_3_0 0 rfl rfl ?_
  refine v_getS (f := 0) (t := ft 10 0 o) cf11 (okB_ok ho) rfl rfl rfl (by decide) q614 dX11_addOid_3_1 ?_
  refine v_aload_n dX11_addOid_3_4 1 rfl rfl ?_
  refine v_iload_n dX11_addOid_3_5 2 rfl rfl ?_
  refine v_iload_n dX11_addOid_3_6 3 rfl rfl ?_
  obtain ⟨s1, e2, h⟩ := bdv_some h
  have k3 := c_X7_read e2 (ch_10_0 ho) hp1 rx2 rx3
  refine v_callV (st := []) cf7 (okB_ok (ch_10_0 ho)) k3 (lw_V q1849 q1508 q1509 q304 q1510) rfl yk_X7_read ⟨Nat.le_of_ble_eq_true rfl, Nat.le_of_ble_eq_true rfl⟩ trivial ⟨(okB_kp ho (by decide)), (okB_kp hp1 (by decide)), (okB_kp hp4 (by decide)), trivial⟩ (Nat.le_of_ble_eq_true rfl) rfl dX11_addOid_3_7 ?_
  refine v_aload_n dX11_addOid_3_10 0 rfl rfl ?_
  refine v_aload dX11_addOid_3_11 4 rfl ?_
  obtain ⟨r7, s4, e5, h⟩ := bd_some h
  have k6 := c_X11_addOid_2 e5 ho hp4
  have r8 : rg r7 := k6.1.2.2
  refine v_callV (st := []) cf11 (okB_ok ho) k6 (lw_V q1828 q1830 qs101 q308 q1831) rfl yk_X11_addOid_2 ⟨Nat.le_of_ble_eq_true rfl, Nat.le_of_ble_eq_true rfl⟩ trivial ⟨(okB_kp ho (by decide)), (okB_kp hp1 (by decide)), (okB_kp hp4 (by decide)), trivial⟩ (Nat.le_of_ble_eq_true rfl) rfl dX11_addOid_3_13 ?_
  obtain ⟨g9, h⟩ := gd_some h
  cases h
  exact v_zret g9 dX11_addOid_3_16

def f_X11_endsOid (o : Nat) (s : vS) : Option (Int × vS) :=
  if (gI s o 2) ≤ 1 then
    some (0, s)
  else
    some (1, s)
theorem yk_X11_endsOid : yOk yX11_endsOid 0 := ⟨by decide, by decide, by decide +kernel⟩
theorem c_X11_endsOid {o : Nat} {s : vS} {out : Int × vS} (h : f_X11_endsOid o s = some out) (ho : okB o 10)  : VC yX11_endsOid cX11_endsOid 1 (some .boolean) 0 0 [vO o] s (some (vI out.1)) out.2 [] := by
  unfold f_X11_endsOid at h
  refine VC.of RX11 (by decide) rfl (Nat.le_of_ble_eq_true rfl) ?_
  show VW cX11_endsOid (RX11, (some (vI out.1)), out.2, (some .boolean), 0, 0, 1, []) (P0 []) s 0 [(0, vO o)] []
  refine v_aload_n dX11_endsOid_0 0 rfl rfl ?_
  refine v_getI (f := 2) cf11 (okB_ok ho) rfl (by decide) q616 dX11_endsOid_1 ?_
  refine v_iconst dX11_endsOid_4 ?_
  refine v_icmp_le (tgt := 12) dX11_endsOid_5 (gI_rg _ _ _) (rgl rfl) (by decide) (fun c1 => ?_) (fun c1 => ?_)
  · rw [if_pos c1] at h
    refine v_iconst dX11_endsOid_12 ?_
    cases h
    exact v_zret (Or.inl rfl) dX11_endsOid_13
  · rw [if_neg c1] at h
    refine v_iconst dX11_endsOid_8 ?_
    refine v_goto (tgt := 13) dX11_endsOid_9 (by decide) ?_
    cases h
    exact v_zret (Or.inr rfl) dX11_endsOid_13

def E_X6_oid_16 (rv : Option vA) (σo : vS) (q : (vS) ⊕ (Int × vS)) : Prop := (∀ (s' : vS), q = .inl s' → VW cX6_oid (RX6, rv, σo, (some .boolean), 6, 146, 5, []) (P0 []) s' 147 [(0, vO 13)] []) ∧ (∀ (v : Int) (s' : vS), q = .inr (v, s') → rv = some (vI v) ∧ σo = s')
def j_X6_oid_135 (rec : Int → Int → vS → Option ((vS) ⊕ (Int × vS))) (x1 : Int) (x2 : Int) (s : vS) : Option ((vS) ⊕ (Int × vS)) :=
  bd (f_X4_next x2 s) fun r4 s1 =>
  rec x1 r4 s1
theorem wj_X6_oid_135 {x1 : Int} {x2 : Int} {s : vS} {rv : Option vA} {σo : vS} {rec : Int → Int → vS → Option ((vS) ⊕ (Int × vS))} {q : (vS) ⊕ (Int × vS)} (h : j_X6_oid_135 rec x1 x2 s = some q)  (rx1 : rg x1) (rx2 : rg x2) (hrec : ∀ (y2 : Int) (s : vS) (q : (vS) ⊕ (Int × vS)), rec x1 y2 s = some q → rg y2 → E_X6_oid_16 rv σo q → VW cX6_oid (RX6, rv, σo, (some .boolean), 6, 146, 5, []) (P0 []) s 16 [(0, vO 13), (1, vI x1), (2, vI y2)] []) (hE : E_X6_oid_16 rv σo q) : VW cX6_oid (RX6, rv, σo, (some .boolean), 6, 146, 5, []) (P0 []) s 135 [(0, vO 13), (1, vI x1), (2, vI x2)] [] := by
  unfold j_X6_oid_135 at h
  refine v_aload_n dX6_oid_135 0 rfl rfl ?_
  refine v_getS (f := 1) (t := 10) cf6 oc13 rfl rfl rfl (by decide) q628 dX6_oid_136 ?_
  refine v_iload_n dX6_oid_139 2 rfl rfl ?_
  obtain ⟨r4, s1, e2, h⟩ := bd_some h
  have k3 := c_X4_next e2 rx2
  have r5 : rg r4 := k3.1.2.2
  refine v_callV (st := []) cf4 oc10 k3 (lw_V q1483 q1404 q1405 q301 q1406) rfl yk_X4_next ⟨Nat.le_of_ble_eq_true rfl, Nat.le_of_ble_eq_true rfl⟩ trivial ⟨kc13, trivial⟩ (Nat.le_of_ble_eq_true rfl) rfl dX6_oid_140 ?_
  refine v_istore_n (L1 := [(2, vI r4), (0, vO 13), (1, vI x1)]) dX6_oid_143 rfl (by decide) rfl ?_
  refine v_goto (tgt := 16) dX6_oid_144 (by decide) ?_
  refine v_sub [1, 2, 0] (L1 := [(0, vO 13), (1, vI x1), (2, vI r4)]) rfl ?_
  exact hrec r4 s1 _ h r5 hE

def j_X6_oid_64 (rec : Int → Int → vS → Option ((vS) ⊕ (Int × vS))) (x1 : Int) (x2 : Int) (x3 : Int) (z0 : Int) (s : vS) : Option ((vS) ⊕ (Int × vS)) :=
  if x3 = (-1) then
    if z0 = (-1) then
      some (.inr (0, s))
    else
      bd (f_X11_addOid 43 z0 30 s) fun r30 s27 =>
      if r30 = 0 then
        some (.inr (0, s27))
      else
        j_X6_oid_135 rec x1 x2 s27
  else
    gd (gR s 13 0 = 5) <|
    bdo (f_X3_text s) fun r6 s3 =>
    gd (okB r6 1) <|
    gd (gR s3 13 0 = 5) <|
    bd (f_X3_start x3 s3) fun r12 s9 =>
    gd (gR s9 13 0 = 5) <|
    bd (f_X3_end x3 s9) fun r18 s15 =>
    bd (f_X11_addOid_3 43 r6 r12 r18 30 s15) fun r23 s20 =>
    if r23 = 0 then
      some (.inr (0, s20))
    else
      j_X6_oid_135 rec x1 x2 s20
theorem wj_X6_oid_64 {x1 : Int} {x2 : Int} {x3 : Int} {z0 : Int} {s : vS} {rv : Option vA} {σo : vS} {rec : Int → Int → vS → Option ((vS) ⊕ (Int × vS))} {q : (vS) ⊕ (Int × vS)} (h : j_X6_oid_64 rec x1 x2 x3 z0 s = some q)  (rx1 : rg x1) (rx2 : rg x2) (rx3 : rg x3) (rz0 : rg z0) (hrec : ∀ (y2 : Int) (s : vS) (q : (vS) ⊕ (Int × vS)), rec x1 y2 s = some q → rg y2 → E_X6_oid_16 rv σo q → VW cX6_oid (RX6, rv, σo, (some .boolean), 6, 146, 5, []) (P0 []) s 16 [(0, vO 13), (1, vI x1), (2, vI y2)] []) (hE : E_X6_oid_16 rv σo q) : VW cX6_oid (RX6, rv, σo, (some .boolean), 6, 146, 5, []) (P0 []) s 64 [(0, vO 13), (1, vI x1), (2, vI x2), (3, vI x3)] [vI z0] := by
  unfold j_X6_oid_64 at h
  refine v_istore (L1 := [(4, vI z0), (0, vO 13), (1, vI x1), (2, vI x2), (3, vI x3)]) dX6_oid_64 (by decide) rfl ?_
  refine v_iload_n dX6_oid_66 4 rfl rfl ?_
  refine v_iconst dX6_oid_67 ?_
  refine v_icmp_ne (tgt := 96) dX6_oid_68 rx3 (rgl rfl) (by decide) (fun c1 => ?_) (fun c1 => ?_)
  · rw [if_neg c1] at h
    refine v_aload_n dX6_oid_96 1 rfl rfl ?_
    refine v_getS (f := 4) (t := 43) cf6 oc13 rfl rfl rfl (by decide) q631 dX6_oid_97 ?_
    refine v_aload_n dX6_oid_100 1 rfl rfl ?_
    obtain ⟨g2, h⟩ := gd_some h
    refine v_getR (f := 0) cf6 oc13 rfl (by rw [g2]; decide) (by decide) q627 dX6_oid_101 ?_
    rw [g2]
    obtain ⟨r6, s3, e4, h⟩ := bdo_some h
    have k5 := c_X3_text e4
    obtain ⟨g7, h⟩ := gd_some h
    refine v_callV (st := [vO 43]) cf3 oc5 k5 (lw_V q1505 q1328 q1329 q300 q1330) rfl yk_X3_text ⟨Nat.le_of_ble_eq_true rfl, Nat.le_of_ble_eq_true rfl⟩ ⟨kc43, trivial⟩ ⟨kc13, trivial⟩ (Nat.le_of_ble_eq_true rfl) rfl dX6_oid_104 ?_
    refine v_aload_n dX6_oid_107 1 rfl rfl ?_
    obtain ⟨g8, h⟩ := gd_some h
    refine v_getR (f := 0) cf6 oc13 rfl (by rw [g8]; decide) (by decide) q627 dX6_oid_108 ?_
    rw [g8]
    refine v_iload_n dX6_oid_111 4 rfl rfl ?_
    obtain ⟨r12, s9, e10, h⟩ := bd_some h
    have k11 := c_X3_start e10 rx3
    have r13 : rg r12 := k11.1.2.2
    refine v_callV (st := [vO r6, vO 43]) cf3 oc5 k11 (lw_V q1482 q1288 q1289 q300 q1290) rfl yk_X3_start ⟨Nat.le_of_ble_eq_true rfl, Nat.le_of_ble_eq_true rfl⟩ ⟨(okB_kp g7 (by decide)), kc43, trivial⟩ ⟨kc13, trivial⟩ (Nat.le_of_ble_eq_true rfl) rfl dX6_oid_112 ?_
    refine v_aload_n dX6_oid_115 1 rfl rfl ?_
    obtain ⟨g14, h⟩ := gd_some h
    refine v_getR (f := 0) cf6 oc13 rfl (by rw [g14]; decide) (by decide) q627 dX6_oid_116 ?_
    rw [g14]
    refine v_iload_n dX6_oid_119 4 rfl rfl ?_
    obtain ⟨r18, s15, e16, h⟩ := bd_some h
    have k17 := c_X3_end e16 rx3
    have r19 : rg r18 := k17.1.2.2
    refine v_callV (st := [vI r12, vO r6, vO 43]) cf3 oc5 k17 (lw_V q1506 q1322 q1323 q300 q1324) rfl yk_X3_end ⟨Nat.le_of_ble_eq_true rfl, Nat.le_of_ble_eq_true rfl⟩ ⟨(okB_kp g7 (by decide)), kc43, trivial⟩ ⟨kc13, trivial⟩ (Nat.le_of_ble_eq_true rfl) rfl dX6_oid_120 ?_
    refine v_aload_n dX6_oid_123 1 rfl rfl ?_
    refine v_getS (f := 9) (t := 30) cf6 oc13 rfl rfl rfl (by decide) q636 dX6_oid_124 ?_
    obtain ⟨r23, s20, e21, h⟩ := bd_some h
    have k22 := c_X11_addOid_3 e21 (⟨by decide, rfl⟩ : okB 43 10) g7 (⟨by decide, rfl⟩ : okB 30 1) r13 r19
    have r24 : rg r23 := k22.1.2.2
    refine v_callV (st := []) cf11 oc43 k22 (lw_V q1845 q1846 q1847 q308 q1848) rfl yk_X11_addOid_3 ⟨Nat.le_of_ble_eq_true rfl, Nat.le_of_ble_eq_true rfl⟩ trivial ⟨kc13, trivial⟩ (Nat.le_of_ble_eq_true rfl) rfl dX6_oid_127 ?_
    refine v_if_ne (tgt := 135) dX6_oid_130 r24 (by decide) (fun c25 => ?_) (fun c25 => ?_)
    · rw [if_neg c25] at h
      refine v_sub [1, 2, 3] (L1 := [(0, vO 13), (1, vI x1), (2, vI x2)]) rfl ?_
      exact wj_X6_oid_135 h rx1 rx2 hrec hE
    · rw [if_pos c25] at h
      refine v_iconst dX6_oid_133 ?_
      cases h
      obtain ⟨z1, z2⟩ := hE.2 _ _ rfl
      subst z1
      subst z2
      exact v_zret (Or.inl rfl) dX6_oid_134
  · rw [if_pos c1] at h
    refine v_iload dX6_oid_71 0 rfl ?_
    refine v_iconst dX6_oid_73 ?_
    refine v_icmp_eq (tgt := 133) dX6_oid_74 rz0 (rgl rfl) (by decide) (fun c26 => ?_) (fun c26 => ?_)
    · rw [if_pos c26] at h
      refine v_iconst dX6_oid_133 ?_
      cases h
      obtain ⟨z1, z2⟩ := hE.2 _ _ rfl
      subst z1
      subst z2
      exact v_zret (Or.inl rfl) dX6_oid_134
    · rw [if_neg c26] at h
      refine v_aload_n dX6_oid_77 1 rfl rfl ?_
      refine v_getS (f := 4) (t := 43) cf6 oc13 rfl rfl rfl (by decide) q631 dX6_oid_78 ?_
      refine v_iload dX6_oid_81 0 rfl ?_
      refine v_aload_n dX6_oid_83 1 rfl rfl ?_
      refine v_getS (f := 9) (t := 30) cf6 oc13 rfl rfl rfl (by decide) q636 dX6_oid_84 ?_
      obtain ⟨r30, s27, e28, h⟩ := bd_some h
      have k29 := c_X11_addOid e28 (⟨by decide, rfl⟩ : okB 43 10) (⟨by decide, rfl⟩ : okB 30 1) rz0
      have r31 : rg r30 := k29.1.2.2
      refine v_callV (st := []) cf11 oc43 k29 (lw_V q1823 q1824 q1825 q308 q1826) rfl yk_X11_addOid ⟨Nat.le_of_ble_eq_true rfl, Nat.le_of_ble_eq_true rfl⟩ trivial ⟨kc13, trivial⟩ (Nat.le_of_ble_eq_true rfl) rfl dX6_oid_87 ?_
      refine v_if_ne (tgt := 135) dX6_oid_90 r31 (by decide) (fun c32 => ?_) (fun c32 => ?_)
      · rw [if_neg c32] at h
        refine v_sub [1, 2, 3] (L1 := [(0, vO 13), (1, vI x1), (2, vI x2)]) rfl ?_
        exact wj_X6_oid_135 h rx1 rx2 hrec hE
      · rw [if_pos c32] at h
        refine v_goto (tgt := 133) dX6_oid_93 (by decide) ?_
        refine v_iconst dX6_oid_133 ?_
        cases h
        obtain ⟨z1, z2⟩ := hE.2 _ _ rfl
        subst z1
        subst z2
        exact v_zret (Or.inl rfl) dX6_oid_134

def l_X6_oid_16 : Nat → Int → Int → vS → Option ((vS) ⊕ (Int × vS))
  | 0, _, _, _ => none
  | n + 1, x1, x2, s =>
    if x2 = (-1) then
      some (.inl s)
    else
      bd (f_X4_at x2 5 s) fun r5 s2 =>
      if r5 = (-1) then
        bd (f_X4_parts x1 s2) fun r11 s8 =>
        if x2 = r11 then
          bd (f_X4_lexeme x2 s8) fun r17 s14 =>
          bd (f_X6_firstPart r17 s14) fun r22 s19 =>
          j_X6_oid_64 (l_X6_oid_16 n) x1 x2 r5 r22 s19
        else
          j_X6_oid_64 (l_X6_oid_16 n) x1 x2 r5 (-1) s8
      else
        j_X6_oid_64 (l_X6_oid_16 n) x1 x2 r5 (-1) s2
theorem wl_X6_oid_16 {x1 : Int} {rv : Option vA} {σo : vS}  (rx1 : rg x1) : ∀ (n : Nat) (x2 : Int) (s : vS) (q : (vS) ⊕ (Int × vS)), l_X6_oid_16 n x1 x2 s = some q → rg x2 → E_X6_oid_16 rv σo q → VW cX6_oid (RX6, rv, σo, (some .boolean), 6, 146, 5, []) (P0 []) s 16 [(0, vO 13), (1, vI x1), (2, vI x2)] [] := by
  intro n
  induction n with
  | zero => intro x2 s q h; cases h
  | succ n ih =>
    intro x2 s q h rx2 hE
    unfold l_X6_oid_16 at h
    refine v_iload_n dX6_oid_16 2 rfl rfl ?_
    refine v_iconst dX6_oid_17 ?_
    refine v_icmp_eq (tgt := 147) dX6_oid_18 rx2 (rgl rfl) (by decide) (fun c1 => ?_) (fun c1 => ?_)
    · rw [if_pos c1] at h
      cases h
      refine v_sub [0] (L1 := [(0, vO 13)]) rfl ?_
      exact hE.1 _ rfl 
    · rw [if_neg c1] at h
      refine v_aload_n dX6_oid_21 0 rfl rfl ?_
      refine v_getS (f := 1) (t := 10) cf6 oc13 rfl rfl rfl (by decide) q628 dX6_oid_22 ?_
      refine v_iload_n dX6_oid_25 2 rfl rfl ?_
      refine v_iconst dX6_oid_26 ?_
      obtain ⟨r5, s2, e3, h⟩ := bd_some h
      have k4 := c_X4_at e3 rx2 (rgl rfl)
      have r6 : rg r5 := k4.1.2.2
      refine v_callV (st := []) cf4 oc10 k4 (lw_V q1500 q1400 q1401 q301 q1402) rfl yk_X4_at ⟨Nat.le_of_ble_eq_true rfl, Nat.le_of_ble_eq_true rfl⟩ trivial ⟨kc13, trivial⟩ (Nat.le_of_ble_eq_true rfl) rfl dX6_oid_27 ?_
      refine v_istore_n (L1 := [(3, vI r5), (0, vO 13), (1, vI x1), (2, vI x2)]) dX6_oid_30 rfl (by decide) rfl ?_
      refine v_iload_n dX6_oid_31 0 rfl rfl ?_
      refine v_iconst dX6_oid_32 ?_
      refine v_icmp_ne (tgt := 63) dX6_oid_33 r6 (rgl rfl) (by decide) (fun c7 => ?_) (fun c7 => ?_)
      · rw [if_neg c7] at h
        refine v_iconst dX6_oid_63 ?_
        refine v_sub [1, 2, 3, 0] (L1 := [(0, vO 13), (1, vI x1), (2, vI x2), (3, vI r5)]) rfl ?_
        exact wj_X6_oid_64 h rx1 rx2 r6 (rgl rfl) ih hE
      · rw [if_pos c7] at h
        refine v_iload_n dX6_oid_36 3 rfl rfl ?_
        refine v_aload_n dX6_oid_37 1 rfl rfl ?_
        refine v_getS (f := 1) (t := 10) cf6 oc13 rfl rfl rfl (by decide) q628 dX6_oid_38 ?_
        refine v_iload_n dX6_oid_41 2 rfl rfl ?_
        obtain ⟨r11, s8, e9, h⟩ := bd_some h
        have k10 := c_X4_parts e9 rx1
        have r12 : rg r11 := k10.1.2.2
        refine v_callV (st := [vI x2]) cf4 oc10 k10 (lw_V q1492 q1493 q1494 q301 q1495) rfl yk_X4_parts ⟨Nat.le_of_ble_eq_true rfl, Nat.le_of_ble_eq_true rfl⟩ trivial ⟨kc13, trivial⟩ (Nat.le_of_ble_eq_true rfl) rfl dX6_oid_42 ?_
        refine v_icmp_ne (tgt := 63) dX6_oid_45 rx2 r12 (by decide) (fun c13 => ?_) (fun c13 => ?_)
        · rw [if_neg c13] at h
          refine v_iconst dX6_oid_63 ?_
          refine v_sub [1, 2, 3, 0] (L1 := [(0, vO 13), (1, vI x1), (2, vI x2), (3, vI r5)]) rfl ?_
          exact wj_X6_oid_64 h rx1 rx2 r6 (rgl rfl) ih hE
        · rw [if_pos c13] at h
          refine v_aload_n dX6_oid_48 1 rfl rfl ?_
          refine v_aload_n dX6_oid_49 1 rfl rfl ?_
          refine v_getS (f := 1) (t := 10) cf6 oc13 rfl rfl rfl (by decide) q628 dX6_oid_50 ?_
          refine v_iload_n dX6_oid_53 3 rfl rfl ?_
          obtain ⟨r17, s14, e15, h⟩ := bd_some h
          have k16 := c_X4_lexeme e15 rx2
          have r18 : rg r17 := k16.1.2.2
          refine v_callV (st := [vO 13]) cf4 oc10 k16 (lw_V q1449 q1450 q1451 q301 q1452) rfl yk_X4_lexeme ⟨Nat.le_of_ble_eq_true rfl, Nat.le_of_ble_eq_true rfl⟩ ⟨kc13, trivial⟩ ⟨kc13, trivial⟩ (Nat.le_of_ble_eq_true rfl) rfl dX6_oid_54 ?_
          obtain ⟨r22, s19, e20, h⟩ := bd_some h
          have k21 := c_X6_firstPart e20 r18
          have r23 : rg r22 := k21.1.2.2
          refine v_callV (st := []) cf6 oc13 k21 (lw_V q1808 q1810 qs99 q303 q1811) rfl yk_X6_firstPart ⟨Nat.le_of_ble_eq_true rfl, Nat.le_of_ble_eq_true rfl⟩ trivial ⟨kc13, trivial⟩ (Nat.le_of_ble_eq_true rfl) rfl dX6_oid_57 ?_
          refine v_goto (tgt := 64) dX6_oid_60 (by decide) ?_
          refine v_sub [1, 2, 3, 0] (L1 := [(0, vO 13), (1, vI x1), (2, vI x2), (3, vI r5)]) rfl ?_
          exact wj_X6_oid_64 h rx1 rx2 r6 r23 ih hE

def f_X6_oid (x1 : Int) (s : vS) : Option (Int × vS) :=
  bdv (f_X11_beginOid 43 s) fun s1 =>
  bd (f_X4_parts x1 s1) fun r7 s4 =>
  lqs_0 (l_X6_oid_16 FU x1 r7 s4) (fun s9 =>
    bd (f_X11_endsOid 43 s9) fun r14 s11 =>
    gd (r14 = 0 ∨ r14 = 1) <|
    some (r14, s11))
    (fun q => some q)
theorem yk_X6_oid : yOk yX6_oid 1 := ⟨by decide, by decide, by decide +kernel⟩
theorem c_X6_oid {x1 : Int} {s : vS} {out : Int × vS} (h : f_X6_oid x1 s = some out)  (rx1 : rg x1) : VC yX6_oid cX6_oid 5 (some .boolean) 6 146 [vO 13, vI x1] s (some (vI out.1)) out.2 [] := by
  unfold f_X6_oid at h
  refine VC.of RX6 (by decide) rfl (Nat.le_of_ble_eq_true rfl) ?_
  show VW cX6_oid (RX6, (some (vI out.1)), out.2, (some .boolean), 6, 146, 5, []) (P0 []) s 0 [(0, vO 13), (1, vI x1)] []
  refine v_aload_n dX6_oid_0 0 rfl rfl ?_
  refine v_getS (f := 4) (t := 43) cf6 oc13 rfl rfl rfl (by decide) q631 dX6_oid_1 ?_
  obtain ⟨s1, e2, h⟩ := bdv_some h
  have k3 := c_X11_beginOid e2 (⟨by decide, rfl⟩ : okB 43 10)
  refine v_callV (st := []) cf11 oc43 k3 (lw_V q1804 q1805 q1806 q308 q1807) rfl yk_X11_beginOid ⟨Nat.le_of_ble_eq_true rfl, Nat.le_of_ble_eq_true rfl⟩ trivial ⟨kc13, trivial⟩ (Nat.le_of_ble_eq_true rfl) rfl dX6_oid_4 ?_
  refine v_aload_n dX6_oid_7 0 rfl rfl ?_
  refine v_getS (f := 1) (t := 10) cf6 oc13 rfl rfl rfl (by decide) q628 dX6_oid_8 ?_
  refine v_iload_n dX6_oid_11 1 rfl rfl ?_
  obtain ⟨r7, s4, e5, h⟩ := bd_some h
  have k6 := c_X4_parts e5 rx1
  have r8 : rg r7 := k6.1.2.2
  refine v_callV (st := []) cf4 oc10 k6 (lw_V q1492 q1493 q1494 q301 q1495) rfl yk_X4_parts ⟨Nat.le_of_ble_eq_true rfl, Nat.le_of_ble_eq_true rfl⟩ trivial ⟨kc13, trivial⟩ (Nat.le_of_ble_eq_true rfl) rfl dX6_oid_12 ?_
  refine v_istore_n (L1 := [(2, vI r7), (0, vO 13), (1, vI x1)]) dX6_oid_15 rfl (by decide) rfl ?_
  refine v_sub [1, 2, 0] (L1 := [(0, vO 13), (1, vI x1), (2, vI r7)]) rfl ?_
  rcases lqs_0_some h with ⟨s9, e10, h⟩ | ⟨q9, e10, h⟩
  · refine wl_X6_oid_16 rx1 FU r7 s4 _ e10 r8 ?_
    unfold E_X6_oid_16
    refine ⟨?_, fun v9 s9 z_ => (by cases z_)⟩
    intro s9' z_
    cases z_
    refine v_aload_n dX6_oid_147 0 rfl rfl ?_
    refine v_getS (f := 4) (t := 43) cf6 oc13 rfl rfl rfl (by decide) q631 dX6_oid_148 ?_
    obtain ⟨r14, s11, e12, h⟩ := bd_some h
    have k13 := c_X11_endsOid e12 (⟨by decide, rfl⟩ : okB 43 10)
    have r15 : rg r14 := k13.1.2.2
    refine v_callV (st := []) cf11 oc43 k13 (lw_V q1850 q1851 q1852 q308 q1853) rfl yk_X11_endsOid ⟨Nat.le_of_ble_eq_true rfl, Nat.le_of_ble_eq_true rfl⟩ trivial ⟨kc13, trivial⟩ (Nat.le_of_ble_eq_true rfl) rfl dX6_oid_151 ?_
    obtain ⟨g16, h⟩ := gd_some h
    cases h
    exact v_zret g16 dX6_oid_154
  · cases h
    refine wl_X6_oid_16 rx1 FU r7 s4 _ e10 r8 ?_
    unfold E_X6_oid_16
    refine ⟨fun _ z_ => (by cases z_), ?_⟩
    intro v9 s9 z_
    cases z_
    exact ⟨rfl, rfl⟩

def E_X8_digits_4 (o : Nat) (x1 : Int) (rv : Option vA) (σo : vS) (q : (Int × vS) ⊕ (Int × vS)) : Prop := (∀ (x2' : Int) (s' : vS), q = .inl (x2', s') → rg x2' → VW cX8_digits (RX8, rv, σo, (some .int), 1, 21, 5, []) (P0 []) s' 74 [(0, vO o), (1, vI x1), (2, vI x2')] []) ∧ (∀ (v : Int) (s' : vS), q = .inr (v, s') → rv = some (vI v) ∧ σo = s')
def j_X8_digits_39 (o : Nat) (rec : Int → Int → Int → vS → Option ((Int × vS) ⊕ (Int × vS))) (x1 : Int) (x2 : Int) (x3 : Int) (z0 : Int) (s : vS) : Option ((Int × vS) ⊕ (Int × vS)) :=
  if z0 < 48 then
    some (.inr ((-1), s))
  else
    if z0 ≤ 57 then
      vl (w32 ((w32 ((w32 (10 * x2)) + z0)) - 48)) fun y3 =>
      vl (w32 (x3 + 1)) fun y6 =>
      rec x1 y3 y6 s
    else
      some (.inr ((-1), s))
theorem wj_X8_digits_39 {o : Nat} {x1 : Int} {x2 : Int} {x3 : Int} {z0 : Int} {s : vS} {rv : Option vA} {σo : vS} {rec : Int → Int → Int → vS → Option ((Int × vS) ⊕ (Int × vS))} {q : (Int × vS) ⊕ (Int × vS)} (h : j_X8_digits_39 o rec x1 x2 x3 z0 s = some q) (ho : okB o 7) (rx1 : rg x1) (rx2 : rg x2) (rx3 : rg x3) (rz0 : rg z0) (hrec : ∀ (y2 : Int) (y3 : Int) (s : vS) (q : (Int × vS) ⊕ (Int × vS)), rec x1 y2 y3 s = some q → rg y2 → rg y3 → E_X8_digits_4 o x1 rv σo q → VW cX8_digits (RX8, rv, σo, (some .int), 1, 21, 5, []) (P0 []) s 4 [(0, vO o), (1, vI x1), (2, vI y2), (3, vI y3)] []) (hE : E_X8_digits_4 o x1 rv σo q) : VW cX8_digits (RX8, rv, σo, (some .int), 1, 21, 5, []) (P0 []) s 39 [(0, vO o), (1, vI x1), (2, vI x2), (3, vI x3)] [vI z0] := by
  unfold j_X8_digits_39 at h
  refine v_istore (L1 := [(4, vI z0), (0, vO o), (1, vI x1), (2, vI x2), (3, vI x3)]) dX8_digits_39 (by decide) rfl ?_
  refine v_iload dX8_digits_41 0 rfl ?_
  refine v_bipush dX8_digits_43 rfl ?_
  refine v_icmp_lt (tgt := 55) dX8_digits_45 rz0 (rgl rfl) (by decide) (fun c1 => ?_) (fun c1 => ?_)
  · rw [if_pos c1] at h
    refine v_iconst dX8_digits_55 ?_
    cases h
    obtain ⟨z1, z2⟩ := hE.2 _ _ rfl
    subst z1
    subst z2
    exact v_iret (rgl rfl) dX8_digits_56
  · rw [if_neg c1] at h
    refine v_iload dX8_digits_48 0 rfl ?_
    refine v_bipush dX8_digits_50 rfl ?_
    refine v_icmp_le (tgt := 57) dX8_digits_52 rz0 (rgl rfl) (by decide) (fun c2 => ?_) (fun c2 => ?_)
    · rw [if_pos c2] at h
      refine v_bipush dX8_digits_57 rfl ?_
      refine v_iload_n dX8_digits_59 3 rfl rfl ?_
      refine v_imul dX8_digits_60 ?_
      refine v_iload dX8_digits_61 0 rfl ?_
      refine v_iadd dX8_digits_63 ?_
      refine v_bipush dX8_digits_64 rfl ?_
      refine v_isub dX8_digits_66 ?_
      obtain ⟨y3, e4, h⟩ := vl_some h
      rw [← e4]
      have r5 : rg y3 := by rw [e4]; exact w32_rg _
      refine v_istore_n (L1 := [(2, vI y3), (4, vI z0), (0, vO o), (1, vI x1), (3, vI x3)]) dX8_digits_67 rfl (by decide) rfl ?_
      obtain ⟨y6, e7, h⟩ := vl_some h
      refine v_iinc (L1 := [(3, vI (w32 (x3 + 1))), (2, vI y3), (4, vI z0), (0, vO o), (1, vI x1)]) dX8_digits_68 4 rfl (by decide) rfl ?_
      rw [← e7]
      have r8 : rg y6 := by rw [e7]; exact w32_rg _
      refine v_goto (tgt := 4) dX8_digits_71 (by decide) ?_
      refine v_sub [3, 4, 1, 0] (L1 := [(0, vO o), (1, vI x1), (2, vI y3), (3, vI y6)]) rfl ?_
      exact hrec y3 y6 s _ h r5 r8 hE
    · rw [if_neg c2] at h
      refine v_iconst dX8_digits_55 ?_
      cases h
      obtain ⟨z1, z2⟩ := hE.2 _ _ rfl
      subst z1
      subst z2
      exact v_iret (rgl rfl) dX8_digits_56

def l_X8_digits_4 (o : Nat) : Nat → Int → Int → Int → vS → Option ((Int × vS) ⊕ (Int × vS))
  | 0, _, _, _, _ => none
  | n + 1, x1, x2, x3, s =>
    if x1 ≤ x3 then
      some (.inl (x2, s))
    else
      if (gI s o 2) ≤ (w32 ((gI s o 1) + x3)) then
        j_X8_digits_39 o (l_X8_digits_4 o n) x1 x2 x3 0 s
      else
        gd (okB (gR s o 0) 1) <|
        bd (f_X2_at (gR s o 0) (w32 ((gI s o 1) + x3)) s) fun r7 s4 =>
        j_X8_digits_39 o (l_X8_digits_4 o n) x1 x2 x3 r7 s4
theorem wl_X8_digits_4 (o : Nat) {x1 : Int} {rv : Option vA} {σo : vS} (ho : okB o 7) (rx1 : rg x1) : ∀ (n : Nat) (x2 : Int) (x3 : Int) (s : vS) (q : (Int × vS) ⊕ (Int × vS)), l_X8_digits_4 o n x1 x2 x3 s = some q → rg x2 → rg x3 → E_X8_digits_4 o x1 rv σo q → VW cX8_digits (RX8, rv, σo, (some .int), 1, 21, 5, []) (P0 []) s 4 [(0, vO o), (1, vI x1), (2, vI x2), (3, vI x3)] [] := by
  intro n
  induction n with
  | zero => intro x2 x3 s q h; cases h
  | succ n ih =>
    intro x2 x3 s q h rx2 rx3 hE
    unfold l_X8_digits_4 at h
    refine v_iload_n dX8_digits_4 3 rfl rfl ?_
    refine v_iload_n dX8_digits_5 1 rfl rfl ?_
    refine v_icmp_ge (tgt := 74) dX8_digits_6 rx3 rx1 (by decide) (fun c1 => ?_) (fun c1 => ?_)
    · rw [if_pos c1] at h
      cases h
      refine v_sub [0, 1, 2] (L1 := [(0, vO o), (1, vI x1), (2, vI x2)]) rfl ?_
      exact hE.1 _ _ rfl rx2
    · rw [if_neg c1] at h
      refine v_aload_n dX8_digits_9 0 rfl rfl ?_
      refine v_getI (f := 1) cf8 (okB_ok ho) rfl (by decide) q544 dX8_digits_10 ?_
      refine v_iload_n dX8_digits_13 3 rfl rfl ?_
      refine v_iadd dX8_digits_14 ?_
      refine v_aload_n dX8_digits_15 0 rfl rfl ?_
      refine v_getI (f := 2) cf8 (okB_ok ho) rfl (by decide) q545 dX8_digits_16 ?_
      refine v_icmp_ge (tgt := 38) dX8_digits_19 (w32_rg _) (gI_rg _ _ _) (by decide) (fun c2 => ?_) (fun c2 => ?_)
      · rw [if_pos c2] at h
        refine v_iconst dX8_digits_38 ?_
        exact wj_X8_digits_39 h ho rx1 rx2 rx3 (rgl rfl) ih hE
      · rw [if_neg c2] at h
        refine v_aload_n dX8_digits_22 0 rfl rfl ?_
        obtain ⟨g3, h⟩ := gd_some h
        refine v_getR (f := 0) cf8 (okB_ok ho) rfl (okB_R g3 (by decide) (by decide)) (by decide) q543 dX8_digits_23 ?_
        refine v_aload_n dX8_digits_26 0 rfl rfl ?_
        refine v_getI (f := 1) cf8 (okB_ok ho) rfl (by decide) q544 dX8_digits_27 ?_
        refine v_iload_n dX8_digits_30 3 rfl rfl ?_
        refine v_iadd dX8_digits_31 ?_
        obtain ⟨r7, s4, e5, h⟩ := bd_some h
        have k6 := c_X2_at e5 g3 (w32_rg _)
        have r8 : rg r7 := k6.1.2.2
        refine v_callV (st := []) cf2 (okB_ok g3) k6 (lw_V q1870 q1072 q1073 q299 q1074) rfl yk_X2_at ⟨Nat.le_of_ble_eq_true rfl, Nat.le_of_ble_eq_true rfl⟩ trivial ⟨(okB_kp ho (by decide)), trivial⟩ (Nat.le_of_ble_eq_true rfl) rfl dX8_digits_32 ?_
        refine v_goto (tgt := 39) dX8_digits_35 (by decide) ?_
        exact wj_X8_digits_39 h ho rx1 rx2 rx3 r8 ih hE

def f_X8_digits (o : Nat) (x1 : Int) (s : vS) : Option (Int × vS) :=
  lqs_1 (l_X8_digits_4 o FU x1 0 0 s) (fun y1 s2 =>
    stp (sI s2 o 1 (w32 ((gI s2 o 1) + x1))) fun s5 =>
    some (y1, s5))
    (fun q => some q)
theorem yk_X8_digits : yOk yX8_digits 1 := ⟨by decide, by decide, by decide +kernel⟩
theorem c_X8_digits {o : Nat} {x1 : Int} {s : vS} {out : Int × vS} (h : f_X8_digits o x1 s = some out) (ho : okB o 7) (rx1 : rg x1) : VC yX8_digits cX8_digits 5 (some .int) 1 21 [vO o, vI x1] s (some (vI out.1)) out.2 [] := by
  unfold f_X8_digits at h
  refine VC.of RX8 (by decide) rfl (Nat.le_of_ble_eq_true rfl) ?_
  show VW cX8_digits (RX8, (some (vI out.1)), out.2, (some .int), 1, 21, 5, []) (P0 []) s 0 [(0, vO o), (1, vI x1)] []
  refine v_iconst dX8_digits_0 ?_
  refine v_istore_n (L1 := [(2, vI 0), (0, vO o), (1, vI x1)]) dX8_digits_1 rfl (by decide) rfl ?_
  refine v_iconst dX8_digits_2 ?_
  refine v_istore_n (L1 := [(3, vI 0), (2, vI 0), (0, vO o), (1, vI x1)]) dX8_digits_3 rfl (by decide) rfl ?_
  refine v_sub [2, 3, 1, 0] (L1 := [(0, vO o), (1, vI x1), (2, vI 0), (3, vI 0)]) rfl ?_
  rcases lqs_1_some h with ⟨y1, s2, e3, h⟩ | ⟨q9, e3, h⟩
  · refine wl_X8_digits_4 o ho rx1 FU 0 0 s _ e3 (rgl rfl) (rgl rfl) ?_
    unfold E_X8_digits_4
    refine ⟨?_, fun v9 s9 z_ => (by cases z_)⟩
    intro y1' s2' z_ r4
    cases z_
    refine v_aload_n dX8_digits_74 0 rfl rfl ?_
    refine v_dupO dX8_digits_75 ?_
    refine v_getI (f := 1) cf8 (okB_ok ho) rfl (by decide) q544 dX8_digits_76 ?_
    refine v_iload_n dX8_digits_79 1 rfl rfl ?_
    refine v_iadd dX8_digits_80 ?_
    obtain ⟨s5, e6, h⟩ := stp_some h
    refine v_putI (f := 1) cf8 (okB_ok ho) rfl (by decide) q544 dX8_digits_81 rfl rfl ?_
    rw [← e6]
    refine v_iload_n dX8_digits_84 2 rfl rfl ?_
    cases h
    exact v_iret r4 dX8_digits_85
  · cases h
    refine wl_X8_digits_4 o ho rx1 FU 0 0 s _ e3 (rgl rfl) (rgl rfl) ?_
    unfold E_X8_digits_4
    refine ⟨fun _ _ z_ => (by cases z_), ?_⟩
    intro v9 s9 z_
    cases z_
    exact ⟨rfl, rfl⟩

def f_X8_days (x0 : Int) (x1 : Int) (s : vS) : Option (Int × vS) :=
  if x1 = 2 then
    if (m32 x0 4) = 0 then
      if (m32 x0 100) = 0 then
        if (m32 x0 400) = 0 then
          some (29, s)
        else
          some (28, s)
      else
        some (29, s)
    else
      some (28, s)
  else
    if x1 = 4 then
      some (30, s)
    else
      if x1 = 6 then
        some (30, s)
      else
        if x1 = 9 then
          some (30, s)
        else
          if x1 = 11 then
            some (30, s)
          else
            some (31, s)
theorem yk_X8_days : yOk yX8_days 2 := ⟨by decide, by decide, by decide +kernel⟩
theorem c_X8_days {x0 : Int} {x1 : Int} {s : vS} {out : Int × vS} (h : f_X8_days x0 x1 s = some out)  (rx0 : rg x0) (rx1 : rg x1) : VC yX8_days cX8_days 2 (some .int) 0 0 [vI x0, vI x1] s (some (vI out.1)) out.2 [] := by
  unfold f_X8_days at h
  refine VC.of RX8 (by decide) rfl (Nat.le_of_ble_eq_true rfl) ?_
  show VW cX8_days (RX8, (some (vI out.1)), out.2, (some .int), 0, 0, 2, []) (P0 []) s 0 [(0, vI x0), (1, vI x1)] []
  refine v_iload_n dX8_days_0 1 rfl rfl ?_
  refine v_iconst dX8_days_1 ?_
  refine v_icmp_ne (tgt := 34) dX8_days_2 rx1 (rgl rfl) (by decide) (fun c1 => ?_) (fun c1 => ?_)
  · rw [if_neg c1] at h
    refine v_iload_n dX8_days_34 1 rfl rfl ?_
    refine v_iconst dX8_days_35 ?_
    refine v_icmp_eq (tgt := 57) dX8_days_36 rx1 (rgl rfl) (by decide) (fun c2 => ?_) (fun c2 => ?_)
    · rw [if_pos c2] at h
      refine v_bipush dX8_days_57 rfl ?_
      refine v_goto (tgt := 64) dX8_days_59 (by decide) ?_
      cases h
      exact v_iret (rgl rfl) dX8_days_64
    · rw [if_neg c2] at h
      refine v_iload_n dX8_days_39 1 rfl rfl ?_
      refine v_bipush dX8_days_40 rfl ?_
      refine v_icmp_eq (tgt := 57) dX8_days_42 rx1 (rgl rfl) (by decide) (fun c3 => ?_) (fun c3 => ?_)
      · rw [if_pos c3] at h
        refine v_bipush dX8_days_57 rfl ?_
        refine v_goto (tgt := 64) dX8_days_59 (by decide) ?_
        cases h
        exact v_iret (rgl rfl) dX8_days_64
      · rw [if_neg c3] at h
        refine v_iload_n dX8_days_45 1 rfl rfl ?_
        refine v_bipush dX8_days_46 rfl ?_
        refine v_icmp_eq (tgt := 57) dX8_days_48 rx1 (rgl rfl) (by decide) (fun c4 => ?_) (fun c4 => ?_)
        · rw [if_pos c4] at h
          refine v_bipush dX8_days_57 rfl ?_
          refine v_goto (tgt := 64) dX8_days_59 (by decide) ?_
          cases h
          exact v_iret (rgl rfl) dX8_days_64
        · rw [if_neg c4] at h
          refine v_iload_n dX8_days_51 1 rfl rfl ?_
          refine v_bipush dX8_days_52 rfl ?_
          refine v_icmp_ne (tgt := 62) dX8_days_54 rx1 (rgl rfl) (by decide) (fun c5 => ?_) (fun c5 => ?_)
          · rw [if_neg c5] at h
            refine v_bipush dX8_days_62 rfl ?_
            cases h
            exact v_iret (rgl rfl) dX8_days_64
          · rw [if_pos c5] at h
            refine v_bipush dX8_days_57 rfl ?_
            refine v_goto (tgt := 64) dX8_days_59 (by decide) ?_
            cases h
            exact v_iret (rgl rfl) dX8_days_64
  · rw [if_pos c1] at h
    refine v_iload_n dX8_days_5 0 rfl rfl ?_
    refine v_iconst dX8_days_6 ?_
    refine v_irem dX8_days_7 (rgl rfl) (by decide) ?_
    refine v_if_ne (tgt := 31) dX8_days_8 (m32_rg _ _) (by decide) (fun c6 => ?_) (fun c6 => ?_)
    · rw [if_neg c6] at h
      refine v_bipush dX8_days_31 rfl ?_
      cases h
      exact v_iret (rgl rfl) dX8_days_33
    · rw [if_pos c6] at h
      refine v_iload_n dX8_days_11 0 rfl rfl ?_
      refine v_bipush dX8_days_12 rfl ?_
      refine v_irem dX8_days_14 (rgl rfl) (by decide) ?_
      refine v_if_ne (tgt := 26) dX8_days_15 (m32_rg _ _) (by decide) (fun c7 => ?_) (fun c7 => ?_)
      · rw [if_neg c7] at h
        refine v_bipush dX8_days_26 rfl ?_
        refine v_goto (tgt := 33) dX8_days_28 (by decide) ?_
        cases h
        exact v_iret (rgl rfl) dX8_days_33
      · rw [if_pos c7] at h
        refine v_iload_n dX8_days_18 0 rfl rfl ?_
        refine v_sipush dX8_days_19 rfl ?_
        refine v_irem dX8_days_22 (rgl rfl) (by decide) ?_
        refine v_if_ne (tgt := 31) dX8_days_23 (m32_rg _ _) (by decide) (fun c8 => ?_) (fun c8 => ?_)
        · rw [if_neg c8] at h
          refine v_bipush dX8_days_31 rfl ?_
          cases h
          exact v_iret (rgl rfl) dX8_days_33
        · rw [if_pos c8] at h
          refine v_bipush dX8_days_26 rfl ?_
          refine v_goto (tgt := 33) dX8_days_28 (by decide) ?_
          cases h
          exact v_iret (rgl rfl) dX8_days_33
