set_option maxRecDepth 100000
set_option maxHeartbeats 1000000
def E_X14_checkEndless_2 (rv : Option vA) (σo : vS) (q : vS) : Prop := ∀ (s' : vS), q = s' → VW cX14_checkEndless (RX14, rv, σo, none, 2, 43, 3, []) (P0 []) s' 23 [(0, vO 87)] []
def l_X14_checkEndless_2 : Nat → Int → vS → Option (vS)
  | 0, _, _ => none
  | n + 1, x1, s =>
    if (gI s 87 20) ≤ x1 then
      some s
    else
      gd (inb x1 (gN s 155)) <|
      stp (sE s 155 x1 0) fun s3 =>
      vl (w32 (x1 + 1)) fun y5 =>
      l_X14_checkEndless_2 n y5 s3
theorem wl_X14_checkEndless_2 {rv : Option vA} {σo : vS}  : ∀ (n : Nat) (x1 : Int) (s : vS) (q : vS), l_X14_checkEndless_2 n x1 s = some q → rg x1 → E_X14_checkEndless_2 rv σo q → VW cX14_checkEndless (RX14, rv, σo, none, 2, 43, 3, []) (P0 []) s 2 [(0, vO 87), (1, vI x1)] [] := by
  intro n
  induction n with
  | zero => intro x1 s q h; cases h
  | succ n ih =>
    intro x1 s q h rx1 hE
    unfold l_X14_checkEndless_2 at h
    refine v_iload_n dX14_checkEndless_2 1 rfl rfl ?_
    refine v_aload_n dX14_checkEndless_3 0 rfl rfl ?_
    refine v_getI (f := 20) cf14 oc87 rfl (by decide) q2390 dX14_checkEndless_4 ?_
    refine v_icmp_ge (tgt := 23) dX14_checkEndless_7 rx1 (gI_rg _ _ _) (by decide) (fun c1 => ?_) (fun c1 => ?_)
    · rw [if_pos c1] at h
      cases h
      refine v_sub [0] (L1 := [(0, vO 87)]) rfl ?_
      exact hE _ rfl 
    · rw [if_neg c1] at h
      refine v_aload_n dX14_checkEndless_10 0 rfl rfl ?_
      refine v_getS (f := 95) (t := 155) cf14 oc87 rfl rfl rfl (by decide) q2465 dX14_checkEndless_11 ?_
      refine v_iload_n dX14_checkEndless_14 1 rfl rfl ?_
      refine v_iconst dX14_checkEndless_15 ?_
      obtain ⟨g2, h⟩ := gd_some h
      obtain ⟨s3, e4, h⟩ := stp_some h
      refine v_zast oc155 rx1 g2.1 g2.2 dX14_checkEndless_16 ?_
      rw [← e4]
      obtain ⟨y5, e6, h⟩ := vl_some h
      refine v_iinc (L1 := [(1, vI (w32 (x1 + 1))), (0, vO 87)]) dX14_checkEndless_17 1 rfl (by decide) rfl ?_
      rw [← e6]
      have r7 : rg y5 := by rw [e6]; exact w32_rg _
      refine v_goto (tgt := 2) dX14_checkEndless_20 (by decide) ?_
      refine v_sub [1, 0] (L1 := [(0, vO 87), (1, vI y5)]) rfl ?_
      exact ih y5 s3 _ h r7 hE

def E_X14_checkEndless_25 (rv : Option vA) (σo : vS) (q : vS) : Prop := ∀ (s' : vS), q = s' → VW cX14_checkEndless (RX14, rv, σo, none, 2, 43, 3, []) (P0 []) s' 77 [(0, vO 87)] []
def E_X14_checkEndless_38 (rv : Option vA) (σo : vS) (q : Int × vS) : Prop := ∀ (x1' : Int) (s' : vS), q = (x1', s') → rg x1' → VW cX14_checkEndless (RX14, rv, σo, none, 2, 43, 3, []) (P0 []) s' 74 [(0, vO 87), (1, vI x1')] []
def l_X14_checkEndless_38 : Nat → Int → Int → vS → Option (Int × vS)
  | 0, _, _, _ => none
  | n + 1, x1, x2, s =>
    if x2 < 0 then
      some (x1, s)
    else
      gd (inb x2 (gN s 155)) <|
      if (gZ s 155 x2) = 0 then
        bd (f_X14_isFinite x2 s) fun r10 s7 =>
        if r10 = 0 then
          vl (w32 (x2 + (-1))) fun y13 =>
          l_X14_checkEndless_38 n x1 y13 s7
        else
          gd (inb x2 (gN s7 155)) <|
          stp (sE s7 155 x2 1) fun s17 =>
          vl (w32 (x2 + (-1))) fun y19 =>
          l_X14_checkEndless_38 n 1 y19 s17
      else
        vl (w32 (x2 + (-1))) fun y4 =>
        l_X14_checkEndless_38 n x1 y4 s
theorem wl_X14_checkEndless_38 {rv : Option vA} {σo : vS}  : ∀ (n : Nat) (x1 : Int) (x2 : Int) (s : vS) (q : Int × vS), l_X14_checkEndless_38 n x1 x2 s = some q → rg x1 → rg x2 → E_X14_checkEndless_38 rv σo q → VW cX14_checkEndless (RX14, rv, σo, none, 2, 43, 3, []) (P0 []) s 38 [(0, vO 87), (1, vI x1), (2, vI x2)] [] := by
  intro n
  induction n with
  | zero => intro x1 x2 s q h; cases h
  | succ n ih =>
    intro x1 x2 s q h rx1 rx2 hE
    unfold l_X14_checkEndless_38 at h
    refine v_iload_n dX14_checkEndless_38 2 rfl rfl ?_
    refine v_if_lt (tgt := 74) dX14_checkEndless_39 rx2 (by decide) (fun c1 => ?_) (fun c1 => ?_)
    · rw [if_pos c1] at h
      cases h
      refine v_sub [0, 1] (L1 := [(0, vO 87), (1, vI x1)]) rfl ?_
      exact hE _ _ rfl rx1
    · rw [if_neg c1] at h
      refine v_aload_n dX14_checkEndless_42 0 rfl rfl ?_
      refine v_getS (f := 95) (t := 155) cf14 oc87 rfl rfl rfl (by decide) q2465 dX14_checkEndless_43 ?_
      refine v_iload_n dX14_checkEndless_46 2 rfl rfl ?_
      obtain ⟨g2, h⟩ := gd_some h
      refine v_zald oc155 rx2 g2.1 g2.2 dX14_checkEndless_47 ?_
      refine v_if_ne (tgt := 68) dX14_checkEndless_48 (gZ_rg _ _ _) (by decide) (fun c3 => ?_) (fun c3 => ?_)
      · rw [if_neg c3] at h
        obtain ⟨y4, e5, h⟩ := vl_some h
        refine v_iinc (L1 := [(2, vI (w32 (x2 + (-1)))), (0, vO 87), (1, vI x1)]) dX14_checkEndless_68 2 rfl (by decide) rfl ?_
        rw [← e5]
        have r6 : rg y4 := by rw [e5]; exact w32_rg _
        refine v_goto (tgt := 38) dX14_checkEndless_71 (by decide) ?_
        refine v_sub [1, 2, 0] (L1 := [(0, vO 87), (1, vI x1), (2, vI y4)]) rfl ?_
        exact ih x1 y4 s _ h rx1 r6 hE
      · rw [if_pos c3] at h
        refine v_aload_n dX14_checkEndless_51 0 rfl rfl ?_
        refine v_iload_n dX14_checkEndless_52 2 rfl rfl ?_
        obtain ⟨r10, s7, e8, h⟩ := bd_some h
        have k9 := c_X14_isFinite e8 rx2
        have r11 : rg r10 := k9.1.2.2
        refine v_callV (st := []) cf14 oc87 k9 (lw_V q3141 q3143 qs215 q311 q3144) rfl yk_X14_isFinite ⟨Nat.le_of_ble_eq_true rfl, Nat.le_of_ble_eq_true rfl⟩ trivial ⟨kc87, trivial⟩ (Nat.le_of_ble_eq_true rfl) rfl dX14_checkEndless_53 ?_
        refine v_if_eq (tgt := 68) dX14_checkEndless_56 r11 (by decide) (fun c12 => ?_) (fun c12 => ?_)
        · rw [if_pos c12] at h
          obtain ⟨y13, e14, h⟩ := vl_some h
          refine v_iinc (L1 := [(2, vI (w32 (x2 + (-1)))), (0, vO 87), (1, vI x1)]) dX14_checkEndless_68 2 rfl (by decide) rfl ?_
          rw [← e14]
          have r15 : rg y13 := by rw [e14]; exact w32_rg _
          refine v_goto (tgt := 38) dX14_checkEndless_71 (by decide) ?_
          refine v_sub [1, 2, 0] (L1 := [(0, vO 87), (1, vI x1), (2, vI y13)]) rfl ?_
          exact ih x1 y13 s7 _ h rx1 r15 hE
        · rw [if_neg c12] at h
          refine v_aload_n dX14_checkEndless_59 0 rfl rfl ?_
          refine v_getS (f := 95) (t := 155) cf14 oc87 rfl rfl rfl (by decide) q2465 dX14_checkEndless_60 ?_
          refine v_iload_n dX14_checkEndless_63 2 rfl rfl ?_
          refine v_iconst dX14_checkEndless_64 ?_
          obtain ⟨g16, h⟩ := gd_some h
          obtain ⟨s17, e18, h⟩ := stp_some h
          refine v_zast oc155 rx2 g16.1 g16.2 dX14_checkEndless_65 ?_
          rw [← e18]
          refine v_iconst dX14_checkEndless_66 ?_
          refine v_istore_n (L1 := [(1, vI 1), (0, vO 87), (2, vI x2)]) dX14_checkEndless_67 rfl (by decide) rfl ?_
          obtain ⟨y19, e20, h⟩ := vl_some h
          refine v_iinc (L1 := [(2, vI (w32 (x2 + (-1)))), (1, vI 1), (0, vO 87)]) dX14_checkEndless_68 2 rfl (by decide) rfl ?_
          rw [← e20]
          have r21 : rg y19 := by rw [e20]; exact w32_rg _
          refine v_goto (tgt := 38) dX14_checkEndless_71 (by decide) ?_
          refine v_sub [2, 1, 0] (L1 := [(0, vO 87), (1, vI 1), (2, vI y19)]) rfl ?_
          exact ih 1 y19 s17 _ h (rgl rfl) r21 hE

def l_X14_checkEndless_25 : Nat → Int → vS → Option (vS)
  | 0, _, _ => none
  | n + 1, x1, s =>
    if x1 = 0 then
      some s
    else
      vl (w32 ((gI s 87 20) - 1)) fun y2 =>
      lq_1 (l_X14_checkEndless_38 FU 0 y2 s) fun y5 s6 =>
      l_X14_checkEndless_25 n y5 s6
theorem wl_X14_checkEndless_25 {rv : Option vA} {σo : vS}  : ∀ (n : Nat) (x1 : Int) (s : vS) (q : vS), l_X14_checkEndless_25 n x1 s = some q → rg x1 → E_X14_checkEndless_25 rv σo q → VW cX14_checkEndless (RX14, rv, σo, none, 2, 43, 3, []) (P0 []) s 25 [(0, vO 87), (1, vI x1)] [] := by
  intro n
  induction n with
  | zero => intro x1 s q h; cases h
  | succ n ih =>
    intro x1 s q h rx1 hE
    unfold l_X14_checkEndless_25 at h
    refine v_iload_n dX14_checkEndless_25 1 rfl rfl ?_
    refine v_if_eq (tgt := 77) dX14_checkEndless_26 rx1 (by decide) (fun c1 => ?_) (fun c1 => ?_)
    · rw [if_pos c1] at h
      cases h
      refine v_sub [0] (L1 := [(0, vO 87)]) rfl ?_
      exact hE _ rfl 
    · rw [if_neg c1] at h
      refine v_iconst dX14_checkEndless_29 ?_
      refine v_istore_n (L1 := [(1, vI 0), (0, vO 87)]) dX14_checkEndless_30 rfl (by decide) rfl ?_
      refine v_aload_n dX14_checkEndless_31 1 rfl rfl ?_
      refine v_getI (f := 20) cf14 oc87 rfl (by decide) q2390 dX14_checkEndless_32 ?_
      refine v_iconst dX14_checkEndless_35 ?_
      refine v_isub dX14_checkEndless_36 ?_
      obtain ⟨y2, e3, h⟩ := vl_some h
      rw [← e3]
      have r4 : rg y2 := by rw [e3]; exact w32_rg _
      refine v_istore_n (L1 := [(2, vI y2), (1, vI 0), (0, vO 87)]) dX14_checkEndless_37 rfl (by decide) rfl ?_
      refine v_sub [2, 1, 0] (L1 := [(0, vO 87), (1, vI 0), (2, vI y2)]) rfl ?_
      obtain ⟨y5, s6, e7, h⟩ := lq_1_some h
      refine wl_X14_checkEndless_38  FU 0 y2 s _ e7 (rgl rfl) r4 ?_
      unfold E_X14_checkEndless_38
      intro y5' s6' z_ r8
      cases z_
      refine v_goto (tgt := 25) dX14_checkEndless_74 (by decide) ?_
      exact ih y5 s6 _ h r8 hE

def E_X14_checkEndless_79 (rv : Option vA) (σo : vS) (q : vS) : Prop := ∀ (s' : vS), q = s' → VW cX14_checkEndless (RX14, rv, σo, none, 2, 43, 3, []) (P0 []) s' 132 [(0, vO 87)] []
def l_X14_checkEndless_79 : Nat → Int → vS → Option (vS)
  | 0, _, _ => none
  | n + 1, x2, s =>
    if (gI s 87 76) ≤ x2 then
      some s
    else
      gd (inb x2 (gN s 144)) <|
      gd (inb (gE s 144 x2) (gN s 142)) <|
      gd (inb (gE s 142 (gE s 144 x2)) (gN s 155)) <|
      if (gZ s 155 (gE s 142 (gE s 144 x2))) = 0 then
        gd (inb x2 (gN s 144)) <|
        gd (inb (gE s 144 x2) (gN s 141)) <|
        gd (inb (gE s 141 (gE s 144 x2)) (gN s 95)) <|
        bdv (f_X14_first (gE s 95 (gE s 141 (gE s 144 x2))) s) fun s12 =>
        vl (w32 (x2 + 1)) fun y15 =>
        l_X14_checkEndless_79 n y15 s12
      else
        vl (w32 (x2 + 1)) fun y6 =>
        l_X14_checkEndless_79 n y6 s
theorem wl_X14_checkEndless_79 {rv : Option vA} {σo : vS}  : ∀ (n : Nat) (x2 : Int) (s : vS) (q : vS), l_X14_checkEndless_79 n x2 s = some q → rg x2 → E_X14_checkEndless_79 rv σo q → VW cX14_checkEndless (RX14, rv, σo, none, 2, 43, 3, []) (P0 []) s 79 [(0, vO 87), (2, vI x2)] [] := by
  intro n
  induction n with
  | zero => intro x2 s q h; cases h
  | succ n ih =>
    intro x2 s q h rx2 hE
    unfold l_X14_checkEndless_79 at h
    refine v_iload_n dX14_checkEndless_79 1 rfl rfl ?_
    refine v_aload_n dX14_checkEndless_80 0 rfl rfl ?_
    refine v_getI (f := 76) cf14 oc87 rfl (by decide) q2446 dX14_checkEndless_81 ?_
    refine v_icmp_ge (tgt := 132) dX14_checkEndless_84 rx2 (gI_rg _ _ _) (by decide) (fun c1 => ?_) (fun c1 => ?_)
    · rw [if_pos c1] at h
      cases h
      refine v_sub [0] (L1 := [(0, vO 87)]) rfl ?_
      exact hE _ rfl 
    · rw [if_neg c1] at h
      refine v_aload_n dX14_checkEndless_87 0 rfl rfl ?_
      refine v_getS (f := 95) (t := 155) cf14 oc87 rfl rfl rfl (by decide) q2465 dX14_checkEndless_88 ?_
      refine v_aload_n dX14_checkEndless_91 0 rfl rfl ?_
      refine v_getS (f := 74) (t := 142) cf14 oc87 rfl rfl rfl (by decide) q2444 dX14_checkEndless_92 ?_
      refine v_aload_n dX14_checkEndless_95 0 rfl rfl ?_
      refine v_getS (f := 77) (t := 144) cf14 oc87 rfl rfl rfl (by decide) q2447 dX14_checkEndless_96 ?_
      refine v_iload_n dX14_checkEndless_99 1 rfl rfl ?_
      obtain ⟨g2, h⟩ := gd_some h
      refine v_iald oc144 rx2 g2.1 g2.2 dX14_checkEndless_100 ?_
      obtain ⟨g3, h⟩ := gd_some h
      refine v_iald oc142 (gE_rg _ _ _) g3.1 g3.2 dX14_checkEndless_101 ?_
      obtain ⟨g4, h⟩ := gd_some h
      refine v_zald oc155 (gE_rg _ _ _) g4.1 g4.2 dX14_checkEndless_102 ?_
      refine v_if_ne (tgt := 126) dX14_checkEndless_103 (gZ_rg _ _ _) (by decide) (fun c5 => ?_) (fun c5 => ?_)
      · rw [if_neg c5] at h
        obtain ⟨y6, e7, h⟩ := vl_some h
        refine v_iinc (L1 := [(2, vI (w32 (x2 + 1))), (0, vO 87)]) dX14_checkEndless_126 1 rfl (by decide) rfl ?_
        rw [← e7]
        have r8 : rg y6 := by rw [e7]; exact w32_rg _
        refine v_goto (tgt := 79) dX14_checkEndless_129 (by decide) ?_
        refine v_sub [1, 0] (L1 := [(0, vO 87), (2, vI y6)]) rfl ?_
        exact ih y6 s _ h r8 hE
      · rw [if_pos c5] at h
        refine v_aload_n dX14_checkEndless_106 0 rfl rfl ?_
        refine v_aload_n dX14_checkEndless_107 0 rfl rfl ?_
        refine v_getS (f := 17) (t := 95) cf14 oc87 rfl rfl rfl (by decide) q2387 dX14_checkEndless_108 ?_
        refine v_aload_n dX14_checkEndless_111 0 rfl rfl ?_
        refine v_getS (f := 73) (t := 141) cf14 oc87 rfl rfl rfl (by decide) q2443 dX14_checkEndless_112 ?_
        refine v_aload_n dX14_checkEndless_115 0 rfl rfl ?_
        refine v_getS (f := 77) (t := 144) cf14 oc87 rfl rfl rfl (by decide) q2447 dX14_checkEndless_116 ?_
        refine v_iload_n dX14_checkEndless_119 1 rfl rfl ?_
        obtain ⟨g9, h⟩ := gd_some h
        refine v_iald oc144 rx2 g9.1 g9.2 dX14_checkEndless_120 ?_
        obtain ⟨g10, h⟩ := gd_some h
        refine v_iald oc141 (gE_rg _ _ _) g10.1 g10.2 dX14_checkEndless_121 ?_
        obtain ⟨g11, h⟩ := gd_some h
        refine v_iald oc95 (gE_rg _ _ _) g11.1 g11.2 dX14_checkEndless_122 ?_
        obtain ⟨s12, e13, h⟩ := bdv_some h
        have k14 := c_X14_first e13 (gE_rg _ _ _)
        refine v_callV (st := []) cf14 oc87 k14 (lw_V q3093 q3095 qs203 q311 q3096) rfl yk_X14_first ⟨Nat.le_of_ble_eq_true rfl, Nat.le_of_ble_eq_true rfl⟩ trivial ⟨kc87, trivial⟩ (Nat.le_of_ble_eq_true rfl) rfl dX14_checkEndless_123 ?_
        obtain ⟨y15, e16, h⟩ := vl_some h
        refine v_iinc (L1 := [(2, vI (w32 (x2 + 1))), (0, vO 87)]) dX14_checkEndless_126 1 rfl (by decide) rfl ?_
        rw [← e16]
        have r17 : rg y15 := by rw [e16]; exact w32_rg _
        refine v_goto (tgt := 79) dX14_checkEndless_129 (by decide) ?_
        refine v_sub [1, 0] (L1 := [(0, vO 87), (2, vI y15)]) rfl ?_
        exact ih y15 s12 _ h r17 hE

def f_X14_checkEndless (s : vS) : Option (vS) :=
  lq_0 (l_X14_checkEndless_2 FU 0 s) fun s1 =>
  lq_0 (l_X14_checkEndless_25 FU 1 s1) fun s3 =>
  lq_0 (l_X14_checkEndless_79 FU 0 s3) fun s5 =>
  bdv (f_X14_told 7 s5) fun s7 =>
  some s7
theorem yk_X14_checkEndless : yOk yX14_checkEndless 0 := ⟨by decide, by decide, by decide +kernel⟩
theorem c_X14_checkEndless {s : vS} {out : vS} (h : f_X14_checkEndless s = some out)   : VC yX14_checkEndless cX14_checkEndless 3 none 2 43 [vO 87] s none out [] := by
  unfold f_X14_checkEndless at h
  refine VC.of RX14 (by decide) rfl (Nat.le_of_ble_eq_true rfl) ?_
  show VW cX14_checkEndless (RX14, none, out, none, 2, 43, 3, []) (P0 []) s 0 [(0, vO 87)] []
  refine v_iconst dX14_checkEndless_0 ?_
  refine v_istore_n (L1 := [(1, vI 0), (0, vO 87)]) dX14_checkEndless_1 rfl (by decide) rfl ?_
  refine v_sub [1, 0] (L1 := [(0, vO 87), (1, vI 0)]) rfl ?_
  obtain ⟨s1, e2, h⟩ := lq_0_some h
  refine wl_X14_checkEndless_2  FU 0 s _ e2 (rgl rfl) ?_
  unfold E_X14_checkEndless_2
  intro s1' z_
  cases z_
  refine v_iconst dX14_checkEndless_23 ?_
  refine v_istore_n (L1 := [(1, vI 1), (0, vO 87)]) dX14_checkEndless_24 rfl (by decide) rfl ?_
  refine v_sub [1, 0] (L1 := [(0, vO 87), (1, vI 1)]) rfl ?_
  obtain ⟨s3, e4, h⟩ := lq_0_some h
  refine wl_X14_checkEndless_25  FU 1 s1 _ e4 (rgl rfl) ?_
  unfold E_X14_checkEndless_25
  intro s3' z_
  cases z_
  refine v_iconst dX14_checkEndless_77 ?_
  refine v_istore_n (L1 := [(2, vI 0), (0, vO 87)]) dX14_checkEndless_78 rfl (by decide) rfl ?_
  refine v_sub [1, 0] (L1 := [(0, vO 87), (2, vI 0)]) rfl ?_
  obtain ⟨s5, e6, h⟩ := lq_0_some h
  refine wl_X14_checkEndless_79  FU 0 s3 _ e6 (rgl rfl) ?_
  unfold E_X14_checkEndless_79
  intro s5' z_
  cases z_
  refine v_aload_n dX14_checkEndless_132 0 rfl rfl ?_
  refine v_bipush dX14_checkEndless_133 rfl ?_
  obtain ⟨s7, e8, h⟩ := bdv_some h
  have k9 := c_X14_told e8 (rgl rfl)
  refine v_callV (st := []) cf14 oc87 k9 (lw_V q3101 q3103 qs205 q311 q3104) rfl yk_X14_told ⟨Nat.le_of_ble_eq_true rfl, Nat.le_of_ble_eq_true rfl⟩ trivial ⟨kc87, trivial⟩ (Nat.le_of_ble_eq_true rfl) rfl dX14_checkEndless_135 ?_
  cases h
  exact v_vret dX14_checkEndless_138

def f_X14_tagOf (x0 : Int) (x1 : Int) (s : vS) : Option (Int × vS) :=
  some (or64 (shl64 x0 32) x1, s)
theorem yk_X14_tagOf : yOk yX14_tagOf 2 := ⟨by decide, by decide, by decide +kernel⟩
theorem c_X14_tagOf {x0 : Int} {x1 : Int} {s : vS} {out : Int × vS} (h : f_X14_tagOf x0 x1 s = some out)  (rx0 : rg x0) (rx1 : rg x1) : VC yX14_tagOf cX14_tagOf 2 (some .long) 0 0 [vI x0, vI x1] s (some (vL out.1)) out.2 [] := by
  unfold f_X14_tagOf at h
  refine VC.of RX14 (by decide) rfl (Nat.le_of_ble_eq_true rfl) ?_
  show VW cX14_tagOf (RX14, (some (vL out.1)), out.2, (some .long), 0, 0, 2, []) (P0 []) s 0 [(0, vI x0), (1, vI x1)] []
  refine v_iload_n dX14_tagOf_0 0 rfl rfl ?_
  refine v_i2l dX14_tagOf_1 rx0 ?_
  refine v_bipush dX14_tagOf_2 rfl ?_
  refine v_lshl dX14_tagOf_4 ?_
  refine v_iload_n dX14_tagOf_5 1 rfl rfl ?_
  refine v_i2l dX14_tagOf_6 rx1 ?_
  refine v_lor dX14_tagOf_7 ?_
  cases h
  exact v_lret (or64_rg _ _) dX14_tagOf_8

def E_X14_findLayers_7 (rv : Option vA) (σo : vS) (q : Int × vS) : Prop := ∀ (x2' : Int) (s' : vS), q = (x2', s') → rg x2' → VW cX14_findLayers (RX14, rv, σo, none, 1, 21, 7, []) (P0 []) s' 53 [(0, vO 87), (2, vI x2')] []
def l_X14_findLayers_7 : Nat → Int → vS → Option (Int × vS)
  | 0, _, _ => none
  | n + 1, x2, s =>
    gd (inb x2 (gN s 97)) <|
    if (gE s 97 x2) = 17 then
      gd (inb (gI s 87 104) (gN s 160)) <|
      stp (sE s 160 (gI s 87 104) x2) fun s4 =>
      stp (sI s4 87 104 (w32 ((gI s4 87 104) + 1))) fun s6 =>
      gd (inb x2 (gN s6 101)) <|
      gd (inb (gE s6 101 x2) (gN s6 142)) <|
      vl (gE s6 142 (gE s6 101 x2)) fun y10 =>
      l_X14_findLayers_7 n y10 s6
    else
      some (x2, s)
theorem wl_X14_findLayers_7 {rv : Option vA} {σo : vS}  : ∀ (n : Nat) (x2 : Int) (s : vS) (q : Int × vS), l_X14_findLayers_7 n x2 s = some q → rg x2 → E_X14_findLayers_7 rv σo q → VW cX14_findLayers (RX14, rv, σo, none, 1, 21, 7, []) (P0 []) s 7 [(0, vO 87), (2, vI x2)] [] := by
  intro n
  induction n with
  | zero => intro x2 s q h; cases h
  | succ n ih =>
    intro x2 s q h rx2 hE
    unfold l_X14_findLayers_7 at h
    refine v_aload_n dX14_findLayers_7 0 rfl rfl ?_
    refine v_getS (f := 21) (t := 97) cf14 oc87 rfl rfl rfl (by decide) q2391 dX14_findLayers_8 ?_
    refine v_iload_n dX14_findLayers_11 1 rfl rfl ?_
    obtain ⟨g1, h⟩ := gd_some h
    refine v_iald oc97 rx2 g1.1 g1.2 dX14_findLayers_12 ?_
    refine v_bipush dX14_findLayers_13 rfl ?_
    refine v_icmp_ne (tgt := 53) dX14_findLayers_15 (gE_rg _ _ _) (rgl rfl) (by decide) (fun c2 => ?_) (fun c2 => ?_)
    · rw [if_neg c2] at h
      cases h
      exact hE _ _ rfl rx2
    · rw [if_pos c2] at h
      refine v_aload_n dX14_findLayers_18 0 rfl rfl ?_
      refine v_getS (f := 103) (t := 160) cf14 oc87 rfl rfl rfl (by decide) q2473 dX14_findLayers_19 ?_
      refine v_aload_n dX14_findLayers_22 0 rfl rfl ?_
      refine v_getI (f := 104) cf14 oc87 rfl (by decide) q2474 dX14_findLayers_23 ?_
      refine v_iload_n dX14_findLayers_26 1 rfl rfl ?_
      obtain ⟨g3, h⟩ := gd_some h
      obtain ⟨s4, e5, h⟩ := stp_some h
      refine v_iast oc160 (gI_rg _ _ _) g3.1 g3.2 dX14_findLayers_27 ?_
      rw [← e5]
      refine v_aload_n dX14_findLayers_28 0 rfl rfl ?_
      refine v_dupO dX14_findLayers_29 ?_
      refine v_getI (f := 104) cf14 oc87 rfl (by decide) q2474 dX14_findLayers_30 ?_
      refine v_iconst dX14_findLayers_33 ?_
      refine v_iadd dX14_findLayers_34 ?_
      obtain ⟨s6, e7, h⟩ := stp_some h
      refine v_putI (f := 104) cf14 oc87 rfl (by decide) q2474 dX14_findLayers_35 rfl rfl ?_
      rw [← e7]
      refine v_aload_n dX14_findLayers_38 0 rfl rfl ?_
      refine v_getS (f := 74) (t := 142) cf14 oc87 rfl rfl rfl (by decide) q2444 dX14_findLayers_39 ?_
      refine v_aload_n dX14_findLayers_42 0 rfl rfl ?_
      refine v_getS (f := 25) (t := 101) cf14 oc87 rfl rfl rfl (by decide) q2395 dX14_findLayers_43 ?_
      refine v_iload_n dX14_findLayers_46 1 rfl rfl ?_
      obtain ⟨g8, h⟩ := gd_some h
      refine v_iald oc101 rx2 g8.1 g8.2 dX14_findLayers_47 ?_
      obtain ⟨g9, h⟩ := gd_some h
      refine v_iald oc142 (gE_rg _ _ _) g9.1 g9.2 dX14_findLayers_48 ?_
      obtain ⟨y10, e11, h⟩ := vl_some h
      rw [← e11]
      have r12 : rg y10 := by rw [e11]; exact gE_rg _ _ _
      refine v_istore_n (L1 := [(2, vI y10), (0, vO 87)]) dX14_findLayers_49 rfl (by decide) rfl ?_
      refine v_goto (tgt := 7) dX14_findLayers_50 (by decide) ?_
      refine v_sub [1, 0] (L1 := [(0, vO 87), (2, vI y10)]) rfl ?_
      exact ih y10 s6 _ h r12 hE

def E_X14_findLayers_110 (rv : Option vA) (σo : vS) (q : vS) : Prop := ∀ (s' : vS), q = s' → VW cX14_findLayers (RX14, rv, σo, none, 1, 21, 7, []) (P0 []) s' 279 [] []
def E_X14_findLayers_141 (x3 : Int) (rv : Option vA) (σo : vS) (q : vS) : Prop := ∀ (s' : vS), q = s' → VW cX14_findLayers (RX14, rv, σo, none, 1, 21, 7, []) (P0 []) s' 273 [(0, vO 87), (3, vI x3)] []
def j_X14_findLayers_193 (rec : Int → Int → Int → vS → Option (vS)) (x3 : Int) (x4 : Int) (x5 : Int) (z0 : Int) (s : vS) : Option (vS) :=
  if z0 = 0 then
    gd (inb x5 (gN s 109)) <|
    gd (inb x5 (gN s 110)) <|
    bd (f_X14_tagOf (gE s 109 x5) (gE s 110 x5) s) fun r7 s4 =>
    gd (gN s4 159 = gN s 159) <|
    gd (inb (gI s 87 101) (gN s4 159)) <|
    stp (sE s4 159 (gI s 87 101) r7) fun s11 =>
    stp (sI s11 87 101 (w32 ((gI s11 87 101) + 1))) fun s13 =>
    vl (w32 (x5 + (-1))) fun y15 =>
    rec x3 x4 y15 s13
  else
    gd (inb x5 (gN s 109)) <|
    gd (inb x5 (gN s 110)) <|
    bd (f_X14_tagOf (gE s 109 x5) (gE s 110 x5) s) fun r23 s20 =>
    gd (gN s20 159 = gN s 159) <|
    gd (inb (w32 ((gI s 87 101) - 1)) (gN s20 159)) <|
    stp (sE s20 159 (w32 ((gI s 87 101) - 1)) r23) fun s27 =>
    vl (w32 (x5 + (-1))) fun y29 =>
    rec x3 x4 y29 s27
theorem wj_X14_findLayers_193 {x3 : Int} {x4 : Int} {x5 : Int} {z0 : Int} {s : vS} {rv : Option vA} {σo : vS} {rec : Int → Int → Int → vS → Option (vS)} {q : vS} (h : j_X14_findLayers_193 rec x3 x4 x5 z0 s = some q)  (rx3 : rg x3) (rx4 : rg x4) (rx5 : rg x5) (rz0 : rg z0) (hrec : ∀ (y5 : Int) (s : vS) (q : vS), rec x3 x4 y5 s = some q → rg y5 → E_X14_findLayers_141 x3 rv σo q → VW cX14_findLayers (RX14, rv, σo, none, 1, 21, 7, []) (P0 []) s 141 [(0, vO 87), (3, vI x3), (4, vI x4), (5, vI y5)] []) (hE : E_X14_findLayers_141 x3 rv σo q) : VW cX14_findLayers (RX14, rv, σo, none, 1, 21, 7, []) (P0 []) s 193 [(0, vO 87), (3, vI x3), (4, vI x4), (5, vI x5)] [vI z0] := by
  unfold j_X14_findLayers_193 at h
  refine v_istore (L1 := [(6, vI z0), (0, vO 87), (3, vI x3), (4, vI x4), (5, vI x5)]) dX14_findLayers_193 (by decide) rfl ?_
  refine v_iload dX14_findLayers_195 0 rfl ?_
  refine v_if_eq (tgt := 231) dX14_findLayers_197 rz0 (by decide) (fun c1 => ?_) (fun c1 => ?_)
  · rw [if_pos c1] at h
    refine v_aload_n dX14_findLayers_231 1 rfl rfl ?_
    refine v_getS (f := 102) (t := 159) cf14 oc87 rfl rfl rfl (by decide) q2472 dX14_findLayers_232 ?_
    refine v_aload_n dX14_findLayers_235 1 rfl rfl ?_
    refine v_getI (f := 101) cf14 oc87 rfl (by decide) q2471 dX14_findLayers_236 ?_
    refine v_aload_n dX14_findLayers_239 1 rfl rfl ?_
    refine v_getS (f := 34) (t := 109) cf14 oc87 rfl rfl rfl (by decide) q2404 dX14_findLayers_240 ?_
    refine v_iload dX14_findLayers_243 4 rfl ?_
    obtain ⟨g2, h⟩ := gd_some h
    refine v_iald oc109 rx5 g2.1 g2.2 dX14_findLayers_245 ?_
    refine v_aload_n dX14_findLayers_246 1 rfl rfl ?_
    refine v_getS (f := 35) (t := 110) cf14 oc87 rfl rfl rfl (by decide) q2405 dX14_findLayers_247 ?_
    refine v_iload dX14_findLayers_250 4 rfl ?_
    obtain ⟨g3, h⟩ := gd_some h
    refine v_iald oc110 rx5 g3.1 g3.2 dX14_findLayers_252 ?_
    obtain ⟨r7, s4, e5, h⟩ := bd_some h
    have k6 := c_X14_tagOf e5 (gE_rg _ _ _) (gE_rg _ _ _)
    have r8 : rgL r7 := k6.1.2.2
    obtain ⟨g9, h⟩ := gd_some h
    refine v_callS (st := [vI (gI s 87 101), vO 159]) k6 (lw_S q3157 q3158 q311 q3159) yk_X14_tagOf ⟨Nat.le_of_ble_eq_true rfl, Nat.le_of_ble_eq_true rfl⟩ ⟨(kp_arr (by decide) g9), trivial⟩ ⟨kc87, trivial⟩ (Nat.le_of_ble_eq_true rfl) rfl dX14_findLayers_253 ?_
    obtain ⟨g10, h⟩ := gd_some h
    obtain ⟨s11, e12, h⟩ := stp_some h
    refine v_last oc159 (gI_rg _ _ _) g10.1 g10.2 dX14_findLayers_256 ?_
    rw [← e12]
    refine v_aload_n dX14_findLayers_257 1 rfl rfl ?_
    refine v_dupO dX14_findLayers_258 ?_
    refine v_getI (f := 101) cf14 oc87 rfl (by decide) q2471 dX14_findLayers_259 ?_
    refine v_iconst dX14_findLayers_262 ?_
    refine v_iadd dX14_findLayers_263 ?_
    obtain ⟨s13, e14, h⟩ := stp_some h
    refine v_putI (f := 101) cf14 oc87 rfl (by decide) q2471 dX14_findLayers_264 rfl rfl ?_
    rw [← e14]
    obtain ⟨y15, e16, h⟩ := vl_some h
    refine v_iinc (L1 := [(5, vI (w32 (x5 + (-1)))), (6, vI z0), (0, vO 87), (3, vI x3), (4, vI x4)]) dX14_findLayers_267 4 rfl (by decide) rfl ?_
    rw [← e16]
    have r17 : rg y15 := by rw [e16]; exact w32_rg _
    refine v_goto (tgt := 141) dX14_findLayers_270 (by decide) ?_
    refine v_sub [2, 3, 4, 0] (L1 := [(0, vO 87), (3, vI x3), (4, vI x4), (5, vI y15)]) rfl ?_
    exact hrec y15 s13 _ h r17 hE
  · rw [if_neg c1] at h
    refine v_aload_n dX14_findLayers_200 1 rfl rfl ?_
    refine v_getS (f := 102) (t := 159) cf14 oc87 rfl rfl rfl (by decide) q2472 dX14_findLayers_201 ?_
    refine v_aload_n dX14_findLayers_204 1 rfl rfl ?_
    refine v_getI (f := 101) cf14 oc87 rfl (by decide) q2471 dX14_findLayers_205 ?_
    refine v_iconst dX14_findLayers_208 ?_
    refine v_isub dX14_findLayers_209 ?_
    refine v_aload_n dX14_findLayers_210 1 rfl rfl ?_
    refine v_getS (f := 34) (t := 109) cf14 oc87 rfl rfl rfl (by decide) q2404 dX14_findLayers_211 ?_
    refine v_iload dX14_findLayers_214 4 rfl ?_
    obtain ⟨g18, h⟩ := gd_some h
    refine v_iald oc109 rx5 g18.1 g18.2 dX14_findLayers_216 ?_
    refine v_aload_n dX14_findLayers_217 1 rfl rfl ?_
    refine v_getS (f := 35) (t := 110) cf14 oc87 rfl rfl rfl (by decide) q2405 dX14_findLayers_218 ?_
    refine v_iload dX14_findLayers_221 4 rfl ?_
    obtain ⟨g19, h⟩ := gd_some h
    refine v_iald oc110 rx5 g19.1 g19.2 dX14_findLayers_223 ?_
    obtain ⟨r23, s20, e21, h⟩ := bd_some h
    have k22 := c_X14_tagOf e21 (gE_rg _ _ _) (gE_rg _ _ _)
    have r24 : rgL r23 := k22.1.2.2
    obtain ⟨g25, h⟩ := gd_some h
    refine v_callS (st := [vI (w32 ((gI s 87 101) - 1)), vO 159]) k22 (lw_S q3157 q3158 q311 q3159) yk_X14_tagOf ⟨Nat.le_of_ble_eq_true rfl, Nat.le_of_ble_eq_true rfl⟩ ⟨(kp_arr (by decide) g25), trivial⟩ ⟨kc87, trivial⟩ (Nat.le_of_ble_eq_true rfl) rfl dX14_findLayers_224 ?_
    obtain ⟨g26, h⟩ := gd_some h
    obtain ⟨s27, e28, h⟩ := stp_some h
    refine v_last oc159 (w32_rg _) g26.1 g26.2 dX14_findLayers_227 ?_
    rw [← e28]
    refine v_goto (tgt := 267) dX14_findLayers_228 (by decide) ?_
    obtain ⟨y29, e30, h⟩ := vl_some h
    refine v_iinc (L1 := [(5, vI (w32 (x5 + (-1)))), (6, vI z0), (0, vO 87), (3, vI x3), (4, vI x4)]) dX14_findLayers_267 4 rfl (by decide) rfl ?_
    rw [← e30]
    have r31 : rg y29 := by rw [e30]; exact w32_rg _
    refine v_goto (tgt := 141) dX14_findLayers_270 (by decide) ?_
    refine v_sub [2, 3, 4, 0] (L1 := [(0, vO 87), (3, vI x3), (4, vI x4), (5, vI y29)]) rfl ?_
    exact hrec y29 s27 _ h r31 hE

def l_X14_findLayers_141 : Nat → Int → Int → Int → vS → Option (vS)
  | 0, _, _, _, _ => none
  | n + 1, x3, x4, x5, s =>
    gd (inb x4 (gN s 99)) <|
    if x5 < (gE s 99 x4) then
      some s
    else
      if (gI s 87 101) ≤ 0 then
        j_X14_findLayers_193 (l_X14_findLayers_141 n) x3 x4 x5 0 s
      else
        gd (inb x5 (gN s 111)) <|
        if (gE s 111 x5) = 1 then
          j_X14_findLayers_193 (l_X14_findLayers_141 n) x3 x4 x5 1 s
        else
          gd (inb x5 (gN s 111)) <|
          if (gE s 111 x5) = 0 then
            if (gI s 87 78) = 0 then
              j_X14_findLayers_193 (l_X14_findLayers_141 n) x3 x4 x5 0 s
            else
              j_X14_findLayers_193 (l_X14_findLayers_141 n) x3 x4 x5 1 s
          else
            j_X14_findLayers_193 (l_X14_findLayers_141 n) x3 x4 x5 0 s
theorem wl_X14_findLayers_141 {x3 : Int} {x4 : Int} {rv : Option vA} {σo : vS}  (rx3 : rg x3) (rx4 : rg x4) : ∀ (n : Nat) (x5 : Int) (s : vS) (q : vS), l_X14_findLayers_141 n x3 x4 x5 s = some q → rg x5 → E_X14_findLayers_141 x3 rv σo q → VW cX14_findLayers (RX14, rv, σo, none, 1, 21, 7, []) (P0 []) s 141 [(0, vO 87), (3, vI x3), (4, vI x4), (5, vI x5)] [] := by
  intro n
  induction n with
  | zero => intro x5 s q h; cases h
  | succ n ih =>
    intro x5 s q h rx5 hE
    unfold l_X14_findLayers_141 at h
    refine v_iload dX14_findLayers_141 3 rfl ?_
    refine v_aload_n dX14_findLayers_143 0 rfl rfl ?_
    refine v_getS (f := 23) (t := 99) cf14 oc87 rfl rfl rfl (by decide) q2393 dX14_findLayers_144 ?_
    refine v_iload dX14_findLayers_147 2 rfl ?_
    obtain ⟨g1, h⟩ := gd_some h
    refine v_iald oc99 rx4 g1.1 g1.2 dX14_findLayers_149 ?_
    refine v_icmp_lt (tgt := 273) dX14_findLayers_150 rx5 (gE_rg _ _ _) (by decide) (fun c2 => ?_) (fun c2 => ?_)
    · rw [if_pos c2] at h
      cases h
      refine v_sub [0, 1] (L1 := [(0, vO 87), (3, vI x3)]) rfl ?_
      exact hE _ rfl 
    · rw [if_neg c2] at h
      refine v_aload_n dX14_findLayers_153 0 rfl rfl ?_
      refine v_getI (f := 101) cf14 oc87 rfl (by decide) q2471 dX14_findLayers_154 ?_
      refine v_if_le (tgt := 192) dX14_findLayers_157 (gI_rg _ _ _) (by decide) (fun c3 => ?_) (fun c3 => ?_)
      · rw [if_pos c3] at h
        refine v_iconst dX14_findLayers_192 ?_
        exact wj_X14_findLayers_193 h rx3 rx4 rx5 (rgl rfl) ih hE
      · rw [if_neg c3] at h
        refine v_aload_n dX14_findLayers_160 0 rfl rfl ?_
        refine v_getS (f := 36) (t := 111) cf14 oc87 rfl rfl rfl (by decide) q2406 dX14_findLayers_161 ?_
        refine v_iload dX14_findLayers_164 3 rfl ?_
        obtain ⟨g4, h⟩ := gd_some h
        refine v_iald oc111 rx5 g4.1 g4.2 dX14_findLayers_166 ?_
        refine v_iconst dX14_findLayers_167 ?_
        refine v_icmp_eq (tgt := 188) dX14_findLayers_168 (gE_rg _ _ _) (rgl rfl) (by decide) (fun c5 => ?_) (fun c5 => ?_)
        · rw [if_pos c5] at h
          refine v_iconst dX14_findLayers_188 ?_
          refine v_goto (tgt := 193) dX14_findLayers_189 (by decide) ?_
          exact wj_X14_findLayers_193 h rx3 rx4 rx5 (rgl rfl) ih hE
        · rw [if_neg c5] at h
          refine v_aload_n dX14_findLayers_171 0 rfl rfl ?_
          refine v_getS (f := 36) (t := 111) cf14 oc87 rfl rfl rfl (by decide) q2406 dX14_findLayers_172 ?_
          refine v_iload dX14_findLayers_175 3 rfl ?_
          obtain ⟨g6, h⟩ := gd_some h
          refine v_iald oc111 rx5 g6.1 g6.2 dX14_findLayers_177 ?_
          refine v_if_ne (tgt := 192) dX14_findLayers_178 (gE_rg _ _ _) (by decide) (fun c7 => ?_) (fun c7 => ?_)
          · rw [if_neg c7] at h
            refine v_iconst dX14_findLayers_192 ?_
            exact wj_X14_findLayers_193 h rx3 rx4 rx5 (rgl rfl) ih hE
          · rw [if_pos c7] at h
            refine v_aload_n dX14_findLayers_181 0 rfl rfl ?_
            refine v_getI (f := 78) cf14 oc87 rfl (by decide) q2448 dX14_findLayers_182 ?_
            refine v_if_eq (tgt := 192) dX14_findLayers_185 (gI_rg _ _ _) (by decide) (fun c8 => ?_) (fun c8 => ?_)
            · rw [if_pos c8] at h
              refine v_iconst dX14_findLayers_192 ?_
              exact wj_X14_findLayers_193 h rx3 rx4 rx5 (rgl rfl) ih hE
            · rw [if_neg c8] at h
              refine v_iconst dX14_findLayers_188 ?_
              refine v_goto (tgt := 193) dX14_findLayers_189 (by decide) ?_
              exact wj_X14_findLayers_193 h rx3 rx4 rx5 (rgl rfl) ih hE

def l_X14_findLayers_110 : Nat → Int → vS → Option (vS)
  | 0, _, _ => none
  | n + 1, x3, s =>
    if x3 < 0 then
      some s
    else
      gd (inb x3 (gN s 160)) <|
      vl (gE s 160 x3) fun y3 =>
      gd (inb y3 (gN s 99)) <|
      gd (inb y3 (gN s 100)) <|
      vl (w32 ((w32 ((gE s 99 y3) + (gE s 100 y3))) - 1)) fun y8 =>
      lq_0 (l_X14_findLayers_141 FU x3 y3 y8 s) fun s11 =>
      vl (w32 (x3 + (-1))) fun y13 =>
      l_X14_findLayers_110 n y13 s11
theorem wl_X14_findLayers_110 {rv : Option vA} {σo : vS}  : ∀ (n : Nat) (x3 : Int) (s : vS) (q : vS), l_X14_findLayers_110 n x3 s = some q → rg x3 → E_X14_findLayers_110 rv σo q → VW cX14_findLayers (RX14, rv, σo, none, 1, 21, 7, []) (P0 []) s 110 [(0, vO 87), (3, vI x3)] [] := by
  intro n
  induction n with
  | zero => intro x3 s q h; cases h
  | succ n ih =>
    intro x3 s q h rx3 hE
    unfold l_X14_findLayers_110 at h
    refine v_iload_n dX14_findLayers_110 1 rfl rfl ?_
    refine v_if_lt (tgt := 279) dX14_findLayers_111 rx3 (by decide) (fun c1 => ?_) (fun c1 => ?_)
    · rw [if_pos c1] at h
      cases h
      refine v_sub [] (L1 := []) rfl ?_
      exact hE _ rfl 
    · rw [if_neg c1] at h
      refine v_aload_n dX14_findLayers_114 0 rfl rfl ?_
      refine v_getS (f := 103) (t := 160) cf14 oc87 rfl rfl rfl (by decide) q2473 dX14_findLayers_115 ?_
      refine v_iload_n dX14_findLayers_118 1 rfl rfl ?_
      obtain ⟨g2, h⟩ := gd_some h
      refine v_iald oc160 rx3 g2.1 g2.2 dX14_findLayers_119 ?_
      obtain ⟨y3, e4, h⟩ := vl_some h
      rw [← e4]
      have r5 : rg y3 := by rw [e4]; exact gE_rg _ _ _
      refine v_istore (L1 := [(4, vI y3), (0, vO 87), (3, vI x3)]) dX14_findLayers_120 (by decide) rfl ?_
      refine v_aload_n dX14_findLayers_122 1 rfl rfl ?_
      refine v_getS (f := 23) (t := 99) cf14 oc87 rfl rfl rfl (by decide) q2393 dX14_findLayers_123 ?_
      refine v_iload dX14_findLayers_126 0 rfl ?_
      obtain ⟨g6, h⟩ := gd_some h
      refine v_iald oc99 r5 g6.1 g6.2 dX14_findLayers_128 ?_
      refine v_aload_n dX14_findLayers_129 1 rfl rfl ?_
      refine v_getS (f := 24) (t := 100) cf14 oc87 rfl rfl rfl (by decide) q2394 dX14_findLayers_130 ?_
      refine v_iload dX14_findLayers_133 0 rfl ?_
      obtain ⟨g7, h⟩ := gd_some h
      refine v_iald oc100 r5 g7.1 g7.2 dX14_findLayers_135 ?_
      refine v_iadd dX14_findLayers_136 ?_
      refine v_iconst dX14_findLayers_137 ?_
      refine v_isub dX14_findLayers_138 ?_
      obtain ⟨y8, e9, h⟩ := vl_some h
      rw [← e9]
      have r10 : rg y8 := by rw [e9]; exact w32_rg _
      refine v_istore (L1 := [(5, vI y8), (4, vI y3), (0, vO 87), (3, vI x3)]) dX14_findLayers_139 (by decide) rfl ?_
      refine v_sub [2, 3, 1, 0] (L1 := [(0, vO 87), (3, vI x3), (4, vI y3), (5, vI y8)]) rfl ?_
      obtain ⟨s11, e12, h⟩ := lq_0_some h
      refine wl_X14_findLayers_141 rx3 r5 FU y8 s _ e12 r10 ?_
      unfold E_X14_findLayers_141
      intro s11' z_
      cases z_
      obtain ⟨y13, e14, h⟩ := vl_some h
      refine v_iinc (L1 := [(3, vI (w32 (x3 + (-1)))), (0, vO 87)]) dX14_findLayers_273 1 rfl (by decide) rfl ?_
      rw [← e14]
      have r15 : rg y13 := by rw [e14]; exact w32_rg _
      refine v_goto (tgt := 110) dX14_findLayers_276 (by decide) ?_
      refine v_sub [1, 0] (L1 := [(0, vO 87), (3, vI y13)]) rfl ?_
      exact ih y13 s11 _ h r15 hE

def f_X14_findLayers (x1 : Int) (s : vS) : Option (vS) :=
  stp (sI s 87 104 0) fun s1 =>
  lq_1 (l_X14_findLayers_7 FU x1 s1) fun y3 s4 =>
  gd (inb (gI s4 87 104) (gN s4 160)) <|
  stp (sE s4 160 (gI s4 87 104) y3) fun s8 =>
  stp (sI s8 87 101 0) fun s10 =>
  gd (inb y3 (gN s10 97)) <|
  if (gE s10 97 y3) = 16 then
    vl (gI s10 87 104) fun y14 =>
    lq_0 (l_X14_findLayers_110 FU y14 s10) fun s17 =>
    some s17
  else
    gd (inb y3 (gN s10 97)) <|
    gd (inb (gE s10 97 y3) (gN s10 90)) <|
    bd (f_X14_tagOf 0 (gE s10 90 (gE s10 97 y3)) s10) fun r24 s21 =>
    gd (gN s21 159 = gN s10 159) <|
    gd (inb 0 (gN s21 159)) <|
    stp (sE s21 159 0 r24) fun s28 =>
    stp (sI s28 87 101 1) fun s30 =>
    vl (gI s30 87 104) fun y32 =>
    lq_0 (l_X14_findLayers_110 FU y32 s30) fun s35 =>
    some s35
theorem yk_X14_findLayers : yOk yX14_findLayers 1 := ⟨by decide, by decide, by decide +kernel⟩
theorem c_X14_findLayers {x1 : Int} {s : vS} {out : vS} (h : f_X14_findLayers x1 s = some out)  (rx1 : rg x1) : VC yX14_findLayers cX14_findLayers 7 none 1 21 [vO 87, vI x1] s none out [] := by
  unfold f_X14_findLayers at h
  refine VC.of RX14 (by decide) rfl (Nat.le_of_ble_eq_true rfl) ?_
  show VW cX14_findLayers (RX14, none, out, none, 1, 21, 7, []) (P0 []) s 0 [(0, vO 87), (1, vI x1)] []
  refine v_aload_n dX14_findLayers_0 0 rfl rfl ?_
  refine v_iconst dX14_findLayers_1 ?_
  obtain ⟨s1, e2, h⟩ := stp_some h
  refine v_putI (f := 104) cf14 oc87 rfl (by decide) q2474 dX14_findLayers_2 rfl rfl ?_
  rw [← e2]
  refine v_iload_n dX14_findLayers_5 1 rfl rfl ?_
  refine v_istore_n (L1 := [(2, vI x1), (0, vO 87), (1, vI x1)]) dX14_findLayers_6 rfl (by decide) rfl ?_
  refine v_sub [1, 0] (L1 := [(0, vO 87), (2, vI x1)]) rfl ?_
  obtain ⟨y3, s4, e5, h⟩ := lq_1_some h
  refine wl_X14_findLayers_7  FU x1 s1 _ e5 rx1 ?_
  unfold E_X14_findLayers_7
  intro y3' s4' z_ r6
  cases z_
  refine v_aload_n dX14_findLayers_53 0 rfl rfl ?_
  refine v_getS (f := 103) (t := 160) cf14 oc87 rfl rfl rfl (by decide) q2473 dX14_findLayers_54 ?_
  refine v_aload_n dX14_findLayers_57 0 rfl rfl ?_
  refine v_getI (f := 104) cf14 oc87 rfl (by decide) q2474 dX14_findLayers_58 ?_
  refine v_iload_n dX14_findLayers_61 1 rfl rfl ?_
  obtain ⟨g7, h⟩ := gd_some h
  obtain ⟨s8, e9, h⟩ := stp_some h
  refine v_iast oc160 (gI_rg _ _ _) g7.1 g7.2 dX14_findLayers_62 ?_
  rw [← e9]
  refine v_aload_n dX14_findLayers_63 0 rfl rfl ?_
  refine v_iconst dX14_findLayers_64 ?_
  obtain ⟨s10, e11, h⟩ := stp_some h
  refine v_putI (f := 101) cf14 oc87 rfl (by decide) q2471 dX14_findLayers_65 rfl rfl ?_
  rw [← e11]
  refine v_aload_n dX14_findLayers_68 0 rfl rfl ?_
  refine v_getS (f := 21) (t := 97) cf14 oc87 rfl rfl rfl (by decide) q2391 dX14_findLayers_69 ?_
  refine v_iload_n dX14_findLayers_72 1 rfl rfl ?_
  obtain ⟨g12, h⟩ := gd_some h
  refine v_iald oc97 r6 g12.1 g12.2 dX14_findLayers_73 ?_
  refine v_bipush dX14_findLayers_74 rfl ?_
  refine v_icmp_eq (tgt := 105) dX14_findLayers_76 (gE_rg _ _ _) (rgl rfl) (by decide) (fun c13 => ?_) (fun c13 => ?_)
  · rw [if_pos c13] at h
    refine v_aload_n dX14_findLayers_105 0 rfl rfl ?_
    refine v_getI (f := 104) cf14 oc87 rfl (by decide) q2474 dX14_findLayers_106 ?_
    obtain ⟨y14, e15, h⟩ := vl_some h
    rw [← e15]
    have r16 : rg y14 := by rw [e15]; exact gI_rg _ _ _
    refine v_istore_n (L1 := [(3, vI y14), (0, vO 87), (2, vI y3)]) dX14_findLayers_109 rfl (by decide) rfl ?_
    refine v_sub [1, 0] (L1 := [(0, vO 87), (3, vI y14)]) rfl ?_
    obtain ⟨s17, e18, h⟩ := lq_0_some h
    refine wl_X14_findLayers_110  FU y14 s10 _ e18 r16 ?_
    unfold E_X14_findLayers_110
    intro s17' z_
    cases z_
    cases h
    exact v_vret dX14_findLayers_279
  · rw [if_neg c13] at h
    refine v_aload_n dX14_findLayers_79 0 rfl rfl ?_
    refine v_getS (f := 102) (t := 159) cf14 oc87 rfl rfl rfl (by decide) q2472 dX14_findLayers_80 ?_
    refine v_iconst dX14_findLayers_83 ?_
    refine v_iconst dX14_findLayers_84 ?_
    refine v_aload_n dX14_findLayers_85 0 rfl rfl ?_
    refine v_getS (f := 2) (t := 90) cf14 oc87 rfl rfl rfl (by decide) q2372 dX14_findLayers_86 ?_
    refine v_aload_n dX14_findLayers_89 0 rfl rfl ?_
    refine v_getS (f := 21) (t := 97) cf14 oc87 rfl rfl rfl (by decide) q2391 dX14_findLayers_90 ?_
    refine v_iload_n dX14_findLayers_93 1 rfl rfl ?_
    obtain ⟨g19, h⟩ := gd_some h
    refine v_iald oc97 r6 g19.1 g19.2 dX14_findLayers_94 ?_
    obtain ⟨g20, h⟩ := gd_some h
    refine v_iald oc90 (gE_rg _ _ _) g20.1 g20.2 dX14_findLayers_95 ?_
    obtain ⟨r24, s21, e22, h⟩ := bd_some h
    have k23 := c_X14_tagOf e22 (rgl rfl) (gE_rg _ _ _)
    have r25 : rgL r24 := k23.1.2.2
    obtain ⟨g26, h⟩ := gd_some h
    refine v_callS (st := [vI 0, vO 159]) k23 (lw_S q3157 q3158 q311 q3159) yk_X14_tagOf ⟨Nat.le_of_ble_eq_true rfl, Nat.le_of_ble_eq_true rfl⟩ ⟨(kp_arr (by decide) g26), trivial⟩ ⟨kc87, trivial⟩ (Nat.le_of_ble_eq_true rfl) rfl dX14_findLayers_96 ?_
    obtain ⟨g27, h⟩ := gd_some h
    obtain ⟨s28, e29, h⟩ := stp_some h
    refine v_last oc159 (rgl rfl) g27.1 g27.2 dX14_findLayers_99 ?_
    rw [← e29]
    refine v_aload_n dX14_findLayers_100 0 rfl rfl ?_
    refine v_iconst dX14_findLayers_101 ?_
    obtain ⟨s30, e31, h⟩ := stp_some h
    refine v_putI (f := 101) cf14 oc87 rfl (by decide) q2471 dX14_findLayers_102 rfl rfl ?_
    rw [← e31]
    refine v_aload_n dX14_findLayers_105 0 rfl rfl ?_
    refine v_getI (f := 104) cf14 oc87 rfl (by decide) q2474 dX14_findLayers_106 ?_
    obtain ⟨y32, e33, h⟩ := vl_some h
    rw [← e33]
    have r34 : rg y32 := by rw [e33]; exact gI_rg _ _ _
    refine v_istore_n (L1 := [(3, vI y32), (0, vO 87), (2, vI y3)]) dX14_findLayers_109 rfl (by decide) rfl ?_
    refine v_sub [1, 0] (L1 := [(0, vO 87), (3, vI y32)]) rfl ?_
    obtain ⟨s35, e36, h⟩ := lq_0_some h
    refine wl_X14_findLayers_110  FU y32 s30 _ e36 r34 ?_
    unfold E_X14_findLayers_110
    intro s35' z_
    cases z_
    cases h
    exact v_vret dX14_findLayers_279

def E_X14_isBareChoice_2 (rv : Option vA) (σo : vS) (q : (Int × vS) ⊕ (Int × vS)) : Prop := (∀ (x2' : Int) (s' : vS), q = .inl (x2', s') → rg x2' → VW cX14_isBareChoice (RX14, rv, σo, (some .boolean), 0, 0, 3, []) (P0 []) s' 36 [(0, vO 87), (2, vI x2')] []) ∧ (∀ (v : Int) (s' : vS), q = .inr (v, s') → rv = some (vI v) ∧ σo = s')
def l_X14_isBareChoice_2 : Nat → Int → vS → Option ((Int × vS) ⊕ (Int × vS))
  | 0, _, _ => none
  | n + 1, x2, s =>
    gd (inb x2 (gN s 97)) <|
    if (gE s 97 x2) = 17 then
      gd (inb x2 (gN s 101)) <|
      gd (inb (gE s 101 x2) (gN s 142)) <|
      vl (gE s 142 (gE s 101 x2)) fun y5 =>
      gd (inb y5 (gN s 100)) <|
      if (gE s 100 y5) ≤ 0 then
        l_X14_isBareChoice_2 n y5 s
      else
        some (.inr (0, s))
    else
      some (.inl (x2, s))
theorem wl_X14_isBareChoice_2 {rv : Option vA} {σo : vS}  : ∀ (n : Nat) (x2 : Int) (s : vS) (q : (Int × vS) ⊕ (Int × vS)), l_X14_isBareChoice_2 n x2 s = some q → rg x2 → E_X14_isBareChoice_2 rv σo q → VW cX14_isBareChoice (RX14, rv, σo, (some .boolean), 0, 0, 3, []) (P0 []) s 2 [(0, vO 87), (2, vI x2)] [] := by
  intro n
  induction n with
  | zero => intro x2 s q h; cases h
  | succ n ih =>
    intro x2 s q h rx2 hE
    unfold l_X14_isBareChoice_2 at h
    refine v_aload_n dX14_isBareChoice_2 0 rfl rfl ?_
    refine v_getS (f := 21) (t := 97) cf14 oc87 rfl rfl rfl (by decide) q2391 dX14_isBareChoice_3 ?_
    refine v_iload_n dX14_isBareChoice_6 1 rfl rfl ?_
    obtain ⟨g1, h⟩ := gd_some h
    refine v_iald oc97 rx2 g1.1 g1.2 dX14_isBareChoice_7 ?_
    refine v_bipush dX14_isBareChoice_8 rfl ?_
    refine v_icmp_ne (tgt := 36) dX14_isBareChoice_10 (gE_rg _ _ _) (rgl rfl) (by decide) (fun c2 => ?_) (fun c2 => ?_)
    · rw [if_neg c2] at h
      cases h
      exact hE.1 _ _ rfl rx2
    · rw [if_pos c2] at h
      refine v_aload_n dX14_isBareChoice_13 0 rfl rfl ?_
      refine v_getS (f := 74) (t := 142) cf14 oc87 rfl rfl rfl (by decide) q2444 dX14_isBareChoice_14 ?_
      refine v_aload_n dX14_isBareChoice_17 0 rfl rfl ?_
      refine v_getS (f := 25) (t := 101) cf14 oc87 rfl rfl rfl (by decide) q2395 dX14_isBareChoice_18 ?_
      refine v_iload_n dX14_isBareChoice_21 1 rfl rfl ?_
      obtain ⟨g3, h⟩ := gd_some h
      refine v_iald oc101 rx2 g3.1 g3.2 dX14_isBareChoice_22 ?_
      obtain ⟨g4, h⟩ := gd_some h
      refine v_iald oc142 (gE_rg _ _ _) g4.1 g4.2 dX14_isBareChoice_23 ?_
      obtain ⟨y5, e6, h⟩ := vl_some h
      rw [← e6]
      have r7 : rg y5 := by rw [e6]; exact gE_rg _ _ _
      refine v_istore_n (L1 := [(2, vI y5), (0, vO 87)]) dX14_isBareChoice_24 rfl (by decide) rfl ?_
      refine v_aload_n dX14_isBareChoice_25 1 rfl rfl ?_
      refine v_getS (f := 24) (t := 100) cf14 oc87 rfl rfl rfl (by decide) q2394 dX14_isBareChoice_26 ?_
      refine v_iload_n dX14_isBareChoice_29 0 rfl rfl ?_
      obtain ⟨g8, h⟩ := gd_some h
      refine v_iald oc100 r7 g8.1 g8.2 dX14_isBareChoice_30 ?_
      refine v_if_le (tgt := 2) dX14_isBareChoice_31 (gE_rg _ _ _) (by decide) (fun c9 => ?_) (fun c9 => ?_)
      · rw [if_pos c9] at h
        refine v_sub [1, 0] (L1 := [(0, vO 87), (2, vI y5)]) rfl ?_
        exact ih y5 s _ h r7 hE
      · rw [if_neg c9] at h
        refine v_iconst dX14_isBareChoice_34 ?_
        cases h
        obtain ⟨z1, z2⟩ := hE.2 _ _ rfl
        subst z1
        subst z2
        exact v_zret (Or.inl rfl) dX14_isBareChoice_35

def f_X14_isBareChoice (x1 : Int) (s : vS) : Option (Int × vS) :=
  lqs_1 (l_X14_isBareChoice_2 FU x1 s) (fun y1 s2 =>
    gd (inb y1 (gN s2 97)) <|
    if (gE s2 97 y1) = 16 then
      some (1, s2)
    else
      some (0, s2))
    (fun q => some q)
theorem yk_X14_isBareChoice : yOk yX14_isBareChoice 1 := ⟨by decide, by decide, by decide +kernel⟩
theorem c_X14_isBareChoice {x1 : Int} {s : vS} {out : Int × vS} (h : f_X14_isBareChoice x1 s = some out)  (rx1 : rg x1) : VC yX14_isBareChoice cX14_isBareChoice 3 (some .boolean) 0 0 [vO 87, vI x1] s (some (vI out.1)) out.2 [] := by
  unfold f_X14_isBareChoice at h
  refine VC.of RX14 (by decide) rfl (Nat.le_of_ble_eq_true rfl) ?_
  show VW cX14_isBareChoice (RX14, (some (vI out.1)), out.2, (some .boolean), 0, 0, 3, []) (P0 []) s 0 [(0, vO 87), (1, vI x1)] []
  refine v_iload_n dX14_isBareChoice_0 1 rfl rfl ?_
  refine v_istore_n (L1 := [(2, vI x1), (0, vO 87), (1, vI x1)]) dX14_isBareChoice_1 rfl (by decide) rfl ?_
  refine v_sub [1, 0] (L1 := [(0, vO 87), (2, vI x1)]) rfl ?_
  rcases lqs_1_some h with ⟨y1, s2, e3, h⟩ | ⟨q9, e3, h⟩
  · refine wl_X14_isBareChoice_2  FU x1 s _ e3 rx1 ?_
    unfold E_X14_isBareChoice_2
    refine ⟨?_, fun v9 s9 z_ => (by cases z_)⟩
    intro y1' s2' z_ r4
    cases z_
    refine v_aload_n dX14_isBareChoice_36 0 rfl rfl ?_
    refine v_getS (f := 21) (t := 97) cf14 oc87 rfl rfl rfl (by decide) q2391 dX14_isBareChoice_37 ?_
    refine v_iload_n dX14_isBareChoice_40 1 rfl rfl ?_
    obtain ⟨g5, h⟩ := gd_some h
    refine v_iald oc97 r4 g5.1 g5.2 dX14_isBareChoice_41 ?_
    refine v_bipush dX14_isBareChoice_42 rfl ?_
    refine v_icmp_ne (tgt := 51) dX14_isBareChoice_44 (gE_rg _ _ _) (rgl rfl) (by decide) (fun c6 => ?_) (fun c6 => ?_)
    · rw [if_neg c6] at h
      refine v_iconst dX14_isBareChoice_51 ?_
      cases h
      exact v_zret (Or.inl rfl) dX14_isBareChoice_52
    · rw [if_pos c6] at h
      refine v_iconst dX14_isBareChoice_47 ?_
      refine v_goto (tgt := 52) dX14_isBareChoice_48 (by decide) ?_
      cases h
      exact v_zret (Or.inr rfl) dX14_isBareChoice_52
  · cases h
    refine wl_X14_isBareChoice_2  FU x1 s _ e3 rx1 ?_
    unfold E_X14_isBareChoice_2
    refine ⟨fun _ _ z_ => (by cases z_), ?_⟩
    intro v9 s9 z_
    cases z_
    exact ⟨rfl, rfl⟩

def E_X14_checkTags_2 (rv : Option vA) (σo : vS) (q : vS) : Prop := ∀ (s' : vS), q = s' → VW cX14_checkTags (RX14, rv, σo, none, 2, 47, 3, []) (P0 []) s' 157 [(0, vO 87)] []
def E_X14_checkTags_17 (x1 : Int) (rv : Option vA) (σo : vS) (q : vS) : Prop := ∀ (s' : vS), q = s' → VW cX14_checkTags (RX14, rv, σo, none, 2, 47, 3, []) (P0 []) s' 64 [(0, vO 87), (1, vI x1)] []
def l_X14_checkTags_17 : Nat → Int → Int → vS → Option (vS)
  | 0, _, _, _ => none
  | n + 1, x1, x2, s =>
    gd (inb x1 (gN s 99)) <|
    gd (inb x1 (gN s 100)) <|
    if (w32 ((gE s 99 x1) + (gE s 100 x1))) ≤ x2 then
      some s
    else
      gd (inb x2 (gN s 109)) <|
      if (gE s 109 x2) = 0 then
        gd (inb x2 (gN s 108)) <|
        gd (inb (gE s 108 x2) (gN s 95)) <|
        bdv (f_X14_first (gE s 95 (gE s 108 x2)) s) fun s11 =>
        vl (w32 (x2 + 1)) fun y14 =>
        l_X14_checkTags_17 n x1 y14 s11
      else
        vl (w32 (x2 + 1)) fun y6 =>
        l_X14_checkTags_17 n x1 y6 s
theorem wl_X14_checkTags_17 {x1 : Int} {rv : Option vA} {σo : vS}  (rx1 : rg x1) : ∀ (n : Nat) (x2 : Int) (s : vS) (q : vS), l_X14_checkTags_17 n x1 x2 s = some q → rg x2 → E_X14_checkTags_17 x1 rv σo q → VW cX14_checkTags (RX14, rv, σo, none, 2, 47, 3, []) (P0 []) s 17 [(0, vO 87), (1, vI x1), (2, vI x2)] [] := by
  intro n
  induction n with
  | zero => intro x2 s q h; cases h
  | succ n ih =>
    intro x2 s q h rx2 hE
    unfold l_X14_checkTags_17 at h
    refine v_iload_n dX14_checkTags_17 2 rfl rfl ?_
    refine v_aload_n dX14_checkTags_18 0 rfl rfl ?_
    refine v_getS (f := 23) (t := 99) cf14 oc87 rfl rfl rfl (by decide) q2393 dX14_checkTags_19 ?_
    refine v_iload_n dX14_checkTags_22 1 rfl rfl ?_
    obtain ⟨g1, h⟩ := gd_some h
    refine v_iald oc99 rx1 g1.1 g1.2 dX14_checkTags_23 ?_
    refine v_aload_n dX14_checkTags_24 0 rfl rfl ?_
    refine v_getS (f := 24) (t := 100) cf14 oc87 rfl rfl rfl (by decide) q2394 dX14_checkTags_25 ?_
    refine v_iload_n dX14_checkTags_28 1 rfl rfl ?_
    obtain ⟨g2, h⟩ := gd_some h
    refine v_iald oc100 rx1 g2.1 g2.2 dX14_checkTags_29 ?_
    refine v_iadd dX14_checkTags_30 ?_
    refine v_icmp_ge (tgt := 64) dX14_checkTags_31 rx2 (w32_rg _) (by decide) (fun c3 => ?_) (fun c3 => ?_)
    · rw [if_pos c3] at h
      cases h
      refine v_sub [0, 1] (L1 := [(0, vO 87), (1, vI x1)]) rfl ?_
      exact hE _ rfl 
    · rw [if_neg c3] at h
      refine v_aload_n dX14_checkTags_34 0 rfl rfl ?_
      refine v_getS (f := 34) (t := 109) cf14 oc87 rfl rfl rfl (by decide) q2404 dX14_checkTags_35 ?_
      refine v_iload_n dX14_checkTags_38 2 rfl rfl ?_
      obtain ⟨g4, h⟩ := gd_some h
      refine v_iald oc109 rx2 g4.1 g4.2 dX14_checkTags_39 ?_
      refine v_if_ne (tgt := 58) dX14_checkTags_40 (gE_rg _ _ _) (by decide) (fun c5 => ?_) (fun c5 => ?_)
      · rw [if_neg c5] at h
        obtain ⟨y6, e7, h⟩ := vl_some h
        refine v_iinc (L1 := [(2, vI (w32 (x2 + 1))), (0, vO 87), (1, vI x1)]) dX14_checkTags_58 2 rfl (by decide) rfl ?_
        rw [← e7]
        have r8 : rg y6 := by rw [e7]; exact w32_rg _
        refine v_goto (tgt := 17) dX14_checkTags_61 (by decide) ?_
        refine v_sub [1, 2, 0] (L1 := [(0, vO 87), (1, vI x1), (2, vI y6)]) rfl ?_
        exact ih y6 s _ h r8 hE
      · rw [if_pos c5] at h
        refine v_aload_n dX14_checkTags_43 0 rfl rfl ?_
        refine v_aload_n dX14_checkTags_44 0 rfl rfl ?_
        refine v_getS (f := 17) (t := 95) cf14 oc87 rfl rfl rfl (by decide) q2387 dX14_checkTags_45 ?_
        refine v_aload_n dX14_checkTags_48 0 rfl rfl ?_
        refine v_getS (f := 33) (t := 108) cf14 oc87 rfl rfl rfl (by decide) q2403 dX14_checkTags_49 ?_
        refine v_iload_n dX14_checkTags_52 2 rfl rfl ?_
        obtain ⟨g9, h⟩ := gd_some h
        refine v_iald oc108 rx2 g9.1 g9.2 dX14_checkTags_53 ?_
        obtain ⟨g10, h⟩ := gd_some h
        refine v_iald oc95 (gE_rg _ _ _) g10.1 g10.2 dX14_checkTags_54 ?_
        obtain ⟨s11, e12, h⟩ := bdv_some h
        have k13 := c_X14_first e12 (gE_rg _ _ _)
        refine v_callV (st := []) cf14 oc87 k13 (lw_V q3093 q3095 qs203 q311 q3096) rfl yk_X14_first ⟨Nat.le_of_ble_eq_true rfl, Nat.le_of_ble_eq_true rfl⟩ trivial ⟨kc87, trivial⟩ (Nat.le_of_ble_eq_true rfl) rfl dX14_checkTags_55 ?_
        obtain ⟨y14, e15, h⟩ := vl_some h
        refine v_iinc (L1 := [(2, vI (w32 (x2 + 1))), (0, vO 87), (1, vI x1)]) dX14_checkTags_58 2 rfl (by decide) rfl ?_
        rw [← e15]
        have r16 : rg y14 := by rw [e15]; exact w32_rg _
        refine v_goto (tgt := 17) dX14_checkTags_61 (by decide) ?_
        refine v_sub [1, 2, 0] (L1 := [(0, vO 87), (1, vI x1), (2, vI y14)]) rfl ?_
        exact ih y14 s11 _ h r16 hE

def j_X14_checkTags_122 (rec : Int → vS → Option (vS)) (x1 : Int) (s : vS) : Option (vS) :=
  bdv (f_X14_findLayers x1 s) fun s1 =>
  if (gI s1 87 101) ≤ 100 then
    vl (w32 (x1 + 1)) fun y5 =>
    rec y5 s1
  else
    gd (inb x1 (gN s1 98)) <|
    gd (inb (gE s1 98 x1) (gN s1 95)) <|
    bdv (f_X14_first (gE s1 95 (gE s1 98 x1)) s1) fun s10 =>
    vl (w32 (x1 + 1)) fun y13 =>
    rec y13 s10
theorem wj_X14_checkTags_122 {x1 : Int} {s : vS} {rv : Option vA} {σo : vS} {rec : Int → vS → Option (vS)} {q : vS} (h : j_X14_checkTags_122 rec x1 s = some q)  (rx1 : rg x1) (hrec : ∀ (y1 : Int) (s : vS) (q : vS), rec y1 s = some q → rg y1 → E_X14_checkTags_2 rv σo q → VW cX14_checkTags (RX14, rv, σo, none, 2, 47, 3, []) (P0 []) s 2 [(0, vO 87), (1, vI y1)] []) (hE : E_X14_checkTags_2 rv σo q) : VW cX14_checkTags (RX14, rv, σo, none, 2, 47, 3, []) (P0 []) s 122 [(0, vO 87), (1, vI x1)] [] := by
  unfold j_X14_checkTags_122 at h
  refine v_aload_n dX14_checkTags_122 0 rfl rfl ?_
  refine v_iload_n dX14_checkTags_123 1 rfl rfl ?_
  obtain ⟨s1, e2, h⟩ := bdv_some h
  have k3 := c_X14_findLayers e2 rx1
  refine v_callV (st := []) cf14 oc87 k3 (lw_V q3153 q3155 qs218 q311 q3156) rfl yk_X14_findLayers ⟨Nat.le_of_ble_eq_true rfl, Nat.le_of_ble_eq_true rfl⟩ trivial ⟨kc87, trivial⟩ (Nat.le_of_ble_eq_true rfl) rfl dX14_checkTags_124 ?_
  refine v_aload_n dX14_checkTags_127 0 rfl rfl ?_
  refine v_getI (f := 101) cf14 oc87 rfl (by decide) q2471 dX14_checkTags_128 ?_
  refine v_bipush dX14_checkTags_131 rfl ?_
  refine v_icmp_le (tgt := 151) dX14_checkTags_133 (gI_rg _ _ _) (rgl rfl) (by decide) (fun c4 => ?_) (fun c4 => ?_)
  · rw [if_pos c4] at h
    obtain ⟨y5, e6, h⟩ := vl_some h
    refine v_iinc (L1 := [(1, vI (w32 (x1 + 1))), (0, vO 87)]) dX14_checkTags_151 1 rfl (by decide) rfl ?_
    rw [← e6]
    have r7 : rg y5 := by rw [e6]; exact w32_rg _
    refine v_goto (tgt := 2) dX14_checkTags_154 (by decide) ?_
    refine v_sub [1, 0] (L1 := [(0, vO 87), (1, vI y5)]) rfl ?_
    exact hrec y5 s1 _ h r7 hE
  · rw [if_neg c4] at h
    refine v_aload_n dX14_checkTags_136 0 rfl rfl ?_
    refine v_aload_n dX14_checkTags_137 0 rfl rfl ?_
    refine v_getS (f := 17) (t := 95) cf14 oc87 rfl rfl rfl (by decide) q2387 dX14_checkTags_138 ?_
    refine v_aload_n dX14_checkTags_141 0 rfl rfl ?_
    refine v_getS (f := 22) (t := 98) cf14 oc87 rfl rfl rfl (by decide) q2392 dX14_checkTags_142 ?_
    refine v_iload_n dX14_checkTags_145 1 rfl rfl ?_
    obtain ⟨g8, h⟩ := gd_some h
    refine v_iald oc98 rx1 g8.1 g8.2 dX14_checkTags_146 ?_
    obtain ⟨g9, h⟩ := gd_some h
    refine v_iald oc95 (gE_rg _ _ _) g9.1 g9.2 dX14_checkTags_147 ?_
    obtain ⟨s10, e11, h⟩ := bdv_some h
    have k12 := c_X14_first e11 (gE_rg _ _ _)
    refine v_callV (st := []) cf14 oc87 k12 (lw_V q3093 q3095 qs203 q311 q3096) rfl yk_X14_first ⟨Nat.le_of_ble_eq_true rfl, Nat.le_of_ble_eq_true rfl⟩ trivial ⟨kc87, trivial⟩ (Nat.le_of_ble_eq_true rfl) rfl dX14_checkTags_148 ?_
    obtain ⟨y13, e14, h⟩ := vl_some h
    refine v_iinc (L1 := [(1, vI (w32 (x1 + 1))), (0, vO 87)]) dX14_checkTags_151 1 rfl (by decide) rfl ?_
    rw [← e14]
    have r15 : rg y13 := by rw [e14]; exact w32_rg _
    refine v_goto (tgt := 2) dX14_checkTags_154 (by decide) ?_
    refine v_sub [1, 0] (L1 := [(0, vO 87), (1, vI y13)]) rfl ?_
    exact hrec y13 s10 _ h r15 hE

def l_X14_checkTags_2 : Nat → Int → vS → Option (vS)
  | 0, _, _ => none
  | n + 1, x1, s =>
    if (gI s 87 20) ≤ x1 then
      some s
    else
      gd (inb x1 (gN s 99)) <|
      vl (gE s 99 x1) fun y3 =>
      lq_0 (l_X14_checkTags_17 FU x1 y3 s) fun s6 =>
      gd (inb x1 (gN s6 99)) <|
      gd (inb x1 (gN s6 100)) <|
      vl (w32 ((w32 ((gE s6 99 x1) + (gE s6 100 x1))) - 1)) fun y10 =>
      gd (inb x1 (gN s6 100)) <|
      if (gE s6 100 x1) ≤ 0 then
        j_X14_checkTags_122 (l_X14_checkTags_2 n) x1 s6
      else
        gd (inb y10 (gN s6 111)) <|
        if (gE s6 111 y10) = 1 then
          bd (f_X14_isBareChoice x1 s6) fun r20 s17 =>
          if r20 = 0 then
            j_X14_checkTags_122 (l_X14_checkTags_2 n) x1 s17
          else
            gd (inb y10 (gN s17 108)) <|
            gd (inb (gE s17 108 y10) (gN s17 95)) <|
            bdv (f_X14_first (gE s17 95 (gE s17 108 y10)) s17) fun s25 =>
            j_X14_checkTags_122 (l_X14_checkTags_2 n) x1 s25
        else
          j_X14_checkTags_122 (l_X14_checkTags_2 n) x1 s6
theorem wl_X14_checkTags_2 {rv : Option vA} {σo : vS}  : ∀ (n : Nat) (x1 : Int) (s : vS) (q : vS), l_X14_checkTags_2 n x1 s = some q → rg x1 → E_X14_checkTags_2 rv σo q → VW cX14_checkTags (RX14, rv, σo, none, 2, 47, 3, []) (P0 []) s 2 [(0, vO 87), (1, vI x1)] [] := by
  intro n
  induction n with
  | zero => intro x1 s q h; cases h
  | succ n ih =>
    intro x1 s q h rx1 hE
    unfold l_X14_checkTags_2 at h
    refine v_iload_n dX14_checkTags_2 1 rfl rfl ?_
    refine v_aload_n dX14_checkTags_3 0 rfl rfl ?_
    refine v_getI (f := 20) cf14 oc87 rfl (by decide) q2390 dX14_checkTags_4 ?_
    refine v_icmp_ge (tgt := 157) dX14_checkTags_7 rx1 (gI_rg _ _ _) (by decide) (fun c1 => ?_) (fun c1 => ?_)
    · rw [if_pos c1] at h
      cases h
      refine v_sub [0] (L1 := [(0, vO 87)]) rfl ?_
      exact hE _ rfl 
    · rw [if_neg c1] at h
      refine v_aload_n dX14_checkTags_10 0 rfl rfl ?_
      refine v_getS (f := 23) (t := 99) cf14 oc87 rfl rfl rfl (by decide) q2393 dX14_checkTags_11 ?_
      refine v_iload_n dX14_checkTags_14 1 rfl rfl ?_
      obtain ⟨g2, h⟩ := gd_some h
      refine v_iald oc99 rx1 g2.1 g2.2 dX14_checkTags_15 ?_
      obtain ⟨y3, e4, h⟩ := vl_some h
      rw [← e4]
      have r5 : rg y3 := by rw [e4]; exact gE_rg _ _ _
      refine v_istore_n (L1 := [(2, vI y3), (0, vO 87), (1, vI x1)]) dX14_checkTags_16 rfl (by decide) rfl ?_
      refine v_sub [1, 2, 0] (L1 := [(0, vO 87), (1, vI x1), (2, vI y3)]) rfl ?_
      obtain ⟨s6, e7, h⟩ := lq_0_some h
      refine wl_X14_checkTags_17 rx1 FU y3 s _ e7 r5 ?_
      unfold E_X14_checkTags_17
      intro s6' z_
      cases z_
      refine v_aload_n dX14_checkTags_64 0 rfl rfl ?_
      refine v_getS (f := 23) (t := 99) cf14 oc87 rfl rfl rfl (by decide) q2393 dX14_checkTags_65 ?_
      refine v_iload_n dX14_checkTags_68 1 rfl rfl ?_
      obtain ⟨g8, h⟩ := gd_some h
      refine v_iald oc99 rx1 g8.1 g8.2 dX14_checkTags_69 ?_
      refine v_aload_n dX14_checkTags_70 0 rfl rfl ?_
      refine v_getS (f := 24) (t := 100) cf14 oc87 rfl rfl rfl (by decide) q2394 dX14_checkTags_71 ?_
      refine v_iload_n dX14_checkTags_74 1 rfl rfl ?_
      obtain ⟨g9, h⟩ := gd_some h
      refine v_iald oc100 rx1 g9.1 g9.2 dX14_checkTags_75 ?_
      refine v_iadd dX14_checkTags_76 ?_
      refine v_iconst dX14_checkTags_77 ?_
      refine v_isub dX14_checkTags_78 ?_
      obtain ⟨y10, e11, h⟩ := vl_some h
      rw [← e11]
      have r12 : rg y10 := by rw [e11]; exact w32_rg _
      refine v_istore_n (L1 := [(2, vI y10), (0, vO 87), (1, vI x1)]) dX14_checkTags_79 rfl (by decide) rfl ?_
      refine v_aload_n dX14_checkTags_80 1 rfl rfl ?_
      refine v_getS (f := 24) (t := 100) cf14 oc87 rfl rfl rfl (by decide) q2394 dX14_checkTags_81 ?_
      refine v_iload_n dX14_checkTags_84 2 rfl rfl ?_
      obtain ⟨g13, h⟩ := gd_some h
      refine v_iald oc100 rx1 g13.1 g13.2 dX14_checkTags_85 ?_
      refine v_if_le (tgt := 122) dX14_checkTags_86 (gE_rg _ _ _) (by decide) (fun c14 => ?_) (fun c14 => ?_)
      · rw [if_pos c14] at h
        refine v_sub [1, 2] (L1 := [(0, vO 87), (1, vI x1)]) rfl ?_
        exact wj_X14_checkTags_122 h rx1 ih hE
      · rw [if_neg c14] at h
        refine v_aload_n dX14_checkTags_89 1 rfl rfl ?_
        refine v_getS (f := 36) (t := 111) cf14 oc87 rfl rfl rfl (by decide) q2406 dX14_checkTags_90 ?_
        refine v_iload_n dX14_checkTags_93 0 rfl rfl ?_
        obtain ⟨g15, h⟩ := gd_some h
        refine v_iald oc111 r12 g15.1 g15.2 dX14_checkTags_94 ?_
        refine v_iconst dX14_checkTags_95 ?_
        refine v_icmp_ne (tgt := 122) dX14_checkTags_96 (gE_rg _ _ _) (rgl rfl) (by decide) (fun c16 => ?_) (fun c16 => ?_)
        · rw [if_neg c16] at h
          refine v_sub [1, 2] (L1 := [(0, vO 87), (1, vI x1)]) rfl ?_
          exact wj_X14_checkTags_122 h rx1 ih hE
        · rw [if_pos c16] at h
          refine v_aload_n dX14_checkTags_99 1 rfl rfl ?_
          refine v_iload_n dX14_checkTags_100 2 rfl rfl ?_
          obtain ⟨r20, s17, e18, h⟩ := bd_some h
          have k19 := c_X14_isBareChoice e18 rx1
          have r21 : rg r20 := k19.1.2.2
          refine v_callV (st := []) cf14 oc87 k19 (lw_V q3149 q3151 qs217 q311 q3152) rfl yk_X14_isBareChoice ⟨Nat.le_of_ble_eq_true rfl, Nat.le_of_ble_eq_true rfl⟩ trivial ⟨kc87, trivial⟩ (Nat.le_of_ble_eq_true rfl) rfl dX14_checkTags_101 ?_
          refine v_if_eq (tgt := 122) dX14_checkTags_104 r21 (by decide) (fun c22 => ?_) (fun c22 => ?_)
          · rw [if_pos c22] at h
            refine v_sub [1, 2] (L1 := [(0, vO 87), (1, vI x1)]) rfl ?_
            exact wj_X14_checkTags_122 h rx1 ih hE
          · rw [if_neg c22] at h
            refine v_aload_n dX14_checkTags_107 1 rfl rfl ?_
            refine v_aload_n dX14_checkTags_108 1 rfl rfl ?_
            refine v_getS (f := 17) (t := 95) cf14 oc87 rfl rfl rfl (by decide) q2387 dX14_checkTags_109 ?_
            refine v_aload_n dX14_checkTags_112 1 rfl rfl ?_
            refine v_getS (f := 33) (t := 108) cf14 oc87 rfl rfl rfl (by decide) q2403 dX14_checkTags_113 ?_
            refine v_iload_n dX14_checkTags_116 0 rfl rfl ?_
            obtain ⟨g23, h⟩ := gd_some h
            refine v_iald oc108 r12 g23.1 g23.2 dX14_checkTags_117 ?_
            obtain ⟨g24, h⟩ := gd_some h
            refine v_iald oc95 (gE_rg _ _ _) g24.1 g24.2 dX14_checkTags_118 ?_
            obtain ⟨s25, e26, h⟩ := bdv_some h
            have k27 := c_X14_first e26 (gE_rg _ _ _)
            refine v_callV (st := []) cf14 oc87 k27 (lw_V q3093 q3095 qs203 q311 q3096) rfl yk_X14_first ⟨Nat.le_of_ble_eq_true rfl, Nat.le_of_ble_eq_true rfl⟩ trivial ⟨kc87, trivial⟩ (Nat.le_of_ble_eq_true rfl) rfl dX14_checkTags_119 ?_
            refine v_sub [1, 2] (L1 := [(0, vO 87), (1, vI x1)]) rfl ?_
            exact wj_X14_checkTags_122 h rx1 ih hE

def f_X14_checkTags (s : vS) : Option (vS) :=
  lq_0 (l_X14_checkTags_2 FU 0 s) fun s1 =>
  bdv (f_X14_told 8 s1) fun s3 =>
  some s3
theorem yk_X14_checkTags : yOk yX14_checkTags 0 := ⟨by decide, by decide, by decide +kernel⟩
theorem c_X14_checkTags {s : vS} {out : vS} (h : f_X14_checkTags s = some out)   : VC yX14_checkTags cX14_checkTags 3 none 2 47 [vO 87] s none out [] := by
  unfold f_X14_checkTags at h
  refine VC.of RX14 (by decide) rfl (Nat.le_of_ble_eq_true rfl) ?_
  show VW cX14_checkTags (RX14, none, out, none, 2, 47, 3, []) (P0 []) s 0 [(0, vO 87)] []
  refine v_iconst dX14_checkTags_0 ?_
  refine v_istore_n (L1 := [(1, vI 0), (0, vO 87)]) dX14_checkTags_1 rfl (by decide) rfl ?_
  refine v_sub [1, 0] (L1 := [(0, vO 87), (1, vI 0)]) rfl ?_
  obtain ⟨s1, e2, h⟩ := lq_0_some h
  refine wl_X14_checkTags_2  FU 0 s _ e2 (rgl rfl) ?_
  unfold E_X14_checkTags_2
  intro s1' z_
  cases z_
  refine v_aload_n dX14_checkTags_157 0 rfl rfl ?_
  refine v_bipush dX14_checkTags_158 rfl ?_
  obtain ⟨s3, e4, h⟩ := bdv_some h
  have k5 := c_X14_told e4 (rgl rfl)
  refine v_callV (st := []) cf14 oc87 k5 (lw_V q3101 q3103 qs205 q311 q3104) rfl yk_X14_told ⟨Nat.le_of_ble_eq_true rfl, Nat.le_of_ble_eq_true rfl⟩ trivial ⟨kc87, trivial⟩ (Nat.le_of_ble_eq_true rfl) rfl dX14_checkTags_160 ?_
  cases h
  exact v_vret dX14_checkTags_163

def E_X14_gatherTags_19 (rv : Option vA) (σo : vS) (q : vS) : Prop := ∀ (s' : vS), q = s' → VW cX14_gatherTags (RX14, rv, σo, none, 1, 21, 6, []) (P0 []) s' 288 [] []
def E_X14_gatherTags_33 (x2 : Int) (rv : Option vA) (σo : vS) (q : Int × vS) : Prop := ∀ (x3' : Int) (s' : vS), q = (x3', s') → rg x3' → VW cX14_gatherTags (RX14, rv, σo, none, 1, 21, 6, []) (P0 []) s' 68 [(0, vO 87), (2, vI x2), (3, vI x3')] []
def l_X14_gatherTags_33 : Nat → Int → Int → vS → Option (Int × vS)
  | 0, _, _, _ => none
  | n + 1, x2, x3, s =>
    gd (inb x3 (gN s 100)) <|
    if (gE s 100 x3) = 0 then
      gd (inb x3 (gN s 97)) <|
      if (gE s 97 x3) = 17 then
        gd (inb x3 (gN s 101)) <|
        gd (inb (gE s 101 x3) (gN s 142)) <|
        vl (gE s 142 (gE s 101 x3)) fun y7 =>
        l_X14_gatherTags_33 n x2 y7 s
      else
        some (x3, s)
    else
      some (x3, s)
theorem wl_X14_gatherTags_33 {x2 : Int} {rv : Option vA} {σo : vS}  (rx2 : rg x2) : ∀ (n : Nat) (x3 : Int) (s : vS) (q : Int × vS), l_X14_gatherTags_33 n x2 x3 s = some q → rg x3 → E_X14_gatherTags_33 x2 rv σo q → VW cX14_gatherTags (RX14, rv, σo, none, 1, 21, 6, []) (P0 []) s 33 [(0, vO 87), (2, vI x2), (3, vI x3)] [] := by
  intro n
  induction n with
  | zero => intro x3 s q h; cases h
  | succ n ih =>
    intro x3 s q h rx3 hE
    unfold l_X14_gatherTags_33 at h
    refine v_aload_n dX14_gatherTags_33 0 rfl rfl ?_
    refine v_getS (f := 24) (t := 100) cf14 oc87 rfl rfl rfl (by decide) q2394 dX14_gatherTags_34 ?_
    refine v_iload_n dX14_gatherTags_37 2 rfl rfl ?_
    obtain ⟨g1, h⟩ := gd_some h
    refine v_iald oc100 rx3 g1.1 g1.2 dX14_gatherTags_38 ?_
    refine v_if_ne (tgt := 68) dX14_gatherTags_39 (gE_rg _ _ _) (by decide) (fun c2 => ?_) (fun c2 => ?_)
    · rw [if_neg c2] at h
      cases h
      exact hE _ _ rfl rx3
    · rw [if_pos c2] at h
      refine v_aload_n dX14_gatherTags_42 0 rfl rfl ?_
      refine v_getS (f := 21) (t := 97) cf14 oc87 rfl rfl rfl (by decide) q2391 dX14_gatherTags_43 ?_
      refine v_iload_n dX14_gatherTags_46 2 rfl rfl ?_
      obtain ⟨g3, h⟩ := gd_some h
      refine v_iald oc97 rx3 g3.1 g3.2 dX14_gatherTags_47 ?_
      refine v_bipush dX14_gatherTags_48 rfl ?_
      refine v_icmp_ne (tgt := 68) dX14_gatherTags_50 (gE_rg _ _ _) (rgl rfl) (by decide) (fun c4 => ?_) (fun c4 => ?_)
      · rw [if_neg c4] at h
        cases h
        exact hE _ _ rfl rx3
      · rw [if_pos c4] at h
        refine v_aload_n dX14_gatherTags_53 0 rfl rfl ?_
        refine v_getS (f := 74) (t := 142) cf14 oc87 rfl rfl rfl (by decide) q2444 dX14_gatherTags_54 ?_
        refine v_aload_n dX14_gatherTags_57 0 rfl rfl ?_
        refine v_getS (f := 25) (t := 101) cf14 oc87 rfl rfl rfl (by decide) q2395 dX14_gatherTags_58 ?_
        refine v_iload_n dX14_gatherTags_61 2 rfl rfl ?_
        obtain ⟨g5, h⟩ := gd_some h
        refine v_iald oc101 rx3 g5.1 g5.2 dX14_gatherTags_62 ?_
        obtain ⟨g6, h⟩ := gd_some h
        refine v_iald oc142 (gE_rg _ _ _) g6.1 g6.2 dX14_gatherTags_63 ?_
        obtain ⟨y7, e8, h⟩ := vl_some h
        rw [← e8]
        have r9 : rg y7 := by rw [e8]; exact gE_rg _ _ _
        refine v_istore_n (L1 := [(3, vI y7), (0, vO 87), (2, vI x2)]) dX14_gatherTags_64 rfl (by decide) rfl ?_
        refine v_goto (tgt := 33) dX14_gatherTags_65 (by decide) ?_
        refine v_sub [1, 2, 0] (L1 := [(0, vO 87), (2, vI x2), (3, vI y7)]) rfl ?_
        exact ih y7 s _ h r9 hE

def j_X14_gatherTags_230 (rec : Int → vS → Option (vS)) (x2 : Int) (z1 : Int) (z2 : Int) (s : vS) : Option (vS) :=
  gd (inb z1 (gN s 158)) <|
  stp (sE s 158 z1 z2) fun s2 =>
  stp (sI s2 87 99 (w32 ((gI s2 87 99) + 1))) fun s4 =>
  rec x2 s4
theorem wj_X14_gatherTags_230 {x2 : Int} {z1 : Int} {z2 : Int} {s : vS} {rv : Option vA} {σo : vS} {rec : Int → vS → Option (vS)} {q : vS} (h : j_X14_gatherTags_230 rec x2 z1 z2 s = some q)  (rx2 : rg x2) (rz1 : rg z1) (rz2 : rgL z2) (hrec : ∀ (y2 : Int) (s : vS) (q : vS), rec y2 s = some q → rg y2 → E_X14_gatherTags_19 rv σo q → VW cX14_gatherTags (RX14, rv, σo, none, 1, 21, 6, []) (P0 []) s 19 [(0, vO 87), (2, vI y2)] []) (hE : E_X14_gatherTags_19 rv σo q) : VW cX14_gatherTags (RX14, rv, σo, none, 1, 21, 6, []) (P0 []) s 230 [(0, vO 87), (2, vI x2)] [vL z2, vI z1, vO 158] := by
  unfold j_X14_gatherTags_230 at h
  obtain ⟨g1, h⟩ := gd_some h
  obtain ⟨s2, e3, h⟩ := stp_some h
  refine v_last oc158 rz1 g1.1 g1.2 dX14_gatherTags_230 ?_
  rw [← e3]
  refine v_aload_n dX14_gatherTags_231 0 rfl rfl ?_
  refine v_dupO dX14_gatherTags_232 ?_
  refine v_getI (f := 99) cf14 oc87 rfl (by decide) q2469 dX14_gatherTags_233 ?_
  refine v_iconst dX14_gatherTags_236 ?_
  refine v_iadd dX14_gatherTags_237 ?_
  obtain ⟨s4, e5, h⟩ := stp_some h
  refine v_putI (f := 99) cf14 oc87 rfl (by decide) q2469 dX14_gatherTags_238 rfl rfl ?_
  rw [← e5]
  refine v_goto (tgt := 285) dX14_gatherTags_241 (by decide) ?_
  refine v_goto (tgt := 19) dX14_gatherTags_285 (by decide) ?_
  exact hrec x2 s4 _ h rx2 hE

def j_X14_gatherTags_170 (rec : Int → vS → Option (vS)) (x2 : Int) (x3 : Int) (s : vS) : Option (vS) :=
  gd (inb x3 (gN s 100)) <|
  if (gE s 100 x3) ≤ 0 then
    gd (inb x3 (gN s 97)) <|
    gd (inb (gE s 97 x3) (gN s 90)) <|
    bd (f_X14_tagOf 0 (gE s 90 (gE s 97 x3)) s) fun r8 s5 =>
    gd (gN s5 158 = gN s 158) <|
    j_X14_gatherTags_230 rec x2 (gI s 87 99) r8 s5
  else
    gd (inb x3 (gN s 99)) <|
    gd (inb (gE s 99 x3) (gN s 109)) <|
    gd (inb x3 (gN s 99)) <|
    gd (inb (gE s 99 x3) (gN s 110)) <|
    bd (f_X14_tagOf (gE s 109 (gE s 99 x3)) (gE s 110 (gE s 99 x3)) s) fun r18 s15 =>
    gd (gN s15 158 = gN s 158) <|
    j_X14_gatherTags_230 rec x2 (gI s 87 99) r18 s15
theorem wj_X14_gatherTags_170 {x2 : Int} {x3 : Int} {s : vS} {rv : Option vA} {σo : vS} {rec : Int → vS → Option (vS)} {q : vS} (h : j_X14_gatherTags_170 rec x2 x3 s = some q)  (rx2 : rg x2) (rx3 : rg x3) (hrec : ∀ (y2 : Int) (s : vS) (q : vS), rec y2 s = some q → rg y2 → E_X14_gatherTags_19 rv σo q → VW cX14_gatherTags (RX14, rv, σo, none, 1, 21, 6, []) (P0 []) s 19 [(0, vO 87), (2, vI y2)] []) (hE : E_X14_gatherTags_19 rv σo q) : VW cX14_gatherTags (RX14, rv, σo, none, 1, 21, 6, []) (P0 []) s 170 [(0, vO 87), (2, vI x2), (3, vI x3)] [] := by
  unfold j_X14_gatherTags_170 at h
  refine v_aload_n dX14_gatherTags_170 0 rfl rfl ?_
  refine v_getS (f := 100) (t := 158) cf14 oc87 rfl rfl rfl (by decide) q2470 dX14_gatherTags_171 ?_
  refine v_aload_n dX14_gatherTags_174 0 rfl rfl ?_
  refine v_getI (f := 99) cf14 oc87 rfl (by decide) q2469 dX14_gatherTags_175 ?_
  refine v_aload_n dX14_gatherTags_178 0 rfl rfl ?_
  refine v_getS (f := 24) (t := 100) cf14 oc87 rfl rfl rfl (by decide) q2394 dX14_gatherTags_179 ?_
  refine v_iload_n dX14_gatherTags_182 2 rfl rfl ?_
  obtain ⟨g1, h⟩ := gd_some h
  refine v_iald oc100 rx3 g1.1 g1.2 dX14_gatherTags_183 ?_
  refine v_if_le (tgt := 215) dX14_gatherTags_184 (gE_rg _ _ _) (by decide) (fun c2 => ?_) (fun c2 => ?_)
  · rw [if_pos c2] at h
    refine v_iconst dX14_gatherTags_215 ?_
    refine v_aload_n dX14_gatherTags_216 0 rfl rfl ?_
    refine v_getS (f := 2) (t := 90) cf14 oc87 rfl rfl rfl (by decide) q2372 dX14_gatherTags_217 ?_
    refine v_aload_n dX14_gatherTags_220 0 rfl rfl ?_
    refine v_getS (f := 21) (t := 97) cf14 oc87 rfl rfl rfl (by decide) q2391 dX14_gatherTags_221 ?_
    refine v_iload_n dX14_gatherTags_224 2 rfl rfl ?_
    obtain ⟨g3, h⟩ := gd_some h
    refine v_iald oc97 rx3 g3.1 g3.2 dX14_gatherTags_225 ?_
    obtain ⟨g4, h⟩ := gd_some h
    refine v_iald oc90 (gE_rg _ _ _) g4.1 g4.2 dX14_gatherTags_226 ?_
    obtain ⟨r8, s5, e6, h⟩ := bd_some h
    have k7 := c_X14_tagOf e6 (rgl rfl) (gE_rg _ _ _)
    have r9 : rgL r8 := k7.1.2.2
    obtain ⟨g10, h⟩ := gd_some h
    refine v_callS (st := [vI (gI s 87 99), vO 158]) k7 (lw_S q3157 q3158 q311 q3159) yk_X14_tagOf ⟨Nat.le_of_ble_eq_true rfl, Nat.le_of_ble_eq_true rfl⟩ ⟨(kp_arr (by decide) g10), trivial⟩ ⟨kc87, trivial⟩ (Nat.le_of_ble_eq_true rfl) rfl dX14_gatherTags_227 ?_
    refine v_sub [0, 1] (L1 := [(0, vO 87), (2, vI x2)]) rfl ?_
    exact wj_X14_gatherTags_230 h rx2 (gI_rg _ _ _) r9 hrec hE
  · rw [if_neg c2] at h
    refine v_aload_n dX14_gatherTags_187 0 rfl rfl ?_
    refine v_getS (f := 34) (t := 109) cf14 oc87 rfl rfl rfl (by decide) q2404 dX14_gatherTags_188 ?_
    refine v_aload_n dX14_gatherTags_191 0 rfl rfl ?_
    refine v_getS (f := 23) (t := 99) cf14 oc87 rfl rfl rfl (by decide) q2393 dX14_gatherTags_192 ?_
    refine v_iload_n dX14_gatherTags_195 2 rfl rfl ?_
    obtain ⟨g11, h⟩ := gd_some h
    refine v_iald oc99 rx3 g11.1 g11.2 dX14_gatherTags_196 ?_
    obtain ⟨g12, h⟩ := gd_some h
    refine v_iald oc109 (gE_rg _ _ _) g12.1 g12.2 dX14_gatherTags_197 ?_
    refine v_aload_n dX14_gatherTags_198 0 rfl rfl ?_
    refine v_getS (f := 35) (t := 110) cf14 oc87 rfl rfl rfl (by decide) q2405 dX14_gatherTags_199 ?_
    refine v_aload_n dX14_gatherTags_202 0 rfl rfl ?_
    refine v_getS (f := 23) (t := 99) cf14 oc87 rfl rfl rfl (by decide) q2393 dX14_gatherTags_203 ?_
    refine v_iload_n dX14_gatherTags_206 2 rfl rfl ?_
    obtain ⟨g13, h⟩ := gd_some h
    refine v_iald oc99 rx3 g13.1 g13.2 dX14_gatherTags_207 ?_
    obtain ⟨g14, h⟩ := gd_some h
    refine v_iald oc110 (gE_rg _ _ _) g14.1 g14.2 dX14_gatherTags_208 ?_
    obtain ⟨r18, s15, e16, h⟩ := bd_some h
    have k17 := c_X14_tagOf e16 (gE_rg _ _ _) (gE_rg _ _ _)
    have r19 : rgL r18 := k17.1.2.2
    obtain ⟨g20, h⟩ := gd_some h
    refine v_callS (st := [vI (gI s 87 99), vO 158]) k17 (lw_S q3157 q3158 q311 q3159) yk_X14_tagOf ⟨Nat.le_of_ble_eq_true rfl, Nat.le_of_ble_eq_true rfl⟩ ⟨(kp_arr (by decide) g20), trivial⟩ ⟨kc87, trivial⟩ (Nat.le_of_ble_eq_true rfl) rfl dX14_gatherTags_209 ?_
    refine v_goto (tgt := 230) dX14_gatherTags_212 (by decide) ?_
    refine v_sub [0, 1] (L1 := [(0, vO 87), (2, vI x2)]) rfl ?_
    exact wj_X14_gatherTags_230 h rx2 (gI_rg _ _ _) r19 hrec hE

def E_X14_gatherTags_252 (rv : Option vA) (σo : vS) (q : Int × vS) : Prop := ∀ (x2' : Int) (s' : vS), q = (x2', s') → rg x2' → VW cX14_gatherTags (RX14, rv, σo, none, 1, 21, 6, []) (P0 []) s' 285 [(0, vO 87), (2, vI x2')] []
def l_X14_gatherTags_252 : Nat → Int → Int → vS → Option (Int × vS)
  | 0, _, _, _ => none
  | n + 1, x2, x4, s =>
    if x4 < 0 then
      some (x2, s)
    else
      gd (inb x4 (gN s 117)) <|
      gd (inb x2 (gN s 157)) <|
      stp (sE s 157 x2 (gE s 117 x4)) fun s4 =>
      vl (w32 (x2 + 1)) fun y6 =>
      gd (inb x4 (gN s4 120)) <|
      vl (gE s4 120 x4) fun y10 =>
      l_X14_gatherTags_252 n y6 y10 s4
theorem wl_X14_gatherTags_252 {rv : Option vA} {σo : vS}  : ∀ (n : Nat) (x2 : Int) (x4 : Int) (s : vS) (q : Int × vS), l_X14_gatherTags_252 n x2 x4 s = some q → rg x2 → rg x4 → E_X14_gatherTags_252 rv σo q → VW cX14_gatherTags (RX14, rv, σo, none, 1, 21, 6, []) (P0 []) s 252 [(0, vO 87), (2, vI x2), (4, vI x4)] [] := by
  intro n
  induction n with
  | zero => intro x2 x4 s q h; cases h
  | succ n ih =>
    intro x2 x4 s q h rx2 rx4 hE
    unfold l_X14_gatherTags_252 at h
    refine v_iload dX14_gatherTags_252 2 rfl ?_
    refine v_if_lt (tgt := 285) dX14_gatherTags_254 rx4 (by decide) (fun c1 => ?_) (fun c1 => ?_)
    · rw [if_pos c1] at h
      cases h
      refine v_sub [0, 1] (L1 := [(0, vO 87), (2, vI x2)]) rfl ?_
      exact hE _ _ rfl rx2
    · rw [if_neg c1] at h
      refine v_aload_n dX14_gatherTags_257 0 rfl rfl ?_
      refine v_getS (f := 98) (t := 157) cf14 oc87 rfl rfl rfl (by decide) q2468 dX14_gatherTags_258 ?_
      refine v_iload_n dX14_gatherTags_261 1 rfl rfl ?_
      refine v_aload_n dX14_gatherTags_262 0 rfl rfl ?_
      refine v_getS (f := 44) (t := 117) cf14 oc87 rfl rfl rfl (by decide) q2414 dX14_gatherTags_263 ?_
      refine v_iload dX14_gatherTags_266 2 rfl ?_
      obtain ⟨g2, h⟩ := gd_some h
      refine v_iald oc117 rx4 g2.1 g2.2 dX14_gatherTags_268 ?_
      obtain ⟨g3, h⟩ := gd_some h
      obtain ⟨s4, e5, h⟩ := stp_some h
      refine v_iast oc157 rx2 g3.1 g3.2 dX14_gatherTags_269 ?_
      rw [← e5]
      obtain ⟨y6, e7, h⟩ := vl_some h
      refine v_iinc (L1 := [(2, vI (w32 (x2 + 1))), (0, vO 87), (4, vI x4)]) dX14_gatherTags_270 1 rfl (by decide) rfl ?_
      rw [← e7]
      have r8 : rg y6 := by rw [e7]; exact w32_rg _
      refine v_aload_n dX14_gatherTags_273 1 rfl rfl ?_
      refine v_getS (f := 47) (t := 120) cf14 oc87 rfl rfl rfl (by decide) q2417 dX14_gatherTags_274 ?_
      refine v_iload dX14_gatherTags_277 2 rfl ?_
      obtain ⟨g9, h⟩ := gd_some h
      refine v_iald oc120 rx4 g9.1 g9.2 dX14_gatherTags_279 ?_
      obtain ⟨y10, e11, h⟩ := vl_some h
      rw [← e11]
      have r12 : rg y10 := by rw [e11]; exact gE_rg _ _ _
      refine v_istore (L1 := [(4, vI y10), (2, vI y6), (0, vO 87)]) dX14_gatherTags_280 (by decide) rfl ?_
      refine v_goto (tgt := 252) dX14_gatherTags_282 (by decide) ?_
      refine v_sub [2, 1, 0] (L1 := [(0, vO 87), (2, vI y6), (4, vI y10)]) rfl ?_
      exact ih y6 y10 s4 _ h r8 r12 hE

def j_X14_gatherTags_150 (rec : Int → vS → Option (vS)) (x2 : Int) (x3 : Int) (s : vS) : Option (vS) :=
  gd (inb x3 (gN s 100)) <|
  if 0 < (gE s 100 x3) then
    j_X14_gatherTags_170 rec x2 x3 s
  else
    gd (inb x3 (gN s 97)) <|
    if (gE s 97 x3) = 16 then
      gd (inb x3 (gN s 104)) <|
      vl (gE s 104 x3) fun y6 =>
      lq_1 (l_X14_gatherTags_252 FU x2 y6 s) fun y9 s10 =>
      rec y9 s10
    else
      j_X14_gatherTags_170 rec x2 x3 s
theorem wj_X14_gatherTags_150 {x2 : Int} {x3 : Int} {s : vS} {rv : Option vA} {σo : vS} {rec : Int → vS → Option (vS)} {q : vS} (h : j_X14_gatherTags_150 rec x2 x3 s = some q)  (rx2 : rg x2) (rx3 : rg x3) (hrec : ∀ (y2 : Int) (s : vS) (q : vS), rec y2 s = some q → rg y2 → E_X14_gatherTags_19 rv σo q → VW cX14_gatherTags (RX14, rv, σo, none, 1, 21, 6, []) (P0 []) s 19 [(0, vO 87), (2, vI y2)] []) (hE : E_X14_gatherTags_19 rv σo q) : VW cX14_gatherTags (RX14, rv, σo, none, 1, 21, 6, []) (P0 []) s 150 [(0, vO 87), (2, vI x2), (3, vI x3)] [] := by
  unfold j_X14_gatherTags_150 at h
  refine v_aload_n dX14_gatherTags_150 0 rfl rfl ?_
  refine v_getS (f := 24) (t := 100) cf14 oc87 rfl rfl rfl (by decide) q2394 dX14_gatherTags_151 ?_
  refine v_iload_n dX14_gatherTags_154 2 rfl rfl ?_
  obtain ⟨g1, h⟩ := gd_some h
  refine v_iald oc100 rx3 g1.1 g1.2 dX14_gatherTags_155 ?_
  refine v_if_gt (tgt := 170) dX14_gatherTags_156 (gE_rg _ _ _) (by decide) (fun c2 => ?_) (fun c2 => ?_)
  · rw [if_pos c2] at h
    exact wj_X14_gatherTags_170 h rx2 rx3 hrec hE
  · rw [if_neg c2] at h
    refine v_aload_n dX14_gatherTags_159 0 rfl rfl ?_
    refine v_getS (f := 21) (t := 97) cf14 oc87 rfl rfl rfl (by decide) q2391 dX14_gatherTags_160 ?_
    refine v_iload_n dX14_gatherTags_163 2 rfl rfl ?_
    obtain ⟨g3, h⟩ := gd_some h
    refine v_iald oc97 rx3 g3.1 g3.2 dX14_gatherTags_164 ?_
    refine v_bipush dX14_gatherTags_165 rfl ?_
    refine v_icmp_eq (tgt := 244) dX14_gatherTags_167 (gE_rg _ _ _) (rgl rfl) (by decide) (fun c4 => ?_) (fun c4 => ?_)
    · rw [if_pos c4] at h
      refine v_aload_n dX14_gatherTags_244 0 rfl rfl ?_
      refine v_getS (f := 28) (t := 104) cf14 oc87 rfl rfl rfl (by decide) q2398 dX14_gatherTags_245 ?_
      refine v_iload_n dX14_gatherTags_248 2 rfl rfl ?_
      obtain ⟨g5, h⟩ := gd_some h
      refine v_iald oc104 rx3 g5.1 g5.2 dX14_gatherTags_249 ?_
      obtain ⟨y6, e7, h⟩ := vl_some h
      rw [← e7]
      have r8 : rg y6 := by rw [e7]; exact gE_rg _ _ _
      refine v_istore (L1 := [(4, vI y6), (0, vO 87), (2, vI x2), (3, vI x3)]) dX14_gatherTags_250 (by decide) rfl ?_
      refine v_sub [1, 2, 0] (L1 := [(0, vO 87), (2, vI x2), (4, vI y6)]) rfl ?_
      obtain ⟨y9, s10, e11, h⟩ := lq_1_some h
      refine wl_X14_gatherTags_252  FU x2 y6 s _ e11 rx2 r8 ?_
      unfold E_X14_gatherTags_252
      intro y9' s10' z_ r12
      cases z_
      refine v_goto (tgt := 19) dX14_gatherTags_285 (by decide) ?_
      exact hrec y9 s10 _ h r12 hE
    · rw [if_neg c4] at h
      exact wj_X14_gatherTags_170 h rx2 rx3 hrec hE

def E_X14_gatherTags_117 (x2 : Int) (x3 : Int) (rv : Option vA) (σo : vS) (q : vS) : Prop := ∀ (s' : vS), q = s' → VW cX14_gatherTags (RX14, rv, σo, none, 1, 21, 6, []) (P0 [(27, 1)]) s' 144 [(0, vO 87), (2, vI x2), (3, vI x3), (4, vO 199)] []
def l_X14_gatherTags_117 : Nat → Int → Int → Int → vS → Option (vS)
  | 0, _, _, _, _ => none
  | n + 1, x2, x3, x5, s =>
    if (gI s 87 99) ≤ x5 then
      some s
    else
      gd (inb x5 (gN s 158)) <|
      gd (inb x5 (gN s 199)) <|
      stp (sE s 199 x5 (gEL s 158 x5)) fun s4 =>
      vl (w32 (x5 + 1)) fun y6 =>
      l_X14_gatherTags_117 n x2 x3 y6 s4
theorem wl_X14_gatherTags_117 {x2 : Int} {x3 : Int} {rv : Option vA} {σo : vS}  (rx2 : rg x2) (rx3 : rg x3) : ∀ (n : Nat) (x5 : Int) (s : vS) (q : vS), l_X14_gatherTags_117 n x2 x3 x5 s = some q → rg x5 → E_X14_gatherTags_117 x2 x3 rv σo q → VW cX14_gatherTags (RX14, rv, σo, none, 1, 21, 6, []) (P0 [(27, 1)]) s 117 [(0, vO 87), (2, vI x2), (3, vI x3), (4, vO 199), (5, vI x5)] [] := by
  intro n
  induction n with
  | zero => intro x5 s q h; cases h
  | succ n ih =>
    intro x5 s q h rx5 hE
    unfold l_X14_gatherTags_117 at h
    refine v_iload dX14_gatherTags_117 4 rfl ?_
    refine v_aload_n dX14_gatherTags_119 0 rfl rfl ?_
    refine v_getI (f := 99) cf14 oc87 rfl (by decide) q2469 dX14_gatherTags_120 ?_
    refine v_icmp_ge (tgt := 144) dX14_gatherTags_123 rx5 (gI_rg _ _ _) (by decide) (fun c1 => ?_) (fun c1 => ?_)
    · rw [if_pos c1] at h
      cases h
      refine v_sub [0, 1, 2, 3] (L1 := [(0, vO 87), (2, vI x2), (3, vI x3), (4, vO 199)]) rfl ?_
      exact hE _ rfl 
    · rw [if_neg c1] at h
      refine v_aload dX14_gatherTags_126 3 rfl ?_
      refine v_iload dX14_gatherTags_128 4 rfl ?_
      refine v_aload_n dX14_gatherTags_130 0 rfl rfl ?_
      refine v_getS (f := 100) (t := 158) cf14 oc87 rfl rfl rfl (by decide) q2470 dX14_gatherTags_131 ?_
      refine v_iload dX14_gatherTags_134 4 rfl ?_
      obtain ⟨g2, h⟩ := gd_some h
      refine v_lald oc158 rx5 g2.1 g2.2 dX14_gatherTags_136 ?_
      obtain ⟨g3, h⟩ := gd_some h
      obtain ⟨s4, e5, h⟩ := stp_some h
      refine v_last (ok_tmp (i := 0) rfl) rx5 g3.1 g3.2 dX14_gatherTags_137 ?_
      rw [← e5]
      obtain ⟨y6, e7, h⟩ := vl_some h
      refine v_iinc (L1 := [(5, vI (w32 (x5 + 1))), (0, vO 87), (2, vI x2), (3, vI x3), (4, vO 199)]) dX14_gatherTags_138 4 rfl (by decide) rfl ?_
      rw [← e7]
      have r8 : rg y6 := by rw [e7]; exact w32_rg _
      refine v_goto (tgt := 117) dX14_gatherTags_141 (by decide) ?_
      refine v_sub [1, 2, 3, 4, 0] (L1 := [(0, vO 87), (2, vI x2), (3, vI x3), (4, vO 199), (5, vI y6)]) rfl ?_
      exact ih y6 s4 _ h r8 hE

def j_X14_gatherTags_68 (rec : Int → vS → Option (vS)) (x2 : Int) (x3 : Int) (s : vS) : Option (vS) :=
  gd (inb x3 (gN s 156)) <|
  if (cmp64 (gEL s 156 x3) (gL s 87 97)) = 0 then
    rec x2 s
  else
    gd (inb x3 (gN s 156)) <|
    stp (sE s 156 x3 (gL s 87 97)) fun s4 =>
    if (gI s4 87 99) = (w32 (gN s4 158 : Int)) then
      gd (naG (w32 (2 * (gI s4 87 99)))) <|
      stp (sA s4 199 (Int.toNat (w32 (2 * (gI s4 87 99))), fun _ => 0)) fun s8 =>
      lq_0 (l_X14_gatherTags_117 FU x2 x3 0 s8) fun s10 =>
      gd (2 * gN s10 158 ≤ gN s10 199 ∧ 2 ≤ gN s10 199) <|
      stp (sw2 s10 158 199) fun s13 =>
      stp (rs s13) fun s15 =>
      j_X14_gatherTags_150 rec x2 x3 s15
    else
      j_X14_gatherTags_150 rec x2 x3 s4
theorem wj_X14_gatherTags_68 {x2 : Int} {x3 : Int} {s : vS} {rv : Option vA} {σo : vS} {rec : Int → vS → Option (vS)} {q : vS} (h : j_X14_gatherTags_68 rec x2 x3 s = some q)  (rx2 : rg x2) (rx3 : rg x3) (hrec : ∀ (y2 : Int) (s : vS) (q : vS), rec y2 s = some q → rg y2 → E_X14_gatherTags_19 rv σo q → VW cX14_gatherTags (RX14, rv, σo, none, 1, 21, 6, []) (P0 []) s 19 [(0, vO 87), (2, vI y2)] []) (hE : E_X14_gatherTags_19 rv σo q) : VW cX14_gatherTags (RX14, rv, σo, none, 1, 21, 6, []) (P0 []) s 68 [(0, vO 87), (2, vI x2), (3, vI x3)] [] := by
  unfold j_X14_gatherTags_68 at h
  refine v_aload_n dX14_gatherTags_68 0 rfl rfl ?_
  refine v_getS (f := 96) (t := 156) cf14 oc87 rfl rfl rfl (by decide) q2466 dX14_gatherTags_69 ?_
  refine v_iload_n dX14_gatherTags_72 2 rfl rfl ?_
  obtain ⟨g1, h⟩ := gd_some h
  refine v_lald oc156 rx3 g1.1 g1.2 dX14_gatherTags_73 ?_
  refine v_aload_n dX14_gatherTags_74 0 rfl rfl ?_
  refine v_getL (f := 97) cf14 oc87 rfl (by decide) q2467 dX14_gatherTags_75 ?_
  refine v_lcmp dX14_gatherTags_78 (gEL_rg _ _ _) (gL_rg _ _ _) ?_
  refine v_if_eq (tgt := 285) dX14_gatherTags_79 (cmp64_rg _ _) (by decide) (fun c2 => ?_) (fun c2 => ?_)
  · rw [if_pos c2] at h
    refine v_goto (tgt := 19) dX14_gatherTags_285 (by decide) ?_
    refine v_sub [0, 1] (L1 := [(0, vO 87), (2, vI x2)]) rfl ?_
    exact hrec x2 s _ h rx2 hE
  · rw [if_neg c2] at h
    refine v_aload_n dX14_gatherTags_82 0 rfl rfl ?_
    refine v_getS (f := 96) (t := 156) cf14 oc87 rfl rfl rfl (by decide) q2466 dX14_gatherTags_83 ?_
    refine v_iload_n dX14_gatherTags_86 2 rfl rfl ?_
    refine v_aload_n dX14_gatherTags_87 0 rfl rfl ?_
    refine v_getL (f := 97) cf14 oc87 rfl (by decide) q2467 dX14_gatherTags_88 ?_
    obtain ⟨g3, h⟩ := gd_some h
    obtain ⟨s4, e5, h⟩ := stp_some h
    refine v_last oc156 rx3 g3.1 g3.2 dX14_gatherTags_91 ?_
    rw [← e5]
    refine v_aload_n dX14_gatherTags_92 0 rfl rfl ?_
    refine v_getI (f := 99) cf14 oc87 rfl (by decide) q2469 dX14_gatherTags_93 ?_
    refine v_aload_n dX14_gatherTags_96 0 rfl rfl ?_
    refine v_getS (f := 100) (t := 158) cf14 oc87 rfl rfl rfl (by decide) q2470 dX14_gatherTags_97 ?_
    refine v_alen27 oc158 dX14_gatherTags_100 ?_
    refine v_icmp_ne (tgt := 150) dX14_gatherTags_101 (gI_rg _ _ _) (w32_rg _) (by decide) (fun c6 => ?_) (fun c6 => ?_)
    · rw [if_neg c6] at h
      exact wj_X14_gatherTags_150 h rx2 rx3 hrec hE
    · rw [if_pos c6] at h
      refine v_iconst dX14_gatherTags_104 ?_
      refine v_aload_n dX14_gatherTags_105 0 rfl rfl ?_
      refine v_getI (f := 99) cf14 oc87 rfl (by decide) q2469 dX14_gatherTags_106 ?_
      refine v_imul dX14_gatherTags_109 ?_
      obtain ⟨g7, h⟩ := gd_some h
      obtain ⟨s8, e9, h⟩ := stp_some h
      refine v_na27 (K := 199) (tk1 := [(27, 1)]) rfl rfl (by decide) (w32_rg _) g7 ⟨(by decide), trivial⟩ trivial q2860 dX14_gatherTags_110 ?_
      rw [← e9]
      refine v_astore (L1 := [(4, vO 199), (0, vO 87), (2, vI x2), (3, vI x3)]) dX14_gatherTags_112 (by decide) rfl ?_
      refine v_iconst dX14_gatherTags_114 ?_
      refine v_istore (L1 := [(5, vI 0), (4, vO 199), (0, vO 87), (2, vI x2), (3, vI x3)]) dX14_gatherTags_115 (by decide) rfl ?_
      refine v_sub [2, 3, 4, 1, 0] (L1 := [(0, vO 87), (2, vI x2), (3, vI x3), (4, vO 199), (5, vI 0)]) rfl ?_
      obtain ⟨s10, e11, h⟩ := lq_0_some h
      refine wl_X14_gatherTags_117 rx2 rx3 FU 0 s8 _ e11 (rgl rfl) ?_
      unfold E_X14_gatherTags_117
      intro s10' z_
      cases z_
      refine v_aload_n dX14_gatherTags_144 0 rfl rfl ?_
      refine v_aload dX14_gatherTags_145 3 rfl ?_
      obtain ⟨g12, h⟩ := gd_some h
      obtain ⟨s13, e14, h⟩ := stp_some h
      refine v_pa (i := 0) (K := 199) (t0 := 158) (f := 100) (tk1 := [(27, 0)]) (L1 := [(0, vO 87), (2, vI x2), (3, vI x3), (4, vO 158)]) (st1 := []) rfl rfl (by decide) cf14 (⟨by decide, rfl⟩ : okB 87 13) rfl (by decide) rfl rfl (by decide) rfl g12 q2470 dX14_gatherTags_147 rfl rfl rfl rfl ?_
      rw [← e14]
      refine v_sub [0, 1, 2] (L1 := [(0, vO 87), (2, vI x2), (3, vI x3)]) rfl ?_
      obtain ⟨s15, e16, h⟩ := stp_some h
      refine v_dr (by decide) (by decide) ⟨(by decide), trivial⟩ trivial ?_
      rw [← e16]
      exact wj_X14_gatherTags_150 h rx2 rx3 hrec hE

def l_X14_gatherTags_19 : Nat → Int → vS → Option (vS)
  | 0, _, _ => none
  | n + 1, x2, s =>
    if x2 ≤ 0 then
      some s
    else
      vl (w32 (x2 + (-1))) fun y2 =>
      gd (inb y2 (gN s 157)) <|
      vl (gE s 157 y2) fun y6 =>
      lq_1 (l_X14_gatherTags_33 FU y2 y6 s) fun y9 s10 =>
      j_X14_gatherTags_68 (l_X14_gatherTags_19 n) y2 y9 s10
theorem wl_X14_gatherTags_19 {rv : Option vA} {σo : vS}  : ∀ (n : Nat) (x2 : Int) (s : vS) (q : vS), l_X14_gatherTags_19 n x2 s = some q → rg x2 → E_X14_gatherTags_19 rv σo q → VW cX14_gatherTags (RX14, rv, σo, none, 1, 21, 6, []) (P0 []) s 19 [(0, vO 87), (2, vI x2)] [] := by
  intro n
  induction n with
  | zero => intro x2 s q h; cases h
  | succ n ih =>
    intro x2 s q h rx2 hE
    unfold l_X14_gatherTags_19 at h
    refine v_iload_n dX14_gatherTags_19 1 rfl rfl ?_
    refine v_if_le (tgt := 288) dX14_gatherTags_20 rx2 (by decide) (fun c1 => ?_) (fun c1 => ?_)
    · rw [if_pos c1] at h
      cases h
      refine v_sub [] (L1 := []) rfl ?_
      exact hE _ rfl 
    · rw [if_neg c1] at h
      obtain ⟨y2, e3, h⟩ := vl_some h
      refine v_iinc (L1 := [(2, vI (w32 (x2 + (-1)))), (0, vO 87)]) dX14_gatherTags_23 1 rfl (by decide) rfl ?_
      rw [← e3]
      have r4 : rg y2 := by rw [e3]; exact w32_rg _
      refine v_aload_n dX14_gatherTags_26 1 rfl rfl ?_
      refine v_getS (f := 98) (t := 157) cf14 oc87 rfl rfl rfl (by decide) q2468 dX14_gatherTags_27 ?_
      refine v_iload_n dX14_gatherTags_30 0 rfl rfl ?_
      obtain ⟨g5, h⟩ := gd_some h
      refine v_iald oc157 r4 g5.1 g5.2 dX14_gatherTags_31 ?_
      obtain ⟨y6, e7, h⟩ := vl_some h
      rw [← e7]
      have r8 : rg y6 := by rw [e7]; exact gE_rg _ _ _
      refine v_istore_n (L1 := [(3, vI y6), (2, vI y2), (0, vO 87)]) dX14_gatherTags_32 rfl (by decide) rfl ?_
      refine v_sub [2, 1, 0] (L1 := [(0, vO 87), (2, vI y2), (3, vI y6)]) rfl ?_
      obtain ⟨y9, s10, e11, h⟩ := lq_1_some h
      refine wl_X14_gatherTags_33 r4 FU y6 s _ e11 r8 ?_
      unfold E_X14_gatherTags_33
      intro y9' s10' z_ r12
      cases z_
      exact wj_X14_gatherTags_68 h r4 r12 ih hE

def f_X14_gatherTags (x1 : Int) (s : vS) : Option (vS) :=
  stp (sI s 87 97 (w64 ((gL s 87 97) + 1))) fun s1 =>
  gd (inb 0 (gN s1 157)) <|
  stp (sE s1 157 0 x1) fun s4 =>
  lq_0 (l_X14_gatherTags_19 FU 1 s4) fun s6 =>
  some s6
theorem yk_X14_gatherTags : yOk yX14_gatherTags 1 := ⟨by decide, by decide, by decide +kernel⟩
theorem c_X14_gatherTags {x1 : Int} {s : vS} {out : vS} (h : f_X14_gatherTags x1 s = some out)  (rx1 : rg x1) : VC yX14_gatherTags cX14_gatherTags 6 none 1 21 [vO 87, vI x1] s none out [] := by
  unfold f_X14_gatherTags at h
  refine VC.of RX14 (by decide) rfl (Nat.le_of_ble_eq_true rfl) ?_
  show VW cX14_gatherTags (RX14, none, out, none, 1, 21, 6, []) (P0 []) s 0 [(0, vO 87), (1, vI x1)] []
  refine v_aload_n dX14_gatherTags_0 0 rfl rfl ?_
  refine v_dupO dX14_gatherTags_1 ?_
  refine v_getL (f := 97) cf14 oc87 rfl (by decide) q2467 dX14_gatherTags_2 ?_
  refine v_lconst (n := 1) dX14_gatherTags_5 rfl ?_
  refine v_ladd dX14_gatherTags_6 ?_
  obtain ⟨s1, e2, h⟩ := stp_some h
  refine v_putL (f := 97) cf14 oc87 rfl (by decide) q2467 dX14_gatherTags_7 rfl rfl ?_
  rw [← e2]
  refine v_iconst dX14_gatherTags_10 ?_
  refine v_istore_n (L1 := [(2, vI 1), (0, vO 87), (1, vI x1)]) dX14_gatherTags_11 rfl (by decide) rfl ?_
  refine v_aload_n dX14_gatherTags_12 1 rfl rfl ?_
  refine v_getS (f := 98) (t := 157) cf14 oc87 rfl rfl rfl (by decide) q2468 dX14_gatherTags_13 ?_
  refine v_iconst dX14_gatherTags_16 ?_
  refine v_iload_n dX14_gatherTags_17 2 rfl rfl ?_
  obtain ⟨g3, h⟩ := gd_some h
  obtain ⟨s4, e5, h⟩ := stp_some h
  refine v_iast oc157 (rgl rfl) g3.1 g3.2 dX14_gatherTags_18 ?_
  rw [← e5]
  refine v_sub [1, 0] (L1 := [(0, vO 87), (2, vI 1)]) rfl ?_
  obtain ⟨s6, e7, h⟩ := lq_0_some h
  refine wl_X14_gatherTags_19  FU 1 s4 _ e7 (rgl rfl) ?_
  unfold E_X14_gatherTags_19
  intro s6' z_
  cases z_
  cases h
  exact v_vret dX14_gatherTags_288

def E_X14_isAgain_2 (rv : Option vA) (σo : vS) (q : (vS) ⊕ (Int × vS)) : Prop := (∀ (s' : vS), q = .inl s' → VW cX14_isAgain (RX14, rv, σo, (some .boolean), 0, 0, 4, []) (P0 []) s' 47 [] []) ∧ (∀ (v : Int) (s' : vS), q = .inr (v, s') → rv = some (vI v) ∧ σo = s')
def E_X14_isAgain_12 (x1 : Int) (x2 : Int) (rv : Option vA) (σo : vS) (q : (vS) ⊕ (Int × vS)) : Prop := (∀ (s' : vS), q = .inl s' → VW cX14_isAgain (RX14, rv, σo, (some .boolean), 0, 0, 4, []) (P0 []) s' 41 [(0, vO 87), (1, vI x1), (2, vI x2)] []) ∧ (∀ (v : Int) (s' : vS), q = .inr (v, s') → rv = some (vI v) ∧ σo = s')
def l_X14_isAgain_12 : Nat → Int → Int → Int → vS → Option ((vS) ⊕ (Int × vS))
  | 0, _, _, _, _ => none
  | n + 1, x1, x2, x3, s =>
    if x1 ≤ x3 then
      some (.inl s)
    else
      gd (inb x2 (gN s 158)) <|
      gd (inb x3 (gN s 158)) <|
      if (cmp64 (gEL s 158 x2) (gEL s 158 x3)) = 0 then
        some (.inr (1, s))
      else
        vl (w32 (x3 + 1)) fun y5 =>
        l_X14_isAgain_12 n x1 x2 y5 s
theorem wl_X14_isAgain_12 {x1 : Int} {x2 : Int} {rv : Option vA} {σo : vS}  (rx1 : rg x1) (rx2 : rg x2) : ∀ (n : Nat) (x3 : Int) (s : vS) (q : (vS) ⊕ (Int × vS)), l_X14_isAgain_12 n x1 x2 x3 s = some q → rg x3 → E_X14_isAgain_12 x1 x2 rv σo q → VW cX14_isAgain (RX14, rv, σo, (some .boolean), 0, 0, 4, []) (P0 []) s 12 [(0, vO 87), (1, vI x1), (2, vI x2), (3, vI x3)] [] := by
  intro n
  induction n with
  | zero => intro x3 s q h; cases h
  | succ n ih =>
    intro x3 s q h rx3 hE
    unfold l_X14_isAgain_12 at h
    refine v_iload_n dX14_isAgain_12 3 rfl rfl ?_
    refine v_iload_n dX14_isAgain_13 1 rfl rfl ?_
    refine v_icmp_ge (tgt := 41) dX14_isAgain_14 rx3 rx1 (by decide) (fun c1 => ?_) (fun c1 => ?_)
    · rw [if_pos c1] at h
      cases h
      refine v_sub [0, 1, 2] (L1 := [(0, vO 87), (1, vI x1), (2, vI x2)]) rfl ?_
      exact hE.1 _ rfl 
    · rw [if_neg c1] at h
      refine v_aload_n dX14_isAgain_17 0 rfl rfl ?_
      refine v_getS (f := 100) (t := 158) cf14 oc87 rfl rfl rfl (by decide) q2470 dX14_isAgain_18 ?_
      refine v_iload_n dX14_isAgain_21 2 rfl rfl ?_
      obtain ⟨g2, h⟩ := gd_some h
      refine v_lald oc158 rx2 g2.1 g2.2 dX14_isAgain_22 ?_
      refine v_aload_n dX14_isAgain_23 0 rfl rfl ?_
      refine v_getS (f := 100) (t := 158) cf14 oc87 rfl rfl rfl (by decide) q2470 dX14_isAgain_24 ?_
      refine v_iload_n dX14_isAgain_27 3 rfl rfl ?_
      obtain ⟨g3, h⟩ := gd_some h
      refine v_lald oc158 rx3 g3.1 g3.2 dX14_isAgain_28 ?_
      refine v_lcmp dX14_isAgain_29 (gEL_rg _ _ _) (gEL_rg _ _ _) ?_
      refine v_if_ne (tgt := 35) dX14_isAgain_30 (cmp64_rg _ _) (by decide) (fun c4 => ?_) (fun c4 => ?_)
      · rw [if_neg c4] at h
        obtain ⟨y5, e6, h⟩ := vl_some h
        refine v_iinc (L1 := [(3, vI (w32 (x3 + 1))), (0, vO 87), (1, vI x1), (2, vI x2)]) dX14_isAgain_35 3 rfl (by decide) rfl ?_
        rw [← e6]
        have r7 : rg y5 := by rw [e6]; exact w32_rg _
        refine v_goto (tgt := 12) dX14_isAgain_38 (by decide) ?_
        refine v_sub [1, 2, 3, 0] (L1 := [(0, vO 87), (1, vI x1), (2, vI x2), (3, vI y5)]) rfl ?_
        exact ih y5 s _ h r7 hE
      · rw [if_pos c4] at h
        refine v_iconst dX14_isAgain_33 ?_
        cases h
        obtain ⟨z1, z2⟩ := hE.2 _ _ rfl
        subst z1
        subst z2
        exact v_zret (Or.inr rfl) dX14_isAgain_34

def l_X14_isAgain_2 : Nat → Int → Int → vS → Option ((vS) ⊕ (Int × vS))
  | 0, _, _, _ => none
  | n + 1, x1, x2, s =>
    if (gI s 87 99) ≤ x2 then
      some (.inl s)
    else
      lqs_0 (l_X14_isAgain_12 FU x1 x2 0 s) (fun s2 =>
        vl (w32 (x2 + 1)) fun y4 =>
        l_X14_isAgain_2 n x1 y4 s2)
        (fun q => some (.inr q))
theorem wl_X14_isAgain_2 {x1 : Int} {rv : Option vA} {σo : vS}  (rx1 : rg x1) : ∀ (n : Nat) (x2 : Int) (s : vS) (q : (vS) ⊕ (Int × vS)), l_X14_isAgain_2 n x1 x2 s = some q → rg x2 → E_X14_isAgain_2 rv σo q → VW cX14_isAgain (RX14, rv, σo, (some .boolean), 0, 0, 4, []) (P0 []) s 2 [(0, vO 87), (1, vI x1), (2, vI x2)] [] := by
  intro n
  induction n with
  | zero => intro x2 s q h; cases h
  | succ n ih =>
    intro x2 s q h rx2 hE
    unfold l_X14_isAgain_2 at h
    refine v_iload_n dX14_isAgain_2 2 rfl rfl ?_
    refine v_aload_n dX14_isAgain_3 0 rfl rfl ?_
    refine v_getI (f := 99) cf14 oc87 rfl (by decide) q2469 dX14_isAgain_4 ?_
    refine v_icmp_ge (tgt := 47) dX14_isAgain_7 rx2 (gI_rg _ _ _) (by decide) (fun c1 => ?_) (fun c1 => ?_)
    · rw [if_pos c1] at h
      cases h
      refine v_sub [] (L1 := []) rfl ?_
      exact hE.1 _ rfl 
    · rw [if_neg c1] at h
      refine v_iconst dX14_isAgain_10 ?_
      refine v_istore_n (L1 := [(3, vI 0), (0, vO 87), (1, vI x1), (2, vI x2)]) dX14_isAgain_11 rfl (by decide) rfl ?_
      refine v_sub [1, 2, 3, 0] (L1 := [(0, vO 87), (1, vI x1), (2, vI x2), (3, vI 0)]) rfl ?_
      rcases lqs_0_some h with ⟨s2, e3, h⟩ | ⟨q9, e3, h⟩
      · refine wl_X14_isAgain_12 rx1 rx2 FU 0 s _ e3 (rgl rfl) ?_
        unfold E_X14_isAgain_12
        refine ⟨?_, fun v9 s9 z_ => (by cases z_)⟩
        intro s2' z_
        cases z_
        obtain ⟨y4, e5, h⟩ := vl_some h
        refine v_iinc (L1 := [(2, vI (w32 (x2 + 1))), (0, vO 87), (1, vI x1)]) dX14_isAgain_41 2 rfl (by decide) rfl ?_
        rw [← e5]
        have r6 : rg y4 := by rw [e5]; exact w32_rg _
        refine v_goto (tgt := 2) dX14_isAgain_44 (by decide) ?_
        refine v_sub [1, 2, 0] (L1 := [(0, vO 87), (1, vI x1), (2, vI y4)]) rfl ?_
        exact ih y4 s2 _ h r6 hE
      · cases h
        refine wl_X14_isAgain_12 rx1 rx2 FU 0 s _ e3 (rgl rfl) ?_
        unfold E_X14_isAgain_12
        refine ⟨fun _ z_ => (by cases z_), ?_⟩
        intro v9 s9 z_
        cases z_
        exact hE.2 _ _ rfl

def f_X14_isAgain (x1 : Int) (s : vS) : Option (Int × vS) :=
  lqs_0 (l_X14_isAgain_2 FU x1 x1 s) (fun s1 =>
    some (0, s1))
    (fun q => some q)
theorem yk_X14_isAgain : yOk yX14_isAgain 1 := ⟨by decide, by decide, by decide +kernel⟩
theorem c_X14_isAgain {x1 : Int} {s : vS} {out : Int × vS} (h : f_X14_isAgain x1 s = some out)  (rx1 : rg x1) : VC yX14_isAgain cX14_isAgain 4 (some .boolean) 0 0 [vO 87, vI x1] s (some (vI out.1)) out.2 [] := by
  unfold f_X14_isAgain at h
  refine VC.of RX14 (by decide) rfl (Nat.le_of_ble_eq_true rfl) ?_
  show VW cX14_isAgain (RX14, (some (vI out.1)), out.2, (some .boolean), 0, 0, 4, []) (P0 []) s 0 [(0, vO 87), (1, vI x1)] []
  refine v_iload_n dX14_isAgain_0 1 rfl rfl ?_
  refine v_istore_n (L1 := [(2, vI x1), (0, vO 87), (1, vI x1)]) dX14_isAgain_1 rfl (by decide) rfl ?_
  refine v_sub [1, 2, 0] (L1 := [(0, vO 87), (1, vI x1), (2, vI x1)]) rfl ?_
  rcases lqs_0_some h with ⟨s1, e2, h⟩ | ⟨q9, e2, h⟩
  · refine wl_X14_isAgain_2 rx1 FU x1 s _ e2 rx1 ?_
    unfold E_X14_isAgain_2
    refine ⟨?_, fun v9 s9 z_ => (by cases z_)⟩
    intro s1' z_
    cases z_
    refine v_iconst dX14_isAgain_47 ?_
    cases h
    exact v_zret (Or.inl rfl) dX14_isAgain_48
  · cases h
    refine wl_X14_isAgain_2 rx1 FU x1 s _ e2 rx1 ?_
    unfold E_X14_isAgain_2
    refine ⟨fun _ z_ => (by cases z_), ?_⟩
    intro v9 s9 z_
    cases z_
    exact ⟨rfl, rfl⟩

def E_X14_checkRows_2 (rv : Option vA) (σo : vS) (q : vS) : Prop := ∀ (s' : vS), q = s' → VW cX14_checkRows (RX14, rv, σo, none, 2, 46, 6, []) (P0 []) s' 132 [(0, vO 87)] []
def E_X14_checkRows_42 (x1 : Int) (rv : Option vA) (σo : vS) (q : vS) : Prop := ∀ (s' : vS), q = s' → VW cX14_checkRows (RX14, rv, σo, none, 2, 46, 6, []) (P0 []) s' 126 [(0, vO 87), (1, vI x1)] []
def j_X14_checkRows_95 (rec : Int → Int → Int → Int → vS → Option (vS)) (x1 : Int) (x2 : Int) (x3 : Int) (x4 : Int) (s : vS) : Option (vS) :=
  if x2 = 0 then
    gd (inb x4 (gN s 120)) <|
    vl (gE s 120 x4) fun y3 =>
    rec x1 x2 x3 y3 s
  else
    gd (inb x4 (gN s 118)) <|
    if (gE s 118 x4) = 0 then
      stp (sI s 87 99 0) fun s12 =>
      gd (inb x4 (gN s12 120)) <|
      vl (gE s12 120 x4) fun y15 =>
      rec x1 x2 x3 y15 s12
    else
      gd (inb x4 (gN s 120)) <|
      vl (gE s 120 x4) fun y9 =>
      rec x1 x2 x3 y9 s
theorem wj_X14_checkRows_95 {x1 : Int} {x2 : Int} {x3 : Int} {x4 : Int} {s : vS} {rv : Option vA} {σo : vS} {rec : Int → Int → Int → Int → vS → Option (vS)} {q : vS} (h : j_X14_checkRows_95 rec x1 x2 x3 x4 s = some q)  (rx1 : rg x1) (rx2 : rg x2) (rx3 : rg x3) (rx4 : rg x4) (hrec : ∀ (y3 : Int) (y4 : Int) (s : vS) (q : vS), rec x1 x2 y3 y4 s = some q → rg y3 → rg y4 → E_X14_checkRows_42 x1 rv σo q → VW cX14_checkRows (RX14, rv, σo, none, 2, 46, 6, []) (P0 []) s 42 [(0, vO 87), (1, vI x1), (2, vI x2), (3, vI y3), (4, vI y4)] []) (hE : E_X14_checkRows_42 x1 rv σo q) : VW cX14_checkRows (RX14, rv, σo, none, 2, 46, 6, []) (P0 []) s 95 [(0, vO 87), (1, vI x1), (2, vI x2), (3, vI x3), (4, vI x4)] [] := by
  unfold j_X14_checkRows_95 at h
  refine v_iload_n dX14_checkRows_95 2 rfl rfl ?_
  refine v_if_eq (tgt := 114) dX14_checkRows_96 rx2 (by decide) (fun c1 => ?_) (fun c1 => ?_)
  · rw [if_pos c1] at h
    refine v_aload_n dX14_checkRows_114 0 rfl rfl ?_
    refine v_getS (f := 47) (t := 120) cf14 oc87 rfl rfl rfl (by decide) q2417 dX14_checkRows_115 ?_
    refine v_iload dX14_checkRows_118 4 rfl ?_
    obtain ⟨g2, h⟩ := gd_some h
    refine v_iald oc120 rx4 g2.1 g2.2 dX14_checkRows_120 ?_
    obtain ⟨y3, e4, h⟩ := vl_some h
    rw [← e4]
    have r5 : rg y3 := by rw [e4]; exact gE_rg _ _ _
    refine v_istore (L1 := [(4, vI y3), (0, vO 87), (1, vI x1), (2, vI x2), (3, vI x3)]) dX14_checkRows_121 (by decide) rfl ?_
    refine v_goto (tgt := 42) dX14_checkRows_123 (by decide) ?_
    refine v_sub [1, 2, 3, 4, 0] (L1 := [(0, vO 87), (1, vI x1), (2, vI x2), (3, vI x3), (4, vI y3)]) rfl ?_
    exact hrec x3 y3 s _ h rx3 r5 hE
  · rw [if_neg c1] at h
    refine v_aload_n dX14_checkRows_99 0 rfl rfl ?_
    refine v_getS (f := 45) (t := 118) cf14 oc87 rfl rfl rfl (by decide) q2415 dX14_checkRows_100 ?_
    refine v_iload dX14_checkRows_103 4 rfl ?_
    obtain ⟨g6, h⟩ := gd_some h
    refine v_iald oc118 rx4 g6.1 g6.2 dX14_checkRows_105 ?_
    refine v_if_ne (tgt := 114) dX14_checkRows_106 (gE_rg _ _ _) (by decide) (fun c7 => ?_) (fun c7 => ?_)
    · rw [if_neg c7] at h
      refine v_aload_n dX14_checkRows_114 0 rfl rfl ?_
      refine v_getS (f := 47) (t := 120) cf14 oc87 rfl rfl rfl (by decide) q2417 dX14_checkRows_115 ?_
      refine v_iload dX14_checkRows_118 4 rfl ?_
      obtain ⟨g8, h⟩ := gd_some h
      refine v_iald oc120 rx4 g8.1 g8.2 dX14_checkRows_120 ?_
      obtain ⟨y9, e10, h⟩ := vl_some h
      rw [← e10]
      have r11 : rg y9 := by rw [e10]; exact gE_rg _ _ _
      refine v_istore (L1 := [(4, vI y9), (0, vO 87), (1, vI x1), (2, vI x2), (3, vI x3)]) dX14_checkRows_121 (by decide) rfl ?_
      refine v_goto (tgt := 42) dX14_checkRows_123 (by decide) ?_
      refine v_sub [1, 2, 3, 4, 0] (L1 := [(0, vO 87), (1, vI x1), (2, vI x2), (3, vI x3), (4, vI y9)]) rfl ?_
      exact hrec x3 y9 s _ h rx3 r11 hE
    · rw [if_pos c7] at h
      refine v_aload_n dX14_checkRows_109 0 rfl rfl ?_
      refine v_iconst dX14_checkRows_110 ?_
      obtain ⟨s12, e13, h⟩ := stp_some h
      refine v_putI (f := 99) cf14 oc87 rfl (by decide) q2469 dX14_checkRows_111 rfl rfl ?_
      rw [← e13]
      refine v_aload_n dX14_checkRows_114 0 rfl rfl ?_
      refine v_getS (f := 47) (t := 120) cf14 oc87 rfl rfl rfl (by decide) q2417 dX14_checkRows_115 ?_
      refine v_iload dX14_checkRows_118 4 rfl ?_
      obtain ⟨g14, h⟩ := gd_some h
      refine v_iald oc120 rx4 g14.1 g14.2 dX14_checkRows_120 ?_
      obtain ⟨y15, e16, h⟩ := vl_some h
      rw [← e16]
      have r17 : rg y15 := by rw [e16]; exact gE_rg _ _ _
      refine v_istore (L1 := [(4, vI y15), (0, vO 87), (1, vI x1), (2, vI x2), (3, vI x3)]) dX14_checkRows_121 (by decide) rfl ?_
      refine v_goto (tgt := 42) dX14_checkRows_123 (by decide) ?_
      refine v_sub [1, 2, 3, 4, 0] (L1 := [(0, vO 87), (1, vI x1), (2, vI x2), (3, vI x3), (4, vI y15)]) rfl ?_
      exact hrec x3 y15 s12 _ h rx3 r17 hE

def l_X14_checkRows_42 : Nat → Int → Int → Int → Int → vS → Option (vS)
  | 0, _, _, _, _, _ => none
  | n + 1, x1, x2, x3, x4, s =>
    if x4 < 0 then
      some s
    else
      if x3 = 0 then
        vl (gI s 87 99) fun y3 =>
        gd (inb x4 (gN s 117)) <|
        bdv (f_X14_gatherTags (gE s 117 x4) s) fun s7 =>
        bd (f_X14_isAgain y3 s7) fun r13 s10 =>
        if r13 = 0 then
          j_X14_checkRows_95 (l_X14_checkRows_42 n) x1 x2 r13 x4 s10
        else
          gd (inb x4 (gN s10 116)) <|
          gd (inb (gE s10 116 x4) (gN s10 95)) <|
          bdv (f_X14_first (gE s10 95 (gE s10 116 x4)) s10) fun s18 =>
          j_X14_checkRows_95 (l_X14_checkRows_42 n) x1 x2 r13 x4 s18
      else
        some s
theorem wl_X14_checkRows_42 {x1 : Int} {x2 : Int} {rv : Option vA} {σo : vS}  (rx1 : rg x1) (rx2 : rg x2) : ∀ (n : Nat) (x3 : Int) (x4 : Int) (s : vS) (q : vS), l_X14_checkRows_42 n x1 x2 x3 x4 s = some q → rg x3 → rg x4 → E_X14_checkRows_42 x1 rv σo q → VW cX14_checkRows (RX14, rv, σo, none, 2, 46, 6, []) (P0 []) s 42 [(0, vO 87), (1, vI x1), (2, vI x2), (3, vI x3), (4, vI x4)] [] := by
  intro n
  induction n with
  | zero => intro x3 x4 s q h; cases h
  | succ n ih =>
    intro x3 x4 s q h rx3 rx4 hE
    unfold l_X14_checkRows_42 at h
    refine v_iload dX14_checkRows_42 4 rfl ?_
    refine v_if_lt (tgt := 126) dX14_checkRows_44 rx4 (by decide) (fun c1 => ?_) (fun c1 => ?_)
    · rw [if_pos c1] at h
      cases h
      refine v_sub [0, 1] (L1 := [(0, vO 87), (1, vI x1)]) rfl ?_
      exact hE _ rfl 
    · rw [if_neg c1] at h
      refine v_iload_n dX14_checkRows_47 3 rfl rfl ?_
      refine v_if_ne (tgt := 126) dX14_checkRows_48 rx3 (by decide) (fun c2 => ?_) (fun c2 => ?_)
      · rw [if_neg c2] at h
        cases h
        refine v_sub [0, 1] (L1 := [(0, vO 87), (1, vI x1)]) rfl ?_
        exact hE _ rfl 
      · rw [if_pos c2] at h
        refine v_aload_n dX14_checkRows_51 0 rfl rfl ?_
        refine v_getI (f := 99) cf14 oc87 rfl (by decide) q2469 dX14_checkRows_52 ?_
        obtain ⟨y3, e4, h⟩ := vl_some h
        rw [← e4]
        have r5 : rg y3 := by rw [e4]; exact gI_rg _ _ _
        refine v_istore (L1 := [(5, vI y3), (0, vO 87), (1, vI x1), (2, vI x2), (3, vI x3), (4, vI x4)]) dX14_checkRows_55 (by decide) rfl ?_
        refine v_aload_n dX14_checkRows_57 1 rfl rfl ?_
        refine v_aload_n dX14_checkRows_58 1 rfl rfl ?_
        refine v_getS (f := 44) (t := 117) cf14 oc87 rfl rfl rfl (by decide) q2414 dX14_checkRows_59 ?_
        refine v_iload dX14_checkRows_62 5 rfl ?_
        obtain ⟨g6, h⟩ := gd_some h
        refine v_iald oc117 rx4 g6.1 g6.2 dX14_checkRows_64 ?_
        obtain ⟨s7, e8, h⟩ := bdv_some h
        have k9 := c_X14_gatherTags e8 (gE_rg _ _ _)
        refine v_callV (st := []) cf14 oc87 k9 (lw_V q3164 q3166 qs220 q311 q3167) rfl yk_X14_gatherTags ⟨Nat.le_of_ble_eq_true rfl, Nat.le_of_ble_eq_true rfl⟩ trivial ⟨kc87, trivial⟩ (Nat.le_of_ble_eq_true rfl) rfl dX14_checkRows_65 ?_
        refine v_aload_n dX14_checkRows_68 1 rfl rfl ?_
        refine v_iload dX14_checkRows_69 0 rfl ?_
        obtain ⟨r13, s10, e11, h⟩ := bd_some h
        have k12 := c_X14_isAgain e11 r5
        have r14 : rg r13 := k12.1.2.2
        refine v_callV (st := []) cf14 oc87 k12 (lw_V q3168 q3170 qs221 q311 q3171) rfl yk_X14_isAgain ⟨Nat.le_of_ble_eq_true rfl, Nat.le_of_ble_eq_true rfl⟩ trivial ⟨kc87, trivial⟩ (Nat.le_of_ble_eq_true rfl) rfl dX14_checkRows_71 ?_
        refine v_istore_n (L1 := [(3, vI r13), (5, vI y3), (0, vO 87), (1, vI x1), (2, vI x2), (4, vI x4)]) dX14_checkRows_74 rfl (by decide) rfl ?_
        refine v_iload_n dX14_checkRows_75 0 rfl rfl ?_
        refine v_if_eq (tgt := 95) dX14_checkRows_76 r14 (by decide) (fun c15 => ?_) (fun c15 => ?_)
        · rw [if_pos c15] at h
          refine v_sub [2, 3, 4, 0, 5] (L1 := [(0, vO 87), (1, vI x1), (2, vI x2), (3, vI r13), (4, vI x4)]) rfl ?_
          exact wj_X14_checkRows_95 h rx1 rx2 r14 rx4 ih hE
        · rw [if_neg c15] at h
          refine v_aload_n dX14_checkRows_79 2 rfl rfl ?_
          refine v_aload_n dX14_checkRows_80 2 rfl rfl ?_
          refine v_getS (f := 17) (t := 95) cf14 oc87 rfl rfl rfl (by decide) q2387 dX14_checkRows_81 ?_
          refine v_aload_n dX14_checkRows_84 2 rfl rfl ?_
          refine v_getS (f := 43) (t := 116) cf14 oc87 rfl rfl rfl (by decide) q2413 dX14_checkRows_85 ?_
          refine v_iload dX14_checkRows_88 5 rfl ?_
          obtain ⟨g16, h⟩ := gd_some h
          refine v_iald oc116 rx4 g16.1 g16.2 dX14_checkRows_90 ?_
          obtain ⟨g17, h⟩ := gd_some h
          refine v_iald oc95 (gE_rg _ _ _) g17.1 g17.2 dX14_checkRows_91 ?_
          obtain ⟨s18, e19, h⟩ := bdv_some h
          have k20 := c_X14_first e19 (gE_rg _ _ _)
          refine v_callV (st := []) cf14 oc87 k20 (lw_V q3093 q3095 qs203 q311 q3096) rfl yk_X14_first ⟨Nat.le_of_ble_eq_true rfl, Nat.le_of_ble_eq_true rfl⟩ trivial ⟨kc87, trivial⟩ (Nat.le_of_ble_eq_true rfl) rfl dX14_checkRows_92 ?_
          refine v_sub [2, 3, 4, 0, 5] (L1 := [(0, vO 87), (1, vI x1), (2, vI x2), (3, vI r13), (4, vI x4)]) rfl ?_
          exact wj_X14_checkRows_95 h rx1 rx2 r14 rx4 ih hE

def j_X14_checkRows_26 (rec : Int → vS → Option (vS)) (x1 : Int) (z0 : Int) (s : vS) : Option (vS) :=
  stp (sI s 87 99 0) fun s1 =>
  gd (inb x1 (gN s1 104)) <|
  vl (gE s1 104 x1) fun y4 =>
  lq_0 (l_X14_checkRows_42 FU x1 z0 0 y4 s1) fun s7 =>
  vl (w32 (x1 + 1)) fun y9 =>
  rec y9 s7
theorem wj_X14_checkRows_26 {x1 : Int} {z0 : Int} {s : vS} {rv : Option vA} {σo : vS} {rec : Int → vS → Option (vS)} {q : vS} (h : j_X14_checkRows_26 rec x1 z0 s = some q)  (rx1 : rg x1) (rz0 : rg z0) (hrec : ∀ (y1 : Int) (s : vS) (q : vS), rec y1 s = some q → rg y1 → E_X14_checkRows_2 rv σo q → VW cX14_checkRows (RX14, rv, σo, none, 2, 46, 6, []) (P0 []) s 2 [(0, vO 87), (1, vI y1)] []) (hE : E_X14_checkRows_2 rv σo q) : VW cX14_checkRows (RX14, rv, σo, none, 2, 46, 6, []) (P0 []) s 26 [(0, vO 87), (1, vI x1)] [vI z0] := by
  unfold j_X14_checkRows_26 at h
  refine v_istore_n (L1 := [(2, vI z0), (0, vO 87), (1, vI x1)]) dX14_checkRows_26 rfl (by decide) rfl ?_
  refine v_aload_n dX14_checkRows_27 1 rfl rfl ?_
  refine v_iconst dX14_checkRows_28 ?_
  obtain ⟨s1, e2, h⟩ := stp_some h
  refine v_putI (f := 99) cf14 oc87 rfl (by decide) q2469 dX14_checkRows_29 rfl rfl ?_
  rw [← e2]
  refine v_iconst dX14_checkRows_32 ?_
  refine v_istore_n (L1 := [(3, vI 0), (2, vI z0), (0, vO 87), (1, vI x1)]) dX14_checkRows_33 rfl (by decide) rfl ?_
  refine v_aload_n dX14_checkRows_34 2 rfl rfl ?_
  refine v_getS (f := 28) (t := 104) cf14 oc87 rfl rfl rfl (by decide) q2398 dX14_checkRows_35 ?_
  refine v_iload_n dX14_checkRows_38 3 rfl rfl ?_
  obtain ⟨g3, h⟩ := gd_some h
  refine v_iald oc104 rx1 g3.1 g3.2 dX14_checkRows_39 ?_
  obtain ⟨y4, e5, h⟩ := vl_some h
  rw [← e5]
  have r6 : rg y4 := by rw [e5]; exact gE_rg _ _ _
  refine v_istore (L1 := [(4, vI y4), (3, vI 0), (2, vI z0), (0, vO 87), (1, vI x1)]) dX14_checkRows_40 (by decide) rfl ?_
  refine v_sub [3, 4, 2, 1, 0] (L1 := [(0, vO 87), (1, vI x1), (2, vI z0), (3, vI 0), (4, vI y4)]) rfl ?_
  obtain ⟨s7, e8, h⟩ := lq_0_some h
  refine wl_X14_checkRows_42 rx1 rz0 FU 0 y4 s1 _ e8 (rgl rfl) r6 ?_
  unfold E_X14_checkRows_42
  intro s7' z_
  cases z_
  obtain ⟨y9, e10, h⟩ := vl_some h
  refine v_iinc (L1 := [(1, vI (w32 (x1 + 1))), (0, vO 87)]) dX14_checkRows_126 1 rfl (by decide) rfl ?_
  rw [← e10]
  have r11 : rg y9 := by rw [e10]; exact w32_rg _
  refine v_goto (tgt := 2) dX14_checkRows_129 (by decide) ?_
  refine v_sub [1, 0] (L1 := [(0, vO 87), (1, vI y9)]) rfl ?_
  exact hrec y9 s7 _ h r11 hE

def l_X14_checkRows_2 : Nat → Int → vS → Option (vS)
  | 0, _, _ => none
  | n + 1, x1, s =>
    if (gI s 87 20) ≤ x1 then
      some s
    else
      gd (inb x1 (gN s 97)) <|
      if (gE s 97 x1) = 12 then
        j_X14_checkRows_26 (l_X14_checkRows_2 n) x1 1 s
      else
        j_X14_checkRows_26 (l_X14_checkRows_2 n) x1 0 s
theorem wl_X14_checkRows_2 {rv : Option vA} {σo : vS}  : ∀ (n : Nat) (x1 : Int) (s : vS) (q : vS), l_X14_checkRows_2 n x1 s = some q → rg x1 → E_X14_checkRows_2 rv σo q → VW cX14_checkRows (RX14, rv, σo, none, 2, 46, 6, []) (P0 []) s 2 [(0, vO 87), (1, vI x1)] [] := by
  intro n
  induction n with
  | zero => intro x1 s q h; cases h
  | succ n ih =>
    intro x1 s q h rx1 hE
    unfold l_X14_checkRows_2 at h
    refine v_iload_n dX14_checkRows_2 1 rfl rfl ?_
    refine v_aload_n dX14_checkRows_3 0 rfl rfl ?_
    refine v_getI (f := 20) cf14 oc87 rfl (by decide) q2390 dX14_checkRows_4 ?_
    refine v_icmp_ge (tgt := 132) dX14_checkRows_7 rx1 (gI_rg _ _ _) (by decide) (fun c1 => ?_) (fun c1 => ?_)
    · rw [if_pos c1] at h
      cases h
      refine v_sub [0] (L1 := [(0, vO 87)]) rfl ?_
      exact hE _ rfl 
    · rw [if_neg c1] at h
      refine v_aload_n dX14_checkRows_10 0 rfl rfl ?_
      refine v_getS (f := 21) (t := 97) cf14 oc87 rfl rfl rfl (by decide) q2391 dX14_checkRows_11 ?_
      refine v_iload_n dX14_checkRows_14 1 rfl rfl ?_
      obtain ⟨g2, h⟩ := gd_some h
      refine v_iald oc97 rx1 g2.1 g2.2 dX14_checkRows_15 ?_
      refine v_bipush dX14_checkRows_16 rfl ?_
      refine v_icmp_ne (tgt := 25) dX14_checkRows_18 (gE_rg _ _ _) (rgl rfl) (by decide) (fun c3 => ?_) (fun c3 => ?_)
      · rw [if_neg c3] at h
        refine v_iconst dX14_checkRows_25 ?_
        exact wj_X14_checkRows_26 h rx1 (rgl rfl) ih hE
      · rw [if_pos c3] at h
        refine v_iconst dX14_checkRows_21 ?_
        refine v_goto (tgt := 26) dX14_checkRows_22 (by decide) ?_
        exact wj_X14_checkRows_26 h rx1 (rgl rfl) ih hE

def f_X14_checkRows (s : vS) : Option (vS) :=
  lq_0 (l_X14_checkRows_2 FU 0 s) fun s1 =>
  bdv (f_X14_told 9 s1) fun s3 =>
  some s3
theorem yk_X14_checkRows : yOk yX14_checkRows 0 := ⟨by decide, by decide, by decide +kernel⟩
theorem c_X14_checkRows {s : vS} {out : vS} (h : f_X14_checkRows s = some out)   : VC yX14_checkRows cX14_checkRows 6 none 2 46 [vO 87] s none out [] := by
  unfold f_X14_checkRows at h
  refine VC.of RX14 (by decide) rfl (Nat.le_of_ble_eq_true rfl) ?_
  show VW cX14_checkRows (RX14, none, out, none, 2, 46, 6, []) (P0 []) s 0 [(0, vO 87)] []
  refine v_iconst dX14_checkRows_0 ?_
  refine v_istore_n (L1 := [(1, vI 0), (0, vO 87)]) dX14_checkRows_1 rfl (by decide) rfl ?_
  refine v_sub [1, 0] (L1 := [(0, vO 87), (1, vI 0)]) rfl ?_
  obtain ⟨s1, e2, h⟩ := lq_0_some h
  refine wl_X14_checkRows_2  FU 0 s _ e2 (rgl rfl) ?_
  unfold E_X14_checkRows_2
  intro s1' z_
  cases z_
  refine v_aload_n dX14_checkRows_132 0 rfl rfl ?_
  refine v_bipush dX14_checkRows_133 rfl ?_
  obtain ⟨s3, e4, h⟩ := bdv_some h
  have k5 := c_X14_told e4 (rgl rfl)
  refine v_callV (st := []) cf14 oc87 k5 (lw_V q3101 q3103 qs205 q311 q3104) rfl yk_X14_told ⟨Nat.le_of_ble_eq_true rfl, Nat.le_of_ble_eq_true rfl⟩ trivial ⟨kc87, trivial⟩ (Nat.le_of_ble_eq_true rfl) rfl dX14_checkRows_135 ?_
  cases h
  exact v_vret dX14_checkRows_138

def f_X14_goesOn (x1 : Int) (s : vS) : Option (Int × vS) :=
  gd (inb x1 (gN s 132)) <|
  if (gE s 132 x1) = 2 then
    gd (inb x1 (gN s 138)) <|
    gd (inb x1 (gN s 134)) <|
    bd (f_X14_itemOf (gE s 138 x1) (gE s 134 x1) 1 s) fun r8 s5 =>
    if r8 < 0 then
      gd (inb x1 (gN s5 134)) <|
      bd (f_X14_assignmentOf (gE s5 134 x1) s5) fun r15 s12 =>
      some (r15, s12)
    else
      some ((-1), s5)
  else
    some ((-1), s)
theorem yk_X14_goesOn : yOk yX14_goesOn 1 := ⟨by decide, by decide, by decide +kernel⟩
theorem c_X14_goesOn {x1 : Int} {s : vS} {out : Int × vS} (h : f_X14_goesOn x1 s = some out)  (rx1 : rg x1) : VC yX14_goesOn cX14_goesOn 2 (some .int) 3 71 [vO 87, vI x1] s (some (vI out.1)) out.2 [] := by
  unfold f_X14_goesOn at h
  refine VC.of RX14 (by decide) rfl (Nat.le_of_ble_eq_true rfl) ?_
  show VW cX14_goesOn (RX14, (some (vI out.1)), out.2, (some .int), 3, 71, 2, []) (P0 []) s 0 [(0, vO 87), (1, vI x1)] []
  refine v_aload_n dX14_goesOn_0 0 rfl rfl ?_
  refine v_getS (f := 62) (t := 132) cf14 oc87 rfl rfl rfl (by decide) q2432 dX14_goesOn_1 ?_
  refine v_iload_n dX14_goesOn_4 1 rfl rfl ?_
  obtain ⟨g1, h⟩ := gd_some h
  refine v_iald oc132 rx1 g1.1 g1.2 dX14_goesOn_5 ?_
  refine v_iconst dX14_goesOn_6 ?_
  refine v_icmp_ne (tgt := 30) dX14_goesOn_7 (gE_rg _ _ _) (rgl rfl) (by decide) (fun c2 => ?_) (fun c2 => ?_)
  · rw [if_neg c2] at h
    refine v_iconst dX14_goesOn_30 ?_
    cases h
    exact v_iret (rgl rfl) dX14_goesOn_31
  · rw [if_pos c2] at h
    refine v_aload_n dX14_goesOn_10 0 rfl rfl ?_
    refine v_aload_n dX14_goesOn_11 0 rfl rfl ?_
    refine v_getS (f := 68) (t := 138) cf14 oc87 rfl rfl rfl (by decide) q2438 dX14_goesOn_12 ?_
    refine v_iload_n dX14_goesOn_15 1 rfl rfl ?_
    obtain ⟨g3, h⟩ := gd_some h
    refine v_iald oc138 rx1 g3.1 g3.2 dX14_goesOn_16 ?_
    refine v_aload_n dX14_goesOn_17 0 rfl rfl ?_
    refine v_getS (f := 64) (t := 134) cf14 oc87 rfl rfl rfl (by decide) q2434 dX14_goesOn_18 ?_
    refine v_iload_n dX14_goesOn_21 1 rfl rfl ?_
    obtain ⟨g4, h⟩ := gd_some h
    refine v_iald oc134 rx1 g4.1 g4.2 dX14_goesOn_22 ?_
    refine v_iconst dX14_goesOn_23 ?_
    obtain ⟨r8, s5, e6, h⟩ := bd_some h
    have k7 := c_X14_itemOf e6 (gE_rg _ _ _) (gE_rg _ _ _) (rgl rfl)
    have r9 : rg r8 := k7.1.2.2
    refine v_callV (st := []) cf14 oc87 k7 (lw_V q3125 q3127 qs211 q311 q3128) rfl yk_X14_itemOf ⟨Nat.le_of_ble_eq_true rfl, Nat.le_of_ble_eq_true rfl⟩ trivial ⟨kc87, trivial⟩ (Nat.le_of_ble_eq_true rfl) rfl dX14_goesOn_24 ?_
    refine v_if_lt (tgt := 32) dX14_goesOn_27 r9 (by decide) (fun c10 => ?_) (fun c10 => ?_)
    · rw [if_pos c10] at h
      refine v_aload_n dX14_goesOn_32 0 rfl rfl ?_
      refine v_aload_n dX14_goesOn_33 0 rfl rfl ?_
      refine v_getS (f := 64) (t := 134) cf14 oc87 rfl rfl rfl (by decide) q2434 dX14_goesOn_34 ?_
      refine v_iload_n dX14_goesOn_37 1 rfl rfl ?_
      obtain ⟨g11, h⟩ := gd_some h
      refine v_iald oc134 rx1 g11.1 g11.2 dX14_goesOn_38 ?_
      obtain ⟨r15, s12, e13, h⟩ := bd_some h
      have k14 := c_X14_assignmentOf e13 (gE_rg _ _ _)
      have r16 : rg r15 := k14.1.2.2
      refine v_callV (st := []) cf14 oc87 k14 (lw_V q3081 q3083 qs200 q311 q3084) rfl yk_X14_assignmentOf ⟨Nat.le_of_ble_eq_true rfl, Nat.le_of_ble_eq_true rfl⟩ trivial ⟨kc87, trivial⟩ (Nat.le_of_ble_eq_true rfl) rfl dX14_goesOn_39 ?_
      cases h
      exact v_iret r16 dX14_goesOn_42
    · rw [if_neg c10] at h
      refine v_iconst dX14_goesOn_30 ?_
      cases h
      exact v_iret (rgl rfl) dX14_goesOn_31

def E_X14_checkCircles_2 (rv : Option vA) (σo : vS) (q : vS) : Prop := ∀ (s' : vS), q = s' → VW cX14_checkCircles (RX14, rv, σo, none, 4, 92, 4, []) (P0 []) s' 104 [(0, vO 87)] []
def E_X14_checkCircles_14 (x1 : Int) (rv : Option vA) (σo : vS) (q : Int × Int × vS) : Prop := ∀ (x2' : Int) (x3' : Int) (s' : vS), q = (x2', x3', s') → rg x2' → rg x3' → VW cX14_checkCircles (RX14, rv, σo, none, 4, 92, 4, []) (P0 []) s' 65 [(0, vO 87), (1, vI x1), (2, vI x2'), (3, vI x3')] []
def j_X14_checkCircles_35 (rec : Int → Int → Int → vS → Option (Int × Int × vS)) (x1 : Int) (x2 : Int) (x3 : Int) (s : vS) : Option (Int × Int × vS) :=
  gd (inb x2 (gN s 143)) <|
  if 0 ≤ (gE s 143 x2) then
    gd (inb x2 (gN s 143)) <|
    bd (f_X14_goesOn (gE s 143 x2) s) fun r7 s4 =>
    vl (w32 (x3 + 1)) fun y9 =>
    rec x1 r7 y9 s4
  else
    vl (w32 (x3 + 1)) fun y12 =>
    rec x1 (-1) y12 s
theorem wj_X14_checkCircles_35 {x1 : Int} {x2 : Int} {x3 : Int} {s : vS} {rv : Option vA} {σo : vS} {rec : Int → Int → Int → vS → Option (Int × Int × vS)} {q : Int × Int × vS} (h : j_X14_checkCircles_35 rec x1 x2 x3 s = some q)  (rx1 : rg x1) (rx2 : rg x2) (rx3 : rg x3) (hrec : ∀ (y2 : Int) (y3 : Int) (s : vS) (q : Int × Int × vS), rec x1 y2 y3 s = some q → rg y2 → rg y3 → E_X14_checkCircles_14 x1 rv σo q → VW cX14_checkCircles (RX14, rv, σo, none, 4, 92, 4, []) (P0 []) s 14 [(0, vO 87), (1, vI x1), (2, vI y2), (3, vI y3)] []) (hE : E_X14_checkCircles_14 x1 rv σo q) : VW cX14_checkCircles (RX14, rv, σo, none, 4, 92, 4, []) (P0 []) s 35 [(0, vO 87), (1, vI x1), (2, vI x2), (3, vI x3)] [] := by
  unfold j_X14_checkCircles_35 at h
  refine v_aload_n dX14_checkCircles_35 0 rfl rfl ?_
  refine v_getS (f := 75) (t := 143) cf14 oc87 rfl rfl rfl (by decide) q2445 dX14_checkCircles_36 ?_
  refine v_iload_n dX14_checkCircles_39 2 rfl rfl ?_
  obtain ⟨g1, h⟩ := gd_some h
  refine v_iald oc143 rx2 g1.1 g1.2 dX14_checkCircles_40 ?_
  refine v_if_ge (tgt := 48) dX14_checkCircles_41 (gE_rg _ _ _) (by decide) (fun c2 => ?_) (fun c2 => ?_)
  · rw [if_pos c2] at h
    refine v_aload_n dX14_checkCircles_48 0 rfl rfl ?_
    refine v_aload_n dX14_checkCircles_49 0 rfl rfl ?_
    refine v_getS (f := 75) (t := 143) cf14 oc87 rfl rfl rfl (by decide) q2445 dX14_checkCircles_50 ?_
    refine v_iload_n dX14_checkCircles_53 2 rfl rfl ?_
    obtain ⟨g3, h⟩ := gd_some h
    refine v_iald oc143 rx2 g3.1 g3.2 dX14_checkCircles_54 ?_
    obtain ⟨r7, s4, e5, h⟩ := bd_some h
    have k6 := c_X14_goesOn e5 (gE_rg _ _ _)
    have r8 : rg r7 := k6.1.2.2
    refine v_callV (st := []) cf14 oc87 k6 (lw_V q3176 q3178 qs223 q311 q3179) rfl yk_X14_goesOn ⟨Nat.le_of_ble_eq_true rfl, Nat.le_of_ble_eq_true rfl⟩ trivial ⟨kc87, trivial⟩ (Nat.le_of_ble_eq_true rfl) rfl dX14_checkCircles_55 ?_
    refine v_istore_n (L1 := [(2, vI r7), (0, vO 87), (1, vI x1), (3, vI x3)]) dX14_checkCircles_58 rfl (by decide) rfl ?_
    obtain ⟨y9, e10, h⟩ := vl_some h
    refine v_iinc (L1 := [(3, vI (w32 (x3 + 1))), (2, vI r7), (0, vO 87), (1, vI x1)]) dX14_checkCircles_59 3 rfl (by decide) rfl ?_
    rw [← e10]
    have r11 : rg y9 := by rw [e10]; exact w32_rg _
    refine v_goto (tgt := 14) dX14_checkCircles_62 (by decide) ?_
    refine v_sub [2, 3, 1, 0] (L1 := [(0, vO 87), (1, vI x1), (2, vI r7), (3, vI y9)]) rfl ?_
    exact hrec r7 y9 s4 _ h r8 r11 hE
  · rw [if_neg c2] at h
    refine v_iconst dX14_checkCircles_44 ?_
    refine v_goto (tgt := 58) dX14_checkCircles_45 (by decide) ?_
    refine v_istore_n (L1 := [(2, vI (-1)), (0, vO 87), (1, vI x1), (3, vI x3)]) dX14_checkCircles_58 rfl (by decide) rfl ?_
    obtain ⟨y12, e13, h⟩ := vl_some h
    refine v_iinc (L1 := [(3, vI (w32 (x3 + 1))), (2, vI (-1)), (0, vO 87), (1, vI x1)]) dX14_checkCircles_59 3 rfl (by decide) rfl ?_
    rw [← e13]
    have r14 : rg y12 := by rw [e13]; exact w32_rg _
    refine v_goto (tgt := 14) dX14_checkCircles_62 (by decide) ?_
    refine v_sub [2, 3, 1, 0] (L1 := [(0, vO 87), (1, vI x1), (2, vI (-1)), (3, vI y12)]) rfl ?_
    exact hrec (-1) y12 s _ h (rgl rfl) r14 hE

def l_X14_checkCircles_14 : Nat → Int → Int → Int → vS → Option (Int × Int × vS)
  | 0, _, _, _, _ => none
  | n + 1, x1, x2, x3, s =>
    if x2 < 0 then
      some (x2, x3, s)
    else
      if (gI s 87 72) < x3 then
        some (x2, x3, s)
      else
        if x2 = x1 then
          if x3 = 0 then
            j_X14_checkCircles_35 (l_X14_checkCircles_14 n) x1 x2 x3 s
          else
            some (x2, x3, s)
        else
          j_X14_checkCircles_35 (l_X14_checkCircles_14 n) x1 x2 x3 s
theorem wl_X14_checkCircles_14 {x1 : Int} {rv : Option vA} {σo : vS}  (rx1 : rg x1) : ∀ (n : Nat) (x2 : Int) (x3 : Int) (s : vS) (q : Int × Int × vS), l_X14_checkCircles_14 n x1 x2 x3 s = some q → rg x2 → rg x3 → E_X14_checkCircles_14 x1 rv σo q → VW cX14_checkCircles (RX14, rv, σo, none, 4, 92, 4, []) (P0 []) s 14 [(0, vO 87), (1, vI x1), (2, vI x2), (3, vI x3)] [] := by
  intro n
  induction n with
  | zero => intro x2 x3 s q h; cases h
  | succ n ih =>
    intro x2 x3 s q h rx2 rx3 hE
    unfold l_X14_checkCircles_14 at h
    refine v_iload_n dX14_checkCircles_14 2 rfl rfl ?_
    refine v_if_lt (tgt := 65) dX14_checkCircles_15 rx2 (by decide) (fun c1 => ?_) (fun c1 => ?_)
    · rw [if_pos c1] at h
      cases h
      exact hE _ _ _ rfl rx2 rx3
    · rw [if_neg c1] at h
      refine v_iload_n dX14_checkCircles_18 3 rfl rfl ?_
      refine v_aload_n dX14_checkCircles_19 0 rfl rfl ?_
      refine v_getI (f := 72) cf14 oc87 rfl (by decide) q2442 dX14_checkCircles_20 ?_
      refine v_icmp_gt (tgt := 65) dX14_checkCircles_23 rx3 (gI_rg _ _ _) (by decide) (fun c2 => ?_) (fun c2 => ?_)
      · rw [if_pos c2] at h
        cases h
        exact hE _ _ _ rfl rx2 rx3
      · rw [if_neg c2] at h
        refine v_iload_n dX14_checkCircles_26 2 rfl rfl ?_
        refine v_iload_n dX14_checkCircles_27 1 rfl rfl ?_
        refine v_icmp_ne (tgt := 35) dX14_checkCircles_28 rx2 rx1 (by decide) (fun c3 => ?_) (fun c3 => ?_)
        · rw [if_neg c3] at h
          exact wj_X14_checkCircles_35 h rx1 rx2 rx3 ih hE
        · rw [if_pos c3] at h
          refine v_iload_n dX14_checkCircles_31 3 rfl rfl ?_
          refine v_if_ne (tgt := 65) dX14_checkCircles_32 rx3 (by decide) (fun c4 => ?_) (fun c4 => ?_)
          · rw [if_neg c4] at h
            cases h
            exact hE _ _ _ rfl rx2 rx3
          · rw [if_pos c4] at h
            exact wj_X14_checkCircles_35 h rx1 rx2 rx3 ih hE

def j_X14_checkCircles_65 (rec : Int → vS → Option (vS)) (x1 : Int) (x2 : Int) (x3 : Int) (s : vS) : Option (vS) :=
  gd (inb x1 (gN s 143)) <|
  if (gE s 143 x1) < 0 then
    vl (w32 (x1 + 1)) fun y3 =>
    rec y3 s
  else
    if x2 = x1 then
      if x3 ≤ 0 then
        vl (w32 (x1 + 1)) fun y11 =>
        rec y11 s
      else
        gd (inb x1 (gN s 141)) <|
        gd (inb (gE s 141 x1) (gN s 95)) <|
        bdv (f_X14_first (gE s 95 (gE s 141 x1)) s) fun s16 =>
        vl (w32 (x1 + 1)) fun y19 =>
        rec y19 s16
    else
      vl (w32 (x1 + 1)) fun y7 =>
      rec y7 s
theorem wj_X14_checkCircles_65 {x1 : Int} {x2 : Int} {x3 : Int} {s : vS} {rv : Option vA} {σo : vS} {rec : Int → vS → Option (vS)} {q : vS} (h : j_X14_checkCircles_65 rec x1 x2 x3 s = some q)  (rx1 : rg x1) (rx2 : rg x2) (rx3 : rg x3) (hrec : ∀ (y1 : Int) (s : vS) (q : vS), rec y1 s = some q → rg y1 → E_X14_checkCircles_2 rv σo q → VW cX14_checkCircles (RX14, rv, σo, none, 4, 92, 4, []) (P0 []) s 2 [(0, vO 87), (1, vI y1)] []) (hE : E_X14_checkCircles_2 rv σo q) : VW cX14_checkCircles (RX14, rv, σo, none, 4, 92, 4, []) (P0 []) s 65 [(0, vO 87), (1, vI x1), (2, vI x2), (3, vI x3)] [] := by
  unfold j_X14_checkCircles_65 at h
  refine v_aload_n dX14_checkCircles_65 0 rfl rfl ?_
  refine v_getS (f := 75) (t := 143) cf14 oc87 rfl rfl rfl (by decide) q2445 dX14_checkCircles_66 ?_
  refine v_iload_n dX14_checkCircles_69 1 rfl rfl ?_
  obtain ⟨g1, h⟩ := gd_some h
  refine v_iald oc143 rx1 g1.1 g1.2 dX14_checkCircles_70 ?_
  refine v_if_lt (tgt := 98) dX14_checkCircles_71 (gE_rg _ _ _) (by decide) (fun c2 => ?_) (fun c2 => ?_)
  · rw [if_pos c2] at h
    obtain ⟨y3, e4, h⟩ := vl_some h
    refine v_iinc (L1 := [(1, vI (w32 (x1 + 1))), (0, vO 87), (2, vI x2), (3, vI x3)]) dX14_checkCircles_98 1 rfl (by decide) rfl ?_
    rw [← e4]
    have r5 : rg y3 := by rw [e4]; exact w32_rg _
    refine v_goto (tgt := 2) dX14_checkCircles_101 (by decide) ?_
    refine v_sub [1, 0] (L1 := [(0, vO 87), (1, vI y3)]) rfl ?_
    exact hrec y3 s _ h r5 hE
  · rw [if_neg c2] at h
    refine v_iload_n dX14_checkCircles_74 2 rfl rfl ?_
    refine v_iload_n dX14_checkCircles_75 1 rfl rfl ?_
    refine v_icmp_ne (tgt := 98) dX14_checkCircles_76 rx2 rx1 (by decide) (fun c6 => ?_) (fun c6 => ?_)
    · rw [if_neg c6] at h
      obtain ⟨y7, e8, h⟩ := vl_some h
      refine v_iinc (L1 := [(1, vI (w32 (x1 + 1))), (0, vO 87), (2, vI x2), (3, vI x3)]) dX14_checkCircles_98 1 rfl (by decide) rfl ?_
      rw [← e8]
      have r9 : rg y7 := by rw [e8]; exact w32_rg _
      refine v_goto (tgt := 2) dX14_checkCircles_101 (by decide) ?_
      refine v_sub [1, 0] (L1 := [(0, vO 87), (1, vI y7)]) rfl ?_
      exact hrec y7 s _ h r9 hE
    · rw [if_pos c6] at h
      refine v_iload_n dX14_checkCircles_79 3 rfl rfl ?_
      refine v_if_le (tgt := 98) dX14_checkCircles_80 rx3 (by decide) (fun c10 => ?_) (fun c10 => ?_)
      · rw [if_pos c10] at h
        obtain ⟨y11, e12, h⟩ := vl_some h
        refine v_iinc (L1 := [(1, vI (w32 (x1 + 1))), (0, vO 87), (2, vI x2), (3, vI x3)]) dX14_checkCircles_98 1 rfl (by decide) rfl ?_
        rw [← e12]
        have r13 : rg y11 := by rw [e12]; exact w32_rg _
        refine v_goto (tgt := 2) dX14_checkCircles_101 (by decide) ?_
        refine v_sub [1, 0] (L1 := [(0, vO 87), (1, vI y11)]) rfl ?_
        exact hrec y11 s _ h r13 hE
      · rw [if_neg c10] at h
        refine v_aload_n dX14_checkCircles_83 0 rfl rfl ?_
        refine v_aload_n dX14_checkCircles_84 0 rfl rfl ?_
        refine v_getS (f := 17) (t := 95) cf14 oc87 rfl rfl rfl (by decide) q2387 dX14_checkCircles_85 ?_
        refine v_aload_n dX14_checkCircles_88 0 rfl rfl ?_
        refine v_getS (f := 73) (t := 141) cf14 oc87 rfl rfl rfl (by decide) q2443 dX14_checkCircles_89 ?_
        refine v_iload_n dX14_checkCircles_92 1 rfl rfl ?_
        obtain ⟨g14, h⟩ := gd_some h
        refine v_iald oc141 rx1 g14.1 g14.2 dX14_checkCircles_93 ?_
        obtain ⟨g15, h⟩ := gd_some h
        refine v_iald oc95 (gE_rg _ _ _) g15.1 g15.2 dX14_checkCircles_94 ?_
        obtain ⟨s16, e17, h⟩ := bdv_some h
        have k18 := c_X14_first e17 (gE_rg _ _ _)
        refine v_callV (st := []) cf14 oc87 k18 (lw_V q3093 q3095 qs203 q311 q3096) rfl yk_X14_first ⟨Nat.le_of_ble_eq_true rfl, Nat.le_of_ble_eq_true rfl⟩ trivial ⟨kc87, trivial⟩ (Nat.le_of_ble_eq_true rfl) rfl dX14_checkCircles_95 ?_
        obtain ⟨y19, e20, h⟩ := vl_some h
        refine v_iinc (L1 := [(1, vI (w32 (x1 + 1))), (0, vO 87), (2, vI x2), (3, vI x3)]) dX14_checkCircles_98 1 rfl (by decide) rfl ?_
        rw [← e20]
        have r21 : rg y19 := by rw [e20]; exact w32_rg _
        refine v_goto (tgt := 2) dX14_checkCircles_101 (by decide) ?_
        refine v_sub [1, 0] (L1 := [(0, vO 87), (1, vI y19)]) rfl ?_
        exact hrec y19 s16 _ h r21 hE

def l_X14_checkCircles_2 : Nat → Int → vS → Option (vS)
  | 0, _, _ => none
  | n + 1, x1, s =>
    if (gI s 87 72) ≤ x1 then
      some s
    else
      lq_2 (l_X14_checkCircles_14 FU x1 x1 0 s) fun y2 y3 s4 =>
      j_X14_checkCircles_65 (l_X14_checkCircles_2 n) x1 y2 y3 s4
theorem wl_X14_checkCircles_2 {rv : Option vA} {σo : vS}  : ∀ (n : Nat) (x1 : Int) (s : vS) (q : vS), l_X14_checkCircles_2 n x1 s = some q → rg x1 → E_X14_checkCircles_2 rv σo q → VW cX14_checkCircles (RX14, rv, σo, none, 4, 92, 4, []) (P0 []) s 2 [(0, vO 87), (1, vI x1)] [] := by
  intro n
  induction n with
  | zero => intro x1 s q h; cases h
  | succ n ih =>
    intro x1 s q h rx1 hE
    unfold l_X14_checkCircles_2 at h
    refine v_iload_n dX14_checkCircles_2 1 rfl rfl ?_
    refine v_aload_n dX14_checkCircles_3 0 rfl rfl ?_
    refine v_getI (f := 72) cf14 oc87 rfl (by decide) q2442 dX14_checkCircles_4 ?_
    refine v_icmp_ge (tgt := 104) dX14_checkCircles_7 rx1 (gI_rg _ _ _) (by decide) (fun c1 => ?_) (fun c1 => ?_)
    · rw [if_pos c1] at h
      cases h
      refine v_sub [0] (L1 := [(0, vO 87)]) rfl ?_
      exact hE _ rfl 
    · rw [if_neg c1] at h
      refine v_iload_n dX14_checkCircles_10 1 rfl rfl ?_
      refine v_istore_n (L1 := [(2, vI x1), (0, vO 87), (1, vI x1)]) dX14_checkCircles_11 rfl (by decide) rfl ?_
      refine v_iconst dX14_checkCircles_12 ?_
      refine v_istore_n (L1 := [(3, vI 0), (2, vI x1), (0, vO 87), (1, vI x1)]) dX14_checkCircles_13 rfl (by decide) rfl ?_
      refine v_sub [2, 3, 1, 0] (L1 := [(0, vO 87), (1, vI x1), (2, vI x1), (3, vI 0)]) rfl ?_
      obtain ⟨y2, y3, s4, e5, h⟩ := lq_2_some h
      refine wl_X14_checkCircles_14 rx1 FU x1 0 s _ e5 rx1 (rgl rfl) ?_
      unfold E_X14_checkCircles_14
      intro y2' y3' s4' z_ r6 r7
      cases z_
      exact wj_X14_checkCircles_65 h rx1 r6 r7 ih hE

def f_X14_checkCircles (s : vS) : Option (vS) :=
  lq_0 (l_X14_checkCircles_2 FU 0 s) fun s1 =>
  bdv (f_X14_told 10 s1) fun s3 =>
  some s3
theorem yk_X14_checkCircles : yOk yX14_checkCircles 0 := ⟨by decide, by decide, by decide +kernel⟩
theorem c_X14_checkCircles {s : vS} {out : vS} (h : f_X14_checkCircles s = some out)   : VC yX14_checkCircles cX14_checkCircles 4 none 4 92 [vO 87] s none out [] := by
  unfold f_X14_checkCircles at h
  refine VC.of RX14 (by decide) rfl (Nat.le_of_ble_eq_true rfl) ?_
  show VW cX14_checkCircles (RX14, none, out, none, 4, 92, 4, []) (P0 []) s 0 [(0, vO 87)] []
  refine v_iconst dX14_checkCircles_0 ?_
  refine v_istore_n (L1 := [(1, vI 0), (0, vO 87)]) dX14_checkCircles_1 rfl (by decide) rfl ?_
  refine v_sub [1, 0] (L1 := [(0, vO 87), (1, vI 0)]) rfl ?_
  obtain ⟨s1, e2, h⟩ := lq_0_some h
  refine wl_X14_checkCircles_2  FU 0 s _ e2 (rgl rfl) ?_
  unfold E_X14_checkCircles_2
  intro s1' z_
  cases z_
  refine v_aload_n dX14_checkCircles_104 0 rfl rfl ?_
  refine v_bipush dX14_checkCircles_105 rfl ?_
  obtain ⟨s3, e4, h⟩ := bdv_some h
  have k5 := c_X14_told e4 (rgl rfl)
  refine v_callV (st := []) cf14 oc87 k5 (lw_V q3101 q3103 qs205 q311 q3104) rfl yk_X14_told ⟨Nat.le_of_ble_eq_true rfl, Nat.le_of_ble_eq_true rfl⟩ trivial ⟨kc87, trivial⟩ (Nat.le_of_ble_eq_true rfl) rfl dX14_checkCircles_107 ?_
  cases h
  exact v_vret dX14_checkCircles_110

def E_X14_constantOf_6 (rv : Option vA) (σo : vS) (q : (vS) ⊕ (Int × vS)) : Prop := (∀ (s' : vS), q = .inl s' → VW cX14_constantOf (RX14, rv, σo, (some .int), 4, 98, 6, []) (P0 []) s' 139 [] []) ∧ (∀ (v : Int) (s' : vS), q = .inr (v, s') → rv = some (vI v) ∧ σo = s')
def l_X14_constantOf_6 : Nat → Int → vS → Option ((vS) ⊕ (Int × vS))
  | 0, _, _ => none
  | n + 1, x2, s =>
    if x2 < 0 then
      some (.inl s)
    else
      gd (inb x2 (gN s 143)) <|
      if (gE s 143 x2) < 0 then
        some (.inl s)
      else
        gd (inb x2 (gN s 142)) <|
        bd (f_X14_root (gE s 142 x2) s) fun r8 s5 =>
        if r8 < 0 then
          some (.inr ((-1), s5))
        else
          gd (inb r8 (gN s5 97)) <|
          if (gE s5 97 r8) = 2 then
            gd (inb x2 (gN s5 143)) <|
            vl (gE s5 143 x2) fun y14 =>
            gd (inb y14 (gN s5 132)) <|
            if (gE s5 132 y14) = 3 then
              gd (inb y14 (gN s5 134)) <|
              gd (inb y14 (gN s5 135)) <|
              bd (f_X14_numberOf (gE s5 134 y14) (gZ s5 135 y14) s5) fun r40 s37 =>
              some (.inr (r40, s37))
            else
              gd (inb y14 (gN s5 132)) <|
              if (gE s5 132 y14) = 2 then
                gd (inb y14 (gN s5 134)) <|
                bd (f_X14_itemIn r8 (gE s5 134 y14) s5) fun r25 s22 =>
                if r25 < 0 then
                  gd (inb y14 (gN s22 134)) <|
                  bd (f_X14_assignmentOf (gE s22 134 y14) s22) fun r32 s29 =>
                  l_X14_constantOf_6 n r32 s29
                else
                  gd (inb r25 (gN s22 115)) <|
                  some (.inr (gE s22 115 r25, s22))
              else
                some (.inr ((-1), s5))
          else
            some (.inr ((-1), s5))
theorem wl_X14_constantOf_6 {rv : Option vA} {σo : vS}  : ∀ (n : Nat) (x2 : Int) (s : vS) (q : (vS) ⊕ (Int × vS)), l_X14_constantOf_6 n x2 s = some q → rg x2 → E_X14_constantOf_6 rv σo q → VW cX14_constantOf (RX14, rv, σo, (some .int), 4, 98, 6, []) (P0 []) s 6 [(0, vO 87), (2, vI x2)] [] := by
  intro n
  induction n with
  | zero => intro x2 s q h; cases h
  | succ n ih =>
    intro x2 s q h rx2 hE
    unfold l_X14_constantOf_6 at h
    refine v_iload_n dX14_constantOf_6 1 rfl rfl ?_
    refine v_if_lt (tgt := 139) dX14_constantOf_7 rx2 (by decide) (fun c1 => ?_) (fun c1 => ?_)
    · rw [if_pos c1] at h
      cases h
      refine v_sub [] (L1 := []) rfl ?_
      exact hE.1 _ rfl 
    · rw [if_neg c1] at h
      refine v_aload_n dX14_constantOf_10 0 rfl rfl ?_
      refine v_getS (f := 75) (t := 143) cf14 oc87 rfl rfl rfl (by decide) q2445 dX14_constantOf_11 ?_
      refine v_iload_n dX14_constantOf_14 1 rfl rfl ?_
      obtain ⟨g2, h⟩ := gd_some h
      refine v_iald oc143 rx2 g2.1 g2.2 dX14_constantOf_15 ?_
      refine v_if_lt (tgt := 139) dX14_constantOf_16 (gE_rg _ _ _) (by decide) (fun c3 => ?_) (fun c3 => ?_)
      · rw [if_pos c3] at h
        cases h
        refine v_sub [] (L1 := []) rfl ?_
        exact hE.1 _ rfl 
      · rw [if_neg c3] at h
        refine v_aload_n dX14_constantOf_19 0 rfl rfl ?_
        refine v_aload_n dX14_constantOf_20 0 rfl rfl ?_
        refine v_getS (f := 74) (t := 142) cf14 oc87 rfl rfl rfl (by decide) q2444 dX14_constantOf_21 ?_
        refine v_iload_n dX14_constantOf_24 1 rfl rfl ?_
        obtain ⟨g4, h⟩ := gd_some h
        refine v_iald oc142 rx2 g4.1 g4.2 dX14_constantOf_25 ?_
        obtain ⟨r8, s5, e6, h⟩ := bd_some h
        have k7 := c_X14_root e6 (gE_rg _ _ _)
        have r9 : rg r8 := k7.1.2.2
        refine v_callV (st := []) cf14 oc87 k7 (lw_V q3129 q3131 qs212 q311 q3132) rfl yk_X14_root ⟨Nat.le_of_ble_eq_true rfl, Nat.le_of_ble_eq_true rfl⟩ trivial ⟨kc87, trivial⟩ (Nat.le_of_ble_eq_true rfl) rfl dX14_constantOf_26 ?_
        refine v_istore_n (L1 := [(3, vI r8), (0, vO 87), (2, vI x2)]) dX14_constantOf_29 rfl (by decide) rfl ?_
        refine v_iload_n dX14_constantOf_30 0 rfl rfl ?_
        refine v_if_lt (tgt := 44) dX14_constantOf_31 r9 (by decide) (fun c10 => ?_) (fun c10 => ?_)
        · rw [if_pos c10] at h
          refine v_iconst dX14_constantOf_44 ?_
          cases h
          obtain ⟨z1, z2⟩ := hE.2 _ _ rfl
          subst z1
          subst z2
          exact v_iret (rgl rfl) dX14_constantOf_45
        · rw [if_neg c10] at h
          refine v_aload_n dX14_constantOf_34 1 rfl rfl ?_
          refine v_getS (f := 21) (t := 97) cf14 oc87 rfl rfl rfl (by decide) q2391 dX14_constantOf_35 ?_
          refine v_iload_n dX14_constantOf_38 0 rfl rfl ?_
          obtain ⟨g11, h⟩ := gd_some h
          refine v_iald oc97 r9 g11.1 g11.2 dX14_constantOf_39 ?_
          refine v_iconst dX14_constantOf_40 ?_
          refine v_icmp_eq (tgt := 46) dX14_constantOf_41 (gE_rg _ _ _) (rgl rfl) (by decide) (fun c12 => ?_) (fun c12 => ?_)
          · rw [if_pos c12] at h
            refine v_aload_n dX14_constantOf_46 1 rfl rfl ?_
            refine v_getS (f := 75) (t := 143) cf14 oc87 rfl rfl rfl (by decide) q2445 dX14_constantOf_47 ?_
            refine v_iload_n dX14_constantOf_50 2 rfl rfl ?_
            obtain ⟨g13, h⟩ := gd_some h
            refine v_iald oc143 rx2 g13.1 g13.2 dX14_constantOf_51 ?_
            obtain ⟨y14, e15, h⟩ := vl_some h
            rw [← e15]
            have r16 : rg y14 := by rw [e15]; exact gE_rg _ _ _
            refine v_istore (L1 := [(4, vI y14), (3, vI r8), (0, vO 87), (2, vI x2)]) dX14_constantOf_52 (by decide) rfl ?_
            refine v_aload_n dX14_constantOf_54 2 rfl rfl ?_
            refine v_getS (f := 62) (t := 132) cf14 oc87 rfl rfl rfl (by decide) q2432 dX14_constantOf_55 ?_
            refine v_iload dX14_constantOf_58 0 rfl ?_
            obtain ⟨g17, h⟩ := gd_some h
            refine v_iald oc132 r16 g17.1 g17.2 dX14_constantOf_60 ?_
            refine v_iconst dX14_constantOf_61 ?_
            refine v_icmp_ne (tgt := 84) dX14_constantOf_62 (gE_rg _ _ _) (rgl rfl) (by decide) (fun c18 => ?_) (fun c18 => ?_)
            · rw [if_neg c18] at h
              refine v_aload_n dX14_constantOf_84 2 rfl rfl ?_
              refine v_getS (f := 62) (t := 132) cf14 oc87 rfl rfl rfl (by decide) q2432 dX14_constantOf_85 ?_
              refine v_iload dX14_constantOf_88 0 rfl ?_
              obtain ⟨g19, h⟩ := gd_some h
              refine v_iald oc132 r16 g19.1 g19.2 dX14_constantOf_90 ?_
              refine v_iconst dX14_constantOf_91 ?_
              refine v_icmp_eq (tgt := 97) dX14_constantOf_92 (gE_rg _ _ _) (rgl rfl) (by decide) (fun c20 => ?_) (fun c20 => ?_)
              · rw [if_pos c20] at h
                refine v_aload_n dX14_constantOf_97 2 rfl rfl ?_
                refine v_iload_n dX14_constantOf_98 1 rfl rfl ?_
                refine v_aload_n dX14_constantOf_99 2 rfl rfl ?_
                refine v_getS (f := 64) (t := 134) cf14 oc87 rfl rfl rfl (by decide) q2434 dX14_constantOf_100 ?_
                refine v_iload dX14_constantOf_103 0 rfl ?_
                obtain ⟨g21, h⟩ := gd_some h
                refine v_iald oc134 r16 g21.1 g21.2 dX14_constantOf_105 ?_
                obtain ⟨r25, s22, e23, h⟩ := bd_some h
                have k24 := c_X14_itemIn e23 r9 (gE_rg _ _ _)
                have r26 : rg r25 := k24.1.2.2
                refine v_callV (st := []) cf14 oc87 k24 (lw_V q3133 q3135 qs213 q311 q3136) rfl yk_X14_itemIn ⟨Nat.le_of_ble_eq_true rfl, Nat.le_of_ble_eq_true rfl⟩ trivial ⟨kc87, trivial⟩ (Nat.le_of_ble_eq_true rfl) rfl dX14_constantOf_106 ?_
                refine v_istore (L1 := [(5, vI r25), (4, vI y14), (3, vI r8), (0, vO 87), (2, vI x2)]) dX14_constantOf_109 (by decide) rfl ?_
                refine v_iload dX14_constantOf_111 0 rfl ?_
                refine v_if_lt (tgt := 124) dX14_constantOf_113 r26 (by decide) (fun c27 => ?_) (fun c27 => ?_)
                · rw [if_pos c27] at h
                  refine v_aload_n dX14_constantOf_124 3 rfl rfl ?_
                  refine v_aload_n dX14_constantOf_125 3 rfl rfl ?_
                  refine v_getS (f := 64) (t := 134) cf14 oc87 rfl rfl rfl (by decide) q2434 dX14_constantOf_126 ?_
                  refine v_iload dX14_constantOf_129 1 rfl ?_
                  obtain ⟨g28, h⟩ := gd_some h
                  refine v_iald oc134 r16 g28.1 g28.2 dX14_constantOf_131 ?_
                  obtain ⟨r32, s29, e30, h⟩ := bd_some h
                  have k31 := c_X14_assignmentOf e30 (gE_rg _ _ _)
                  have r33 : rg r32 := k31.1.2.2
                  refine v_callV (st := []) cf14 oc87 k31 (lw_V q3081 q3083 qs200 q311 q3084) rfl yk_X14_assignmentOf ⟨Nat.le_of_ble_eq_true rfl, Nat.le_of_ble_eq_true rfl⟩ trivial ⟨kc87, trivial⟩ (Nat.le_of_ble_eq_true rfl) rfl dX14_constantOf_132 ?_
                  refine v_istore_n (L1 := [(2, vI r32), (5, vI r25), (4, vI y14), (3, vI r8), (0, vO 87)]) dX14_constantOf_135 rfl (by decide) rfl ?_
                  refine v_goto (tgt := 6) dX14_constantOf_136 (by decide) ?_
                  refine v_sub [4, 0] (L1 := [(0, vO 87), (2, vI r32)]) rfl ?_
                  exact ih r32 s29 _ h r33 hE
                · rw [if_neg c27] at h
                  refine v_aload_n dX14_constantOf_116 3 rfl rfl ?_
                  refine v_getS (f := 41) (t := 115) cf14 oc87 rfl rfl rfl (by decide) q2411 dX14_constantOf_117 ?_
                  refine v_iload dX14_constantOf_120 0 rfl ?_
                  obtain ⟨g34, h⟩ := gd_some h
                  refine v_iald oc115 r26 g34.1 g34.2 dX14_constantOf_122 ?_
                  cases h
                  obtain ⟨z1, z2⟩ := hE.2 _ _ rfl
                  subst z1
                  subst z2
                  exact v_iret (gE_rg _ _ _) dX14_constantOf_123
              · rw [if_neg c20] at h
                refine v_iconst dX14_constantOf_95 ?_
                cases h
                obtain ⟨z1, z2⟩ := hE.2 _ _ rfl
                subst z1
                subst z2
                exact v_iret (rgl rfl) dX14_constantOf_96
            · rw [if_pos c18] at h
              refine v_aload_n dX14_constantOf_65 2 rfl rfl ?_
              refine v_aload_n dX14_constantOf_66 2 rfl rfl ?_
              refine v_getS (f := 64) (t := 134) cf14 oc87 rfl rfl rfl (by decide) q2434 dX14_constantOf_67 ?_
              refine v_iload dX14_constantOf_70 0 rfl ?_
              obtain ⟨g35, h⟩ := gd_some h
              refine v_iald oc134 r16 g35.1 g35.2 dX14_constantOf_72 ?_
              refine v_aload_n dX14_constantOf_73 2 rfl rfl ?_
              refine v_getS (f := 65) (t := 135) cf14 oc87 rfl rfl rfl (by decide) q2435 dX14_constantOf_74 ?_
              refine v_iload dX14_constantOf_77 0 rfl ?_
              obtain ⟨g36, h⟩ := gd_some h
              refine v_zald oc135 r16 g36.1 g36.2 dX14_constantOf_79 ?_
              obtain ⟨r40, s37, e38, h⟩ := bd_some h
              have k39 := c_X14_numberOf e38 (gE_rg _ _ _) (gZ_rg _ _ _)
              have r41 : rg r40 := k39.1.2.2
              refine v_callV (st := []) cf14 oc87 k39 (lw_V q2996 q2998 qs180 q311 q2999) rfl yk_X14_numberOf ⟨Nat.le_of_ble_eq_true rfl, Nat.le_of_ble_eq_true rfl⟩ trivial ⟨kc87, trivial⟩ (Nat.le_of_ble_eq_true rfl) rfl dX14_constantOf_80 ?_
              cases h
              obtain ⟨z1, z2⟩ := hE.2 _ _ rfl
              subst z1
              subst z2
              exact v_iret r41 dX14_constantOf_83
          · rw [if_neg c12] at h
            refine v_iconst dX14_constantOf_44 ?_
            cases h
            obtain ⟨z1, z2⟩ := hE.2 _ _ rfl
            subst z1
            subst z2
            exact v_iret (rgl rfl) dX14_constantOf_45

def f_X14_constantOf (x1 : Int) (s : vS) : Option (Int × vS) :=
  bd (f_X14_assignmentOf x1 s) fun r4 s1 =>
  lqs_0 (l_X14_constantOf_6 FU r4 s1) (fun s6 =>
    some ((-1), s6))
    (fun q => some q)
theorem yk_X14_constantOf : yOk yX14_constantOf 1 := ⟨by decide, by decide, by decide +kernel⟩
theorem c_X14_constantOf {x1 : Int} {s : vS} {out : Int × vS} (h : f_X14_constantOf x1 s = some out)  (rx1 : rg x1) : VC yX14_constantOf cX14_constantOf 6 (some .int) 4 98 [vO 87, vI x1] s (some (vI out.1)) out.2 [] := by
  unfold f_X14_constantOf at h
  refine VC.of RX14 (by decide) rfl (Nat.le_of_ble_eq_true rfl) ?_
  show VW cX14_constantOf (RX14, (some (vI out.1)), out.2, (some .int), 4, 98, 6, []) (P0 []) s 0 [(0, vO 87), (1, vI x1)] []
  refine v_aload_n dX14_constantOf_0 0 rfl rfl ?_
  refine v_iload_n dX14_constantOf_1 1 rfl rfl ?_
  obtain ⟨r4, s1, e2, h⟩ := bd_some h
  have k3 := c_X14_assignmentOf e2 rx1
  have r5 : rg r4 := k3.1.2.2
  refine v_callV (st := []) cf14 oc87 k3 (lw_V q3081 q3083 qs200 q311 q3084) rfl yk_X14_assignmentOf ⟨Nat.le_of_ble_eq_true rfl, Nat.le_of_ble_eq_true rfl⟩ trivial ⟨kc87, trivial⟩ (Nat.le_of_ble_eq_true rfl) rfl dX14_constantOf_2 ?_
  refine v_istore_n (L1 := [(2, vI r4), (0, vO 87), (1, vI x1)]) dX14_constantOf_5 rfl (by decide) rfl ?_
  refine v_sub [1, 0] (L1 := [(0, vO 87), (2, vI r4)]) rfl ?_
  rcases lqs_0_some h with ⟨s6, e7, h⟩ | ⟨q9, e7, h⟩
  · refine wl_X14_constantOf_6  FU r4 s1 _ e7 r5 ?_
    unfold E_X14_constantOf_6
    refine ⟨?_, fun v9 s9 z_ => (by cases z_)⟩
    intro s6' z_
    cases z_
    refine v_iconst dX14_constantOf_139 ?_
    cases h
    exact v_iret (rgl rfl) dX14_constantOf_140
  · cases h
    refine wl_X14_constantOf_6  FU r4 s1 _ e7 r5 ?_
    unfold E_X14_constantOf_6
    refine ⟨fun _ z_ => (by cases z_), ?_⟩
    intro v9 s9 z_
    cases z_
    exact ⟨rfl, rfl⟩

def j_X14_boundOf_105 (x4 : Int) (x5 : Int) (s : vS) : Option (Int × vS) :=
  if x5 < 0 then
    some (x5, s)
  else
    if x4 = 0 then
      some (x5, s)
    else
      gd (inb x5 (gN s 147)) <|
      gd (inb (gE s 147 x5) (gN s 149)) <|
      if (gE s 149 (gE s 147 x5)) ≤ 127 then
        some (x5, s)
      else
        some ((-1), s)
theorem wj_X14_boundOf_105 {x4 : Int} {x5 : Int} {s : vS} {out : Int × vS} (h : j_X14_boundOf_105 x4 x5 s = some out)  (rx4 : rg x4) (rx5 : rg x5) : VW cX14_boundOf (RX14, (some (vI out.1)), out.2, (some .int), 5, 123, 7, []) (P0 []) s 105 [(0, vO 87), (4, vI x4), (5, vI x5)] [] := by
  unfold j_X14_boundOf_105 at h
  refine v_iload dX14_boundOf_105 2 rfl ?_
  refine v_if_lt (tgt := 136) dX14_boundOf_107 rx5 (by decide) (fun c1 => ?_) (fun c1 => ?_)
  · rw [if_pos c1] at h
    refine v_iload dX14_boundOf_136 2 rfl ?_
    cases h
    exact v_iret rx5 dX14_boundOf_138
  · rw [if_neg c1] at h
    refine v_iload dX14_boundOf_110 1 rfl ?_
    refine v_if_eq (tgt := 136) dX14_boundOf_112 rx4 (by decide) (fun c2 => ?_) (fun c2 => ?_)
    · rw [if_pos c2] at h
      refine v_iload dX14_boundOf_136 2 rfl ?_
      cases h
      exact v_iret rx5 dX14_boundOf_138
    · rw [if_neg c2] at h
      refine v_aload_n dX14_boundOf_115 0 rfl rfl ?_
      refine v_getS (f := 88) (t := 149) cf14 oc87 rfl rfl rfl (by decide) q2458 dX14_boundOf_116 ?_
      refine v_aload_n dX14_boundOf_119 0 rfl rfl ?_
      refine v_getS (f := 86) (t := 147) cf14 oc87 rfl rfl rfl (by decide) q2456 dX14_boundOf_120 ?_
      refine v_iload dX14_boundOf_123 2 rfl ?_
      obtain ⟨g3, h⟩ := gd_some h
      refine v_iald oc147 rx5 g3.1 g3.2 dX14_boundOf_125 ?_
      obtain ⟨g4, h⟩ := gd_some h
      refine v_iald oc149 (gE_rg _ _ _) g4.1 g4.2 dX14_boundOf_126 ?_
      refine v_bipush dX14_boundOf_127 rfl ?_
      refine v_icmp_le (tgt := 136) dX14_boundOf_129 (gE_rg _ _ _) (rgl rfl) (by decide) (fun c5 => ?_) (fun c5 => ?_)
      · rw [if_pos c5] at h
        refine v_iload dX14_boundOf_136 2 rfl ?_
        cases h
        exact v_iret rx5 dX14_boundOf_138
      · rw [if_neg c5] at h
        refine v_iconst dX14_boundOf_132 ?_
        refine v_goto (tgt := 138) dX14_boundOf_133 (by decide) ?_
        cases h
        exact v_iret (rgl rfl) dX14_boundOf_138

def j_X14_boundOf_81 (x2 : Int) (x4 : Int) (z0 : Int) (s : vS) : Option (Int × vS) :=
  if z0 < 0 then
    bd (f_X14_constantOf x2 s) fun r5 s2 =>
    j_X14_boundOf_105 x4 r5 s2
  else
    gd (inb z0 (gN s 115)) <|
    vl (gE s 115 z0) fun y8 =>
    j_X14_boundOf_105 x4 y8 s
theorem wj_X14_boundOf_81 {x2 : Int} {x4 : Int} {z0 : Int} {s : vS} {out : Int × vS} (h : j_X14_boundOf_81 x2 x4 z0 s = some out)  (rx2 : rg x2) (rx4 : rg x4) (rz0 : rg z0) : VW cX14_boundOf (RX14, (some (vI out.1)), out.2, (some .int), 5, 123, 7, []) (P0 []) s 81 [(0, vO 87), (2, vI x2), (4, vI x4)] [vI z0] := by
  unfold j_X14_boundOf_81 at h
  refine v_istore (L1 := [(6, vI z0), (0, vO 87), (2, vI x2), (4, vI x4)]) dX14_boundOf_81 (by decide) rfl ?_
  refine v_iload dX14_boundOf_83 0 rfl ?_
  refine v_if_lt (tgt := 98) dX14_boundOf_85 rz0 (by decide) (fun c1 => ?_) (fun c1 => ?_)
  · rw [if_pos c1] at h
    refine v_aload_n dX14_boundOf_98 1 rfl rfl ?_
    refine v_iload_n dX14_boundOf_99 2 rfl rfl ?_
    obtain ⟨r5, s2, e3, h⟩ := bd_some h
    have k4 := c_X14_constantOf e3 rx2
    have r6 : rg r5 := k4.1.2.2
    refine v_callV (st := []) cf14 oc87 k4 (lw_V q3191 q3193 qs226 q311 q3194) rfl yk_X14_constantOf ⟨Nat.le_of_ble_eq_true rfl, Nat.le_of_ble_eq_true rfl⟩ trivial ⟨kc87, trivial⟩ (Nat.le_of_ble_eq_true rfl) rfl dX14_boundOf_100 ?_
    refine v_istore (L1 := [(5, vI r5), (6, vI z0), (0, vO 87), (2, vI x2), (4, vI x4)]) dX14_boundOf_103 (by decide) rfl ?_
    refine v_sub [2, 4, 0] (L1 := [(0, vO 87), (4, vI x4), (5, vI r5)]) rfl ?_
    exact wj_X14_boundOf_105 h rx4 r6
  · rw [if_neg c1] at h
    refine v_aload_n dX14_boundOf_88 1 rfl rfl ?_
    refine v_getS (f := 41) (t := 115) cf14 oc87 rfl rfl rfl (by decide) q2411 dX14_boundOf_89 ?_
    refine v_iload dX14_boundOf_92 0 rfl ?_
    obtain ⟨g7, h⟩ := gd_some h
    refine v_iald oc115 rz0 g7.1 g7.2 dX14_boundOf_94 ?_
    refine v_goto (tgt := 103) dX14_boundOf_95 (by decide) ?_
    obtain ⟨y8, e9, h⟩ := vl_some h
    rw [← e9]
    have r10 : rg y8 := by rw [e9]; exact gE_rg _ _ _
    refine v_istore (L1 := [(5, vI y8), (6, vI z0), (0, vO 87), (2, vI x2), (4, vI x4)]) dX14_boundOf_103 (by decide) rfl ?_
    refine v_sub [2, 4, 0] (L1 := [(0, vO 87), (4, vI x4), (5, vI y8)]) rfl ?_
    exact wj_X14_boundOf_105 h rx4 r10

def f_X14_boundOf (x1 : Int) (x2 : Int) (x3 : Int) (x4 : Int) (s : vS) : Option (Int × vS) :=
  gd (inb x2 (gN s 94)) <|
  if (gE s 94 x2) = 83 then
    if x4 = 0 then
      some ((-2), s)
    else
      bd (f_X14_smallNumber 0 s) fun r22 s19 =>
      some (r22, s19)
  else
    gd (inb x2 (gN s 94)) <|
    if (gE s 94 x2) = 82 then
      some ((-3), s)
    else
      gd (inb x2 (gN s 94)) <|
      if (gE s 94 x2) = 3 then
        bd (f_X14_numberOf x2 x3 s) fun r16 s13 =>
        j_X14_boundOf_105 x4 r16 s13
      else
        if x4 = 0 then
          bd (f_X14_itemOf x1 x2 0 s) fun r11 s8 =>
          j_X14_boundOf_81 x2 x4 r11 s8
        else
          j_X14_boundOf_81 x2 x4 (-1) s
theorem yk_X14_boundOf : yOk yX14_boundOf 4 := ⟨by decide, by decide, by decide +kernel⟩
theorem c_X14_boundOf {x1 : Int} {x2 : Int} {x3 : Int} {x4 : Int} {s : vS} {out : Int × vS} (h : f_X14_boundOf x1 x2 x3 x4 s = some out)  (rx1 : rg x1) (rx2 : rg x2) (rx3 : rg x3) (rx4 : rg x4) : VC yX14_boundOf cX14_boundOf 7 (some .int) 5 123 [vO 87, vI x1, vI x2, vI x3, vI x4] s (some (vI out.1)) out.2 [] := by
  unfold f_X14_boundOf at h
  refine VC.of RX14 (by decide) rfl (Nat.le_of_ble_eq_true rfl) ?_
  show VW cX14_boundOf (RX14, (some (vI out.1)), out.2, (some .int), 5, 123, 7, []) (P0 []) s 0 [(0, vO 87), (1, vI x1), (2, vI x2), (3, vI x3), (4, vI x4)] []
  refine v_aload_n dX14_boundOf_0 0 rfl rfl ?_
  refine v_getS (f := 16) (t := 94) cf14 oc87 rfl rfl rfl (by decide) q2386 dX14_boundOf_1 ?_
  refine v_iload_n dX14_boundOf_4 2 rfl rfl ?_
  obtain ⟨g1, h⟩ := gd_some h
  refine v_iald oc94 rx2 g1.1 g1.2 dX14_boundOf_5 ?_
  refine v_bipush dX14_boundOf_6 rfl ?_
  refine v_icmp_ne (tgt := 27) dX14_boundOf_8 (gE_rg _ _ _) (rgl rfl) (by decide) (fun c2 => ?_) (fun c2 => ?_)
  · rw [if_neg c2] at h
    refine v_aload_n dX14_boundOf_27 0 rfl rfl ?_
    refine v_getS (f := 16) (t := 94) cf14 oc87 rfl rfl rfl (by decide) q2386 dX14_boundOf_28 ?_
    refine v_iload_n dX14_boundOf_31 2 rfl rfl ?_
    obtain ⟨g3, h⟩ := gd_some h
    refine v_iald oc94 rx2 g3.1 g3.2 dX14_boundOf_32 ?_
    refine v_bipush dX14_boundOf_33 rfl ?_
    refine v_icmp_ne (tgt := 41) dX14_boundOf_35 (gE_rg _ _ _) (rgl rfl) (by decide) (fun c4 => ?_) (fun c4 => ?_)
    · rw [if_neg c4] at h
      refine v_iconst dX14_boundOf_41 ?_
      refine v_istore (L1 := [(5, vI (-1)), (0, vO 87), (1, vI x1), (2, vI x2), (3, vI x3), (4, vI x4)]) dX14_boundOf_42 (by decide) rfl ?_
      refine v_aload_n dX14_boundOf_44 1 rfl rfl ?_
      refine v_getS (f := 16) (t := 94) cf14 oc87 rfl rfl rfl (by decide) q2386 dX14_boundOf_45 ?_
      refine v_iload_n dX14_boundOf_48 3 rfl rfl ?_
      obtain ⟨g5, h⟩ := gd_some h
      refine v_iald oc94 rx2 g5.1 g5.2 dX14_boundOf_49 ?_
      refine v_iconst dX14_boundOf_50 ?_
      refine v_icmp_ne (tgt := 65) dX14_boundOf_51 (gE_rg _ _ _) (rgl rfl) (by decide) (fun c6 => ?_) (fun c6 => ?_)
      · rw [if_neg c6] at h
        refine v_iload dX14_boundOf_65 5 rfl ?_
        refine v_if_eq (tgt := 74) dX14_boundOf_67 rx4 (by decide) (fun c7 => ?_) (fun c7 => ?_)
        · rw [if_pos c7] at h
          refine v_aload_n dX14_boundOf_74 1 rfl rfl ?_
          refine v_iload_n dX14_boundOf_75 2 rfl rfl ?_
          refine v_iload_n dX14_boundOf_76 3 rfl rfl ?_
          refine v_iconst dX14_boundOf_77 ?_
          obtain ⟨r11, s8, e9, h⟩ := bd_some h
          have k10 := c_X14_itemOf e9 rx1 rx2 (rgl rfl)
          have r12 : rg r11 := k10.1.2.2
          refine v_callV (st := []) cf14 oc87 k10 (lw_V q3125 q3127 qs211 q311 q3128) rfl yk_X14_itemOf ⟨Nat.le_of_ble_eq_true rfl, Nat.le_of_ble_eq_true rfl⟩ trivial ⟨kc87, trivial⟩ (Nat.le_of_ble_eq_true rfl) rfl dX14_boundOf_78 ?_
          refine v_sub [1, 3, 5] (L1 := [(0, vO 87), (2, vI x2), (4, vI x4)]) rfl ?_
          exact wj_X14_boundOf_81 h rx2 rx4 r12
        · rw [if_neg c7] at h
          refine v_iconst dX14_boundOf_70 ?_
          refine v_goto (tgt := 81) dX14_boundOf_71 (by decide) ?_
          refine v_sub [1, 3, 5] (L1 := [(0, vO 87), (2, vI x2), (4, vI x4)]) rfl ?_
          exact wj_X14_boundOf_81 h rx2 rx4 (rgl rfl)
      · rw [if_pos c6] at h
        refine v_aload_n dX14_boundOf_54 1 rfl rfl ?_
        refine v_iload_n dX14_boundOf_55 3 rfl rfl ?_
        refine v_iload_n dX14_boundOf_56 4 rfl rfl ?_
        obtain ⟨r16, s13, e14, h⟩ := bd_some h
        have k15 := c_X14_numberOf e14 rx2 rx3
        have r17 : rg r16 := k15.1.2.2
        refine v_callV (st := []) cf14 oc87 k15 (lw_V q2996 q2998 qs180 q311 q2999) rfl yk_X14_numberOf ⟨Nat.le_of_ble_eq_true rfl, Nat.le_of_ble_eq_true rfl⟩ trivial ⟨kc87, trivial⟩ (Nat.le_of_ble_eq_true rfl) rfl dX14_boundOf_57 ?_
        refine v_istore (L1 := [(5, vI r16), (0, vO 87), (1, vI x1), (2, vI x2), (3, vI x3), (4, vI x4)]) dX14_boundOf_60 (by decide) rfl ?_
        refine v_goto (tgt := 105) dX14_boundOf_62 (by decide) ?_
        refine v_sub [1, 5, 0] (L1 := [(0, vO 87), (4, vI x4), (5, vI r16)]) rfl ?_
        exact wj_X14_boundOf_105 h rx4 r17
    · rw [if_pos c4] at h
      refine v_bipush dX14_boundOf_38 rfl ?_
      cases h
      exact v_iret (rgl rfl) dX14_boundOf_40
  · rw [if_pos c2] at h
    refine v_iload dX14_boundOf_11 4 rfl ?_
    refine v_if_eq (tgt := 24) dX14_boundOf_13 rx4 (by decide) (fun c18 => ?_) (fun c18 => ?_)
    · rw [if_pos c18] at h
      refine v_bipush dX14_boundOf_24 rfl ?_
      cases h
      exact v_iret (rgl rfl) dX14_boundOf_26
    · rw [if_neg c18] at h
      refine v_aload_n dX14_boundOf_16 0 rfl rfl ?_
      refine v_iconst dX14_boundOf_17 ?_
      obtain ⟨r22, s19, e20, h⟩ := bd_some h
      have k21 := c_X14_smallNumber e20 (rgl rfl)
      have r23 : rg r22 := k21.1.2.2
      refine v_callV (st := []) cf14 oc87 k21 (lw_V q3109 q3111 qs207 q311 q3112) rfl yk_X14_smallNumber ⟨Nat.le_of_ble_eq_true rfl, Nat.le_of_ble_eq_true rfl⟩ trivial ⟨kc87, trivial⟩ (Nat.le_of_ble_eq_true rfl) rfl dX14_boundOf_18 ?_
      refine v_goto (tgt := 26) dX14_boundOf_21 (by decide) ?_
      cases h
      exact v_iret r23 dX14_boundOf_26

def f_X14_isAbove (x1 : Int) (x2 : Int) (s : vS) : Option (Int × vS) :=
  if x1 = x2 then
    some (0, s)
  else
    if x1 = (-3) then
      some (1, s)
    else
      if x2 = (-2) then
        some (1, s)
      else
        if x1 = (-2) then
          some (0, s)
        else
          if x2 = (-3) then
            some (0, s)
          else
            bd (f_X14_compareNumbers x1 x2 s) fun r9 s6 =>
            if r9 ≤ 0 then
              some (0, s6)
            else
              some (1, s6)
theorem yk_X14_isAbove : yOk yX14_isAbove 2 := ⟨by decide, by decide, by decide +kernel⟩
theorem c_X14_isAbove {x1 : Int} {x2 : Int} {s : vS} {out : Int × vS} (h : f_X14_isAbove x1 x2 s = some out)  (rx1 : rg x1) (rx2 : rg x2) : VC yX14_isAbove cX14_isAbove 3 (some .boolean) 1 25 [vO 87, vI x1, vI x2] s (some (vI out.1)) out.2 [] := by
  unfold f_X14_isAbove at h
  refine VC.of RX14 (by decide) rfl (Nat.le_of_ble_eq_true rfl) ?_
  show VW cX14_isAbove (RX14, (some (vI out.1)), out.2, (some .boolean), 1, 25, 3, []) (P0 []) s 0 [(0, vO 87), (1, vI x1), (2, vI x2)] []
  refine v_iload_n dX14_isAbove_0 1 rfl rfl ?_
  refine v_iload_n dX14_isAbove_1 2 rfl rfl ?_
  refine v_icmp_ne (tgt := 7) dX14_isAbove_2 rx1 rx2 (by decide) (fun c1 => ?_) (fun c1 => ?_)
  · rw [if_neg c1] at h
    refine v_iload_n dX14_isAbove_7 1 rfl rfl ?_
    refine v_bipush dX14_isAbove_8 rfl ?_
    refine v_icmp_eq (tgt := 19) dX14_isAbove_10 rx1 (rgl rfl) (by decide) (fun c2 => ?_) (fun c2 => ?_)
    · rw [if_pos c2] at h
      refine v_iconst dX14_isAbove_19 ?_
      cases h
      exact v_zret (Or.inr rfl) dX14_isAbove_20
    · rw [if_neg c2] at h
      refine v_iload_n dX14_isAbove_13 2 rfl rfl ?_
      refine v_bipush dX14_isAbove_14 rfl ?_
      refine v_icmp_ne (tgt := 21) dX14_isAbove_16 rx2 (rgl rfl) (by decide) (fun c3 => ?_) (fun c3 => ?_)
      · rw [if_neg c3] at h
        refine v_iload_n dX14_isAbove_21 1 rfl rfl ?_
        refine v_bipush dX14_isAbove_22 rfl ?_
        refine v_icmp_eq (tgt := 33) dX14_isAbove_24 rx1 (rgl rfl) (by decide) (fun c4 => ?_) (fun c4 => ?_)
        · rw [if_pos c4] at h
          refine v_iconst dX14_isAbove_33 ?_
          cases h
          exact v_zret (Or.inl rfl) dX14_isAbove_34
        · rw [if_neg c4] at h
          refine v_iload_n dX14_isAbove_27 2 rfl rfl ?_
          refine v_bipush dX14_isAbove_28 rfl ?_
          refine v_icmp_ne (tgt := 35) dX14_isAbove_30 rx2 (rgl rfl) (by decide) (fun c5 => ?_) (fun c5 => ?_)
          · rw [if_neg c5] at h
            refine v_aload_n dX14_isAbove_35 0 rfl rfl ?_
            refine v_iload_n dX14_isAbove_36 1 rfl rfl ?_
            refine v_iload_n dX14_isAbove_37 2 rfl rfl ?_
            obtain ⟨r9, s6, e7, h⟩ := bd_some h
            have k8 := c_X14_compareNumbers e7 rx1 rx2
            have r10 : rg r9 := k8.1.2.2
            refine v_callV (st := []) cf14 oc87 k8 (lw_V q3097 q3099 qs204 q311 q3100) rfl yk_X14_compareNumbers ⟨Nat.le_of_ble_eq_true rfl, Nat.le_of_ble_eq_true rfl⟩ trivial ⟨kc87, trivial⟩ (Nat.le_of_ble_eq_true rfl) rfl dX14_isAbove_38 ?_
            refine v_if_le (tgt := 48) dX14_isAbove_41 r10 (by decide) (fun c11 => ?_) (fun c11 => ?_)
            · rw [if_pos c11] at h
              refine v_iconst dX14_isAbove_48 ?_
              cases h
              exact v_zret (Or.inl rfl) dX14_isAbove_49
            · rw [if_neg c11] at h
              refine v_iconst dX14_isAbove_44 ?_
              refine v_goto (tgt := 49) dX14_isAbove_45 (by decide) ?_
              cases h
              exact v_zret (Or.inr rfl) dX14_isAbove_49
          · rw [if_pos c5] at h
            refine v_iconst dX14_isAbove_33 ?_
            cases h
            exact v_zret (Or.inl rfl) dX14_isAbove_34
      · rw [if_pos c3] at h
        refine v_iconst dX14_isAbove_19 ?_
        cases h
        exact v_zret (Or.inr rfl) dX14_isAbove_20
  · rw [if_pos c1] at h
    refine v_iconst dX14_isAbove_5 ?_
    cases h
    exact v_zret (Or.inl rfl) dX14_isAbove_6

def f_X14_hasSizes (x0 : Int) (s : vS) : Option (Int × vS) :=
  if x0 = 4 then
    some (1, s)
  else
    if x0 = 5 then
      some (1, s)
    else
      if x0 = 7 then
        some (1, s)
      else
        if x0 = 8 then
          some (1, s)
        else
          if x0 = 9 then
            some (1, s)
          else
            if x0 = 14 then
              some (1, s)
            else
              if x0 = 15 then
                some (1, s)
              else
                some (0, s)
theorem yk_X14_hasSizes : yOk yX14_hasSizes 1 := ⟨by decide, by decide, by decide +kernel⟩
theorem c_X14_hasSizes {x0 : Int} {s : vS} {out : Int × vS} (h : f_X14_hasSizes x0 s = some out)  (rx0 : rg x0) : VC yX14_hasSizes cX14_hasSizes 1 (some .boolean) 0 0 [vI x0] s (some (vI out.1)) out.2 [] := by
  unfold f_X14_hasSizes at h
  refine VC.of RX14 (by decide) rfl (Nat.le_of_ble_eq_true rfl) ?_
  show VW cX14_hasSizes (RX14, (some (vI out.1)), out.2, (some .boolean), 0, 0, 1, []) (P0 []) s 0 [(0, vI x0)] []
  refine v_iload_n dX14_hasSizes_0 0 rfl rfl ?_
  refine v_iconst dX14_hasSizes_1 ?_
  refine v_icmp_eq (tgt := 40) dX14_hasSizes_2 rx0 (rgl rfl) (by decide) (fun c1 => ?_) (fun c1 => ?_)
  · rw [if_pos c1] at h
    refine v_iconst dX14_hasSizes_40 ?_
    refine v_goto (tgt := 45) dX14_hasSizes_41 (by decide) ?_
    cases h
    exact v_zret (Or.inr rfl) dX14_hasSizes_45
  · rw [if_neg c1] at h
    refine v_iload_n dX14_hasSizes_5 0 rfl rfl ?_
    refine v_iconst dX14_hasSizes_6 ?_
    refine v_icmp_eq (tgt := 40) dX14_hasSizes_7 rx0 (rgl rfl) (by decide) (fun c2 => ?_) (fun c2 => ?_)
    · rw [if_pos c2] at h
      refine v_iconst dX14_hasSizes_40 ?_
      refine v_goto (tgt := 45) dX14_hasSizes_41 (by decide) ?_
      cases h
      exact v_zret (Or.inr rfl) dX14_hasSizes_45
    · rw [if_neg c2] at h
      refine v_iload_n dX14_hasSizes_10 0 rfl rfl ?_
      refine v_bipush dX14_hasSizes_11 rfl ?_
      refine v_icmp_eq (tgt := 40) dX14_hasSizes_13 rx0 (rgl rfl) (by decide) (fun c3 => ?_) (fun c3 => ?_)
      · rw [if_pos c3] at h
        refine v_iconst dX14_hasSizes_40 ?_
        refine v_goto (tgt := 45) dX14_hasSizes_41 (by decide) ?_
        cases h
        exact v_zret (Or.inr rfl) dX14_hasSizes_45
      · rw [if_neg c3] at h
        refine v_iload_n dX14_hasSizes_16 0 rfl rfl ?_
        refine v_bipush dX14_hasSizes_17 rfl ?_
        refine v_icmp_eq (tgt := 40) dX14_hasSizes_19 rx0 (rgl rfl) (by decide) (fun c4 => ?_) (fun c4 => ?_)
        · rw [if_pos c4] at h
          refine v_iconst dX14_hasSizes_40 ?_
          refine v_goto (tgt := 45) dX14_hasSizes_41 (by decide) ?_
          cases h
          exact v_zret (Or.inr rfl) dX14_hasSizes_45
        · rw [if_neg c4] at h
          refine v_iload_n dX14_hasSizes_22 0 rfl rfl ?_
          refine v_bipush dX14_hasSizes_23 rfl ?_
          refine v_icmp_eq (tgt := 40) dX14_hasSizes_25 rx0 (rgl rfl) (by decide) (fun c5 => ?_) (fun c5 => ?_)
          · rw [if_pos c5] at h
            refine v_iconst dX14_hasSizes_40 ?_
            refine v_goto (tgt := 45) dX14_hasSizes_41 (by decide) ?_
            cases h
            exact v_zret (Or.inr rfl) dX14_hasSizes_45
          · rw [if_neg c5] at h
            refine v_iload_n dX14_hasSizes_28 0 rfl rfl ?_
            refine v_bipush dX14_hasSizes_29 rfl ?_
            refine v_icmp_eq (tgt := 40) dX14_hasSizes_31 rx0 (rgl rfl) (by decide) (fun c6 => ?_) (fun c6 => ?_)
            · rw [if_pos c6] at h
              refine v_iconst dX14_hasSizes_40 ?_
              refine v_goto (tgt := 45) dX14_hasSizes_41 (by decide) ?_
              cases h
              exact v_zret (Or.inr rfl) dX14_hasSizes_45
            · rw [if_neg c6] at h
              refine v_iload_n dX14_hasSizes_34 0 rfl rfl ?_
              refine v_bipush dX14_hasSizes_35 rfl ?_
              refine v_icmp_ne (tgt := 44) dX14_hasSizes_37 rx0 (rgl rfl) (by decide) (fun c7 => ?_) (fun c7 => ?_)
              · rw [if_neg c7] at h
                refine v_iconst dX14_hasSizes_44 ?_
                cases h
                exact v_zret (Or.inl rfl) dX14_hasSizes_45
              · rw [if_pos c7] at h
                refine v_iconst dX14_hasSizes_40 ?_
                refine v_goto (tgt := 45) dX14_hasSizes_41 (by decide) ?_
                cases h
                exact v_zret (Or.inr rfl) dX14_hasSizes_45

def E_X14_checkBounds_2 (rv : Option vA) (σo : vS) (q : vS) : Prop := ∀ (s' : vS), q = s' → VW cX14_checkBounds (RX14, rv, σo, none, 6, 149, 6, []) (P0 []) s' 367 [(0, vO 87)] []
def E_X14_checkBounds_41 (x1 : Int) (rv : Option vA) (σo : vS) (q : vS) : Prop := ∀ (s' : vS), q = s' → VW cX14_checkBounds (RX14, rv, σo, none, 6, 149, 6, []) (P0 []) s' 361 [(0, vO 87), (1, vI x1)] []
def E_X14_checkBounds_92 (x1 : Int) (x2 : Int) (x3 : Int) (rv : Option vA) (σo : vS) (q : vS) : Prop := ∀ (s' : vS), q = s' → VW cX14_checkBounds (RX14, rv, σo, none, 6, 149, 6, []) (P0 []) s' 351 [(0, vO 87), (1, vI x1), (2, vI x2), (3, vI x3)] []
def j_X14_checkBounds_291 (rec : Int → Int → Int → Int → vS → Option (vS)) (x1 : Int) (x2 : Int) (x3 : Int) (x4 : Int) (x5 : Int) (s : vS) : Option (vS) :=
  gd (inb x4 (gN s 130)) <|
  if (gE s 130 x4) = (-1) then
    vl (w32 (x4 + 1)) fun y3 =>
    rec x1 x2 x3 y3 s
  else
    gd (inb x4 (gN s 131)) <|
    if (gE s 131 x4) = (-1) then
      vl (w32 (x4 + 1)) fun y8 =>
      rec x1 x2 x3 y8 s
    else
      gd (inb x4 (gN s 130)) <|
      gd (inb x4 (gN s 131)) <|
      bd (f_X14_isAbove (gE s 130 x4) (gE s 131 x4) s) fun r16 s13 =>
      if r16 = 0 then
        vl (w32 (x4 + 1)) fun y19 =>
        rec x1 x2 x3 y19 s13
      else
        gd (inb x5 (gN s13 95)) <|
        bdv (f_X14_first (gE s13 95 x5) s13) fun s23 =>
        vl (w32 (x4 + 1)) fun y26 =>
        rec x1 x2 x3 y26 s23
theorem wj_X14_checkBounds_291 {x1 : Int} {x2 : Int} {x3 : Int} {x4 : Int} {x5 : Int} {s : vS} {rv : Option vA} {σo : vS} {rec : Int → Int → Int → Int → vS → Option (vS)} {q : vS} (h : j_X14_checkBounds_291 rec x1 x2 x3 x4 x5 s = some q)  (rx1 : rg x1) (rx2 : rg x2) (rx3 : rg x3) (rx4 : rg x4) (rx5 : rg x5) (hrec : ∀ (y4 : Int) (s : vS) (q : vS), rec x1 x2 x3 y4 s = some q → rg y4 → E_X14_checkBounds_92 x1 x2 x3 rv σo q → VW cX14_checkBounds (RX14, rv, σo, none, 6, 149, 6, []) (P0 []) s 92 [(0, vO 87), (1, vI x1), (2, vI x2), (3, vI x3), (4, vI y4)] []) (hE : E_X14_checkBounds_92 x1 x2 x3 rv σo q) : VW cX14_checkBounds (RX14, rv, σo, none, 6, 149, 6, []) (P0 []) s 291 [(0, vO 87), (1, vI x1), (2, vI x2), (3, vI x3), (4, vI x4), (5, vI x5)] [] := by
  unfold j_X14_checkBounds_291 at h
  refine v_aload_n dX14_checkBounds_291 0 rfl rfl ?_
  refine v_getS (f := 59) (t := 130) cf14 oc87 rfl rfl rfl (by decide) q2429 dX14_checkBounds_292 ?_
  refine v_iload dX14_checkBounds_295 4 rfl ?_
  obtain ⟨g1, h⟩ := gd_some h
  refine v_iald oc130 rx4 g1.1 g1.2 dX14_checkBounds_297 ?_
  refine v_iconst dX14_checkBounds_298 ?_
  refine v_icmp_eq (tgt := 345) dX14_checkBounds_299 (gE_rg _ _ _) (rgl rfl) (by decide) (fun c2 => ?_) (fun c2 => ?_)
  · rw [if_pos c2] at h
    obtain ⟨y3, e4, h⟩ := vl_some h
    refine v_iinc (L1 := [(4, vI (w32 (x4 + 1))), (0, vO 87), (1, vI x1), (2, vI x2), (3, vI x3), (5, vI x5)]) dX14_checkBounds_345 4 rfl (by decide) rfl ?_
    rw [← e4]
    have r5 : rg y3 := by rw [e4]; exact w32_rg _
    refine v_goto (tgt := 92) dX14_checkBounds_348 (by decide) ?_
    refine v_sub [1, 2, 3, 4, 0] (L1 := [(0, vO 87), (1, vI x1), (2, vI x2), (3, vI x3), (4, vI y3)]) rfl ?_
    exact hrec y3 s _ h r5 hE
  · rw [if_neg c2] at h
    refine v_aload_n dX14_checkBounds_302 0 rfl rfl ?_
    refine v_getS (f := 60) (t := 131) cf14 oc87 rfl rfl rfl (by decide) q2430 dX14_checkBounds_303 ?_
    refine v_iload dX14_checkBounds_306 4 rfl ?_
    obtain ⟨g6, h⟩ := gd_some h
    refine v_iald oc131 rx4 g6.1 g6.2 dX14_checkBounds_308 ?_
    refine v_iconst dX14_checkBounds_309 ?_
    refine v_icmp_eq (tgt := 345) dX14_checkBounds_310 (gE_rg _ _ _) (rgl rfl) (by decide) (fun c7 => ?_) (fun c7 => ?_)
    · rw [if_pos c7] at h
      obtain ⟨y8, e9, h⟩ := vl_some h
      refine v_iinc (L1 := [(4, vI (w32 (x4 + 1))), (0, vO 87), (1, vI x1), (2, vI x2), (3, vI x3), (5, vI x5)]) dX14_checkBounds_345 4 rfl (by decide) rfl ?_
      rw [← e9]
      have r10 : rg y8 := by rw [e9]; exact w32_rg _
      refine v_goto (tgt := 92) dX14_checkBounds_348 (by decide) ?_
      refine v_sub [1, 2, 3, 4, 0] (L1 := [(0, vO 87), (1, vI x1), (2, vI x2), (3, vI x3), (4, vI y8)]) rfl ?_
      exact hrec y8 s _ h r10 hE
    · rw [if_neg c7] at h
      refine v_aload_n dX14_checkBounds_313 0 rfl rfl ?_
      refine v_aload_n dX14_checkBounds_314 0 rfl rfl ?_
      refine v_getS (f := 59) (t := 130) cf14 oc87 rfl rfl rfl (by decide) q2429 dX14_checkBounds_315 ?_
      refine v_iload dX14_checkBounds_318 4 rfl ?_
      obtain ⟨g11, h⟩ := gd_some h
      refine v_iald oc130 rx4 g11.1 g11.2 dX14_checkBounds_320 ?_
      refine v_aload_n dX14_checkBounds_321 0 rfl rfl ?_
      refine v_getS (f := 60) (t := 131) cf14 oc87 rfl rfl rfl (by decide) q2430 dX14_checkBounds_322 ?_
      refine v_iload dX14_checkBounds_325 4 rfl ?_
      obtain ⟨g12, h⟩ := gd_some h
      refine v_iald oc131 rx4 g12.1 g12.2 dX14_checkBounds_327 ?_
      obtain ⟨r16, s13, e14, h⟩ := bd_some h
      have k15 := c_X14_isAbove e14 (gE_rg _ _ _) (gE_rg _ _ _)
      have r17 : rg r16 := k15.1.2.2
      refine v_callV (st := []) cf14 oc87 k15 (lw_V q3195 q3197 qs227 q311 q3198) rfl yk_X14_isAbove ⟨Nat.le_of_ble_eq_true rfl, Nat.le_of_ble_eq_true rfl⟩ trivial ⟨kc87, trivial⟩ (Nat.le_of_ble_eq_true rfl) rfl dX14_checkBounds_328 ?_
      refine v_if_eq (tgt := 345) dX14_checkBounds_331 r17 (by decide) (fun c18 => ?_) (fun c18 => ?_)
      · rw [if_pos c18] at h
        obtain ⟨y19, e20, h⟩ := vl_some h
        refine v_iinc (L1 := [(4, vI (w32 (x4 + 1))), (0, vO 87), (1, vI x1), (2, vI x2), (3, vI x3), (5, vI x5)]) dX14_checkBounds_345 4 rfl (by decide) rfl ?_
        rw [← e20]
        have r21 : rg y19 := by rw [e20]; exact w32_rg _
        refine v_goto (tgt := 92) dX14_checkBounds_348 (by decide) ?_
        refine v_sub [1, 2, 3, 4, 0] (L1 := [(0, vO 87), (1, vI x1), (2, vI x2), (3, vI x3), (4, vI y19)]) rfl ?_
        exact hrec y19 s13 _ h r21 hE
      · rw [if_neg c18] at h
        refine v_aload_n dX14_checkBounds_334 0 rfl rfl ?_
        refine v_aload_n dX14_checkBounds_335 0 rfl rfl ?_
        refine v_getS (f := 17) (t := 95) cf14 oc87 rfl rfl rfl (by decide) q2387 dX14_checkBounds_336 ?_
        refine v_iload dX14_checkBounds_339 5 rfl ?_
        obtain ⟨g22, h⟩ := gd_some h
        refine v_iald oc95 rx5 g22.1 g22.2 dX14_checkBounds_341 ?_
        obtain ⟨s23, e24, h⟩ := bdv_some h
        have k25 := c_X14_first e24 (gE_rg _ _ _)
        refine v_callV (st := []) cf14 oc87 k25 (lw_V q3093 q3095 qs203 q311 q3096) rfl yk_X14_first ⟨Nat.le_of_ble_eq_true rfl, Nat.le_of_ble_eq_true rfl⟩ trivial ⟨kc87, trivial⟩ (Nat.le_of_ble_eq_true rfl) rfl dX14_checkBounds_342 ?_
        obtain ⟨y26, e27, h⟩ := vl_some h
        refine v_iinc (L1 := [(4, vI (w32 (x4 + 1))), (0, vO 87), (1, vI x1), (2, vI x2), (3, vI x3), (5, vI x5)]) dX14_checkBounds_345 4 rfl (by decide) rfl ?_
        rw [← e27]
        have r28 : rg y26 := by rw [e27]; exact w32_rg _
        refine v_goto (tgt := 92) dX14_checkBounds_348 (by decide) ?_
        refine v_sub [1, 2, 3, 4, 0] (L1 := [(0, vO 87), (1, vI x1), (2, vI x2), (3, vI x3), (4, vI y26)]) rfl ?_
        exact hrec y26 s23 _ h r28 hE

def j_X14_checkBounds_286 (rec : Int → Int → Int → Int → vS → Option (vS)) (x1 : Int) (x2 : Int) (x3 : Int) (x4 : Int) (x5 : Int) (z2 : Int) (z3 : Int) (s : vS) : Option (vS) :=
  gd (inb (w32 (z2 - z3)) (gN s 95)) <|
  bdv (f_X14_first (gE s 95 (w32 (z2 - z3))) s) fun s2 =>
  j_X14_checkBounds_291 rec x1 x2 x3 x4 x5 s2
theorem wj_X14_checkBounds_286 {x1 : Int} {x2 : Int} {x3 : Int} {x4 : Int} {x5 : Int} {z2 : Int} {z3 : Int} {s : vS} {rv : Option vA} {σo : vS} {rec : Int → Int → Int → Int → vS → Option (vS)} {q : vS} (h : j_X14_checkBounds_286 rec x1 x2 x3 x4 x5 z2 z3 s = some q)  (rx1 : rg x1) (rx2 : rg x2) (rx3 : rg x3) (rx4 : rg x4) (rx5 : rg x5) (rz2 : rg z2) (rz3 : rg z3) (hrec : ∀ (y4 : Int) (s : vS) (q : vS), rec x1 x2 x3 y4 s = some q → rg y4 → E_X14_checkBounds_92 x1 x2 x3 rv σo q → VW cX14_checkBounds (RX14, rv, σo, none, 6, 149, 6, []) (P0 []) s 92 [(0, vO 87), (1, vI x1), (2, vI x2), (3, vI x3), (4, vI y4)] []) (hE : E_X14_checkBounds_92 x1 x2 x3 rv σo q) : VW cX14_checkBounds (RX14, rv, σo, none, 6, 149, 6, []) (P0 []) s 286 [(0, vO 87), (1, vI x1), (2, vI x2), (3, vI x3), (4, vI x4), (5, vI x5)] [vI z3, vI z2, vO 95, vO 87] := by
  unfold j_X14_checkBounds_286 at h
  refine v_isub dX14_checkBounds_286 ?_
  obtain ⟨g1, h⟩ := gd_some h
  refine v_iald oc95 (w32_rg _) g1.1 g1.2 dX14_checkBounds_287 ?_
  obtain ⟨s2, e3, h⟩ := bdv_some h
  have k4 := c_X14_first e3 (gE_rg _ _ _)
  refine v_callV (st := []) cf14 oc87 k4 (lw_V q3093 q3095 qs203 q311 q3096) rfl yk_X14_first ⟨Nat.le_of_ble_eq_true rfl, Nat.le_of_ble_eq_true rfl⟩ trivial ⟨kc87, trivial⟩ (Nat.le_of_ble_eq_true rfl) rfl dX14_checkBounds_288 ?_
  exact wj_X14_checkBounds_291 h rx1 rx2 rx3 rx4 rx5 hrec hE

def j_X14_checkBounds_248 (rec : Int → Int → Int → Int → vS → Option (vS)) (x1 : Int) (x2 : Int) (x3 : Int) (x4 : Int) (x5 : Int) (s : vS) : Option (vS) :=
  gd (inb x4 (gN s 131)) <|
  if (gE s 131 x4) = (-1) then
    gd (inb x4 (gN s 128)) <|
    gd (inb x4 (gN s 129)) <|
    if (gZ s 129 x4) = 0 then
      j_X14_checkBounds_286 rec x1 x2 x3 x4 x5 (gE s 128 x4) 0 s
    else
      j_X14_checkBounds_286 rec x1 x2 x3 x4 x5 (gE s 128 x4) 1 s
  else
    j_X14_checkBounds_291 rec x1 x2 x3 x4 x5 s
theorem wj_X14_checkBounds_248 {x1 : Int} {x2 : Int} {x3 : Int} {x4 : Int} {x5 : Int} {s : vS} {rv : Option vA} {σo : vS} {rec : Int → Int → Int → Int → vS → Option (vS)} {q : vS} (h : j_X14_checkBounds_248 rec x1 x2 x3 x4 x5 s = some q)  (rx1 : rg x1) (rx2 : rg x2) (rx3 : rg x3) (rx4 : rg x4) (rx5 : rg x5) (hrec : ∀ (y4 : Int) (s : vS) (q : vS), rec x1 x2 x3 y4 s = some q → rg y4 → E_X14_checkBounds_92 x1 x2 x3 rv σo q → VW cX14_checkBounds (RX14, rv, σo, none, 6, 149, 6, []) (P0 []) s 92 [(0, vO 87), (1, vI x1), (2, vI x2), (3, vI x3), (4, vI y4)] []) (hE : E_X14_checkBounds_92 x1 x2 x3 rv σo q) : VW cX14_checkBounds (RX14, rv, σo, none, 6, 149, 6, []) (P0 []) s 248 [(0, vO 87), (1, vI x1), (2, vI x2), (3, vI x3), (4, vI x4), (5, vI x5)] [] := by
  unfold j_X14_checkBounds_248 at h
  refine v_aload_n dX14_checkBounds_248 0 rfl rfl ?_
  refine v_getS (f := 60) (t := 131) cf14 oc87 rfl rfl rfl (by decide) q2430 dX14_checkBounds_249 ?_
  refine v_iload dX14_checkBounds_252 4 rfl ?_
  obtain ⟨g1, h⟩ := gd_some h
  refine v_iald oc131 rx4 g1.1 g1.2 dX14_checkBounds_254 ?_
  refine v_iconst dX14_checkBounds_255 ?_
  refine v_icmp_ne (tgt := 291) dX14_checkBounds_256 (gE_rg _ _ _) (rgl rfl) (by decide) (fun c2 => ?_) (fun c2 => ?_)
  · rw [if_neg c2] at h
    exact wj_X14_checkBounds_291 h rx1 rx2 rx3 rx4 rx5 hrec hE
  · rw [if_pos c2] at h
    refine v_aload_n dX14_checkBounds_259 0 rfl rfl ?_
    refine v_aload_n dX14_checkBounds_260 0 rfl rfl ?_
    refine v_getS (f := 17) (t := 95) cf14 oc87 rfl rfl rfl (by decide) q2387 dX14_checkBounds_261 ?_
    refine v_aload_n dX14_checkBounds_264 0 rfl rfl ?_
    refine v_getS (f := 57) (t := 128) cf14 oc87 rfl rfl rfl (by decide) q2427 dX14_checkBounds_265 ?_
    refine v_iload dX14_checkBounds_268 4 rfl ?_
    obtain ⟨g3, h⟩ := gd_some h
    refine v_iald oc128 rx4 g3.1 g3.2 dX14_checkBounds_270 ?_
    refine v_aload_n dX14_checkBounds_271 0 rfl rfl ?_
    refine v_getS (f := 58) (t := 129) cf14 oc87 rfl rfl rfl (by decide) q2428 dX14_checkBounds_272 ?_
    refine v_iload dX14_checkBounds_275 4 rfl ?_
    obtain ⟨g4, h⟩ := gd_some h
    refine v_zald oc129 rx4 g4.1 g4.2 dX14_checkBounds_277 ?_
    refine v_if_eq (tgt := 285) dX14_checkBounds_278 (gZ_rg _ _ _) (by decide) (fun c5 => ?_) (fun c5 => ?_)
    · rw [if_pos c5] at h
      refine v_iconst dX14_checkBounds_285 ?_
      exact wj_X14_checkBounds_286 h rx1 rx2 rx3 rx4 rx5 (gE_rg _ _ _) (rgl rfl) hrec hE
    · rw [if_neg c5] at h
      refine v_iconst dX14_checkBounds_281 ?_
      refine v_goto (tgt := 286) dX14_checkBounds_282 (by decide) ?_
      exact wj_X14_checkBounds_286 h rx1 rx2 rx3 rx4 rx5 (gE_rg _ _ _) (rgl rfl) hrec hE

def j_X14_checkBounds_223 (rec : Int → Int → Int → Int → vS → Option (vS)) (x1 : Int) (x2 : Int) (x3 : Int) (x4 : Int) (z0 : Int) (z1 : Int) (s : vS) : Option (vS) :=
  vl (w32 (z0 - z1)) fun y1 =>
  gd (inb x4 (gN s 130)) <|
  if (gE s 130 x4) = (-1) then
    gd (inb y1 (gN s 95)) <|
    bdv (f_X14_first (gE s 95 y1) s) fun s7 =>
    j_X14_checkBounds_248 rec x1 x2 x3 x4 y1 s7
  else
    j_X14_checkBounds_248 rec x1 x2 x3 x4 y1 s
theorem wj_X14_checkBounds_223 {x1 : Int} {x2 : Int} {x3 : Int} {x4 : Int} {z0 : Int} {z1 : Int} {s : vS} {rv : Option vA} {σo : vS} {rec : Int → Int → Int → Int → vS → Option (vS)} {q : vS} (h : j_X14_checkBounds_223 rec x1 x2 x3 x4 z0 z1 s = some q)  (rx1 : rg x1) (rx2 : rg x2) (rx3 : rg x3) (rx4 : rg x4) (rz0 : rg z0) (rz1 : rg z1) (hrec : ∀ (y4 : Int) (s : vS) (q : vS), rec x1 x2 x3 y4 s = some q → rg y4 → E_X14_checkBounds_92 x1 x2 x3 rv σo q → VW cX14_checkBounds (RX14, rv, σo, none, 6, 149, 6, []) (P0 []) s 92 [(0, vO 87), (1, vI x1), (2, vI x2), (3, vI x3), (4, vI y4)] []) (hE : E_X14_checkBounds_92 x1 x2 x3 rv σo q) : VW cX14_checkBounds (RX14, rv, σo, none, 6, 149, 6, []) (P0 []) s 223 [(0, vO 87), (1, vI x1), (2, vI x2), (3, vI x3), (4, vI x4)] [vI z1, vI z0] := by
  unfold j_X14_checkBounds_223 at h
  refine v_isub dX14_checkBounds_223 ?_
  obtain ⟨y1, e2, h⟩ := vl_some h
  rw [← e2]
  have r3 : rg y1 := by rw [e2]; exact w32_rg _
  refine v_istore (L1 := [(5, vI y1), (0, vO 87), (1, vI x1), (2, vI x2), (3, vI x3), (4, vI x4)]) dX14_checkBounds_224 (by decide) rfl ?_
  refine v_aload_n dX14_checkBounds_226 1 rfl rfl ?_
  refine v_getS (f := 59) (t := 130) cf14 oc87 rfl rfl rfl (by decide) q2429 dX14_checkBounds_227 ?_
  refine v_iload dX14_checkBounds_230 5 rfl ?_
  obtain ⟨g4, h⟩ := gd_some h
  refine v_iald oc130 rx4 g4.1 g4.2 dX14_checkBounds_232 ?_
  refine v_iconst dX14_checkBounds_233 ?_
  refine v_icmp_ne (tgt := 248) dX14_checkBounds_234 (gE_rg _ _ _) (rgl rfl) (by decide) (fun c5 => ?_) (fun c5 => ?_)
  · rw [if_neg c5] at h
    refine v_sub [1, 2, 3, 4, 5, 0] (L1 := [(0, vO 87), (1, vI x1), (2, vI x2), (3, vI x3), (4, vI x4), (5, vI y1)]) rfl ?_
    exact wj_X14_checkBounds_248 h rx1 rx2 rx3 rx4 r3 hrec hE
  · rw [if_pos c5] at h
    refine v_aload_n dX14_checkBounds_237 1 rfl rfl ?_
    refine v_aload_n dX14_checkBounds_238 1 rfl rfl ?_
    refine v_getS (f := 17) (t := 95) cf14 oc87 rfl rfl rfl (by decide) q2387 dX14_checkBounds_239 ?_
    refine v_iload dX14_checkBounds_242 0 rfl ?_
    obtain ⟨g6, h⟩ := gd_some h
    refine v_iald oc95 r3 g6.1 g6.2 dX14_checkBounds_244 ?_
    obtain ⟨s7, e8, h⟩ := bdv_some h
    have k9 := c_X14_first e8 (gE_rg _ _ _)
    refine v_callV (st := []) cf14 oc87 k9 (lw_V q3093 q3095 qs203 q311 q3096) rfl yk_X14_first ⟨Nat.le_of_ble_eq_true rfl, Nat.le_of_ble_eq_true rfl⟩ trivial ⟨kc87, trivial⟩ (Nat.le_of_ble_eq_true rfl) rfl dX14_checkBounds_245 ?_
    refine v_sub [1, 2, 3, 4, 5, 0] (L1 := [(0, vO 87), (1, vI x1), (2, vI x2), (3, vI x3), (4, vI x4), (5, vI y1)]) rfl ?_
    exact wj_X14_checkBounds_248 h rx1 rx2 rx3 rx4 r3 hrec hE

def j_X14_checkBounds_200 (rec : Int → Int → Int → Int → vS → Option (vS)) (x1 : Int) (x2 : Int) (x3 : Int) (x4 : Int) (z1 : Int) (z2 : Int) (s : vS) : Option (vS) :=
  gd (inb z1 (gN s 131)) <|
  stp (sE s 131 z1 z2) fun s2 =>
  gd (inb x4 (gN s2 126)) <|
  gd (inb x4 (gN s2 127)) <|
  if (gZ s2 127 x4) = 0 then
    j_X14_checkBounds_223 rec x1 x2 x3 x4 (gE s2 126 x4) 0 s2
  else
    j_X14_checkBounds_223 rec x1 x2 x3 x4 (gE s2 126 x4) 1 s2
theorem wj_X14_checkBounds_200 {x1 : Int} {x2 : Int} {x3 : Int} {x4 : Int} {z1 : Int} {z2 : Int} {s : vS} {rv : Option vA} {σo : vS} {rec : Int → Int → Int → Int → vS → Option (vS)} {q : vS} (h : j_X14_checkBounds_200 rec x1 x2 x3 x4 z1 z2 s = some q)  (rx1 : rg x1) (rx2 : rg x2) (rx3 : rg x3) (rx4 : rg x4) (rz1 : rg z1) (rz2 : rg z2) (hrec : ∀ (y4 : Int) (s : vS) (q : vS), rec x1 x2 x3 y4 s = some q → rg y4 → E_X14_checkBounds_92 x1 x2 x3 rv σo q → VW cX14_checkBounds (RX14, rv, σo, none, 6, 149, 6, []) (P0 []) s 92 [(0, vO 87), (1, vI x1), (2, vI x2), (3, vI x3), (4, vI y4)] []) (hE : E_X14_checkBounds_92 x1 x2 x3 rv σo q) : VW cX14_checkBounds (RX14, rv, σo, none, 6, 149, 6, []) (P0 []) s 200 [(0, vO 87), (1, vI x1), (2, vI x2), (3, vI x3), (4, vI x4)] [vI z2, vI z1, vO 131] := by
  unfold j_X14_checkBounds_200 at h
  obtain ⟨g1, h⟩ := gd_some h
  obtain ⟨s2, e3, h⟩ := stp_some h
  refine v_iast oc131 rz1 g1.1 g1.2 dX14_checkBounds_200 ?_
  rw [← e3]
  refine v_aload_n dX14_checkBounds_201 0 rfl rfl ?_
  refine v_getS (f := 55) (t := 126) cf14 oc87 rfl rfl rfl (by decide) q2425 dX14_checkBounds_202 ?_
  refine v_iload dX14_checkBounds_205 4 rfl ?_
  obtain ⟨g4, h⟩ := gd_some h
  refine v_iald oc126 rx4 g4.1 g4.2 dX14_checkBounds_207 ?_
  refine v_aload_n dX14_checkBounds_208 0 rfl rfl ?_
  refine v_getS (f := 56) (t := 127) cf14 oc87 rfl rfl rfl (by decide) q2426 dX14_checkBounds_209 ?_
  refine v_iload dX14_checkBounds_212 4 rfl ?_
  obtain ⟨g5, h⟩ := gd_some h
  refine v_zald oc127 rx4 g5.1 g5.2 dX14_checkBounds_214 ?_
  refine v_if_eq (tgt := 222) dX14_checkBounds_215 (gZ_rg _ _ _) (by decide) (fun c6 => ?_) (fun c6 => ?_)
  · rw [if_pos c6] at h
    refine v_iconst dX14_checkBounds_222 ?_
    exact wj_X14_checkBounds_223 h rx1 rx2 rx3 rx4 (gE_rg _ _ _) (rgl rfl) hrec hE
  · rw [if_neg c6] at h
    refine v_iconst dX14_checkBounds_218 ?_
    refine v_goto (tgt := 223) dX14_checkBounds_219 (by decide) ?_
    exact wj_X14_checkBounds_223 h rx1 rx2 rx3 rx4 (gE_rg _ _ _) (rgl rfl) hrec hE

def l_X14_checkBounds_92 : Nat → Int → Int → Int → Int → vS → Option (vS)
  | 0, _, _, _, _, _ => none
  | n + 1, x1, x2, x3, x4, s =>
    gd (inb x3 (gN s 123)) <|
    gd (inb x3 (gN s 124)) <|
    if (w32 ((gE s 123 x3) + (gE s 124 x3))) ≤ x4 then
      some s
    else
      gd (inb x4 (gN s 126)) <|
      gd (inb x4 (gN s 127)) <|
      gd (inb x3 (gN s 122)) <|
      bd (f_X14_boundOf x1 (gE s 126 x4) (gZ s 127 x4) (gZ s 122 x3) s) fun r10 s7 =>
      gd (gN s7 130 = gN s 130) <|
      gd (inb x4 (gN s7 130)) <|
      stp (sE s7 130 x4 r10) fun s14 =>
      gd (inb x4 (gN s14 126)) <|
      gd (inb x4 (gN s14 128)) <|
      if (gE s14 126 x4) = (gE s14 128 x4) then
        gd (inb x4 (gN s14 130)) <|
        j_X14_checkBounds_200 (l_X14_checkBounds_92 n) x1 x2 x3 x4 x4 (gE s14 130 x4) s14
      else
        gd (inb x4 (gN s14 128)) <|
        gd (inb x4 (gN s14 129)) <|
        gd (inb x3 (gN s14 122)) <|
        bd (f_X14_boundOf x1 (gE s14 128 x4) (gZ s14 129 x4) (gZ s14 122 x3) s14) fun r25 s22 =>
        gd (gN s22 131 = gN s14 131) <|
        j_X14_checkBounds_200 (l_X14_checkBounds_92 n) x1 x2 x3 x4 x4 r25 s22
theorem wl_X14_checkBounds_92 {x1 : Int} {x2 : Int} {x3 : Int} {rv : Option vA} {σo : vS}  (rx1 : rg x1) (rx2 : rg x2) (rx3 : rg x3) : ∀ (n : Nat) (x4 : Int) (s : vS) (q : vS), l_X14_checkBounds_92 n x1 x2 x3 x4 s = some q → rg x4 → E_X14_checkBounds_92 x1 x2 x3 rv σo q → VW cX14_checkBounds (RX14, rv, σo, none, 6, 149, 6, []) (P0 []) s 92 [(0, vO 87), (1, vI x1), (2, vI x2), (3, vI x3), (4, vI x4)] [] := by
  intro n
  induction n with
  | zero => intro x4 s q h; cases h
  | succ n ih =>
    intro x4 s q h rx4 hE
    unfold l_X14_checkBounds_92 at h
    refine v_iload dX14_checkBounds_92 4 rfl ?_
    refine v_aload_n dX14_checkBounds_94 0 rfl rfl ?_
    refine v_getS (f := 51) (t := 123) cf14 oc87 rfl rfl rfl (by decide) q2421 dX14_checkBounds_95 ?_
    refine v_iload_n dX14_checkBounds_98 3 rfl rfl ?_
    obtain ⟨g1, h⟩ := gd_some h
    refine v_iald oc123 rx3 g1.1 g1.2 dX14_checkBounds_99 ?_
    refine v_aload_n dX14_checkBounds_100 0 rfl rfl ?_
    refine v_getS (f := 52) (t := 124) cf14 oc87 rfl rfl rfl (by decide) q2422 dX14_checkBounds_101 ?_
    refine v_iload_n dX14_checkBounds_104 3 rfl rfl ?_
    obtain ⟨g2, h⟩ := gd_some h
    refine v_iald oc124 rx3 g2.1 g2.2 dX14_checkBounds_105 ?_
    refine v_iadd dX14_checkBounds_106 ?_
    refine v_icmp_ge (tgt := 351) dX14_checkBounds_107 rx4 (w32_rg _) (by decide) (fun c3 => ?_) (fun c3 => ?_)
    · rw [if_pos c3] at h
      cases h
      refine v_sub [0, 1, 2, 3] (L1 := [(0, vO 87), (1, vI x1), (2, vI x2), (3, vI x3)]) rfl ?_
      exact hE _ rfl 
    · rw [if_neg c3] at h
      refine v_aload_n dX14_checkBounds_110 0 rfl rfl ?_
      refine v_getS (f := 59) (t := 130) cf14 oc87 rfl rfl rfl (by decide) q2429 dX14_checkBounds_111 ?_
      refine v_iload dX14_checkBounds_114 4 rfl ?_
      refine v_aload_n dX14_checkBounds_116 0 rfl rfl ?_
      refine v_iload_n dX14_checkBounds_117 1 rfl rfl ?_
      refine v_aload_n dX14_checkBounds_118 0 rfl rfl ?_
      refine v_getS (f := 55) (t := 126) cf14 oc87 rfl rfl rfl (by decide) q2425 dX14_checkBounds_119 ?_
      refine v_iload dX14_checkBounds_122 4 rfl ?_
      obtain ⟨g4, h⟩ := gd_some h
      refine v_iald oc126 rx4 g4.1 g4.2 dX14_checkBounds_124 ?_
      refine v_aload_n dX14_checkBounds_125 0 rfl rfl ?_
      refine v_getS (f := 56) (t := 127) cf14 oc87 rfl rfl rfl (by decide) q2426 dX14_checkBounds_126 ?_
      refine v_iload dX14_checkBounds_129 4 rfl ?_
      obtain ⟨g5, h⟩ := gd_some h
      refine v_zald oc127 rx4 g5.1 g5.2 dX14_checkBounds_131 ?_
      refine v_aload_n dX14_checkBounds_132 0 rfl rfl ?_
      refine v_getS (f := 50) (t := 122) cf14 oc87 rfl rfl rfl (by decide) q2420 dX14_checkBounds_133 ?_
      refine v_iload_n dX14_checkBounds_136 3 rfl rfl ?_
      obtain ⟨g6, h⟩ := gd_some h
      refine v_zald oc122 rx3 g6.1 g6.2 dX14_checkBounds_137 ?_
      obtain ⟨r10, s7, e8, h⟩ := bd_some h
      have k9 := c_X14_boundOf e8 rx1 (gE_rg _ _ _) (gZ_rg _ _ _) (gZ_rg _ _ _)
      have r11 : rg r10 := k9.1.2.2
      obtain ⟨g12, h⟩ := gd_some h
      refine v_callV (st := [vI x4, vO 130]) cf14 oc87 k9 (lw_V q3187 q3189 qs225 q311 q3190) rfl yk_X14_boundOf ⟨Nat.le_of_ble_eq_true rfl, Nat.le_of_ble_eq_true rfl⟩ ⟨(kp_arr (by decide) g12), trivial⟩ ⟨kc87, trivial⟩ (Nat.le_of_ble_eq_true rfl) rfl dX14_checkBounds_138 ?_
      obtain ⟨g13, h⟩ := gd_some h
      obtain ⟨s14, e15, h⟩ := stp_some h
      refine v_iast oc130 rx4 g13.1 g13.2 dX14_checkBounds_141 ?_
      rw [← e15]
      refine v_aload_n dX14_checkBounds_142 0 rfl rfl ?_
      refine v_getS (f := 60) (t := 131) cf14 oc87 rfl rfl rfl (by decide) q2430 dX14_checkBounds_143 ?_
      refine v_iload dX14_checkBounds_146 4 rfl ?_
      refine v_aload_n dX14_checkBounds_148 0 rfl rfl ?_
      refine v_getS (f := 55) (t := 126) cf14 oc87 rfl rfl rfl (by decide) q2425 dX14_checkBounds_149 ?_
      refine v_iload dX14_checkBounds_152 4 rfl ?_
      obtain ⟨g16, h⟩ := gd_some h
      refine v_iald oc126 rx4 g16.1 g16.2 dX14_checkBounds_154 ?_
      refine v_aload_n dX14_checkBounds_155 0 rfl rfl ?_
      refine v_getS (f := 57) (t := 128) cf14 oc87 rfl rfl rfl (by decide) q2427 dX14_checkBounds_156 ?_
      refine v_iload dX14_checkBounds_159 4 rfl ?_
      obtain ⟨g17, h⟩ := gd_some h
      refine v_iald oc128 rx4 g17.1 g17.2 dX14_checkBounds_161 ?_
      refine v_icmp_ne (tgt := 175) dX14_checkBounds_162 (gE_rg _ _ _) (gE_rg _ _ _) (by decide) (fun c18 => ?_) (fun c18 => ?_)
      · rw [if_neg c18] at h
        refine v_aload_n dX14_checkBounds_175 0 rfl rfl ?_
        refine v_iload_n dX14_checkBounds_176 1 rfl rfl ?_
        refine v_aload_n dX14_checkBounds_177 0 rfl rfl ?_
        refine v_getS (f := 57) (t := 128) cf14 oc87 rfl rfl rfl (by decide) q2427 dX14_checkBounds_178 ?_
        refine v_iload dX14_checkBounds_181 4 rfl ?_
        obtain ⟨g19, h⟩ := gd_some h
        refine v_iald oc128 rx4 g19.1 g19.2 dX14_checkBounds_183 ?_
        refine v_aload_n dX14_checkBounds_184 0 rfl rfl ?_
        refine v_getS (f := 58) (t := 129) cf14 oc87 rfl rfl rfl (by decide) q2428 dX14_checkBounds_185 ?_
        refine v_iload dX14_checkBounds_188 4 rfl ?_
        obtain ⟨g20, h⟩ := gd_some h
        refine v_zald oc129 rx4 g20.1 g20.2 dX14_checkBounds_190 ?_
        refine v_aload_n dX14_checkBounds_191 0 rfl rfl ?_
        refine v_getS (f := 50) (t := 122) cf14 oc87 rfl rfl rfl (by decide) q2420 dX14_checkBounds_192 ?_
        refine v_iload_n dX14_checkBounds_195 3 rfl rfl ?_
        obtain ⟨g21, h⟩ := gd_some h
        refine v_zald oc122 rx3 g21.1 g21.2 dX14_checkBounds_196 ?_
        obtain ⟨r25, s22, e23, h⟩ := bd_some h
        have k24 := c_X14_boundOf e23 rx1 (gE_rg _ _ _) (gZ_rg _ _ _) (gZ_rg _ _ _)
        have r26 : rg r25 := k24.1.2.2
        obtain ⟨g27, h⟩ := gd_some h
        refine v_callV (st := [vI x4, vO 131]) cf14 oc87 k24 (lw_V q3187 q3189 qs225 q311 q3190) rfl yk_X14_boundOf ⟨Nat.le_of_ble_eq_true rfl, Nat.le_of_ble_eq_true rfl⟩ ⟨(kp_arr (by decide) g27), trivial⟩ ⟨kc87, trivial⟩ (Nat.le_of_ble_eq_true rfl) rfl dX14_checkBounds_197 ?_
        exact wj_X14_checkBounds_200 h rx1 rx2 rx3 rx4 rx4 r26 ih hE
      · rw [if_pos c18] at h
        refine v_aload_n dX14_checkBounds_165 0 rfl rfl ?_
        refine v_getS (f := 59) (t := 130) cf14 oc87 rfl rfl rfl (by decide) q2429 dX14_checkBounds_166 ?_
        refine v_iload dX14_checkBounds_169 4 rfl ?_
        obtain ⟨g28, h⟩ := gd_some h
        refine v_iald oc130 rx4 g28.1 g28.2 dX14_checkBounds_171 ?_
        refine v_goto (tgt := 200) dX14_checkBounds_172 (by decide) ?_
        exact wj_X14_checkBounds_200 h rx1 rx2 rx3 rx4 rx4 (gE_rg _ _ _) ih hE

def j_X14_checkBounds_69 (rec : Int → Int → Int → vS → Option (vS)) (x1 : Int) (x2 : Int) (x3 : Int) (s : vS) : Option (vS) :=
  gd (inb x3 (gN s 121)) <|
  gd (inb (gE s 121 x3) (gN s 95)) <|
  bdv (f_X14_first (gE s 95 (gE s 121 x3)) s) fun s3 =>
  gd (inb x3 (gN s3 123)) <|
  vl (gE s3 123 x3) fun y7 =>
  lq_0 (l_X14_checkBounds_92 FU x1 x2 x3 y7 s3) fun s10 =>
  gd (inb x3 (gN s10 125)) <|
  vl (gE s10 125 x3) fun y13 =>
  rec x1 x2 y13 s10
theorem wj_X14_checkBounds_69 {x1 : Int} {x2 : Int} {x3 : Int} {s : vS} {rv : Option vA} {σo : vS} {rec : Int → Int → Int → vS → Option (vS)} {q : vS} (h : j_X14_checkBounds_69 rec x1 x2 x3 s = some q)  (rx1 : rg x1) (rx2 : rg x2) (rx3 : rg x3) (hrec : ∀ (y3 : Int) (s : vS) (q : vS), rec x1 x2 y3 s = some q → rg y3 → E_X14_checkBounds_41 x1 rv σo q → VW cX14_checkBounds (RX14, rv, σo, none, 6, 149, 6, []) (P0 []) s 41 [(0, vO 87), (1, vI x1), (2, vI x2), (3, vI y3)] []) (hE : E_X14_checkBounds_41 x1 rv σo q) : VW cX14_checkBounds (RX14, rv, σo, none, 6, 149, 6, []) (P0 []) s 69 [(0, vO 87), (1, vI x1), (2, vI x2), (3, vI x3)] [] := by
  unfold j_X14_checkBounds_69 at h
  refine v_aload_n dX14_checkBounds_69 0 rfl rfl ?_
  refine v_aload_n dX14_checkBounds_70 0 rfl rfl ?_
  refine v_getS (f := 17) (t := 95) cf14 oc87 rfl rfl rfl (by decide) q2387 dX14_checkBounds_71 ?_
  refine v_aload_n dX14_checkBounds_74 0 rfl rfl ?_
  refine v_getS (f := 49) (t := 121) cf14 oc87 rfl rfl rfl (by decide) q2419 dX14_checkBounds_75 ?_
  refine v_iload_n dX14_checkBounds_78 3 rfl rfl ?_
  obtain ⟨g1, h⟩ := gd_some h
  refine v_iald oc121 rx3 g1.1 g1.2 dX14_checkBounds_79 ?_
  obtain ⟨g2, h⟩ := gd_some h
  refine v_iald oc95 (gE_rg _ _ _) g2.1 g2.2 dX14_checkBounds_80 ?_
  obtain ⟨s3, e4, h⟩ := bdv_some h
  have k5 := c_X14_first e4 (gE_rg _ _ _)
  refine v_callV (st := []) cf14 oc87 k5 (lw_V q3093 q3095 qs203 q311 q3096) rfl yk_X14_first ⟨Nat.le_of_ble_eq_true rfl, Nat.le_of_ble_eq_true rfl⟩ trivial ⟨kc87, trivial⟩ (Nat.le_of_ble_eq_true rfl) rfl dX14_checkBounds_81 ?_
  refine v_aload_n dX14_checkBounds_84 0 rfl rfl ?_
  refine v_getS (f := 51) (t := 123) cf14 oc87 rfl rfl rfl (by decide) q2421 dX14_checkBounds_85 ?_
  refine v_iload_n dX14_checkBounds_88 3 rfl rfl ?_
  obtain ⟨g6, h⟩ := gd_some h
  refine v_iald oc123 rx3 g6.1 g6.2 dX14_checkBounds_89 ?_
  obtain ⟨y7, e8, h⟩ := vl_some h
  rw [← e8]
  have r9 : rg y7 := by rw [e8]; exact gE_rg _ _ _
  refine v_istore (L1 := [(4, vI y7), (0, vO 87), (1, vI x1), (2, vI x2), (3, vI x3)]) dX14_checkBounds_90 (by decide) rfl ?_
  refine v_sub [1, 2, 3, 4, 0] (L1 := [(0, vO 87), (1, vI x1), (2, vI x2), (3, vI x3), (4, vI y7)]) rfl ?_
  obtain ⟨s10, e11, h⟩ := lq_0_some h
  refine wl_X14_checkBounds_92 rx1 rx2 rx3 FU y7 s3 _ e11 r9 ?_
  unfold E_X14_checkBounds_92
  intro s10' z_
  cases z_
  refine v_aload_n dX14_checkBounds_351 0 rfl rfl ?_
  refine v_getS (f := 53) (t := 125) cf14 oc87 rfl rfl rfl (by decide) q2423 dX14_checkBounds_352 ?_
  refine v_iload_n dX14_checkBounds_355 3 rfl rfl ?_
  obtain ⟨g12, h⟩ := gd_some h
  refine v_iald oc125 rx3 g12.1 g12.2 dX14_checkBounds_356 ?_
  obtain ⟨y13, e14, h⟩ := vl_some h
  rw [← e14]
  have r15 : rg y13 := by rw [e14]; exact gE_rg _ _ _
  refine v_istore_n (L1 := [(3, vI y13), (0, vO 87), (1, vI x1), (2, vI x2)]) dX14_checkBounds_357 rfl (by decide) rfl ?_
  refine v_goto (tgt := 41) dX14_checkBounds_358 (by decide) ?_
  refine v_sub [1, 2, 3, 0] (L1 := [(0, vO 87), (1, vI x1), (2, vI x2), (3, vI y13)]) rfl ?_
  exact hrec y13 s10 _ h r15 hE

def l_X14_checkBounds_41 : Nat → Int → Int → Int → vS → Option (vS)
  | 0, _, _, _, _ => none
  | n + 1, x1, x2, x3, s =>
    if x3 < 0 then
      some s
    else
      gd (inb x3 (gN s 122)) <|
      if (gZ s 122 x3) = 0 then
        if x2 = 2 then
          gd (inb x3 (gN s 123)) <|
          vl (gE s 123 x3) fun y6 =>
          lq_0 (l_X14_checkBounds_92 FU x1 x2 x3 y6 s) fun s9 =>
          gd (inb x3 (gN s9 125)) <|
          vl (gE s9 125 x3) fun y12 =>
          l_X14_checkBounds_41 n x1 x2 y12 s9
        else
          j_X14_checkBounds_69 (l_X14_checkBounds_41 n) x1 x2 x3 s
      else
        bd (f_X14_hasSizes x2 s) fun r18 s15 =>
        if r18 = 0 then
          j_X14_checkBounds_69 (l_X14_checkBounds_41 n) x1 x2 x3 s15
        else
          gd (inb x3 (gN s15 123)) <|
          vl (gE s15 123 x3) fun y22 =>
          lq_0 (l_X14_checkBounds_92 FU x1 x2 x3 y22 s15) fun s25 =>
          gd (inb x3 (gN s25 125)) <|
          vl (gE s25 125 x3) fun y28 =>
          l_X14_checkBounds_41 n x1 x2 y28 s25
theorem wl_X14_checkBounds_41 {x1 : Int} {x2 : Int} {rv : Option vA} {σo : vS}  (rx1 : rg x1) (rx2 : rg x2) : ∀ (n : Nat) (x3 : Int) (s : vS) (q : vS), l_X14_checkBounds_41 n x1 x2 x3 s = some q → rg x3 → E_X14_checkBounds_41 x1 rv σo q → VW cX14_checkBounds (RX14, rv, σo, none, 6, 149, 6, []) (P0 []) s 41 [(0, vO 87), (1, vI x1), (2, vI x2), (3, vI x3)] [] := by
  intro n
  induction n with
  | zero => intro x3 s q h; cases h
  | succ n ih =>
    intro x3 s q h rx3 hE
    unfold l_X14_checkBounds_41 at h
    refine v_iload_n dX14_checkBounds_41 3 rfl rfl ?_
    refine v_if_lt (tgt := 361) dX14_checkBounds_42 rx3 (by decide) (fun c1 => ?_) (fun c1 => ?_)
    · rw [if_pos c1] at h
      cases h
      refine v_sub [0, 1] (L1 := [(0, vO 87), (1, vI x1)]) rfl ?_
      exact hE _ rfl 
    · rw [if_neg c1] at h
      refine v_aload_n dX14_checkBounds_45 0 rfl rfl ?_
      refine v_getS (f := 50) (t := 122) cf14 oc87 rfl rfl rfl (by decide) q2420 dX14_checkBounds_46 ?_
      refine v_iload_n dX14_checkBounds_49 3 rfl rfl ?_
      obtain ⟨g2, h⟩ := gd_some h
      refine v_zald oc122 rx3 g2.1 g2.2 dX14_checkBounds_50 ?_
      refine v_if_eq (tgt := 64) dX14_checkBounds_51 (gZ_rg _ _ _) (by decide) (fun c3 => ?_) (fun c3 => ?_)
      · rw [if_pos c3] at h
        refine v_iload_n dX14_checkBounds_64 2 rfl rfl ?_
        refine v_iconst dX14_checkBounds_65 ?_
        refine v_icmp_eq (tgt := 84) dX14_checkBounds_66 rx2 (rgl rfl) (by decide) (fun c4 => ?_) (fun c4 => ?_)
        · rw [if_pos c4] at h
          refine v_aload_n dX14_checkBounds_84 0 rfl rfl ?_
          refine v_getS (f := 51) (t := 123) cf14 oc87 rfl rfl rfl (by decide) q2421 dX14_checkBounds_85 ?_
          refine v_iload_n dX14_checkBounds_88 3 rfl rfl ?_
          obtain ⟨g5, h⟩ := gd_some h
          refine v_iald oc123 rx3 g5.1 g5.2 dX14_checkBounds_89 ?_
          obtain ⟨y6, e7, h⟩ := vl_some h
          rw [← e7]
          have r8 : rg y6 := by rw [e7]; exact gE_rg _ _ _
          refine v_istore (L1 := [(4, vI y6), (0, vO 87), (1, vI x1), (2, vI x2), (3, vI x3)]) dX14_checkBounds_90 (by decide) rfl ?_
          refine v_sub [1, 2, 3, 4, 0] (L1 := [(0, vO 87), (1, vI x1), (2, vI x2), (3, vI x3), (4, vI y6)]) rfl ?_
          obtain ⟨s9, e10, h⟩ := lq_0_some h
          refine wl_X14_checkBounds_92 rx1 rx2 rx3 FU y6 s _ e10 r8 ?_
          unfold E_X14_checkBounds_92
          intro s9' z_
          cases z_
          refine v_aload_n dX14_checkBounds_351 0 rfl rfl ?_
          refine v_getS (f := 53) (t := 125) cf14 oc87 rfl rfl rfl (by decide) q2423 dX14_checkBounds_352 ?_
          refine v_iload_n dX14_checkBounds_355 3 rfl rfl ?_
          obtain ⟨g11, h⟩ := gd_some h
          refine v_iald oc125 rx3 g11.1 g11.2 dX14_checkBounds_356 ?_
          obtain ⟨y12, e13, h⟩ := vl_some h
          rw [← e13]
          have r14 : rg y12 := by rw [e13]; exact gE_rg _ _ _
          refine v_istore_n (L1 := [(3, vI y12), (0, vO 87), (1, vI x1), (2, vI x2)]) dX14_checkBounds_357 rfl (by decide) rfl ?_
          refine v_goto (tgt := 41) dX14_checkBounds_358 (by decide) ?_
          refine v_sub [1, 2, 3, 0] (L1 := [(0, vO 87), (1, vI x1), (2, vI x2), (3, vI y12)]) rfl ?_
          exact ih y12 s9 _ h r14 hE
        · rw [if_neg c4] at h
          exact wj_X14_checkBounds_69 h rx1 rx2 rx3 ih hE
      · rw [if_neg c3] at h
        refine v_iload_n dX14_checkBounds_54 2 rfl rfl ?_
        obtain ⟨r18, s15, e16, h⟩ := bd_some h
        have k17 := c_X14_hasSizes e16 rx2
        have r19 : rg r18 := k17.1.2.2
        refine v_callS (st := []) k17 (lw_S q3184 q3185 q311 q3186) yk_X14_hasSizes ⟨Nat.le_of_ble_eq_true rfl, Nat.le_of_ble_eq_true rfl⟩ trivial ⟨kc87, trivial⟩ (Nat.le_of_ble_eq_true rfl) rfl dX14_checkBounds_55 ?_
        refine v_if_ne (tgt := 84) dX14_checkBounds_58 r19 (by decide) (fun c20 => ?_) (fun c20 => ?_)
        · rw [if_neg c20] at h
          refine v_aload_n dX14_checkBounds_84 0 rfl rfl ?_
          refine v_getS (f := 51) (t := 123) cf14 oc87 rfl rfl rfl (by decide) q2421 dX14_checkBounds_85 ?_
          refine v_iload_n dX14_checkBounds_88 3 rfl rfl ?_
          obtain ⟨g21, h⟩ := gd_some h
          refine v_iald oc123 rx3 g21.1 g21.2 dX14_checkBounds_89 ?_
          obtain ⟨y22, e23, h⟩ := vl_some h
          rw [← e23]
          have r24 : rg y22 := by rw [e23]; exact gE_rg _ _ _
          refine v_istore (L1 := [(4, vI y22), (0, vO 87), (1, vI x1), (2, vI x2), (3, vI x3)]) dX14_checkBounds_90 (by decide) rfl ?_
          refine v_sub [1, 2, 3, 4, 0] (L1 := [(0, vO 87), (1, vI x1), (2, vI x2), (3, vI x3), (4, vI y22)]) rfl ?_
          obtain ⟨s25, e26, h⟩ := lq_0_some h
          refine wl_X14_checkBounds_92 rx1 rx2 rx3 FU y22 s15 _ e26 r24 ?_
          unfold E_X14_checkBounds_92
          intro s25' z_
          cases z_
          refine v_aload_n dX14_checkBounds_351 0 rfl rfl ?_
          refine v_getS (f := 53) (t := 125) cf14 oc87 rfl rfl rfl (by decide) q2423 dX14_checkBounds_352 ?_
          refine v_iload_n dX14_checkBounds_355 3 rfl rfl ?_
          obtain ⟨g27, h⟩ := gd_some h
          refine v_iald oc125 rx3 g27.1 g27.2 dX14_checkBounds_356 ?_
          obtain ⟨y28, e29, h⟩ := vl_some h
          rw [← e29]
          have r30 : rg y28 := by rw [e29]; exact gE_rg _ _ _
          refine v_istore_n (L1 := [(3, vI y28), (0, vO 87), (1, vI x1), (2, vI x2)]) dX14_checkBounds_357 rfl (by decide) rfl ?_
          refine v_goto (tgt := 41) dX14_checkBounds_358 (by decide) ?_
          refine v_sub [1, 2, 3, 0] (L1 := [(0, vO 87), (1, vI x1), (2, vI x2), (3, vI y28)]) rfl ?_
          exact ih y28 s25 _ h r30 hE
        · rw [if_pos c20] at h
          refine v_goto (tgt := 69) dX14_checkBounds_61 (by decide) ?_
          exact wj_X14_checkBounds_69 h rx1 rx2 rx3 ih hE

def j_X14_checkBounds_33 (rec : Int → vS → Option (vS)) (x1 : Int) (z0 : Int) (s : vS) : Option (vS) :=
  gd (inb x1 (gN s 107)) <|
  vl (gE s 107 x1) fun y2 =>
  lq_0 (l_X14_checkBounds_41 FU x1 z0 y2 s) fun s5 =>
  vl (w32 (x1 + 1)) fun y7 =>
  rec y7 s5
theorem wj_X14_checkBounds_33 {x1 : Int} {z0 : Int} {s : vS} {rv : Option vA} {σo : vS} {rec : Int → vS → Option (vS)} {q : vS} (h : j_X14_checkBounds_33 rec x1 z0 s = some q)  (rx1 : rg x1) (rz0 : rg z0) (hrec : ∀ (y1 : Int) (s : vS) (q : vS), rec y1 s = some q → rg y1 → E_X14_checkBounds_2 rv σo q → VW cX14_checkBounds (RX14, rv, σo, none, 6, 149, 6, []) (P0 []) s 2 [(0, vO 87), (1, vI y1)] []) (hE : E_X14_checkBounds_2 rv σo q) : VW cX14_checkBounds (RX14, rv, σo, none, 6, 149, 6, []) (P0 []) s 33 [(0, vO 87), (1, vI x1)] [vI z0] := by
  unfold j_X14_checkBounds_33 at h
  refine v_istore_n (L1 := [(2, vI z0), (0, vO 87), (1, vI x1)]) dX14_checkBounds_33 rfl (by decide) rfl ?_
  refine v_aload_n dX14_checkBounds_34 1 rfl rfl ?_
  refine v_getS (f := 31) (t := 107) cf14 oc87 rfl rfl rfl (by decide) q2401 dX14_checkBounds_35 ?_
  refine v_iload_n dX14_checkBounds_38 2 rfl rfl ?_
  obtain ⟨g1, h⟩ := gd_some h
  refine v_iald oc107 rx1 g1.1 g1.2 dX14_checkBounds_39 ?_
  obtain ⟨y2, e3, h⟩ := vl_some h
  rw [← e3]
  have r4 : rg y2 := by rw [e3]; exact gE_rg _ _ _
  refine v_istore_n (L1 := [(3, vI y2), (2, vI z0), (0, vO 87), (1, vI x1)]) dX14_checkBounds_40 rfl (by decide) rfl ?_
  refine v_sub [2, 3, 1, 0] (L1 := [(0, vO 87), (1, vI x1), (2, vI z0), (3, vI y2)]) rfl ?_
  obtain ⟨s5, e6, h⟩ := lq_0_some h
  refine wl_X14_checkBounds_41 rx1 rz0 FU y2 s _ e6 r4 ?_
  unfold E_X14_checkBounds_41
  intro s5' z_
  cases z_
  obtain ⟨y7, e8, h⟩ := vl_some h
  refine v_iinc (L1 := [(1, vI (w32 (x1 + 1))), (0, vO 87)]) dX14_checkBounds_361 1 rfl (by decide) rfl ?_
  rw [← e8]
  have r9 : rg y7 := by rw [e8]; exact w32_rg _
  refine v_goto (tgt := 2) dX14_checkBounds_364 (by decide) ?_
  refine v_sub [1, 0] (L1 := [(0, vO 87), (1, vI y7)]) rfl ?_
  exact hrec y7 s5 _ h r9 hE

def l_X14_checkBounds_2 : Nat → Int → vS → Option (vS)
  | 0, _, _ => none
  | n + 1, x1, s =>
    if (gI s 87 20) ≤ x1 then
      some s
    else
      gd (inb x1 (gN s 107)) <|
      if 0 ≤ (gE s 107 x1) then
        bd (f_X14_root x1 s) fun r7 s4 =>
        gd (gN s4 97 = gN s 97) <|
        gd (inb r7 (gN s4 97)) <|
        j_X14_checkBounds_33 (l_X14_checkBounds_2 n) x1 (gE s4 97 r7) s4
      else
        j_X14_checkBounds_33 (l_X14_checkBounds_2 n) x1 (-1) s
theorem wl_X14_checkBounds_2 {rv : Option vA} {σo : vS}  : ∀ (n : Nat) (x1 : Int) (s : vS) (q : vS), l_X14_checkBounds_2 n x1 s = some q → rg x1 → E_X14_checkBounds_2 rv σo q → VW cX14_checkBounds (RX14, rv, σo, none, 6, 149, 6, []) (P0 []) s 2 [(0, vO 87), (1, vI x1)] [] := by
  intro n
  induction n with
  | zero => intro x1 s q h; cases h
  | succ n ih =>
    intro x1 s q h rx1 hE
    unfold l_X14_checkBounds_2 at h
    refine v_iload_n dX14_checkBounds_2 1 rfl rfl ?_
    refine v_aload_n dX14_checkBounds_3 0 rfl rfl ?_
    refine v_getI (f := 20) cf14 oc87 rfl (by decide) q2390 dX14_checkBounds_4 ?_
    refine v_icmp_ge (tgt := 367) dX14_checkBounds_7 rx1 (gI_rg _ _ _) (by decide) (fun c1 => ?_) (fun c1 => ?_)
    · rw [if_pos c1] at h
      cases h
      refine v_sub [0] (L1 := [(0, vO 87)]) rfl ?_
      exact hE _ rfl 
    · rw [if_neg c1] at h
      refine v_aload_n dX14_checkBounds_10 0 rfl rfl ?_
      refine v_getS (f := 31) (t := 107) cf14 oc87 rfl rfl rfl (by decide) q2401 dX14_checkBounds_11 ?_
      refine v_iload_n dX14_checkBounds_14 1 rfl rfl ?_
      obtain ⟨g2, h⟩ := gd_some h
      refine v_iald oc107 rx1 g2.1 g2.2 dX14_checkBounds_15 ?_
      refine v_if_ge (tgt := 23) dX14_checkBounds_16 (gE_rg _ _ _) (by decide) (fun c3 => ?_) (fun c3 => ?_)
      · rw [if_pos c3] at h
        refine v_aload_n dX14_checkBounds_23 0 rfl rfl ?_
        refine v_getS (f := 21) (t := 97) cf14 oc87 rfl rfl rfl (by decide) q2391 dX14_checkBounds_24 ?_
        refine v_aload_n dX14_checkBounds_27 0 rfl rfl ?_
        refine v_iload_n dX14_checkBounds_28 1 rfl rfl ?_
        obtain ⟨r7, s4, e5, h⟩ := bd_some h
        have k6 := c_X14_root e5 rx1
        have r8 : rg r7 := k6.1.2.2
        obtain ⟨g9, h⟩ := gd_some h
        refine v_callV (st := [vO 97]) cf14 oc87 k6 (lw_V q3129 q3131 qs212 q311 q3132) rfl yk_X14_root ⟨Nat.le_of_ble_eq_true rfl, Nat.le_of_ble_eq_true rfl⟩ ⟨(kp_arr (by decide) g9), trivial⟩ ⟨kc87, trivial⟩ (Nat.le_of_ble_eq_true rfl) rfl dX14_checkBounds_29 ?_
        obtain ⟨g10, h⟩ := gd_some h
        refine v_iald oc97 r8 g10.1 g10.2 dX14_checkBounds_32 ?_
        exact wj_X14_checkBounds_33 h rx1 (gE_rg _ _ _) ih hE
      · rw [if_neg c3] at h
        refine v_iconst dX14_checkBounds_19 ?_
        refine v_goto (tgt := 33) dX14_checkBounds_20 (by decide) ?_
        exact wj_X14_checkBounds_33 h rx1 (rgl rfl) ih hE

def f_X14_checkBounds (s : vS) : Option (vS) :=
  lq_0 (l_X14_checkBounds_2 FU 0 s) fun s1 =>
  bdv (f_X14_told 11 s1) fun s3 =>
  some s3
theorem yk_X14_checkBounds : yOk yX14_checkBounds 0 := ⟨by decide, by decide, by decide +kernel⟩
theorem c_X14_checkBounds {s : vS} {out : vS} (h : f_X14_checkBounds s = some out)   : VC yX14_checkBounds cX14_checkBounds 6 none 6 149 [vO 87] s none out [] := by
  unfold f_X14_checkBounds at h
  refine VC.of RX14 (by decide) rfl (Nat.le_of_ble_eq_true rfl) ?_
  show VW cX14_checkBounds (RX14, none, out, none, 6, 149, 6, []) (P0 []) s 0 [(0, vO 87)] []
  refine v_iconst dX14_checkBounds_0 ?_
  refine v_istore_n (L1 := [(1, vI 0), (0, vO 87)]) dX14_checkBounds_1 rfl (by decide) rfl ?_
  refine v_sub [1, 0] (L1 := [(0, vO 87), (1, vI 0)]) rfl ?_
  obtain ⟨s1, e2, h⟩ := lq_0_some h
  refine wl_X14_checkBounds_2  FU 0 s _ e2 (rgl rfl) ?_
  unfold E_X14_checkBounds_2
  intro s1' z_
  cases z_
  refine v_aload_n dX14_checkBounds_367 0 rfl rfl ?_
  refine v_bipush dX14_checkBounds_368 rfl ?_
  obtain ⟨s3, e4, h⟩ := bdv_some h
  have k5 := c_X14_told e4 (rgl rfl)
  refine v_callV (st := []) cf14 oc87 k5 (lw_V q3101 q3103 qs205 q311 q3104) rfl yk_X14_told ⟨Nat.le_of_ble_eq_true rfl, Nat.le_of_ble_eq_true rfl⟩ trivial ⟨kc87, trivial⟩ (Nat.le_of_ble_eq_true rfl) rfl dX14_checkBounds_370 ?_
  cases h
  exact v_vret dX14_checkBounds_373

def E_X14_isIn_10 (rv : Option vA) (σo : vS) (q : Int × vS) : Prop := ∀ (x3' : Int) (s' : vS), q = (x3', s') → rg x3' → VW cX14_isIn (RX14, rv, σo, (some .boolean), 1, 25, 7, []) (P0 []) s' 142 [(3, vI x3')] []
def j_X14_isIn_118 (rec : Int → Int → Int → Int → vS → Option (Int × vS)) (x1 : Int) (x2 : Int) (x4 : Int) (x5 : Int) (z0 : Int) (s : vS) : Option (Int × vS) :=
  if x5 = 0 then
    vl (w32 (x4 + 1)) fun y2 =>
    rec x1 x2 0 y2 s
  else
    if z0 = 0 then
      vl (w32 (x4 + 1)) fun y6 =>
      rec x1 x2 0 y6 s
    else
      vl (w32 (x4 + 1)) fun y9 =>
      rec x1 x2 1 y9 s
theorem wj_X14_isIn_118 {x1 : Int} {x2 : Int} {x4 : Int} {x5 : Int} {z0 : Int} {s : vS} {rv : Option vA} {σo : vS} {rec : Int → Int → Int → Int → vS → Option (Int × vS)} {q : Int × vS} (h : j_X14_isIn_118 rec x1 x2 x4 x5 z0 s = some q)  (rx1 : rg x1) (rx2 : rg x2) (rx4 : rg x4) (rx5 : rg x5) (rz0 : rg z0) (hrec : ∀ (y3 : Int) (y4 : Int) (s : vS) (q : Int × vS), rec x1 x2 y3 y4 s = some q → rg y3 → rg y4 → E_X14_isIn_10 rv σo q → VW cX14_isIn (RX14, rv, σo, (some .boolean), 1, 25, 7, []) (P0 []) s 10 [(0, vO 87), (1, vI x1), (2, vI x2), (3, vI y3), (4, vI y4)] []) (hE : E_X14_isIn_10 rv σo q) : VW cX14_isIn (RX14, rv, σo, (some .boolean), 1, 25, 7, []) (P0 []) s 118 [(0, vO 87), (1, vI x1), (2, vI x2), (4, vI x4), (5, vI x5)] [vI z0] := by
  unfold j_X14_isIn_118 at h
  refine v_istore (L1 := [(6, vI z0), (0, vO 87), (1, vI x1), (2, vI x2), (4, vI x4), (5, vI x5)]) dX14_isIn_118 (by decide) rfl ?_
  refine v_iload dX14_isIn_120 5 rfl ?_
  refine v_if_eq (tgt := 134) dX14_isIn_122 rx5 (by decide) (fun c1 => ?_) (fun c1 => ?_)
  · rw [if_pos c1] at h
    refine v_iconst dX14_isIn_134 ?_
    refine v_istore_n (L1 := [(3, vI 0), (6, vI z0), (0, vO 87), (1, vI x1), (2, vI x2), (4, vI x4), (5, vI x5)]) dX14_isIn_135 rfl (by decide) rfl ?_
    obtain ⟨y2, e3, h⟩ := vl_some h
    refine v_iinc (L1 := [(4, vI (w32 (x4 + 1))), (3, vI 0), (6, vI z0), (0, vO 87), (1, vI x1), (2, vI x2), (5, vI x5)]) dX14_isIn_136 5 rfl (by decide) rfl ?_
    rw [← e3]
    have r4 : rg y2 := by rw [e3]; exact w32_rg _
    refine v_goto (tgt := 10) dX14_isIn_139 (by decide) ?_
    refine v_sub [3, 4, 5, 1, 0] (L1 := [(0, vO 87), (1, vI x1), (2, vI x2), (3, vI 0), (4, vI y2)]) rfl ?_
    exact hrec 0 y2 s _ h (rgl rfl) r4 hE
  · rw [if_neg c1] at h
    refine v_iload dX14_isIn_125 0 rfl ?_
    refine v_if_eq (tgt := 134) dX14_isIn_127 rz0 (by decide) (fun c5 => ?_) (fun c5 => ?_)
    · rw [if_pos c5] at h
      refine v_iconst dX14_isIn_134 ?_
      refine v_istore_n (L1 := [(3, vI 0), (6, vI z0), (0, vO 87), (1, vI x1), (2, vI x2), (4, vI x4), (5, vI x5)]) dX14_isIn_135 rfl (by decide) rfl ?_
      obtain ⟨y6, e7, h⟩ := vl_some h
      refine v_iinc (L1 := [(4, vI (w32 (x4 + 1))), (3, vI 0), (6, vI z0), (0, vO 87), (1, vI x1), (2, vI x2), (5, vI x5)]) dX14_isIn_136 5 rfl (by decide) rfl ?_
      rw [← e7]
      have r8 : rg y6 := by rw [e7]; exact w32_rg _
      refine v_goto (tgt := 10) dX14_isIn_139 (by decide) ?_
      refine v_sub [3, 4, 5, 1, 0] (L1 := [(0, vO 87), (1, vI x1), (2, vI x2), (3, vI 0), (4, vI y6)]) rfl ?_
      exact hrec 0 y6 s _ h (rgl rfl) r8 hE
    · rw [if_neg c5] at h
      refine v_iconst dX14_isIn_130 ?_
      refine v_goto (tgt := 135) dX14_isIn_131 (by decide) ?_
      refine v_istore_n (L1 := [(3, vI 1), (6, vI z0), (0, vO 87), (1, vI x1), (2, vI x2), (4, vI x4), (5, vI x5)]) dX14_isIn_135 rfl (by decide) rfl ?_
      obtain ⟨y9, e10, h⟩ := vl_some h
      refine v_iinc (L1 := [(4, vI (w32 (x4 + 1))), (3, vI 1), (6, vI z0), (0, vO 87), (1, vI x1), (2, vI x2), (5, vI x5)]) dX14_isIn_136 5 rfl (by decide) rfl ?_
      rw [← e10]
      have r11 : rg y9 := by rw [e10]; exact w32_rg _
      refine v_goto (tgt := 10) dX14_isIn_139 (by decide) ?_
      refine v_sub [3, 4, 5, 1, 0] (L1 := [(0, vO 87), (1, vI x1), (2, vI x2), (3, vI 1), (4, vI y9)]) rfl ?_
      exact hrec 1 y9 s _ h (rgl rfl) r11 hE

def j_X14_isIn_74 (rec : Int → Int → Int → Int → vS → Option (Int × vS)) (x1 : Int) (x2 : Int) (x4 : Int) (z0 : Int) (s : vS) : Option (Int × vS) :=
  gd (inb x4 (gN s 131)) <|
  if (gE s 131 x4) = (-3) then
    j_X14_isIn_118 rec x1 x2 x4 z0 1 s
  else
    gd (inb x4 (gN s 131)) <|
    if (gE s 131 x4) < 0 then
      j_X14_isIn_118 rec x1 x2 x4 z0 0 s
    else
      gd (inb x4 (gN s 131)) <|
      bd (f_X14_compareNumbers x2 (gE s 131 x4) s) fun r9 s6 =>
      if 0 < r9 then
        j_X14_isIn_118 rec x1 x2 x4 z0 0 s6
      else
        j_X14_isIn_118 rec x1 x2 x4 z0 1 s6
theorem wj_X14_isIn_74 {x1 : Int} {x2 : Int} {x4 : Int} {z0 : Int} {s : vS} {rv : Option vA} {σo : vS} {rec : Int → Int → Int → Int → vS → Option (Int × vS)} {q : Int × vS} (h : j_X14_isIn_74 rec x1 x2 x4 z0 s = some q)  (rx1 : rg x1) (rx2 : rg x2) (rx4 : rg x4) (rz0 : rg z0) (hrec : ∀ (y3 : Int) (y4 : Int) (s : vS) (q : Int × vS), rec x1 x2 y3 y4 s = some q → rg y3 → rg y4 → E_X14_isIn_10 rv σo q → VW cX14_isIn (RX14, rv, σo, (some .boolean), 1, 25, 7, []) (P0 []) s 10 [(0, vO 87), (1, vI x1), (2, vI x2), (3, vI y3), (4, vI y4)] []) (hE : E_X14_isIn_10 rv σo q) : VW cX14_isIn (RX14, rv, σo, (some .boolean), 1, 25, 7, []) (P0 []) s 74 [(0, vO 87), (1, vI x1), (2, vI x2), (4, vI x4)] [vI z0] := by
  unfold j_X14_isIn_74 at h
  refine v_istore (L1 := [(5, vI z0), (0, vO 87), (1, vI x1), (2, vI x2), (4, vI x4)]) dX14_isIn_74 (by decide) rfl ?_
  refine v_aload_n dX14_isIn_76 1 rfl rfl ?_
  refine v_getS (f := 60) (t := 131) cf14 oc87 rfl rfl rfl (by decide) q2430 dX14_isIn_77 ?_
  refine v_iload dX14_isIn_80 4 rfl ?_
  obtain ⟨g1, h⟩ := gd_some h
  refine v_iald oc131 rx4 g1.1 g1.2 dX14_isIn_82 ?_
  refine v_bipush dX14_isIn_83 rfl ?_
  refine v_icmp_eq (tgt := 113) dX14_isIn_85 (gE_rg _ _ _) (rgl rfl) (by decide) (fun c2 => ?_) (fun c2 => ?_)
  · rw [if_pos c2] at h
    refine v_iconst dX14_isIn_113 ?_
    refine v_goto (tgt := 118) dX14_isIn_114 (by decide) ?_
    refine v_sub [1, 2, 3, 4, 0] (L1 := [(0, vO 87), (1, vI x1), (2, vI x2), (4, vI x4), (5, vI z0)]) rfl ?_
    exact wj_X14_isIn_118 h rx1 rx2 rx4 rz0 (rgl rfl) hrec hE
  · rw [if_neg c2] at h
    refine v_aload_n dX14_isIn_88 1 rfl rfl ?_
    refine v_getS (f := 60) (t := 131) cf14 oc87 rfl rfl rfl (by decide) q2430 dX14_isIn_89 ?_
    refine v_iload dX14_isIn_92 4 rfl ?_
    obtain ⟨g3, h⟩ := gd_some h
    refine v_iald oc131 rx4 g3.1 g3.2 dX14_isIn_94 ?_
    refine v_if_lt (tgt := 117) dX14_isIn_95 (gE_rg _ _ _) (by decide) (fun c4 => ?_) (fun c4 => ?_)
    · rw [if_pos c4] at h
      refine v_iconst dX14_isIn_117 ?_
      refine v_sub [1, 2, 3, 4, 0] (L1 := [(0, vO 87), (1, vI x1), (2, vI x2), (4, vI x4), (5, vI z0)]) rfl ?_
      exact wj_X14_isIn_118 h rx1 rx2 rx4 rz0 (rgl rfl) hrec hE
    · rw [if_neg c4] at h
      refine v_aload_n dX14_isIn_98 1 rfl rfl ?_
      refine v_iload_n dX14_isIn_99 3 rfl rfl ?_
      refine v_aload_n dX14_isIn_100 1 rfl rfl ?_
      refine v_getS (f := 60) (t := 131) cf14 oc87 rfl rfl rfl (by decide) q2430 dX14_isIn_101 ?_
      refine v_iload dX14_isIn_104 4 rfl ?_
      obtain ⟨g5, h⟩ := gd_some h
      refine v_iald oc131 rx4 g5.1 g5.2 dX14_isIn_106 ?_
      obtain ⟨r9, s6, e7, h⟩ := bd_some h
      have k8 := c_X14_compareNumbers e7 rx2 (gE_rg _ _ _)
      have r10 : rg r9 := k8.1.2.2
      refine v_callV (st := []) cf14 oc87 k8 (lw_V q3097 q3099 qs204 q311 q3100) rfl yk_X14_compareNumbers ⟨Nat.le_of_ble_eq_true rfl, Nat.le_of_ble_eq_true rfl⟩ trivial ⟨kc87, trivial⟩ (Nat.le_of_ble_eq_true rfl) rfl dX14_isIn_107 ?_
      refine v_if_gt (tgt := 117) dX14_isIn_110 r10 (by decide) (fun c11 => ?_) (fun c11 => ?_)
      · rw [if_pos c11] at h
        refine v_iconst dX14_isIn_117 ?_
        refine v_sub [1, 2, 3, 4, 0] (L1 := [(0, vO 87), (1, vI x1), (2, vI x2), (4, vI x4), (5, vI z0)]) rfl ?_
        exact wj_X14_isIn_118 h rx1 rx2 rx4 rz0 (rgl rfl) hrec hE
      · rw [if_neg c11] at h
        refine v_iconst dX14_isIn_113 ?_
        refine v_goto (tgt := 118) dX14_isIn_114 (by decide) ?_
        refine v_sub [1, 2, 3, 4, 0] (L1 := [(0, vO 87), (1, vI x1), (2, vI x2), (4, vI x4), (5, vI z0)]) rfl ?_
        exact wj_X14_isIn_118 h rx1 rx2 rx4 rz0 (rgl rfl) hrec hE

def l_X14_isIn_10 : Nat → Int → Int → Int → Int → vS → Option (Int × vS)
  | 0, _, _, _, _, _ => none
  | n + 1, x1, x2, x3, x4, s =>
    gd (inb x1 (gN s 123)) <|
    gd (inb x1 (gN s 124)) <|
    if (w32 ((gE s 123 x1) + (gE s 124 x1))) ≤ x4 then
      some (x3, s)
    else
      if x3 = 0 then
        gd (inb x4 (gN s 130)) <|
        if (gE s 130 x4) = (-2) then
          j_X14_isIn_74 (l_X14_isIn_10 n) x1 x2 x4 1 s
        else
          gd (inb x4 (gN s 130)) <|
          if (gE s 130 x4) < 0 then
            j_X14_isIn_74 (l_X14_isIn_10 n) x1 x2 x4 0 s
          else
            gd (inb x4 (gN s 130)) <|
            bd (f_X14_compareNumbers (gE s 130 x4) x2 s) fun r13 s10 =>
            if 0 < r13 then
              j_X14_isIn_74 (l_X14_isIn_10 n) x1 x2 x4 0 s10
            else
              j_X14_isIn_74 (l_X14_isIn_10 n) x1 x2 x4 1 s10
      else
        some (x3, s)
theorem wl_X14_isIn_10 {x1 : Int} {x2 : Int} {rv : Option vA} {σo : vS}  (rx1 : rg x1) (rx2 : rg x2) : ∀ (n : Nat) (x3 : Int) (x4 : Int) (s : vS) (q : Int × vS), l_X14_isIn_10 n x1 x2 x3 x4 s = some q → rg x3 → rg x4 → E_X14_isIn_10 rv σo q → VW cX14_isIn (RX14, rv, σo, (some .boolean), 1, 25, 7, []) (P0 []) s 10 [(0, vO 87), (1, vI x1), (2, vI x2), (3, vI x3), (4, vI x4)] [] := by
  intro n
  induction n with
  | zero => intro x3 x4 s q h; cases h
  | succ n ih =>
    intro x3 x4 s q h rx3 rx4 hE
    unfold l_X14_isIn_10 at h
    refine v_iload dX14_isIn_10 4 rfl ?_
    refine v_aload_n dX14_isIn_12 0 rfl rfl ?_
    refine v_getS (f := 51) (t := 123) cf14 oc87 rfl rfl rfl (by decide) q2421 dX14_isIn_13 ?_
    refine v_iload_n dX14_isIn_16 1 rfl rfl ?_
    obtain ⟨g1, h⟩ := gd_some h
    refine v_iald oc123 rx1 g1.1 g1.2 dX14_isIn_17 ?_
    refine v_aload_n dX14_isIn_18 0 rfl rfl ?_
    refine v_getS (f := 52) (t := 124) cf14 oc87 rfl rfl rfl (by decide) q2422 dX14_isIn_19 ?_
    refine v_iload_n dX14_isIn_22 1 rfl rfl ?_
    obtain ⟨g2, h⟩ := gd_some h
    refine v_iald oc124 rx1 g2.1 g2.2 dX14_isIn_23 ?_
    refine v_iadd dX14_isIn_24 ?_
    refine v_icmp_ge (tgt := 142) dX14_isIn_25 rx4 (w32_rg _) (by decide) (fun c3 => ?_) (fun c3 => ?_)
    · rw [if_pos c3] at h
      cases h
      refine v_sub [3] (L1 := [(3, vI x3)]) rfl ?_
      exact hE _ _ rfl rx3
    · rw [if_neg c3] at h
      refine v_iload_n dX14_isIn_28 3 rfl rfl ?_
      refine v_if_ne (tgt := 142) dX14_isIn_29 rx3 (by decide) (fun c4 => ?_) (fun c4 => ?_)
      · rw [if_neg c4] at h
        cases h
        refine v_sub [3] (L1 := [(3, vI x3)]) rfl ?_
        exact hE _ _ rfl rx3
      · rw [if_pos c4] at h
        refine v_aload_n dX14_isIn_32 0 rfl rfl ?_
        refine v_getS (f := 59) (t := 130) cf14 oc87 rfl rfl rfl (by decide) q2429 dX14_isIn_33 ?_
        refine v_iload dX14_isIn_36 4 rfl ?_
        obtain ⟨g5, h⟩ := gd_some h
        refine v_iald oc130 rx4 g5.1 g5.2 dX14_isIn_38 ?_
        refine v_bipush dX14_isIn_39 rfl ?_
        refine v_icmp_eq (tgt := 69) dX14_isIn_41 (gE_rg _ _ _) (rgl rfl) (by decide) (fun c6 => ?_) (fun c6 => ?_)
        · rw [if_pos c6] at h
          refine v_iconst dX14_isIn_69 ?_
          refine v_goto (tgt := 74) dX14_isIn_70 (by decide) ?_
          refine v_sub [0, 1, 2, 4] (L1 := [(0, vO 87), (1, vI x1), (2, vI x2), (4, vI x4)]) rfl ?_
          exact wj_X14_isIn_74 h rx1 rx2 rx4 (rgl rfl) ih hE
        · rw [if_neg c6] at h
          refine v_aload_n dX14_isIn_44 0 rfl rfl ?_
          refine v_getS (f := 59) (t := 130) cf14 oc87 rfl rfl rfl (by decide) q2429 dX14_isIn_45 ?_
          refine v_iload dX14_isIn_48 4 rfl ?_
          obtain ⟨g7, h⟩ := gd_some h
          refine v_iald oc130 rx4 g7.1 g7.2 dX14_isIn_50 ?_
          refine v_if_lt (tgt := 73) dX14_isIn_51 (gE_rg _ _ _) (by decide) (fun c8 => ?_) (fun c8 => ?_)
          · rw [if_pos c8] at h
            refine v_iconst dX14_isIn_73 ?_
            refine v_sub [0, 1, 2, 4] (L1 := [(0, vO 87), (1, vI x1), (2, vI x2), (4, vI x4)]) rfl ?_
            exact wj_X14_isIn_74 h rx1 rx2 rx4 (rgl rfl) ih hE
          · rw [if_neg c8] at h
            refine v_aload_n dX14_isIn_54 0 rfl rfl ?_
            refine v_aload_n dX14_isIn_55 0 rfl rfl ?_
            refine v_getS (f := 59) (t := 130) cf14 oc87 rfl rfl rfl (by decide) q2429 dX14_isIn_56 ?_
            refine v_iload dX14_isIn_59 4 rfl ?_
            obtain ⟨g9, h⟩ := gd_some h
            refine v_iald oc130 rx4 g9.1 g9.2 dX14_isIn_61 ?_
            refine v_iload_n dX14_isIn_62 2 rfl rfl ?_
            obtain ⟨r13, s10, e11, h⟩ := bd_some h
            have k12 := c_X14_compareNumbers e11 (gE_rg _ _ _) rx2
            have r14 : rg r13 := k12.1.2.2
            refine v_callV (st := []) cf14 oc87 k12 (lw_V q3097 q3099 qs204 q311 q3100) rfl yk_X14_compareNumbers ⟨Nat.le_of_ble_eq_true rfl, Nat.le_of_ble_eq_true rfl⟩ trivial ⟨kc87, trivial⟩ (Nat.le_of_ble_eq_true rfl) rfl dX14_isIn_63 ?_
            refine v_if_gt (tgt := 73) dX14_isIn_66 r14 (by decide) (fun c15 => ?_) (fun c15 => ?_)
            · rw [if_pos c15] at h
              refine v_iconst dX14_isIn_73 ?_
              refine v_sub [0, 1, 2, 4] (L1 := [(0, vO 87), (1, vI x1), (2, vI x2), (4, vI x4)]) rfl ?_
              exact wj_X14_isIn_74 h rx1 rx2 rx4 (rgl rfl) ih hE
            · rw [if_neg c15] at h
              refine v_iconst dX14_isIn_69 ?_
              refine v_goto (tgt := 74) dX14_isIn_70 (by decide) ?_
              refine v_sub [0, 1, 2, 4] (L1 := [(0, vO 87), (1, vI x1), (2, vI x2), (4, vI x4)]) rfl ?_
              exact wj_X14_isIn_74 h rx1 rx2 rx4 (rgl rfl) ih hE

def f_X14_isIn (x1 : Int) (x2 : Int) (s : vS) : Option (Int × vS) :=
  gd (inb x1 (gN s 123)) <|
  vl (gE s 123 x1) fun y2 =>
  lq_1 (l_X14_isIn_10 FU x1 x2 0 y2 s) fun y5 s6 =>
  gd (y5 = 0 ∨ y5 = 1) <|
  some (y5, s6)
theorem yk_X14_isIn : yOk yX14_isIn 2 := ⟨by decide, by decide, by decide +kernel⟩
theorem c_X14_isIn {x1 : Int} {x2 : Int} {s : vS} {out : Int × vS} (h : f_X14_isIn x1 x2 s = some out)  (rx1 : rg x1) (rx2 : rg x2) : VC yX14_isIn cX14_isIn 7 (some .boolean) 1 25 [vO 87, vI x1, vI x2] s (some (vI out.1)) out.2 [] := by
  unfold f_X14_isIn at h
  refine VC.of RX14 (by decide) rfl (Nat.le_of_ble_eq_true rfl) ?_
  show VW cX14_isIn (RX14, (some (vI out.1)), out.2, (some .boolean), 1, 25, 7, []) (P0 []) s 0 [(0, vO 87), (1, vI x1), (2, vI x2)] []
  refine v_iconst dX14_isIn_0 ?_
  refine v_istore_n (L1 := [(3, vI 0), (0, vO 87), (1, vI x1), (2, vI x2)]) dX14_isIn_1 rfl (by decide) rfl ?_
  refine v_aload_n dX14_isIn_2 1 rfl rfl ?_
  refine v_getS (f := 51) (t := 123) cf14 oc87 rfl rfl rfl (by decide) q2421 dX14_isIn_3 ?_
  refine v_iload_n dX14_isIn_6 2 rfl rfl ?_
  obtain ⟨g1, h⟩ := gd_some h
  refine v_iald oc123 rx1 g1.1 g1.2 dX14_isIn_7 ?_
  obtain ⟨y2, e3, h⟩ := vl_some h
  rw [← e3]
  have r4 : rg y2 := by rw [e3]; exact gE_rg _ _ _
  refine v_istore (L1 := [(4, vI y2), (3, vI 0), (0, vO 87), (1, vI x1), (2, vI x2)]) dX14_isIn_8 (by decide) rfl ?_
  refine v_sub [2, 3, 4, 1, 0] (L1 := [(0, vO 87), (1, vI x1), (2, vI x2), (3, vI 0), (4, vI y2)]) rfl ?_
  obtain ⟨y5, s6, e7, h⟩ := lq_1_some h
  refine wl_X14_isIn_10 rx1 rx2 FU 0 y2 s _ e7 (rgl rfl) r4 ?_
  unfold E_X14_isIn_10
  intro y5' s6' z_ r8
  cases z_
  refine v_iload_n dX14_isIn_142 0 rfl rfl ?_
  obtain ⟨g9, h⟩ := gd_some h
  cases h
  exact v_zret g9 dX14_isIn_143

def E_X14_holds_6 (rv : Option vA) (σo : vS) (q : Int × vS) : Prop := ∀ (x5' : Int) (s' : vS), q = (x5', s') → rg x5' → VW cX14_holds (RX14, rv, σo, (some .boolean), 2, 51, 7, []) (P0 []) s' 100 [(5, vI x5')] []
def E_X14_holds_25 (x2 : Int) (x3 : Int) (x4 : Int) (rv : Option vA) (σo : vS) (q : Int × vS) : Prop := ∀ (x5' : Int) (s' : vS), q = (x5', s') → rg x5' → VW cX14_holds (RX14, rv, σo, (some .boolean), 2, 51, 7, []) (P0 []) s' 67 [(0, vO 87), (2, vI x2), (3, vI x3), (4, vI x4), (5, vI x5')] []
def l_X14_holds_25 : Nat → Int → Int → Int → Int → Int → vS → Option (Int × vS)
  | 0, _, _, _, _, _, _ => none
  | n + 1, x2, x3, x4, x5, x6, s =>
    if x6 < 0 then
      some (x5, s)
    else
      if x5 = 0 then
        some (x5, s)
      else
        gd (inb x6 (gN s 122)) <|
        if (gZ s 122 x6) = x3 then
          bd (f_X14_isIn x6 x2 s) fun r12 s9 =>
          gd (inb x6 (gN s9 125)) <|
          vl (gE s9 125 x6) fun y15 =>
          l_X14_holds_25 n x2 x3 x4 r12 y15 s9
        else
          gd (inb x6 (gN s 125)) <|
          vl (gE s 125 x6) fun y6 =>
          l_X14_holds_25 n x2 x3 x4 x5 y6 s
theorem wl_X14_holds_25 {x2 : Int} {x3 : Int} {x4 : Int} {rv : Option vA} {σo : vS}  (rx2 : rg x2) (rx3 : rg x3) (rx4 : rg x4) : ∀ (n : Nat) (x5 : Int) (x6 : Int) (s : vS) (q : Int × vS), l_X14_holds_25 n x2 x3 x4 x5 x6 s = some q → rg x5 → rg x6 → E_X14_holds_25 x2 x3 x4 rv σo q → VW cX14_holds (RX14, rv, σo, (some .boolean), 2, 51, 7, []) (P0 []) s 25 [(0, vO 87), (2, vI x2), (3, vI x3), (4, vI x4), (5, vI x5), (6, vI x6)] [] := by
  intro n
  induction n with
  | zero => intro x5 x6 s q h; cases h
  | succ n ih =>
    intro x5 x6 s q h rx5 rx6 hE
    unfold l_X14_holds_25 at h
    refine v_iload dX14_holds_25 5 rfl ?_
    refine v_if_lt (tgt := 67) dX14_holds_27 rx6 (by decide) (fun c1 => ?_) (fun c1 => ?_)
    · rw [if_pos c1] at h
      cases h
      refine v_sub [0, 1, 2, 3, 4] (L1 := [(0, vO 87), (2, vI x2), (3, vI x3), (4, vI x4), (5, vI x5)]) rfl ?_
      exact hE _ _ rfl rx5
    · rw [if_neg c1] at h
      refine v_iload dX14_holds_30 4 rfl ?_
      refine v_if_eq (tgt := 67) dX14_holds_32 rx5 (by decide) (fun c2 => ?_) (fun c2 => ?_)
      · rw [if_pos c2] at h
        cases h
        refine v_sub [0, 1, 2, 3, 4] (L1 := [(0, vO 87), (2, vI x2), (3, vI x3), (4, vI x4), (5, vI x5)]) rfl ?_
        exact hE _ _ rfl rx5
      · rw [if_neg c2] at h
        refine v_aload_n dX14_holds_35 0 rfl rfl ?_
        refine v_getS (f := 50) (t := 122) cf14 oc87 rfl rfl rfl (by decide) q2420 dX14_holds_36 ?_
        refine v_iload dX14_holds_39 5 rfl ?_
        obtain ⟨g3, h⟩ := gd_some h
        refine v_zald oc122 rx6 g3.1 g3.2 dX14_holds_41 ?_
        refine v_iload_n dX14_holds_42 2 rfl rfl ?_
        refine v_icmp_ne (tgt := 55) dX14_holds_43 (gZ_rg _ _ _) rx3 (by decide) (fun c4 => ?_) (fun c4 => ?_)
        · rw [if_neg c4] at h
          refine v_aload_n dX14_holds_55 0 rfl rfl ?_
          refine v_getS (f := 53) (t := 125) cf14 oc87 rfl rfl rfl (by decide) q2423 dX14_holds_56 ?_
          refine v_iload dX14_holds_59 5 rfl ?_
          obtain ⟨g5, h⟩ := gd_some h
          refine v_iald oc125 rx6 g5.1 g5.2 dX14_holds_61 ?_
          obtain ⟨y6, e7, h⟩ := vl_some h
          rw [← e7]
          have r8 : rg y6 := by rw [e7]; exact gE_rg _ _ _
          refine v_istore (L1 := [(6, vI y6), (0, vO 87), (2, vI x2), (3, vI x3), (4, vI x4), (5, vI x5)]) dX14_holds_62 (by decide) rfl ?_
          refine v_goto (tgt := 25) dX14_holds_64 (by decide) ?_
          refine v_sub [1, 2, 3, 4, 5, 0] (L1 := [(0, vO 87), (2, vI x2), (3, vI x3), (4, vI x4), (5, vI x5), (6, vI y6)]) rfl ?_
          exact ih x5 y6 s _ h rx5 r8 hE
        · rw [if_pos c4] at h
          refine v_aload_n dX14_holds_46 0 rfl rfl ?_
          refine v_iload dX14_holds_47 5 rfl ?_
          refine v_iload_n dX14_holds_49 1 rfl rfl ?_
          obtain ⟨r12, s9, e10, h⟩ := bd_some h
          have k11 := c_X14_isIn e10 rx6 rx2
          have r13 : rg r12 := k11.1.2.2
          refine v_callV (st := []) cf14 oc87 k11 (lw_V q3219 q3221 qs233 q311 q3222) rfl yk_X14_isIn ⟨Nat.le_of_ble_eq_true rfl, Nat.le_of_ble_eq_true rfl⟩ trivial ⟨kc87, trivial⟩ (Nat.le_of_ble_eq_true rfl) rfl dX14_holds_50 ?_
          refine v_istore (L1 := [(5, vI r12), (0, vO 87), (2, vI x2), (3, vI x3), (4, vI x4), (6, vI x6)]) dX14_holds_53 (by decide) rfl ?_
          refine v_aload_n dX14_holds_55 1 rfl rfl ?_
          refine v_getS (f := 53) (t := 125) cf14 oc87 rfl rfl rfl (by decide) q2423 dX14_holds_56 ?_
          refine v_iload dX14_holds_59 5 rfl ?_
          obtain ⟨g14, h⟩ := gd_some h
          refine v_iald oc125 rx6 g14.1 g14.2 dX14_holds_61 ?_
          obtain ⟨y15, e16, h⟩ := vl_some h
          rw [← e16]
          have r17 : rg y15 := by rw [e16]; exact gE_rg _ _ _
          refine v_istore (L1 := [(6, vI y15), (5, vI r12), (0, vO 87), (2, vI x2), (3, vI x3), (4, vI x4)]) dX14_holds_62 (by decide) rfl ?_
          refine v_goto (tgt := 25) dX14_holds_64 (by decide) ?_
          refine v_sub [2, 3, 4, 5, 1, 0] (L1 := [(0, vO 87), (2, vI x2), (3, vI x3), (4, vI x4), (5, vI r12), (6, vI y15)]) rfl ?_
          exact ih r12 y15 s9 _ h r13 r17 hE

def j_X14_holds_67 (rec : Int → Int → Int → Int → vS → Option (Int × vS)) (x2 : Int) (x3 : Int) (x4 : Int) (x5 : Int) (s : vS) : Option (Int × vS) :=
  gd (inb x4 (gN s 97)) <|
  if (gE s 97 x4) = 17 then
    gd (inb x4 (gN s 101)) <|
    gd (inb (gE s 101 x4) (gN s 142)) <|
    vl (gE s 142 (gE s 101 x4)) fun y5 =>
    rec x2 x3 y5 x5 s
  else
    rec x2 x3 (-1) x5 s
theorem wj_X14_holds_67 {x2 : Int} {x3 : Int} {x4 : Int} {x5 : Int} {s : vS} {rv : Option vA} {σo : vS} {rec : Int → Int → Int → Int → vS → Option (Int × vS)} {q : Int × vS} (h : j_X14_holds_67 rec x2 x3 x4 x5 s = some q)  (rx2 : rg x2) (rx3 : rg x3) (rx4 : rg x4) (rx5 : rg x5) (hrec : ∀ (y4 : Int) (y5 : Int) (s : vS) (q : Int × vS), rec x2 x3 y4 y5 s = some q → rg y4 → rg y5 → E_X14_holds_6 rv σo q → VW cX14_holds (RX14, rv, σo, (some .boolean), 2, 51, 7, []) (P0 []) s 6 [(0, vO 87), (2, vI x2), (3, vI x3), (4, vI y4), (5, vI y5)] []) (hE : E_X14_holds_6 rv σo q) : VW cX14_holds (RX14, rv, σo, (some .boolean), 2, 51, 7, []) (P0 []) s 67 [(0, vO 87), (2, vI x2), (3, vI x3), (4, vI x4), (5, vI x5)] [] := by
  unfold j_X14_holds_67 at h
  refine v_aload_n dX14_holds_67 0 rfl rfl ?_
  refine v_getS (f := 21) (t := 97) cf14 oc87 rfl rfl rfl (by decide) q2391 dX14_holds_68 ?_
  refine v_iload dX14_holds_71 3 rfl ?_
  obtain ⟨g1, h⟩ := gd_some h
  refine v_iald oc97 rx4 g1.1 g1.2 dX14_holds_73 ?_
  refine v_bipush dX14_holds_74 rfl ?_
  refine v_icmp_ne (tgt := 94) dX14_holds_76 (gE_rg _ _ _) (rgl rfl) (by decide) (fun c2 => ?_) (fun c2 => ?_)
  · rw [if_neg c2] at h
    refine v_iconst dX14_holds_94 ?_
    refine v_istore (L1 := [(4, vI (-1)), (0, vO 87), (2, vI x2), (3, vI x3), (5, vI x5)]) dX14_holds_95 (by decide) rfl ?_
    refine v_goto (tgt := 6) dX14_holds_97 (by decide) ?_
    refine v_sub [1, 2, 3, 0, 4] (L1 := [(0, vO 87), (2, vI x2), (3, vI x3), (4, vI (-1)), (5, vI x5)]) rfl ?_
    exact hrec (-1) x5 s _ h (rgl rfl) rx5 hE
  · rw [if_pos c2] at h
    refine v_aload_n dX14_holds_79 0 rfl rfl ?_
    refine v_getS (f := 74) (t := 142) cf14 oc87 rfl rfl rfl (by decide) q2444 dX14_holds_80 ?_
    refine v_aload_n dX14_holds_83 0 rfl rfl ?_
    refine v_getS (f := 25) (t := 101) cf14 oc87 rfl rfl rfl (by decide) q2395 dX14_holds_84 ?_
    refine v_iload dX14_holds_87 3 rfl ?_
    obtain ⟨g3, h⟩ := gd_some h
    refine v_iald oc101 rx4 g3.1 g3.2 dX14_holds_89 ?_
    obtain ⟨g4, h⟩ := gd_some h
    refine v_iald oc142 (gE_rg _ _ _) g4.1 g4.2 dX14_holds_90 ?_
    refine v_goto (tgt := 95) dX14_holds_91 (by decide) ?_
    obtain ⟨y5, e6, h⟩ := vl_some h
    rw [← e6]
    have r7 : rg y5 := by rw [e6]; exact gE_rg _ _ _
    refine v_istore (L1 := [(4, vI y5), (0, vO 87), (2, vI x2), (3, vI x3), (5, vI x5)]) dX14_holds_95 (by decide) rfl ?_
    refine v_goto (tgt := 6) dX14_holds_97 (by decide) ?_
    refine v_sub [1, 2, 3, 0, 4] (L1 := [(0, vO 87), (2, vI x2), (3, vI x3), (4, vI y5), (5, vI x5)]) rfl ?_
    exact hrec y5 x5 s _ h r7 rx5 hE

def l_X14_holds_6 : Nat → Int → Int → Int → Int → vS → Option (Int × vS)
  | 0, _, _, _, _, _ => none
  | n + 1, x2, x3, x4, x5, s =>
    if x4 < 0 then
      some (x5, s)
    else
      if x5 = 0 then
        some (x5, s)
      else
        gd (inb x4 (gN s 107)) <|
        vl (gE s 107 x4) fun y4 =>
        lq_1 (l_X14_holds_25 FU x2 x3 x4 x5 y4 s) fun y7 s8 =>
        j_X14_holds_67 (l_X14_holds_6 n) x2 x3 x4 y7 s8
theorem wl_X14_holds_6 {x2 : Int} {x3 : Int} {rv : Option vA} {σo : vS}  (rx2 : rg x2) (rx3 : rg x3) : ∀ (n : Nat) (x4 : Int) (x5 : Int) (s : vS) (q : Int × vS), l_X14_holds_6 n x2 x3 x4 x5 s = some q → rg x4 → rg x5 → E_X14_holds_6 rv σo q → VW cX14_holds (RX14, rv, σo, (some .boolean), 2, 51, 7, []) (P0 []) s 6 [(0, vO 87), (2, vI x2), (3, vI x3), (4, vI x4), (5, vI x5)] [] := by
  intro n
  induction n with
  | zero => intro x4 x5 s q h; cases h
  | succ n ih =>
    intro x4 x5 s q h rx4 rx5 hE
    unfold l_X14_holds_6 at h
    refine v_iload dX14_holds_6 3 rfl ?_
    refine v_if_lt (tgt := 100) dX14_holds_8 rx4 (by decide) (fun c1 => ?_) (fun c1 => ?_)
    · rw [if_pos c1] at h
      cases h
      refine v_sub [4] (L1 := [(5, vI x5)]) rfl ?_
      exact hE _ _ rfl rx5
    · rw [if_neg c1] at h
      refine v_iload dX14_holds_11 4 rfl ?_
      refine v_if_eq (tgt := 100) dX14_holds_13 rx5 (by decide) (fun c2 => ?_) (fun c2 => ?_)
      · rw [if_pos c2] at h
        cases h
        refine v_sub [4] (L1 := [(5, vI x5)]) rfl ?_
        exact hE _ _ rfl rx5
      · rw [if_neg c2] at h
        refine v_aload_n dX14_holds_16 0 rfl rfl ?_
        refine v_getS (f := 31) (t := 107) cf14 oc87 rfl rfl rfl (by decide) q2401 dX14_holds_17 ?_
        refine v_iload dX14_holds_20 3 rfl ?_
        obtain ⟨g3, h⟩ := gd_some h
        refine v_iald oc107 rx4 g3.1 g3.2 dX14_holds_22 ?_
        obtain ⟨y4, e5, h⟩ := vl_some h
        rw [← e5]
        have r6 : rg y4 := by rw [e5]; exact gE_rg _ _ _
        refine v_istore (L1 := [(6, vI y4), (0, vO 87), (2, vI x2), (3, vI x3), (4, vI x4), (5, vI x5)]) dX14_holds_23 (by decide) rfl ?_
        refine v_sub [1, 2, 3, 4, 5, 0] (L1 := [(0, vO 87), (2, vI x2), (3, vI x3), (4, vI x4), (5, vI x5), (6, vI y4)]) rfl ?_
        obtain ⟨y7, s8, e9, h⟩ := lq_1_some h
        refine wl_X14_holds_25 rx2 rx3 rx4 FU x5 y4 s _ e9 rx5 r6 ?_
        unfold E_X14_holds_25
        intro y7' s8' z_ r10
        cases z_
        exact wj_X14_holds_67 h rx2 rx3 rx4 r10 ih hE

def f_X14_holds (x1 : Int) (x2 : Int) (x3 : Int) (s : vS) : Option (Int × vS) :=
  lq_1 (l_X14_holds_6 FU x2 x3 x1 1 s) fun y1 s2 =>
  gd (y1 = 0 ∨ y1 = 1) <|
  some (y1, s2)
theorem yk_X14_holds : yOk yX14_holds 3 := ⟨by decide, by decide, by decide +kernel⟩
theorem c_X14_holds {x1 : Int} {x2 : Int} {x3 : Int} {s : vS} {out : Int × vS} (h : f_X14_holds x1 x2 x3 s = some out)  (rx1 : rg x1) (rx2 : rg x2) (rx3 : rg x3) : VC yX14_holds cX14_holds 7 (some .boolean) 2 51 [vO 87, vI x1, vI x2, vI x3] s (some (vI out.1)) out.2 [] := by
  unfold f_X14_holds at h
  refine VC.of RX14 (by decide) rfl (Nat.le_of_ble_eq_true rfl) ?_
  show VW cX14_holds (RX14, (some (vI out.1)), out.2, (some .boolean), 2, 51, 7, []) (P0 []) s 0 [(0, vO 87), (1, vI x1), (2, vI x2), (3, vI x3)] []
  refine v_iload_n dX14_holds_0 1 rfl rfl ?_
  refine v_istore (L1 := [(4, vI x1), (0, vO 87), (1, vI x1), (2, vI x2), (3, vI x3)]) dX14_holds_1 (by decide) rfl ?_
  refine v_iconst dX14_holds_3 ?_
  refine v_istore (L1 := [(5, vI 1), (4, vI x1), (0, vO 87), (1, vI x1), (2, vI x2), (3, vI x3)]) dX14_holds_4 (by decide) rfl ?_
  refine v_sub [2, 4, 5, 1, 0] (L1 := [(0, vO 87), (2, vI x2), (3, vI x3), (4, vI x1), (5, vI 1)]) rfl ?_
  obtain ⟨y1, s2, e3, h⟩ := lq_1_some h
  refine wl_X14_holds_6 rx2 rx3 FU x1 1 s _ e3 rx1 (rgl rfl) ?_
  unfold E_X14_holds_6
  intro y1' s2' z_ r4
  cases z_
  refine v_iload dX14_holds_100 0 rfl ?_
  obtain ⟨g5, h⟩ := gd_some h
  cases h
  exact v_zret g5 dX14_holds_102

def E_X14_hasLimits_4 (rv : Option vA) (σo : vS) (q : Int × vS) : Prop := ∀ (x3' : Int) (s' : vS), q = (x3', s') → rg x3' → VW cX14_hasLimits (RX14, rv, σo, (some .boolean), 0, 0, 4, []) (P0 []) s' 57 [(3, vI x3')] []
def j_X14_hasLimits_26 (rec : Int → Int → vS → Option (Int × vS)) (x2 : Int) (z0 : Int) (s : vS) : Option (Int × vS) :=
  gd (inb x2 (gN s 97)) <|
  if (gE s 97 x2) = 17 then
    gd (inb x2 (gN s 101)) <|
    gd (inb (gE s 101 x2) (gN s 142)) <|
    vl (gE s 142 (gE s 101 x2)) fun y5 =>
    rec y5 z0 s
  else
    rec (-1) z0 s
theorem wj_X14_hasLimits_26 {x2 : Int} {z0 : Int} {s : vS} {rv : Option vA} {σo : vS} {rec : Int → Int → vS → Option (Int × vS)} {q : Int × vS} (h : j_X14_hasLimits_26 rec x2 z0 s = some q)  (rx2 : rg x2) (rz0 : rg z0) (hrec : ∀ (y2 : Int) (y3 : Int) (s : vS) (q : Int × vS), rec y2 y3 s = some q → rg y2 → rg y3 → E_X14_hasLimits_4 rv σo q → VW cX14_hasLimits (RX14, rv, σo, (some .boolean), 0, 0, 4, []) (P0 []) s 4 [(0, vO 87), (2, vI y2), (3, vI y3)] []) (hE : E_X14_hasLimits_4 rv σo q) : VW cX14_hasLimits (RX14, rv, σo, (some .boolean), 0, 0, 4, []) (P0 []) s 26 [(0, vO 87), (2, vI x2)] [vI z0] := by
  unfold j_X14_hasLimits_26 at h
  refine v_istore_n (L1 := [(3, vI z0), (0, vO 87), (2, vI x2)]) dX14_hasLimits_26 rfl (by decide) rfl ?_
  refine v_aload_n dX14_hasLimits_27 1 rfl rfl ?_
  refine v_getS (f := 21) (t := 97) cf14 oc87 rfl rfl rfl (by decide) q2391 dX14_hasLimits_28 ?_
  refine v_iload_n dX14_hasLimits_31 2 rfl rfl ?_
  obtain ⟨g1, h⟩ := gd_some h
  refine v_iald oc97 rx2 g1.1 g1.2 dX14_hasLimits_32 ?_
  refine v_bipush dX14_hasLimits_33 rfl ?_
  refine v_icmp_ne (tgt := 52) dX14_hasLimits_35 (gE_rg _ _ _) (rgl rfl) (by decide) (fun c2 => ?_) (fun c2 => ?_)
  · rw [if_neg c2] at h
    refine v_iconst dX14_hasLimits_52 ?_
    refine v_istore_n (L1 := [(2, vI (-1)), (3, vI z0), (0, vO 87)]) dX14_hasLimits_53 rfl (by decide) rfl ?_
    refine v_goto (tgt := 4) dX14_hasLimits_54 (by decide) ?_
    refine v_sub [2, 0, 1] (L1 := [(0, vO 87), (2, vI (-1)), (3, vI z0)]) rfl ?_
    exact hrec (-1) z0 s _ h (rgl rfl) rz0 hE
  · rw [if_pos c2] at h
    refine v_aload_n dX14_hasLimits_38 1 rfl rfl ?_
    refine v_getS (f := 74) (t := 142) cf14 oc87 rfl rfl rfl (by decide) q2444 dX14_hasLimits_39 ?_
    refine v_aload_n dX14_hasLimits_42 1 rfl rfl ?_
    refine v_getS (f := 25) (t := 101) cf14 oc87 rfl rfl rfl (by decide) q2395 dX14_hasLimits_43 ?_
    refine v_iload_n dX14_hasLimits_46 2 rfl rfl ?_
    obtain ⟨g3, h⟩ := gd_some h
    refine v_iald oc101 rx2 g3.1 g3.2 dX14_hasLimits_47 ?_
    obtain ⟨g4, h⟩ := gd_some h
    refine v_iald oc142 (gE_rg _ _ _) g4.1 g4.2 dX14_hasLimits_48 ?_
    refine v_goto (tgt := 53) dX14_hasLimits_49 (by decide) ?_
    obtain ⟨y5, e6, h⟩ := vl_some h
    rw [← e6]
    have r7 : rg y5 := by rw [e6]; exact gE_rg _ _ _
    refine v_istore_n (L1 := [(2, vI y5), (3, vI z0), (0, vO 87)]) dX14_hasLimits_53 rfl (by decide) rfl ?_
    refine v_goto (tgt := 4) dX14_hasLimits_54 (by decide) ?_
    refine v_sub [2, 0, 1] (L1 := [(0, vO 87), (2, vI y5), (3, vI z0)]) rfl ?_
    exact hrec y5 z0 s _ h r7 rz0 hE

def l_X14_hasLimits_4 : Nat → Int → Int → vS → Option (Int × vS)
  | 0, _, _, _ => none
  | n + 1, x2, x3, s =>
    if x2 < 0 then
      some (x3, s)
    else
      if x3 = 0 then
        gd (inb x2 (gN s 107)) <|
        if (gE s 107 x2) < 0 then
          j_X14_hasLimits_26 (l_X14_hasLimits_4 n) x2 0 s
        else
          j_X14_hasLimits_26 (l_X14_hasLimits_4 n) x2 1 s
      else
        some (x3, s)
theorem wl_X14_hasLimits_4 {rv : Option vA} {σo : vS}  : ∀ (n : Nat) (x2 : Int) (x3 : Int) (s : vS) (q : Int × vS), l_X14_hasLimits_4 n x2 x3 s = some q → rg x2 → rg x3 → E_X14_hasLimits_4 rv σo q → VW cX14_hasLimits (RX14, rv, σo, (some .boolean), 0, 0, 4, []) (P0 []) s 4 [(0, vO 87), (2, vI x2), (3, vI x3)] [] := by
  intro n
  induction n with
  | zero => intro x2 x3 s q h; cases h
  | succ n ih =>
    intro x2 x3 s q h rx2 rx3 hE
    unfold l_X14_hasLimits_4 at h
    refine v_iload_n dX14_hasLimits_4 1 rfl rfl ?_
    refine v_if_lt (tgt := 57) dX14_hasLimits_5 rx2 (by decide) (fun c1 => ?_) (fun c1 => ?_)
    · rw [if_pos c1] at h
      cases h
      refine v_sub [2] (L1 := [(3, vI x3)]) rfl ?_
      exact hE _ _ rfl rx3
    · rw [if_neg c1] at h
      refine v_iload_n dX14_hasLimits_8 2 rfl rfl ?_
      refine v_if_ne (tgt := 57) dX14_hasLimits_9 rx3 (by decide) (fun c2 => ?_) (fun c2 => ?_)
      · rw [if_neg c2] at h
        cases h
        refine v_sub [2] (L1 := [(3, vI x3)]) rfl ?_
        exact hE _ _ rfl rx3
      · rw [if_pos c2] at h
        refine v_aload_n dX14_hasLimits_12 0 rfl rfl ?_
        refine v_getS (f := 31) (t := 107) cf14 oc87 rfl rfl rfl (by decide) q2401 dX14_hasLimits_13 ?_
        refine v_iload_n dX14_hasLimits_16 1 rfl rfl ?_
        obtain ⟨g3, h⟩ := gd_some h
        refine v_iald oc107 rx2 g3.1 g3.2 dX14_hasLimits_17 ?_
        refine v_if_lt (tgt := 25) dX14_hasLimits_18 (gE_rg _ _ _) (by decide) (fun c4 => ?_) (fun c4 => ?_)
        · rw [if_pos c4] at h
          refine v_iconst dX14_hasLimits_25 ?_
          refine v_sub [0, 1] (L1 := [(0, vO 87), (2, vI x2)]) rfl ?_
          exact wj_X14_hasLimits_26 h rx2 (rgl rfl) ih hE
        · rw [if_neg c4] at h
          refine v_iconst dX14_hasLimits_21 ?_
          refine v_goto (tgt := 26) dX14_hasLimits_22 (by decide) ?_
          refine v_sub [0, 1] (L1 := [(0, vO 87), (2, vI x2)]) rfl ?_
          exact wj_X14_hasLimits_26 h rx2 (rgl rfl) ih hE

def f_X14_hasLimits (x1 : Int) (s : vS) : Option (Int × vS) :=
  lq_1 (l_X14_hasLimits_4 FU x1 0 s) fun y1 s2 =>
  gd (y1 = 0 ∨ y1 = 1) <|
  some (y1, s2)
theorem yk_X14_hasLimits : yOk yX14_hasLimits 1 := ⟨by decide, by decide, by decide +kernel⟩
theorem c_X14_hasLimits {x1 : Int} {s : vS} {out : Int × vS} (h : f_X14_hasLimits x1 s = some out)  (rx1 : rg x1) : VC yX14_hasLimits cX14_hasLimits 4 (some .boolean) 0 0 [vO 87, vI x1] s (some (vI out.1)) out.2 [] := by
  unfold f_X14_hasLimits at h
  refine VC.of RX14 (by decide) rfl (Nat.le_of_ble_eq_true rfl) ?_
  show VW cX14_hasLimits (RX14, (some (vI out.1)), out.2, (some .boolean), 0, 0, 4, []) (P0 []) s 0 [(0, vO 87), (1, vI x1)] []
  refine v_iload_n dX14_hasLimits_0 1 rfl rfl ?_
  refine v_istore_n (L1 := [(2, vI x1), (0, vO 87), (1, vI x1)]) dX14_hasLimits_1 rfl (by decide) rfl ?_
  refine v_iconst dX14_hasLimits_2 ?_
  refine v_istore_n (L1 := [(3, vI 0), (2, vI x1), (0, vO 87), (1, vI x1)]) dX14_hasLimits_3 rfl (by decide) rfl ?_
  refine v_sub [2, 1, 0] (L1 := [(0, vO 87), (2, vI x1), (3, vI 0)]) rfl ?_
  obtain ⟨y1, s2, e3, h⟩ := lq_1_some h
  refine wl_X14_hasLimits_4  FU x1 0 s _ e3 rx1 (rgl rfl) ?_
  unfold E_X14_hasLimits_4
  intro y1' s2' z_ r4
  cases z_
  refine v_iload_n dX14_hasLimits_57 0 rfl rfl ?_
  obtain ⟨g5, h⟩ := gd_some h
  cases h
  exact v_zret g5 dX14_hasLimits_58

def f_X14_holdsSize (x1 : Int) (x2 : Int) (s : vS) : Option (Int × vS) :=
  bd (f_X14_hasLimits x1 s) fun r4 s1 =>
  if r4 = 0 then
    some (1, s1)
  else
    vl (gI s1 87 85) fun y7 =>
    vl (gI s1 87 84) fun y10 =>
    bd (f_X14_smallNumber x2 s1) fun r16 s13 =>
    bd (f_X14_holds x1 r16 1 s13) fun r21 s18 =>
    stp (sI s18 87 84 y10) fun s23 =>
    stp (sI s23 87 85 y7) fun s25 =>
    gd (r21 = 0 ∨ r21 = 1) <|
    some (r21, s25)
theorem yk_X14_holdsSize : yOk yX14_holdsSize 2 := ⟨by decide, by decide, by decide +kernel⟩
theorem c_X14_holdsSize {x1 : Int} {x2 : Int} {s : vS} {out : Int × vS} (h : f_X14_holdsSize x1 x2 s = some out)  (rx1 : rg x1) (rx2 : rg x2) : VC yX14_holdsSize cX14_holdsSize 6 (some .boolean) 3 77 [vO 87, vI x1, vI x2] s (some (vI out.1)) out.2 [] := by
  unfold f_X14_holdsSize at h
  refine VC.of RX14 (by decide) rfl (Nat.le_of_ble_eq_true rfl) ?_
  show VW cX14_holdsSize (RX14, (some (vI out.1)), out.2, (some .boolean), 3, 77, 6, []) (P0 []) s 0 [(0, vO 87), (1, vI x1), (2, vI x2)] []
  refine v_aload_n dX14_holdsSize_0 0 rfl rfl ?_
  refine v_iload_n dX14_holdsSize_1 1 rfl rfl ?_
  obtain ⟨r4, s1, e2, h⟩ := bd_some h
  have k3 := c_X14_hasLimits e2 rx1
  have r5 : rg r4 := k3.1.2.2
  refine v_callV (st := []) cf14 oc87 k3 (lw_V q3251 q3253 qs241 q311 q3254) rfl yk_X14_hasLimits ⟨Nat.le_of_ble_eq_true rfl, Nat.le_of_ble_eq_true rfl⟩ trivial ⟨kc87, trivial⟩ (Nat.le_of_ble_eq_true rfl) rfl dX14_holdsSize_2 ?_
  refine v_if_ne (tgt := 10) dX14_holdsSize_5 r5 (by decide) (fun c6 => ?_) (fun c6 => ?_)
  · rw [if_neg c6] at h
    refine v_aload_n dX14_holdsSize_10 0 rfl rfl ?_
    refine v_getI (f := 85) cf14 oc87 rfl (by decide) q2455 dX14_holdsSize_11 ?_
    obtain ⟨y7, e8, h⟩ := vl_some h
    rw [← e8]
    have r9 : rg y7 := by rw [e8]; exact gI_rg _ _ _
    refine v_istore_n (L1 := [(3, vI y7), (0, vO 87), (1, vI x1), (2, vI x2)]) dX14_holdsSize_14 rfl (by decide) rfl ?_
    refine v_aload_n dX14_holdsSize_15 1 rfl rfl ?_
    refine v_getI (f := 84) cf14 oc87 rfl (by decide) q2454 dX14_holdsSize_16 ?_
    obtain ⟨y10, e11, h⟩ := vl_some h
    rw [← e11]
    have r12 : rg y10 := by rw [e11]; exact gI_rg _ _ _
    refine v_istore (L1 := [(4, vI y10), (3, vI y7), (0, vO 87), (1, vI x1), (2, vI x2)]) dX14_holdsSize_19 (by decide) rfl ?_
    refine v_aload_n dX14_holdsSize_21 2 rfl rfl ?_
    refine v_iload_n dX14_holdsSize_22 3 rfl rfl ?_
    refine v_aload_n dX14_holdsSize_23 2 rfl rfl ?_
    refine v_iload_n dX14_holdsSize_24 4 rfl rfl ?_
    obtain ⟨r16, s13, e14, h⟩ := bd_some h
    have k15 := c_X14_smallNumber e14 rx2
    have r17 : rg r16 := k15.1.2.2
    refine v_callV (st := [vI x1, vO 87]) cf14 oc87 k15 (lw_V q3109 q3111 qs207 q311 q3112) rfl yk_X14_smallNumber ⟨Nat.le_of_ble_eq_true rfl, Nat.le_of_ble_eq_true rfl⟩ ⟨kc87, trivial⟩ ⟨kc87, trivial⟩ (Nat.le_of_ble_eq_true rfl) rfl dX14_holdsSize_25 ?_
    refine v_iconst dX14_holdsSize_28 ?_
    obtain ⟨r21, s18, e19, h⟩ := bd_some h
    have k20 := c_X14_holds e19 rx1 r17 (rgl rfl)
    have r22 : rg r21 := k20.1.2.2
    refine v_callV (st := []) cf14 oc87 k20 (lw_V q3215 q3217 qs232 q311 q3218) rfl yk_X14_holds ⟨Nat.le_of_ble_eq_true rfl, Nat.le_of_ble_eq_true rfl⟩ trivial ⟨kc87, trivial⟩ (Nat.le_of_ble_eq_true rfl) rfl dX14_holdsSize_29 ?_
    refine v_istore (L1 := [(5, vI r21), (4, vI y10), (3, vI y7), (0, vO 87), (1, vI x1), (2, vI x2)]) dX14_holdsSize_32 (by decide) rfl ?_
    refine v_aload_n dX14_holdsSize_34 3 rfl rfl ?_
    refine v_iload dX14_holdsSize_35 1 rfl ?_
    obtain ⟨s23, e24, h⟩ := stp_some h
    refine v_putI (f := 84) cf14 oc87 rfl (by decide) q2454 dX14_holdsSize_37 rfl rfl ?_
    rw [← e24]
    refine v_aload_n dX14_holdsSize_40 3 rfl rfl ?_
    refine v_iload_n dX14_holdsSize_41 2 rfl rfl ?_
    obtain ⟨s25, e26, h⟩ := stp_some h
    refine v_putI (f := 85) cf14 oc87 rfl (by decide) q2455 dX14_holdsSize_42 rfl rfl ?_
    rw [← e26]
    refine v_iload dX14_holdsSize_45 0 rfl ?_
    obtain ⟨g27, h⟩ := gd_some h
    cases h
    exact v_zret g27 dX14_holdsSize_47
  · rw [if_pos c6] at h
    refine v_iconst dX14_holdsSize_8 ?_
    cases h
    exact v_zret (Or.inr rfl) dX14_holdsSize_9

def E_X14_hasSizeLimits_4 (rv : Option vA) (σo : vS) (q : Int × vS) : Prop := ∀ (x3' : Int) (s' : vS), q = (x3', s') → rg x3' → VW cX14_hasSizeLimits (RX14, rv, σo, (some .boolean), 0, 0, 5, []) (P0 []) s' 87 [(3, vI x3')] []
def E_X14_hasSizeLimits_20 (x2 : Int) (rv : Option vA) (σo : vS) (q : Int × vS) : Prop := ∀ (x3' : Int) (s' : vS), q = (x3', s') → rg x3' → VW cX14_hasSizeLimits (RX14, rv, σo, (some .boolean), 0, 0, 5, []) (P0 []) s' 57 [(0, vO 87), (2, vI x2), (3, vI x3')] []
def l_X14_hasSizeLimits_20 : Nat → Int → Int → Int → vS → Option (Int × vS)
  | 0, _, _, _, _ => none
  | n + 1, x2, x3, x4, s =>
    if x4 < 0 then
      some (x3, s)
    else
      if x3 = 0 then
        gd (inb x4 (gN s 122)) <|
        if (gZ s 122 x4) = 0 then
          gd (inb x4 (gN s 125)) <|
          vl (gE s 125 x4) fun y10 =>
          l_X14_hasSizeLimits_20 n x2 0 y10 s
        else
          gd (inb x4 (gN s 125)) <|
          vl (gE s 125 x4) fun y14 =>
          l_X14_hasSizeLimits_20 n x2 1 y14 s
      else
        gd (inb x4 (gN s 125)) <|
        vl (gE s 125 x4) fun y4 =>
        l_X14_hasSizeLimits_20 n x2 1 y4 s
theorem wl_X14_hasSizeLimits_20 {x2 : Int} {rv : Option vA} {σo : vS}  (rx2 : rg x2) : ∀ (n : Nat) (x3 : Int) (x4 : Int) (s : vS) (q : Int × vS), l_X14_hasSizeLimits_20 n x2 x3 x4 s = some q → rg x3 → rg x4 → E_X14_hasSizeLimits_20 x2 rv σo q → VW cX14_hasSizeLimits (RX14, rv, σo, (some .boolean), 0, 0, 5, []) (P0 []) s 20 [(0, vO 87), (2, vI x2), (3, vI x3), (4, vI x4)] [] := by
  intro n
  induction n with
  | zero => intro x3 x4 s q h; cases h
  | succ n ih =>
    intro x3 x4 s q h rx3 rx4 hE
    unfold l_X14_hasSizeLimits_20 at h
    refine v_iload dX14_hasSizeLimits_20 3 rfl ?_
    refine v_if_lt (tgt := 57) dX14_hasSizeLimits_22 rx4 (by decide) (fun c1 => ?_) (fun c1 => ?_)
    · rw [if_pos c1] at h
      cases h
      refine v_sub [0, 1, 2] (L1 := [(0, vO 87), (2, vI x2), (3, vI x3)]) rfl ?_
      exact hE _ _ rfl rx3
    · rw [if_neg c1] at h
      refine v_iload_n dX14_hasSizeLimits_25 2 rfl rfl ?_
      refine v_if_ne (tgt := 39) dX14_hasSizeLimits_26 rx3 (by decide) (fun c2 => ?_) (fun c2 => ?_)
      · rw [if_neg c2] at h
        refine v_iconst dX14_hasSizeLimits_39 ?_
        refine v_goto (tgt := 44) dX14_hasSizeLimits_40 (by decide) ?_
        refine v_istore_n (L1 := [(3, vI 1), (0, vO 87), (2, vI x2), (4, vI x4)]) dX14_hasSizeLimits_44 rfl (by decide) rfl ?_
        refine v_aload_n dX14_hasSizeLimits_45 1 rfl rfl ?_
        refine v_getS (f := 53) (t := 125) cf14 oc87 rfl rfl rfl (by decide) q2423 dX14_hasSizeLimits_46 ?_
        refine v_iload dX14_hasSizeLimits_49 3 rfl ?_
        obtain ⟨g3, h⟩ := gd_some h
        refine v_iald oc125 rx4 g3.1 g3.2 dX14_hasSizeLimits_51 ?_
        obtain ⟨y4, e5, h⟩ := vl_some h
        rw [← e5]
        have r6 : rg y4 := by rw [e5]; exact gE_rg _ _ _
        refine v_istore (L1 := [(4, vI y4), (3, vI 1), (0, vO 87), (2, vI x2)]) dX14_hasSizeLimits_52 (by decide) rfl ?_
        refine v_goto (tgt := 20) dX14_hasSizeLimits_54 (by decide) ?_
        refine v_sub [2, 3, 1, 0] (L1 := [(0, vO 87), (2, vI x2), (3, vI 1), (4, vI y4)]) rfl ?_
        exact ih 1 y4 s _ h (rgl rfl) r6 hE
      · rw [if_pos c2] at h
        refine v_aload_n dX14_hasSizeLimits_29 0 rfl rfl ?_
        refine v_getS (f := 50) (t := 122) cf14 oc87 rfl rfl rfl (by decide) q2420 dX14_hasSizeLimits_30 ?_
        refine v_iload dX14_hasSizeLimits_33 3 rfl ?_
        obtain ⟨g7, h⟩ := gd_some h
        refine v_zald oc122 rx4 g7.1 g7.2 dX14_hasSizeLimits_35 ?_
        refine v_if_eq (tgt := 43) dX14_hasSizeLimits_36 (gZ_rg _ _ _) (by decide) (fun c8 => ?_) (fun c8 => ?_)
        · rw [if_pos c8] at h
          refine v_iconst dX14_hasSizeLimits_43 ?_
          refine v_istore_n (L1 := [(3, vI 0), (0, vO 87), (2, vI x2), (4, vI x4)]) dX14_hasSizeLimits_44 rfl (by decide) rfl ?_
          refine v_aload_n dX14_hasSizeLimits_45 1 rfl rfl ?_
          refine v_getS (f := 53) (t := 125) cf14 oc87 rfl rfl rfl (by decide) q2423 dX14_hasSizeLimits_46 ?_
          refine v_iload dX14_hasSizeLimits_49 3 rfl ?_
          obtain ⟨g9, h⟩ := gd_some h
          refine v_iald oc125 rx4 g9.1 g9.2 dX14_hasSizeLimits_51 ?_
          obtain ⟨y10, e11, h⟩ := vl_some h
          rw [← e11]
          have r12 : rg y10 := by rw [e11]; exact gE_rg _ _ _
          refine v_istore (L1 := [(4, vI y10), (3, vI 0), (0, vO 87), (2, vI x2)]) dX14_hasSizeLimits_52 (by decide) rfl ?_
          refine v_goto (tgt := 20) dX14_hasSizeLimits_54 (by decide) ?_
          refine v_sub [2, 3, 1, 0] (L1 := [(0, vO 87), (2, vI x2), (3, vI 0), (4, vI y10)]) rfl ?_
          exact ih 0 y10 s _ h (rgl rfl) r12 hE
        · rw [if_neg c8] at h
          refine v_iconst dX14_hasSizeLimits_39 ?_
          refine v_goto (tgt := 44) dX14_hasSizeLimits_40 (by decide) ?_
          refine v_istore_n (L1 := [(3, vI 1), (0, vO 87), (2, vI x2), (4, vI x4)]) dX14_hasSizeLimits_44 rfl (by decide) rfl ?_
          refine v_aload_n dX14_hasSizeLimits_45 1 rfl rfl ?_
          refine v_getS (f := 53) (t := 125) cf14 oc87 rfl rfl rfl (by decide) q2423 dX14_hasSizeLimits_46 ?_
          refine v_iload dX14_hasSizeLimits_49 3 rfl ?_
          obtain ⟨g13, h⟩ := gd_some h
          refine v_iald oc125 rx4 g13.1 g13.2 dX14_hasSizeLimits_51 ?_
          obtain ⟨y14, e15, h⟩ := vl_some h
          rw [← e15]
          have r16 : rg y14 := by rw [e15]; exact gE_rg _ _ _
          refine v_istore (L1 := [(4, vI y14), (3, vI 1), (0, vO 87), (2, vI x2)]) dX14_hasSizeLimits_52 (by decide) rfl ?_
          refine v_goto (tgt := 20) dX14_hasSizeLimits_54 (by decide) ?_
          refine v_sub [2, 3, 1, 0] (L1 := [(0, vO 87), (2, vI x2), (3, vI 1), (4, vI y14)]) rfl ?_
          exact ih 1 y14 s _ h (rgl rfl) r16 hE

def l_X14_hasSizeLimits_4 : Nat → Int → Int → vS → Option (Int × vS)
  | 0, _, _, _ => none
  | n + 1, x2, x3, s =>
    if x2 < 0 then
      some (x3, s)
    else
      if x3 = 0 then
        gd (inb x2 (gN s 107)) <|
        vl (gE s 107 x2) fun y4 =>
        lq_1 (l_X14_hasSizeLimits_20 FU x2 x3 y4 s) fun y7 s8 =>
        gd (inb x2 (gN s8 97)) <|
        if (gE s8 97 x2) = 17 then
          gd (inb x2 (gN s8 101)) <|
          gd (inb (gE s8 101 x2) (gN s8 142)) <|
          vl (gE s8 142 (gE s8 101 x2)) fun y15 =>
          l_X14_hasSizeLimits_4 n y15 y7 s8
        else
          l_X14_hasSizeLimits_4 n (-1) y7 s8
      else
        some (x3, s)
theorem wl_X14_hasSizeLimits_4 {rv : Option vA} {σo : vS}  : ∀ (n : Nat) (x2 : Int) (x3 : Int) (s : vS) (q : Int × vS), l_X14_hasSizeLimits_4 n x2 x3 s = some q → rg x2 → rg x3 → E_X14_hasSizeLimits_4 rv σo q → VW cX14_hasSizeLimits (RX14, rv, σo, (some .boolean), 0, 0, 5, []) (P0 []) s 4 [(0, vO 87), (2, vI x2), (3, vI x3)] [] := by
  intro n
  induction n with
  | zero => intro x2 x3 s q h; cases h
  | succ n ih =>
    intro x2 x3 s q h rx2 rx3 hE
    unfold l_X14_hasSizeLimits_4 at h
    refine v_iload_n dX14_hasSizeLimits_4 1 rfl rfl ?_
    refine v_if_lt (tgt := 87) dX14_hasSizeLimits_5 rx2 (by decide) (fun c1 => ?_) (fun c1 => ?_)
    · rw [if_pos c1] at h
      cases h
      refine v_sub [2] (L1 := [(3, vI x3)]) rfl ?_
      exact hE _ _ rfl rx3
    · rw [if_neg c1] at h
      refine v_iload_n dX14_hasSizeLimits_8 2 rfl rfl ?_
      refine v_if_ne (tgt := 87) dX14_hasSizeLimits_9 rx3 (by decide) (fun c2 => ?_) (fun c2 => ?_)
      · rw [if_neg c2] at h
        cases h
        refine v_sub [2] (L1 := [(3, vI x3)]) rfl ?_
        exact hE _ _ rfl rx3
      · rw [if_pos c2] at h
        refine v_aload_n dX14_hasSizeLimits_12 0 rfl rfl ?_
        refine v_getS (f := 31) (t := 107) cf14 oc87 rfl rfl rfl (by decide) q2401 dX14_hasSizeLimits_13 ?_
        refine v_iload_n dX14_hasSizeLimits_16 1 rfl rfl ?_
        obtain ⟨g3, h⟩ := gd_some h
        refine v_iald oc107 rx2 g3.1 g3.2 dX14_hasSizeLimits_17 ?_
        obtain ⟨y4, e5, h⟩ := vl_some h
        rw [← e5]
        have r6 : rg y4 := by rw [e5]; exact gE_rg _ _ _
        refine v_istore (L1 := [(4, vI y4), (0, vO 87), (2, vI x2), (3, vI x3)]) dX14_hasSizeLimits_18 (by decide) rfl ?_
        refine v_sub [1, 2, 3, 0] (L1 := [(0, vO 87), (2, vI x2), (3, vI x3), (4, vI y4)]) rfl ?_
        obtain ⟨y7, s8, e9, h⟩ := lq_1_some h
        refine wl_X14_hasSizeLimits_20 rx2 FU x3 y4 s _ e9 rx3 r6 ?_
        unfold E_X14_hasSizeLimits_20
        intro y7' s8' z_ r10
        cases z_
        refine v_aload_n dX14_hasSizeLimits_57 0 rfl rfl ?_
        refine v_getS (f := 21) (t := 97) cf14 oc87 rfl rfl rfl (by decide) q2391 dX14_hasSizeLimits_58 ?_
        refine v_iload_n dX14_hasSizeLimits_61 1 rfl rfl ?_
        obtain ⟨g11, h⟩ := gd_some h
        refine v_iald oc97 rx2 g11.1 g11.2 dX14_hasSizeLimits_62 ?_
        refine v_bipush dX14_hasSizeLimits_63 rfl ?_
        refine v_icmp_ne (tgt := 82) dX14_hasSizeLimits_65 (gE_rg _ _ _) (rgl rfl) (by decide) (fun c12 => ?_) (fun c12 => ?_)
        · rw [if_neg c12] at h
          refine v_iconst dX14_hasSizeLimits_82 ?_
          refine v_istore_n (L1 := [(2, vI (-1)), (0, vO 87), (3, vI y7)]) dX14_hasSizeLimits_83 rfl (by decide) rfl ?_
          refine v_goto (tgt := 4) dX14_hasSizeLimits_84 (by decide) ?_
          refine v_sub [1, 0, 2] (L1 := [(0, vO 87), (2, vI (-1)), (3, vI y7)]) rfl ?_
          exact ih (-1) y7 s8 _ h (rgl rfl) r10 hE
        · rw [if_pos c12] at h
          refine v_aload_n dX14_hasSizeLimits_68 0 rfl rfl ?_
          refine v_getS (f := 74) (t := 142) cf14 oc87 rfl rfl rfl (by decide) q2444 dX14_hasSizeLimits_69 ?_
          refine v_aload_n dX14_hasSizeLimits_72 0 rfl rfl ?_
          refine v_getS (f := 25) (t := 101) cf14 oc87 rfl rfl rfl (by decide) q2395 dX14_hasSizeLimits_73 ?_
          refine v_iload_n dX14_hasSizeLimits_76 1 rfl rfl ?_
          obtain ⟨g13, h⟩ := gd_some h
          refine v_iald oc101 rx2 g13.1 g13.2 dX14_hasSizeLimits_77 ?_
          obtain ⟨g14, h⟩ := gd_some h
          refine v_iald oc142 (gE_rg _ _ _) g14.1 g14.2 dX14_hasSizeLimits_78 ?_
          refine v_goto (tgt := 83) dX14_hasSizeLimits_79 (by decide) ?_
          obtain ⟨y15, e16, h⟩ := vl_some h
          rw [← e16]
          have r17 : rg y15 := by rw [e16]; exact gE_rg _ _ _
          refine v_istore_n (L1 := [(2, vI y15), (0, vO 87), (3, vI y7)]) dX14_hasSizeLimits_83 rfl (by decide) rfl ?_
          refine v_goto (tgt := 4) dX14_hasSizeLimits_84 (by decide) ?_
          refine v_sub [1, 0, 2] (L1 := [(0, vO 87), (2, vI y15), (3, vI y7)]) rfl ?_
          exact ih y15 y7 s8 _ h r17 r10 hE

def f_X14_hasSizeLimits (x1 : Int) (s : vS) : Option (Int × vS) :=
  lq_1 (l_X14_hasSizeLimits_4 FU x1 0 s) fun y1 s2 =>
  gd (y1 = 0 ∨ y1 = 1) <|
  some (y1, s2)
theorem yk_X14_hasSizeLimits : yOk yX14_hasSizeLimits 1 := ⟨by decide, by decide, by decide +kernel⟩
theorem c_X14_hasSizeLimits {x1 : Int} {s : vS} {out : Int × vS} (h : f_X14_hasSizeLimits x1 s = some out)  (rx1 : rg x1) : VC yX14_hasSizeLimits cX14_hasSizeLimits 5 (some .boolean) 0 0 [vO 87, vI x1] s (some (vI out.1)) out.2 [] := by
  unfold f_X14_hasSizeLimits at h
  refine VC.of RX14 (by decide) rfl (Nat.le_of_ble_eq_true rfl) ?_
  show VW cX14_hasSizeLimits (RX14, (some (vI out.1)), out.2, (some .boolean), 0, 0, 5, []) (P0 []) s 0 [(0, vO 87), (1, vI x1)] []
  refine v_iload_n dX14_hasSizeLimits_0 1 rfl rfl ?_
  refine v_istore_n (L1 := [(2, vI x1), (0, vO 87), (1, vI x1)]) dX14_hasSizeLimits_1 rfl (by decide) rfl ?_
  refine v_iconst dX14_hasSizeLimits_2 ?_
  refine v_istore_n (L1 := [(3, vI 0), (2, vI x1), (0, vO 87), (1, vI x1)]) dX14_hasSizeLimits_3 rfl (by decide) rfl ?_
  refine v_sub [2, 1, 0] (L1 := [(0, vO 87), (2, vI x1), (3, vI 0)]) rfl ?_
  obtain ⟨y1, s2, e3, h⟩ := lq_1_some h
  refine wl_X14_hasSizeLimits_4  FU x1 0 s _ e3 rx1 (rgl rfl) ?_
  unfold E_X14_hasSizeLimits_4
  intro y1' s2' z_ r4
  cases z_
  refine v_iload_n dX14_hasSizeLimits_87 0 rfl rfl ?_
  obtain ⟨g5, h⟩ := gd_some h
  cases h
  exact v_zret g5 dX14_hasSizeLimits_88

def j_X14_say_29 (x1 : Int) (s : vS) : Option (vS) :=
  gd (inb (gI s 87 105) (gN s 161)) <|
  stp (sE s 161 (gI s 87 105) x1) fun s2 =>
  stp (sI s2 87 105 (w32 ((gI s2 87 105) + 1))) fun s4 =>
  some s4
theorem wj_X14_say_29 {x1 : Int} {s : vS} {out : vS} (h : j_X14_say_29 x1 s = some out)  (rx1 : rg x1) : VW cX14_say (RX14, none, out, none, 1, 23, 2, []) (P0 []) s 29 [(0, vO 87), (1, vI x1)] [] := by
  unfold j_X14_say_29 at h
  refine v_aload_n dX14_say_29 0 rfl rfl ?_
  refine v_getS (f := 106) (t := 161) cf14 oc87 rfl rfl rfl (by decide) q2476 dX14_say_30 ?_
  refine v_aload_n dX14_say_33 0 rfl rfl ?_
  refine v_getI (f := 105) cf14 oc87 rfl (by decide) q2475 dX14_say_34 ?_
  refine v_iload_n dX14_say_37 1 rfl rfl ?_
  obtain ⟨g1, h⟩ := gd_some h
  obtain ⟨s2, e3, h⟩ := stp_some h
  refine v_iast oc161 (gI_rg _ _ _) g1.1 g1.2 dX14_say_38 ?_
  rw [← e3]
  refine v_aload_n dX14_say_39 0 rfl rfl ?_
  refine v_dupO dX14_say_40 ?_
  refine v_getI (f := 105) cf14 oc87 rfl (by decide) q2475 dX14_say_41 ?_
  refine v_iconst dX14_say_44 ?_
  refine v_iadd dX14_say_45 ?_
  obtain ⟨s4, e5, h⟩ := stp_some h
  refine v_putI (f := 105) cf14 oc87 rfl (by decide) q2475 dX14_say_46 rfl rfl ?_
  rw [← e5]
  cases h
  exact v_vret dX14_say_49

def f_X14_say (x1 : Int) (s : vS) : Option (vS) :=
  if (gI s 87 105) = (w32 (gN s 161 : Int)) then
    bdv (f_X14_longer 161 (w32 (2 * (gI s 87 105))) s) fun s2 =>
    gd (2 * gN s2 161 ≤ gN s2 199 ∧ 2 ≤ gN s2 199) <|
    stp (sw2 s2 161 199) fun s6 =>
    stp (rs s6) fun s8 =>
    j_X14_say_29 x1 s8
  else
    j_X14_say_29 x1 s
theorem yk_X14_say : yOk yX14_say 1 := ⟨by decide, by decide, by decide +kernel⟩
theorem c_X14_say {x1 : Int} {s : vS} {out : vS} (h : f_X14_say x1 s = some out)  (rx1 : rg x1) : VC yX14_say cX14_say 2 none 1 23 [vO 87, vI x1] s none out [] := by
  unfold f_X14_say at h
  refine VC.of RX14 (by decide) rfl (Nat.le_of_ble_eq_true rfl) ?_
  show VW cX14_say (RX14, none, out, none, 1, 23, 2, []) (P0 []) s 0 [(0, vO 87), (1, vI x1)] []
  refine v_aload_n dX14_say_0 0 rfl rfl ?_
  refine v_getI (f := 105) cf14 oc87 rfl (by decide) q2475 dX14_say_1 ?_
  refine v_aload_n dX14_say_4 0 rfl rfl ?_
  refine v_getS (f := 106) (t := 161) cf14 oc87 rfl rfl rfl (by decide) q2476 dX14_say_5 ?_
  refine v_alen24 oc161 dX14_say_8 ?_
  refine v_icmp_ne (tgt := 29) dX14_say_9 (gI_rg _ _ _) (w32_rg _) (by decide) (fun c1 => ?_) (fun c1 => ?_)
  · rw [if_neg c1] at h
    exact wj_X14_say_29 h rx1
  · rw [if_pos c1] at h
    refine v_aload_n dX14_say_12 0 rfl rfl ?_
    refine v_aload_n dX14_say_13 0 rfl rfl ?_
    refine v_getS (f := 106) (t := 161) cf14 oc87 rfl rfl rfl (by decide) q2476 dX14_say_14 ?_
    refine v_iconst dX14_say_17 ?_
    refine v_aload_n dX14_say_18 0 rfl rfl ?_
    refine v_getI (f := 105) cf14 oc87 rfl (by decide) q2475 dX14_say_19 ?_
    refine v_imul dX14_say_22 ?_
    obtain ⟨s2, e3, h⟩ := bdv_some h
    have k4 := c_X14_longer e3 (⟨by decide, rfl⟩ : okB 161 24) (w32_rg _)
    refine v_callS (st := [vO 87]) k4 (lw_S q3012 q3013 q311 q3014) yk_X14_longer ⟨Nat.le_of_ble_eq_true rfl, Nat.le_of_ble_eq_true rfl⟩ ⟨kc87, trivial⟩ ⟨kc87, trivial⟩ (Nat.le_of_ble_eq_true rfl) rfl dX14_say_23 ?_
    obtain ⟨g5, h⟩ := gd_some h
    obtain ⟨s6, e7, h⟩ := stp_some h
    refine v_pa (i := 0) (K := 199) (t0 := 161) (f := 106) (tk1 := [(24, 0)]) (L1 := [(0, vO 87), (1, vI x1)]) (st1 := []) rfl rfl (by decide) cf14 (⟨by decide, rfl⟩ : okB 87 13) rfl (by decide) rfl rfl (by decide) rfl g5 q2476 dX14_say_26 rfl rfl rfl rfl ?_
    rw [← e7]
    obtain ⟨s8, e9, h⟩ := stp_some h
    refine v_dr (by decide) (by decide) ⟨(by decide), trivial⟩ trivial ?_
    rw [← e9]
    exact wj_X14_say_29 h rx1

def j_X14_sayBit_29 (x1 : Int) (s : vS) : Option (vS) :=
  gd (inb (gI s 87 107) (gN s 162)) <|
  stp (sE s 162 (gI s 87 107) x1) fun s2 =>
  stp (sI s2 87 107 (w32 ((gI s2 87 107) + 1))) fun s4 =>
  some s4
theorem wj_X14_sayBit_29 {x1 : Int} {s : vS} {out : vS} (h : j_X14_sayBit_29 x1 s = some out)  (rx1 : rg x1) : VW cX14_sayBit (RX14, none, out, none, 1, 23, 2, []) (P0 []) s 29 [(0, vO 87), (1, vI x1)] [] := by
  unfold j_X14_sayBit_29 at h
  refine v_aload_n dX14_sayBit_29 0 rfl rfl ?_
  refine v_getS (f := 108) (t := 162) cf14 oc87 rfl rfl rfl (by decide) q2478 dX14_sayBit_30 ?_
  refine v_aload_n dX14_sayBit_33 0 rfl rfl ?_
  refine v_getI (f := 107) cf14 oc87 rfl (by decide) q2477 dX14_sayBit_34 ?_
  refine v_iload_n dX14_sayBit_37 1 rfl rfl ?_
  obtain ⟨g1, h⟩ := gd_some h
  obtain ⟨s2, e3, h⟩ := stp_some h
  refine v_iast oc162 (gI_rg _ _ _) g1.1 g1.2 dX14_sayBit_38 ?_
  rw [← e3]
  refine v_aload_n dX14_sayBit_39 0 rfl rfl ?_
  refine v_dupO dX14_sayBit_40 ?_
  refine v_getI (f := 107) cf14 oc87 rfl (by decide) q2477 dX14_sayBit_41 ?_
  refine v_iconst dX14_sayBit_44 ?_
  refine v_iadd dX14_sayBit_45 ?_
  obtain ⟨s4, e5, h⟩ := stp_some h
  refine v_putI (f := 107) cf14 oc87 rfl (by decide) q2477 dX14_sayBit_46 rfl rfl ?_
  rw [← e5]
  cases h
  exact v_vret dX14_sayBit_49

def f_X14_sayBit (x1 : Int) (s : vS) : Option (vS) :=
  if (gI s 87 107) = (w32 (gN s 162 : Int)) then
    bdv (f_X14_longer 162 (w32 (2 * (gI s 87 107))) s) fun s2 =>
    gd (2 * gN s2 162 ≤ gN s2 199 ∧ 2 ≤ gN s2 199) <|
    stp (sw2 s2 162 199) fun s6 =>
    stp (rs s6) fun s8 =>
    j_X14_sayBit_29 x1 s8
  else
    j_X14_sayBit_29 x1 s
theorem yk_X14_sayBit : yOk yX14_sayBit 1 := ⟨by decide, by decide, by decide +kernel⟩
theorem c_X14_sayBit {x1 : Int} {s : vS} {out : vS} (h : f_X14_sayBit x1 s = some out)  (rx1 : rg x1) : VC yX14_sayBit cX14_sayBit 2 none 1 23 [vO 87, vI x1] s none out [] := by
  unfold f_X14_sayBit at h
  refine VC.of RX14 (by decide) rfl (Nat.le_of_ble_eq_true rfl) ?_
  show VW cX14_sayBit (RX14, none, out, none, 1, 23, 2, []) (P0 []) s 0 [(0, vO 87), (1, vI x1)] []
  refine v_aload_n dX14_sayBit_0 0 rfl rfl ?_
  refine v_getI (f := 107) cf14 oc87 rfl (by decide) q2477 dX14_sayBit_1 ?_
  refine v_aload_n dX14_sayBit_4 0 rfl rfl ?_
  refine v_getS (f := 108) (t := 162) cf14 oc87 rfl rfl rfl (by decide) q2478 dX14_sayBit_5 ?_
  refine v_alen24 oc162 dX14_sayBit_8 ?_
  refine v_icmp_ne (tgt := 29) dX14_sayBit_9 (gI_rg _ _ _) (w32_rg _) (by decide) (fun c1 => ?_) (fun c1 => ?_)
  · rw [if_neg c1] at h
    exact wj_X14_sayBit_29 h rx1
  · rw [if_pos c1] at h
    refine v_aload_n dX14_sayBit_12 0 rfl rfl ?_
    refine v_aload_n dX14_sayBit_13 0 rfl rfl ?_
    refine v_getS (f := 108) (t := 162) cf14 oc87 rfl rfl rfl (by decide) q2478 dX14_sayBit_14 ?_
    refine v_iconst dX14_sayBit_17 ?_
    refine v_aload_n dX14_sayBit_18 0 rfl rfl ?_
    refine v_getI (f := 107) cf14 oc87 rfl (by decide) q2477 dX14_sayBit_19 ?_
    refine v_imul dX14_sayBit_22 ?_
    obtain ⟨s2, e3, h⟩ := bdv_some h
    have k4 := c_X14_longer e3 (⟨by decide, rfl⟩ : okB 162 24) (w32_rg _)
    refine v_callS (st := [vO 87]) k4 (lw_S q3012 q3013 q311 q3014) yk_X14_longer ⟨Nat.le_of_ble_eq_true rfl, Nat.le_of_ble_eq_true rfl⟩ ⟨kc87, trivial⟩ ⟨kc87, trivial⟩ (Nat.le_of_ble_eq_true rfl) rfl dX14_sayBit_23 ?_
    obtain ⟨g5, h⟩ := gd_some h
    obtain ⟨s6, e7, h⟩ := stp_some h
    refine v_pa (i := 0) (K := 199) (t0 := 162) (f := 108) (tk1 := [(24, 0)]) (L1 := [(0, vO 87), (1, vI x1)]) (st1 := []) rfl rfl (by decide) cf14 (⟨by decide, rfl⟩ : okB 87 13) rfl (by decide) rfl rfl (by decide) rfl g5 q2478 dX14_sayBit_26 rfl rfl rfl rfl ?_
    rw [← e7]
    obtain ⟨s8, e9, h⟩ := stp_some h
    refine v_dr (by decide) (by decide) ⟨(by decide), trivial⟩ trivial ?_
    rw [← e9]
    exact wj_X14_sayBit_29 h rx1

def E_X14_sayNumber_2 (rv : Option vA) (σo : vS) (q : vS) : Prop := ∀ (s' : vS), q = s' → VW cX14_sayNumber (RX14, rv, σo, none, 2, 44, 3, []) (P0 []) s' 35 [] []
def l_X14_sayNumber_2 : Nat → Int → Int → vS → Option (vS)
  | 0, _, _, _ => none
  | n + 1, x1, x2, s =>
    gd (inb x1 (gN s 148)) <|
    if (gE s 148 x1) ≤ x2 then
      some s
    else
      gd (inb x1 (gN s 147)) <|
      gd (inb (w32 ((gE s 147 x1) + x2)) (gN s 149)) <|
      bdv (f_X14_say (gE s 149 (w32 ((gE s 147 x1) + x2))) s) fun s5 =>
      vl (w32 (x2 + 1)) fun y8 =>
      l_X14_sayNumber_2 n x1 y8 s5
theorem wl_X14_sayNumber_2 {x1 : Int} {rv : Option vA} {σo : vS}  (rx1 : rg x1) : ∀ (n : Nat) (x2 : Int) (s : vS) (q : vS), l_X14_sayNumber_2 n x1 x2 s = some q → rg x2 → E_X14_sayNumber_2 rv σo q → VW cX14_sayNumber (RX14, rv, σo, none, 2, 44, 3, []) (P0 []) s 2 [(0, vO 87), (1, vI x1), (2, vI x2)] [] := by
  intro n
  induction n with
  | zero => intro x2 s q h; cases h
  | succ n ih =>
    intro x2 s q h rx2 hE
    unfold l_X14_sayNumber_2 at h
    refine v_iload_n dX14_sayNumber_2 2 rfl rfl ?_
    refine v_aload_n dX14_sayNumber_3 0 rfl rfl ?_
    refine v_getS (f := 87) (t := 148) cf14 oc87 rfl rfl rfl (by decide) q2457 dX14_sayNumber_4 ?_
    refine v_iload_n dX14_sayNumber_7 1 rfl rfl ?_
    obtain ⟨g1, h⟩ := gd_some h
    refine v_iald oc148 rx1 g1.1 g1.2 dX14_sayNumber_8 ?_
    refine v_icmp_ge (tgt := 35) dX14_sayNumber_9 rx2 (gE_rg _ _ _) (by decide) (fun c2 => ?_) (fun c2 => ?_)
    · rw [if_pos c2] at h
      cases h
      refine v_sub [] (L1 := []) rfl ?_
      exact hE _ rfl 
    · rw [if_neg c2] at h
      refine v_aload_n dX14_sayNumber_12 0 rfl rfl ?_
      refine v_aload_n dX14_sayNumber_13 0 rfl rfl ?_
      refine v_getS (f := 88) (t := 149) cf14 oc87 rfl rfl rfl (by decide) q2458 dX14_sayNumber_14 ?_
      refine v_aload_n dX14_sayNumber_17 0 rfl rfl ?_
      refine v_getS (f := 86) (t := 147) cf14 oc87 rfl rfl rfl (by decide) q2456 dX14_sayNumber_18 ?_
      refine v_iload_n dX14_sayNumber_21 1 rfl rfl ?_
      obtain ⟨g3, h⟩ := gd_some h
      refine v_iald oc147 rx1 g3.1 g3.2 dX14_sayNumber_22 ?_
      refine v_iload_n dX14_sayNumber_23 2 rfl rfl ?_
      refine v_iadd dX14_sayNumber_24 ?_
      obtain ⟨g4, h⟩ := gd_some h
      refine v_iald oc149 (w32_rg _) g4.1 g4.2 dX14_sayNumber_25 ?_
      obtain ⟨s5, e6, h⟩ := bdv_some h
      have k7 := c_X14_say e6 (gE_rg _ _ _)
      refine v_callV (st := []) cf14 oc87 k7 (lw_V q3207 q3209 qs230 q311 q3210) rfl yk_X14_say ⟨Nat.le_of_ble_eq_true rfl, Nat.le_of_ble_eq_true rfl⟩ trivial ⟨kc87, trivial⟩ (Nat.le_of_ble_eq_true rfl) rfl dX14_sayNumber_26 ?_
      obtain ⟨y8, e9, h⟩ := vl_some h
      refine v_iinc (L1 := [(2, vI (w32 (x2 + 1))), (0, vO 87), (1, vI x1)]) dX14_sayNumber_29 2 rfl (by decide) rfl ?_
      rw [← e9]
      have r10 : rg y8 := by rw [e9]; exact w32_rg _
      refine v_goto (tgt := 2) dX14_sayNumber_32 (by decide) ?_
      refine v_sub [1, 2, 0] (L1 := [(0, vO 87), (1, vI x1), (2, vI y8)]) rfl ?_
      exact ih y8 s5 _ h r10 hE

def f_X14_sayNumber (x1 : Int) (s : vS) : Option (vS) :=
  lq_0 (l_X14_sayNumber_2 FU x1 0 s) fun s1 =>
  some s1
theorem yk_X14_sayNumber : yOk yX14_sayNumber 1 := ⟨by decide, by decide, by decide +kernel⟩
theorem c_X14_sayNumber {x1 : Int} {s : vS} {out : vS} (h : f_X14_sayNumber x1 s = some out)  (rx1 : rg x1) : VC yX14_sayNumber cX14_sayNumber 3 none 2 44 [vO 87, vI x1] s none out [] := by
  unfold f_X14_sayNumber at h
  refine VC.of RX14 (by decide) rfl (Nat.le_of_ble_eq_true rfl) ?_
  show VW cX14_sayNumber (RX14, none, out, none, 2, 44, 3, []) (P0 []) s 0 [(0, vO 87), (1, vI x1)] []
  refine v_iconst dX14_sayNumber_0 ?_
  refine v_istore_n (L1 := [(2, vI 0), (0, vO 87), (1, vI x1)]) dX14_sayNumber_1 rfl (by decide) rfl ?_
  refine v_sub [1, 2, 0] (L1 := [(0, vO 87), (1, vI x1), (2, vI 0)]) rfl ?_
  obtain ⟨s1, e2, h⟩ := lq_0_some h
  refine wl_X14_sayNumber_2 rx1 FU 0 s _ e2 (rgl rfl) ?_
  unfold E_X14_sayNumber_2
  intro s1' z_
  cases z_
  cases h
  exact v_vret dX14_sayNumber_35

def E_X14_pieceNumber_15 (x1 : Int) (rv : Option vA) (σo : vS) (q : vS) : Prop := ∀ (s' : vS), q = s' → VW cX14_pieceNumber (RX14, rv, σo, (some .int), 2, 48, 3, []) (P0 []) s' 54 [(0, vO 87), (1, vI x1)] []
def l_X14_pieceNumber_15 : Nat → Int → Int → vS → Option (vS)
  | 0, _, _, _ => none
  | n + 1, x1, x2, s =>
    if (gI s 87 105) ≤ x2 then
      some s
    else
      gd (inb x2 (gN s 161)) <|
      gd (inb (gI s 87 85) (gN s 149)) <|
      stp (sE s 149 (gI s 87 85) (gE s 161 x2)) fun s4 =>
      stp (sI s4 87 85 (w32 ((gI s4 87 85) + 1))) fun s6 =>
      vl (w32 (x2 + 1)) fun y8 =>
      l_X14_pieceNumber_15 n x1 y8 s6
theorem wl_X14_pieceNumber_15 {x1 : Int} {rv : Option vA} {σo : vS}  (rx1 : rg x1) : ∀ (n : Nat) (x2 : Int) (s : vS) (q : vS), l_X14_pieceNumber_15 n x1 x2 s = some q → rg x2 → E_X14_pieceNumber_15 x1 rv σo q → VW cX14_pieceNumber (RX14, rv, σo, (some .int), 2, 48, 3, []) (P0 []) s 15 [(0, vO 87), (1, vI x1), (2, vI x2)] [] := by
  intro n
  induction n with
  | zero => intro x2 s q h; cases h
  | succ n ih =>
    intro x2 s q h rx2 hE
    unfold l_X14_pieceNumber_15 at h
    refine v_iload_n dX14_pieceNumber_15 2 rfl rfl ?_
    refine v_aload_n dX14_pieceNumber_16 0 rfl rfl ?_
    refine v_getI (f := 105) cf14 oc87 rfl (by decide) q2475 dX14_pieceNumber_17 ?_
    refine v_icmp_ge (tgt := 54) dX14_pieceNumber_20 rx2 (gI_rg _ _ _) (by decide) (fun c1 => ?_) (fun c1 => ?_)
    · rw [if_pos c1] at h
      cases h
      refine v_sub [0, 1] (L1 := [(0, vO 87), (1, vI x1)]) rfl ?_
      exact hE _ rfl 
    · rw [if_neg c1] at h
      refine v_aload_n dX14_pieceNumber_23 0 rfl rfl ?_
      refine v_getS (f := 88) (t := 149) cf14 oc87 rfl rfl rfl (by decide) q2458 dX14_pieceNumber_24 ?_
      refine v_aload_n dX14_pieceNumber_27 0 rfl rfl ?_
      refine v_getI (f := 85) cf14 oc87 rfl (by decide) q2455 dX14_pieceNumber_28 ?_
      refine v_aload_n dX14_pieceNumber_31 0 rfl rfl ?_
      refine v_getS (f := 106) (t := 161) cf14 oc87 rfl rfl rfl (by decide) q2476 dX14_pieceNumber_32 ?_
      refine v_iload_n dX14_pieceNumber_35 2 rfl rfl ?_
      obtain ⟨g2, h⟩ := gd_some h
      refine v_iald oc161 rx2 g2.1 g2.2 dX14_pieceNumber_36 ?_
      obtain ⟨g3, h⟩ := gd_some h
      obtain ⟨s4, e5, h⟩ := stp_some h
      refine v_iast oc149 (gI_rg _ _ _) g3.1 g3.2 dX14_pieceNumber_37 ?_
      rw [← e5]
      refine v_aload_n dX14_pieceNumber_38 0 rfl rfl ?_
      refine v_dupO dX14_pieceNumber_39 ?_
      refine v_getI (f := 85) cf14 oc87 rfl (by decide) q2455 dX14_pieceNumber_40 ?_
      refine v_iconst dX14_pieceNumber_43 ?_
      refine v_iadd dX14_pieceNumber_44 ?_
      obtain ⟨s6, e7, h⟩ := stp_some h
      refine v_putI (f := 85) cf14 oc87 rfl (by decide) q2455 dX14_pieceNumber_45 rfl rfl ?_
      rw [← e7]
      obtain ⟨y8, e9, h⟩ := vl_some h
      refine v_iinc (L1 := [(2, vI (w32 (x2 + 1))), (0, vO 87), (1, vI x1)]) dX14_pieceNumber_48 2 rfl (by decide) rfl ?_
      rw [← e9]
      have r10 : rg y8 := by rw [e9]; exact w32_rg _
      refine v_goto (tgt := 15) dX14_pieceNumber_51 (by decide) ?_
      refine v_sub [1, 2, 0] (L1 := [(0, vO 87), (1, vI x1), (2, vI y8)]) rfl ?_
      exact ih y8 s6 _ h r10 hE

def f_X14_pieceNumber (s : vS) : Option (Int × vS) :=
  bdv (f_X14_roomForBytes (gI s 87 105) s) fun s1 =>
  vl (gI s1 87 85) fun y4 =>
  lq_0 (l_X14_pieceNumber_15 FU y4 0 s1) fun s7 =>
  bd (f_X14_keepNumber y4 s7) fun r12 s9 =>
  some (r12, s9)
theorem yk_X14_pieceNumber : yOk yX14_pieceNumber 0 := ⟨by decide, by decide, by decide +kernel⟩
theorem c_X14_pieceNumber {s : vS} {out : Int × vS} (h : f_X14_pieceNumber s = some out)   : VC yX14_pieceNumber cX14_pieceNumber 3 (some .int) 2 48 [vO 87] s (some (vI out.1)) out.2 [] := by
  unfold f_X14_pieceNumber at h
  refine VC.of RX14 (by decide) rfl (Nat.le_of_ble_eq_true rfl) ?_
  show VW cX14_pieceNumber (RX14, (some (vI out.1)), out.2, (some .int), 2, 48, 3, []) (P0 []) s 0 [(0, vO 87)] []
  refine v_aload_n dX14_pieceNumber_0 0 rfl rfl ?_
  refine v_aload_n dX14_pieceNumber_1 0 rfl rfl ?_
  refine v_getI (f := 105) cf14 oc87 rfl (by decide) q2475 dX14_pieceNumber_2 ?_
  obtain ⟨s1, e2, h⟩ := bdv_some h
  have k3 := c_X14_roomForBytes e2 (gI_rg _ _ _)
  refine v_callV (st := []) cf14 oc87 k3 (lw_V q3008 q3010 qs183 q311 q3011) rfl yk_X14_roomForBytes ⟨Nat.le_of_ble_eq_true rfl, Nat.le_of_ble_eq_true rfl⟩ trivial ⟨kc87, trivial⟩ (Nat.le_of_ble_eq_true rfl) rfl dX14_pieceNumber_5 ?_
  refine v_aload_n dX14_pieceNumber_8 0 rfl rfl ?_
  refine v_getI (f := 85) cf14 oc87 rfl (by decide) q2455 dX14_pieceNumber_9 ?_
  obtain ⟨y4, e5, h⟩ := vl_some h
  rw [← e5]
  have r6 : rg y4 := by rw [e5]; exact gI_rg _ _ _
  refine v_istore_n (L1 := [(1, vI y4), (0, vO 87)]) dX14_pieceNumber_12 rfl (by decide) rfl ?_
  refine v_iconst dX14_pieceNumber_13 ?_
  refine v_istore_n (L1 := [(2, vI 0), (1, vI y4), (0, vO 87)]) dX14_pieceNumber_14 rfl (by decide) rfl ?_
  refine v_sub [2, 1, 0] (L1 := [(0, vO 87), (1, vI y4), (2, vI 0)]) rfl ?_
  obtain ⟨s7, e8, h⟩ := lq_0_some h
  refine wl_X14_pieceNumber_15 r6 FU 0 s1 _ e8 (rgl rfl) ?_
  unfold E_X14_pieceNumber_15
  intro s7' z_
  cases z_
  refine v_aload_n dX14_pieceNumber_54 0 rfl rfl ?_
  refine v_iload_n dX14_pieceNumber_55 1 rfl rfl ?_
  obtain ⟨r12, s9, e10, h⟩ := bd_some h
  have k11 := c_X14_keepNumber e10 r6
  have r13 : rg r12 := k11.1.2.2
  refine v_callV (st := []) cf14 oc87 k11 (lw_V q3015 q3017 qs184 q311 q3018) rfl yk_X14_keepNumber ⟨Nat.le_of_ble_eq_true rfl, Nat.le_of_ble_eq_true rfl⟩ trivial ⟨kc87, trivial⟩ (Nat.le_of_ble_eq_true rfl) rfl dX14_pieceNumber_56 ?_
  cases h
  exact v_iret r13 dX14_pieceNumber_59

def j_X14_leastSize_103 (x2 : Int) (s : vS) : Option (Int × vS) :=
  gd (inb x2 (gN s 169)) <|
  if 0 ≤ (gE s 169 x2) then
    gd (inb x2 (gN s 169)) <|
    some (w32 ((gE s 169 x2) - 1), s)
  else
    some ((-1), s)
theorem wj_X14_leastSize_103 {x2 : Int} {s : vS} {out : Int × vS} (h : j_X14_leastSize_103 x2 s = some out)  (rx2 : rg x2) : VW cX14_leastSize (RX14, (some (vI out.1)), out.2, (some .int), 4, 102, 4, []) (P0 []) s 103 [(0, vO 87), (2, vI x2)] [] := by
  unfold j_X14_leastSize_103 at h
  refine v_aload_n dX14_leastSize_103 0 rfl rfl ?_
  refine v_getS (f := 117) (t := 169) cf14 oc87 rfl rfl rfl (by decide) q2487 dX14_leastSize_104 ?_
  refine v_iload_n dX14_leastSize_107 1 rfl rfl ?_
  obtain ⟨g1, h⟩ := gd_some h
  refine v_iald oc169 rx2 g1.1 g1.2 dX14_leastSize_108 ?_
  refine v_if_ge (tgt := 116) dX14_leastSize_109 (gE_rg _ _ _) (by decide) (fun c2 => ?_) (fun c2 => ?_)
  · rw [if_pos c2] at h
    refine v_aload_n dX14_leastSize_116 0 rfl rfl ?_
    refine v_getS (f := 117) (t := 169) cf14 oc87 rfl rfl rfl (by decide) q2487 dX14_leastSize_117 ?_
    refine v_iload_n dX14_leastSize_120 1 rfl rfl ?_
    obtain ⟨g3, h⟩ := gd_some h
    refine v_iald oc169 rx2 g3.1 g3.2 dX14_leastSize_121 ?_
    refine v_iconst dX14_leastSize_122 ?_
    refine v_isub dX14_leastSize_123 ?_
    cases h
    exact v_iret (w32_rg _) dX14_leastSize_124
  · rw [if_neg c2] at h
    refine v_iconst dX14_leastSize_112 ?_
    refine v_goto (tgt := 124) dX14_leastSize_113 (by decide) ?_
    cases h
    exact v_iret (rgl rfl) dX14_leastSize_124

def E_X14_leastSize_63 (x2 : Int) (rv : Option vA) (σo : vS) (q : Int × vS) : Prop := ∀ (x3' : Int) (s' : vS), q = (x3', s') → rg x3' → VW cX14_leastSize (RX14, rv, σo, (some .int), 4, 102, 4, []) (P0 []) s' 84 [(0, vO 87), (2, vI x2), (3, vI x3')] []
def l_X14_leastSize_63 : Nat → Int → Int → Int → vS → Option (Int × vS)
  | 0, _, _, _, _ => none
  | n + 1, x1, x2, x3, s =>
    if 64 < x3 then
      some (x3, s)
    else
      bd (f_X14_holdsSize x1 x3 s) fun r5 s2 =>
      if r5 = 0 then
        vl (w32 (x3 + 1)) fun y8 =>
        l_X14_leastSize_63 n x1 x2 y8 s2
      else
        some (x3, s2)
theorem wl_X14_leastSize_63 {x1 : Int} {x2 : Int} {rv : Option vA} {σo : vS}  (rx1 : rg x1) (rx2 : rg x2) : ∀ (n : Nat) (x3 : Int) (s : vS) (q : Int × vS), l_X14_leastSize_63 n x1 x2 x3 s = some q → rg x3 → E_X14_leastSize_63 x2 rv σo q → VW cX14_leastSize (RX14, rv, σo, (some .int), 4, 102, 4, []) (P0 []) s 63 [(0, vO 87), (1, vI x1), (2, vI x2), (3, vI x3)] [] := by
  intro n
  induction n with
  | zero => intro x3 s q h; cases h
  | succ n ih =>
    intro x3 s q h rx3 hE
    unfold l_X14_leastSize_63 at h
    refine v_iload_n dX14_leastSize_63 3 rfl rfl ?_
    refine v_bipush dX14_leastSize_64 rfl ?_
    refine v_icmp_gt (tgt := 84) dX14_leastSize_66 rx3 (rgl rfl) (by decide) (fun c1 => ?_) (fun c1 => ?_)
    · rw [if_pos c1] at h
      cases h
      refine v_sub [0, 2, 3] (L1 := [(0, vO 87), (2, vI x2), (3, vI x3)]) rfl ?_
      exact hE _ _ rfl rx3
    · rw [if_neg c1] at h
      refine v_aload_n dX14_leastSize_69 0 rfl rfl ?_
      refine v_iload_n dX14_leastSize_70 1 rfl rfl ?_
      refine v_iload_n dX14_leastSize_71 3 rfl rfl ?_
      obtain ⟨r5, s2, e3, h⟩ := bd_some h
      have k4 := c_X14_holdsSize e3 rx1 rx3
      have r6 : rg r5 := k4.1.2.2
      refine v_callV (st := []) cf14 oc87 k4 (lw_V q3247 q3249 qs240 q311 q3250) rfl yk_X14_holdsSize ⟨Nat.le_of_ble_eq_true rfl, Nat.le_of_ble_eq_true rfl⟩ trivial ⟨kc87, trivial⟩ (Nat.le_of_ble_eq_true rfl) rfl dX14_leastSize_72 ?_
      refine v_if_ne (tgt := 84) dX14_leastSize_75 r6 (by decide) (fun c7 => ?_) (fun c7 => ?_)
      · rw [if_neg c7] at h
        cases h
        refine v_sub [0, 2, 3] (L1 := [(0, vO 87), (2, vI x2), (3, vI x3)]) rfl ?_
        exact hE _ _ rfl rx3
      · rw [if_pos c7] at h
        obtain ⟨y8, e9, h⟩ := vl_some h
        refine v_iinc (L1 := [(3, vI (w32 (x3 + 1))), (0, vO 87), (1, vI x1), (2, vI x2)]) dX14_leastSize_78 3 rfl (by decide) rfl ?_
        rw [← e9]
        have r10 : rg y8 := by rw [e9]; exact w32_rg _
        refine v_goto (tgt := 63) dX14_leastSize_81 (by decide) ?_
        refine v_sub [1, 2, 3, 0] (L1 := [(0, vO 87), (1, vI x1), (2, vI x2), (3, vI y8)]) rfl ?_
        exact ih y8 s2 _ h r10 hE

def j_X14_leastSize_84 (x2 : Int) (x3 : Int) (s : vS) : Option (Int × vS) :=
  if x3 ≤ 64 then
    gd (inb x2 (gN s 169)) <|
    stp (sE s 169 x2 (w32 (x3 + 1))) fun s3 =>
    j_X14_leastSize_103 x2 s3
  else
    gd (inb x2 (gN s 169)) <|
    stp (sE s 169 x2 (-1)) fun s6 =>
    j_X14_leastSize_103 x2 s6
theorem wj_X14_leastSize_84 {x2 : Int} {x3 : Int} {s : vS} {out : Int × vS} (h : j_X14_leastSize_84 x2 x3 s = some out)  (rx2 : rg x2) (rx3 : rg x3) : VW cX14_leastSize (RX14, (some (vI out.1)), out.2, (some .int), 4, 102, 4, []) (P0 []) s 84 [(0, vO 87), (2, vI x2), (3, vI x3)] [] := by
  unfold j_X14_leastSize_84 at h
  refine v_aload_n dX14_leastSize_84 0 rfl rfl ?_
  refine v_getS (f := 117) (t := 169) cf14 oc87 rfl rfl rfl (by decide) q2487 dX14_leastSize_85 ?_
  refine v_iload_n dX14_leastSize_88 1 rfl rfl ?_
  refine v_iload_n dX14_leastSize_89 2 rfl rfl ?_
  refine v_bipush dX14_leastSize_90 rfl ?_
  refine v_icmp_le (tgt := 99) dX14_leastSize_92 rx3 (rgl rfl) (by decide) (fun c1 => ?_) (fun c1 => ?_)
  · rw [if_pos c1] at h
    refine v_iload_n dX14_leastSize_99 2 rfl rfl ?_
    refine v_iconst dX14_leastSize_100 ?_
    refine v_iadd dX14_leastSize_101 ?_
    obtain ⟨g2, h⟩ := gd_some h
    obtain ⟨s3, e4, h⟩ := stp_some h
    refine v_iast oc169 rx2 g2.1 g2.2 dX14_leastSize_102 ?_
    rw [← e4]
    refine v_sub [0, 1] (L1 := [(0, vO 87), (2, vI x2)]) rfl ?_
    exact wj_X14_leastSize_103 h rx2
  · rw [if_neg c1] at h
    refine v_iconst dX14_leastSize_95 ?_
    refine v_goto (tgt := 102) dX14_leastSize_96 (by decide) ?_
    obtain ⟨g5, h⟩ := gd_some h
    obtain ⟨s6, e7, h⟩ := stp_some h
    refine v_iast oc169 rx2 g5.1 g5.2 dX14_leastSize_102 ?_
    rw [← e7]
    refine v_sub [0, 1] (L1 := [(0, vO 87), (2, vI x2)]) rfl ?_
    exact wj_X14_leastSize_103 h rx2

def j_X14_leastSize_52 (x1 : Int) (x2 : Int) (s : vS) : Option (Int × vS) :=
  gd (inb x2 (gN s 169)) <|
  if (gE s 169 x2) = 0 then
    lq_1 (l_X14_leastSize_63 FU x1 x2 x2 s) fun y3 s4 =>
    j_X14_leastSize_84 x2 y3 s4
  else
    j_X14_leastSize_103 x2 s
theorem wj_X14_leastSize_52 {x1 : Int} {x2 : Int} {s : vS} {out : Int × vS} (h : j_X14_leastSize_52 x1 x2 s = some out)  (rx1 : rg x1) (rx2 : rg x2) : VW cX14_leastSize (RX14, (some (vI out.1)), out.2, (some .int), 4, 102, 4, []) (P0 []) s 52 [(0, vO 87), (1, vI x1), (2, vI x2)] [] := by
  unfold j_X14_leastSize_52 at h
  refine v_aload_n dX14_leastSize_52 0 rfl rfl ?_
  refine v_getS (f := 117) (t := 169) cf14 oc87 rfl rfl rfl (by decide) q2487 dX14_leastSize_53 ?_
  refine v_iload_n dX14_leastSize_56 2 rfl rfl ?_
  obtain ⟨g1, h⟩ := gd_some h
  refine v_iald oc169 rx2 g1.1 g1.2 dX14_leastSize_57 ?_
  refine v_if_ne (tgt := 103) dX14_leastSize_58 (gE_rg _ _ _) (by decide) (fun c2 => ?_) (fun c2 => ?_)
  · rw [if_neg c2] at h
    refine v_sub [0, 2] (L1 := [(0, vO 87), (2, vI x2)]) rfl ?_
    exact wj_X14_leastSize_103 h rx2
  · rw [if_pos c2] at h
    refine v_iload_n dX14_leastSize_61 2 rfl rfl ?_
    refine v_istore_n (L1 := [(3, vI x2), (0, vO 87), (1, vI x1), (2, vI x2)]) dX14_leastSize_62 rfl (by decide) rfl ?_
    refine v_sub [1, 2, 3, 0] (L1 := [(0, vO 87), (1, vI x1), (2, vI x2), (3, vI x2)]) rfl ?_
    obtain ⟨y3, s4, e5, h⟩ := lq_1_some h
    refine wl_X14_leastSize_63 rx1 rx2 FU x2 s _ e5 rx2 ?_
    unfold E_X14_leastSize_63
    intro y3' s4' z_ r6
    cases z_
    exact wj_X14_leastSize_84 h rx2 r6

def E_X14_leastSize_33 (x1 : Int) (x2 : Int) (rv : Option vA) (σo : vS) (q : vS) : Prop := ∀ (s' : vS), q = s' → VW cX14_leastSize (RX14, rv, σo, (some .int), 4, 102, 4, []) (P0 []) s' 52 [(0, vO 87), (1, vI x1), (2, vI x2)] []
def l_X14_leastSize_33 : Nat → Int → Int → Int → vS → Option (vS)
  | 0, _, _, _, _ => none
  | n + 1, x1, x2, x3, s =>
    if 64 < x3 then
      some s
    else
      gd (inb x3 (gN s 169)) <|
      stp (sE s 169 x3 0) fun s3 =>
      vl (w32 (x3 + 1)) fun y5 =>
      l_X14_leastSize_33 n x1 x2 y5 s3
theorem wl_X14_leastSize_33 {x1 : Int} {x2 : Int} {rv : Option vA} {σo : vS}  (rx1 : rg x1) (rx2 : rg x2) : ∀ (n : Nat) (x3 : Int) (s : vS) (q : vS), l_X14_leastSize_33 n x1 x2 x3 s = some q → rg x3 → E_X14_leastSize_33 x1 x2 rv σo q → VW cX14_leastSize (RX14, rv, σo, (some .int), 4, 102, 4, []) (P0 []) s 33 [(0, vO 87), (1, vI x1), (2, vI x2), (3, vI x3)] [] := by
  intro n
  induction n with
  | zero => intro x3 s q h; cases h
  | succ n ih =>
    intro x3 s q h rx3 hE
    unfold l_X14_leastSize_33 at h
    refine v_iload_n dX14_leastSize_33 3 rfl rfl ?_
    refine v_bipush dX14_leastSize_34 rfl ?_
    refine v_icmp_gt (tgt := 52) dX14_leastSize_36 rx3 (rgl rfl) (by decide) (fun c1 => ?_) (fun c1 => ?_)
    · rw [if_pos c1] at h
      cases h
      refine v_sub [0, 1, 2] (L1 := [(0, vO 87), (1, vI x1), (2, vI x2)]) rfl ?_
      exact hE _ rfl 
    · rw [if_neg c1] at h
      refine v_aload_n dX14_leastSize_39 0 rfl rfl ?_
      refine v_getS (f := 117) (t := 169) cf14 oc87 rfl rfl rfl (by decide) q2487 dX14_leastSize_40 ?_
      refine v_iload_n dX14_leastSize_43 3 rfl rfl ?_
      refine v_iconst dX14_leastSize_44 ?_
      obtain ⟨g2, h⟩ := gd_some h
      obtain ⟨s3, e4, h⟩ := stp_some h
      refine v_iast oc169 rx3 g2.1 g2.2 dX14_leastSize_45 ?_
      rw [← e4]
      obtain ⟨y5, e6, h⟩ := vl_some h
      refine v_iinc (L1 := [(3, vI (w32 (x3 + 1))), (0, vO 87), (1, vI x1), (2, vI x2)]) dX14_leastSize_46 3 rfl (by decide) rfl ?_
      rw [← e6]
      have r7 : rg y5 := by rw [e6]; exact w32_rg _
      refine v_goto (tgt := 33) dX14_leastSize_49 (by decide) ?_
      refine v_sub [1, 2, 3, 0] (L1 := [(0, vO 87), (1, vI x1), (2, vI x2), (3, vI y5)]) rfl ?_
      exact ih y5 s3 _ h r7 hE

def f_X14_leastSize (x1 : Int) (x2 : Int) (s : vS) : Option (Int × vS) :=
  bd (f_X14_hasSizeLimits x1 s) fun r4 s1 =>
  if r4 = 0 then
    some (x2, s1)
  else
    if x2 ≤ 64 then
      if (gI s1 87 116) = x1 then
        j_X14_leastSize_52 x1 x2 s1
      else
        stp (sI s1 87 116 x1) fun s9 =>
        lq_0 (l_X14_leastSize_33 FU x1 x2 0 s9) fun s11 =>
        j_X14_leastSize_52 x1 x2 s11
    else
      some ((-1), s1)
theorem yk_X14_leastSize : yOk yX14_leastSize 2 := ⟨by decide, by decide, by decide +kernel⟩
theorem c_X14_leastSize {x1 : Int} {x2 : Int} {s : vS} {out : Int × vS} (h : f_X14_leastSize x1 x2 s = some out)  (rx1 : rg x1) (rx2 : rg x2) : VC yX14_leastSize cX14_leastSize 4 (some .int) 4 102 [vO 87, vI x1, vI x2] s (some (vI out.1)) out.2 [] := by
  unfold f_X14_leastSize at h
  refine VC.of RX14 (by decide) rfl (Nat.le_of_ble_eq_true rfl) ?_
  show VW cX14_leastSize (RX14, (some (vI out.1)), out.2, (some .int), 4, 102, 4, []) (P0 []) s 0 [(0, vO 87), (1, vI x1), (2, vI x2)] []
  refine v_aload_n dX14_leastSize_0 0 rfl rfl ?_
  refine v_iload_n dX14_leastSize_1 1 rfl rfl ?_
  obtain ⟨r4, s1, e2, h⟩ := bd_some h
  have k3 := c_X14_hasSizeLimits e2 rx1
  have r5 : rg r4 := k3.1.2.2
  refine v_callV (st := []) cf14 oc87 k3 (lw_V q3243 q3245 qs239 q311 q3246) rfl yk_X14_hasSizeLimits ⟨Nat.le_of_ble_eq_true rfl, Nat.le_of_ble_eq_true rfl⟩ trivial ⟨kc87, trivial⟩ (Nat.le_of_ble_eq_true rfl) rfl dX14_leastSize_2 ?_
  refine v_if_ne (tgt := 10) dX14_leastSize_5 r5 (by decide) (fun c6 => ?_) (fun c6 => ?_)
  · rw [if_neg c6] at h
    refine v_iload_n dX14_leastSize_10 2 rfl rfl ?_
    refine v_bipush dX14_leastSize_11 rfl ?_
    refine v_icmp_le (tgt := 18) dX14_leastSize_13 rx2 (rgl rfl) (by decide) (fun c7 => ?_) (fun c7 => ?_)
    · rw [if_pos c7] at h
      refine v_aload_n dX14_leastSize_18 0 rfl rfl ?_
      refine v_getI (f := 116) cf14 oc87 rfl (by decide) q2486 dX14_leastSize_19 ?_
      refine v_iload_n dX14_leastSize_22 1 rfl rfl ?_
      refine v_icmp_eq (tgt := 52) dX14_leastSize_23 (gI_rg _ _ _) rx1 (by decide) (fun c8 => ?_) (fun c8 => ?_)
      · rw [if_pos c8] at h
        exact wj_X14_leastSize_52 h rx1 rx2
      · rw [if_neg c8] at h
        refine v_aload_n dX14_leastSize_26 0 rfl rfl ?_
        refine v_iload_n dX14_leastSize_27 1 rfl rfl ?_
        obtain ⟨s9, e10, h⟩ := stp_some h
        refine v_putI (f := 116) cf14 oc87 rfl (by decide) q2486 dX14_leastSize_28 rfl rfl ?_
        rw [← e10]
        refine v_iconst dX14_leastSize_31 ?_
        refine v_istore_n (L1 := [(3, vI 0), (0, vO 87), (1, vI x1), (2, vI x2)]) dX14_leastSize_32 rfl (by decide) rfl ?_
        refine v_sub [1, 2, 3, 0] (L1 := [(0, vO 87), (1, vI x1), (2, vI x2), (3, vI 0)]) rfl ?_
        obtain ⟨s11, e12, h⟩ := lq_0_some h
        refine wl_X14_leastSize_33 rx1 rx2 FU 0 s9 _ e12 (rgl rfl) ?_
        unfold E_X14_leastSize_33
        intro s11' z_
        cases z_
        exact wj_X14_leastSize_52 h rx1 rx2
    · rw [if_neg c7] at h
      refine v_iconst dX14_leastSize_16 ?_
      cases h
      exact v_iret (rgl rfl) dX14_leastSize_17
  · rw [if_pos c6] at h
    refine v_iload_n dX14_leastSize_8 2 rfl rfl ?_
    cases h
    exact v_iret rx2 dX14_leastSize_9

def E_X14_writeBits_128 (x3 : Int) (rv : Option vA) (σo : vS) (q : vS) : Prop := ∀ (s' : vS), q = s' → VW cX14_writeBits (RX14, rv, σo, (some .boolean), 5, 125, 7, []) (P0 []) s' 201 [(3, vI x3)] []
def E_X14_writeBits_143 (x3 : Int) (x4 : Int) (rv : Option vA) (σo : vS) (q : Int × vS) : Prop := ∀ (x5' : Int) (s' : vS), q = (x5', s') → rg x5' → VW cX14_writeBits (RX14, rv, σo, (some .boolean), 5, 125, 7, []) (P0 []) s' 189 [(0, vO 87), (3, vI x3), (4, vI x4), (5, vI x5')] []
def l_X14_writeBits_143 : Nat → Int → Int → Int → Int → vS → Option (Int × vS)
  | 0, _, _, _, _, _ => none
  | n + 1, x3, x4, x5, x6, s =>
    if 8 ≤ x6 then
      some (x5, s)
    else
      if (gI s 87 107) ≤ (w32 (x4 + x6)) then
        vl (or32 (shl32 x5 1) 0) fun y3 =>
        vl (w32 (x6 + 1)) fun y6 =>
        l_X14_writeBits_143 n x3 x4 y3 y6 s
      else
        gd (inb (w32 (x4 + x6)) (gN s 162)) <|
        vl (or32 (shl32 x5 1) (gE s 162 (w32 (x4 + x6)))) fun y10 =>
        vl (w32 (x6 + 1)) fun y13 =>
        l_X14_writeBits_143 n x3 x4 y10 y13 s
theorem wl_X14_writeBits_143 {x3 : Int} {x4 : Int} {rv : Option vA} {σo : vS}  (rx3 : rg x3) (rx4 : rg x4) : ∀ (n : Nat) (x5 : Int) (x6 : Int) (s : vS) (q : Int × vS), l_X14_writeBits_143 n x3 x4 x5 x6 s = some q → rg x5 → rg x6 → E_X14_writeBits_143 x3 x4 rv σo q → VW cX14_writeBits (RX14, rv, σo, (some .boolean), 5, 125, 7, []) (P0 []) s 143 [(0, vO 87), (3, vI x3), (4, vI x4), (5, vI x5), (6, vI x6)] [] := by
  intro n
  induction n with
  | zero => intro x5 x6 s q h; cases h
  | succ n ih =>
    intro x5 x6 s q h rx5 rx6 hE
    unfold l_X14_writeBits_143 at h
    refine v_iload dX14_writeBits_143 4 rfl ?_
    refine v_bipush dX14_writeBits_145 rfl ?_
    refine v_icmp_ge (tgt := 189) dX14_writeBits_147 rx6 (rgl rfl) (by decide) (fun c1 => ?_) (fun c1 => ?_)
    · rw [if_pos c1] at h
      cases h
      refine v_sub [0, 1, 2, 3] (L1 := [(0, vO 87), (3, vI x3), (4, vI x4), (5, vI x5)]) rfl ?_
      exact hE _ _ rfl rx5
    · rw [if_neg c1] at h
      refine v_iload dX14_writeBits_150 3 rfl ?_
      refine v_iconst dX14_writeBits_152 ?_
      refine v_ishl dX14_writeBits_153 ?_
      refine v_iload dX14_writeBits_154 2 rfl ?_
      refine v_iload dX14_writeBits_156 4 rfl ?_
      refine v_iadd dX14_writeBits_158 ?_
      refine v_aload_n dX14_writeBits_159 0 rfl rfl ?_
      refine v_getI (f := 107) cf14 oc87 rfl (by decide) q2477 dX14_writeBits_160 ?_
      refine v_icmp_ge (tgt := 179) dX14_writeBits_163 (w32_rg _) (gI_rg _ _ _) (by decide) (fun c2 => ?_) (fun c2 => ?_)
      · rw [if_pos c2] at h
        refine v_iconst dX14_writeBits_179 ?_
        refine v_ior dX14_writeBits_180 ?_
        obtain ⟨y3, e4, h⟩ := vl_some h
        rw [← e4]
        have r5 : rg y3 := by rw [e4]; exact or32_rg _ _
        refine v_istore (L1 := [(5, vI y3), (0, vO 87), (3, vI x3), (4, vI x4), (6, vI x6)]) dX14_writeBits_181 (by decide) rfl ?_
        obtain ⟨y6, e7, h⟩ := vl_some h
        refine v_iinc (L1 := [(6, vI (w32 (x6 + 1))), (5, vI y3), (0, vO 87), (3, vI x3), (4, vI x4)]) dX14_writeBits_183 4 rfl (by decide) rfl ?_
        rw [← e7]
        have r8 : rg y6 := by rw [e7]; exact w32_rg _
        refine v_goto (tgt := 143) dX14_writeBits_186 (by decide) ?_
        refine v_sub [2, 3, 4, 1, 0] (L1 := [(0, vO 87), (3, vI x3), (4, vI x4), (5, vI y3), (6, vI y6)]) rfl ?_
        exact ih y3 y6 s _ h r5 r8 hE
      · rw [if_neg c2] at h
        refine v_aload_n dX14_writeBits_166 0 rfl rfl ?_
        refine v_getS (f := 108) (t := 162) cf14 oc87 rfl rfl rfl (by decide) q2478 dX14_writeBits_167 ?_
        refine v_iload dX14_writeBits_170 2 rfl ?_
        refine v_iload dX14_writeBits_172 4 rfl ?_
        refine v_iadd dX14_writeBits_174 ?_
        obtain ⟨g9, h⟩ := gd_some h
        refine v_iald oc162 (w32_rg _) g9.1 g9.2 dX14_writeBits_175 ?_
        refine v_goto (tgt := 180) dX14_writeBits_176 (by decide) ?_
        refine v_ior dX14_writeBits_180 ?_
        obtain ⟨y10, e11, h⟩ := vl_some h
        rw [← e11]
        have r12 : rg y10 := by rw [e11]; exact or32_rg _ _
        refine v_istore (L1 := [(5, vI y10), (0, vO 87), (3, vI x3), (4, vI x4), (6, vI x6)]) dX14_writeBits_181 (by decide) rfl ?_
        obtain ⟨y13, e14, h⟩ := vl_some h
        refine v_iinc (L1 := [(6, vI (w32 (x6 + 1))), (5, vI y10), (0, vO 87), (3, vI x3), (4, vI x4)]) dX14_writeBits_183 4 rfl (by decide) rfl ?_
        rw [← e14]
        have r15 : rg y13 := by rw [e14]; exact w32_rg _
        refine v_goto (tgt := 143) dX14_writeBits_186 (by decide) ?_
        refine v_sub [2, 3, 4, 1, 0] (L1 := [(0, vO 87), (3, vI x3), (4, vI x4), (5, vI y10), (6, vI y13)]) rfl ?_
        exact ih y10 y13 s _ h r12 r15 hE

def l_X14_writeBits_128 : Nat → Int → Int → vS → Option (vS)
  | 0, _, _, _ => none
  | n + 1, x3, x4, s =>
    if (gI s 87 107) ≤ x4 then
      some s
    else
      lq_1 (l_X14_writeBits_143 FU x3 x4 0 0 s) fun y2 s3 =>
      bdv (f_X14_say y2 s3) fun s6 =>
      vl (w32 (x4 + 8)) fun y9 =>
      l_X14_writeBits_128 n x3 y9 s6
theorem wl_X14_writeBits_128 {x3 : Int} {rv : Option vA} {σo : vS}  (rx3 : rg x3) : ∀ (n : Nat) (x4 : Int) (s : vS) (q : vS), l_X14_writeBits_128 n x3 x4 s = some q → rg x4 → E_X14_writeBits_128 x3 rv σo q → VW cX14_writeBits (RX14, rv, σo, (some .boolean), 5, 125, 7, []) (P0 []) s 128 [(0, vO 87), (3, vI x3), (4, vI x4)] [] := by
  intro n
  induction n with
  | zero => intro x4 s q h; cases h
  | succ n ih =>
    intro x4 s q h rx4 hE
    unfold l_X14_writeBits_128 at h
    refine v_iload dX14_writeBits_128 2 rfl ?_
    refine v_aload_n dX14_writeBits_130 0 rfl rfl ?_
    refine v_getI (f := 107) cf14 oc87 rfl (by decide) q2477 dX14_writeBits_131 ?_
    refine v_icmp_ge (tgt := 201) dX14_writeBits_134 rx4 (gI_rg _ _ _) (by decide) (fun c1 => ?_) (fun c1 => ?_)
    · rw [if_pos c1] at h
      cases h
      refine v_sub [1] (L1 := [(3, vI x3)]) rfl ?_
      exact hE _ rfl 
    · rw [if_neg c1] at h
      refine v_iconst dX14_writeBits_137 ?_
      refine v_istore (L1 := [(5, vI 0), (0, vO 87), (3, vI x3), (4, vI x4)]) dX14_writeBits_138 (by decide) rfl ?_
      refine v_iconst dX14_writeBits_140 ?_
      refine v_istore (L1 := [(6, vI 0), (5, vI 0), (0, vO 87), (3, vI x3), (4, vI x4)]) dX14_writeBits_141 (by decide) rfl ?_
      refine v_sub [2, 3, 4, 1, 0] (L1 := [(0, vO 87), (3, vI x3), (4, vI x4), (5, vI 0), (6, vI 0)]) rfl ?_
      obtain ⟨y2, s3, e4, h⟩ := lq_1_some h
      refine wl_X14_writeBits_143 rx3 rx4 FU 0 0 s _ e4 (rgl rfl) (rgl rfl) ?_
      unfold E_X14_writeBits_143
      intro y2' s3' z_ r5
      cases z_
      refine v_aload_n dX14_writeBits_189 0 rfl rfl ?_
      refine v_iload dX14_writeBits_190 3 rfl ?_
      obtain ⟨s6, e7, h⟩ := bdv_some h
      have k8 := c_X14_say e7 r5
      refine v_callV (st := []) cf14 oc87 k8 (lw_V q3207 q3209 qs230 q311 q3210) rfl yk_X14_say ⟨Nat.le_of_ble_eq_true rfl, Nat.le_of_ble_eq_true rfl⟩ trivial ⟨kc87, trivial⟩ (Nat.le_of_ble_eq_true rfl) rfl dX14_writeBits_192 ?_
      obtain ⟨y9, e10, h⟩ := vl_some h
      refine v_iinc (L1 := [(4, vI (w32 (x4 + 8))), (0, vO 87), (3, vI x3), (5, vI y2)]) dX14_writeBits_195 2 rfl (by decide) rfl ?_
      rw [← e10]
      have r11 : rg y9 := by rw [e10]; exact w32_rg _
      refine v_goto (tgt := 128) dX14_writeBits_198 (by decide) ?_
      refine v_sub [1, 2, 0] (L1 := [(0, vO 87), (3, vI x3), (4, vI y9)]) rfl ?_
      exact ih y9 s6 _ h r11 hE

def j_X14_writeBits_103 (x3 : Int) (s : vS) : Option (Int × vS) :=
  stp (sI s 87 105 0) fun s1 =>
  bdv (f_X14_say (m32 (w32 (8 - (m32 (gI s1 87 107) 8))) 8) s1) fun s3 =>
  lq_0 (l_X14_writeBits_128 FU x3 0 s3) fun s6 =>
  gd (x3 = 0 ∨ x3 = 1) <|
  some (x3, s6)
theorem wj_X14_writeBits_103 {x3 : Int} {s : vS} {out : Int × vS} (h : j_X14_writeBits_103 x3 s = some out)  (rx3 : rg x3) : VW cX14_writeBits (RX14, (some (vI out.1)), out.2, (some .boolean), 5, 125, 7, []) (P0 []) s 103 [(0, vO 87), (3, vI x3)] [] := by
  unfold j_X14_writeBits_103 at h
  refine v_aload_n dX14_writeBits_103 0 rfl rfl ?_
  refine v_iconst dX14_writeBits_104 ?_
  obtain ⟨s1, e2, h⟩ := stp_some h
  refine v_putI (f := 105) cf14 oc87 rfl (by decide) q2475 dX14_writeBits_105 rfl rfl ?_
  rw [← e2]
  refine v_aload_n dX14_writeBits_108 0 rfl rfl ?_
  refine v_bipush dX14_writeBits_109 rfl ?_
  refine v_aload_n dX14_writeBits_111 0 rfl rfl ?_
  refine v_getI (f := 107) cf14 oc87 rfl (by decide) q2477 dX14_writeBits_112 ?_
  refine v_bipush dX14_writeBits_115 rfl ?_
  refine v_irem dX14_writeBits_117 (rgl rfl) (by decide) ?_
  refine v_isub dX14_writeBits_118 ?_
  refine v_bipush dX14_writeBits_119 rfl ?_
  refine v_irem dX14_writeBits_121 (rgl rfl) (by decide) ?_
  obtain ⟨s3, e4, h⟩ := bdv_some h
  have k5 := c_X14_say e4 (m32_rg _ _)
  refine v_callV (st := []) cf14 oc87 k5 (lw_V q3207 q3209 qs230 q311 q3210) rfl yk_X14_say ⟨Nat.le_of_ble_eq_true rfl, Nat.le_of_ble_eq_true rfl⟩ trivial ⟨kc87, trivial⟩ (Nat.le_of_ble_eq_true rfl) rfl dX14_writeBits_122 ?_
  refine v_iconst dX14_writeBits_125 ?_
  refine v_istore (L1 := [(4, vI 0), (0, vO 87), (3, vI x3)]) dX14_writeBits_126 (by decide) rfl ?_
  refine v_sub [1, 2, 0] (L1 := [(0, vO 87), (3, vI x3), (4, vI 0)]) rfl ?_
  obtain ⟨s6, e7, h⟩ := lq_0_some h
  refine wl_X14_writeBits_128 rx3 FU 0 s3 _ e7 (rgl rfl) ?_
  unfold E_X14_writeBits_128
  intro s6' z_
  cases z_
  refine v_iload_n dX14_writeBits_201 0 rfl rfl ?_
  obtain ⟨g8, h⟩ := gd_some h
  cases h
  exact v_zret g8 dX14_writeBits_202

def E_X14_writeBits_17 (x1 : Int) (rv : Option vA) (σo : vS) (q : vS) : Prop := ∀ (s' : vS), q = s' → VW cX14_writeBits (RX14, rv, σo, (some .boolean), 5, 125, 7, []) (P0 []) s' 51 [(0, vO 87), (1, vI x1)] []
def l_X14_writeBits_17 : Nat → Int → vS → Option (vS)
  | 0, _, _ => none
  | n + 1, x1, s =>
    if (gI s 87 107) ≤ 0 then
      some s
    else
      gd (inb (w32 ((gI s 87 107) - 1)) (gN s 162)) <|
      if (gE s 162 (w32 ((gI s 87 107) - 1))) = 0 then
        stp (sI s 87 107 (w32 ((gI s 87 107) - 1))) fun s4 =>
        l_X14_writeBits_17 n x1 s4
      else
        some s
theorem wl_X14_writeBits_17 {x1 : Int} {rv : Option vA} {σo : vS}  (rx1 : rg x1) : ∀ (n : Nat) (s : vS) (q : vS), l_X14_writeBits_17 n x1 s = some q → E_X14_writeBits_17 x1 rv σo q → VW cX14_writeBits (RX14, rv, σo, (some .boolean), 5, 125, 7, []) (P0 []) s 17 [(0, vO 87), (1, vI x1)] [] := by
  intro n
  induction n with
  | zero => intro s q h; cases h
  | succ n ih =>
    intro s q h  hE
    unfold l_X14_writeBits_17 at h
    refine v_aload_n dX14_writeBits_17 0 rfl rfl ?_
    refine v_getI (f := 107) cf14 oc87 rfl (by decide) q2477 dX14_writeBits_18 ?_
    refine v_if_le (tgt := 51) dX14_writeBits_21 (gI_rg _ _ _) (by decide) (fun c1 => ?_) (fun c1 => ?_)
    · rw [if_pos c1] at h
      cases h
      exact hE _ rfl 
    · rw [if_neg c1] at h
      refine v_aload_n dX14_writeBits_24 0 rfl rfl ?_
      refine v_getS (f := 108) (t := 162) cf14 oc87 rfl rfl rfl (by decide) q2478 dX14_writeBits_25 ?_
      refine v_aload_n dX14_writeBits_28 0 rfl rfl ?_
      refine v_getI (f := 107) cf14 oc87 rfl (by decide) q2477 dX14_writeBits_29 ?_
      refine v_iconst dX14_writeBits_32 ?_
      refine v_isub dX14_writeBits_33 ?_
      obtain ⟨g2, h⟩ := gd_some h
      refine v_iald oc162 (w32_rg _) g2.1 g2.2 dX14_writeBits_34 ?_
      refine v_if_ne (tgt := 51) dX14_writeBits_35 (gE_rg _ _ _) (by decide) (fun c3 => ?_) (fun c3 => ?_)
      · rw [if_neg c3] at h
        cases h
        exact hE _ rfl 
      · rw [if_pos c3] at h
        refine v_aload_n dX14_writeBits_38 0 rfl rfl ?_
        refine v_dupO dX14_writeBits_39 ?_
        refine v_getI (f := 107) cf14 oc87 rfl (by decide) q2477 dX14_writeBits_40 ?_
        refine v_iconst dX14_writeBits_43 ?_
        refine v_isub dX14_writeBits_44 ?_
        obtain ⟨s4, e5, h⟩ := stp_some h
        refine v_putI (f := 107) cf14 oc87 rfl (by decide) q2477 dX14_writeBits_45 rfl rfl ?_
        rw [← e5]
        refine v_goto (tgt := 17) dX14_writeBits_48 (by decide) ?_
        exact ih s4 _ h  hE

def E_X14_writeBits_73 (x3 : Int) (rv : Option vA) (σo : vS) (q : vS) : Prop := ∀ (s' : vS), q = s' → VW cX14_writeBits (RX14, rv, σo, (some .boolean), 5, 125, 7, []) (P0 []) s' 90 [(0, vO 87), (3, vI x3)] []
def l_X14_writeBits_73 : Nat → Int → Int → vS → Option (vS)
  | 0, _, _, _ => none
  | n + 1, x3, x4, s =>
    if x4 ≤ (gI s 87 107) then
      some s
    else
      bdv (f_X14_sayBit 0 s) fun s2 =>
      l_X14_writeBits_73 n x3 x4 s2
theorem wl_X14_writeBits_73 {x3 : Int} {x4 : Int} {rv : Option vA} {σo : vS}  (rx3 : rg x3) (rx4 : rg x4) : ∀ (n : Nat) (s : vS) (q : vS), l_X14_writeBits_73 n x3 x4 s = some q → E_X14_writeBits_73 x3 rv σo q → VW cX14_writeBits (RX14, rv, σo, (some .boolean), 5, 125, 7, []) (P0 []) s 73 [(0, vO 87), (3, vI x3), (4, vI x4)] [] := by
  intro n
  induction n with
  | zero => intro s q h; cases h
  | succ n ih =>
    intro s q h  hE
    unfold l_X14_writeBits_73 at h
    refine v_aload_n dX14_writeBits_73 0 rfl rfl ?_
    refine v_getI (f := 107) cf14 oc87 rfl (by decide) q2477 dX14_writeBits_74 ?_
    refine v_iload dX14_writeBits_77 2 rfl ?_
    refine v_icmp_ge (tgt := 90) dX14_writeBits_79 (gI_rg _ _ _) rx4 (by decide) (fun c1 => ?_) (fun c1 => ?_)
    · rw [if_pos c1] at h
      cases h
      refine v_sub [0, 1] (L1 := [(0, vO 87), (3, vI x3)]) rfl ?_
      exact hE _ rfl 
    · rw [if_neg c1] at h
      refine v_aload_n dX14_writeBits_82 0 rfl rfl ?_
      refine v_iconst dX14_writeBits_83 ?_
      obtain ⟨s2, e3, h⟩ := bdv_some h
      have k4 := c_X14_sayBit e3 (rgl rfl)
      refine v_callV (st := []) cf14 oc87 k4 (lw_V q3227 q3229 qs235 q311 q3230) rfl yk_X14_sayBit ⟨Nat.le_of_ble_eq_true rfl, Nat.le_of_ble_eq_true rfl⟩ trivial ⟨kc87, trivial⟩ (Nat.le_of_ble_eq_true rfl) rfl dX14_writeBits_84 ?_
      refine v_goto (tgt := 73) dX14_writeBits_87 (by decide) ?_
      exact ih s2 _ h  hE

def j_X14_writeBits_51 (x1 : Int) (s : vS) : Option (Int × vS) :=
  bd (f_X14_leastSize x1 (gI s 87 107) s) fun r4 s1 =>
  if r4 < 0 then
    lq_0 (l_X14_writeBits_73 FU 0 r4 s1) fun s7 =>
    j_X14_writeBits_103 0 s7
  else
    lq_0 (l_X14_writeBits_73 FU 1 r4 s1) fun s9 =>
    j_X14_writeBits_103 1 s9
theorem wj_X14_writeBits_51 {x1 : Int} {s : vS} {out : Int × vS} (h : j_X14_writeBits_51 x1 s = some out)  (rx1 : rg x1) : VW cX14_writeBits (RX14, (some (vI out.1)), out.2, (some .boolean), 5, 125, 7, []) (P0 []) s 51 [(0, vO 87), (1, vI x1)] [] := by
  unfold j_X14_writeBits_51 at h
  refine v_aload_n dX14_writeBits_51 0 rfl rfl ?_
  refine v_iload_n dX14_writeBits_52 1 rfl rfl ?_
  refine v_aload_n dX14_writeBits_53 0 rfl rfl ?_
  refine v_getI (f := 107) cf14 oc87 rfl (by decide) q2477 dX14_writeBits_54 ?_
  obtain ⟨r4, s1, e2, h⟩ := bd_some h
  have k3 := c_X14_leastSize e2 rx1 (gI_rg _ _ _)
  have r5 : rg r4 := k3.1.2.2
  refine v_callV (st := []) cf14 oc87 k3 (lw_V q3239 q3241 qs238 q311 q3242) rfl yk_X14_leastSize ⟨Nat.le_of_ble_eq_true rfl, Nat.le_of_ble_eq_true rfl⟩ trivial ⟨kc87, trivial⟩ (Nat.le_of_ble_eq_true rfl) rfl dX14_writeBits_57 ?_
  refine v_istore (L1 := [(4, vI r4), (0, vO 87), (1, vI x1)]) dX14_writeBits_60 (by decide) rfl ?_
  refine v_iload dX14_writeBits_62 0 rfl ?_
  refine v_if_lt (tgt := 71) dX14_writeBits_64 r5 (by decide) (fun c6 => ?_) (fun c6 => ?_)
  · rw [if_pos c6] at h
    refine v_iconst dX14_writeBits_71 ?_
    refine v_istore_n (L1 := [(3, vI 0), (4, vI r4), (0, vO 87), (1, vI x1)]) dX14_writeBits_72 rfl (by decide) rfl ?_
    refine v_sub [2, 0, 1] (L1 := [(0, vO 87), (3, vI 0), (4, vI r4)]) rfl ?_
    obtain ⟨s7, e8, h⟩ := lq_0_some h
    refine wl_X14_writeBits_73 (rgl rfl) r5 FU  s1 _ e8  ?_
    unfold E_X14_writeBits_73
    intro s7' z_
    cases z_
    refine v_goto (tgt := 103) dX14_writeBits_90 (by decide) ?_
    exact wj_X14_writeBits_103 h (rgl rfl)
  · rw [if_neg c6] at h
    refine v_iconst dX14_writeBits_67 ?_
    refine v_goto (tgt := 72) dX14_writeBits_68 (by decide) ?_
    refine v_istore_n (L1 := [(3, vI 1), (4, vI r4), (0, vO 87), (1, vI x1)]) dX14_writeBits_72 rfl (by decide) rfl ?_
    refine v_sub [2, 0, 1] (L1 := [(0, vO 87), (3, vI 1), (4, vI r4)]) rfl ?_
    obtain ⟨s9, e10, h⟩ := lq_0_some h
    refine wl_X14_writeBits_73 (rgl rfl) r5 FU  s1 _ e10  ?_
    unfold E_X14_writeBits_73
    intro s9' z_
    cases z_
    refine v_goto (tgt := 103) dX14_writeBits_90 (by decide) ?_
    exact wj_X14_writeBits_103 h (rgl rfl)

def f_X14_writeBits (x1 : Int) (s : vS) : Option (Int × vS) :=
  bd (f_X14_root x1 s) fun r4 s1 =>
  gd (inb r4 (gN s1 103)) <|
  if (gE s1 103 r4) ≤ 0 then
    bd (f_X14_holdsSize x1 (gI s1 87 107) s1) fun r11 s8 =>
    j_X14_writeBits_103 r11 s8
  else
    lq_0 (l_X14_writeBits_17 FU x1 s1) fun s13 =>
    j_X14_writeBits_51 x1 s13
theorem yk_X14_writeBits : yOk yX14_writeBits 1 := ⟨by decide, by decide, by decide +kernel⟩
theorem c_X14_writeBits {x1 : Int} {s : vS} {out : Int × vS} (h : f_X14_writeBits x1 s = some out)  (rx1 : rg x1) : VC yX14_writeBits cX14_writeBits 7 (some .boolean) 5 125 [vO 87, vI x1] s (some (vI out.1)) out.2 [] := by
  unfold f_X14_writeBits at h
  refine VC.of RX14 (by decide) rfl (Nat.le_of_ble_eq_true rfl) ?_
  show VW cX14_writeBits (RX14, (some (vI out.1)), out.2, (some .boolean), 5, 125, 7, []) (P0 []) s 0 [(0, vO 87), (1, vI x1)] []
  refine v_aload_n dX14_writeBits_0 0 rfl rfl ?_
  refine v_iload_n dX14_writeBits_1 1 rfl rfl ?_
  obtain ⟨r4, s1, e2, h⟩ := bd_some h
  have k3 := c_X14_root e2 rx1
  have r5 : rg r4 := k3.1.2.2
  refine v_callV (st := []) cf14 oc87 k3 (lw_V q3129 q3131 qs212 q311 q3132) rfl yk_X14_root ⟨Nat.le_of_ble_eq_true rfl, Nat.le_of_ble_eq_true rfl⟩ trivial ⟨kc87, trivial⟩ (Nat.le_of_ble_eq_true rfl) rfl dX14_writeBits_2 ?_
  refine v_istore_n (L1 := [(2, vI r4), (0, vO 87), (1, vI x1)]) dX14_writeBits_5 rfl (by decide) rfl ?_
  refine v_iconst dX14_writeBits_6 ?_
  refine v_istore_n (L1 := [(3, vI 1), (2, vI r4), (0, vO 87), (1, vI x1)]) dX14_writeBits_7 rfl (by decide) rfl ?_
  refine v_aload_n dX14_writeBits_8 2 rfl rfl ?_
  refine v_getS (f := 27) (t := 103) cf14 oc87 rfl rfl rfl (by decide) q2397 dX14_writeBits_9 ?_
  refine v_iload_n dX14_writeBits_12 1 rfl rfl ?_
  obtain ⟨g6, h⟩ := gd_some h
  refine v_iald oc103 r5 g6.1 g6.2 dX14_writeBits_13 ?_
  refine v_if_le (tgt := 93) dX14_writeBits_14 (gE_rg _ _ _) (by decide) (fun c7 => ?_) (fun c7 => ?_)
  · rw [if_pos c7] at h
    refine v_aload_n dX14_writeBits_93 2 rfl rfl ?_
    refine v_iload_n dX14_writeBits_94 3 rfl rfl ?_
    refine v_aload_n dX14_writeBits_95 2 rfl rfl ?_
    refine v_getI (f := 107) cf14 oc87 rfl (by decide) q2477 dX14_writeBits_96 ?_
    obtain ⟨r11, s8, e9, h⟩ := bd_some h
    have k10 := c_X14_holdsSize e9 rx1 (gI_rg _ _ _)
    have r12 : rg r11 := k10.1.2.2
    refine v_callV (st := []) cf14 oc87 k10 (lw_V q3247 q3249 qs240 q311 q3250) rfl yk_X14_holdsSize ⟨Nat.le_of_ble_eq_true rfl, Nat.le_of_ble_eq_true rfl⟩ trivial ⟨kc87, trivial⟩ (Nat.le_of_ble_eq_true rfl) rfl dX14_writeBits_99 ?_
    refine v_istore_n (L1 := [(3, vI r11), (2, vI r4), (0, vO 87), (1, vI x1)]) dX14_writeBits_102 rfl (by decide) rfl ?_
    refine v_sub [2, 0] (L1 := [(0, vO 87), (3, vI r11)]) rfl ?_
    exact wj_X14_writeBits_103 h r12
  · rw [if_neg c7] at h
    refine v_sub [2, 3] (L1 := [(0, vO 87), (1, vI x1)]) rfl ?_
    obtain ⟨s13, e14, h⟩ := lq_0_some h
    refine wl_X14_writeBits_17 rx1 FU  s1 _ e14  ?_
    unfold E_X14_writeBits_17
    intro s13' z_
    cases z_
    exact wj_X14_writeBits_51 h rx1

def f_X14_isPrintable (x0 : Int) (s : vS) : Option (Int × vS) :=
  bd (f_X14_isNameChar x0 s) fun r4 s1 =>
  if r4 = 0 then
    if x0 = 32 then
      some (1, s1)
    else
      if x0 = 39 then
        some (1, s1)
      else
        if x0 = 40 then
          some (1, s1)
        else
          if x0 = 41 then
            some (1, s1)
          else
            bd (f_X14_within x0 43 47 s1) fun r14 s11 =>
            if r14 = 0 then
              if x0 = 58 then
                some (1, s11)
              else
                if x0 = 61 then
                  some (1, s11)
                else
                  if x0 = 63 then
                    some (1, s11)
                  else
                    some (0, s11)
            else
              some (1, s11)
  else
    some (1, s1)
theorem yk_X14_isPrintable : yOk yX14_isPrintable 1 := ⟨by decide, by decide, by decide +kernel⟩
theorem c_X14_isPrintable {x0 : Int} {s : vS} {out : Int × vS} (h : f_X14_isPrintable x0 s = some out)  (rx0 : rg x0) : VC yX14_isPrintable cX14_isPrintable 1 (some .boolean) 3 62 [vI x0] s (some (vI out.1)) out.2 [] := by
  unfold f_X14_isPrintable at h
  refine VC.of RX14 (by decide) rfl (Nat.le_of_ble_eq_true rfl) ?_
  show VW cX14_isPrintable (RX14, (some (vI out.1)), out.2, (some .boolean), 3, 62, 1, []) (P0 []) s 0 [(0, vI x0)] []
  refine v_iload_n dX14_isPrintable_0 0 rfl rfl ?_
  obtain ⟨r4, s1, e2, h⟩ := bd_some h
  have k3 := c_X14_isNameChar e2 rx0
  have r5 : rg r4 := k3.1.2.2
  refine v_callS (st := []) k3 (lw_S q2930 q2931 q311 q2932) yk_X14_isNameChar ⟨Nat.le_of_ble_eq_true rfl, Nat.le_of_ble_eq_true rfl⟩ trivial trivial (Nat.le_of_ble_eq_true rfl) rfl dX14_isPrintable_1 ?_
  refine v_if_ne (tgt := 60) dX14_isPrintable_4 r5 (by decide) (fun c6 => ?_) (fun c6 => ?_)
  · rw [if_neg c6] at h
    refine v_iconst dX14_isPrintable_60 ?_
    refine v_goto (tgt := 65) dX14_isPrintable_61 (by decide) ?_
    cases h
    exact v_zret (Or.inr rfl) dX14_isPrintable_65
  · rw [if_pos c6] at h
    refine v_iload_n dX14_isPrintable_7 0 rfl rfl ?_
    refine v_bipush dX14_isPrintable_8 rfl ?_
    refine v_icmp_eq (tgt := 60) dX14_isPrintable_10 rx0 (rgl rfl) (by decide) (fun c7 => ?_) (fun c7 => ?_)
    · rw [if_pos c7] at h
      refine v_iconst dX14_isPrintable_60 ?_
      refine v_goto (tgt := 65) dX14_isPrintable_61 (by decide) ?_
      cases h
      exact v_zret (Or.inr rfl) dX14_isPrintable_65
    · rw [if_neg c7] at h
      refine v_iload_n dX14_isPrintable_13 0 rfl rfl ?_
      refine v_bipush dX14_isPrintable_14 rfl ?_
      refine v_icmp_eq (tgt := 60) dX14_isPrintable_16 rx0 (rgl rfl) (by decide) (fun c8 => ?_) (fun c8 => ?_)
      · rw [if_pos c8] at h
        refine v_iconst dX14_isPrintable_60 ?_
        refine v_goto (tgt := 65) dX14_isPrintable_61 (by decide) ?_
        cases h
        exact v_zret (Or.inr rfl) dX14_isPrintable_65
      · rw [if_neg c8] at h
        refine v_iload_n dX14_isPrintable_19 0 rfl rfl ?_
        refine v_bipush dX14_isPrintable_20 rfl ?_
        refine v_icmp_eq (tgt := 60) dX14_isPrintable_22 rx0 (rgl rfl) (by decide) (fun c9 => ?_) (fun c9 => ?_)
        · rw [if_pos c9] at h
          refine v_iconst dX14_isPrintable_60 ?_
          refine v_goto (tgt := 65) dX14_isPrintable_61 (by decide) ?_
          cases h
          exact v_zret (Or.inr rfl) dX14_isPrintable_65
        · rw [if_neg c9] at h
          refine v_iload_n dX14_isPrintable_25 0 rfl rfl ?_
          refine v_bipush dX14_isPrintable_26 rfl ?_
          refine v_icmp_eq (tgt := 60) dX14_isPrintable_28 rx0 (rgl rfl) (by decide) (fun c10 => ?_) (fun c10 => ?_)
          · rw [if_pos c10] at h
            refine v_iconst dX14_isPrintable_60 ?_
            refine v_goto (tgt := 65) dX14_isPrintable_61 (by decide) ?_
            cases h
            exact v_zret (Or.inr rfl) dX14_isPrintable_65
          · rw [if_neg c10] at h
            refine v_iload_n dX14_isPrintable_31 0 rfl rfl ?_
            refine v_bipush dX14_isPrintable_32 rfl ?_
            refine v_bipush dX14_isPrintable_34 rfl ?_
            obtain ⟨r14, s11, e12, h⟩ := bd_some h
            have k13 := c_X14_within e12 rx0 (rgl rfl) (rgl rfl)
            have r15 : rg r14 := k13.1.2.2
            refine v_callS (st := []) k13 (lw_S q2878 q2879 q311 q2880) yk_X14_within ⟨Nat.le_of_ble_eq_true rfl, Nat.le_of_ble_eq_true rfl⟩ trivial trivial (Nat.le_of_ble_eq_true rfl) rfl dX14_isPrintable_36 ?_
            refine v_if_ne (tgt := 60) dX14_isPrintable_39 r15 (by decide) (fun c16 => ?_) (fun c16 => ?_)
            · rw [if_neg c16] at h
              refine v_iconst dX14_isPrintable_60 ?_
              refine v_goto (tgt := 65) dX14_isPrintable_61 (by decide) ?_
              cases h
              exact v_zret (Or.inr rfl) dX14_isPrintable_65
            · rw [if_pos c16] at h
              refine v_iload_n dX14_isPrintable_42 0 rfl rfl ?_
              refine v_bipush dX14_isPrintable_43 rfl ?_
              refine v_icmp_eq (tgt := 60) dX14_isPrintable_45 rx0 (rgl rfl) (by decide) (fun c17 => ?_) (fun c17 => ?_)
              · rw [if_pos c17] at h
                refine v_iconst dX14_isPrintable_60 ?_
                refine v_goto (tgt := 65) dX14_isPrintable_61 (by decide) ?_
                cases h
                exact v_zret (Or.inr rfl) dX14_isPrintable_65
              · rw [if_neg c17] at h
                refine v_iload_n dX14_isPrintable_48 0 rfl rfl ?_
                refine v_bipush dX14_isPrintable_49 rfl ?_
                refine v_icmp_eq (tgt := 60) dX14_isPrintable_51 rx0 (rgl rfl) (by decide) (fun c18 => ?_) (fun c18 => ?_)
                · rw [if_pos c18] at h
                  refine v_iconst dX14_isPrintable_60 ?_
                  refine v_goto (tgt := 65) dX14_isPrintable_61 (by decide) ?_
                  cases h
                  exact v_zret (Or.inr rfl) dX14_isPrintable_65
                · rw [if_neg c18] at h
                  refine v_iload_n dX14_isPrintable_54 0 rfl rfl ?_
                  refine v_bipush dX14_isPrintable_55 rfl ?_
                  refine v_icmp_ne (tgt := 64) dX14_isPrintable_57 rx0 (rgl rfl) (by decide) (fun c19 => ?_) (fun c19 => ?_)
                  · rw [if_neg c19] at h
                    refine v_iconst dX14_isPrintable_64 ?_
                    cases h
                    exact v_zret (Or.inl rfl) dX14_isPrintable_65
                  · rw [if_pos c19] at h
                    refine v_iconst dX14_isPrintable_60 ?_
                    refine v_goto (tgt := 65) dX14_isPrintable_61 (by decide) ?_
                    cases h
                    exact v_zret (Or.inr rfl) dX14_isPrintable_65

def E_X14_digitsAt_4 (rv : Option vA) (σo : vS) (q : (Int × vS) ⊕ (Int × vS)) : Prop := (∀ (x2' : Int) (s' : vS), q = .inl (x2', s') → rg x2' → VW cX14_digitsAt (RX14, rv, σo, (some .int), 2, 42, 4, []) (P0 []) s' 71 [(2, vI x2')] []) ∧ (∀ (v : Int) (s' : vS), q = .inr (v, s') → rv = some (vI v) ∧ σo = s')
def l_X14_digitsAt_4 : Nat → Int → Int → Int → vS → Option ((Int × vS) ⊕ (Int × vS))
  | 0, _, _, _, _ => none
  | n + 1, x1, x2, x3, s =>
    if x1 ≤ x3 then
      some (.inl (x2, s))
    else
      if (gI s 87 105) ≤ (gI s 87 124) then
        some (.inr ((-1), s))
      else
        gd (inb (gI s 87 124) (gN s 161)) <|
        bd (f_X14_isDigit (gE s 161 (gI s 87 124)) s) fun r7 s4 =>
        if r7 = 0 then
          some (.inr ((-1), s4))
        else
          gd (inb (gI s4 87 124) (gN s4 161)) <|
          vl (w32 ((w32 ((w32 (10 * x2)) + (gE s4 161 (gI s4 87 124)))) - 48)) fun y11 =>
          stp (sI s4 87 124 (w32 ((gI s4 87 124) + 1))) fun s14 =>
          vl (w32 (x3 + 1)) fun y16 =>
          l_X14_digitsAt_4 n x1 y11 y16 s14
theorem wl_X14_digitsAt_4 {x1 : Int} {rv : Option vA} {σo : vS}  (rx1 : rg x1) : ∀ (n : Nat) (x2 : Int) (x3 : Int) (s : vS) (q : (Int × vS) ⊕ (Int × vS)), l_X14_digitsAt_4 n x1 x2 x3 s = some q → rg x2 → rg x3 → E_X14_digitsAt_4 rv σo q → VW cX14_digitsAt (RX14, rv, σo, (some .int), 2, 42, 4, []) (P0 []) s 4 [(0, vO 87), (1, vI x1), (2, vI x2), (3, vI x3)] [] := by
  intro n
  induction n with
  | zero => intro x2 x3 s q h; cases h
  | succ n ih =>
    intro x2 x3 s q h rx2 rx3 hE
    unfold l_X14_digitsAt_4 at h
    refine v_iload_n dX14_digitsAt_4 3 rfl rfl ?_
    refine v_iload_n dX14_digitsAt_5 1 rfl rfl ?_
    refine v_icmp_ge (tgt := 71) dX14_digitsAt_6 rx3 rx1 (by decide) (fun c1 => ?_) (fun c1 => ?_)
    · rw [if_pos c1] at h
      cases h
      refine v_sub [2] (L1 := [(2, vI x2)]) rfl ?_
      exact hE.1 _ _ rfl rx2
    · rw [if_neg c1] at h
      refine v_aload_n dX14_digitsAt_9 0 rfl rfl ?_
      refine v_getI (f := 124) cf14 oc87 rfl (by decide) q2494 dX14_digitsAt_10 ?_
      refine v_aload_n dX14_digitsAt_13 0 rfl rfl ?_
      refine v_getI (f := 105) cf14 oc87 rfl (by decide) q2475 dX14_digitsAt_14 ?_
      refine v_icmp_ge (tgt := 35) dX14_digitsAt_17 (gI_rg _ _ _) (gI_rg _ _ _) (by decide) (fun c2 => ?_) (fun c2 => ?_)
      · rw [if_pos c2] at h
        refine v_iconst dX14_digitsAt_35 ?_
        cases h
        obtain ⟨z1, z2⟩ := hE.2 _ _ rfl
        subst z1
        subst z2
        exact v_iret (rgl rfl) dX14_digitsAt_36
      · rw [if_neg c2] at h
        refine v_aload_n dX14_digitsAt_20 0 rfl rfl ?_
        refine v_getS (f := 106) (t := 161) cf14 oc87 rfl rfl rfl (by decide) q2476 dX14_digitsAt_21 ?_
        refine v_aload_n dX14_digitsAt_24 0 rfl rfl ?_
        refine v_getI (f := 124) cf14 oc87 rfl (by decide) q2494 dX14_digitsAt_25 ?_
        obtain ⟨g3, h⟩ := gd_some h
        refine v_iald oc161 (gI_rg _ _ _) g3.1 g3.2 dX14_digitsAt_28 ?_
        obtain ⟨r7, s4, e5, h⟩ := bd_some h
        have k6 := c_X14_isDigit e5 (gE_rg _ _ _)
        have r8 : rg r7 := k6.1.2.2
        refine v_callS (st := []) k6 (lw_S q2933 q2934 q311 q2935) yk_X14_isDigit ⟨Nat.le_of_ble_eq_true rfl, Nat.le_of_ble_eq_true rfl⟩ trivial ⟨kc87, trivial⟩ (Nat.le_of_ble_eq_true rfl) rfl dX14_digitsAt_29 ?_
        refine v_if_ne (tgt := 37) dX14_digitsAt_32 r8 (by decide) (fun c9 => ?_) (fun c9 => ?_)
        · rw [if_neg c9] at h
          refine v_bipush dX14_digitsAt_37 rfl ?_
          refine v_iload_n dX14_digitsAt_39 2 rfl rfl ?_
          refine v_imul dX14_digitsAt_40 ?_
          refine v_aload_n dX14_digitsAt_41 0 rfl rfl ?_
          refine v_getS (f := 106) (t := 161) cf14 oc87 rfl rfl rfl (by decide) q2476 dX14_digitsAt_42 ?_
          refine v_aload_n dX14_digitsAt_45 0 rfl rfl ?_
          refine v_getI (f := 124) cf14 oc87 rfl (by decide) q2494 dX14_digitsAt_46 ?_
          obtain ⟨g10, h⟩ := gd_some h
          refine v_iald oc161 (gI_rg _ _ _) g10.1 g10.2 dX14_digitsAt_49 ?_
          refine v_iadd dX14_digitsAt_50 ?_
          refine v_bipush dX14_digitsAt_51 rfl ?_
          refine v_isub dX14_digitsAt_53 ?_
          obtain ⟨y11, e12, h⟩ := vl_some h
          rw [← e12]
          have r13 : rg y11 := by rw [e12]; exact w32_rg _
          refine v_istore_n (L1 := [(2, vI y11), (0, vO 87), (1, vI x1), (3, vI x3)]) dX14_digitsAt_54 rfl (by decide) rfl ?_
          refine v_aload_n dX14_digitsAt_55 1 rfl rfl ?_
          refine v_dupO dX14_digitsAt_56 ?_
          refine v_getI (f := 124) cf14 oc87 rfl (by decide) q2494 dX14_digitsAt_57 ?_
          refine v_iconst dX14_digitsAt_60 ?_
          refine v_iadd dX14_digitsAt_61 ?_
          obtain ⟨s14, e15, h⟩ := stp_some h
          refine v_putI (f := 124) cf14 oc87 rfl (by decide) q2494 dX14_digitsAt_62 rfl rfl ?_
          rw [← e15]
          obtain ⟨y16, e17, h⟩ := vl_some h
          refine v_iinc (L1 := [(3, vI (w32 (x3 + 1))), (2, vI y11), (0, vO 87), (1, vI x1)]) dX14_digitsAt_65 3 rfl (by decide) rfl ?_
          rw [← e17]
          have r18 : rg y16 := by rw [e17]; exact w32_rg _
          refine v_goto (tgt := 4) dX14_digitsAt_68 (by decide) ?_
          refine v_sub [2, 3, 1, 0] (L1 := [(0, vO 87), (1, vI x1), (2, vI y11), (3, vI y16)]) rfl ?_
          exact ih y11 y16 s14 _ h r13 r18 hE
        · rw [if_pos c9] at h
          refine v_iconst dX14_digitsAt_35 ?_
          cases h
          obtain ⟨z1, z2⟩ := hE.2 _ _ rfl
          subst z1
          subst z2
          exact v_iret (rgl rfl) dX14_digitsAt_36

def f_X14_digitsAt (x1 : Int) (s : vS) : Option (Int × vS) :=
  lqs_1 (l_X14_digitsAt_4 FU x1 0 0 s) (fun y1 s2 =>
    some (y1, s2))
    (fun q => some q)
theorem yk_X14_digitsAt : yOk yX14_digitsAt 1 := ⟨by decide, by decide, by decide +kernel⟩
theorem c_X14_digitsAt {x1 : Int} {s : vS} {out : Int × vS} (h : f_X14_digitsAt x1 s = some out)  (rx1 : rg x1) : VC yX14_digitsAt cX14_digitsAt 4 (some .int) 2 42 [vO 87, vI x1] s (some (vI out.1)) out.2 [] := by
  unfold f_X14_digitsAt at h
  refine VC.of RX14 (by decide) rfl (Nat.le_of_ble_eq_true rfl) ?_
  show VW cX14_digitsAt (RX14, (some (vI out.1)), out.2, (some .int), 2, 42, 4, []) (P0 []) s 0 [(0, vO 87), (1, vI x1)] []
  refine v_iconst dX14_digitsAt_0 ?_
  refine v_istore_n (L1 := [(2, vI 0), (0, vO 87), (1, vI x1)]) dX14_digitsAt_1 rfl (by decide) rfl ?_
  refine v_iconst dX14_digitsAt_2 ?_
  refine v_istore_n (L1 := [(3, vI 0), (2, vI 0), (0, vO 87), (1, vI x1)]) dX14_digitsAt_3 rfl (by decide) rfl ?_
  refine v_sub [2, 3, 1, 0] (L1 := [(0, vO 87), (1, vI x1), (2, vI 0), (3, vI 0)]) rfl ?_
  rcases lqs_1_some h with ⟨y1, s2, e3, h⟩ | ⟨q9, e3, h⟩
  · refine wl_X14_digitsAt_4 rx1 FU 0 0 s _ e3 (rgl rfl) (rgl rfl) ?_
    unfold E_X14_digitsAt_4
    refine ⟨?_, fun v9 s9 z_ => (by cases z_)⟩
    intro y1' s2' z_ r4
    cases z_
    refine v_iload_n dX14_digitsAt_71 0 rfl rfl ?_
    cases h
    exact v_iret r4 dX14_digitsAt_72
  · cases h
    refine wl_X14_digitsAt_4 rx1 FU 0 0 s _ e3 (rgl rfl) (rgl rfl) ?_
    unfold E_X14_digitsAt_4
    refine ⟨fun _ _ z_ => (by cases z_), ?_⟩
    intro v9 s9 z_
    cases z_
    exact ⟨rfl, rfl⟩

def f_X14_isNextDigit (s : vS) : Option (Int × vS) :=
  if (gI s 87 105) ≤ (gI s 87 124) then
    some (0, s)
  else
    gd (inb (gI s 87 124) (gN s 161)) <|
    bd (f_X14_isDigit (gE s 161 (gI s 87 124)) s) fun r6 s3 =>
    if r6 = 0 then
      some (0, s3)
    else
      some (1, s3)
theorem yk_X14_isNextDigit : yOk yX14_isNextDigit 0 := ⟨by decide, by decide, by decide +kernel⟩
theorem c_X14_isNextDigit {s : vS} {out : Int × vS} (h : f_X14_isNextDigit s = some out)   : VC yX14_isNextDigit cX14_isNextDigit 1 (some .boolean) 2 42 [vO 87] s (some (vI out.1)) out.2 [] := by
  unfold f_X14_isNextDigit at h
  refine VC.of RX14 (by decide) rfl (Nat.le_of_ble_eq_true rfl) ?_
  show VW cX14_isNextDigit (RX14, (some (vI out.1)), out.2, (some .boolean), 2, 42, 1, []) (P0 []) s 0 [(0, vO 87)] []
  refine v_aload_n dX14_isNextDigit_0 0 rfl rfl ?_
  refine v_getI (f := 124) cf14 oc87 rfl (by decide) q2494 dX14_isNextDigit_1 ?_
  refine v_aload_n dX14_isNextDigit_4 0 rfl rfl ?_
  refine v_getI (f := 105) cf14 oc87 rfl (by decide) q2475 dX14_isNextDigit_5 ?_
  refine v_icmp_ge (tgt := 30) dX14_isNextDigit_8 (gI_rg _ _ _) (gI_rg _ _ _) (by decide) (fun c1 => ?_) (fun c1 => ?_)
  · rw [if_pos c1] at h
    refine v_iconst dX14_isNextDigit_30 ?_
    cases h
    exact v_zret (Or.inl rfl) dX14_isNextDigit_31
  · rw [if_neg c1] at h
    refine v_aload_n dX14_isNextDigit_11 0 rfl rfl ?_
    refine v_getS (f := 106) (t := 161) cf14 oc87 rfl rfl rfl (by decide) q2476 dX14_isNextDigit_12 ?_
    refine v_aload_n dX14_isNextDigit_15 0 rfl rfl ?_
    refine v_getI (f := 124) cf14 oc87 rfl (by decide) q2494 dX14_isNextDigit_16 ?_
    obtain ⟨g2, h⟩ := gd_some h
    refine v_iald oc161 (gI_rg _ _ _) g2.1 g2.2 dX14_isNextDigit_19 ?_
    obtain ⟨r6, s3, e4, h⟩ := bd_some h
    have k5 := c_X14_isDigit e4 (gE_rg _ _ _)
    have r7 : rg r6 := k5.1.2.2
    refine v_callS (st := []) k5 (lw_S q2933 q2934 q311 q2935) yk_X14_isDigit ⟨Nat.le_of_ble_eq_true rfl, Nat.le_of_ble_eq_true rfl⟩ trivial ⟨kc87, trivial⟩ (Nat.le_of_ble_eq_true rfl) rfl dX14_isNextDigit_20 ?_
    refine v_if_eq (tgt := 30) dX14_isNextDigit_23 r7 (by decide) (fun c8 => ?_) (fun c8 => ?_)
    · rw [if_pos c8] at h
      refine v_iconst dX14_isNextDigit_30 ?_
      cases h
      exact v_zret (Or.inl rfl) dX14_isNextDigit_31
    · rw [if_neg c8] at h
      refine v_iconst dX14_isNextDigit_26 ?_
      refine v_goto (tgt := 31) dX14_isNextDigit_27 (by decide) ?_
      cases h
      exact v_zret (Or.inr rfl) dX14_isNextDigit_31

def j_X14_daysOf_26 (x1 : Int) (z0 : Int) (s : vS) : Option (Int × vS) :=
  if x1 = 2 then
    if z0 = 0 then
      some (28, s)
    else
      some (29, s)
  else
    if x1 = 4 then
      some (30, s)
    else
      if x1 = 6 then
        some (30, s)
      else
        if x1 = 9 then
          some (30, s)
        else
          if x1 = 11 then
            some (30, s)
          else
            some (31, s)
theorem wj_X14_daysOf_26 {x1 : Int} {z0 : Int} {s : vS} {out : Int × vS} (h : j_X14_daysOf_26 x1 z0 s = some out)  (rx1 : rg x1) (rz0 : rg z0) : VW cX14_daysOf (RX14, (some (vI out.1)), out.2, (some .int), 0, 0, 3, []) (P0 []) s 26 [(1, vI x1)] [vI z0] := by
  unfold j_X14_daysOf_26 at h
  refine v_istore_n (L1 := [(2, vI z0), (1, vI x1)]) dX14_daysOf_26 rfl (by decide) rfl ?_
  refine v_iload_n dX14_daysOf_27 1 rfl rfl ?_
  refine v_iconst dX14_daysOf_28 ?_
  refine v_icmp_ne (tgt := 46) dX14_daysOf_29 rx1 (rgl rfl) (by decide) (fun c1 => ?_) (fun c1 => ?_)
  · rw [if_neg c1] at h
    refine v_iload_n dX14_daysOf_46 1 rfl rfl ?_
    refine v_iconst dX14_daysOf_47 ?_
    refine v_icmp_eq (tgt := 69) dX14_daysOf_48 rx1 (rgl rfl) (by decide) (fun c2 => ?_) (fun c2 => ?_)
    · rw [if_pos c2] at h
      refine v_bipush dX14_daysOf_69 rfl ?_
      refine v_goto (tgt := 76) dX14_daysOf_71 (by decide) ?_
      cases h
      exact v_iret (rgl rfl) dX14_daysOf_76
    · rw [if_neg c2] at h
      refine v_iload_n dX14_daysOf_51 1 rfl rfl ?_
      refine v_bipush dX14_daysOf_52 rfl ?_
      refine v_icmp_eq (tgt := 69) dX14_daysOf_54 rx1 (rgl rfl) (by decide) (fun c3 => ?_) (fun c3 => ?_)
      · rw [if_pos c3] at h
        refine v_bipush dX14_daysOf_69 rfl ?_
        refine v_goto (tgt := 76) dX14_daysOf_71 (by decide) ?_
        cases h
        exact v_iret (rgl rfl) dX14_daysOf_76
      · rw [if_neg c3] at h
        refine v_iload_n dX14_daysOf_57 1 rfl rfl ?_
        refine v_bipush dX14_daysOf_58 rfl ?_
        refine v_icmp_eq (tgt := 69) dX14_daysOf_60 rx1 (rgl rfl) (by decide) (fun c4 => ?_) (fun c4 => ?_)
        · rw [if_pos c4] at h
          refine v_bipush dX14_daysOf_69 rfl ?_
          refine v_goto (tgt := 76) dX14_daysOf_71 (by decide) ?_
          cases h
          exact v_iret (rgl rfl) dX14_daysOf_76
        · rw [if_neg c4] at h
          refine v_iload_n dX14_daysOf_63 1 rfl rfl ?_
          refine v_bipush dX14_daysOf_64 rfl ?_
          refine v_icmp_ne (tgt := 74) dX14_daysOf_66 rx1 (rgl rfl) (by decide) (fun c5 => ?_) (fun c5 => ?_)
          · rw [if_neg c5] at h
            refine v_bipush dX14_daysOf_74 rfl ?_
            cases h
            exact v_iret (rgl rfl) dX14_daysOf_76
          · rw [if_pos c5] at h
            refine v_bipush dX14_daysOf_69 rfl ?_
            refine v_goto (tgt := 76) dX14_daysOf_71 (by decide) ?_
            cases h
            exact v_iret (rgl rfl) dX14_daysOf_76
  · rw [if_pos c1] at h
    refine v_iload_n dX14_daysOf_32 0 rfl rfl ?_
    refine v_if_eq (tgt := 41) dX14_daysOf_33 rz0 (by decide) (fun c6 => ?_) (fun c6 => ?_)
    · rw [if_pos c6] at h
      refine v_bipush dX14_daysOf_41 rfl ?_
      refine v_goto (tgt := 76) dX14_daysOf_43 (by decide) ?_
      cases h
      exact v_iret (rgl rfl) dX14_daysOf_76
    · rw [if_neg c6] at h
      refine v_bipush dX14_daysOf_36 rfl ?_
      refine v_goto (tgt := 76) dX14_daysOf_38 (by decide) ?_
      cases h
      exact v_iret (rgl rfl) dX14_daysOf_76

def f_X14_daysOf (x0 : Int) (x1 : Int) (s : vS) : Option (Int × vS) :=
  if (m32 x0 4) = 0 then
    if (m32 x0 100) = 0 then
      if (m32 x0 400) = 0 then
        j_X14_daysOf_26 x1 1 s
      else
        j_X14_daysOf_26 x1 0 s
    else
      j_X14_daysOf_26 x1 1 s
  else
    j_X14_daysOf_26 x1 0 s
theorem yk_X14_daysOf : yOk yX14_daysOf 2 := ⟨by decide, by decide, by decide +kernel⟩
theorem c_X14_daysOf {x0 : Int} {x1 : Int} {s : vS} {out : Int × vS} (h : f_X14_daysOf x0 x1 s = some out)  (rx0 : rg x0) (rx1 : rg x1) : VC yX14_daysOf cX14_daysOf 3 (some .int) 0 0 [vI x0, vI x1] s (some (vI out.1)) out.2 [] := by
  unfold f_X14_daysOf at h
  refine VC.of RX14 (by decide) rfl (Nat.le_of_ble_eq_true rfl) ?_
  show VW cX14_daysOf (RX14, (some (vI out.1)), out.2, (some .int), 0, 0, 3, []) (P0 []) s 0 [(0, vI x0), (1, vI x1)] []
  refine v_iload_n dX14_daysOf_0 0 rfl rfl ?_
  refine v_iconst dX14_daysOf_1 ?_
  refine v_irem dX14_daysOf_2 (rgl rfl) (by decide) ?_
  refine v_if_ne (tgt := 25) dX14_daysOf_3 (m32_rg _ _) (by decide) (fun c1 => ?_) (fun c1 => ?_)
  · rw [if_neg c1] at h
    refine v_iconst dX14_daysOf_25 ?_
    refine v_sub [1] (L1 := [(1, vI x1)]) rfl ?_
    exact wj_X14_daysOf_26 h rx1 (rgl rfl)
  · rw [if_pos c1] at h
    refine v_iload_n dX14_daysOf_6 0 rfl rfl ?_
    refine v_bipush dX14_daysOf_7 rfl ?_
    refine v_irem dX14_daysOf_9 (rgl rfl) (by decide) ?_
    refine v_if_ne (tgt := 21) dX14_daysOf_10 (m32_rg _ _) (by decide) (fun c2 => ?_) (fun c2 => ?_)
    · rw [if_neg c2] at h
      refine v_iconst dX14_daysOf_21 ?_
      refine v_goto (tgt := 26) dX14_daysOf_22 (by decide) ?_
      refine v_sub [1] (L1 := [(1, vI x1)]) rfl ?_
      exact wj_X14_daysOf_26 h rx1 (rgl rfl)
    · rw [if_pos c2] at h
      refine v_iload_n dX14_daysOf_13 0 rfl rfl ?_
      refine v_sipush dX14_daysOf_14 rfl ?_
      refine v_irem dX14_daysOf_17 (rgl rfl) (by decide) ?_
      refine v_if_ne (tgt := 25) dX14_daysOf_18 (m32_rg _ _) (by decide) (fun c3 => ?_) (fun c3 => ?_)
      · rw [if_neg c3] at h
        refine v_iconst dX14_daysOf_25 ?_
        refine v_sub [1] (L1 := [(1, vI x1)]) rfl ?_
        exact wj_X14_daysOf_26 h rx1 (rgl rfl)
      · rw [if_pos c3] at h
        refine v_iconst dX14_daysOf_21 ?_
        refine v_goto (tgt := 26) dX14_daysOf_22 (by decide) ?_
        refine v_sub [1] (L1 := [(1, vI x1)]) rfl ?_
        exact wj_X14_daysOf_26 h rx1 (rgl rfl)

def f_X14_isDay (s : vS) : Option (Int × vS) :=
  bd (f_X14_within (gI s 87 119) 1 12 s) fun r4 s1 =>
  if r4 = 0 then
    some (0, s1)
  else
    bd (f_X14_daysOf (gI s1 87 118) (gI s1 87 119) s1) fun r10 s7 =>
    bd (f_X14_within (gI s1 87 120) 1 r10 s7) fun r15 s12 =>
    if r15 = 0 then
      some (0, s12)
    else
      bd (f_X14_within (gI s12 87 121) 0 23 s12) fun r21 s18 =>
      if r21 = 0 then
        some (0, s18)
      else
        bd (f_X14_within (gI s18 87 122) 0 59 s18) fun r27 s24 =>
        if r27 = 0 then
          some (0, s24)
        else
          bd (f_X14_within (gI s24 87 123) 0 59 s24) fun r33 s30 =>
          if r33 = 0 then
            some (0, s30)
          else
            some (1, s30)
theorem yk_X14_isDay : yOk yX14_isDay 0 := ⟨by decide, by decide, by decide +kernel⟩
theorem c_X14_isDay {s : vS} {out : Int × vS} (h : f_X14_isDay s = some out)   : VC yX14_isDay cX14_isDay 1 (some .boolean) 1 22 [vO 87] s (some (vI out.1)) out.2 [] := by
  unfold f_X14_isDay at h
  refine VC.of RX14 (by decide) rfl (Nat.le_of_ble_eq_true rfl) ?_
  show VW cX14_isDay (RX14, (some (vI out.1)), out.2, (some .boolean), 1, 22, 1, []) (P0 []) s 0 [(0, vO 87)] []
  refine v_aload_n dX14_isDay_0 0 rfl rfl ?_
  refine v_getI (f := 119) cf14 oc87 rfl (by decide) q2489 dX14_isDay_1 ?_
  refine v_iconst dX14_isDay_4 ?_
  refine v_bipush dX14_isDay_5 rfl ?_
  obtain ⟨r4, s1, e2, h⟩ := bd_some h
  have k3 := c_X14_within e2 (gI_rg _ _ _) (rgl rfl) (rgl rfl)
  have r5 : rg r4 := k3.1.2.2
  refine v_callS (st := []) k3 (lw_S q2878 q2879 q311 q2880) yk_X14_within ⟨Nat.le_of_ble_eq_true rfl, Nat.le_of_ble_eq_true rfl⟩ trivial ⟨kc87, trivial⟩ (Nat.le_of_ble_eq_true rfl) rfl dX14_isDay_7 ?_
  refine v_if_eq (tgt := 78) dX14_isDay_10 r5 (by decide) (fun c6 => ?_) (fun c6 => ?_)
  · rw [if_pos c6] at h
    refine v_iconst dX14_isDay_78 ?_
    cases h
    exact v_zret (Or.inl rfl) dX14_isDay_79
  · rw [if_neg c6] at h
    refine v_aload_n dX14_isDay_13 0 rfl rfl ?_
    refine v_getI (f := 120) cf14 oc87 rfl (by decide) q2490 dX14_isDay_14 ?_
    refine v_iconst dX14_isDay_17 ?_
    refine v_aload_n dX14_isDay_18 0 rfl rfl ?_
    refine v_getI (f := 118) cf14 oc87 rfl (by decide) q2488 dX14_isDay_19 ?_
    refine v_aload_n dX14_isDay_22 0 rfl rfl ?_
    refine v_getI (f := 119) cf14 oc87 rfl (by decide) q2489 dX14_isDay_23 ?_
    obtain ⟨r10, s7, e8, h⟩ := bd_some h
    have k9 := c_X14_daysOf e8 (gI_rg _ _ _) (gI_rg _ _ _)
    have r11 : rg r10 := k9.1.2.2
    refine v_callS (st := [vI 1, vI (gI s1 87 120)]) k9 (lw_S q3300 q3301 q311 q3302) yk_X14_daysOf ⟨Nat.le_of_ble_eq_true rfl, Nat.le_of_ble_eq_true rfl⟩ trivial ⟨kc87, trivial⟩ (Nat.le_of_ble_eq_true rfl) rfl dX14_isDay_26 ?_
    obtain ⟨r15, s12, e13, h⟩ := bd_some h
    have k14 := c_X14_within e13 (gI_rg _ _ _) (rgl rfl) r11
    have r16 : rg r15 := k14.1.2.2
    refine v_callS (st := []) k14 (lw_S q2878 q2879 q311 q2880) yk_X14_within ⟨Nat.le_of_ble_eq_true rfl, Nat.le_of_ble_eq_true rfl⟩ trivial ⟨kc87, trivial⟩ (Nat.le_of_ble_eq_true rfl) rfl dX14_isDay_29 ?_
    refine v_if_eq (tgt := 78) dX14_isDay_32 r16 (by decide) (fun c17 => ?_) (fun c17 => ?_)
    · rw [if_pos c17] at h
      refine v_iconst dX14_isDay_78 ?_
      cases h
      exact v_zret (Or.inl rfl) dX14_isDay_79
    · rw [if_neg c17] at h
      refine v_aload_n dX14_isDay_35 0 rfl rfl ?_
      refine v_getI (f := 121) cf14 oc87 rfl (by decide) q2491 dX14_isDay_36 ?_
      refine v_iconst dX14_isDay_39 ?_
      refine v_bipush dX14_isDay_40 rfl ?_
      obtain ⟨r21, s18, e19, h⟩ := bd_some h
      have k20 := c_X14_within e19 (gI_rg _ _ _) (rgl rfl) (rgl rfl)
      have r22 : rg r21 := k20.1.2.2
      refine v_callS (st := []) k20 (lw_S q2878 q2879 q311 q2880) yk_X14_within ⟨Nat.le_of_ble_eq_true rfl, Nat.le_of_ble_eq_true rfl⟩ trivial ⟨kc87, trivial⟩ (Nat.le_of_ble_eq_true rfl) rfl dX14_isDay_42 ?_
      refine v_if_eq (tgt := 78) dX14_isDay_45 r22 (by decide) (fun c23 => ?_) (fun c23 => ?_)
      · rw [if_pos c23] at h
        refine v_iconst dX14_isDay_78 ?_
        cases h
        exact v_zret (Or.inl rfl) dX14_isDay_79
      · rw [if_neg c23] at h
        refine v_aload_n dX14_isDay_48 0 rfl rfl ?_
        refine v_getI (f := 122) cf14 oc87 rfl (by decide) q2492 dX14_isDay_49 ?_
        refine v_iconst dX14_isDay_52 ?_
        refine v_bipush dX14_isDay_53 rfl ?_
        obtain ⟨r27, s24, e25, h⟩ := bd_some h
        have k26 := c_X14_within e25 (gI_rg _ _ _) (rgl rfl) (rgl rfl)
        have r28 : rg r27 := k26.1.2.2
        refine v_callS (st := []) k26 (lw_S q2878 q2879 q311 q2880) yk_X14_within ⟨Nat.le_of_ble_eq_true rfl, Nat.le_of_ble_eq_true rfl⟩ trivial ⟨kc87, trivial⟩ (Nat.le_of_ble_eq_true rfl) rfl dX14_isDay_55 ?_
        refine v_if_eq (tgt := 78) dX14_isDay_58 r28 (by decide) (fun c29 => ?_) (fun c29 => ?_)
        · rw [if_pos c29] at h
          refine v_iconst dX14_isDay_78 ?_
          cases h
          exact v_zret (Or.inl rfl) dX14_isDay_79
        · rw [if_neg c29] at h
          refine v_aload_n dX14_isDay_61 0 rfl rfl ?_
          refine v_getI (f := 123) cf14 oc87 rfl (by decide) q2493 dX14_isDay_62 ?_
          refine v_iconst dX14_isDay_65 ?_
          refine v_bipush dX14_isDay_66 rfl ?_
          obtain ⟨r33, s30, e31, h⟩ := bd_some h
          have k32 := c_X14_within e31 (gI_rg _ _ _) (rgl rfl) (rgl rfl)
          have r34 : rg r33 := k32.1.2.2
          refine v_callS (st := []) k32 (lw_S q2878 q2879 q311 q2880) yk_X14_within ⟨Nat.le_of_ble_eq_true rfl, Nat.le_of_ble_eq_true rfl⟩ trivial ⟨kc87, trivial⟩ (Nat.le_of_ble_eq_true rfl) rfl dX14_isDay_68 ?_
          refine v_if_eq (tgt := 78) dX14_isDay_71 r34 (by decide) (fun c35 => ?_) (fun c35 => ?_)
          · rw [if_pos c35] at h
            refine v_iconst dX14_isDay_78 ?_
            cases h
            exact v_zret (Or.inl rfl) dX14_isDay_79
          · rw [if_neg c35] at h
            refine v_iconst dX14_isDay_74 ?_
            refine v_goto (tgt := 79) dX14_isDay_75 (by decide) ?_
            cases h
            exact v_zret (Or.inr rfl) dX14_isDay_79

def E_X14_move_17 (rv : Option vA) (σo : vS) (q : Int × Int × vS) : Prop := ∀ (x2' : Int) (x3' : Int) (s' : vS), q = (x2', x3', s') → rg x2' → rg x3' → VW cX14_move (RX14, rv, σo, none, 1, 22, 4, []) (P0 []) s' 33 [(0, vO 87), (2, vI x2'), (3, vI x3')] []
def l_X14_move_17 : Nat → Int → Int → vS → Option (Int × Int × vS)
  | 0, _, _, _ => none
  | n + 1, x2, x3, s =>
    if 0 ≤ x2 then
      some (x2, x3, s)
    else
      vl (w32 (x2 + 1440)) fun y2 =>
      vl (w32 (x3 + (-1))) fun y5 =>
      l_X14_move_17 n y2 y5 s
theorem wl_X14_move_17 {rv : Option vA} {σo : vS}  : ∀ (n : Nat) (x2 : Int) (x3 : Int) (s : vS) (q : Int × Int × vS), l_X14_move_17 n x2 x3 s = some q → rg x2 → rg x3 → E_X14_move_17 rv σo q → VW cX14_move (RX14, rv, σo, none, 1, 22, 4, []) (P0 []) s 17 [(0, vO 87), (2, vI x2), (3, vI x3)] [] := by
  intro n
  induction n with
  | zero => intro x2 x3 s q h; cases h
  | succ n ih =>
    intro x2 x3 s q h rx2 rx3 hE
    unfold l_X14_move_17 at h
    refine v_iload_n dX14_move_17 1 rfl rfl ?_
    refine v_if_ge (tgt := 33) dX14_move_18 rx2 (by decide) (fun c1 => ?_) (fun c1 => ?_)
    · rw [if_pos c1] at h
      cases h
      exact hE _ _ _ rfl rx2 rx3
    · rw [if_neg c1] at h
      obtain ⟨y2, e3, h⟩ := vl_some h
      refine v_iincW (L1 := [(2, vI (w32 (x2 + 1440))), (0, vO 87), (3, vI x3)]) dX14_move_21 1 rfl (by decide) rfl ?_
      rw [← e3]
      have r4 : rg y2 := by rw [e3]; exact w32_rg _
      obtain ⟨y5, e6, h⟩ := vl_some h
      refine v_iinc (L1 := [(3, vI (w32 (x3 + (-1)))), (2, vI y2), (0, vO 87)]) dX14_move_27 2 rfl (by decide) rfl ?_
      rw [← e6]
      have r7 : rg y5 := by rw [e6]; exact w32_rg _
      refine v_goto (tgt := 17) dX14_move_30 (by decide) ?_
      refine v_sub [2, 1, 0] (L1 := [(0, vO 87), (2, vI y2), (3, vI y5)]) rfl ?_
      exact ih y2 y5 s _ h r4 r7 hE

def E_X14_move_33 (rv : Option vA) (σo : vS) (q : Int × Int × vS) : Prop := ∀ (x2' : Int) (x3' : Int) (s' : vS), q = (x2', x3', s') → rg x2' → rg x3' → VW cX14_move (RX14, rv, σo, none, 1, 22, 4, []) (P0 []) s' 52 [(0, vO 87), (2, vI x2'), (3, vI x3')] []
def l_X14_move_33 : Nat → Int → Int → vS → Option (Int × Int × vS)
  | 0, _, _, _ => none
  | n + 1, x2, x3, s =>
    if x2 < 1440 then
      some (x2, x3, s)
    else
      vl (w32 (x2 + (-1440))) fun y2 =>
      vl (w32 (x3 + 1)) fun y5 =>
      l_X14_move_33 n y2 y5 s
theorem wl_X14_move_33 {rv : Option vA} {σo : vS}  : ∀ (n : Nat) (x2 : Int) (x3 : Int) (s : vS) (q : Int × Int × vS), l_X14_move_33 n x2 x3 s = some q → rg x2 → rg x3 → E_X14_move_33 rv σo q → VW cX14_move (RX14, rv, σo, none, 1, 22, 4, []) (P0 []) s 33 [(0, vO 87), (2, vI x2), (3, vI x3)] [] := by
  intro n
  induction n with
  | zero => intro x2 x3 s q h; cases h
  | succ n ih =>
    intro x2 x3 s q h rx2 rx3 hE
    unfold l_X14_move_33 at h
    refine v_iload_n dX14_move_33 1 rfl rfl ?_
    refine v_sipush dX14_move_34 rfl ?_
    refine v_icmp_lt (tgt := 52) dX14_move_37 rx2 (rgl rfl) (by decide) (fun c1 => ?_) (fun c1 => ?_)
    · rw [if_pos c1] at h
      cases h
      exact hE _ _ _ rfl rx2 rx3
    · rw [if_neg c1] at h
      obtain ⟨y2, e3, h⟩ := vl_some h
      refine v_iincW (L1 := [(2, vI (w32 (x2 + (-1440)))), (0, vO 87), (3, vI x3)]) dX14_move_40 1 rfl (by decide) rfl ?_
      rw [← e3]
      have r4 : rg y2 := by rw [e3]; exact w32_rg _
      obtain ⟨y5, e6, h⟩ := vl_some h
      refine v_iinc (L1 := [(3, vI (w32 (x3 + 1))), (2, vI y2), (0, vO 87)]) dX14_move_46 2 rfl (by decide) rfl ?_
      rw [← e6]
      have r7 : rg y5 := by rw [e6]; exact w32_rg _
      refine v_goto (tgt := 33) dX14_move_49 (by decide) ?_
      refine v_sub [2, 1, 0] (L1 := [(0, vO 87), (2, vI y2), (3, vI y5)]) rfl ?_
      exact ih y2 y5 s _ h r4 r7 hE

def j_X14_move_143 (z1 : Int) (s : vS) : Option (vS) :=
  bd (f_X14_daysOf z1 (gI s 87 119) s) fun r4 s1 =>
  stp (sI s1 87 120 r4) fun s6 =>
  some s6
theorem wj_X14_move_143 {z1 : Int} {s : vS} {out : vS} (h : j_X14_move_143 z1 s = some out)  (rz1 : rg z1) : VW cX14_move (RX14, none, out, none, 1, 22, 4, []) (P0 []) s 143 [(0, vO 87)] [vI z1, vO 87] := by
  unfold j_X14_move_143 at h
  refine v_aload_n dX14_move_143 0 rfl rfl ?_
  refine v_getI (f := 119) cf14 oc87 rfl (by decide) q2489 dX14_move_144 ?_
  obtain ⟨r4, s1, e2, h⟩ := bd_some h
  have k3 := c_X14_daysOf e2 rz1 (gI_rg _ _ _)
  have r5 : rg r4 := k3.1.2.2
  refine v_callS (st := [vO 87]) k3 (lw_S q3300 q3301 q311 q3302) yk_X14_daysOf ⟨Nat.le_of_ble_eq_true rfl, Nat.le_of_ble_eq_true rfl⟩ ⟨kc87, trivial⟩ ⟨kc87, trivial⟩ (Nat.le_of_ble_eq_true rfl) rfl dX14_move_147 ?_
  obtain ⟨s6, e7, h⟩ := stp_some h
  refine v_putI (f := 120) cf14 oc87 rfl (by decide) q2490 dX14_move_150 rfl rfl ?_
  rw [← e7]
  refine v_goto (tgt := 213) dX14_move_153 (by decide) ?_
  cases h
  exact v_vret dX14_move_213

def j_X14_move_120 (s : vS) : Option (vS) :=
  if 0 ≤ (gI s 87 118) then
    j_X14_move_143 (gI s 87 118) s
  else
    j_X14_move_143 (w32 ((gI s 87 118) + 400)) s
theorem wj_X14_move_120 {s : vS} {out : vS} (h : j_X14_move_120 s = some out)  : VW cX14_move (RX14, none, out, none, 1, 22, 4, []) (P0 []) s 120 [(0, vO 87)] [] := by
  unfold j_X14_move_120 at h
  refine v_aload_n dX14_move_120 0 rfl rfl ?_
  refine v_aload_n dX14_move_121 0 rfl rfl ?_
  refine v_getI (f := 118) cf14 oc87 rfl (by decide) q2488 dX14_move_122 ?_
  refine v_if_ge (tgt := 139) dX14_move_125 (gI_rg _ _ _) (by decide) (fun c1 => ?_) (fun c1 => ?_)
  · rw [if_pos c1] at h
    refine v_aload_n dX14_move_139 0 rfl rfl ?_
    refine v_getI (f := 118) cf14 oc87 rfl (by decide) q2488 dX14_move_140 ?_
    exact wj_X14_move_143 h (gI_rg _ _ _)
  · rw [if_neg c1] at h
    refine v_aload_n dX14_move_128 0 rfl rfl ?_
    refine v_getI (f := 118) cf14 oc87 rfl (by decide) q2488 dX14_move_129 ?_
    refine v_sipush dX14_move_132 rfl ?_
    refine v_iadd dX14_move_135 ?_
    refine v_goto (tgt := 143) dX14_move_136 (by decide) ?_
    exact wj_X14_move_143 h (w32_rg _)

def f_X14_move (x1 : Int) (s : vS) : Option (vS) :=
  vl (w32 ((w32 ((w32 (60 * (gI s 87 121))) + (gI s 87 122))) + x1)) fun y1 =>
  lq_2 (l_X14_move_17 FU y1 0 s) fun y4 y5 s6 =>
  lq_2 (l_X14_move_33 FU y4 y5 s6) fun y10 y11 s12 =>
  stp (sI s12 87 121 (d32 y10 60)) fun s16 =>
  stp (sI s16 87 122 (m32 y10 60)) fun s18 =>
  stp (sI s18 87 120 (w32 ((gI s18 87 120) + y11))) fun s20 =>
  if 1 ≤ (gI s20 87 120) then
    bd (f_X14_daysOf (gI s20 87 118) (gI s20 87 119) s20) fun r26 s23 =>
    if (gI s20 87 120) ≤ r26 then
      some s23
    else
      stp (sI s23 87 120 1) fun s29 =>
      stp (sI s29 87 119 (w32 ((gI s29 87 119) + 1))) fun s31 =>
      if (gI s31 87 119) ≤ 12 then
        some s31
      else
        stp (sI s31 87 119 1) fun s34 =>
        stp (sI s34 87 118 (w32 ((gI s34 87 118) + 1))) fun s36 =>
        some s36
  else
    stp (sI s20 87 119 (w32 ((gI s20 87 119) - 1))) fun s38 =>
    if 1 ≤ (gI s38 87 119) then
      j_X14_move_120 s38
    else
      stp (sI s38 87 119 12) fun s41 =>
      stp (sI s41 87 118 (w32 ((gI s41 87 118) - 1))) fun s43 =>
      j_X14_move_120 s43
theorem yk_X14_move : yOk yX14_move 1 := ⟨by decide, by decide, by decide +kernel⟩
theorem c_X14_move {x1 : Int} {s : vS} {out : vS} (h : f_X14_move x1 s = some out)  (rx1 : rg x1) : VC yX14_move cX14_move 4 none 1 22 [vO 87, vI x1] s none out [] := by
  unfold f_X14_move at h
  refine VC.of RX14 (by decide) rfl (Nat.le_of_ble_eq_true rfl) ?_
  show VW cX14_move (RX14, none, out, none, 1, 22, 4, []) (P0 []) s 0 [(0, vO 87), (1, vI x1)] []
  refine v_bipush dX14_move_0 rfl ?_
  refine v_aload_n dX14_move_2 0 rfl rfl ?_
  refine v_getI (f := 121) cf14 oc87 rfl (by decide) q2491 dX14_move_3 ?_
  refine v_imul dX14_move_6 ?_
  refine v_aload_n dX14_move_7 0 rfl rfl ?_
  refine v_getI (f := 122) cf14 oc87 rfl (by decide) q2492 dX14_move_8 ?_
  refine v_iadd dX14_move_11 ?_
  refine v_iload_n dX14_move_12 1 rfl rfl ?_
  refine v_iadd dX14_move_13 ?_
  obtain ⟨y1, e2, h⟩ := vl_some h
  rw [← e2]
  have r3 : rg y1 := by rw [e2]; exact w32_rg _
  refine v_istore_n (L1 := [(2, vI y1), (0, vO 87), (1, vI x1)]) dX14_move_14 rfl (by decide) rfl ?_
  refine v_iconst dX14_move_15 ?_
  refine v_istore_n (L1 := [(3, vI 0), (2, vI y1), (0, vO 87), (1, vI x1)]) dX14_move_16 rfl (by decide) rfl ?_
  refine v_sub [2, 1, 0] (L1 := [(0, vO 87), (2, vI y1), (3, vI 0)]) rfl ?_
  obtain ⟨y4, y5, s6, e7, h⟩ := lq_2_some h
  refine wl_X14_move_17  FU y1 0 s _ e7 r3 (rgl rfl) ?_
  unfold E_X14_move_17
  intro y4' y5' s6' z_ r8 r9
  cases z_
  obtain ⟨y10, y11, s12, e13, h⟩ := lq_2_some h
  refine wl_X14_move_33  FU y4 y5 s6 _ e13 r8 r9 ?_
  unfold E_X14_move_33
  intro y10' y11' s12' z_ r14 r15
  cases z_
  refine v_aload_n dX14_move_52 0 rfl rfl ?_
  refine v_iload_n dX14_move_53 1 rfl rfl ?_
  refine v_bipush dX14_move_54 rfl ?_
  refine v_idiv dX14_move_56 (rgl rfl) (by decide) ?_
  obtain ⟨s16, e17, h⟩ := stp_some h
  refine v_putI (f := 121) cf14 oc87 rfl (by decide) q2491 dX14_move_57 rfl rfl ?_
  rw [← e17]
  refine v_aload_n dX14_move_60 0 rfl rfl ?_
  refine v_iload_n dX14_move_61 1 rfl rfl ?_
  refine v_bipush dX14_move_62 rfl ?_
  refine v_irem dX14_move_64 (rgl rfl) (by decide) ?_
  obtain ⟨s18, e19, h⟩ := stp_some h
  refine v_putI (f := 122) cf14 oc87 rfl (by decide) q2492 dX14_move_65 rfl rfl ?_
  rw [← e19]
  refine v_aload_n dX14_move_68 0 rfl rfl ?_
  refine v_dupO dX14_move_69 ?_
  refine v_getI (f := 120) cf14 oc87 rfl (by decide) q2490 dX14_move_70 ?_
  refine v_iload_n dX14_move_73 2 rfl rfl ?_
  refine v_iadd dX14_move_74 ?_
  obtain ⟨s20, e21, h⟩ := stp_some h
  refine v_putI (f := 120) cf14 oc87 rfl (by decide) q2490 dX14_move_75 rfl rfl ?_
  rw [← e21]
  refine v_aload_n dX14_move_78 0 rfl rfl ?_
  refine v_getI (f := 120) cf14 oc87 rfl (by decide) q2490 dX14_move_79 ?_
  refine v_iconst dX14_move_82 ?_
  refine v_icmp_ge (tgt := 156) dX14_move_83 (gI_rg _ _ _) (rgl rfl) (by decide) (fun c22 => ?_) (fun c22 => ?_)
  · rw [if_pos c22] at h
    refine v_aload_n dX14_move_156 0 rfl rfl ?_
    refine v_getI (f := 120) cf14 oc87 rfl (by decide) q2490 dX14_move_157 ?_
    refine v_aload_n dX14_move_160 0 rfl rfl ?_
    refine v_getI (f := 118) cf14 oc87 rfl (by decide) q2488 dX14_move_161 ?_
    refine v_aload_n dX14_move_164 0 rfl rfl ?_
    refine v_getI (f := 119) cf14 oc87 rfl (by decide) q2489 dX14_move_165 ?_
    obtain ⟨r26, s23, e24, h⟩ := bd_some h
    have k25 := c_X14_daysOf e24 (gI_rg _ _ _) (gI_rg _ _ _)
    have r27 : rg r26 := k25.1.2.2
    refine v_callS (st := [vI (gI s20 87 120)]) k25 (lw_S q3300 q3301 q311 q3302) yk_X14_daysOf ⟨Nat.le_of_ble_eq_true rfl, Nat.le_of_ble_eq_true rfl⟩ trivial ⟨kc87, trivial⟩ (Nat.le_of_ble_eq_true rfl) rfl dX14_move_168 ?_
    refine v_icmp_le (tgt := 213) dX14_move_171 (gI_rg _ _ _) r27 (by decide) (fun c28 => ?_) (fun c28 => ?_)
    · rw [if_pos c28] at h
      cases h
      exact v_vret dX14_move_213
    · rw [if_neg c28] at h
      refine v_aload_n dX14_move_174 0 rfl rfl ?_
      refine v_iconst dX14_move_175 ?_
      obtain ⟨s29, e30, h⟩ := stp_some h
      refine v_putI (f := 120) cf14 oc87 rfl (by decide) q2490 dX14_move_176 rfl rfl ?_
      rw [← e30]
      refine v_aload_n dX14_move_179 0 rfl rfl ?_
      refine v_dupO dX14_move_180 ?_
      refine v_getI (f := 119) cf14 oc87 rfl (by decide) q2489 dX14_move_181 ?_
      refine v_iconst dX14_move_184 ?_
      refine v_iadd dX14_move_185 ?_
      obtain ⟨s31, e32, h⟩ := stp_some h
      refine v_putI (f := 119) cf14 oc87 rfl (by decide) q2489 dX14_move_186 rfl rfl ?_
      rw [← e32]
      refine v_aload_n dX14_move_189 0 rfl rfl ?_
      refine v_getI (f := 119) cf14 oc87 rfl (by decide) q2489 dX14_move_190 ?_
      refine v_bipush dX14_move_193 rfl ?_
      refine v_icmp_le (tgt := 213) dX14_move_195 (gI_rg _ _ _) (rgl rfl) (by decide) (fun c33 => ?_) (fun c33 => ?_)
      · rw [if_pos c33] at h
        cases h
        exact v_vret dX14_move_213
      · rw [if_neg c33] at h
        refine v_aload_n dX14_move_198 0 rfl rfl ?_
        refine v_iconst dX14_move_199 ?_
        obtain ⟨s34, e35, h⟩ := stp_some h
        refine v_putI (f := 119) cf14 oc87 rfl (by decide) q2489 dX14_move_200 rfl rfl ?_
        rw [← e35]
        refine v_aload_n dX14_move_203 0 rfl rfl ?_
        refine v_dupO dX14_move_204 ?_
        refine v_getI (f := 118) cf14 oc87 rfl (by decide) q2488 dX14_move_205 ?_
        refine v_iconst dX14_move_208 ?_
        refine v_iadd dX14_move_209 ?_
        obtain ⟨s36, e37, h⟩ := stp_some h
        refine v_putI (f := 118) cf14 oc87 rfl (by decide) q2488 dX14_move_210 rfl rfl ?_
        rw [← e37]
        cases h
        exact v_vret dX14_move_213
  · rw [if_neg c22] at h
    refine v_aload_n dX14_move_86 0 rfl rfl ?_
    refine v_dupO dX14_move_87 ?_
    refine v_getI (f := 119) cf14 oc87 rfl (by decide) q2489 dX14_move_88 ?_
    refine v_iconst dX14_move_91 ?_
    refine v_isub dX14_move_92 ?_
    obtain ⟨s38, e39, h⟩ := stp_some h
    refine v_putI (f := 119) cf14 oc87 rfl (by decide) q2489 dX14_move_93 rfl rfl ?_
    rw [← e39]
    refine v_aload_n dX14_move_96 0 rfl rfl ?_
    refine v_getI (f := 119) cf14 oc87 rfl (by decide) q2489 dX14_move_97 ?_
    refine v_iconst dX14_move_100 ?_
    refine v_icmp_ge (tgt := 120) dX14_move_101 (gI_rg _ _ _) (rgl rfl) (by decide) (fun c40 => ?_) (fun c40 => ?_)
    · rw [if_pos c40] at h
      refine v_sub [0] (L1 := [(0, vO 87)]) rfl ?_
      exact wj_X14_move_120 h 
    · rw [if_neg c40] at h
      refine v_aload_n dX14_move_104 0 rfl rfl ?_
      refine v_bipush dX14_move_105 rfl ?_
      obtain ⟨s41, e42, h⟩ := stp_some h
      refine v_putI (f := 119) cf14 oc87 rfl (by decide) q2489 dX14_move_107 rfl rfl ?_
      rw [← e42]
      refine v_aload_n dX14_move_110 0 rfl rfl ?_
      refine v_dupO dX14_move_111 ?_
      refine v_getI (f := 118) cf14 oc87 rfl (by decide) q2488 dX14_move_112 ?_
      refine v_iconst dX14_move_115 ?_
      refine v_isub dX14_move_116 ?_
      obtain ⟨s43, e44, h⟩ := stp_some h
      refine v_putI (f := 118) cf14 oc87 rfl (by decide) q2488 dX14_move_117 rfl rfl ?_
      rw [← e44]
      refine v_sub [0] (L1 := [(0, vO 87)]) rfl ?_
      exact wj_X14_move_120 h 

def j_X14_zone_106 (x2 : Int) (x3 : Int) (z0 : Int) (s : vS) : Option (Int × vS) :=
  if (gI s 87 124) = (gI s 87 105) then
    bd (f_X14_within x3 0 23 s) fun r5 s2 =>
    if r5 = 0 then
      some (100000, s2)
    else
      bd (f_X14_within z0 0 59 s2) fun r11 s8 =>
      if r11 = 0 then
        some (100000, s8)
      else
        if x2 = 43 then
          some (w32 ((w32 (60 * x3)) + z0), s8)
        else
          some (w32 ((w32 ((-60) * x3)) - z0), s8)
  else
    some (100000, s)
theorem wj_X14_zone_106 {x2 : Int} {x3 : Int} {z0 : Int} {s : vS} {out : Int × vS} (h : j_X14_zone_106 x2 x3 z0 s = some out)  (rx2 : rg x2) (rx3 : rg x3) (rz0 : rg z0) : VW cX14_zone (RX14, (some (vI out.1)), out.2, (some .int), 3, 65, 5, []) (P0 []) s 106 [(0, vO 87), (2, vI x2), (3, vI x3)] [vI z0] := by
  unfold j_X14_zone_106 at h
  refine v_istore (L1 := [(4, vI z0), (0, vO 87), (2, vI x2), (3, vI x3)]) dX14_zone_106 (by decide) rfl ?_
  refine v_aload_n dX14_zone_108 1 rfl rfl ?_
  refine v_getI (f := 124) cf14 oc87 rfl (by decide) q2494 dX14_zone_109 ?_
  refine v_aload_n dX14_zone_112 1 rfl rfl ?_
  refine v_getI (f := 105) cf14 oc87 rfl (by decide) q2475 dX14_zone_113 ?_
  refine v_icmp_ne (tgt := 140) dX14_zone_116 (gI_rg _ _ _) (gI_rg _ _ _) (by decide) (fun c1 => ?_) (fun c1 => ?_)
  · rw [if_neg c1] at h
    refine v_ldcw (n := 100000) dX14_zone_140 q3291 rfl ?_
    cases h
    exact v_iret (rgl rfl) dX14_zone_143
  · rw [if_pos c1] at h
    refine v_iload_n dX14_zone_119 3 rfl rfl ?_
    refine v_iconst dX14_zone_120 ?_
    refine v_bipush dX14_zone_121 rfl ?_
    obtain ⟨r5, s2, e3, h⟩ := bd_some h
    have k4 := c_X14_within e3 rx3 (rgl rfl) (rgl rfl)
    have r6 : rg r5 := k4.1.2.2
    refine v_callS (st := []) k4 (lw_S q2878 q2879 q311 q2880) yk_X14_within ⟨Nat.le_of_ble_eq_true rfl, Nat.le_of_ble_eq_true rfl⟩ trivial ⟨kc87, trivial⟩ (Nat.le_of_ble_eq_true rfl) rfl dX14_zone_123 ?_
    refine v_if_eq (tgt := 140) dX14_zone_126 r6 (by decide) (fun c7 => ?_) (fun c7 => ?_)
    · rw [if_pos c7] at h
      refine v_ldcw (n := 100000) dX14_zone_140 q3291 rfl ?_
      cases h
      exact v_iret (rgl rfl) dX14_zone_143
    · rw [if_neg c7] at h
      refine v_iload dX14_zone_129 0 rfl ?_
      refine v_iconst dX14_zone_131 ?_
      refine v_bipush dX14_zone_132 rfl ?_
      obtain ⟨r11, s8, e9, h⟩ := bd_some h
      have k10 := c_X14_within e9 rz0 (rgl rfl) (rgl rfl)
      have r12 : rg r11 := k10.1.2.2
      refine v_callS (st := []) k10 (lw_S q2878 q2879 q311 q2880) yk_X14_within ⟨Nat.le_of_ble_eq_true rfl, Nat.le_of_ble_eq_true rfl⟩ trivial ⟨kc87, trivial⟩ (Nat.le_of_ble_eq_true rfl) rfl dX14_zone_134 ?_
      refine v_if_ne (tgt := 144) dX14_zone_137 r12 (by decide) (fun c13 => ?_) (fun c13 => ?_)
      · rw [if_neg c13] at h
        refine v_iload_n dX14_zone_144 2 rfl rfl ?_
        refine v_bipush dX14_zone_145 rfl ?_
        refine v_icmp_ne (tgt := 160) dX14_zone_147 rx2 (rgl rfl) (by decide) (fun c14 => ?_) (fun c14 => ?_)
        · rw [if_neg c14] at h
          refine v_bipush dX14_zone_160 rfl ?_
          refine v_iload_n dX14_zone_162 3 rfl rfl ?_
          refine v_imul dX14_zone_163 ?_
          refine v_iload dX14_zone_164 0 rfl ?_
          refine v_isub dX14_zone_166 ?_
          cases h
          exact v_iret (w32_rg _) dX14_zone_167
        · rw [if_pos c14] at h
          refine v_bipush dX14_zone_150 rfl ?_
          refine v_iload_n dX14_zone_152 3 rfl rfl ?_
          refine v_imul dX14_zone_153 ?_
          refine v_iload dX14_zone_154 0 rfl ?_
          refine v_iadd dX14_zone_156 ?_
          refine v_goto (tgt := 167) dX14_zone_157 (by decide) ?_
          cases h
          exact v_iret (w32_rg _) dX14_zone_167
      · rw [if_pos c13] at h
        refine v_ldcw (n := 100000) dX14_zone_140 q3291 rfl ?_
        cases h
        exact v_iret (rgl rfl) dX14_zone_143

def j_X14_zone_101 (x2 : Int) (x3 : Int) (s : vS) : Option (Int × vS) :=
  bd (f_X14_digitsAt 2 s) fun r4 s1 =>
  j_X14_zone_106 x2 x3 r4 s1
theorem wj_X14_zone_101 {x2 : Int} {x3 : Int} {s : vS} {out : Int × vS} (h : j_X14_zone_101 x2 x3 s = some out)  (rx2 : rg x2) (rx3 : rg x3) : VW cX14_zone (RX14, (some (vI out.1)), out.2, (some .int), 3, 65, 5, []) (P0 []) s 101 [(0, vO 87), (2, vI x2), (3, vI x3)] [] := by
  unfold j_X14_zone_101 at h
  refine v_aload_n dX14_zone_101 0 rfl rfl ?_
  refine v_iconst dX14_zone_102 ?_
  obtain ⟨r4, s1, e2, h⟩ := bd_some h
  have k3 := c_X14_digitsAt e2 (rgl rfl)
  have r5 : rg r4 := k3.1.2.2
  refine v_callV (st := []) cf14 oc87 k3 (lw_V q3283 q3285 qs249 q311 q3286) rfl yk_X14_digitsAt ⟨Nat.le_of_ble_eq_true rfl, Nat.le_of_ble_eq_true rfl⟩ trivial ⟨kc87, trivial⟩ (Nat.le_of_ble_eq_true rfl) rfl dX14_zone_103 ?_
  exact wj_X14_zone_106 h rx2 rx3 r5

def j_X14_zone_76 (x1 : Int) (x2 : Int) (s : vS) : Option (Int × vS) :=
  bd (f_X14_digitsAt 2 s) fun r4 s1 =>
  if x1 = 0 then
    j_X14_zone_101 x2 r4 s1
  else
    if (gI s1 87 124) = (gI s1 87 105) then
      j_X14_zone_106 x2 r4 0 s1
    else
      j_X14_zone_101 x2 r4 s1
theorem wj_X14_zone_76 {x1 : Int} {x2 : Int} {s : vS} {out : Int × vS} (h : j_X14_zone_76 x1 x2 s = some out)  (rx1 : rg x1) (rx2 : rg x2) : VW cX14_zone (RX14, (some (vI out.1)), out.2, (some .int), 3, 65, 5, []) (P0 []) s 76 [(0, vO 87), (1, vI x1), (2, vI x2)] [] := by
  unfold j_X14_zone_76 at h
  refine v_aload_n dX14_zone_76 0 rfl rfl ?_
  refine v_iconst dX14_zone_77 ?_
  obtain ⟨r4, s1, e2, h⟩ := bd_some h
  have k3 := c_X14_digitsAt e2 (rgl rfl)
  have r5 : rg r4 := k3.1.2.2
  refine v_callV (st := []) cf14 oc87 k3 (lw_V q3283 q3285 qs249 q311 q3286) rfl yk_X14_digitsAt ⟨Nat.le_of_ble_eq_true rfl, Nat.le_of_ble_eq_true rfl⟩ trivial ⟨kc87, trivial⟩ (Nat.le_of_ble_eq_true rfl) rfl dX14_zone_78 ?_
  refine v_istore_n (L1 := [(3, vI r4), (0, vO 87), (1, vI x1), (2, vI x2)]) dX14_zone_81 rfl (by decide) rfl ?_
  refine v_iload_n dX14_zone_82 2 rfl rfl ?_
  refine v_if_eq (tgt := 101) dX14_zone_83 rx1 (by decide) (fun c6 => ?_) (fun c6 => ?_)
  · rw [if_pos c6] at h
    refine v_sub [1, 3, 0] (L1 := [(0, vO 87), (2, vI x2), (3, vI r4)]) rfl ?_
    exact wj_X14_zone_101 h rx2 r5
  · rw [if_neg c6] at h
    refine v_aload_n dX14_zone_86 1 rfl rfl ?_
    refine v_getI (f := 124) cf14 oc87 rfl (by decide) q2494 dX14_zone_87 ?_
    refine v_aload_n dX14_zone_90 1 rfl rfl ?_
    refine v_getI (f := 105) cf14 oc87 rfl (by decide) q2475 dX14_zone_91 ?_
    refine v_icmp_ne (tgt := 101) dX14_zone_94 (gI_rg _ _ _) (gI_rg _ _ _) (by decide) (fun c7 => ?_) (fun c7 => ?_)
    · rw [if_neg c7] at h
      refine v_sub [1, 3, 0] (L1 := [(0, vO 87), (2, vI x2), (3, vI r4)]) rfl ?_
      exact wj_X14_zone_101 h rx2 r5
    · rw [if_pos c7] at h
      refine v_iconst dX14_zone_97 ?_
      refine v_goto (tgt := 106) dX14_zone_98 (by decide) ?_
      refine v_sub [1, 3, 0] (L1 := [(0, vO 87), (2, vI x2), (3, vI r4)]) rfl ?_
      exact wj_X14_zone_106 h rx2 r5 (rgl rfl)

def f_X14_zone (x1 : Int) (s : vS) : Option (Int × vS) :=
  if (gI s 87 124) < (gI s 87 105) then
    gd (inb (gI s 87 124) (gN s 161)) <|
    vl (gE s 161 (gI s 87 124)) fun y3 =>
    stp (sI s 87 124 (w32 ((gI s 87 124) + 1))) fun s6 =>
    if y3 = 90 then
      if (gI s6 87 124) = (gI s6 87 105) then
        some (0, s6)
      else
        some (100000, s6)
    else
      if y3 = 43 then
        j_X14_zone_76 x1 y3 s6
      else
        if y3 = 45 then
          j_X14_zone_76 x1 y3 s6
        else
          some (100000, s6)
  else
    some (100000, s)
theorem yk_X14_zone : yOk yX14_zone 1 := ⟨by decide, by decide, by decide +kernel⟩
theorem c_X14_zone {x1 : Int} {s : vS} {out : Int × vS} (h : f_X14_zone x1 s = some out)  (rx1 : rg x1) : VC yX14_zone cX14_zone 5 (some .int) 3 65 [vO 87, vI x1] s (some (vI out.1)) out.2 [] := by
  unfold f_X14_zone at h
  refine VC.of RX14 (by decide) rfl (Nat.le_of_ble_eq_true rfl) ?_
  show VW cX14_zone (RX14, (some (vI out.1)), out.2, (some .int), 3, 65, 5, []) (P0 []) s 0 [(0, vO 87), (1, vI x1)] []
  refine v_aload_n dX14_zone_0 0 rfl rfl ?_
  refine v_getI (f := 124) cf14 oc87 rfl (by decide) q2494 dX14_zone_1 ?_
  refine v_aload_n dX14_zone_4 0 rfl rfl ?_
  refine v_getI (f := 105) cf14 oc87 rfl (by decide) q2475 dX14_zone_5 ?_
  refine v_icmp_lt (tgt := 15) dX14_zone_8 (gI_rg _ _ _) (gI_rg _ _ _) (by decide) (fun c1 => ?_) (fun c1 => ?_)
  · rw [if_pos c1] at h
    refine v_aload_n dX14_zone_15 0 rfl rfl ?_
    refine v_getS (f := 106) (t := 161) cf14 oc87 rfl rfl rfl (by decide) q2476 dX14_zone_16 ?_
    refine v_aload_n dX14_zone_19 0 rfl rfl ?_
    refine v_getI (f := 124) cf14 oc87 rfl (by decide) q2494 dX14_zone_20 ?_
    obtain ⟨g2, h⟩ := gd_some h
    refine v_iald oc161 (gI_rg _ _ _) g2.1 g2.2 dX14_zone_23 ?_
    obtain ⟨y3, e4, h⟩ := vl_some h
    rw [← e4]
    have r5 : rg y3 := by rw [e4]; exact gE_rg _ _ _
    refine v_istore_n (L1 := [(2, vI y3), (0, vO 87), (1, vI x1)]) dX14_zone_24 rfl (by decide) rfl ?_
    refine v_aload_n dX14_zone_25 1 rfl rfl ?_
    refine v_dupO dX14_zone_26 ?_
    refine v_getI (f := 124) cf14 oc87 rfl (by decide) q2494 dX14_zone_27 ?_
    refine v_iconst dX14_zone_30 ?_
    refine v_iadd dX14_zone_31 ?_
    obtain ⟨s6, e7, h⟩ := stp_some h
    refine v_putI (f := 124) cf14 oc87 rfl (by decide) q2494 dX14_zone_32 rfl rfl ?_
    rw [← e7]
    refine v_iload_n dX14_zone_35 0 rfl rfl ?_
    refine v_bipush dX14_zone_36 rfl ?_
    refine v_icmp_ne (tgt := 60) dX14_zone_38 r5 (rgl rfl) (by decide) (fun c8 => ?_) (fun c8 => ?_)
    · rw [if_neg c8] at h
      refine v_iload_n dX14_zone_60 0 rfl rfl ?_
      refine v_bipush dX14_zone_61 rfl ?_
      refine v_icmp_eq (tgt := 76) dX14_zone_63 r5 (rgl rfl) (by decide) (fun c9 => ?_) (fun c9 => ?_)
      · rw [if_pos c9] at h
        refine v_sub [1, 2, 0] (L1 := [(0, vO 87), (1, vI x1), (2, vI y3)]) rfl ?_
        exact wj_X14_zone_76 h rx1 r5
      · rw [if_neg c9] at h
        refine v_iload_n dX14_zone_66 0 rfl rfl ?_
        refine v_bipush dX14_zone_67 rfl ?_
        refine v_icmp_eq (tgt := 76) dX14_zone_69 r5 (rgl rfl) (by decide) (fun c10 => ?_) (fun c10 => ?_)
        · rw [if_pos c10] at h
          refine v_sub [1, 2, 0] (L1 := [(0, vO 87), (1, vI x1), (2, vI y3)]) rfl ?_
          exact wj_X14_zone_76 h rx1 r5
        · rw [if_neg c10] at h
          refine v_ldcw (n := 100000) dX14_zone_72 q3291 rfl ?_
          cases h
          exact v_iret (rgl rfl) dX14_zone_75
    · rw [if_pos c8] at h
      refine v_aload_n dX14_zone_41 1 rfl rfl ?_
      refine v_getI (f := 124) cf14 oc87 rfl (by decide) q2494 dX14_zone_42 ?_
      refine v_aload_n dX14_zone_45 1 rfl rfl ?_
      refine v_getI (f := 105) cf14 oc87 rfl (by decide) q2475 dX14_zone_46 ?_
      refine v_icmp_ne (tgt := 56) dX14_zone_49 (gI_rg _ _ _) (gI_rg _ _ _) (by decide) (fun c11 => ?_) (fun c11 => ?_)
      · rw [if_neg c11] at h
        refine v_ldcw (n := 100000) dX14_zone_56 q3291 rfl ?_
        cases h
        exact v_iret (rgl rfl) dX14_zone_59
      · rw [if_pos c11] at h
        refine v_iconst dX14_zone_52 ?_
        refine v_goto (tgt := 59) dX14_zone_53 (by decide) ?_
        cases h
        exact v_iret (rgl rfl) dX14_zone_59
  · rw [if_neg c1] at h
    refine v_ldcw (n := 100000) dX14_zone_11 q3291 rfl ?_
    cases h
    exact v_iret (rgl rfl) dX14_zone_14

def E_X14_sayDigits_5 (x1 : Int) (rv : Option vA) (σo : vS) (q : Int × vS) : Prop := ∀ (x3' : Int) (s' : vS), q = (x3', s') → rg x3' → VW cX14_sayDigits (RX14, rv, σo, none, 2, 44, 5, []) (P0 []) s' 22 [(0, vO 87), (1, vI x1), (3, vI x3')] []
def l_X14_sayDigits_5 : Nat → Int → Int → Int → Int → vS → Option (Int × vS)
  | 0, _, _, _, _, _ => none
  | n + 1, x1, x2, x3, x4, s =>
    if x2 ≤ x4 then
      some (x3, s)
    else
      vl (w32 (10 * x3)) fun y2 =>
      vl (w32 (x4 + 1)) fun y5 =>
      l_X14_sayDigits_5 n x1 x2 y2 y5 s
theorem wl_X14_sayDigits_5 {x1 : Int} {x2 : Int} {rv : Option vA} {σo : vS}  (rx1 : rg x1) (rx2 : rg x2) : ∀ (n : Nat) (x3 : Int) (x4 : Int) (s : vS) (q : Int × vS), l_X14_sayDigits_5 n x1 x2 x3 x4 s = some q → rg x3 → rg x4 → E_X14_sayDigits_5 x1 rv σo q → VW cX14_sayDigits (RX14, rv, σo, none, 2, 44, 5, []) (P0 []) s 5 [(0, vO 87), (1, vI x1), (2, vI x2), (3, vI x3), (4, vI x4)] [] := by
  intro n
  induction n with
  | zero => intro x3 x4 s q h; cases h
  | succ n ih =>
    intro x3 x4 s q h rx3 rx4 hE
    unfold l_X14_sayDigits_5 at h
    refine v_iload dX14_sayDigits_5 4 rfl ?_
    refine v_iload_n dX14_sayDigits_7 2 rfl rfl ?_
    refine v_icmp_ge (tgt := 22) dX14_sayDigits_8 rx4 rx2 (by decide) (fun c1 => ?_) (fun c1 => ?_)
    · rw [if_pos c1] at h
      cases h
      refine v_sub [0, 1, 3] (L1 := [(0, vO 87), (1, vI x1), (3, vI x3)]) rfl ?_
      exact hE _ _ rfl rx3
    · rw [if_neg c1] at h
      refine v_bipush dX14_sayDigits_11 rfl ?_
      refine v_iload_n dX14_sayDigits_13 3 rfl rfl ?_
      refine v_imul dX14_sayDigits_14 ?_
      obtain ⟨y2, e3, h⟩ := vl_some h
      rw [← e3]
      have r4 : rg y2 := by rw [e3]; exact w32_rg _
      refine v_istore_n (L1 := [(3, vI y2), (0, vO 87), (1, vI x1), (2, vI x2), (4, vI x4)]) dX14_sayDigits_15 rfl (by decide) rfl ?_
      obtain ⟨y5, e6, h⟩ := vl_some h
      refine v_iinc (L1 := [(4, vI (w32 (x4 + 1))), (3, vI y2), (0, vO 87), (1, vI x1), (2, vI x2)]) dX14_sayDigits_16 4 rfl (by decide) rfl ?_
      rw [← e6]
      have r7 : rg y5 := by rw [e6]; exact w32_rg _
      refine v_goto (tgt := 5) dX14_sayDigits_19 (by decide) ?_
      refine v_sub [2, 3, 4, 1, 0] (L1 := [(0, vO 87), (1, vI x1), (2, vI x2), (3, vI y2), (4, vI y5)]) rfl ?_
      exact ih y2 y5 s _ h r4 r7 hE

def E_X14_sayDigits_25 (rv : Option vA) (σo : vS) (q : vS) : Prop := ∀ (s' : vS), q = s' → VW cX14_sayDigits (RX14, rv, σo, none, 2, 44, 5, []) (P0 []) s' 54 [] []
def l_X14_sayDigits_25 : Nat → Int → Int → vS → Option (vS)
  | 0, _, _, _ => none
  | n + 1, x1, x4, s =>
    if x4 ≤ 0 then
      some s
    else
      gd (x4 ≠ 0) <|
      bdv (f_X14_say (w32 (48 + (m32 (d32 x1 x4) 10))) s) fun s3 =>
      vl (d32 x4 10) fun y6 =>
      l_X14_sayDigits_25 n x1 y6 s3
theorem wl_X14_sayDigits_25 {x1 : Int} {rv : Option vA} {σo : vS}  (rx1 : rg x1) : ∀ (n : Nat) (x4 : Int) (s : vS) (q : vS), l_X14_sayDigits_25 n x1 x4 s = some q → rg x4 → E_X14_sayDigits_25 rv σo q → VW cX14_sayDigits (RX14, rv, σo, none, 2, 44, 5, []) (P0 []) s 25 [(0, vO 87), (1, vI x1), (4, vI x4)] [] := by
  intro n
  induction n with
  | zero => intro x4 s q h; cases h
  | succ n ih =>
    intro x4 s q h rx4 hE
    unfold l_X14_sayDigits_25 at h
    refine v_iload dX14_sayDigits_25 2 rfl ?_
    refine v_if_le (tgt := 54) dX14_sayDigits_27 rx4 (by decide) (fun c1 => ?_) (fun c1 => ?_)
    · rw [if_pos c1] at h
      cases h
      refine v_sub [] (L1 := []) rfl ?_
      exact hE _ rfl 
    · rw [if_neg c1] at h
      refine v_aload_n dX14_sayDigits_30 0 rfl rfl ?_
      refine v_bipush dX14_sayDigits_31 rfl ?_
      refine v_iload_n dX14_sayDigits_33 1 rfl rfl ?_
      refine v_iload dX14_sayDigits_34 2 rfl ?_
      obtain ⟨g2, h⟩ := gd_some h
      refine v_idiv dX14_sayDigits_36 rx4 g2 ?_
      refine v_bipush dX14_sayDigits_37 rfl ?_
      refine v_irem dX14_sayDigits_39 (rgl rfl) (by decide) ?_
      refine v_iadd dX14_sayDigits_40 ?_
      obtain ⟨s3, e4, h⟩ := bdv_some h
      have k5 := c_X14_say e4 (w32_rg _)
      refine v_callV (st := []) cf14 oc87 k5 (lw_V q3207 q3209 qs230 q311 q3210) rfl yk_X14_say ⟨Nat.le_of_ble_eq_true rfl, Nat.le_of_ble_eq_true rfl⟩ trivial ⟨kc87, trivial⟩ (Nat.le_of_ble_eq_true rfl) rfl dX14_sayDigits_41 ?_
      refine v_iload dX14_sayDigits_44 2 rfl ?_
      refine v_bipush dX14_sayDigits_46 rfl ?_
      refine v_idiv dX14_sayDigits_48 (rgl rfl) (by decide) ?_
      obtain ⟨y6, e7, h⟩ := vl_some h
      rw [← e7]
      have r8 : rg y6 := by rw [e7]; exact d32_rg _ _
      refine v_istore (L1 := [(4, vI y6), (0, vO 87), (1, vI x1)]) dX14_sayDigits_49 (by decide) rfl ?_
      refine v_goto (tgt := 25) dX14_sayDigits_51 (by decide) ?_
      refine v_sub [1, 2, 0] (L1 := [(0, vO 87), (1, vI x1), (4, vI y6)]) rfl ?_
      exact ih y6 s3 _ h r8 hE

def f_X14_sayDigits (x1 : Int) (x2 : Int) (s : vS) : Option (vS) :=
  lq_1 (l_X14_sayDigits_5 FU x1 x2 1 1 s) fun y1 s2 =>
  lq_0 (l_X14_sayDigits_25 FU x1 y1 s2) fun s5 =>
  some s5
theorem yk_X14_sayDigits : yOk yX14_sayDigits 2 := ⟨by decide, by decide, by decide +kernel⟩
theorem c_X14_sayDigits {x1 : Int} {x2 : Int} {s : vS} {out : vS} (h : f_X14_sayDigits x1 x2 s = some out)  (rx1 : rg x1) (rx2 : rg x2) : VC yX14_sayDigits cX14_sayDigits 5 none 2 44 [vO 87, vI x1, vI x2] s none out [] := by
  unfold f_X14_sayDigits at h
  refine VC.of RX14 (by decide) rfl (Nat.le_of_ble_eq_true rfl) ?_
  show VW cX14_sayDigits (RX14, none, out, none, 2, 44, 5, []) (P0 []) s 0 [(0, vO 87), (1, vI x1), (2, vI x2)] []
  refine v_iconst dX14_sayDigits_0 ?_
  refine v_istore_n (L1 := [(3, vI 1), (0, vO 87), (1, vI x1), (2, vI x2)]) dX14_sayDigits_1 rfl (by decide) rfl ?_
  refine v_iconst dX14_sayDigits_2 ?_
  refine v_istore (L1 := [(4, vI 1), (3, vI 1), (0, vO 87), (1, vI x1), (2, vI x2)]) dX14_sayDigits_3 (by decide) rfl ?_
  refine v_sub [2, 3, 4, 1, 0] (L1 := [(0, vO 87), (1, vI x1), (2, vI x2), (3, vI 1), (4, vI 1)]) rfl ?_
  obtain ⟨y1, s2, e3, h⟩ := lq_1_some h
  refine wl_X14_sayDigits_5 rx1 rx2 FU 1 1 s _ e3 (rgl rfl) (rgl rfl) ?_
  unfold E_X14_sayDigits_5
  intro y1' s2' z_ r4
  cases z_
  refine v_iload_n dX14_sayDigits_22 2 rfl rfl ?_
  refine v_istore (L1 := [(4, vI y1), (0, vO 87), (1, vI x1), (3, vI y1)]) dX14_sayDigits_23 (by decide) rfl ?_
  refine v_sub [1, 2, 0] (L1 := [(0, vO 87), (1, vI x1), (4, vI y1)]) rfl ?_
  obtain ⟨s5, e6, h⟩ := lq_0_some h
  refine wl_X14_sayDigits_25 rx1 FU y1 s2 _ e6 r4 ?_
  unfold E_X14_sayDigits_25
  intro s5' z_
  cases z_
  cases h
  exact v_vret dX14_sayDigits_54

def f_X14_sayRest (s : vS) : Option (vS) :=
  bdv (f_X14_sayDigits (gI s 87 119) 2 s) fun s1 =>
  bdv (f_X14_sayDigits (gI s1 87 120) 2 s1) fun s4 =>
  bdv (f_X14_sayDigits (gI s4 87 121) 2 s4) fun s7 =>
  bdv (f_X14_sayDigits (gI s7 87 122) 2 s7) fun s10 =>
  bdv (f_X14_sayDigits (gI s10 87 123) 2 s10) fun s13 =>
  some s13
theorem yk_X14_sayRest : yOk yX14_sayRest 0 := ⟨by decide, by decide, by decide +kernel⟩
theorem c_X14_sayRest {s : vS} {out : vS} (h : f_X14_sayRest s = some out)   : VC yX14_sayRest cX14_sayRest 1 none 3 68 [vO 87] s none out [] := by
  unfold f_X14_sayRest at h
  refine VC.of RX14 (by decide) rfl (Nat.le_of_ble_eq_true rfl) ?_
  show VW cX14_sayRest (RX14, none, out, none, 3, 68, 1, []) (P0 []) s 0 [(0, vO 87)] []
  refine v_aload_n dX14_sayRest_0 0 rfl rfl ?_
  refine v_aload_n dX14_sayRest_1 0 rfl rfl ?_
  refine v_getI (f := 119) cf14 oc87 rfl (by decide) q2489 dX14_sayRest_2 ?_
  refine v_iconst dX14_sayRest_5 ?_
  obtain ⟨s1, e2, h⟩ := bdv_some h
  have k3 := c_X14_sayDigits e2 (gI_rg _ _ _) (rgl rfl)
  refine v_callV (st := []) cf14 oc87 k3 (lw_V q3307 q3309 qs254 q311 q3310) rfl yk_X14_sayDigits ⟨Nat.le_of_ble_eq_true rfl, Nat.le_of_ble_eq_true rfl⟩ trivial ⟨kc87, trivial⟩ (Nat.le_of_ble_eq_true rfl) rfl dX14_sayRest_6 ?_
  refine v_aload_n dX14_sayRest_9 0 rfl rfl ?_
  refine v_aload_n dX14_sayRest_10 0 rfl rfl ?_
  refine v_getI (f := 120) cf14 oc87 rfl (by decide) q2490 dX14_sayRest_11 ?_
  refine v_iconst dX14_sayRest_14 ?_
  obtain ⟨s4, e5, h⟩ := bdv_some h
  have k6 := c_X14_sayDigits e5 (gI_rg _ _ _) (rgl rfl)
  refine v_callV (st := []) cf14 oc87 k6 (lw_V q3307 q3309 qs254 q311 q3310) rfl yk_X14_sayDigits ⟨Nat.le_of_ble_eq_true rfl, Nat.le_of_ble_eq_true rfl⟩ trivial ⟨kc87, trivial⟩ (Nat.le_of_ble_eq_true rfl) rfl dX14_sayRest_15 ?_
  refine v_aload_n dX14_sayRest_18 0 rfl rfl ?_
  refine v_aload_n dX14_sayRest_19 0 rfl rfl ?_
  refine v_getI (f := 121) cf14 oc87 rfl (by decide) q2491 dX14_sayRest_20 ?_
  refine v_iconst dX14_sayRest_23 ?_
  obtain ⟨s7, e8, h⟩ := bdv_some h
  have k9 := c_X14_sayDigits e8 (gI_rg _ _ _) (rgl rfl)
  refine v_callV (st := []) cf14 oc87 k9 (lw_V q3307 q3309 qs254 q311 q3310) rfl yk_X14_sayDigits ⟨Nat.le_of_ble_eq_true rfl, Nat.le_of_ble_eq_true rfl⟩ trivial ⟨kc87, trivial⟩ (Nat.le_of_ble_eq_true rfl) rfl dX14_sayRest_24 ?_
  refine v_aload_n dX14_sayRest_27 0 rfl rfl ?_
  refine v_aload_n dX14_sayRest_28 0 rfl rfl ?_
  refine v_getI (f := 122) cf14 oc87 rfl (by decide) q2492 dX14_sayRest_29 ?_
  refine v_iconst dX14_sayRest_32 ?_
  obtain ⟨s10, e11, h⟩ := bdv_some h
  have k12 := c_X14_sayDigits e11 (gI_rg _ _ _) (rgl rfl)
  refine v_callV (st := []) cf14 oc87 k12 (lw_V q3307 q3309 qs254 q311 q3310) rfl yk_X14_sayDigits ⟨Nat.le_of_ble_eq_true rfl, Nat.le_of_ble_eq_true rfl⟩ trivial ⟨kc87, trivial⟩ (Nat.le_of_ble_eq_true rfl) rfl dX14_sayRest_33 ?_
  refine v_aload_n dX14_sayRest_36 0 rfl rfl ?_
  refine v_aload_n dX14_sayRest_37 0 rfl rfl ?_
  refine v_getI (f := 123) cf14 oc87 rfl (by decide) q2493 dX14_sayRest_38 ?_
  refine v_iconst dX14_sayRest_41 ?_
  obtain ⟨s13, e14, h⟩ := bdv_some h
  have k15 := c_X14_sayDigits e14 (gI_rg _ _ _) (rgl rfl)
  refine v_callV (st := []) cf14 oc87 k15 (lw_V q3307 q3309 qs254 q311 q3310) rfl yk_X14_sayDigits ⟨Nat.le_of_ble_eq_true rfl, Nat.le_of_ble_eq_true rfl⟩ trivial ⟨kc87, trivial⟩ (Nat.le_of_ble_eq_true rfl) rfl dX14_sayRest_42 ?_
  cases h
  exact v_vret dX14_sayRest_45

def j_X14_utcTime_143 (z0 : Int) (s : vS) : Option (Int × vS) :=
  if z0 = 100000 then
    some (18, s)
  else
    bd (f_X14_isDay s) fun r5 s2 =>
    if r5 = 0 then
      some (18, s2)
    else
      bdv (f_X14_move (w32 (-z0)) s2) fun s8 =>
      bd (f_X14_within (gI s8 87 118) 1950 2049 s8) fun r14 s11 =>
      if r14 = 0 then
        some (20, s11)
      else
        stp (sI s11 87 105 0) fun s17 =>
        bdv (f_X14_sayDigits (m32 (gI s17 87 118) 100) 2 s17) fun s19 =>
        bdv (f_X14_sayRest s19) fun s22 =>
        bdv (f_X14_say 90 s22) fun s25 =>
        some (0, s25)
theorem wj_X14_utcTime_143 {z0 : Int} {s : vS} {out : Int × vS} (h : j_X14_utcTime_143 z0 s = some out)  (rz0 : rg z0) : VW cX14_utcTime (RX14, (some (vI out.1)), out.2, (some .int), 4, 89, 3, []) (P0 []) s 143 [(0, vO 87)] [vI z0] := by
  unfold j_X14_utcTime_143 at h
  refine v_istore_n (L1 := [(2, vI z0), (0, vO 87)]) dX14_utcTime_143 rfl (by decide) rfl ?_
  refine v_iload_n dX14_utcTime_144 0 rfl rfl ?_
  refine v_ldcw (n := 100000) dX14_utcTime_145 q3291 rfl ?_
  refine v_icmp_eq (tgt := 158) dX14_utcTime_148 rz0 (rgl rfl) (by decide) (fun c1 => ?_) (fun c1 => ?_)
  · rw [if_pos c1] at h
    refine v_bipush dX14_utcTime_158 rfl ?_
    cases h
    exact v_iret (rgl rfl) dX14_utcTime_160
  · rw [if_neg c1] at h
    refine v_aload_n dX14_utcTime_151 1 rfl rfl ?_
    obtain ⟨r5, s2, e3, h⟩ := bd_some h
    have k4 := c_X14_isDay e3
    have r6 : rg r5 := k4.1.2.2
    refine v_callV (st := []) cf14 oc87 k4 (lw_V q3296 q3298 qs252 q311 q3299) rfl yk_X14_isDay ⟨Nat.le_of_ble_eq_true rfl, Nat.le_of_ble_eq_true rfl⟩ trivial ⟨kc87, trivial⟩ (Nat.le_of_ble_eq_true rfl) rfl dX14_utcTime_152 ?_
    refine v_if_ne (tgt := 161) dX14_utcTime_155 r6 (by decide) (fun c7 => ?_) (fun c7 => ?_)
    · rw [if_neg c7] at h
      refine v_aload_n dX14_utcTime_161 1 rfl rfl ?_
      refine v_iload_n dX14_utcTime_162 0 rfl rfl ?_
      refine v_ineg dX14_utcTime_163 ?_
      obtain ⟨s8, e9, h⟩ := bdv_some h
      have k10 := c_X14_move e9 (w32_rg _)
      refine v_callV (st := []) cf14 oc87 k10 (lw_V q3303 q3305 qs253 q311 q3306) rfl yk_X14_move ⟨Nat.le_of_ble_eq_true rfl, Nat.le_of_ble_eq_true rfl⟩ trivial ⟨kc87, trivial⟩ (Nat.le_of_ble_eq_true rfl) rfl dX14_utcTime_164 ?_
      refine v_aload_n dX14_utcTime_167 1 rfl rfl ?_
      refine v_getI (f := 118) cf14 oc87 rfl (by decide) q2488 dX14_utcTime_168 ?_
      refine v_sipush dX14_utcTime_171 rfl ?_
      refine v_sipush dX14_utcTime_174 rfl ?_
      obtain ⟨r14, s11, e12, h⟩ := bd_some h
      have k13 := c_X14_within e12 (gI_rg _ _ _) (rgl rfl) (rgl rfl)
      have r15 : rg r14 := k13.1.2.2
      refine v_callS (st := []) k13 (lw_S q2878 q2879 q311 q2880) yk_X14_within ⟨Nat.le_of_ble_eq_true rfl, Nat.le_of_ble_eq_true rfl⟩ trivial ⟨kc87, trivial⟩ (Nat.le_of_ble_eq_true rfl) rfl dX14_utcTime_177 ?_
      refine v_if_ne (tgt := 186) dX14_utcTime_180 r15 (by decide) (fun c16 => ?_) (fun c16 => ?_)
      · rw [if_neg c16] at h
        refine v_aload_n dX14_utcTime_186 1 rfl rfl ?_
        refine v_iconst dX14_utcTime_187 ?_
        obtain ⟨s17, e18, h⟩ := stp_some h
        refine v_putI (f := 105) cf14 oc87 rfl (by decide) q2475 dX14_utcTime_188 rfl rfl ?_
        rw [← e18]
        refine v_aload_n dX14_utcTime_191 1 rfl rfl ?_
        refine v_aload_n dX14_utcTime_192 1 rfl rfl ?_
        refine v_getI (f := 118) cf14 oc87 rfl (by decide) q2488 dX14_utcTime_193 ?_
        refine v_bipush dX14_utcTime_196 rfl ?_
        refine v_irem dX14_utcTime_198 (rgl rfl) (by decide) ?_
        refine v_iconst dX14_utcTime_199 ?_
        obtain ⟨s19, e20, h⟩ := bdv_some h
        have k21 := c_X14_sayDigits e20 (m32_rg _ _) (rgl rfl)
        refine v_callV (st := []) cf14 oc87 k21 (lw_V q3307 q3309 qs254 q311 q3310) rfl yk_X14_sayDigits ⟨Nat.le_of_ble_eq_true rfl, Nat.le_of_ble_eq_true rfl⟩ trivial ⟨kc87, trivial⟩ (Nat.le_of_ble_eq_true rfl) rfl dX14_utcTime_200 ?_
        refine v_aload_n dX14_utcTime_203 1 rfl rfl ?_
        obtain ⟨s22, e23, h⟩ := bdv_some h
        have k24 := c_X14_sayRest e23
        refine v_callV (st := []) cf14 oc87 k24 (lw_V q3311 q3313 qs255 q311 q3314) rfl yk_X14_sayRest ⟨Nat.le_of_ble_eq_true rfl, Nat.le_of_ble_eq_true rfl⟩ trivial ⟨kc87, trivial⟩ (Nat.le_of_ble_eq_true rfl) rfl dX14_utcTime_204 ?_
        refine v_aload_n dX14_utcTime_207 1 rfl rfl ?_
        refine v_bipush dX14_utcTime_208 rfl ?_
        obtain ⟨s25, e26, h⟩ := bdv_some h
        have k27 := c_X14_say e26 (rgl rfl)
        refine v_callV (st := []) cf14 oc87 k27 (lw_V q3207 q3209 qs230 q311 q3210) rfl yk_X14_say ⟨Nat.le_of_ble_eq_true rfl, Nat.le_of_ble_eq_true rfl⟩ trivial ⟨kc87, trivial⟩ (Nat.le_of_ble_eq_true rfl) rfl dX14_utcTime_210 ?_
        refine v_iconst dX14_utcTime_213 ?_
        cases h
        exact v_iret (rgl rfl) dX14_utcTime_214
      · rw [if_pos c16] at h
        refine v_bipush dX14_utcTime_183 rfl ?_
        cases h
        exact v_iret (rgl rfl) dX14_utcTime_185
    · rw [if_pos c7] at h
      refine v_bipush dX14_utcTime_158 rfl ?_
      cases h
      exact v_iret (rgl rfl) dX14_utcTime_160

def j_X14_utcTime_122 (z1 : Int) (s : vS) : Option (Int × vS) :=
  stp (sI s 87 118 z1) fun s1 =>
  if 0 ≤ (gI s1 87 123) then
    bd (f_X14_zone 0 s1) fun r7 s4 =>
    j_X14_utcTime_143 r7 s4
  else
    j_X14_utcTime_143 100000 s1
theorem wj_X14_utcTime_122 {z1 : Int} {s : vS} {out : Int × vS} (h : j_X14_utcTime_122 z1 s = some out)  (rz1 : rg z1) : VW cX14_utcTime (RX14, (some (vI out.1)), out.2, (some .int), 4, 89, 3, []) (P0 []) s 122 [(0, vO 87)] [vI z1, vO 87] := by
  unfold j_X14_utcTime_122 at h
  obtain ⟨s1, e2, h⟩ := stp_some h
  refine v_putI (f := 118) cf14 oc87 rfl (by decide) q2488 dX14_utcTime_122 rfl rfl ?_
  rw [← e2]
  refine v_aload_n dX14_utcTime_125 0 rfl rfl ?_
  refine v_getI (f := 123) cf14 oc87 rfl (by decide) q2493 dX14_utcTime_126 ?_
  refine v_if_ge (tgt := 138) dX14_utcTime_129 (gI_rg _ _ _) (by decide) (fun c3 => ?_) (fun c3 => ?_)
  · rw [if_pos c3] at h
    refine v_aload_n dX14_utcTime_138 0 rfl rfl ?_
    refine v_iconst dX14_utcTime_139 ?_
    obtain ⟨r7, s4, e5, h⟩ := bd_some h
    have k6 := c_X14_zone e5 (rgl rfl)
    have r8 : rg r7 := k6.1.2.2
    refine v_callV (st := []) cf14 oc87 k6 (lw_V q3292 q3294 qs251 q311 q3295) rfl yk_X14_zone ⟨Nat.le_of_ble_eq_true rfl, Nat.le_of_ble_eq_true rfl⟩ trivial ⟨kc87, trivial⟩ (Nat.le_of_ble_eq_true rfl) rfl dX14_utcTime_140 ?_
    exact wj_X14_utcTime_143 h r8
  · rw [if_neg c3] at h
    refine v_ldcw (n := 100000) dX14_utcTime_132 q3291 rfl ?_
    refine v_goto (tgt := 143) dX14_utcTime_135 (by decide) ?_
    exact wj_X14_utcTime_143 h (rgl rfl)

def j_X14_utcTime_99 (x1 : Int) (z1 : Int) (s : vS) : Option (Int × vS) :=
  stp (sI s 87 123 z1) fun s1 =>
  if 50 ≤ x1 then
    j_X14_utcTime_122 (w32 (1900 + x1)) s1
  else
    j_X14_utcTime_122 (w32 (2000 + x1)) s1
theorem wj_X14_utcTime_99 {x1 : Int} {z1 : Int} {s : vS} {out : Int × vS} (h : j_X14_utcTime_99 x1 z1 s = some out)  (rx1 : rg x1) (rz1 : rg z1) : VW cX14_utcTime (RX14, (some (vI out.1)), out.2, (some .int), 4, 89, 3, []) (P0 []) s 99 [(0, vO 87), (1, vI x1)] [vI z1, vO 87] := by
  unfold j_X14_utcTime_99 at h
  obtain ⟨s1, e2, h⟩ := stp_some h
  refine v_putI (f := 123) cf14 oc87 rfl (by decide) q2493 dX14_utcTime_99 rfl rfl ?_
  rw [← e2]
  refine v_aload_n dX14_utcTime_102 0 rfl rfl ?_
  refine v_iload_n dX14_utcTime_103 1 rfl rfl ?_
  refine v_bipush dX14_utcTime_104 rfl ?_
  refine v_icmp_ge (tgt := 117) dX14_utcTime_106 rx1 (rgl rfl) (by decide) (fun c3 => ?_) (fun c3 => ?_)
  · rw [if_pos c3] at h
    refine v_sipush dX14_utcTime_117 rfl ?_
    refine v_iload_n dX14_utcTime_120 1 rfl rfl ?_
    refine v_iadd dX14_utcTime_121 ?_
    refine v_sub [0] (L1 := [(0, vO 87)]) rfl ?_
    exact wj_X14_utcTime_122 h (w32_rg _)
  · rw [if_neg c3] at h
    refine v_sipush dX14_utcTime_109 rfl ?_
    refine v_iload_n dX14_utcTime_112 1 rfl rfl ?_
    refine v_iadd dX14_utcTime_113 ?_
    refine v_goto (tgt := 122) dX14_utcTime_114 (by decide) ?_
    refine v_sub [0] (L1 := [(0, vO 87)]) rfl ?_
    exact wj_X14_utcTime_122 h (w32_rg _)

def f_X14_utcTime (s : vS) : Option (Int × vS) :=
  stp (sI s 87 124 0) fun s1 =>
  bd (f_X14_digitsAt 2 s1) fun r6 s3 =>
  bd (f_X14_digitsAt 2 s3) fun r11 s8 =>
  stp (sI s8 87 119 r11) fun s13 =>
  bd (f_X14_digitsAt 2 s13) fun r18 s15 =>
  stp (sI s15 87 120 r18) fun s20 =>
  bd (f_X14_digitsAt 2 s20) fun r25 s22 =>
  stp (sI s22 87 121 r25) fun s27 =>
  bd (f_X14_digitsAt 2 s27) fun r32 s29 =>
  stp (sI s29 87 122 r32) fun s34 =>
  if r6 < 0 then
    some (18, s34)
  else
    if (gI s34 87 119) < 0 then
      some (18, s34)
    else
      if (gI s34 87 120) < 0 then
        some (18, s34)
      else
        if (gI s34 87 121) < 0 then
          some (18, s34)
        else
          if 0 ≤ (gI s34 87 122) then
            bd (f_X14_isNextDigit s34) fun r44 s41 =>
            if r44 = 0 then
              j_X14_utcTime_99 r6 0 s41
            else
              bd (f_X14_digitsAt 2 s41) fun r50 s47 =>
              j_X14_utcTime_99 r6 r50 s47
          else
            some (18, s34)
theorem yk_X14_utcTime : yOk yX14_utcTime 0 := ⟨by decide, by decide, by decide +kernel⟩
theorem c_X14_utcTime {s : vS} {out : Int × vS} (h : f_X14_utcTime s = some out)   : VC yX14_utcTime cX14_utcTime 3 (some .int) 4 89 [vO 87] s (some (vI out.1)) out.2 [] := by
  unfold f_X14_utcTime at h
  refine VC.of RX14 (by decide) rfl (Nat.le_of_ble_eq_true rfl) ?_
  show VW cX14_utcTime (RX14, (some (vI out.1)), out.2, (some .int), 4, 89, 3, []) (P0 []) s 0 [(0, vO 87)] []
  refine v_aload_n dX14_utcTime_0 0 rfl rfl ?_
  refine v_iconst dX14_utcTime_1 ?_
  obtain ⟨s1, e2, h⟩ := stp_some h
  refine v_putI (f := 124) cf14 oc87 rfl (by decide) q2494 dX14_utcTime_2 rfl rfl ?_
  rw [← e2]
  refine v_aload_n dX14_utcTime_5 0 rfl rfl ?_
  refine v_iconst dX14_utcTime_6 ?_
  obtain ⟨r6, s3, e4, h⟩ := bd_some h
  have k5 := c_X14_digitsAt e4 (rgl rfl)
  have r7 : rg r6 := k5.1.2.2
  refine v_callV (st := []) cf14 oc87 k5 (lw_V q3283 q3285 qs249 q311 q3286) rfl yk_X14_digitsAt ⟨Nat.le_of_ble_eq_true rfl, Nat.le_of_ble_eq_true rfl⟩ trivial ⟨kc87, trivial⟩ (Nat.le_of_ble_eq_true rfl) rfl dX14_utcTime_7 ?_
  refine v_istore_n (L1 := [(1, vI r6), (0, vO 87)]) dX14_utcTime_10 rfl (by decide) rfl ?_
  refine v_aload_n dX14_utcTime_11 1 rfl rfl ?_
  refine v_aload_n dX14_utcTime_12 1 rfl rfl ?_
  refine v_iconst dX14_utcTime_13 ?_
  obtain ⟨r11, s8, e9, h⟩ := bd_some h
  have k10 := c_X14_digitsAt e9 (rgl rfl)
  have r12 : rg r11 := k10.1.2.2
  refine v_callV (st := [vO 87]) cf14 oc87 k10 (lw_V q3283 q3285 qs249 q311 q3286) rfl yk_X14_digitsAt ⟨Nat.le_of_ble_eq_true rfl, Nat.le_of_ble_eq_true rfl⟩ ⟨kc87, trivial⟩ ⟨kc87, trivial⟩ (Nat.le_of_ble_eq_true rfl) rfl dX14_utcTime_14 ?_
  obtain ⟨s13, e14, h⟩ := stp_some h
  refine v_putI (f := 119) cf14 oc87 rfl (by decide) q2489 dX14_utcTime_17 rfl rfl ?_
  rw [← e14]
  refine v_aload_n dX14_utcTime_20 1 rfl rfl ?_
  refine v_aload_n dX14_utcTime_21 1 rfl rfl ?_
  refine v_iconst dX14_utcTime_22 ?_
  obtain ⟨r18, s15, e16, h⟩ := bd_some h
  have k17 := c_X14_digitsAt e16 (rgl rfl)
  have r19 : rg r18 := k17.1.2.2
  refine v_callV (st := [vO 87]) cf14 oc87 k17 (lw_V q3283 q3285 qs249 q311 q3286) rfl yk_X14_digitsAt ⟨Nat.le_of_ble_eq_true rfl, Nat.le_of_ble_eq_true rfl⟩ ⟨kc87, trivial⟩ ⟨kc87, trivial⟩ (Nat.le_of_ble_eq_true rfl) rfl dX14_utcTime_23 ?_
  obtain ⟨s20, e21, h⟩ := stp_some h
  refine v_putI (f := 120) cf14 oc87 rfl (by decide) q2490 dX14_utcTime_26 rfl rfl ?_
  rw [← e21]
  refine v_aload_n dX14_utcTime_29 1 rfl rfl ?_
  refine v_aload_n dX14_utcTime_30 1 rfl rfl ?_
  refine v_iconst dX14_utcTime_31 ?_
  obtain ⟨r25, s22, e23, h⟩ := bd_some h
  have k24 := c_X14_digitsAt e23 (rgl rfl)
  have r26 : rg r25 := k24.1.2.2
  refine v_callV (st := [vO 87]) cf14 oc87 k24 (lw_V q3283 q3285 qs249 q311 q3286) rfl yk_X14_digitsAt ⟨Nat.le_of_ble_eq_true rfl, Nat.le_of_ble_eq_true rfl⟩ ⟨kc87, trivial⟩ ⟨kc87, trivial⟩ (Nat.le_of_ble_eq_true rfl) rfl dX14_utcTime_32 ?_
  obtain ⟨s27, e28, h⟩ := stp_some h
  refine v_putI (f := 121) cf14 oc87 rfl (by decide) q2491 dX14_utcTime_35 rfl rfl ?_
  rw [← e28]
  refine v_aload_n dX14_utcTime_38 1 rfl rfl ?_
  refine v_aload_n dX14_utcTime_39 1 rfl rfl ?_
  refine v_iconst dX14_utcTime_40 ?_
  obtain ⟨r32, s29, e30, h⟩ := bd_some h
  have k31 := c_X14_digitsAt e30 (rgl rfl)
  have r33 : rg r32 := k31.1.2.2
  refine v_callV (st := [vO 87]) cf14 oc87 k31 (lw_V q3283 q3285 qs249 q311 q3286) rfl yk_X14_digitsAt ⟨Nat.le_of_ble_eq_true rfl, Nat.le_of_ble_eq_true rfl⟩ ⟨kc87, trivial⟩ ⟨kc87, trivial⟩ (Nat.le_of_ble_eq_true rfl) rfl dX14_utcTime_41 ?_
  obtain ⟨s34, e35, h⟩ := stp_some h
  refine v_putI (f := 122) cf14 oc87 rfl (by decide) q2492 dX14_utcTime_44 rfl rfl ?_
  rw [← e35]
  refine v_iload_n dX14_utcTime_47 0 rfl rfl ?_
  refine v_if_lt (tgt := 79) dX14_utcTime_48 r7 (by decide) (fun c36 => ?_) (fun c36 => ?_)
  · rw [if_pos c36] at h
    refine v_bipush dX14_utcTime_79 rfl ?_
    cases h
    exact v_iret (rgl rfl) dX14_utcTime_81
  · rw [if_neg c36] at h
    refine v_aload_n dX14_utcTime_51 1 rfl rfl ?_
    refine v_getI (f := 119) cf14 oc87 rfl (by decide) q2489 dX14_utcTime_52 ?_
    refine v_if_lt (tgt := 79) dX14_utcTime_55 (gI_rg _ _ _) (by decide) (fun c37 => ?_) (fun c37 => ?_)
    · rw [if_pos c37] at h
      refine v_bipush dX14_utcTime_79 rfl ?_
      cases h
      exact v_iret (rgl rfl) dX14_utcTime_81
    · rw [if_neg c37] at h
      refine v_aload_n dX14_utcTime_58 1 rfl rfl ?_
      refine v_getI (f := 120) cf14 oc87 rfl (by decide) q2490 dX14_utcTime_59 ?_
      refine v_if_lt (tgt := 79) dX14_utcTime_62 (gI_rg _ _ _) (by decide) (fun c38 => ?_) (fun c38 => ?_)
      · rw [if_pos c38] at h
        refine v_bipush dX14_utcTime_79 rfl ?_
        cases h
        exact v_iret (rgl rfl) dX14_utcTime_81
      · rw [if_neg c38] at h
        refine v_aload_n dX14_utcTime_65 1 rfl rfl ?_
        refine v_getI (f := 121) cf14 oc87 rfl (by decide) q2491 dX14_utcTime_66 ?_
        refine v_if_lt (tgt := 79) dX14_utcTime_69 (gI_rg _ _ _) (by decide) (fun c39 => ?_) (fun c39 => ?_)
        · rw [if_pos c39] at h
          refine v_bipush dX14_utcTime_79 rfl ?_
          cases h
          exact v_iret (rgl rfl) dX14_utcTime_81
        · rw [if_neg c39] at h
          refine v_aload_n dX14_utcTime_72 1 rfl rfl ?_
          refine v_getI (f := 122) cf14 oc87 rfl (by decide) q2492 dX14_utcTime_73 ?_
          refine v_if_ge (tgt := 82) dX14_utcTime_76 (gI_rg _ _ _) (by decide) (fun c40 => ?_) (fun c40 => ?_)
          · rw [if_pos c40] at h
            refine v_aload_n dX14_utcTime_82 1 rfl rfl ?_
            refine v_aload_n dX14_utcTime_83 1 rfl rfl ?_
            obtain ⟨r44, s41, e42, h⟩ := bd_some h
            have k43 := c_X14_isNextDigit e42
            have r45 : rg r44 := k43.1.2.2
            refine v_callV (st := [vO 87]) cf14 oc87 k43 (lw_V q3287 q3289 qs250 q311 q3290) rfl yk_X14_isNextDigit ⟨Nat.le_of_ble_eq_true rfl, Nat.le_of_ble_eq_true rfl⟩ ⟨kc87, trivial⟩ ⟨kc87, trivial⟩ (Nat.le_of_ble_eq_true rfl) rfl dX14_utcTime_84 ?_
            refine v_if_eq (tgt := 98) dX14_utcTime_87 r45 (by decide) (fun c46 => ?_) (fun c46 => ?_)
            · rw [if_pos c46] at h
              refine v_iconst dX14_utcTime_98 ?_
              refine v_sub [1, 0] (L1 := [(0, vO 87), (1, vI r6)]) rfl ?_
              exact wj_X14_utcTime_99 h r7 (rgl rfl)
            · rw [if_neg c46] at h
              refine v_aload_n dX14_utcTime_90 1 rfl rfl ?_
              refine v_iconst dX14_utcTime_91 ?_
              obtain ⟨r50, s47, e48, h⟩ := bd_some h
              have k49 := c_X14_digitsAt e48 (rgl rfl)
              have r51 : rg r50 := k49.1.2.2
              refine v_callV (st := [vO 87]) cf14 oc87 k49 (lw_V q3283 q3285 qs249 q311 q3286) rfl yk_X14_digitsAt ⟨Nat.le_of_ble_eq_true rfl, Nat.le_of_ble_eq_true rfl⟩ ⟨kc87, trivial⟩ ⟨kc87, trivial⟩ (Nat.le_of_ble_eq_true rfl) rfl dX14_utcTime_92 ?_
              refine v_goto (tgt := 99) dX14_utcTime_95 (by decide) ?_
              refine v_sub [1, 0] (L1 := [(0, vO 87), (1, vI r6)]) rfl ?_
              exact wj_X14_utcTime_99 h r7 r51
          · rw [if_neg c40] at h
            refine v_bipush dX14_utcTime_79 rfl ?_
            cases h
            exact v_iret (rgl rfl) dX14_utcTime_81

def E_X14_partTimes_9 (rv : Option vA) (σo : vS) (q : Int × vS) : Prop := ∀ (x2' : Int) (s' : vS), q = (x2', s') → rg x2' → VW cX14_partTimes (RX14, rv, σo, (some .int), 0, 0, 5, []) (P0 []) s' 48 [(2, vI x2')] []
def l_X14_partTimes_9 : Nat → Int → Int → Int → vS → Option (Int × vS)
  | 0, _, _, _, _ => none
  | n + 1, x1, x2, x3, s =>
    if x3 < 0 then
      some (x2, s)
    else
      gd (inb x3 (gN s 170)) <|
      vl (w32 ((w32 ((gE s 170 x3) * x1)) + x2)) fun y3 =>
      gd (inb x3 (gN s 170)) <|
      stp (sE s 170 x3 (m32 y3 10)) fun s7 =>
      vl (d32 y3 10) fun y9 =>
      vl (w32 (x3 + (-1))) fun y12 =>
      l_X14_partTimes_9 n x1 y9 y12 s7
theorem wl_X14_partTimes_9 {x1 : Int} {rv : Option vA} {σo : vS}  (rx1 : rg x1) : ∀ (n : Nat) (x2 : Int) (x3 : Int) (s : vS) (q : Int × vS), l_X14_partTimes_9 n x1 x2 x3 s = some q → rg x2 → rg x3 → E_X14_partTimes_9 rv σo q → VW cX14_partTimes (RX14, rv, σo, (some .int), 0, 0, 5, []) (P0 []) s 9 [(0, vO 87), (1, vI x1), (2, vI x2), (3, vI x3)] [] := by
  intro n
  induction n with
  | zero => intro x2 x3 s q h; cases h
  | succ n ih =>
    intro x2 x3 s q h rx2 rx3 hE
    unfold l_X14_partTimes_9 at h
    refine v_iload_n dX14_partTimes_9 3 rfl rfl ?_
    refine v_if_lt (tgt := 48) dX14_partTimes_10 rx3 (by decide) (fun c1 => ?_) (fun c1 => ?_)
    · rw [if_pos c1] at h
      cases h
      refine v_sub [2] (L1 := [(2, vI x2)]) rfl ?_
      exact hE _ _ rfl rx2
    · rw [if_neg c1] at h
      refine v_aload_n dX14_partTimes_13 0 rfl rfl ?_
      refine v_getS (f := 126) (t := 170) cf14 oc87 rfl rfl rfl (by decide) q2496 dX14_partTimes_14 ?_
      refine v_iload_n dX14_partTimes_17 3 rfl rfl ?_
      obtain ⟨g2, h⟩ := gd_some h
      refine v_iald oc170 rx3 g2.1 g2.2 dX14_partTimes_18 ?_
      refine v_iload_n dX14_partTimes_19 1 rfl rfl ?_
      refine v_imul dX14_partTimes_20 ?_
      refine v_iload_n dX14_partTimes_21 2 rfl rfl ?_
      refine v_iadd dX14_partTimes_22 ?_
      obtain ⟨y3, e4, h⟩ := vl_some h
      rw [← e4]
      have r5 : rg y3 := by rw [e4]; exact w32_rg _
      refine v_istore (L1 := [(4, vI y3), (0, vO 87), (1, vI x1), (2, vI x2), (3, vI x3)]) dX14_partTimes_23 (by decide) rfl ?_
      refine v_aload_n dX14_partTimes_25 1 rfl rfl ?_
      refine v_getS (f := 126) (t := 170) cf14 oc87 rfl rfl rfl (by decide) q2496 dX14_partTimes_26 ?_
      refine v_iload_n dX14_partTimes_29 4 rfl rfl ?_
      refine v_iload dX14_partTimes_30 0 rfl ?_
      refine v_bipush dX14_partTimes_32 rfl ?_
      refine v_irem dX14_partTimes_34 (rgl rfl) (by decide) ?_
      obtain ⟨g6, h⟩ := gd_some h
      obtain ⟨s7, e8, h⟩ := stp_some h
      refine v_iast oc170 rx3 g6.1 g6.2 dX14_partTimes_35 ?_
      rw [← e8]
      refine v_iload dX14_partTimes_36 0 rfl ?_
      refine v_bipush dX14_partTimes_38 rfl ?_
      refine v_idiv dX14_partTimes_40 (rgl rfl) (by decide) ?_
      obtain ⟨y9, e10, h⟩ := vl_some h
      rw [← e10]
      have r11 : rg y9 := by rw [e10]; exact d32_rg _ _
      refine v_istore_n (L1 := [(2, vI y9), (4, vI y3), (0, vO 87), (1, vI x1), (3, vI x3)]) dX14_partTimes_41 rfl (by decide) rfl ?_
      obtain ⟨y12, e13, h⟩ := vl_some h
      refine v_iinc (L1 := [(3, vI (w32 (x3 + (-1)))), (2, vI y9), (4, vI y3), (0, vO 87), (1, vI x1)]) dX14_partTimes_42 4 rfl (by decide) rfl ?_
      rw [← e13]
      have r14 : rg y12 := by rw [e13]; exact w32_rg _
      refine v_goto (tgt := 9) dX14_partTimes_45 (by decide) ?_
      refine v_sub [3, 4, 1, 0] (L1 := [(0, vO 87), (1, vI x1), (2, vI y9), (3, vI y12)]) rfl ?_
      exact ih y9 y12 s7 _ h r11 r14 hE

def f_X14_partTimes (x1 : Int) (s : vS) : Option (Int × vS) :=
  vl (w32 ((gI s 87 125) - 1)) fun y1 =>
  lq_1 (l_X14_partTimes_9 FU x1 0 y1 s) fun y4 s5 =>
  some (y4, s5)
theorem yk_X14_partTimes : yOk yX14_partTimes 1 := ⟨by decide, by decide, by decide +kernel⟩
theorem c_X14_partTimes {x1 : Int} {s : vS} {out : Int × vS} (h : f_X14_partTimes x1 s = some out)  (rx1 : rg x1) : VC yX14_partTimes cX14_partTimes 5 (some .int) 0 0 [vO 87, vI x1] s (some (vI out.1)) out.2 [] := by
  unfold f_X14_partTimes at h
  refine VC.of RX14 (by decide) rfl (Nat.le_of_ble_eq_true rfl) ?_
  show VW cX14_partTimes (RX14, (some (vI out.1)), out.2, (some .int), 0, 0, 5, []) (P0 []) s 0 [(0, vO 87), (1, vI x1)] []
  refine v_iconst dX14_partTimes_0 ?_
  refine v_istore_n (L1 := [(2, vI 0), (0, vO 87), (1, vI x1)]) dX14_partTimes_1 rfl (by decide) rfl ?_
  refine v_aload_n dX14_partTimes_2 1 rfl rfl ?_
  refine v_getI (f := 125) cf14 oc87 rfl (by decide) q2495 dX14_partTimes_3 ?_
  refine v_iconst dX14_partTimes_6 ?_
  refine v_isub dX14_partTimes_7 ?_
  obtain ⟨y1, e2, h⟩ := vl_some h
  rw [← e2]
  have r3 : rg y1 := by rw [e2]; exact w32_rg _
  refine v_istore_n (L1 := [(3, vI y1), (2, vI 0), (0, vO 87), (1, vI x1)]) dX14_partTimes_8 rfl (by decide) rfl ?_
  refine v_sub [2, 3, 1, 0] (L1 := [(0, vO 87), (1, vI x1), (2, vI 0), (3, vI y1)]) rfl ?_
  obtain ⟨y4, s5, e6, h⟩ := lq_1_some h
  refine wl_X14_partTimes_9 rx1 FU 0 y1 s _ e6 (rgl rfl) r3 ?_
  unfold E_X14_partTimes_9
  intro y4' s5' z_ r7
  cases z_
  refine v_iload_n dX14_partTimes_48 0 rfl rfl ?_
  cases h
  exact v_iret r7 dX14_partTimes_49

def E_X14_generalTime_400 (rv : Option vA) (σo : vS) (q : vS) : Prop := ∀ (s' : vS), q = s' → VW cX14_generalTime (RX14, rv, σo, (some .int), 4, 89, 6, []) (P0 []) s' 434 [(0, vO 87)] []
def l_X14_generalTime_400 : Nat → vS → Option (vS)
  | 0, _ => none
  | n + 1, s =>
    if (gI s 87 125) ≤ 0 then
      some s
    else
      gd (inb (w32 ((gI s 87 125) - 1)) (gN s 170)) <|
      if (gE s 170 (w32 ((gI s 87 125) - 1))) = 0 then
        stp (sI s 87 125 (w32 ((gI s 87 125) - 1))) fun s4 =>
        l_X14_generalTime_400 n s4
      else
        some s
theorem wl_X14_generalTime_400 {rv : Option vA} {σo : vS}  : ∀ (n : Nat) (s : vS) (q : vS), l_X14_generalTime_400 n  s = some q → E_X14_generalTime_400 rv σo q → VW cX14_generalTime (RX14, rv, σo, (some .int), 4, 89, 6, []) (P0 []) s 400 [(0, vO 87)] [] := by
  intro n
  induction n with
  | zero => intro s q h; cases h
  | succ n ih =>
    intro s q h  hE
    unfold l_X14_generalTime_400 at h
    refine v_aload_n dX14_generalTime_400 0 rfl rfl ?_
    refine v_getI (f := 125) cf14 oc87 rfl (by decide) q2495 dX14_generalTime_401 ?_
    refine v_if_le (tgt := 434) dX14_generalTime_404 (gI_rg _ _ _) (by decide) (fun c1 => ?_) (fun c1 => ?_)
    · rw [if_pos c1] at h
      cases h
      exact hE _ rfl 
    · rw [if_neg c1] at h
      refine v_aload_n dX14_generalTime_407 0 rfl rfl ?_
      refine v_getS (f := 126) (t := 170) cf14 oc87 rfl rfl rfl (by decide) q2496 dX14_generalTime_408 ?_
      refine v_aload_n dX14_generalTime_411 0 rfl rfl ?_
      refine v_getI (f := 125) cf14 oc87 rfl (by decide) q2495 dX14_generalTime_412 ?_
      refine v_iconst dX14_generalTime_415 ?_
      refine v_isub dX14_generalTime_416 ?_
      obtain ⟨g2, h⟩ := gd_some h
      refine v_iald oc170 (w32_rg _) g2.1 g2.2 dX14_generalTime_417 ?_
      refine v_if_ne (tgt := 434) dX14_generalTime_418 (gE_rg _ _ _) (by decide) (fun c3 => ?_) (fun c3 => ?_)
      · rw [if_neg c3] at h
        cases h
        exact hE _ rfl 
      · rw [if_pos c3] at h
        refine v_aload_n dX14_generalTime_421 0 rfl rfl ?_
        refine v_dupO dX14_generalTime_422 ?_
        refine v_getI (f := 125) cf14 oc87 rfl (by decide) q2495 dX14_generalTime_423 ?_
        refine v_iconst dX14_generalTime_426 ?_
        refine v_isub dX14_generalTime_427 ?_
        obtain ⟨s4, e5, h⟩ := stp_some h
        refine v_putI (f := 125) cf14 oc87 rfl (by decide) q2495 dX14_generalTime_428 rfl rfl ?_
        rw [← e5]
        refine v_goto (tgt := 400) dX14_generalTime_431 (by decide) ?_
        exact ih s4 _ h  hE

def E_X14_generalTime_468 (rv : Option vA) (σo : vS) (q : vS) : Prop := ∀ (s' : vS), q = s' → VW cX14_generalTime (RX14, rv, σo, (some .int), 4, 89, 6, []) (P0 []) s' 497 [(0, vO 87)] []
def l_X14_generalTime_468 : Nat → Int → vS → Option (vS)
  | 0, _, _ => none
  | n + 1, x5, s =>
    if (gI s 87 125) ≤ x5 then
      some s
    else
      gd (inb x5 (gN s 170)) <|
      bdv (f_X14_say (w32 (48 + (gE s 170 x5))) s) fun s3 =>
      vl (w32 (x5 + 1)) fun y6 =>
      l_X14_generalTime_468 n y6 s3
theorem wl_X14_generalTime_468 {rv : Option vA} {σo : vS}  : ∀ (n : Nat) (x5 : Int) (s : vS) (q : vS), l_X14_generalTime_468 n x5 s = some q → rg x5 → E_X14_generalTime_468 rv σo q → VW cX14_generalTime (RX14, rv, σo, (some .int), 4, 89, 6, []) (P0 []) s 468 [(0, vO 87), (5, vI x5)] [] := by
  intro n
  induction n with
  | zero => intro x5 s q h; cases h
  | succ n ih =>
    intro x5 s q h rx5 hE
    unfold l_X14_generalTime_468 at h
    refine v_iload dX14_generalTime_468 1 rfl ?_
    refine v_aload_n dX14_generalTime_470 0 rfl rfl ?_
    refine v_getI (f := 125) cf14 oc87 rfl (by decide) q2495 dX14_generalTime_471 ?_
    refine v_icmp_ge (tgt := 497) dX14_generalTime_474 rx5 (gI_rg _ _ _) (by decide) (fun c1 => ?_) (fun c1 => ?_)
    · rw [if_pos c1] at h
      cases h
      refine v_sub [0] (L1 := [(0, vO 87)]) rfl ?_
      exact hE _ rfl 
    · rw [if_neg c1] at h
      refine v_aload_n dX14_generalTime_477 0 rfl rfl ?_
      refine v_bipush dX14_generalTime_478 rfl ?_
      refine v_aload_n dX14_generalTime_480 0 rfl rfl ?_
      refine v_getS (f := 126) (t := 170) cf14 oc87 rfl rfl rfl (by decide) q2496 dX14_generalTime_481 ?_
      refine v_iload dX14_generalTime_484 1 rfl ?_
      obtain ⟨g2, h⟩ := gd_some h
      refine v_iald oc170 rx5 g2.1 g2.2 dX14_generalTime_486 ?_
      refine v_iadd dX14_generalTime_487 ?_
      obtain ⟨s3, e4, h⟩ := bdv_some h
      have k5 := c_X14_say e4 (w32_rg _)
      refine v_callV (st := []) cf14 oc87 k5 (lw_V q3207 q3209 qs230 q311 q3210) rfl yk_X14_say ⟨Nat.le_of_ble_eq_true rfl, Nat.le_of_ble_eq_true rfl⟩ trivial ⟨kc87, trivial⟩ (Nat.le_of_ble_eq_true rfl) rfl dX14_generalTime_488 ?_
      obtain ⟨y6, e7, h⟩ := vl_some h
      refine v_iinc (L1 := [(5, vI (w32 (x5 + 1))), (0, vO 87)]) dX14_generalTime_491 1 rfl (by decide) rfl ?_
      rw [← e7]
      have r8 : rg y6 := by rw [e7]; exact w32_rg _
      refine v_goto (tgt := 468) dX14_generalTime_494 (by decide) ?_
      refine v_sub [1, 0] (L1 := [(0, vO 87), (5, vI y6)]) rfl ?_
      exact ih y6 s3 _ h r8 hE

def j_X14_generalTime_434 (s : vS) : Option (Int × vS) :=
  stp (sI s 87 105 0) fun s1 =>
  bdv (f_X14_sayDigits (gI s1 87 118) 4 s1) fun s3 =>
  bdv (f_X14_sayRest s3) fun s6 =>
  if (gI s6 87 125) ≤ 0 then
    lq_0 (l_X14_generalTime_468 FU 0 s6) fun s10 =>
    bdv (f_X14_say 90 s10) fun s12 =>
    some (0, s12)
  else
    bdv (f_X14_say 46 s6) fun s15 =>
    lq_0 (l_X14_generalTime_468 FU 0 s15) fun s18 =>
    bdv (f_X14_say 90 s18) fun s20 =>
    some (0, s20)
theorem wj_X14_generalTime_434 {s : vS} {out : Int × vS} (h : j_X14_generalTime_434 s = some out)  : VW cX14_generalTime (RX14, (some (vI out.1)), out.2, (some .int), 4, 89, 6, []) (P0 []) s 434 [(0, vO 87)] [] := by
  unfold j_X14_generalTime_434 at h
  refine v_aload_n dX14_generalTime_434 0 rfl rfl ?_
  refine v_iconst dX14_generalTime_435 ?_
  obtain ⟨s1, e2, h⟩ := stp_some h
  refine v_putI (f := 105) cf14 oc87 rfl (by decide) q2475 dX14_generalTime_436 rfl rfl ?_
  rw [← e2]
  refine v_aload_n dX14_generalTime_439 0 rfl rfl ?_
  refine v_aload_n dX14_generalTime_440 0 rfl rfl ?_
  refine v_getI (f := 118) cf14 oc87 rfl (by decide) q2488 dX14_generalTime_441 ?_
  refine v_iconst dX14_generalTime_444 ?_
  obtain ⟨s3, e4, h⟩ := bdv_some h
  have k5 := c_X14_sayDigits e4 (gI_rg _ _ _) (rgl rfl)
  refine v_callV (st := []) cf14 oc87 k5 (lw_V q3307 q3309 qs254 q311 q3310) rfl yk_X14_sayDigits ⟨Nat.le_of_ble_eq_true rfl, Nat.le_of_ble_eq_true rfl⟩ trivial ⟨kc87, trivial⟩ (Nat.le_of_ble_eq_true rfl) rfl dX14_generalTime_445 ?_
  refine v_aload_n dX14_generalTime_448 0 rfl rfl ?_
  obtain ⟨s6, e7, h⟩ := bdv_some h
  have k8 := c_X14_sayRest e7
  refine v_callV (st := []) cf14 oc87 k8 (lw_V q3311 q3313 qs255 q311 q3314) rfl yk_X14_sayRest ⟨Nat.le_of_ble_eq_true rfl, Nat.le_of_ble_eq_true rfl⟩ trivial ⟨kc87, trivial⟩ (Nat.le_of_ble_eq_true rfl) rfl dX14_generalTime_449 ?_
  refine v_aload_n dX14_generalTime_452 0 rfl rfl ?_
  refine v_getI (f := 125) cf14 oc87 rfl (by decide) q2495 dX14_generalTime_453 ?_
  refine v_if_le (tgt := 465) dX14_generalTime_456 (gI_rg _ _ _) (by decide) (fun c9 => ?_) (fun c9 => ?_)
  · rw [if_pos c9] at h
    refine v_iconst dX14_generalTime_465 ?_
    refine v_istore (L1 := [(5, vI 0), (0, vO 87)]) dX14_generalTime_466 (by decide) rfl ?_
    refine v_sub [1, 0] (L1 := [(0, vO 87), (5, vI 0)]) rfl ?_
    obtain ⟨s10, e11, h⟩ := lq_0_some h
    refine wl_X14_generalTime_468  FU 0 s6 _ e11 (rgl rfl) ?_
    unfold E_X14_generalTime_468
    intro s10' z_
    cases z_
    refine v_aload_n dX14_generalTime_497 0 rfl rfl ?_
    refine v_bipush dX14_generalTime_498 rfl ?_
    obtain ⟨s12, e13, h⟩ := bdv_some h
    have k14 := c_X14_say e13 (rgl rfl)
    refine v_callV (st := []) cf14 oc87 k14 (lw_V q3207 q3209 qs230 q311 q3210) rfl yk_X14_say ⟨Nat.le_of_ble_eq_true rfl, Nat.le_of_ble_eq_true rfl⟩ trivial ⟨kc87, trivial⟩ (Nat.le_of_ble_eq_true rfl) rfl dX14_generalTime_500 ?_
    refine v_iconst dX14_generalTime_503 ?_
    cases h
    exact v_iret (rgl rfl) dX14_generalTime_504
  · rw [if_neg c9] at h
    refine v_aload_n dX14_generalTime_459 0 rfl rfl ?_
    refine v_bipush dX14_generalTime_460 rfl ?_
    obtain ⟨s15, e16, h⟩ := bdv_some h
    have k17 := c_X14_say e16 (rgl rfl)
    refine v_callV (st := []) cf14 oc87 k17 (lw_V q3207 q3209 qs230 q311 q3210) rfl yk_X14_say ⟨Nat.le_of_ble_eq_true rfl, Nat.le_of_ble_eq_true rfl⟩ trivial ⟨kc87, trivial⟩ (Nat.le_of_ble_eq_true rfl) rfl dX14_generalTime_462 ?_
    refine v_iconst dX14_generalTime_465 ?_
    refine v_istore (L1 := [(5, vI 0), (0, vO 87)]) dX14_generalTime_466 (by decide) rfl ?_
    refine v_sub [1, 0] (L1 := [(0, vO 87), (5, vI 0)]) rfl ?_
    obtain ⟨s18, e19, h⟩ := lq_0_some h
    refine wl_X14_generalTime_468  FU 0 s15 _ e19 (rgl rfl) ?_
    unfold E_X14_generalTime_468
    intro s18' z_
    cases z_
    refine v_aload_n dX14_generalTime_497 0 rfl rfl ?_
    refine v_bipush dX14_generalTime_498 rfl ?_
    obtain ⟨s20, e21, h⟩ := bdv_some h
    have k22 := c_X14_say e21 (rgl rfl)
    refine v_callV (st := []) cf14 oc87 k22 (lw_V q3207 q3209 qs230 q311 q3210) rfl yk_X14_say ⟨Nat.le_of_ble_eq_true rfl, Nat.le_of_ble_eq_true rfl⟩ trivial ⟨kc87, trivial⟩ (Nat.le_of_ble_eq_true rfl) rfl dX14_generalTime_500 ?_
    refine v_iconst dX14_generalTime_503 ?_
    cases h
    exact v_iret (rgl rfl) dX14_generalTime_504

def j_X14_generalTime_376 (x4 : Int) (s : vS) : Option (Int × vS) :=
  bdv (f_X14_move (w32 (-x4)) s) fun s1 =>
  bd (f_X14_within (gI s1 87 118) 0 9999 s1) fun r7 s4 =>
  if r7 = 0 then
    some (20, s4)
  else
    lq_0 (l_X14_generalTime_400 FU s4) fun s10 =>
    j_X14_generalTime_434 s10
theorem wj_X14_generalTime_376 {x4 : Int} {s : vS} {out : Int × vS} (h : j_X14_generalTime_376 x4 s = some out)  (rx4 : rg x4) : VW cX14_generalTime (RX14, (some (vI out.1)), out.2, (some .int), 4, 89, 6, []) (P0 []) s 376 [(0, vO 87), (4, vI x4)] [] := by
  unfold j_X14_generalTime_376 at h
  refine v_aload_n dX14_generalTime_376 0 rfl rfl ?_
  refine v_iload dX14_generalTime_377 1 rfl ?_
  refine v_ineg dX14_generalTime_379 ?_
  obtain ⟨s1, e2, h⟩ := bdv_some h
  have k3 := c_X14_move e2 (w32_rg _)
  refine v_callV (st := []) cf14 oc87 k3 (lw_V q3303 q3305 qs253 q311 q3306) rfl yk_X14_move ⟨Nat.le_of_ble_eq_true rfl, Nat.le_of_ble_eq_true rfl⟩ trivial ⟨kc87, trivial⟩ (Nat.le_of_ble_eq_true rfl) rfl dX14_generalTime_380 ?_
  refine v_aload_n dX14_generalTime_383 0 rfl rfl ?_
  refine v_getI (f := 118) cf14 oc87 rfl (by decide) q2488 dX14_generalTime_384 ?_
  refine v_iconst dX14_generalTime_387 ?_
  refine v_sipush dX14_generalTime_388 rfl ?_
  obtain ⟨r7, s4, e5, h⟩ := bd_some h
  have k6 := c_X14_within e5 (gI_rg _ _ _) (rgl rfl) (rgl rfl)
  have r8 : rg r7 := k6.1.2.2
  refine v_callS (st := []) k6 (lw_S q2878 q2879 q311 q2880) yk_X14_within ⟨Nat.le_of_ble_eq_true rfl, Nat.le_of_ble_eq_true rfl⟩ trivial ⟨kc87, trivial⟩ (Nat.le_of_ble_eq_true rfl) rfl dX14_generalTime_391 ?_
  refine v_if_ne (tgt := 400) dX14_generalTime_394 r8 (by decide) (fun c9 => ?_) (fun c9 => ?_)
  · rw [if_neg c9] at h
    refine v_sub [0] (L1 := [(0, vO 87)]) rfl ?_
    obtain ⟨s10, e11, h⟩ := lq_0_some h
    refine wl_X14_generalTime_400  FU  s4 _ e11  ?_
    unfold E_X14_generalTime_400
    intro s10' z_
    cases z_
    exact wj_X14_generalTime_434 h 
  · rw [if_pos c9] at h
    refine v_bipush dX14_generalTime_397 rfl ?_
    cases h
    exact v_iret (rgl rfl) dX14_generalTime_399

def j_X14_generalTime_362 (x2 : Int) (x4 : Int) (s : vS) : Option (Int × vS) :=
  if x2 = 0 then
    bd (f_X14_partTimes 60 s) fun r5 s2 =>
    stp (sI s2 87 123 r5) fun s7 =>
    j_X14_generalTime_376 x4 s7
  else
    j_X14_generalTime_376 x4 s
theorem wj_X14_generalTime_362 {x2 : Int} {x4 : Int} {s : vS} {out : Int × vS} (h : j_X14_generalTime_362 x2 x4 s = some out)  (rx2 : rg x2) (rx4 : rg x4) : VW cX14_generalTime (RX14, (some (vI out.1)), out.2, (some .int), 4, 89, 6, []) (P0 []) s 362 [(0, vO 87), (2, vI x2), (4, vI x4)] [] := by
  unfold j_X14_generalTime_362 at h
  refine v_iload_n dX14_generalTime_362 1 rfl rfl ?_
  refine v_if_ne (tgt := 376) dX14_generalTime_363 rx2 (by decide) (fun c1 => ?_) (fun c1 => ?_)
  · rw [if_neg c1] at h
    refine v_sub [0, 2] (L1 := [(0, vO 87), (4, vI x4)]) rfl ?_
    exact wj_X14_generalTime_376 h rx4
  · rw [if_pos c1] at h
    refine v_aload_n dX14_generalTime_366 0 rfl rfl ?_
    refine v_aload_n dX14_generalTime_367 0 rfl rfl ?_
    refine v_bipush dX14_generalTime_368 rfl ?_
    obtain ⟨r5, s2, e3, h⟩ := bd_some h
    have k4 := c_X14_partTimes e3 (rgl rfl)
    have r6 : rg r5 := k4.1.2.2
    refine v_callV (st := [vO 87]) cf14 oc87 k4 (lw_V q3319 q3321 qs257 q311 q3322) rfl yk_X14_partTimes ⟨Nat.le_of_ble_eq_true rfl, Nat.le_of_ble_eq_true rfl⟩ ⟨kc87, trivial⟩ ⟨kc87, trivial⟩ (Nat.le_of_ble_eq_true rfl) rfl dX14_generalTime_370 ?_
    obtain ⟨s7, e8, h⟩ := stp_some h
    refine v_putI (f := 123) cf14 oc87 rfl (by decide) q2493 dX14_generalTime_373 rfl rfl ?_
    rw [← e8]
    refine v_sub [0, 2] (L1 := [(0, vO 87), (4, vI x4)]) rfl ?_
    exact wj_X14_generalTime_376 h rx4

def j_X14_generalTime_321 (x1 : Int) (x2 : Int) (x3 : Int) (z0 : Int) (s : vS) : Option (Int × vS) :=
  if z0 = 100000 then
    some (18, s)
  else
    bd (f_X14_isDay s) fun r5 s2 =>
    if r5 = 0 then
      some (18, s2)
    else
      if x3 = 0 then
        if x1 = 0 then
          bd (f_X14_partTimes 60 s2) fun r13 s10 =>
          stp (sI s10 87 122 r13) fun s15 =>
          j_X14_generalTime_362 x2 z0 s15
        else
          j_X14_generalTime_362 x2 z0 s2
      else
        some (19, s2)
theorem wj_X14_generalTime_321 {x1 : Int} {x2 : Int} {x3 : Int} {z0 : Int} {s : vS} {out : Int × vS} (h : j_X14_generalTime_321 x1 x2 x3 z0 s = some out)  (rx1 : rg x1) (rx2 : rg x2) (rx3 : rg x3) (rz0 : rg z0) : VW cX14_generalTime (RX14, (some (vI out.1)), out.2, (some .int), 4, 89, 6, []) (P0 []) s 321 [(0, vO 87), (1, vI x1), (2, vI x2), (3, vI x3)] [vI z0] := by
  unfold j_X14_generalTime_321 at h
  refine v_istore (L1 := [(4, vI z0), (0, vO 87), (1, vI x1), (2, vI x2), (3, vI x3)]) dX14_generalTime_321 (by decide) rfl ?_
  refine v_iload dX14_generalTime_323 0 rfl ?_
  refine v_ldcw (n := 100000) dX14_generalTime_325 q3291 rfl ?_
  refine v_icmp_eq (tgt := 338) dX14_generalTime_328 rz0 (rgl rfl) (by decide) (fun c1 => ?_) (fun c1 => ?_)
  · rw [if_pos c1] at h
    refine v_bipush dX14_generalTime_338 rfl ?_
    cases h
    exact v_iret (rgl rfl) dX14_generalTime_340
  · rw [if_neg c1] at h
    refine v_aload_n dX14_generalTime_331 1 rfl rfl ?_
    obtain ⟨r5, s2, e3, h⟩ := bd_some h
    have k4 := c_X14_isDay e3
    have r6 : rg r5 := k4.1.2.2
    refine v_callV (st := []) cf14 oc87 k4 (lw_V q3296 q3298 qs252 q311 q3299) rfl yk_X14_isDay ⟨Nat.le_of_ble_eq_true rfl, Nat.le_of_ble_eq_true rfl⟩ trivial ⟨kc87, trivial⟩ (Nat.le_of_ble_eq_true rfl) rfl dX14_generalTime_332 ?_
    refine v_if_ne (tgt := 341) dX14_generalTime_335 r6 (by decide) (fun c7 => ?_) (fun c7 => ?_)
    · rw [if_neg c7] at h
      refine v_iload_n dX14_generalTime_341 4 rfl rfl ?_
      refine v_if_eq (tgt := 348) dX14_generalTime_342 rx3 (by decide) (fun c8 => ?_) (fun c8 => ?_)
      · rw [if_pos c8] at h
        refine v_iload_n dX14_generalTime_348 2 rfl rfl ?_
        refine v_if_ne (tgt := 362) dX14_generalTime_349 rx1 (by decide) (fun c9 => ?_) (fun c9 => ?_)
        · rw [if_neg c9] at h
          refine v_sub [1, 3, 0] (L1 := [(0, vO 87), (2, vI x2), (4, vI z0)]) rfl ?_
          exact wj_X14_generalTime_362 h rx2 rz0
        · rw [if_pos c9] at h
          refine v_aload_n dX14_generalTime_352 1 rfl rfl ?_
          refine v_aload_n dX14_generalTime_353 1 rfl rfl ?_
          refine v_bipush dX14_generalTime_354 rfl ?_
          obtain ⟨r13, s10, e11, h⟩ := bd_some h
          have k12 := c_X14_partTimes e11 (rgl rfl)
          have r14 : rg r13 := k12.1.2.2
          refine v_callV (st := [vO 87]) cf14 oc87 k12 (lw_V q3319 q3321 qs257 q311 q3322) rfl yk_X14_partTimes ⟨Nat.le_of_ble_eq_true rfl, Nat.le_of_ble_eq_true rfl⟩ ⟨kc87, trivial⟩ ⟨kc87, trivial⟩ (Nat.le_of_ble_eq_true rfl) rfl dX14_generalTime_356 ?_
          obtain ⟨s15, e16, h⟩ := stp_some h
          refine v_putI (f := 122) cf14 oc87 rfl (by decide) q2492 dX14_generalTime_359 rfl rfl ?_
          rw [← e16]
          refine v_sub [1, 3, 0] (L1 := [(0, vO 87), (2, vI x2), (4, vI z0)]) rfl ?_
          exact wj_X14_generalTime_362 h rx2 rz0
      · rw [if_neg c8] at h
        refine v_bipush dX14_generalTime_345 rfl ?_
        cases h
        exact v_iret (rgl rfl) dX14_generalTime_347
    · rw [if_pos c7] at h
      refine v_bipush dX14_generalTime_338 rfl ?_
      cases h
      exact v_iret (rgl rfl) dX14_generalTime_340

def j_X14_generalTime_307 (x1 : Int) (x2 : Int) (z0 : Int) (s : vS) : Option (Int × vS) :=
  if z0 = 0 then
    bd (f_X14_zone 1 s) fun r5 s2 =>
    j_X14_generalTime_321 x1 x2 z0 r5 s2
  else
    j_X14_generalTime_321 x1 x2 z0 0 s
theorem wj_X14_generalTime_307 {x1 : Int} {x2 : Int} {z0 : Int} {s : vS} {out : Int × vS} (h : j_X14_generalTime_307 x1 x2 z0 s = some out)  (rx1 : rg x1) (rx2 : rg x2) (rz0 : rg z0) : VW cX14_generalTime (RX14, (some (vI out.1)), out.2, (some .int), 4, 89, 6, []) (P0 []) s 307 [(0, vO 87), (1, vI x1), (2, vI x2)] [vI z0] := by
  unfold j_X14_generalTime_307 at h
  refine v_istore_n (L1 := [(3, vI z0), (0, vO 87), (1, vI x1), (2, vI x2)]) dX14_generalTime_307 rfl (by decide) rfl ?_
  refine v_iload_n dX14_generalTime_308 0 rfl rfl ?_
  refine v_if_eq (tgt := 316) dX14_generalTime_309 rz0 (by decide) (fun c1 => ?_) (fun c1 => ?_)
  · rw [if_pos c1] at h
    refine v_aload_n dX14_generalTime_316 1 rfl rfl ?_
    refine v_iconst dX14_generalTime_317 ?_
    obtain ⟨r5, s2, e3, h⟩ := bd_some h
    have k4 := c_X14_zone e3 (rgl rfl)
    have r6 : rg r5 := k4.1.2.2
    refine v_callV (st := []) cf14 oc87 k4 (lw_V q3292 q3294 qs251 q311 q3295) rfl yk_X14_zone ⟨Nat.le_of_ble_eq_true rfl, Nat.le_of_ble_eq_true rfl⟩ trivial ⟨kc87, trivial⟩ (Nat.le_of_ble_eq_true rfl) rfl dX14_generalTime_318 ?_
    refine v_sub [1, 2, 3, 0] (L1 := [(0, vO 87), (1, vI x1), (2, vI x2), (3, vI z0)]) rfl ?_
    exact wj_X14_generalTime_321 h rx1 rx2 rz0 r6
  · rw [if_neg c1] at h
    refine v_iconst dX14_generalTime_312 ?_
    refine v_goto (tgt := 321) dX14_generalTime_313 (by decide) ?_
    refine v_sub [1, 2, 3, 0] (L1 := [(0, vO 87), (1, vI x1), (2, vI x2), (3, vI z0)]) rfl ?_
    exact wj_X14_generalTime_321 h rx1 rx2 rz0 (rgl rfl)

def j_X14_generalTime_291 (x1 : Int) (x2 : Int) (s : vS) : Option (Int × vS) :=
  if (gI s 87 124) = (gI s 87 105) then
    j_X14_generalTime_307 x1 x2 1 s
  else
    j_X14_generalTime_307 x1 x2 0 s
theorem wj_X14_generalTime_291 {x1 : Int} {x2 : Int} {s : vS} {out : Int × vS} (h : j_X14_generalTime_291 x1 x2 s = some out)  (rx1 : rg x1) (rx2 : rg x2) : VW cX14_generalTime (RX14, (some (vI out.1)), out.2, (some .int), 4, 89, 6, []) (P0 []) s 291 [(0, vO 87), (1, vI x1), (2, vI x2)] [] := by
  unfold j_X14_generalTime_291 at h
  refine v_aload_n dX14_generalTime_291 0 rfl rfl ?_
  refine v_getI (f := 124) cf14 oc87 rfl (by decide) q2494 dX14_generalTime_292 ?_
  refine v_aload_n dX14_generalTime_295 0 rfl rfl ?_
  refine v_getI (f := 105) cf14 oc87 rfl (by decide) q2475 dX14_generalTime_296 ?_
  refine v_icmp_ne (tgt := 306) dX14_generalTime_299 (gI_rg _ _ _) (gI_rg _ _ _) (by decide) (fun c1 => ?_) (fun c1 => ?_)
  · rw [if_neg c1] at h
    refine v_iconst dX14_generalTime_306 ?_
    exact wj_X14_generalTime_307 h rx1 rx2 (rgl rfl)
  · rw [if_pos c1] at h
    refine v_iconst dX14_generalTime_302 ?_
    refine v_goto (tgt := 307) dX14_generalTime_303 (by decide) ?_
    exact wj_X14_generalTime_307 h rx1 rx2 (rgl rfl)

def E_X14_generalTime_240 (x1 : Int) (x2 : Int) (rv : Option vA) (σo : vS) (q : vS) : Prop := ∀ (s' : vS), q = s' → VW cX14_generalTime (RX14, rv, σo, (some .int), 4, 89, 6, []) (P0 []) s' 291 [(0, vO 87), (1, vI x1), (2, vI x2)] []
def l_X14_generalTime_240 : Nat → Int → Int → vS → Option (vS)
  | 0, _, _, _ => none
  | n + 1, x1, x2, s =>
    bd (f_X14_isNextDigit s) fun r4 s1 =>
    if r4 = 0 then
      some s1
    else
      gd (inb (gI s1 87 124) (gN s1 161)) <|
      gd (inb (gI s1 87 125) (gN s1 170)) <|
      stp (sE s1 170 (gI s1 87 125) (w32 ((gE s1 161 (gI s1 87 124)) - 48))) fun s9 =>
      stp (sI s9 87 125 (w32 ((gI s9 87 125) + 1))) fun s11 =>
      stp (sI s11 87 124 (w32 ((gI s11 87 124) + 1))) fun s13 =>
      l_X14_generalTime_240 n x1 x2 s13
theorem wl_X14_generalTime_240 {x1 : Int} {x2 : Int} {rv : Option vA} {σo : vS}  (rx1 : rg x1) (rx2 : rg x2) : ∀ (n : Nat) (s : vS) (q : vS), l_X14_generalTime_240 n x1 x2 s = some q → E_X14_generalTime_240 x1 x2 rv σo q → VW cX14_generalTime (RX14, rv, σo, (some .int), 4, 89, 6, []) (P0 []) s 240 [(0, vO 87), (1, vI x1), (2, vI x2)] [] := by
  intro n
  induction n with
  | zero => intro s q h; cases h
  | succ n ih =>
    intro s q h  hE
    unfold l_X14_generalTime_240 at h
    refine v_aload_n dX14_generalTime_240 0 rfl rfl ?_
    obtain ⟨r4, s1, e2, h⟩ := bd_some h
    have k3 := c_X14_isNextDigit e2
    have r5 : rg r4 := k3.1.2.2
    refine v_callV (st := []) cf14 oc87 k3 (lw_V q3287 q3289 qs250 q311 q3290) rfl yk_X14_isNextDigit ⟨Nat.le_of_ble_eq_true rfl, Nat.le_of_ble_eq_true rfl⟩ trivial ⟨kc87, trivial⟩ (Nat.le_of_ble_eq_true rfl) rfl dX14_generalTime_241 ?_
    refine v_if_eq (tgt := 291) dX14_generalTime_244 r5 (by decide) (fun c6 => ?_) (fun c6 => ?_)
    · rw [if_pos c6] at h
      cases h
      exact hE _ rfl 
    · rw [if_neg c6] at h
      refine v_aload_n dX14_generalTime_247 0 rfl rfl ?_
      refine v_getS (f := 126) (t := 170) cf14 oc87 rfl rfl rfl (by decide) q2496 dX14_generalTime_248 ?_
      refine v_aload_n dX14_generalTime_251 0 rfl rfl ?_
      refine v_getI (f := 125) cf14 oc87 rfl (by decide) q2495 dX14_generalTime_252 ?_
      refine v_aload_n dX14_generalTime_255 0 rfl rfl ?_
      refine v_getS (f := 106) (t := 161) cf14 oc87 rfl rfl rfl (by decide) q2476 dX14_generalTime_256 ?_
      refine v_aload_n dX14_generalTime_259 0 rfl rfl ?_
      refine v_getI (f := 124) cf14 oc87 rfl (by decide) q2494 dX14_generalTime_260 ?_
      obtain ⟨g7, h⟩ := gd_some h
      refine v_iald oc161 (gI_rg _ _ _) g7.1 g7.2 dX14_generalTime_263 ?_
      refine v_bipush dX14_generalTime_264 rfl ?_
      refine v_isub dX14_generalTime_266 ?_
      obtain ⟨g8, h⟩ := gd_some h
      obtain ⟨s9, e10, h⟩ := stp_some h
      refine v_iast oc170 (gI_rg _ _ _) g8.1 g8.2 dX14_generalTime_267 ?_
      rw [← e10]
      refine v_aload_n dX14_generalTime_268 0 rfl rfl ?_
      refine v_dupO dX14_generalTime_269 ?_
      refine v_getI (f := 125) cf14 oc87 rfl (by decide) q2495 dX14_generalTime_270 ?_
      refine v_iconst dX14_generalTime_273 ?_
      refine v_iadd dX14_generalTime_274 ?_
      obtain ⟨s11, e12, h⟩ := stp_some h
      refine v_putI (f := 125) cf14 oc87 rfl (by decide) q2495 dX14_generalTime_275 rfl rfl ?_
      rw [← e12]
      refine v_aload_n dX14_generalTime_278 0 rfl rfl ?_
      refine v_dupO dX14_generalTime_279 ?_
      refine v_getI (f := 124) cf14 oc87 rfl (by decide) q2494 dX14_generalTime_280 ?_
      refine v_iconst dX14_generalTime_283 ?_
      refine v_iadd dX14_generalTime_284 ?_
      obtain ⟨s13, e14, h⟩ := stp_some h
      refine v_putI (f := 124) cf14 oc87 rfl (by decide) q2494 dX14_generalTime_285 rfl rfl ?_
      rw [← e14]
      refine v_goto (tgt := 240) dX14_generalTime_288 (by decide) ?_
      exact ih s13 _ h  hE

def j_X14_generalTime_196 (x1 : Int) (x2 : Int) (s : vS) : Option (Int × vS) :=
  stp (sI s 87 124 (w32 ((gI s 87 124) + 1))) fun s1 =>
  bd (f_X14_isNextDigit s1) fun r6 s3 =>
  if r6 = 0 then
    some (18, s3)
  else
    if (gI s3 87 105) ≤ (w32 (gN s3 170 : Int)) then
      lq_0 (l_X14_generalTime_240 FU x1 x2 s3) fun s10 =>
      j_X14_generalTime_291 x1 x2 s10
    else
      gd (naG (w32 (2 * (gI s3 87 105)))) <|
      stp (sA s3 199 (Int.toNat (w32 (2 * (gI s3 87 105))), fun _ => 0)) fun s13 =>
      gd (2 * gN s13 170 ≤ gN s13 199 ∧ 2 ≤ gN s13 199) <|
      stp (sw2 s13 170 199) fun s16 =>
      stp (rs s16) fun s18 =>
      lq_0 (l_X14_generalTime_240 FU x1 x2 s18) fun s20 =>
      j_X14_generalTime_291 x1 x2 s20
theorem wj_X14_generalTime_196 {x1 : Int} {x2 : Int} {s : vS} {out : Int × vS} (h : j_X14_generalTime_196 x1 x2 s = some out)  (rx1 : rg x1) (rx2 : rg x2) : VW cX14_generalTime (RX14, (some (vI out.1)), out.2, (some .int), 4, 89, 6, []) (P0 []) s 196 [(0, vO 87), (1, vI x1), (2, vI x2)] [] := by
  unfold j_X14_generalTime_196 at h
  refine v_aload_n dX14_generalTime_196 0 rfl rfl ?_
  refine v_dupO dX14_generalTime_197 ?_
  refine v_getI (f := 124) cf14 oc87 rfl (by decide) q2494 dX14_generalTime_198 ?_
  refine v_iconst dX14_generalTime_201 ?_
  refine v_iadd dX14_generalTime_202 ?_
  obtain ⟨s1, e2, h⟩ := stp_some h
  refine v_putI (f := 124) cf14 oc87 rfl (by decide) q2494 dX14_generalTime_203 rfl rfl ?_
  rw [← e2]
  refine v_aload_n dX14_generalTime_206 0 rfl rfl ?_
  obtain ⟨r6, s3, e4, h⟩ := bd_some h
  have k5 := c_X14_isNextDigit e4
  have r7 : rg r6 := k5.1.2.2
  refine v_callV (st := []) cf14 oc87 k5 (lw_V q3287 q3289 qs250 q311 q3290) rfl yk_X14_isNextDigit ⟨Nat.le_of_ble_eq_true rfl, Nat.le_of_ble_eq_true rfl⟩ trivial ⟨kc87, trivial⟩ (Nat.le_of_ble_eq_true rfl) rfl dX14_generalTime_207 ?_
  refine v_if_ne (tgt := 216) dX14_generalTime_210 r7 (by decide) (fun c8 => ?_) (fun c8 => ?_)
  · rw [if_neg c8] at h
    refine v_aload_n dX14_generalTime_216 0 rfl rfl ?_
    refine v_getS (f := 126) (t := 170) cf14 oc87 rfl rfl rfl (by decide) q2496 dX14_generalTime_217 ?_
    refine v_alen24 oc170 dX14_generalTime_220 ?_
    refine v_aload_n dX14_generalTime_221 0 rfl rfl ?_
    refine v_getI (f := 105) cf14 oc87 rfl (by decide) q2475 dX14_generalTime_222 ?_
    refine v_icmp_ge (tgt := 240) dX14_generalTime_225 (w32_rg _) (gI_rg _ _ _) (by decide) (fun c9 => ?_) (fun c9 => ?_)
    · rw [if_pos c9] at h
      obtain ⟨s10, e11, h⟩ := lq_0_some h
      refine wl_X14_generalTime_240 rx1 rx2 FU  s3 _ e11  ?_
      unfold E_X14_generalTime_240
      intro s10' z_
      cases z_
      exact wj_X14_generalTime_291 h rx1 rx2
    · rw [if_neg c9] at h
      refine v_aload_n dX14_generalTime_228 0 rfl rfl ?_
      refine v_iconst dX14_generalTime_229 ?_
      refine v_aload_n dX14_generalTime_230 0 rfl rfl ?_
      refine v_getI (f := 105) cf14 oc87 rfl (by decide) q2475 dX14_generalTime_231 ?_
      refine v_imul dX14_generalTime_234 ?_
      obtain ⟨g12, h⟩ := gd_some h
      obtain ⟨s13, e14, h⟩ := stp_some h
      refine v_na24 (K := 199) (tk1 := [(24, 1)]) rfl rfl (by decide) (w32_rg _) g12 ⟨(by decide), trivial⟩ ⟨(by decide), trivial⟩ q459 dX14_generalTime_235 ?_
      rw [← e14]
      obtain ⟨g15, h⟩ := gd_some h
      obtain ⟨s16, e17, h⟩ := stp_some h
      refine v_pa (i := 0) (K := 199) (t0 := 170) (f := 126) (tk1 := [(24, 0)]) (L1 := [(0, vO 87), (1, vI x1), (2, vI x2)]) (st1 := []) rfl rfl (by decide) cf14 (⟨by decide, rfl⟩ : okB 87 13) rfl (by decide) rfl rfl (by decide) rfl g15 q2496 dX14_generalTime_237 rfl rfl rfl rfl ?_
      rw [← e17]
      obtain ⟨s18, e19, h⟩ := stp_some h
      refine v_dr (by decide) (by decide) ⟨(by decide), trivial⟩ trivial ?_
      rw [← e19]
      obtain ⟨s20, e21, h⟩ := lq_0_some h
      refine wl_X14_generalTime_240 rx1 rx2 FU  s18 _ e21  ?_
      unfold E_X14_generalTime_240
      intro s20' z_
      cases z_
      exact wj_X14_generalTime_291 h rx1 rx2
  · rw [if_pos c8] at h
    refine v_bipush dX14_generalTime_213 rfl ?_
    cases h
    exact v_iret (rgl rfl) dX14_generalTime_215

def j_X14_generalTime_132 (x1 : Int) (x2 : Int) (z1 : Int) (s : vS) : Option (Int × vS) :=
  stp (sI s 87 123 z1) fun s1 =>
  if (gI s1 87 122) < 0 then
    some (18, s1)
  else
    if 0 ≤ (gI s1 87 123) then
      stp (sI s1 87 125 0) fun s5 =>
      if (gI s5 87 105) ≤ (gI s5 87 124) then
        j_X14_generalTime_291 x1 x2 s5
      else
        gd (inb (gI s5 87 124) (gN s5 161)) <|
        if (gE s5 161 (gI s5 87 124)) = 46 then
          j_X14_generalTime_196 x1 x2 s5
        else
          gd (inb (gI s5 87 124) (gN s5 161)) <|
          if (gE s5 161 (gI s5 87 124)) = 44 then
            j_X14_generalTime_196 x1 x2 s5
          else
            j_X14_generalTime_291 x1 x2 s5
    else
      some (18, s1)
theorem wj_X14_generalTime_132 {x1 : Int} {x2 : Int} {z1 : Int} {s : vS} {out : Int × vS} (h : j_X14_generalTime_132 x1 x2 z1 s = some out)  (rx1 : rg x1) (rx2 : rg x2) (rz1 : rg z1) : VW cX14_generalTime (RX14, (some (vI out.1)), out.2, (some .int), 4, 89, 6, []) (P0 []) s 132 [(0, vO 87), (1, vI x1), (2, vI x2)] [vI z1, vO 87] := by
  unfold j_X14_generalTime_132 at h
  obtain ⟨s1, e2, h⟩ := stp_some h
  refine v_putI (f := 123) cf14 oc87 rfl (by decide) q2493 dX14_generalTime_132 rfl rfl ?_
  rw [← e2]
  refine v_aload_n dX14_generalTime_135 0 rfl rfl ?_
  refine v_getI (f := 122) cf14 oc87 rfl (by decide) q2492 dX14_generalTime_136 ?_
  refine v_if_lt (tgt := 149) dX14_generalTime_139 (gI_rg _ _ _) (by decide) (fun c3 => ?_) (fun c3 => ?_)
  · rw [if_pos c3] at h
    refine v_bipush dX14_generalTime_149 rfl ?_
    cases h
    exact v_iret (rgl rfl) dX14_generalTime_151
  · rw [if_neg c3] at h
    refine v_aload_n dX14_generalTime_142 0 rfl rfl ?_
    refine v_getI (f := 123) cf14 oc87 rfl (by decide) q2493 dX14_generalTime_143 ?_
    refine v_if_ge (tgt := 152) dX14_generalTime_146 (gI_rg _ _ _) (by decide) (fun c4 => ?_) (fun c4 => ?_)
    · rw [if_pos c4] at h
      refine v_aload_n dX14_generalTime_152 0 rfl rfl ?_
      refine v_iconst dX14_generalTime_153 ?_
      obtain ⟨s5, e6, h⟩ := stp_some h
      refine v_putI (f := 125) cf14 oc87 rfl (by decide) q2495 dX14_generalTime_154 rfl rfl ?_
      rw [← e6]
      refine v_aload_n dX14_generalTime_157 0 rfl rfl ?_
      refine v_getI (f := 124) cf14 oc87 rfl (by decide) q2494 dX14_generalTime_158 ?_
      refine v_aload_n dX14_generalTime_161 0 rfl rfl ?_
      refine v_getI (f := 105) cf14 oc87 rfl (by decide) q2475 dX14_generalTime_162 ?_
      refine v_icmp_ge (tgt := 291) dX14_generalTime_165 (gI_rg _ _ _) (gI_rg _ _ _) (by decide) (fun c7 => ?_) (fun c7 => ?_)
      · rw [if_pos c7] at h
        exact wj_X14_generalTime_291 h rx1 rx2
      · rw [if_neg c7] at h
        refine v_aload_n dX14_generalTime_168 0 rfl rfl ?_
        refine v_getS (f := 106) (t := 161) cf14 oc87 rfl rfl rfl (by decide) q2476 dX14_generalTime_169 ?_
        refine v_aload_n dX14_generalTime_172 0 rfl rfl ?_
        refine v_getI (f := 124) cf14 oc87 rfl (by decide) q2494 dX14_generalTime_173 ?_
        obtain ⟨g8, h⟩ := gd_some h
        refine v_iald oc161 (gI_rg _ _ _) g8.1 g8.2 dX14_generalTime_176 ?_
        refine v_bipush dX14_generalTime_177 rfl ?_
        refine v_icmp_eq (tgt := 196) dX14_generalTime_179 (gE_rg _ _ _) (rgl rfl) (by decide) (fun c9 => ?_) (fun c9 => ?_)
        · rw [if_pos c9] at h
          exact wj_X14_generalTime_196 h rx1 rx2
        · rw [if_neg c9] at h
          refine v_aload_n dX14_generalTime_182 0 rfl rfl ?_
          refine v_getS (f := 106) (t := 161) cf14 oc87 rfl rfl rfl (by decide) q2476 dX14_generalTime_183 ?_
          refine v_aload_n dX14_generalTime_186 0 rfl rfl ?_
          refine v_getI (f := 124) cf14 oc87 rfl (by decide) q2494 dX14_generalTime_187 ?_
          obtain ⟨g10, h⟩ := gd_some h
          refine v_iald oc161 (gI_rg _ _ _) g10.1 g10.2 dX14_generalTime_190 ?_
          refine v_bipush dX14_generalTime_191 rfl ?_
          refine v_icmp_ne (tgt := 291) dX14_generalTime_193 (gE_rg _ _ _) (rgl rfl) (by decide) (fun c11 => ?_) (fun c11 => ?_)
          · rw [if_neg c11] at h
            exact wj_X14_generalTime_291 h rx1 rx2
          · rw [if_pos c11] at h
            exact wj_X14_generalTime_196 h rx1 rx2
    · rw [if_neg c4] at h
      refine v_bipush dX14_generalTime_149 rfl ?_
      cases h
      exact v_iret (rgl rfl) dX14_generalTime_151

def j_X14_generalTime_117 (x1 : Int) (z0 : Int) (s : vS) : Option (Int × vS) :=
  if z0 = 0 then
    j_X14_generalTime_132 x1 z0 0 s
  else
    bd (f_X14_digitsAt 2 s) fun r5 s2 =>
    j_X14_generalTime_132 x1 z0 r5 s2
theorem wj_X14_generalTime_117 {x1 : Int} {z0 : Int} {s : vS} {out : Int × vS} (h : j_X14_generalTime_117 x1 z0 s = some out)  (rx1 : rg x1) (rz0 : rg z0) : VW cX14_generalTime (RX14, (some (vI out.1)), out.2, (some .int), 4, 89, 6, []) (P0 []) s 117 [(0, vO 87), (1, vI x1)] [vI z0] := by
  unfold j_X14_generalTime_117 at h
  refine v_istore_n (L1 := [(2, vI z0), (0, vO 87), (1, vI x1)]) dX14_generalTime_117 rfl (by decide) rfl ?_
  refine v_aload_n dX14_generalTime_118 1 rfl rfl ?_
  refine v_iload_n dX14_generalTime_119 0 rfl rfl ?_
  refine v_if_eq (tgt := 131) dX14_generalTime_120 rz0 (by decide) (fun c1 => ?_) (fun c1 => ?_)
  · rw [if_pos c1] at h
    refine v_iconst dX14_generalTime_131 ?_
    refine v_sub [1, 2, 0] (L1 := [(0, vO 87), (1, vI x1), (2, vI z0)]) rfl ?_
    exact wj_X14_generalTime_132 h rx1 rz0 (rgl rfl)
  · rw [if_neg c1] at h
    refine v_aload_n dX14_generalTime_123 1 rfl rfl ?_
    refine v_iconst dX14_generalTime_124 ?_
    obtain ⟨r5, s2, e3, h⟩ := bd_some h
    have k4 := c_X14_digitsAt e3 (rgl rfl)
    have r6 : rg r5 := k4.1.2.2
    refine v_callV (st := [vO 87]) cf14 oc87 k4 (lw_V q3283 q3285 qs249 q311 q3286) rfl yk_X14_digitsAt ⟨Nat.le_of_ble_eq_true rfl, Nat.le_of_ble_eq_true rfl⟩ ⟨kc87, trivial⟩ ⟨kc87, trivial⟩ (Nat.le_of_ble_eq_true rfl) rfl dX14_generalTime_125 ?_
    refine v_goto (tgt := 132) dX14_generalTime_128 (by decide) ?_
    refine v_sub [1, 2, 0] (L1 := [(0, vO 87), (1, vI x1), (2, vI z0)]) rfl ?_
    exact wj_X14_generalTime_132 h rx1 rz0 r6

def j_X14_generalTime_91 (x1 : Int) (z1 : Int) (s : vS) : Option (Int × vS) :=
  stp (sI s 87 122 z1) fun s1 =>
  if x1 = 0 then
    j_X14_generalTime_117 x1 0 s1
  else
    if (gI s1 87 122) < 0 then
      j_X14_generalTime_117 x1 0 s1
    else
      bd (f_X14_isNextDigit s1) fun r8 s5 =>
      if r8 = 0 then
        j_X14_generalTime_117 x1 0 s5
      else
        j_X14_generalTime_117 x1 1 s5
theorem wj_X14_generalTime_91 {x1 : Int} {z1 : Int} {s : vS} {out : Int × vS} (h : j_X14_generalTime_91 x1 z1 s = some out)  (rx1 : rg x1) (rz1 : rg z1) : VW cX14_generalTime (RX14, (some (vI out.1)), out.2, (some .int), 4, 89, 6, []) (P0 []) s 91 [(0, vO 87), (1, vI x1)] [vI z1, vO 87] := by
  unfold j_X14_generalTime_91 at h
  obtain ⟨s1, e2, h⟩ := stp_some h
  refine v_putI (f := 122) cf14 oc87 rfl (by decide) q2492 dX14_generalTime_91 rfl rfl ?_
  rw [← e2]
  refine v_iload_n dX14_generalTime_94 1 rfl rfl ?_
  refine v_if_eq (tgt := 116) dX14_generalTime_95 rx1 (by decide) (fun c3 => ?_) (fun c3 => ?_)
  · rw [if_pos c3] at h
    refine v_iconst dX14_generalTime_116 ?_
    exact wj_X14_generalTime_117 h rx1 (rgl rfl)
  · rw [if_neg c3] at h
    refine v_aload_n dX14_generalTime_98 0 rfl rfl ?_
    refine v_getI (f := 122) cf14 oc87 rfl (by decide) q2492 dX14_generalTime_99 ?_
    refine v_if_lt (tgt := 116) dX14_generalTime_102 (gI_rg _ _ _) (by decide) (fun c4 => ?_) (fun c4 => ?_)
    · rw [if_pos c4] at h
      refine v_iconst dX14_generalTime_116 ?_
      exact wj_X14_generalTime_117 h rx1 (rgl rfl)
    · rw [if_neg c4] at h
      refine v_aload_n dX14_generalTime_105 0 rfl rfl ?_
      obtain ⟨r8, s5, e6, h⟩ := bd_some h
      have k7 := c_X14_isNextDigit e6
      have r9 : rg r8 := k7.1.2.2
      refine v_callV (st := []) cf14 oc87 k7 (lw_V q3287 q3289 qs250 q311 q3290) rfl yk_X14_isNextDigit ⟨Nat.le_of_ble_eq_true rfl, Nat.le_of_ble_eq_true rfl⟩ trivial ⟨kc87, trivial⟩ (Nat.le_of_ble_eq_true rfl) rfl dX14_generalTime_106 ?_
      refine v_if_eq (tgt := 116) dX14_generalTime_109 r9 (by decide) (fun c10 => ?_) (fun c10 => ?_)
      · rw [if_pos c10] at h
        refine v_iconst dX14_generalTime_116 ?_
        exact wj_X14_generalTime_117 h rx1 (rgl rfl)
      · rw [if_neg c10] at h
        refine v_iconst dX14_generalTime_112 ?_
        refine v_goto (tgt := 117) dX14_generalTime_113 (by decide) ?_
        exact wj_X14_generalTime_117 h rx1 (rgl rfl)

def f_X14_generalTime (s : vS) : Option (Int × vS) :=
  stp (sI s 87 124 0) fun s1 =>
  bd (f_X14_digitsAt 4 s1) fun r6 s3 =>
  stp (sI s3 87 118 r6) fun s8 =>
  bd (f_X14_digitsAt 2 s8) fun r13 s10 =>
  stp (sI s10 87 119 r13) fun s15 =>
  bd (f_X14_digitsAt 2 s15) fun r20 s17 =>
  stp (sI s17 87 120 r20) fun s22 =>
  bd (f_X14_digitsAt 2 s22) fun r27 s24 =>
  stp (sI s24 87 121 r27) fun s29 =>
  if (gI s29 87 118) < 0 then
    some (18, s29)
  else
    if (gI s29 87 119) < 0 then
      some (18, s29)
    else
      if (gI s29 87 120) < 0 then
        some (18, s29)
      else
        if 0 ≤ (gI s29 87 121) then
          bd (f_X14_isNextDigit s29) fun r38 s35 =>
          if r38 = 0 then
            j_X14_generalTime_91 r38 0 s35
          else
            bd (f_X14_digitsAt 2 s35) fun r44 s41 =>
            j_X14_generalTime_91 r38 r44 s41
        else
          some (18, s29)
theorem yk_X14_generalTime : yOk yX14_generalTime 0 := ⟨by decide, by decide, by decide +kernel⟩
theorem c_X14_generalTime {s : vS} {out : Int × vS} (h : f_X14_generalTime s = some out)   : VC yX14_generalTime cX14_generalTime 6 (some .int) 4 89 [vO 87] s (some (vI out.1)) out.2 [] := by
  unfold f_X14_generalTime at h
  refine VC.of RX14 (by decide) rfl (Nat.le_of_ble_eq_true rfl) ?_
  show VW cX14_generalTime (RX14, (some (vI out.1)), out.2, (some .int), 4, 89, 6, []) (P0 []) s 0 [(0, vO 87)] []
  refine v_aload_n dX14_generalTime_0 0 rfl rfl ?_
  refine v_iconst dX14_generalTime_1 ?_
  obtain ⟨s1, e2, h⟩ := stp_some h
  refine v_putI (f := 124) cf14 oc87 rfl (by decide) q2494 dX14_generalTime_2 rfl rfl ?_
  rw [← e2]
  refine v_aload_n dX14_generalTime_5 0 rfl rfl ?_
  refine v_aload_n dX14_generalTime_6 0 rfl rfl ?_
  refine v_iconst dX14_generalTime_7 ?_
  obtain ⟨r6, s3, e4, h⟩ := bd_some h
  have k5 := c_X14_digitsAt e4 (rgl rfl)
  have r7 : rg r6 := k5.1.2.2
  refine v_callV (st := [vO 87]) cf14 oc87 k5 (lw_V q3283 q3285 qs249 q311 q3286) rfl yk_X14_digitsAt ⟨Nat.le_of_ble_eq_true rfl, Nat.le_of_ble_eq_true rfl⟩ ⟨kc87, trivial⟩ ⟨kc87, trivial⟩ (Nat.le_of_ble_eq_true rfl) rfl dX14_generalTime_8 ?_
  obtain ⟨s8, e9, h⟩ := stp_some h
  refine v_putI (f := 118) cf14 oc87 rfl (by decide) q2488 dX14_generalTime_11 rfl rfl ?_
  rw [← e9]
  refine v_aload_n dX14_generalTime_14 0 rfl rfl ?_
  refine v_aload_n dX14_generalTime_15 0 rfl rfl ?_
  refine v_iconst dX14_generalTime_16 ?_
  obtain ⟨r13, s10, e11, h⟩ := bd_some h
  have k12 := c_X14_digitsAt e11 (rgl rfl)
  have r14 : rg r13 := k12.1.2.2
  refine v_callV (st := [vO 87]) cf14 oc87 k12 (lw_V q3283 q3285 qs249 q311 q3286) rfl yk_X14_digitsAt ⟨Nat.le_of_ble_eq_true rfl, Nat.le_of_ble_eq_true rfl⟩ ⟨kc87, trivial⟩ ⟨kc87, trivial⟩ (Nat.le_of_ble_eq_true rfl) rfl dX14_generalTime_17 ?_
  obtain ⟨s15, e16, h⟩ := stp_some h
  refine v_putI (f := 119) cf14 oc87 rfl (by decide) q2489 dX14_generalTime_20 rfl rfl ?_
  rw [← e16]
  refine v_aload_n dX14_generalTime_23 0 rfl rfl ?_
  refine v_aload_n dX14_generalTime_24 0 rfl rfl ?_
  refine v_iconst dX14_generalTime_25 ?_
  obtain ⟨r20, s17, e18, h⟩ := bd_some h
  have k19 := c_X14_digitsAt e18 (rgl rfl)
  have r21 : rg r20 := k19.1.2.2
  refine v_callV (st := [vO 87]) cf14 oc87 k19 (lw_V q3283 q3285 qs249 q311 q3286) rfl yk_X14_digitsAt ⟨Nat.le_of_ble_eq_true rfl, Nat.le_of_ble_eq_true rfl⟩ ⟨kc87, trivial⟩ ⟨kc87, trivial⟩ (Nat.le_of_ble_eq_true rfl) rfl dX14_generalTime_26 ?_
  obtain ⟨s22, e23, h⟩ := stp_some h
  refine v_putI (f := 120) cf14 oc87 rfl (by decide) q2490 dX14_generalTime_29 rfl rfl ?_
  rw [← e23]
  refine v_aload_n dX14_generalTime_32 0 rfl rfl ?_
  refine v_aload_n dX14_generalTime_33 0 rfl rfl ?_
  refine v_iconst dX14_generalTime_34 ?_
  obtain ⟨r27, s24, e25, h⟩ := bd_some h
  have k26 := c_X14_digitsAt e25 (rgl rfl)
  have r28 : rg r27 := k26.1.2.2
  refine v_callV (st := [vO 87]) cf14 oc87 k26 (lw_V q3283 q3285 qs249 q311 q3286) rfl yk_X14_digitsAt ⟨Nat.le_of_ble_eq_true rfl, Nat.le_of_ble_eq_true rfl⟩ ⟨kc87, trivial⟩ ⟨kc87, trivial⟩ (Nat.le_of_ble_eq_true rfl) rfl dX14_generalTime_35 ?_
  obtain ⟨s29, e30, h⟩ := stp_some h
  refine v_putI (f := 121) cf14 oc87 rfl (by decide) q2491 dX14_generalTime_38 rfl rfl ?_
  rw [← e30]
  refine v_aload_n dX14_generalTime_41 0 rfl rfl ?_
  refine v_getI (f := 118) cf14 oc87 rfl (by decide) q2488 dX14_generalTime_42 ?_
  refine v_if_lt (tgt := 69) dX14_generalTime_45 (gI_rg _ _ _) (by decide) (fun c31 => ?_) (fun c31 => ?_)
  · rw [if_pos c31] at h
    refine v_bipush dX14_generalTime_69 rfl ?_
    cases h
    exact v_iret (rgl rfl) dX14_generalTime_71
  · rw [if_neg c31] at h
    refine v_aload_n dX14_generalTime_48 0 rfl rfl ?_
    refine v_getI (f := 119) cf14 oc87 rfl (by decide) q2489 dX14_generalTime_49 ?_
    refine v_if_lt (tgt := 69) dX14_generalTime_52 (gI_rg _ _ _) (by decide) (fun c32 => ?_) (fun c32 => ?_)
    · rw [if_pos c32] at h
      refine v_bipush dX14_generalTime_69 rfl ?_
      cases h
      exact v_iret (rgl rfl) dX14_generalTime_71
    · rw [if_neg c32] at h
      refine v_aload_n dX14_generalTime_55 0 rfl rfl ?_
      refine v_getI (f := 120) cf14 oc87 rfl (by decide) q2490 dX14_generalTime_56 ?_
      refine v_if_lt (tgt := 69) dX14_generalTime_59 (gI_rg _ _ _) (by decide) (fun c33 => ?_) (fun c33 => ?_)
      · rw [if_pos c33] at h
        refine v_bipush dX14_generalTime_69 rfl ?_
        cases h
        exact v_iret (rgl rfl) dX14_generalTime_71
      · rw [if_neg c33] at h
        refine v_aload_n dX14_generalTime_62 0 rfl rfl ?_
        refine v_getI (f := 121) cf14 oc87 rfl (by decide) q2491 dX14_generalTime_63 ?_
        refine v_if_ge (tgt := 72) dX14_generalTime_66 (gI_rg _ _ _) (by decide) (fun c34 => ?_) (fun c34 => ?_)
        · rw [if_pos c34] at h
          refine v_aload_n dX14_generalTime_72 0 rfl rfl ?_
          obtain ⟨r38, s35, e36, h⟩ := bd_some h
          have k37 := c_X14_isNextDigit e36
          have r39 : rg r38 := k37.1.2.2
          refine v_callV (st := []) cf14 oc87 k37 (lw_V q3287 q3289 qs250 q311 q3290) rfl yk_X14_isNextDigit ⟨Nat.le_of_ble_eq_true rfl, Nat.le_of_ble_eq_true rfl⟩ trivial ⟨kc87, trivial⟩ (Nat.le_of_ble_eq_true rfl) rfl dX14_generalTime_73 ?_
          refine v_istore_n (L1 := [(1, vI r38), (0, vO 87)]) dX14_generalTime_76 rfl (by decide) rfl ?_
          refine v_aload_n dX14_generalTime_77 1 rfl rfl ?_
          refine v_iload_n dX14_generalTime_78 0 rfl rfl ?_
          refine v_if_eq (tgt := 90) dX14_generalTime_79 r39 (by decide) (fun c40 => ?_) (fun c40 => ?_)
          · rw [if_pos c40] at h
            refine v_iconst dX14_generalTime_90 ?_
            refine v_sub [1, 0] (L1 := [(0, vO 87), (1, vI r38)]) rfl ?_
            exact wj_X14_generalTime_91 h r39 (rgl rfl)
          · rw [if_neg c40] at h
            refine v_aload_n dX14_generalTime_82 1 rfl rfl ?_
            refine v_iconst dX14_generalTime_83 ?_
            obtain ⟨r44, s41, e42, h⟩ := bd_some h
            have k43 := c_X14_digitsAt e42 (rgl rfl)
            have r45 : rg r44 := k43.1.2.2
            refine v_callV (st := [vO 87]) cf14 oc87 k43 (lw_V q3283 q3285 qs249 q311 q3286) rfl yk_X14_digitsAt ⟨Nat.le_of_ble_eq_true rfl, Nat.le_of_ble_eq_true rfl⟩ ⟨kc87, trivial⟩ ⟨kc87, trivial⟩ (Nat.le_of_ble_eq_true rfl) rfl dX14_generalTime_84 ?_
            refine v_goto (tgt := 91) dX14_generalTime_87 (by decide) ?_
            refine v_sub [1, 0] (L1 := [(0, vO 87), (1, vI r38)]) rfl ?_
            exact wj_X14_generalTime_91 h r39 r45
        · rw [if_neg c34] at h
          refine v_bipush dX14_generalTime_69 rfl ?_
          cases h
          exact v_iret (rgl rfl) dX14_generalTime_71
