set_option maxRecDepth 100000
set_option maxHeartbeats 1000000
def E_X14_bitsOfText_14 (rv : Option vA) (σo : vS) (q : vS) : Prop := ∀ (s' : vS), q = s' → VW cX14_bitsOfText (RX14, rv, σo, none, 2, 44, 5, []) (P0 []) s' 115 [] []
def E_X14_bitsOfText_71 (x1 : Int) (x2 : Int) (rv : Option vA) (σo : vS) (q : vS) : Prop := ∀ (s' : vS), q = s' → VW cX14_bitsOfText (RX14, rv, σo, none, 2, 44, 5, []) (P0 []) s' 109 [(0, vO 87), (1, vI x1), (2, vI x2)] []
def j_X14_bitsOfText_95 (rec : Int → Int → Int → Int → vS → Option (vS)) (x1 : Int) (x2 : Int) (x3 : Int) (x4 : Int) (z1 : Int) (s : vS) : Option (vS) :=
  bdv (f_X14_sayBit (and32 (shr32 z1 x4) 1) s) fun s1 =>
  vl (w32 (x4 + (-1))) fun y4 =>
  rec x1 x2 x3 y4 s1
theorem wj_X14_bitsOfText_95 {x1 : Int} {x2 : Int} {x3 : Int} {x4 : Int} {z1 : Int} {s : vS} {rv : Option vA} {σo : vS} {rec : Int → Int → Int → Int → vS → Option (vS)} {q : vS} (h : j_X14_bitsOfText_95 rec x1 x2 x3 x4 z1 s = some q)  (rx1 : rg x1) (rx2 : rg x2) (rx3 : rg x3) (rx4 : rg x4) (rz1 : rg z1) (hrec : ∀ (y4 : Int) (s : vS) (q : vS), rec x1 x2 x3 y4 s = some q → rg y4 → E_X14_bitsOfText_71 x1 x2 rv σo q → VW cX14_bitsOfText (RX14, rv, σo, none, 2, 44, 5, []) (P0 []) s 71 [(0, vO 87), (1, vI x1), (2, vI x2), (3, vI x3), (4, vI y4)] []) (hE : E_X14_bitsOfText_71 x1 x2 rv σo q) : VW cX14_bitsOfText (RX14, rv, σo, none, 2, 44, 5, []) (P0 []) s 95 [(0, vO 87), (1, vI x1), (2, vI x2), (3, vI x3), (4, vI x4)] [vI z1, vO 87] := by
  unfold j_X14_bitsOfText_95 at h
  refine v_iload dX14_bitsOfText_95 4 rfl ?_
  refine v_ishr dX14_bitsOfText_97 ?_
  refine v_iconst dX14_bitsOfText_98 ?_
  refine v_iand dX14_bitsOfText_99 ?_
  obtain ⟨s1, e2, h⟩ := bdv_some h
  have k3 := c_X14_sayBit e2 (and32_rg _ _)
  refine v_callV (st := []) cf14 oc87 k3 (lw_V q3227 q3229 qs235 q311 q3230) rfl yk_X14_sayBit ⟨Nat.le_of_ble_eq_true rfl, Nat.le_of_ble_eq_true rfl⟩ trivial ⟨kc87, trivial⟩ (Nat.le_of_ble_eq_true rfl) rfl dX14_bitsOfText_100 ?_
  obtain ⟨y4, e5, h⟩ := vl_some h
  refine v_iinc (L1 := [(4, vI (w32 (x4 + (-1)))), (0, vO 87), (1, vI x1), (2, vI x2), (3, vI x3)]) dX14_bitsOfText_103 4 rfl (by decide) rfl ?_
  rw [← e5]
  have r6 : rg y4 := by rw [e5]; exact w32_rg _
  refine v_goto (tgt := 71) dX14_bitsOfText_106 (by decide) ?_
  refine v_sub [1, 2, 3, 4, 0] (L1 := [(0, vO 87), (1, vI x1), (2, vI x2), (3, vI x3), (4, vI y4)]) rfl ?_
  exact hrec y4 s1 _ h r6 hE

def l_X14_bitsOfText_71 : Nat → Int → Int → Int → Int → vS → Option (vS)
  | 0, _, _, _, _, _ => none
  | n + 1, x1, x2, x3, x4, s =>
    if x4 < 0 then
      some s
    else
      bd (f_X14_isDigit x3 s) fun r5 s2 =>
      if r5 = 0 then
        j_X14_bitsOfText_95 (l_X14_bitsOfText_71 n) x1 x2 x3 x4 (w32 (x3 - 55)) s2
      else
        j_X14_bitsOfText_95 (l_X14_bitsOfText_71 n) x1 x2 x3 x4 (w32 (x3 - 48)) s2
theorem wl_X14_bitsOfText_71 {x1 : Int} {x2 : Int} {x3 : Int} {rv : Option vA} {σo : vS}  (rx1 : rg x1) (rx2 : rg x2) (rx3 : rg x3) : ∀ (n : Nat) (x4 : Int) (s : vS) (q : vS), l_X14_bitsOfText_71 n x1 x2 x3 x4 s = some q → rg x4 → E_X14_bitsOfText_71 x1 x2 rv σo q → VW cX14_bitsOfText (RX14, rv, σo, none, 2, 44, 5, []) (P0 []) s 71 [(0, vO 87), (1, vI x1), (2, vI x2), (3, vI x3), (4, vI x4)] [] := by
  intro n
  induction n with
  | zero => intro x4 s q h; cases h
  | succ n ih =>
    intro x4 s q h rx4 hE
    unfold l_X14_bitsOfText_71 at h
    refine v_iload dX14_bitsOfText_71 4 rfl ?_
    refine v_if_lt (tgt := 109) dX14_bitsOfText_73 rx4 (by decide) (fun c1 => ?_) (fun c1 => ?_)
    · rw [if_pos c1] at h
      cases h
      refine v_sub [0, 1, 2] (L1 := [(0, vO 87), (1, vI x1), (2, vI x2)]) rfl ?_
      exact hE _ rfl 
    · rw [if_neg c1] at h
      refine v_aload_n dX14_bitsOfText_76 0 rfl rfl ?_
      refine v_iload_n dX14_bitsOfText_77 3 rfl rfl ?_
      obtain ⟨r5, s2, e3, h⟩ := bd_some h
      have k4 := c_X14_isDigit e3 rx3
      have r6 : rg r5 := k4.1.2.2
      refine v_callS (st := [vO 87]) k4 (lw_S q2933 q2934 q311 q2935) yk_X14_isDigit ⟨Nat.le_of_ble_eq_true rfl, Nat.le_of_ble_eq_true rfl⟩ ⟨kc87, trivial⟩ ⟨kc87, trivial⟩ (Nat.le_of_ble_eq_true rfl) rfl dX14_bitsOfText_78 ?_
      refine v_if_eq (tgt := 91) dX14_bitsOfText_81 r6 (by decide) (fun c7 => ?_) (fun c7 => ?_)
      · rw [if_pos c7] at h
        refine v_iload_n dX14_bitsOfText_91 3 rfl rfl ?_
        refine v_bipush dX14_bitsOfText_92 rfl ?_
        refine v_isub dX14_bitsOfText_94 ?_
        exact wj_X14_bitsOfText_95 h rx1 rx2 rx3 rx4 (w32_rg _) ih hE
      · rw [if_neg c7] at h
        refine v_iload_n dX14_bitsOfText_84 3 rfl rfl ?_
        refine v_bipush dX14_bitsOfText_85 rfl ?_
        refine v_isub dX14_bitsOfText_87 ?_
        refine v_goto (tgt := 95) dX14_bitsOfText_88 (by decide) ?_
        exact wj_X14_bitsOfText_95 h rx1 rx2 rx3 rx4 (w32_rg _) ih hE

def j_X14_bitsOfText_61 (rec : Int → Int → vS → Option (vS)) (x1 : Int) (x2 : Int) (x3 : Int) (s : vS) : Option (vS) :=
  bd (f_X14_isWhite x3 s) fun r4 s1 =>
  if r4 = 0 then
    lq_0 (l_X14_bitsOfText_71 FU x1 x2 x3 3 s1) fun s10 =>
    vl (w32 (x2 + 1)) fun y12 =>
    rec x1 y12 s10
  else
    vl (w32 (x2 + 1)) fun y7 =>
    rec x1 y7 s1
theorem wj_X14_bitsOfText_61 {x1 : Int} {x2 : Int} {x3 : Int} {s : vS} {rv : Option vA} {σo : vS} {rec : Int → Int → vS → Option (vS)} {q : vS} (h : j_X14_bitsOfText_61 rec x1 x2 x3 s = some q)  (rx1 : rg x1) (rx2 : rg x2) (rx3 : rg x3) (hrec : ∀ (y2 : Int) (s : vS) (q : vS), rec x1 y2 s = some q → rg y2 → E_X14_bitsOfText_14 rv σo q → VW cX14_bitsOfText (RX14, rv, σo, none, 2, 44, 5, []) (P0 []) s 14 [(0, vO 87), (1, vI x1), (2, vI y2)] []) (hE : E_X14_bitsOfText_14 rv σo q) : VW cX14_bitsOfText (RX14, rv, σo, none, 2, 44, 5, []) (P0 []) s 61 [(0, vO 87), (1, vI x1), (2, vI x2), (3, vI x3)] [] := by
  unfold j_X14_bitsOfText_61 at h
  refine v_iload_n dX14_bitsOfText_61 3 rfl rfl ?_
  obtain ⟨r4, s1, e2, h⟩ := bd_some h
  have k3 := c_X14_isWhite e2 rx3
  have r5 : rg r4 := k3.1.2.2
  refine v_callS (st := []) k3 (lw_S q2905 q2906 q311 q2907) yk_X14_isWhite ⟨Nat.le_of_ble_eq_true rfl, Nat.le_of_ble_eq_true rfl⟩ trivial ⟨kc87, trivial⟩ (Nat.le_of_ble_eq_true rfl) rfl dX14_bitsOfText_62 ?_
  refine v_if_ne (tgt := 109) dX14_bitsOfText_65 r5 (by decide) (fun c6 => ?_) (fun c6 => ?_)
  · rw [if_neg c6] at h
    obtain ⟨y7, e8, h⟩ := vl_some h
    refine v_iinc (L1 := [(2, vI (w32 (x2 + 1))), (0, vO 87), (1, vI x1), (3, vI x3)]) dX14_bitsOfText_109 2 rfl (by decide) rfl ?_
    rw [← e8]
    have r9 : rg y7 := by rw [e8]; exact w32_rg _
    refine v_goto (tgt := 14) dX14_bitsOfText_112 (by decide) ?_
    refine v_sub [1, 2, 0] (L1 := [(0, vO 87), (1, vI x1), (2, vI y7)]) rfl ?_
    exact hrec y7 s1 _ h r9 hE
  · rw [if_pos c6] at h
    refine v_iconst dX14_bitsOfText_68 ?_
    refine v_istore (L1 := [(4, vI 3), (0, vO 87), (1, vI x1), (2, vI x2), (3, vI x3)]) dX14_bitsOfText_69 (by decide) rfl ?_
    refine v_sub [1, 2, 3, 4, 0] (L1 := [(0, vO 87), (1, vI x1), (2, vI x2), (3, vI x3), (4, vI 3)]) rfl ?_
    obtain ⟨s10, e11, h⟩ := lq_0_some h
    refine wl_X14_bitsOfText_71 rx1 rx2 rx3 FU 3 s1 _ e11 (rgl rfl) ?_
    unfold E_X14_bitsOfText_71
    intro s10' z_
    cases z_
    obtain ⟨y12, e13, h⟩ := vl_some h
    refine v_iinc (L1 := [(2, vI (w32 (x2 + 1))), (0, vO 87), (1, vI x1)]) dX14_bitsOfText_109 2 rfl (by decide) rfl ?_
    rw [← e13]
    have r14 : rg y12 := by rw [e13]; exact w32_rg _
    refine v_goto (tgt := 14) dX14_bitsOfText_112 (by decide) ?_
    refine v_sub [1, 2, 0] (L1 := [(0, vO 87), (1, vI x1), (2, vI y12)]) rfl ?_
    exact hrec y12 s10 _ h r14 hE

def l_X14_bitsOfText_14 : Nat → Int → Int → vS → Option (vS)
  | 0, _, _, _ => none
  | n + 1, x1, x2, s =>
    gd (inb x1 (gN s 96)) <|
    if (w32 ((gE s 96 x1) - 2)) ≤ x2 then
      some s
    else
      gd (inb x2 (gN s 93)) <|
      vl (gE s 93 x2) fun y4 =>
      bd (f_X14_isWhite y4 s) fun r10 s7 =>
      if r10 = 0 then
        gd (inb x1 (gN s7 94)) <|
        if (gE s7 94 x1) = 4 then
          bdv (f_X14_sayBit (w32 (y4 - 48)) s7) fun s15 =>
          vl (w32 (x2 + 1)) fun y18 =>
          l_X14_bitsOfText_14 n x1 y18 s15
        else
          j_X14_bitsOfText_61 (l_X14_bitsOfText_14 n) x1 x2 y4 s7
      else
        j_X14_bitsOfText_61 (l_X14_bitsOfText_14 n) x1 x2 y4 s7
theorem wl_X14_bitsOfText_14 {x1 : Int} {rv : Option vA} {σo : vS}  (rx1 : rg x1) : ∀ (n : Nat) (x2 : Int) (s : vS) (q : vS), l_X14_bitsOfText_14 n x1 x2 s = some q → rg x2 → E_X14_bitsOfText_14 rv σo q → VW cX14_bitsOfText (RX14, rv, σo, none, 2, 44, 5, []) (P0 []) s 14 [(0, vO 87), (1, vI x1), (2, vI x2)] [] := by
  intro n
  induction n with
  | zero => intro x2 s q h; cases h
  | succ n ih =>
    intro x2 s q h rx2 hE
    unfold l_X14_bitsOfText_14 at h
    refine v_iload_n dX14_bitsOfText_14 2 rfl rfl ?_
    refine v_aload_n dX14_bitsOfText_15 0 rfl rfl ?_
    refine v_getS (f := 18) (t := 96) cf14 oc87 rfl rfl rfl (by decide) q2388 dX14_bitsOfText_16 ?_
    refine v_iload_n dX14_bitsOfText_19 1 rfl rfl ?_
    obtain ⟨g1, h⟩ := gd_some h
    refine v_iald oc96 rx1 g1.1 g1.2 dX14_bitsOfText_20 ?_
    refine v_iconst dX14_bitsOfText_21 ?_
    refine v_isub dX14_bitsOfText_22 ?_
    refine v_icmp_ge (tgt := 115) dX14_bitsOfText_23 rx2 (w32_rg _) (by decide) (fun c2 => ?_) (fun c2 => ?_)
    · rw [if_pos c2] at h
      cases h
      refine v_sub [] (L1 := []) rfl ?_
      exact hE _ rfl 
    · rw [if_neg c2] at h
      refine v_aload_n dX14_bitsOfText_26 0 rfl rfl ?_
      refine v_getS (f := 14) (t := 93) cf14 oc87 rfl rfl rfl (by decide) q2384 dX14_bitsOfText_27 ?_
      refine v_iload_n dX14_bitsOfText_30 2 rfl rfl ?_
      obtain ⟨g3, h⟩ := gd_some h
      refine v_iald oc93 rx2 g3.1 g3.2 dX14_bitsOfText_31 ?_
      obtain ⟨y4, e5, h⟩ := vl_some h
      rw [← e5]
      have r6 : rg y4 := by rw [e5]; exact gE_rg _ _ _
      refine v_istore_n (L1 := [(3, vI y4), (0, vO 87), (1, vI x1), (2, vI x2)]) dX14_bitsOfText_32 rfl (by decide) rfl ?_
      refine v_iload_n dX14_bitsOfText_33 0 rfl rfl ?_
      obtain ⟨r10, s7, e8, h⟩ := bd_some h
      have k9 := c_X14_isWhite e8 r6
      have r11 : rg r10 := k9.1.2.2
      refine v_callS (st := []) k9 (lw_S q2905 q2906 q311 q2907) yk_X14_isWhite ⟨Nat.le_of_ble_eq_true rfl, Nat.le_of_ble_eq_true rfl⟩ trivial ⟨kc87, trivial⟩ (Nat.le_of_ble_eq_true rfl) rfl dX14_bitsOfText_34 ?_
      refine v_if_ne (tgt := 61) dX14_bitsOfText_37 r11 (by decide) (fun c12 => ?_) (fun c12 => ?_)
      · rw [if_neg c12] at h
        refine v_sub [1, 2, 3, 0] (L1 := [(0, vO 87), (1, vI x1), (2, vI x2), (3, vI y4)]) rfl ?_
        exact wj_X14_bitsOfText_61 h rx1 rx2 r6 ih hE
      · rw [if_pos c12] at h
        refine v_aload_n dX14_bitsOfText_40 1 rfl rfl ?_
        refine v_getS (f := 16) (t := 94) cf14 oc87 rfl rfl rfl (by decide) q2386 dX14_bitsOfText_41 ?_
        refine v_iload_n dX14_bitsOfText_44 2 rfl rfl ?_
        obtain ⟨g13, h⟩ := gd_some h
        refine v_iald oc94 rx1 g13.1 g13.2 dX14_bitsOfText_45 ?_
        refine v_iconst dX14_bitsOfText_46 ?_
        refine v_icmp_ne (tgt := 61) dX14_bitsOfText_47 (gE_rg _ _ _) (rgl rfl) (by decide) (fun c14 => ?_) (fun c14 => ?_)
        · rw [if_neg c14] at h
          refine v_sub [1, 2, 3, 0] (L1 := [(0, vO 87), (1, vI x1), (2, vI x2), (3, vI y4)]) rfl ?_
          exact wj_X14_bitsOfText_61 h rx1 rx2 r6 ih hE
        · rw [if_pos c14] at h
          refine v_aload_n dX14_bitsOfText_50 1 rfl rfl ?_
          refine v_iload_n dX14_bitsOfText_51 0 rfl rfl ?_
          refine v_bipush dX14_bitsOfText_52 rfl ?_
          refine v_isub dX14_bitsOfText_54 ?_
          obtain ⟨s15, e16, h⟩ := bdv_some h
          have k17 := c_X14_sayBit e16 (w32_rg _)
          refine v_callV (st := []) cf14 oc87 k17 (lw_V q3227 q3229 qs235 q311 q3230) rfl yk_X14_sayBit ⟨Nat.le_of_ble_eq_true rfl, Nat.le_of_ble_eq_true rfl⟩ trivial ⟨kc87, trivial⟩ (Nat.le_of_ble_eq_true rfl) rfl dX14_bitsOfText_55 ?_
          refine v_goto (tgt := 109) dX14_bitsOfText_58 (by decide) ?_
          obtain ⟨y18, e19, h⟩ := vl_some h
          refine v_iinc (L1 := [(2, vI (w32 (x2 + 1))), (3, vI y4), (0, vO 87), (1, vI x1)]) dX14_bitsOfText_109 3 rfl (by decide) rfl ?_
          rw [← e19]
          have r20 : rg y18 := by rw [e19]; exact w32_rg _
          refine v_goto (tgt := 14) dX14_bitsOfText_112 (by decide) ?_
          refine v_sub [2, 3, 0] (L1 := [(0, vO 87), (1, vI x1), (2, vI y18)]) rfl ?_
          exact ih y18 s15 _ h r20 hE

def f_X14_bitsOfText (x1 : Int) (s : vS) : Option (vS) :=
  stp (sI s 87 107 0) fun s1 =>
  gd (inb x1 (gN s1 95)) <|
  vl (w32 ((gE s1 95 x1) + 1)) fun y4 =>
  lq_0 (l_X14_bitsOfText_14 FU x1 y4 s1) fun s7 =>
  some s7
theorem yk_X14_bitsOfText : yOk yX14_bitsOfText 1 := ⟨by decide, by decide, by decide +kernel⟩
theorem c_X14_bitsOfText {x1 : Int} {s : vS} {out : vS} (h : f_X14_bitsOfText x1 s = some out)  (rx1 : rg x1) : VC yX14_bitsOfText cX14_bitsOfText 5 none 2 44 [vO 87, vI x1] s none out [] := by
  unfold f_X14_bitsOfText at h
  refine VC.of RX14 (by decide) rfl (Nat.le_of_ble_eq_true rfl) ?_
  show VW cX14_bitsOfText (RX14, none, out, none, 2, 44, 5, []) (P0 []) s 0 [(0, vO 87), (1, vI x1)] []
  refine v_aload_n dX14_bitsOfText_0 0 rfl rfl ?_
  refine v_iconst dX14_bitsOfText_1 ?_
  obtain ⟨s1, e2, h⟩ := stp_some h
  refine v_putI (f := 107) cf14 oc87 rfl (by decide) q2477 dX14_bitsOfText_2 rfl rfl ?_
  rw [← e2]
  refine v_aload_n dX14_bitsOfText_5 0 rfl rfl ?_
  refine v_getS (f := 17) (t := 95) cf14 oc87 rfl rfl rfl (by decide) q2387 dX14_bitsOfText_6 ?_
  refine v_iload_n dX14_bitsOfText_9 1 rfl rfl ?_
  obtain ⟨g3, h⟩ := gd_some h
  refine v_iald oc95 rx1 g3.1 g3.2 dX14_bitsOfText_10 ?_
  refine v_iconst dX14_bitsOfText_11 ?_
  refine v_iadd dX14_bitsOfText_12 ?_
  obtain ⟨y4, e5, h⟩ := vl_some h
  rw [← e5]
  have r6 : rg y4 := by rw [e5]; exact w32_rg _
  refine v_istore_n (L1 := [(2, vI y4), (0, vO 87), (1, vI x1)]) dX14_bitsOfText_13 rfl (by decide) rfl ?_
  refine v_sub [1, 2, 0] (L1 := [(0, vO 87), (1, vI x1), (2, vI y4)]) rfl ?_
  obtain ⟨s7, e8, h⟩ := lq_0_some h
  refine wl_X14_bitsOfText_14 rx1 FU y4 s1 _ e8 r6 ?_
  unfold E_X14_bitsOfText_14
  intro s7' z_
  cases z_
  cases h
  exact v_vret dX14_bitsOfText_115

def E_X14_bitsOfItems_12 (rv : Option vA) (σo : vS) (q : (vS) ⊕ (Int × vS)) : Prop := (∀ (s' : vS), q = .inl s' → VW cX14_bitsOfItems (RX14, rv, σo, (some .boolean), 2, 47, 6, []) (P0 []) s' 115 [] []) ∧ (∀ (v : Int) (s' : vS), q = .inr (v, s') → rv = some (vI v) ∧ σo = s')
def E_X14_bitsOfItems_84 (x1 : Int) (x2 : Int) (x3 : Int) (x5 : Int) (rv : Option vA) (σo : vS) (q : vS) : Prop := ∀ (s' : vS), q = s' → VW cX14_bitsOfItems (RX14, rv, σo, (some .boolean), 2, 47, 6, []) (P0 []) s' 101 [(0, vO 87), (1, vI x1), (2, vI x2), (3, vI x3), (5, vI x5)] []
def l_X14_bitsOfItems_84 : Nat → Int → Int → Int → Int → vS → Option (vS)
  | 0, _, _, _, _, _ => none
  | n + 1, x1, x2, x3, x5, s =>
    if x5 < (gI s 87 107) then
      some s
    else
      bdv (f_X14_sayBit 0 s) fun s2 =>
      l_X14_bitsOfItems_84 n x1 x2 x3 x5 s2
theorem wl_X14_bitsOfItems_84 {x1 : Int} {x2 : Int} {x3 : Int} {x5 : Int} {rv : Option vA} {σo : vS}  (rx1 : rg x1) (rx2 : rg x2) (rx3 : rg x3) (rx5 : rg x5) : ∀ (n : Nat) (s : vS) (q : vS), l_X14_bitsOfItems_84 n x1 x2 x3 x5 s = some q → E_X14_bitsOfItems_84 x1 x2 x3 x5 rv σo q → VW cX14_bitsOfItems (RX14, rv, σo, (some .boolean), 2, 47, 6, []) (P0 []) s 84 [(0, vO 87), (1, vI x1), (2, vI x2), (3, vI x3), (5, vI x5)] [] := by
  intro n
  induction n with
  | zero => intro s q h; cases h
  | succ n ih =>
    intro s q h  hE
    unfold l_X14_bitsOfItems_84 at h
    refine v_aload_n dX14_bitsOfItems_84 0 rfl rfl ?_
    refine v_getI (f := 107) cf14 oc87 rfl (by decide) q2477 dX14_bitsOfItems_85 ?_
    refine v_iload dX14_bitsOfItems_88 4 rfl ?_
    refine v_icmp_gt (tgt := 101) dX14_bitsOfItems_90 (gI_rg _ _ _) rx5 (by decide) (fun c1 => ?_) (fun c1 => ?_)
    · rw [if_pos c1] at h
      cases h
      exact hE _ rfl 
    · rw [if_neg c1] at h
      refine v_aload_n dX14_bitsOfItems_93 0 rfl rfl ?_
      refine v_iconst dX14_bitsOfItems_94 ?_
      obtain ⟨s2, e3, h⟩ := bdv_some h
      have k4 := c_X14_sayBit e3 (rgl rfl)
      refine v_callV (st := []) cf14 oc87 k4 (lw_V q3227 q3229 qs235 q311 q3230) rfl yk_X14_sayBit ⟨Nat.le_of_ble_eq_true rfl, Nat.le_of_ble_eq_true rfl⟩ trivial ⟨kc87, trivial⟩ (Nat.le_of_ble_eq_true rfl) rfl dX14_bitsOfItems_95 ?_
      refine v_goto (tgt := 84) dX14_bitsOfItems_98 (by decide) ?_
      exact ih s2 _ h  hE

def j_X14_bitsOfItems_62 (rec : Int → Int → Int → vS → Option ((vS) ⊕ (Int × vS))) (x1 : Int) (x2 : Int) (x3 : Int) (z0 : Int) (s : vS) : Option ((vS) ⊕ (Int × vS)) :=
  if 0 ≤ z0 then
    gd (inb z0 (gN s 115)) <|
    bd (f_X14_asInt (gE s 115 z0) s) fun r6 s3 =>
    lq_0 (l_X14_bitsOfItems_84 FU x1 x2 x3 r6 s3) fun s8 =>
    gd (inb r6 (gN s8 162)) <|
    stp (sE s8 162 r6 1) fun s11 =>
    vl (w32 (x3 + 1)) fun y13 =>
    rec x1 x2 y13 s11
  else
    some (.inr (0, s))
theorem wj_X14_bitsOfItems_62 {x1 : Int} {x2 : Int} {x3 : Int} {z0 : Int} {s : vS} {rv : Option vA} {σo : vS} {rec : Int → Int → Int → vS → Option ((vS) ⊕ (Int × vS))} {q : (vS) ⊕ (Int × vS)} (h : j_X14_bitsOfItems_62 rec x1 x2 x3 z0 s = some q)  (rx1 : rg x1) (rx2 : rg x2) (rx3 : rg x3) (rz0 : rg z0) (hrec : ∀ (y3 : Int) (s : vS) (q : (vS) ⊕ (Int × vS)), rec x1 x2 y3 s = some q → rg y3 → E_X14_bitsOfItems_12 rv σo q → VW cX14_bitsOfItems (RX14, rv, σo, (some .boolean), 2, 47, 6, []) (P0 []) s 12 [(0, vO 87), (1, vI x1), (2, vI x2), (3, vI y3)] []) (hE : E_X14_bitsOfItems_12 rv σo q) : VW cX14_bitsOfItems (RX14, rv, σo, (some .boolean), 2, 47, 6, []) (P0 []) s 62 [(0, vO 87), (1, vI x1), (2, vI x2), (3, vI x3)] [vI z0] := by
  unfold j_X14_bitsOfItems_62 at h
  refine v_istore (L1 := [(4, vI z0), (0, vO 87), (1, vI x1), (2, vI x2), (3, vI x3)]) dX14_bitsOfItems_62 (by decide) rfl ?_
  refine v_iload dX14_bitsOfItems_64 0 rfl ?_
  refine v_if_ge (tgt := 71) dX14_bitsOfItems_66 rz0 (by decide) (fun c1 => ?_) (fun c1 => ?_)
  · rw [if_pos c1] at h
    refine v_aload_n dX14_bitsOfItems_71 1 rfl rfl ?_
    refine v_aload_n dX14_bitsOfItems_72 1 rfl rfl ?_
    refine v_getS (f := 41) (t := 115) cf14 oc87 rfl rfl rfl (by decide) q2411 dX14_bitsOfItems_73 ?_
    refine v_iload dX14_bitsOfItems_76 0 rfl ?_
    obtain ⟨g2, h⟩ := gd_some h
    refine v_iald oc115 rz0 g2.1 g2.2 dX14_bitsOfItems_78 ?_
    obtain ⟨r6, s3, e4, h⟩ := bd_some h
    have k5 := c_X14_asInt e4 (gE_rg _ _ _)
    have r7 : rg r6 := k5.1.2.2
    refine v_callV (st := []) cf14 oc87 k5 (lw_V q3019 q3021 qs185 q311 q3022) rfl yk_X14_asInt ⟨Nat.le_of_ble_eq_true rfl, Nat.le_of_ble_eq_true rfl⟩ trivial ⟨kc87, trivial⟩ (Nat.le_of_ble_eq_true rfl) rfl dX14_bitsOfItems_79 ?_
    refine v_istore (L1 := [(5, vI r6), (4, vI z0), (0, vO 87), (1, vI x1), (2, vI x2), (3, vI x3)]) dX14_bitsOfItems_82 (by decide) rfl ?_
    refine v_sub [2, 3, 4, 5, 0] (L1 := [(0, vO 87), (1, vI x1), (2, vI x2), (3, vI x3), (5, vI r6)]) rfl ?_
    obtain ⟨s8, e9, h⟩ := lq_0_some h
    refine wl_X14_bitsOfItems_84 rx1 rx2 rx3 r7 FU  s3 _ e9  ?_
    unfold E_X14_bitsOfItems_84
    intro s8' z_
    cases z_
    refine v_aload_n dX14_bitsOfItems_101 0 rfl rfl ?_
    refine v_getS (f := 108) (t := 162) cf14 oc87 rfl rfl rfl (by decide) q2478 dX14_bitsOfItems_102 ?_
    refine v_iload dX14_bitsOfItems_105 4 rfl ?_
    refine v_iconst dX14_bitsOfItems_107 ?_
    obtain ⟨g10, h⟩ := gd_some h
    obtain ⟨s11, e12, h⟩ := stp_some h
    refine v_iast oc162 r7 g10.1 g10.2 dX14_bitsOfItems_108 ?_
    rw [← e12]
    obtain ⟨y13, e14, h⟩ := vl_some h
    refine v_iinc (L1 := [(3, vI (w32 (x3 + 1))), (0, vO 87), (1, vI x1), (2, vI x2), (5, vI r6)]) dX14_bitsOfItems_109 3 rfl (by decide) rfl ?_
    rw [← e14]
    have r15 : rg y13 := by rw [e14]; exact w32_rg _
    refine v_goto (tgt := 12) dX14_bitsOfItems_112 (by decide) ?_
    refine v_sub [1, 2, 3, 0] (L1 := [(0, vO 87), (1, vI x1), (2, vI x2), (3, vI y13)]) rfl ?_
    exact hrec y13 s11 _ h r15 hE
  · rw [if_neg c1] at h
    refine v_iconst dX14_bitsOfItems_69 ?_
    cases h
    obtain ⟨z1, z2⟩ := hE.2 _ _ rfl
    subst z1
    subst z2
    exact v_zret (Or.inl rfl) dX14_bitsOfItems_70

def l_X14_bitsOfItems_12 : Nat → Int → Int → Int → vS → Option ((vS) ⊕ (Int × vS))
  | 0, _, _, _, _ => none
  | n + 1, x1, x2, x3, s =>
    gd (inb x1 (gN s 136)) <|
    gd (inb x1 (gN s 137)) <|
    if (w32 ((gE s 136 x1) + (gE s 137 x1))) ≤ x3 then
      some (.inl s)
    else
      gd (inb x3 (gN s 139)) <|
      if (gE s 139 x3) < 0 then
        j_X14_bitsOfItems_62 (l_X14_bitsOfItems_12 n) x1 x2 x3 (-1) s
      else
        gd (inb x3 (gN s 140)) <|
        if (gE s 140 x3) < 0 then
          gd (inb x3 (gN s 139)) <|
          bd (f_X14_itemIn x2 (gE s 139 x3) s) fun r12 s9 =>
          j_X14_bitsOfItems_62 (l_X14_bitsOfItems_12 n) x1 x2 x3 r12 s9
        else
          j_X14_bitsOfItems_62 (l_X14_bitsOfItems_12 n) x1 x2 x3 (-1) s
theorem wl_X14_bitsOfItems_12 {x1 : Int} {x2 : Int} {rv : Option vA} {σo : vS}  (rx1 : rg x1) (rx2 : rg x2) : ∀ (n : Nat) (x3 : Int) (s : vS) (q : (vS) ⊕ (Int × vS)), l_X14_bitsOfItems_12 n x1 x2 x3 s = some q → rg x3 → E_X14_bitsOfItems_12 rv σo q → VW cX14_bitsOfItems (RX14, rv, σo, (some .boolean), 2, 47, 6, []) (P0 []) s 12 [(0, vO 87), (1, vI x1), (2, vI x2), (3, vI x3)] [] := by
  intro n
  induction n with
  | zero => intro x3 s q h; cases h
  | succ n ih =>
    intro x3 s q h rx3 hE
    unfold l_X14_bitsOfItems_12 at h
    refine v_iload_n dX14_bitsOfItems_12 3 rfl rfl ?_
    refine v_aload_n dX14_bitsOfItems_13 0 rfl rfl ?_
    refine v_getS (f := 66) (t := 136) cf14 oc87 rfl rfl rfl (by decide) q2436 dX14_bitsOfItems_14 ?_
    refine v_iload_n dX14_bitsOfItems_17 1 rfl rfl ?_
    obtain ⟨g1, h⟩ := gd_some h
    refine v_iald oc136 rx1 g1.1 g1.2 dX14_bitsOfItems_18 ?_
    refine v_aload_n dX14_bitsOfItems_19 0 rfl rfl ?_
    refine v_getS (f := 67) (t := 137) cf14 oc87 rfl rfl rfl (by decide) q2437 dX14_bitsOfItems_20 ?_
    refine v_iload_n dX14_bitsOfItems_23 1 rfl rfl ?_
    obtain ⟨g2, h⟩ := gd_some h
    refine v_iald oc137 rx1 g2.1 g2.2 dX14_bitsOfItems_24 ?_
    refine v_iadd dX14_bitsOfItems_25 ?_
    refine v_icmp_ge (tgt := 115) dX14_bitsOfItems_26 rx3 (w32_rg _) (by decide) (fun c3 => ?_) (fun c3 => ?_)
    · rw [if_pos c3] at h
      cases h
      refine v_sub [] (L1 := []) rfl ?_
      exact hE.1 _ rfl 
    · rw [if_neg c3] at h
      refine v_aload_n dX14_bitsOfItems_29 0 rfl rfl ?_
      refine v_getS (f := 70) (t := 139) cf14 oc87 rfl rfl rfl (by decide) q2440 dX14_bitsOfItems_30 ?_
      refine v_iload_n dX14_bitsOfItems_33 3 rfl rfl ?_
      obtain ⟨g4, h⟩ := gd_some h
      refine v_iald oc139 rx3 g4.1 g4.2 dX14_bitsOfItems_34 ?_
      refine v_if_lt (tgt := 47) dX14_bitsOfItems_35 (gE_rg _ _ _) (by decide) (fun c5 => ?_) (fun c5 => ?_)
      · rw [if_pos c5] at h
        refine v_iconst dX14_bitsOfItems_47 ?_
        refine v_goto (tgt := 62) dX14_bitsOfItems_48 (by decide) ?_
        exact wj_X14_bitsOfItems_62 h rx1 rx2 rx3 (rgl rfl) ih hE
      · rw [if_neg c5] at h
        refine v_aload_n dX14_bitsOfItems_38 0 rfl rfl ?_
        refine v_getS (f := 71) (t := 140) cf14 oc87 rfl rfl rfl (by decide) q2441 dX14_bitsOfItems_39 ?_
        refine v_iload_n dX14_bitsOfItems_42 3 rfl rfl ?_
        obtain ⟨g6, h⟩ := gd_some h
        refine v_iald oc140 rx3 g6.1 g6.2 dX14_bitsOfItems_43 ?_
        refine v_if_lt (tgt := 51) dX14_bitsOfItems_44 (gE_rg _ _ _) (by decide) (fun c7 => ?_) (fun c7 => ?_)
        · rw [if_pos c7] at h
          refine v_aload_n dX14_bitsOfItems_51 0 rfl rfl ?_
          refine v_iload_n dX14_bitsOfItems_52 2 rfl rfl ?_
          refine v_aload_n dX14_bitsOfItems_53 0 rfl rfl ?_
          refine v_getS (f := 70) (t := 139) cf14 oc87 rfl rfl rfl (by decide) q2440 dX14_bitsOfItems_54 ?_
          refine v_iload_n dX14_bitsOfItems_57 3 rfl rfl ?_
          obtain ⟨g8, h⟩ := gd_some h
          refine v_iald oc139 rx3 g8.1 g8.2 dX14_bitsOfItems_58 ?_
          obtain ⟨r12, s9, e10, h⟩ := bd_some h
          have k11 := c_X14_itemIn e10 rx2 (gE_rg _ _ _)
          have r13 : rg r12 := k11.1.2.2
          refine v_callV (st := []) cf14 oc87 k11 (lw_V q3133 q3135 qs213 q311 q3136) rfl yk_X14_itemIn ⟨Nat.le_of_ble_eq_true rfl, Nat.le_of_ble_eq_true rfl⟩ trivial ⟨kc87, trivial⟩ (Nat.le_of_ble_eq_true rfl) rfl dX14_bitsOfItems_59 ?_
          exact wj_X14_bitsOfItems_62 h rx1 rx2 rx3 r13 ih hE
        · rw [if_neg c7] at h
          refine v_iconst dX14_bitsOfItems_47 ?_
          refine v_goto (tgt := 62) dX14_bitsOfItems_48 (by decide) ?_
          exact wj_X14_bitsOfItems_62 h rx1 rx2 rx3 (rgl rfl) ih hE

def f_X14_bitsOfItems (x1 : Int) (x2 : Int) (s : vS) : Option (Int × vS) :=
  stp (sI s 87 107 0) fun s1 =>
  gd (inb x1 (gN s1 136)) <|
  vl (gE s1 136 x1) fun y4 =>
  lqs_0 (l_X14_bitsOfItems_12 FU x1 x2 y4 s1) (fun s7 =>
    some (1, s7))
    (fun q => some q)
theorem yk_X14_bitsOfItems : yOk yX14_bitsOfItems 2 := ⟨by decide, by decide, by decide +kernel⟩
theorem c_X14_bitsOfItems {x1 : Int} {x2 : Int} {s : vS} {out : Int × vS} (h : f_X14_bitsOfItems x1 x2 s = some out)  (rx1 : rg x1) (rx2 : rg x2) : VC yX14_bitsOfItems cX14_bitsOfItems 6 (some .boolean) 2 47 [vO 87, vI x1, vI x2] s (some (vI out.1)) out.2 [] := by
  unfold f_X14_bitsOfItems at h
  refine VC.of RX14 (by decide) rfl (Nat.le_of_ble_eq_true rfl) ?_
  show VW cX14_bitsOfItems (RX14, (some (vI out.1)), out.2, (some .boolean), 2, 47, 6, []) (P0 []) s 0 [(0, vO 87), (1, vI x1), (2, vI x2)] []
  refine v_aload_n dX14_bitsOfItems_0 0 rfl rfl ?_
  refine v_iconst dX14_bitsOfItems_1 ?_
  obtain ⟨s1, e2, h⟩ := stp_some h
  refine v_putI (f := 107) cf14 oc87 rfl (by decide) q2477 dX14_bitsOfItems_2 rfl rfl ?_
  rw [← e2]
  refine v_aload_n dX14_bitsOfItems_5 0 rfl rfl ?_
  refine v_getS (f := 66) (t := 136) cf14 oc87 rfl rfl rfl (by decide) q2436 dX14_bitsOfItems_6 ?_
  refine v_iload_n dX14_bitsOfItems_9 1 rfl rfl ?_
  obtain ⟨g3, h⟩ := gd_some h
  refine v_iald oc136 rx1 g3.1 g3.2 dX14_bitsOfItems_10 ?_
  obtain ⟨y4, e5, h⟩ := vl_some h
  rw [← e5]
  have r6 : rg y4 := by rw [e5]; exact gE_rg _ _ _
  refine v_istore_n (L1 := [(3, vI y4), (0, vO 87), (1, vI x1), (2, vI x2)]) dX14_bitsOfItems_11 rfl (by decide) rfl ?_
  refine v_sub [1, 2, 3, 0] (L1 := [(0, vO 87), (1, vI x1), (2, vI x2), (3, vI y4)]) rfl ?_
  rcases lqs_0_some h with ⟨s7, e8, h⟩ | ⟨q9, e8, h⟩
  · refine wl_X14_bitsOfItems_12 rx1 rx2 FU y4 s1 _ e8 r6 ?_
    unfold E_X14_bitsOfItems_12
    refine ⟨?_, fun v9 s9 z_ => (by cases z_)⟩
    intro s7' z_
    cases z_
    refine v_iconst dX14_bitsOfItems_115 ?_
    cases h
    exact v_zret (Or.inr rfl) dX14_bitsOfItems_116
  · cases h
    refine wl_X14_bitsOfItems_12 rx1 rx2 FU y4 s1 _ e8 r6 ?_
    unfold E_X14_bitsOfItems_12
    refine ⟨fun _ z_ => (by cases z_), ?_⟩
    intro v9 s9 z_
    cases z_
    exact ⟨rfl, rfl⟩

def E_X14_textOf_14 (rv : Option vA) (σo : vS) (q : vS) : Prop := ∀ (s' : vS), q = s' → VW cX14_textOf (RX14, rv, σo, none, 2, 44, 3, []) (P0 []) s' 58 [] []
def l_X14_textOf_14 : Nat → Int → Int → vS → Option (vS)
  | 0, _, _, _ => none
  | n + 1, x1, x2, s =>
    gd (inb x1 (gN s 96)) <|
    if (w32 ((gE s 96 x1) - 1)) ≤ x2 then
      some s
    else
      gd (inb x2 (gN s 93)) <|
      bdv (f_X14_say (gE s 93 x2) s) fun s4 =>
      gd (inb x2 (gN s4 93)) <|
      if (gE s4 93 x2) = 34 then
        vl (w32 (x2 + 2)) fun y12 =>
        l_X14_textOf_14 n x1 y12 s4
      else
        vl (w32 (x2 + 1)) fun y9 =>
        l_X14_textOf_14 n x1 y9 s4
theorem wl_X14_textOf_14 {x1 : Int} {rv : Option vA} {σo : vS}  (rx1 : rg x1) : ∀ (n : Nat) (x2 : Int) (s : vS) (q : vS), l_X14_textOf_14 n x1 x2 s = some q → rg x2 → E_X14_textOf_14 rv σo q → VW cX14_textOf (RX14, rv, σo, none, 2, 44, 3, []) (P0 []) s 14 [(0, vO 87), (1, vI x1), (2, vI x2)] [] := by
  intro n
  induction n with
  | zero => intro x2 s q h; cases h
  | succ n ih =>
    intro x2 s q h rx2 hE
    unfold l_X14_textOf_14 at h
    refine v_iload_n dX14_textOf_14 2 rfl rfl ?_
    refine v_aload_n dX14_textOf_15 0 rfl rfl ?_
    refine v_getS (f := 18) (t := 96) cf14 oc87 rfl rfl rfl (by decide) q2388 dX14_textOf_16 ?_
    refine v_iload_n dX14_textOf_19 1 rfl rfl ?_
    obtain ⟨g1, h⟩ := gd_some h
    refine v_iald oc96 rx1 g1.1 g1.2 dX14_textOf_20 ?_
    refine v_iconst dX14_textOf_21 ?_
    refine v_isub dX14_textOf_22 ?_
    refine v_icmp_ge (tgt := 58) dX14_textOf_23 rx2 (w32_rg _) (by decide) (fun c2 => ?_) (fun c2 => ?_)
    · rw [if_pos c2] at h
      cases h
      refine v_sub [] (L1 := []) rfl ?_
      exact hE _ rfl 
    · rw [if_neg c2] at h
      refine v_aload_n dX14_textOf_26 0 rfl rfl ?_
      refine v_aload_n dX14_textOf_27 0 rfl rfl ?_
      refine v_getS (f := 14) (t := 93) cf14 oc87 rfl rfl rfl (by decide) q2384 dX14_textOf_28 ?_
      refine v_iload_n dX14_textOf_31 2 rfl rfl ?_
      obtain ⟨g3, h⟩ := gd_some h
      refine v_iald oc93 rx2 g3.1 g3.2 dX14_textOf_32 ?_
      obtain ⟨s4, e5, h⟩ := bdv_some h
      have k6 := c_X14_say e5 (gE_rg _ _ _)
      refine v_callV (st := []) cf14 oc87 k6 (lw_V q3207 q3209 qs230 q311 q3210) rfl yk_X14_say ⟨Nat.le_of_ble_eq_true rfl, Nat.le_of_ble_eq_true rfl⟩ trivial ⟨kc87, trivial⟩ (Nat.le_of_ble_eq_true rfl) rfl dX14_textOf_33 ?_
      refine v_iload_n dX14_textOf_36 2 rfl rfl ?_
      refine v_aload_n dX14_textOf_37 0 rfl rfl ?_
      refine v_getS (f := 14) (t := 93) cf14 oc87 rfl rfl rfl (by decide) q2384 dX14_textOf_38 ?_
      refine v_iload_n dX14_textOf_41 2 rfl rfl ?_
      obtain ⟨g7, h⟩ := gd_some h
      refine v_iald oc93 rx2 g7.1 g7.2 dX14_textOf_42 ?_
      refine v_bipush dX14_textOf_43 rfl ?_
      refine v_icmp_ne (tgt := 52) dX14_textOf_45 (gE_rg _ _ _) (rgl rfl) (by decide) (fun c8 => ?_) (fun c8 => ?_)
      · rw [if_neg c8] at h
        refine v_iconst dX14_textOf_52 ?_
        refine v_iadd dX14_textOf_53 ?_
        obtain ⟨y9, e10, h⟩ := vl_some h
        rw [← e10]
        have r11 : rg y9 := by rw [e10]; exact w32_rg _
        refine v_istore_n (L1 := [(2, vI y9), (0, vO 87), (1, vI x1)]) dX14_textOf_54 rfl (by decide) rfl ?_
        refine v_goto (tgt := 14) dX14_textOf_55 (by decide) ?_
        refine v_sub [1, 2, 0] (L1 := [(0, vO 87), (1, vI x1), (2, vI y9)]) rfl ?_
        exact ih y9 s4 _ h r11 hE
      · rw [if_pos c8] at h
        refine v_iconst dX14_textOf_48 ?_
        refine v_goto (tgt := 53) dX14_textOf_49 (by decide) ?_
        refine v_iadd dX14_textOf_53 ?_
        obtain ⟨y12, e13, h⟩ := vl_some h
        rw [← e13]
        have r14 : rg y12 := by rw [e13]; exact w32_rg _
        refine v_istore_n (L1 := [(2, vI y12), (0, vO 87), (1, vI x1)]) dX14_textOf_54 rfl (by decide) rfl ?_
        refine v_goto (tgt := 14) dX14_textOf_55 (by decide) ?_
        refine v_sub [1, 2, 0] (L1 := [(0, vO 87), (1, vI x1), (2, vI y12)]) rfl ?_
        exact ih y12 s4 _ h r14 hE

def f_X14_textOf (x1 : Int) (s : vS) : Option (vS) :=
  stp (sI s 87 105 0) fun s1 =>
  gd (inb x1 (gN s1 95)) <|
  vl (w32 ((gE s1 95 x1) + 1)) fun y4 =>
  lq_0 (l_X14_textOf_14 FU x1 y4 s1) fun s7 =>
  some s7
theorem yk_X14_textOf : yOk yX14_textOf 1 := ⟨by decide, by decide, by decide +kernel⟩
theorem c_X14_textOf {x1 : Int} {s : vS} {out : vS} (h : f_X14_textOf x1 s = some out)  (rx1 : rg x1) : VC yX14_textOf cX14_textOf 3 none 2 44 [vO 87, vI x1] s none out [] := by
  unfold f_X14_textOf at h
  refine VC.of RX14 (by decide) rfl (Nat.le_of_ble_eq_true rfl) ?_
  show VW cX14_textOf (RX14, none, out, none, 2, 44, 3, []) (P0 []) s 0 [(0, vO 87), (1, vI x1)] []
  refine v_aload_n dX14_textOf_0 0 rfl rfl ?_
  refine v_iconst dX14_textOf_1 ?_
  obtain ⟨s1, e2, h⟩ := stp_some h
  refine v_putI (f := 105) cf14 oc87 rfl (by decide) q2475 dX14_textOf_2 rfl rfl ?_
  rw [← e2]
  refine v_aload_n dX14_textOf_5 0 rfl rfl ?_
  refine v_getS (f := 17) (t := 95) cf14 oc87 rfl rfl rfl (by decide) q2387 dX14_textOf_6 ?_
  refine v_iload_n dX14_textOf_9 1 rfl rfl ?_
  obtain ⟨g3, h⟩ := gd_some h
  refine v_iald oc95 rx1 g3.1 g3.2 dX14_textOf_10 ?_
  refine v_iconst dX14_textOf_11 ?_
  refine v_iadd dX14_textOf_12 ?_
  obtain ⟨y4, e5, h⟩ := vl_some h
  rw [← e5]
  have r6 : rg y4 := by rw [e5]; exact w32_rg _
  refine v_istore_n (L1 := [(2, vI y4), (0, vO 87), (1, vI x1)]) dX14_textOf_13 rfl (by decide) rfl ?_
  refine v_sub [1, 2, 0] (L1 := [(0, vO 87), (1, vI x1), (2, vI y4)]) rfl ?_
  obtain ⟨s7, e8, h⟩ := lq_0_some h
  refine wl_X14_textOf_14 rx1 FU y4 s1 _ e8 r6 ?_
  unfold E_X14_textOf_14
  intro s7' z_
  cases z_
  cases h
  exact v_vret dX14_textOf_58

def E_X14_arcOf_4 (rv : Option vA) (σo : vS) (q : (vS) ⊕ (Int × vS)) : Prop := (∀ (s' : vS), q = .inl s' → VW cX14_arcOf (RX14, rv, σo, (some .int), 0, 0, 5, []) (P0 []) s' 136 [] []) ∧ (∀ (v : Int) (s' : vS), q = .inr (v, s') → rv = some (vI v) ∧ σo = s')
def E_X14_arcOf_13 (x1 : Int) (x2 : Int) (x3 : Int) (rv : Option vA) (σo : vS) (q : Int × vS) : Prop := ∀ (x4' : Int) (s' : vS), q = (x4', s') → rg x4' → VW cX14_arcOf (RX14, rv, σo, (some .int), 0, 0, 5, []) (P0 []) s' 75 [(0, vO 87), (1, vI x1), (2, vI x2), (3, vI x3), (4, vI x4')] []
def l_X14_arcOf_13 : Nat → Int → Int → Int → Int → vS → Option (Int × vS)
  | 0, _, _, _, _, _ => none
  | n + 1, x1, x2, x3, x4, s =>
    gd (inb (w32 (x2 + x4)) (gN s 163)) <|
    if (gE s 163 (w32 (x2 + x4))) = 0 then
      some (x4, s)
    else
      gd (inb x1 (gN s 95)) <|
      gd (inb x1 (gN s 96)) <|
      if (gE s 96 x1) ≤ (w32 ((gE s 95 x1) + x4)) then
        some (x4, s)
      else
        gd (inb (w32 (x2 + x4)) (gN s 163)) <|
        gd (inb x1 (gN s 95)) <|
        gd (inb (w32 ((gE s 95 x1) + x4)) (gN s 93)) <|
        if (gE s 163 (w32 (x2 + x4))) = (gE s 93 (w32 ((gE s 95 x1) + x4))) then
          vl (w32 (x4 + 1)) fun y10 =>
          l_X14_arcOf_13 n x1 x2 x3 y10 s
        else
          some (x4, s)
theorem wl_X14_arcOf_13 {x1 : Int} {x2 : Int} {x3 : Int} {rv : Option vA} {σo : vS}  (rx1 : rg x1) (rx2 : rg x2) (rx3 : rg x3) : ∀ (n : Nat) (x4 : Int) (s : vS) (q : Int × vS), l_X14_arcOf_13 n x1 x2 x3 x4 s = some q → rg x4 → E_X14_arcOf_13 x1 x2 x3 rv σo q → VW cX14_arcOf (RX14, rv, σo, (some .int), 0, 0, 5, []) (P0 []) s 13 [(0, vO 87), (1, vI x1), (2, vI x2), (3, vI x3), (4, vI x4)] [] := by
  intro n
  induction n with
  | zero => intro x4 s q h; cases h
  | succ n ih =>
    intro x4 s q h rx4 hE
    unfold l_X14_arcOf_13 at h
    refine v_aload_n dX14_arcOf_13 0 rfl rfl ?_
    refine v_getS (f := 109) (t := 163) cf14 oc87 rfl rfl rfl (by decide) q2479 dX14_arcOf_14 ?_
    refine v_iload_n dX14_arcOf_17 2 rfl rfl ?_
    refine v_iload dX14_arcOf_18 4 rfl ?_
    refine v_iadd dX14_arcOf_20 ?_
    obtain ⟨g1, h⟩ := gd_some h
    refine v_iald oc163 (w32_rg _) g1.1 g1.2 dX14_arcOf_21 ?_
    refine v_if_eq (tgt := 75) dX14_arcOf_22 (gE_rg _ _ _) (by decide) (fun c2 => ?_) (fun c2 => ?_)
    · rw [if_pos c2] at h
      cases h
      exact hE _ _ rfl rx4
    · rw [if_neg c2] at h
      refine v_aload_n dX14_arcOf_25 0 rfl rfl ?_
      refine v_getS (f := 17) (t := 95) cf14 oc87 rfl rfl rfl (by decide) q2387 dX14_arcOf_26 ?_
      refine v_iload_n dX14_arcOf_29 1 rfl rfl ?_
      obtain ⟨g3, h⟩ := gd_some h
      refine v_iald oc95 rx1 g3.1 g3.2 dX14_arcOf_30 ?_
      refine v_iload dX14_arcOf_31 4 rfl ?_
      refine v_iadd dX14_arcOf_33 ?_
      refine v_aload_n dX14_arcOf_34 0 rfl rfl ?_
      refine v_getS (f := 18) (t := 96) cf14 oc87 rfl rfl rfl (by decide) q2388 dX14_arcOf_35 ?_
      refine v_iload_n dX14_arcOf_38 1 rfl rfl ?_
      obtain ⟨g4, h⟩ := gd_some h
      refine v_iald oc96 rx1 g4.1 g4.2 dX14_arcOf_39 ?_
      refine v_icmp_ge (tgt := 75) dX14_arcOf_40 (w32_rg _) (gE_rg _ _ _) (by decide) (fun c5 => ?_) (fun c5 => ?_)
      · rw [if_pos c5] at h
        cases h
        exact hE _ _ rfl rx4
      · rw [if_neg c5] at h
        refine v_aload_n dX14_arcOf_43 0 rfl rfl ?_
        refine v_getS (f := 109) (t := 163) cf14 oc87 rfl rfl rfl (by decide) q2479 dX14_arcOf_44 ?_
        refine v_iload_n dX14_arcOf_47 2 rfl rfl ?_
        refine v_iload dX14_arcOf_48 4 rfl ?_
        refine v_iadd dX14_arcOf_50 ?_
        obtain ⟨g6, h⟩ := gd_some h
        refine v_iald oc163 (w32_rg _) g6.1 g6.2 dX14_arcOf_51 ?_
        refine v_aload_n dX14_arcOf_52 0 rfl rfl ?_
        refine v_getS (f := 14) (t := 93) cf14 oc87 rfl rfl rfl (by decide) q2384 dX14_arcOf_53 ?_
        refine v_aload_n dX14_arcOf_56 0 rfl rfl ?_
        refine v_getS (f := 17) (t := 95) cf14 oc87 rfl rfl rfl (by decide) q2387 dX14_arcOf_57 ?_
        refine v_iload_n dX14_arcOf_60 1 rfl rfl ?_
        obtain ⟨g7, h⟩ := gd_some h
        refine v_iald oc95 rx1 g7.1 g7.2 dX14_arcOf_61 ?_
        refine v_iload dX14_arcOf_62 4 rfl ?_
        refine v_iadd dX14_arcOf_64 ?_
        obtain ⟨g8, h⟩ := gd_some h
        refine v_iald oc93 (w32_rg _) g8.1 g8.2 dX14_arcOf_65 ?_
        refine v_icmp_ne (tgt := 75) dX14_arcOf_66 (gE_rg _ _ _) (gE_rg _ _ _) (by decide) (fun c9 => ?_) (fun c9 => ?_)
        · rw [if_neg c9] at h
          cases h
          exact hE _ _ rfl rx4
        · rw [if_pos c9] at h
          obtain ⟨y10, e11, h⟩ := vl_some h
          refine v_iinc (L1 := [(4, vI (w32 (x4 + 1))), (0, vO 87), (1, vI x1), (2, vI x2), (3, vI x3)]) dX14_arcOf_69 4 rfl (by decide) rfl ?_
          rw [← e11]
          have r12 : rg y10 := by rw [e11]; exact w32_rg _
          refine v_goto (tgt := 13) dX14_arcOf_72 (by decide) ?_
          refine v_sub [1, 2, 3, 4, 0] (L1 := [(0, vO 87), (1, vI x1), (2, vI x2), (3, vI x3), (4, vI y10)]) rfl ?_
          exact ih y10 s _ h r12 hE

def E_X14_arcOf_112 (x1 : Int) (x3 : Int) (rv : Option vA) (σo : vS) (q : Int × vS) : Prop := ∀ (x2' : Int) (s' : vS), q = (x2', s') → rg x2' → VW cX14_arcOf (RX14, rv, σo, (some .int), 0, 0, 5, []) (P0 []) s' 127 [(0, vO 87), (1, vI x1), (2, vI x2'), (3, vI x3)] []
def l_X14_arcOf_112 : Nat → Int → Int → Int → vS → Option (Int × vS)
  | 0, _, _, _, _ => none
  | n + 1, x1, x2, x3, s =>
    gd (inb x2 (gN s 163)) <|
    if (gE s 163 x2) = 0 then
      some (x2, s)
    else
      vl (w32 (x2 + 1)) fun y3 =>
      l_X14_arcOf_112 n x1 y3 x3 s
theorem wl_X14_arcOf_112 {x1 : Int} {x3 : Int} {rv : Option vA} {σo : vS}  (rx1 : rg x1) (rx3 : rg x3) : ∀ (n : Nat) (x2 : Int) (s : vS) (q : Int × vS), l_X14_arcOf_112 n x1 x2 x3 s = some q → rg x2 → E_X14_arcOf_112 x1 x3 rv σo q → VW cX14_arcOf (RX14, rv, σo, (some .int), 0, 0, 5, []) (P0 []) s 112 [(0, vO 87), (1, vI x1), (2, vI x2), (3, vI x3)] [] := by
  intro n
  induction n with
  | zero => intro x2 s q h; cases h
  | succ n ih =>
    intro x2 s q h rx2 hE
    unfold l_X14_arcOf_112 at h
    refine v_aload_n dX14_arcOf_112 0 rfl rfl ?_
    refine v_getS (f := 109) (t := 163) cf14 oc87 rfl rfl rfl (by decide) q2479 dX14_arcOf_113 ?_
    refine v_iload_n dX14_arcOf_116 2 rfl rfl ?_
    obtain ⟨g1, h⟩ := gd_some h
    refine v_iald oc163 rx2 g1.1 g1.2 dX14_arcOf_117 ?_
    refine v_if_eq (tgt := 127) dX14_arcOf_118 (gE_rg _ _ _) (by decide) (fun c2 => ?_) (fun c2 => ?_)
    · rw [if_pos c2] at h
      cases h
      exact hE _ _ rfl rx2
    · rw [if_neg c2] at h
      obtain ⟨y3, e4, h⟩ := vl_some h
      refine v_iinc (L1 := [(2, vI (w32 (x2 + 1))), (0, vO 87), (1, vI x1), (3, vI x3)]) dX14_arcOf_121 2 rfl (by decide) rfl ?_
      rw [← e4]
      have r5 : rg y3 := by rw [e4]; exact w32_rg _
      refine v_goto (tgt := 112) dX14_arcOf_124 (by decide) ?_
      refine v_sub [1, 2, 0, 3] (L1 := [(0, vO 87), (1, vI x1), (2, vI y3), (3, vI x3)]) rfl ?_
      exact ih y3 s _ h r5 hE

def j_X14_arcOf_75 (rec : Int → Int → Int → vS → Option ((vS) ⊕ (Int × vS))) (x1 : Int) (x2 : Int) (x3 : Int) (x4 : Int) (s : vS) : Option ((vS) ⊕ (Int × vS)) :=
  gd (inb (w32 (x2 + x4)) (gN s 163)) <|
  if (gE s 163 (w32 (x2 + x4))) = 0 then
    gd (inb x1 (gN s 95)) <|
    gd (inb x1 (gN s 96)) <|
    if (w32 ((gE s 95 x1) + x4)) = (gE s 96 x1) then
      gd (inb x3 (gN s 164)) <|
      some (.inr (gE s 164 x3, s))
    else
      lq_1 (l_X14_arcOf_112 FU x1 x2 x3 s) fun y16 s17 =>
      vl (w32 (y16 + 1)) fun y20 =>
      vl (w32 (x3 + 1)) fun y23 =>
      rec x1 y20 y23 s17
  else
    lq_1 (l_X14_arcOf_112 FU x1 x2 x3 s) fun y3 s4 =>
    vl (w32 (y3 + 1)) fun y7 =>
    vl (w32 (x3 + 1)) fun y10 =>
    rec x1 y7 y10 s4
theorem wj_X14_arcOf_75 {x1 : Int} {x2 : Int} {x3 : Int} {x4 : Int} {s : vS} {rv : Option vA} {σo : vS} {rec : Int → Int → Int → vS → Option ((vS) ⊕ (Int × vS))} {q : (vS) ⊕ (Int × vS)} (h : j_X14_arcOf_75 rec x1 x2 x3 x4 s = some q)  (rx1 : rg x1) (rx2 : rg x2) (rx3 : rg x3) (rx4 : rg x4) (hrec : ∀ (y2 : Int) (y3 : Int) (s : vS) (q : (vS) ⊕ (Int × vS)), rec x1 y2 y3 s = some q → rg y2 → rg y3 → E_X14_arcOf_4 rv σo q → VW cX14_arcOf (RX14, rv, σo, (some .int), 0, 0, 5, []) (P0 []) s 4 [(0, vO 87), (1, vI x1), (2, vI y2), (3, vI y3)] []) (hE : E_X14_arcOf_4 rv σo q) : VW cX14_arcOf (RX14, rv, σo, (some .int), 0, 0, 5, []) (P0 []) s 75 [(0, vO 87), (1, vI x1), (2, vI x2), (3, vI x3), (4, vI x4)] [] := by
  unfold j_X14_arcOf_75 at h
  refine v_aload_n dX14_arcOf_75 0 rfl rfl ?_
  refine v_getS (f := 109) (t := 163) cf14 oc87 rfl rfl rfl (by decide) q2479 dX14_arcOf_76 ?_
  refine v_iload_n dX14_arcOf_79 2 rfl rfl ?_
  refine v_iload dX14_arcOf_80 4 rfl ?_
  refine v_iadd dX14_arcOf_82 ?_
  obtain ⟨g1, h⟩ := gd_some h
  refine v_iald oc163 (w32_rg _) g1.1 g1.2 dX14_arcOf_83 ?_
  refine v_if_ne (tgt := 112) dX14_arcOf_84 (gE_rg _ _ _) (by decide) (fun c2 => ?_) (fun c2 => ?_)
  · rw [if_neg c2] at h
    refine v_sub [0, 1, 2, 3] (L1 := [(0, vO 87), (1, vI x1), (2, vI x2), (3, vI x3)]) rfl ?_
    obtain ⟨y3, s4, e5, h⟩ := lq_1_some h
    refine wl_X14_arcOf_112 rx1 rx3 FU x2 s _ e5 rx2 ?_
    unfold E_X14_arcOf_112
    intro y3' s4' z_ r6
    cases z_
    obtain ⟨y7, e8, h⟩ := vl_some h
    refine v_iinc (L1 := [(2, vI (w32 (y3 + 1))), (0, vO 87), (1, vI x1), (3, vI x3)]) dX14_arcOf_127 2 rfl (by decide) rfl ?_
    rw [← e8]
    have r9 : rg y7 := by rw [e8]; exact w32_rg _
    obtain ⟨y10, e11, h⟩ := vl_some h
    refine v_iinc (L1 := [(3, vI (w32 (x3 + 1))), (2, vI y7), (0, vO 87), (1, vI x1)]) dX14_arcOf_130 3 rfl (by decide) rfl ?_
    rw [← e11]
    have r12 : rg y10 := by rw [e11]; exact w32_rg _
    refine v_goto (tgt := 4) dX14_arcOf_133 (by decide) ?_
    refine v_sub [2, 3, 1, 0] (L1 := [(0, vO 87), (1, vI x1), (2, vI y7), (3, vI y10)]) rfl ?_
    exact hrec y7 y10 s4 _ h r9 r12 hE
  · rw [if_pos c2] at h
    refine v_aload_n dX14_arcOf_87 0 rfl rfl ?_
    refine v_getS (f := 17) (t := 95) cf14 oc87 rfl rfl rfl (by decide) q2387 dX14_arcOf_88 ?_
    refine v_iload_n dX14_arcOf_91 1 rfl rfl ?_
    obtain ⟨g13, h⟩ := gd_some h
    refine v_iald oc95 rx1 g13.1 g13.2 dX14_arcOf_92 ?_
    refine v_iload dX14_arcOf_93 4 rfl ?_
    refine v_iadd dX14_arcOf_95 ?_
    refine v_aload_n dX14_arcOf_96 0 rfl rfl ?_
    refine v_getS (f := 18) (t := 96) cf14 oc87 rfl rfl rfl (by decide) q2388 dX14_arcOf_97 ?_
    refine v_iload_n dX14_arcOf_100 1 rfl rfl ?_
    obtain ⟨g14, h⟩ := gd_some h
    refine v_iald oc96 rx1 g14.1 g14.2 dX14_arcOf_101 ?_
    refine v_icmp_ne (tgt := 112) dX14_arcOf_102 (w32_rg _) (gE_rg _ _ _) (by decide) (fun c15 => ?_) (fun c15 => ?_)
    · rw [if_neg c15] at h
      refine v_sub [0, 1, 2, 3] (L1 := [(0, vO 87), (1, vI x1), (2, vI x2), (3, vI x3)]) rfl ?_
      obtain ⟨y16, s17, e18, h⟩ := lq_1_some h
      refine wl_X14_arcOf_112 rx1 rx3 FU x2 s _ e18 rx2 ?_
      unfold E_X14_arcOf_112
      intro y16' s17' z_ r19
      cases z_
      obtain ⟨y20, e21, h⟩ := vl_some h
      refine v_iinc (L1 := [(2, vI (w32 (y16 + 1))), (0, vO 87), (1, vI x1), (3, vI x3)]) dX14_arcOf_127 2 rfl (by decide) rfl ?_
      rw [← e21]
      have r22 : rg y20 := by rw [e21]; exact w32_rg _
      obtain ⟨y23, e24, h⟩ := vl_some h
      refine v_iinc (L1 := [(3, vI (w32 (x3 + 1))), (2, vI y20), (0, vO 87), (1, vI x1)]) dX14_arcOf_130 3 rfl (by decide) rfl ?_
      rw [← e24]
      have r25 : rg y23 := by rw [e24]; exact w32_rg _
      refine v_goto (tgt := 4) dX14_arcOf_133 (by decide) ?_
      refine v_sub [2, 3, 1, 0] (L1 := [(0, vO 87), (1, vI x1), (2, vI y20), (3, vI y23)]) rfl ?_
      exact hrec y20 y23 s17 _ h r22 r25 hE
    · rw [if_pos c15] at h
      refine v_aload_n dX14_arcOf_105 0 rfl rfl ?_
      refine v_getS (f := 110) (t := 164) cf14 oc87 rfl rfl rfl (by decide) q2480 dX14_arcOf_106 ?_
      refine v_iload_n dX14_arcOf_109 3 rfl rfl ?_
      obtain ⟨g26, h⟩ := gd_some h
      refine v_iald oc164 rx3 g26.1 g26.2 dX14_arcOf_110 ?_
      cases h
      obtain ⟨z1, z2⟩ := hE.2 _ _ rfl
      subst z1
      subst z2
      exact v_iret (gE_rg _ _ _) dX14_arcOf_111

def l_X14_arcOf_4 : Nat → Int → Int → Int → vS → Option ((vS) ⊕ (Int × vS))
  | 0, _, _, _, _ => none
  | n + 1, x1, x2, x3, s =>
    if 48 ≤ x2 then
      some (.inl s)
    else
      lq_1 (l_X14_arcOf_13 FU x1 x2 x3 0 s) fun y2 s3 =>
      j_X14_arcOf_75 (l_X14_arcOf_4 n) x1 x2 x3 y2 s3
theorem wl_X14_arcOf_4 {x1 : Int} {rv : Option vA} {σo : vS}  (rx1 : rg x1) : ∀ (n : Nat) (x2 : Int) (x3 : Int) (s : vS) (q : (vS) ⊕ (Int × vS)), l_X14_arcOf_4 n x1 x2 x3 s = some q → rg x2 → rg x3 → E_X14_arcOf_4 rv σo q → VW cX14_arcOf (RX14, rv, σo, (some .int), 0, 0, 5, []) (P0 []) s 4 [(0, vO 87), (1, vI x1), (2, vI x2), (3, vI x3)] [] := by
  intro n
  induction n with
  | zero => intro x2 x3 s q h; cases h
  | succ n ih =>
    intro x2 x3 s q h rx2 rx3 hE
    unfold l_X14_arcOf_4 at h
    refine v_iload_n dX14_arcOf_4 2 rfl rfl ?_
    refine v_bipush dX14_arcOf_5 rfl ?_
    refine v_icmp_ge (tgt := 136) dX14_arcOf_7 rx2 (rgl rfl) (by decide) (fun c1 => ?_) (fun c1 => ?_)
    · rw [if_pos c1] at h
      cases h
      refine v_sub [] (L1 := []) rfl ?_
      exact hE.1 _ rfl 
    · rw [if_neg c1] at h
      refine v_iconst dX14_arcOf_10 ?_
      refine v_istore (L1 := [(4, vI 0), (0, vO 87), (1, vI x1), (2, vI x2), (3, vI x3)]) dX14_arcOf_11 (by decide) rfl ?_
      refine v_sub [1, 2, 3, 4, 0] (L1 := [(0, vO 87), (1, vI x1), (2, vI x2), (3, vI x3), (4, vI 0)]) rfl ?_
      obtain ⟨y2, s3, e4, h⟩ := lq_1_some h
      refine wl_X14_arcOf_13 rx1 rx2 rx3 FU 0 s _ e4 (rgl rfl) ?_
      unfold E_X14_arcOf_13
      intro y2' s3' z_ r5
      cases z_
      exact wj_X14_arcOf_75 h rx1 rx2 rx3 r5 ih hE

def f_X14_arcOf (x1 : Int) (s : vS) : Option (Int × vS) :=
  lqs_0 (l_X14_arcOf_4 FU x1 0 0 s) (fun s1 =>
    some ((-1), s1))
    (fun q => some q)
theorem yk_X14_arcOf : yOk yX14_arcOf 1 := ⟨by decide, by decide, by decide +kernel⟩
theorem c_X14_arcOf {x1 : Int} {s : vS} {out : Int × vS} (h : f_X14_arcOf x1 s = some out)  (rx1 : rg x1) : VC yX14_arcOf cX14_arcOf 5 (some .int) 0 0 [vO 87, vI x1] s (some (vI out.1)) out.2 [] := by
  unfold f_X14_arcOf at h
  refine VC.of RX14 (by decide) rfl (Nat.le_of_ble_eq_true rfl) ?_
  show VW cX14_arcOf (RX14, (some (vI out.1)), out.2, (some .int), 0, 0, 5, []) (P0 []) s 0 [(0, vO 87), (1, vI x1)] []
  refine v_iconst dX14_arcOf_0 ?_
  refine v_istore_n (L1 := [(2, vI 0), (0, vO 87), (1, vI x1)]) dX14_arcOf_1 rfl (by decide) rfl ?_
  refine v_iconst dX14_arcOf_2 ?_
  refine v_istore_n (L1 := [(3, vI 0), (2, vI 0), (0, vO 87), (1, vI x1)]) dX14_arcOf_3 rfl (by decide) rfl ?_
  refine v_sub [2, 3, 1, 0] (L1 := [(0, vO 87), (1, vI x1), (2, vI 0), (3, vI 0)]) rfl ?_
  rcases lqs_0_some h with ⟨s1, e2, h⟩ | ⟨q9, e2, h⟩
  · refine wl_X14_arcOf_4 rx1 FU 0 0 s _ e2 (rgl rfl) (rgl rfl) ?_
    unfold E_X14_arcOf_4
    refine ⟨?_, fun v9 s9 z_ => (by cases z_)⟩
    intro s1' z_
    cases z_
    refine v_iconst dX14_arcOf_136 ?_
    cases h
    exact v_iret (rgl rfl) dX14_arcOf_137
  · cases h
    refine wl_X14_arcOf_4 rx1 FU 0 0 s _ e2 (rgl rfl) (rgl rfl) ?_
    unfold E_X14_arcOf_4
    refine ⟨fun _ z_ => (by cases z_), ?_⟩
    intro v9 s9 z_
    cases z_
    exact ⟨rfl, rfl⟩

def E_X14_saySevens_25 (x3 : Int) (rv : Option vA) (σo : vS) (q : Int × vS) : Prop := ∀ (x4' : Int) (s' : vS), q = (x4', s') → rg x4' → VW cX14_saySevens (RX14, rv, σo, none, 2, 44, 9, []) (P0 []) s' 80 [(0, vO 87), (3, vI x3), (4, vI x4')] []
def l_X14_saySevens_25 : Nat → Int → Int → Int → Int → vS → Option (Int × vS)
  | 0, _, _, _, _, _ => none
  | n + 1, x1, x3, x4, x5, s =>
    if x3 ≤ x5 then
      some (x4, s)
    else
      gd (inb x1 (gN s 147)) <|
      gd (inb (w32 ((w32 ((w32 ((gE s 147 x1) + x3)) - 1)) - x5)) (gN s 149)) <|
      vl (w32 ((gE s 149 (w32 ((w32 ((w32 ((gE s 147 x1) + x3)) - 1)) - x5))) + x4)) fun y4 =>
      gd (inb x5 (gN s 152)) <|
      stp (sE s 152 x5 (and32 y4 255)) fun s8 =>
      vl (shr32 y4 8) fun y10 =>
      vl (w32 (x5 + 1)) fun y13 =>
      l_X14_saySevens_25 n x1 x3 y10 y13 s8
theorem wl_X14_saySevens_25 {x1 : Int} {x3 : Int} {rv : Option vA} {σo : vS}  (rx1 : rg x1) (rx3 : rg x3) : ∀ (n : Nat) (x4 : Int) (x5 : Int) (s : vS) (q : Int × vS), l_X14_saySevens_25 n x1 x3 x4 x5 s = some q → rg x4 → rg x5 → E_X14_saySevens_25 x3 rv σo q → VW cX14_saySevens (RX14, rv, σo, none, 2, 44, 9, []) (P0 []) s 25 [(0, vO 87), (1, vI x1), (3, vI x3), (4, vI x4), (5, vI x5)] [] := by
  intro n
  induction n with
  | zero => intro x4 x5 s q h; cases h
  | succ n ih =>
    intro x4 x5 s q h rx4 rx5 hE
    unfold l_X14_saySevens_25 at h
    refine v_iload dX14_saySevens_25 4 rfl ?_
    refine v_iload_n dX14_saySevens_27 2 rfl rfl ?_
    refine v_icmp_ge (tgt := 80) dX14_saySevens_28 rx5 rx3 (by decide) (fun c1 => ?_) (fun c1 => ?_)
    · rw [if_pos c1] at h
      cases h
      refine v_sub [0, 2, 3] (L1 := [(0, vO 87), (3, vI x3), (4, vI x4)]) rfl ?_
      exact hE _ _ rfl rx4
    · rw [if_neg c1] at h
      refine v_aload_n dX14_saySevens_31 0 rfl rfl ?_
      refine v_getS (f := 88) (t := 149) cf14 oc87 rfl rfl rfl (by decide) q2458 dX14_saySevens_32 ?_
      refine v_aload_n dX14_saySevens_35 0 rfl rfl ?_
      refine v_getS (f := 86) (t := 147) cf14 oc87 rfl rfl rfl (by decide) q2456 dX14_saySevens_36 ?_
      refine v_iload_n dX14_saySevens_39 1 rfl rfl ?_
      obtain ⟨g2, h⟩ := gd_some h
      refine v_iald oc147 rx1 g2.1 g2.2 dX14_saySevens_40 ?_
      refine v_iload_n dX14_saySevens_41 2 rfl rfl ?_
      refine v_iadd dX14_saySevens_42 ?_
      refine v_iconst dX14_saySevens_43 ?_
      refine v_isub dX14_saySevens_44 ?_
      refine v_iload dX14_saySevens_45 4 rfl ?_
      refine v_isub dX14_saySevens_47 ?_
      obtain ⟨g3, h⟩ := gd_some h
      refine v_iald oc149 (w32_rg _) g3.1 g3.2 dX14_saySevens_48 ?_
      refine v_iload dX14_saySevens_49 3 rfl ?_
      refine v_iadd dX14_saySevens_51 ?_
      obtain ⟨y4, e5, h⟩ := vl_some h
      rw [← e5]
      have r6 : rg y4 := by rw [e5]; exact w32_rg _
      refine v_istore (L1 := [(6, vI y4), (0, vO 87), (1, vI x1), (3, vI x3), (4, vI x4), (5, vI x5)]) dX14_saySevens_52 (by decide) rfl ?_
      refine v_aload_n dX14_saySevens_54 1 rfl rfl ?_
      refine v_getS (f := 91) (t := 152) cf14 oc87 rfl rfl rfl (by decide) q2461 dX14_saySevens_55 ?_
      refine v_iload dX14_saySevens_58 5 rfl ?_
      refine v_iload dX14_saySevens_60 0 rfl ?_
      refine v_sipush dX14_saySevens_62 rfl ?_
      refine v_iand dX14_saySevens_65 ?_
      obtain ⟨g7, h⟩ := gd_some h
      obtain ⟨s8, e9, h⟩ := stp_some h
      refine v_iast oc152 rx5 g7.1 g7.2 dX14_saySevens_66 ?_
      rw [← e9]
      refine v_iload dX14_saySevens_67 0 rfl ?_
      refine v_bipush dX14_saySevens_69 rfl ?_
      refine v_ishr dX14_saySevens_71 ?_
      obtain ⟨y10, e11, h⟩ := vl_some h
      rw [← e11]
      have r12 : rg y10 := by rw [e11]; exact shr32_rg _ _
      refine v_istore (L1 := [(4, vI y10), (6, vI y4), (0, vO 87), (1, vI x1), (3, vI x3), (5, vI x5)]) dX14_saySevens_72 (by decide) rfl ?_
      obtain ⟨y13, e14, h⟩ := vl_some h
      refine v_iinc (L1 := [(5, vI (w32 (x5 + 1))), (4, vI y10), (6, vI y4), (0, vO 87), (1, vI x1), (3, vI x3)]) dX14_saySevens_74 5 rfl (by decide) rfl ?_
      rw [← e14]
      have r15 : rg y13 := by rw [e14]; exact w32_rg _
      refine v_goto (tgt := 25) dX14_saySevens_77 (by decide) ?_
      refine v_sub [3, 4, 5, 1, 0] (L1 := [(0, vO 87), (1, vI x1), (3, vI x3), (4, vI y10), (5, vI y13)]) rfl ?_
      exact ih y10 y13 s8 _ h r12 r15 hE

def E_X14_saySevens_107 (rv : Option vA) (σo : vS) (q : Int × vS) : Prop := ∀ (x5' : Int) (s' : vS), q = (x5', s') → rg x5' → VW cX14_saySevens (RX14, rv, σo, none, 2, 44, 9, []) (P0 []) s' 139 [(0, vO 87), (5, vI x5')] []
def l_X14_saySevens_107 : Nat → Int → vS → Option (Int × vS)
  | 0, _, _ => none
  | n + 1, x5, s =>
    if x5 ≤ 0 then
      some (x5, s)
    else
      gd (inb (d32 x5 8) (gN s 152)) <|
      if (and32 (shr32 (gE s 152 (d32 x5 8)) (m32 x5 8)) 1) = 0 then
        vl (w32 (x5 + (-1))) fun y4 =>
        l_X14_saySevens_107 n y4 s
      else
        some (x5, s)
theorem wl_X14_saySevens_107 {rv : Option vA} {σo : vS}  : ∀ (n : Nat) (x5 : Int) (s : vS) (q : Int × vS), l_X14_saySevens_107 n x5 s = some q → rg x5 → E_X14_saySevens_107 rv σo q → VW cX14_saySevens (RX14, rv, σo, none, 2, 44, 9, []) (P0 []) s 107 [(0, vO 87), (5, vI x5)] [] := by
  intro n
  induction n with
  | zero => intro x5 s q h; cases h
  | succ n ih =>
    intro x5 s q h rx5 hE
    unfold l_X14_saySevens_107 at h
    refine v_iload dX14_saySevens_107 1 rfl ?_
    refine v_if_le (tgt := 139) dX14_saySevens_109 rx5 (by decide) (fun c1 => ?_) (fun c1 => ?_)
    · rw [if_pos c1] at h
      cases h
      exact hE _ _ rfl rx5
    · rw [if_neg c1] at h
      refine v_aload_n dX14_saySevens_112 0 rfl rfl ?_
      refine v_getS (f := 91) (t := 152) cf14 oc87 rfl rfl rfl (by decide) q2461 dX14_saySevens_113 ?_
      refine v_iload dX14_saySevens_116 1 rfl ?_
      refine v_bipush dX14_saySevens_118 rfl ?_
      refine v_idiv dX14_saySevens_120 (rgl rfl) (by decide) ?_
      obtain ⟨g2, h⟩ := gd_some h
      refine v_iald oc152 (d32_rg _ _) g2.1 g2.2 dX14_saySevens_121 ?_
      refine v_iload dX14_saySevens_122 1 rfl ?_
      refine v_bipush dX14_saySevens_124 rfl ?_
      refine v_irem dX14_saySevens_126 (rgl rfl) (by decide) ?_
      refine v_ishr dX14_saySevens_127 ?_
      refine v_iconst dX14_saySevens_128 ?_
      refine v_iand dX14_saySevens_129 ?_
      refine v_if_ne (tgt := 139) dX14_saySevens_130 (and32_rg _ _) (by decide) (fun c3 => ?_) (fun c3 => ?_)
      · rw [if_neg c3] at h
        cases h
        exact hE _ _ rfl rx5
      · rw [if_pos c3] at h
        obtain ⟨y4, e5, h⟩ := vl_some h
        refine v_iinc (L1 := [(5, vI (w32 (x5 + (-1)))), (0, vO 87)]) dX14_saySevens_133 1 rfl (by decide) rfl ?_
        rw [← e5]
        have r6 : rg y4 := by rw [e5]; exact w32_rg _
        refine v_goto (tgt := 107) dX14_saySevens_136 (by decide) ?_
        refine v_sub [1, 0] (L1 := [(0, vO 87), (5, vI y4)]) rfl ?_
        exact ih y4 s _ h r6 hE

def E_X14_saySevens_146 (rv : Option vA) (σo : vS) (q : vS) : Prop := ∀ (s' : vS), q = s' → VW cX14_saySevens (RX14, rv, σo, none, 2, 44, 9, []) (P0 []) s' 232 [] []
def E_X14_saySevens_158 (x6 : Int) (rv : Option vA) (σo : vS) (q : Int × vS) : Prop := ∀ (x7' : Int) (s' : vS), q = (x7', s') → rg x7' → VW cX14_saySevens (RX14, rv, σo, none, 2, 44, 9, []) (P0 []) s' 206 [(0, vO 87), (6, vI x6), (7, vI x7')] []
def l_X14_saySevens_158 : Nat → Int → Int → Int → vS → Option (Int × vS)
  | 0, _, _, _, _ => none
  | n + 1, x6, x7, x8, s =>
    if x8 < 0 then
      some (x7, s)
    else
      gd (inb (d32 (w32 ((w32 (7 * x6)) + x8)) 8) (gN s 152)) <|
      vl (or32 (shl32 x7 1) (and32 (shr32 (gE s 152 (d32 (w32 ((w32 (7 * x6)) + x8)) 8)) (m32 (w32 ((w32 (7 * x6)) + x8)) 8)) 1)) fun y3 =>
      vl (w32 (x8 + (-1))) fun y6 =>
      l_X14_saySevens_158 n x6 y3 y6 s
theorem wl_X14_saySevens_158 {x6 : Int} {rv : Option vA} {σo : vS}  (rx6 : rg x6) : ∀ (n : Nat) (x7 : Int) (x8 : Int) (s : vS) (q : Int × vS), l_X14_saySevens_158 n x6 x7 x8 s = some q → rg x7 → rg x8 → E_X14_saySevens_158 x6 rv σo q → VW cX14_saySevens (RX14, rv, σo, none, 2, 44, 9, []) (P0 []) s 158 [(0, vO 87), (6, vI x6), (7, vI x7), (8, vI x8)] [] := by
  intro n
  induction n with
  | zero => intro x7 x8 s q h; cases h
  | succ n ih =>
    intro x7 x8 s q h rx7 rx8 hE
    unfold l_X14_saySevens_158 at h
    refine v_iload dX14_saySevens_158 3 rfl ?_
    refine v_if_lt (tgt := 206) dX14_saySevens_160 rx8 (by decide) (fun c1 => ?_) (fun c1 => ?_)
    · rw [if_pos c1] at h
      cases h
      refine v_sub [0, 1, 2] (L1 := [(0, vO 87), (6, vI x6), (7, vI x7)]) rfl ?_
      exact hE _ _ rfl rx7
    · rw [if_neg c1] at h
      refine v_iload dX14_saySevens_163 2 rfl ?_
      refine v_iconst dX14_saySevens_165 ?_
      refine v_ishl dX14_saySevens_166 ?_
      refine v_aload_n dX14_saySevens_167 0 rfl rfl ?_
      refine v_getS (f := 91) (t := 152) cf14 oc87 rfl rfl rfl (by decide) q2461 dX14_saySevens_168 ?_
      refine v_bipush dX14_saySevens_171 rfl ?_
      refine v_iload dX14_saySevens_173 1 rfl ?_
      refine v_imul dX14_saySevens_175 ?_
      refine v_iload dX14_saySevens_176 3 rfl ?_
      refine v_iadd dX14_saySevens_178 ?_
      refine v_bipush dX14_saySevens_179 rfl ?_
      refine v_idiv dX14_saySevens_181 (rgl rfl) (by decide) ?_
      obtain ⟨g2, h⟩ := gd_some h
      refine v_iald oc152 (d32_rg _ _) g2.1 g2.2 dX14_saySevens_182 ?_
      refine v_bipush dX14_saySevens_183 rfl ?_
      refine v_iload dX14_saySevens_185 1 rfl ?_
      refine v_imul dX14_saySevens_187 ?_
      refine v_iload dX14_saySevens_188 3 rfl ?_
      refine v_iadd dX14_saySevens_190 ?_
      refine v_bipush dX14_saySevens_191 rfl ?_
      refine v_irem dX14_saySevens_193 (rgl rfl) (by decide) ?_
      refine v_ishr dX14_saySevens_194 ?_
      refine v_iconst dX14_saySevens_195 ?_
      refine v_iand dX14_saySevens_196 ?_
      refine v_ior dX14_saySevens_197 ?_
      obtain ⟨y3, e4, h⟩ := vl_some h
      rw [← e4]
      have r5 : rg y3 := by rw [e4]; exact or32_rg _ _
      refine v_istore (L1 := [(7, vI y3), (0, vO 87), (6, vI x6), (8, vI x8)]) dX14_saySevens_198 (by decide) rfl ?_
      obtain ⟨y6, e7, h⟩ := vl_some h
      refine v_iinc (L1 := [(8, vI (w32 (x8 + (-1)))), (7, vI y3), (0, vO 87), (6, vI x6)]) dX14_saySevens_200 3 rfl (by decide) rfl ?_
      rw [← e7]
      have r8 : rg y6 := by rw [e7]; exact w32_rg _
      refine v_goto (tgt := 158) dX14_saySevens_203 (by decide) ?_
      refine v_sub [2, 3, 1, 0] (L1 := [(0, vO 87), (6, vI x6), (7, vI y3), (8, vI y6)]) rfl ?_
      exact ih y3 y6 s _ h r5 r8 hE

def j_X14_saySevens_223 (rec : Int → vS → Option (vS)) (x6 : Int) (z1 : Int) (s : vS) : Option (vS) :=
  bdv (f_X14_say z1 s) fun s1 =>
  vl (w32 (x6 + (-1))) fun y4 =>
  rec y4 s1
theorem wj_X14_saySevens_223 {x6 : Int} {z1 : Int} {s : vS} {rv : Option vA} {σo : vS} {rec : Int → vS → Option (vS)} {q : vS} (h : j_X14_saySevens_223 rec x6 z1 s = some q)  (rx6 : rg x6) (rz1 : rg z1) (hrec : ∀ (y6 : Int) (s : vS) (q : vS), rec y6 s = some q → rg y6 → E_X14_saySevens_146 rv σo q → VW cX14_saySevens (RX14, rv, σo, none, 2, 44, 9, []) (P0 []) s 146 [(0, vO 87), (6, vI y6)] []) (hE : E_X14_saySevens_146 rv σo q) : VW cX14_saySevens (RX14, rv, σo, none, 2, 44, 9, []) (P0 []) s 223 [(0, vO 87), (6, vI x6)] [vI z1, vO 87] := by
  unfold j_X14_saySevens_223 at h
  obtain ⟨s1, e2, h⟩ := bdv_some h
  have k3 := c_X14_say e2 rz1
  refine v_callV (st := []) cf14 oc87 k3 (lw_V q3207 q3209 qs230 q311 q3210) rfl yk_X14_say ⟨Nat.le_of_ble_eq_true rfl, Nat.le_of_ble_eq_true rfl⟩ trivial ⟨kc87, trivial⟩ (Nat.le_of_ble_eq_true rfl) rfl dX14_saySevens_223 ?_
  obtain ⟨y4, e5, h⟩ := vl_some h
  refine v_iinc (L1 := [(6, vI (w32 (x6 + (-1)))), (0, vO 87)]) dX14_saySevens_226 1 rfl (by decide) rfl ?_
  rw [← e5]
  have r6 : rg y4 := by rw [e5]; exact w32_rg _
  refine v_goto (tgt := 146) dX14_saySevens_229 (by decide) ?_
  refine v_sub [1, 0] (L1 := [(0, vO 87), (6, vI y4)]) rfl ?_
  exact hrec y4 s1 _ h r6 hE

def l_X14_saySevens_146 : Nat → Int → vS → Option (vS)
  | 0, _, _ => none
  | n + 1, x6, s =>
    if x6 < 0 then
      some s
    else
      lq_1 (l_X14_saySevens_158 FU x6 0 6 s) fun y2 s3 =>
      if x6 ≤ 0 then
        j_X14_saySevens_223 (l_X14_saySevens_146 n) x6 y2 s3
      else
        j_X14_saySevens_223 (l_X14_saySevens_146 n) x6 (or32 y2 128) s3
theorem wl_X14_saySevens_146 {rv : Option vA} {σo : vS}  : ∀ (n : Nat) (x6 : Int) (s : vS) (q : vS), l_X14_saySevens_146 n x6 s = some q → rg x6 → E_X14_saySevens_146 rv σo q → VW cX14_saySevens (RX14, rv, σo, none, 2, 44, 9, []) (P0 []) s 146 [(0, vO 87), (6, vI x6)] [] := by
  intro n
  induction n with
  | zero => intro x6 s q h; cases h
  | succ n ih =>
    intro x6 s q h rx6 hE
    unfold l_X14_saySevens_146 at h
    refine v_iload dX14_saySevens_146 1 rfl ?_
    refine v_if_lt (tgt := 232) dX14_saySevens_148 rx6 (by decide) (fun c1 => ?_) (fun c1 => ?_)
    · rw [if_pos c1] at h
      cases h
      refine v_sub [] (L1 := []) rfl ?_
      exact hE _ rfl 
    · rw [if_neg c1] at h
      refine v_iconst dX14_saySevens_151 ?_
      refine v_istore (L1 := [(7, vI 0), (0, vO 87), (6, vI x6)]) dX14_saySevens_152 (by decide) rfl ?_
      refine v_bipush dX14_saySevens_154 rfl ?_
      refine v_istore (L1 := [(8, vI 6), (7, vI 0), (0, vO 87), (6, vI x6)]) dX14_saySevens_156 (by decide) rfl ?_
      refine v_sub [2, 3, 1, 0] (L1 := [(0, vO 87), (6, vI x6), (7, vI 0), (8, vI 6)]) rfl ?_
      obtain ⟨y2, s3, e4, h⟩ := lq_1_some h
      refine wl_X14_saySevens_158 rx6 FU 0 6 s _ e4 (rgl rfl) (rgl rfl) ?_
      unfold E_X14_saySevens_158
      intro y2' s3' z_ r5
      cases z_
      refine v_aload_n dX14_saySevens_206 0 rfl rfl ?_
      refine v_iload dX14_saySevens_207 1 rfl ?_
      refine v_if_le (tgt := 221) dX14_saySevens_209 rx6 (by decide) (fun c6 => ?_) (fun c6 => ?_)
      · rw [if_pos c6] at h
        refine v_iload dX14_saySevens_221 2 rfl ?_
        refine v_sub [0, 1] (L1 := [(0, vO 87), (6, vI x6)]) rfl ?_
        exact wj_X14_saySevens_223 h rx6 r5 ih hE
      · rw [if_neg c6] at h
        refine v_iload dX14_saySevens_212 2 rfl ?_
        refine v_sipush dX14_saySevens_214 rfl ?_
        refine v_ior dX14_saySevens_217 ?_
        refine v_goto (tgt := 223) dX14_saySevens_218 (by decide) ?_
        refine v_sub [0, 1] (L1 := [(0, vO 87), (6, vI x6)]) rfl ?_
        exact wj_X14_saySevens_223 h rx6 (or32_rg _ _) ih hE

def f_X14_saySevens (x1 : Int) (x2 : Int) (s : vS) : Option (vS) :=
  gd (inb x1 (gN s 148)) <|
  bdv (f_X14_roomForDigits (w32 ((gE s 148 x1) + 4)) s) fun s2 =>
  gd (inb x1 (gN s2 148)) <|
  vl (gE s2 148 x1) fun y6 =>
  lq_1 (l_X14_saySevens_25 FU x1 y6 x2 0 s2) fun y9 s10 =>
  gd (inb y6 (gN s10 152)) <|
  stp (sE s10 152 y6 y9) fun s14 =>
  gd (inb (w32 (y6 + 1)) (gN s14 152)) <|
  stp (sE s14 152 (w32 (y6 + 1)) 0) fun s17 =>
  vl (w32 ((w32 (8 * (w32 (y6 + 1)))) - 1)) fun y19 =>
  lq_1 (l_X14_saySevens_107 FU y19 s17) fun y22 s23 =>
  vl (d32 y22 7) fun y26 =>
  lq_0 (l_X14_saySevens_146 FU y26 s23) fun s29 =>
  some s29
theorem yk_X14_saySevens : yOk yX14_saySevens 2 := ⟨by decide, by decide, by decide +kernel⟩
theorem c_X14_saySevens {x1 : Int} {x2 : Int} {s : vS} {out : vS} (h : f_X14_saySevens x1 x2 s = some out)  (rx1 : rg x1) (rx2 : rg x2) : VC yX14_saySevens cX14_saySevens 9 none 2 44 [vO 87, vI x1, vI x2] s none out [] := by
  unfold f_X14_saySevens at h
  refine VC.of RX14 (by decide) rfl (Nat.le_of_ble_eq_true rfl) ?_
  show VW cX14_saySevens (RX14, none, out, none, 2, 44, 9, []) (P0 []) s 0 [(0, vO 87), (1, vI x1), (2, vI x2)] []
  refine v_aload_n dX14_saySevens_0 0 rfl rfl ?_
  refine v_aload_n dX14_saySevens_1 0 rfl rfl ?_
  refine v_getS (f := 87) (t := 148) cf14 oc87 rfl rfl rfl (by decide) q2457 dX14_saySevens_2 ?_
  refine v_iload_n dX14_saySevens_5 1 rfl rfl ?_
  obtain ⟨g1, h⟩ := gd_some h
  refine v_iald oc148 rx1 g1.1 g1.2 dX14_saySevens_6 ?_
  refine v_iconst dX14_saySevens_7 ?_
  refine v_iadd dX14_saySevens_8 ?_
  obtain ⟨s2, e3, h⟩ := bdv_some h
  have k4 := c_X14_roomForDigits e3 (w32_rg _)
  refine v_callV (st := []) cf14 oc87 k4 (lw_V q3004 q3006 qs182 q311 q3007) rfl yk_X14_roomForDigits ⟨Nat.le_of_ble_eq_true rfl, Nat.le_of_ble_eq_true rfl⟩ trivial ⟨kc87, trivial⟩ (Nat.le_of_ble_eq_true rfl) rfl dX14_saySevens_9 ?_
  refine v_aload_n dX14_saySevens_12 0 rfl rfl ?_
  refine v_getS (f := 87) (t := 148) cf14 oc87 rfl rfl rfl (by decide) q2457 dX14_saySevens_13 ?_
  refine v_iload_n dX14_saySevens_16 1 rfl rfl ?_
  obtain ⟨g5, h⟩ := gd_some h
  refine v_iald oc148 rx1 g5.1 g5.2 dX14_saySevens_17 ?_
  obtain ⟨y6, e7, h⟩ := vl_some h
  rw [← e7]
  have r8 : rg y6 := by rw [e7]; exact gE_rg _ _ _
  refine v_istore_n (L1 := [(3, vI y6), (0, vO 87), (1, vI x1), (2, vI x2)]) dX14_saySevens_18 rfl (by decide) rfl ?_
  refine v_iload_n dX14_saySevens_19 3 rfl rfl ?_
  refine v_istore (L1 := [(4, vI x2), (3, vI y6), (0, vO 87), (1, vI x1), (2, vI x2)]) dX14_saySevens_20 (by decide) rfl ?_
  refine v_iconst dX14_saySevens_22 ?_
  refine v_istore (L1 := [(5, vI 0), (4, vI x2), (3, vI y6), (0, vO 87), (1, vI x1), (2, vI x2)]) dX14_saySevens_23 (by decide) rfl ?_
  refine v_sub [3, 4, 2, 1, 0] (L1 := [(0, vO 87), (1, vI x1), (3, vI y6), (4, vI x2), (5, vI 0)]) rfl ?_
  obtain ⟨y9, s10, e11, h⟩ := lq_1_some h
  refine wl_X14_saySevens_25 rx1 r8 FU x2 0 s2 _ e11 rx2 (rgl rfl) ?_
  unfold E_X14_saySevens_25
  intro y9' s10' z_ r12
  cases z_
  refine v_aload_n dX14_saySevens_80 0 rfl rfl ?_
  refine v_getS (f := 91) (t := 152) cf14 oc87 rfl rfl rfl (by decide) q2461 dX14_saySevens_81 ?_
  refine v_iload_n dX14_saySevens_84 1 rfl rfl ?_
  refine v_iload dX14_saySevens_85 2 rfl ?_
  obtain ⟨g13, h⟩ := gd_some h
  obtain ⟨s14, e15, h⟩ := stp_some h
  refine v_iast oc152 r8 g13.1 g13.2 dX14_saySevens_87 ?_
  rw [← e15]
  refine v_aload_n dX14_saySevens_88 0 rfl rfl ?_
  refine v_getS (f := 91) (t := 152) cf14 oc87 rfl rfl rfl (by decide) q2461 dX14_saySevens_89 ?_
  refine v_iload_n dX14_saySevens_92 1 rfl rfl ?_
  refine v_iconst dX14_saySevens_93 ?_
  refine v_iadd dX14_saySevens_94 ?_
  refine v_iconst dX14_saySevens_95 ?_
  obtain ⟨g16, h⟩ := gd_some h
  obtain ⟨s17, e18, h⟩ := stp_some h
  refine v_iast oc152 (w32_rg _) g16.1 g16.2 dX14_saySevens_96 ?_
  rw [← e18]
  refine v_bipush dX14_saySevens_97 rfl ?_
  refine v_iload_n dX14_saySevens_99 1 rfl rfl ?_
  refine v_iconst dX14_saySevens_100 ?_
  refine v_iadd dX14_saySevens_101 ?_
  refine v_imul dX14_saySevens_102 ?_
  refine v_iconst dX14_saySevens_103 ?_
  refine v_isub dX14_saySevens_104 ?_
  obtain ⟨y19, e20, h⟩ := vl_some h
  rw [← e20]
  have r21 : rg y19 := by rw [e20]; exact w32_rg _
  refine v_istore (L1 := [(5, vI y19), (0, vO 87), (3, vI y6), (4, vI y9)]) dX14_saySevens_105 (by decide) rfl ?_
  refine v_sub [1, 0] (L1 := [(0, vO 87), (5, vI y19)]) rfl ?_
  obtain ⟨y22, s23, e24, h⟩ := lq_1_some h
  refine wl_X14_saySevens_107  FU y19 s17 _ e24 r21 ?_
  unfold E_X14_saySevens_107
  intro y22' s23' z_ r25
  cases z_
  refine v_iload dX14_saySevens_139 1 rfl ?_
  refine v_bipush dX14_saySevens_141 rfl ?_
  refine v_idiv dX14_saySevens_143 (rgl rfl) (by decide) ?_
  obtain ⟨y26, e27, h⟩ := vl_some h
  rw [← e27]
  have r28 : rg y26 := by rw [e27]; exact d32_rg _ _
  refine v_istore (L1 := [(6, vI y26), (0, vO 87), (5, vI y22)]) dX14_saySevens_144 (by decide) rfl ?_
  refine v_sub [1, 0] (L1 := [(0, vO 87), (6, vI y26)]) rfl ?_
  obtain ⟨s29, e30, h⟩ := lq_0_some h
  refine wl_X14_saySevens_146  FU y26 s23 _ e30 r28 ?_
  unfold E_X14_saySevens_146
  intro s29' z_
  cases z_
  cases h
  exact v_vret dX14_saySevens_232

def E_X14_objectOf_75 (x2 : Int) (x3 : Int) (x4 : Int) (rv : Option vA) (σo : vS) (q : (vS) ⊕ (Int × vS)) : Prop := (∀ (s' : vS), q = .inl s' → VW cX14_objectOf (RX14, rv, σo, (some .boolean), 4, 98, 6, []) (P0 []) s' 101 [(0, vO 87), (2, vI x2), (3, vI x3), (4, vI x4)] []) ∧ (∀ (v : Int) (s' : vS), q = .inr (v, s') → rv = some (vI v) ∧ σo = s')
def l_X14_objectOf_75 : Nat → Int → Int → Int → Int → vS → Option ((vS) ⊕ (Int × vS))
  | 0, _, _, _, _, _ => none
  | n + 1, x2, x3, x4, x5, s =>
    if x2 ≤ x5 then
      some (.inl s)
    else
      gd (inb (w32 (x3 + x5)) (gN s 140)) <|
      if 0 ≤ (gE s 140 (w32 (x3 + x5))) then
        vl (w32 (x5 + 1)) fun y4 =>
        l_X14_objectOf_75 n x2 x3 x4 y4 s
      else
        some (.inr (0, s))
theorem wl_X14_objectOf_75 {x2 : Int} {x3 : Int} {x4 : Int} {rv : Option vA} {σo : vS}  (rx2 : rg x2) (rx3 : rg x3) (rx4 : rg x4) : ∀ (n : Nat) (x5 : Int) (s : vS) (q : (vS) ⊕ (Int × vS)), l_X14_objectOf_75 n x2 x3 x4 x5 s = some q → rg x5 → E_X14_objectOf_75 x2 x3 x4 rv σo q → VW cX14_objectOf (RX14, rv, σo, (some .boolean), 4, 98, 6, []) (P0 []) s 75 [(0, vO 87), (2, vI x2), (3, vI x3), (4, vI x4), (5, vI x5)] [] := by
  intro n
  induction n with
  | zero => intro x5 s q h; cases h
  | succ n ih =>
    intro x5 s q h rx5 hE
    unfold l_X14_objectOf_75 at h
    refine v_iload dX14_objectOf_75 4 rfl ?_
    refine v_iload_n dX14_objectOf_77 1 rfl rfl ?_
    refine v_icmp_ge (tgt := 101) dX14_objectOf_78 rx5 rx2 (by decide) (fun c1 => ?_) (fun c1 => ?_)
    · rw [if_pos c1] at h
      cases h
      refine v_sub [0, 1, 2, 3] (L1 := [(0, vO 87), (2, vI x2), (3, vI x3), (4, vI x4)]) rfl ?_
      exact hE.1 _ rfl 
    · rw [if_neg c1] at h
      refine v_aload_n dX14_objectOf_81 0 rfl rfl ?_
      refine v_getS (f := 71) (t := 140) cf14 oc87 rfl rfl rfl (by decide) q2441 dX14_objectOf_82 ?_
      refine v_iload_n dX14_objectOf_85 2 rfl rfl ?_
      refine v_iload dX14_objectOf_86 4 rfl ?_
      refine v_iadd dX14_objectOf_88 ?_
      obtain ⟨g2, h⟩ := gd_some h
      refine v_iald oc140 (w32_rg _) g2.1 g2.2 dX14_objectOf_89 ?_
      refine v_if_ge (tgt := 95) dX14_objectOf_90 (gE_rg _ _ _) (by decide) (fun c3 => ?_) (fun c3 => ?_)
      · rw [if_pos c3] at h
        obtain ⟨y4, e5, h⟩ := vl_some h
        refine v_iinc (L1 := [(5, vI (w32 (x5 + 1))), (0, vO 87), (2, vI x2), (3, vI x3), (4, vI x4)]) dX14_objectOf_95 4 rfl (by decide) rfl ?_
        rw [← e5]
        have r6 : rg y4 := by rw [e5]; exact w32_rg _
        refine v_goto (tgt := 75) dX14_objectOf_98 (by decide) ?_
        refine v_sub [1, 2, 3, 4, 0] (L1 := [(0, vO 87), (2, vI x2), (3, vI x3), (4, vI x4), (5, vI y4)]) rfl ?_
        exact ih y4 s _ h r6 hE
      · rw [if_neg c3] at h
        refine v_iconst dX14_objectOf_93 ?_
        cases h
        obtain ⟨z1, z2⟩ := hE.2 _ _ rfl
        subst z1
        subst z2
        exact v_zret (Or.inl rfl) dX14_objectOf_94

def E_X14_objectOf_161 (rv : Option vA) (σo : vS) (q : vS) : Prop := ∀ (s' : vS), q = s' → VW cX14_objectOf (RX14, rv, σo, (some .boolean), 4, 98, 6, []) (P0 []) s' 192 [] []
def l_X14_objectOf_161 : Nat → Int → Int → Int → vS → Option (vS)
  | 0, _, _, _, _ => none
  | n + 1, x2, x3, x5, s =>
    if x2 ≤ x5 then
      some s
    else
      gd (inb (w32 (x3 + x5)) (gN s 140)) <|
      bd (f_X14_numberOf (gE s 140 (w32 (x3 + x5))) 0 s) fun r6 s3 =>
      bdv (f_X14_saySevens r6 0 s3) fun s8 =>
      vl (w32 (x5 + 1)) fun y11 =>
      l_X14_objectOf_161 n x2 x3 y11 s8
theorem wl_X14_objectOf_161 {x2 : Int} {x3 : Int} {rv : Option vA} {σo : vS}  (rx2 : rg x2) (rx3 : rg x3) : ∀ (n : Nat) (x5 : Int) (s : vS) (q : vS), l_X14_objectOf_161 n x2 x3 x5 s = some q → rg x5 → E_X14_objectOf_161 rv σo q → VW cX14_objectOf (RX14, rv, σo, (some .boolean), 4, 98, 6, []) (P0 []) s 161 [(0, vO 87), (2, vI x2), (3, vI x3), (5, vI x5)] [] := by
  intro n
  induction n with
  | zero => intro x5 s q h; cases h
  | succ n ih =>
    intro x5 s q h rx5 hE
    unfold l_X14_objectOf_161 at h
    refine v_iload dX14_objectOf_161 3 rfl ?_
    refine v_iload_n dX14_objectOf_163 1 rfl rfl ?_
    refine v_icmp_ge (tgt := 192) dX14_objectOf_164 rx5 rx2 (by decide) (fun c1 => ?_) (fun c1 => ?_)
    · rw [if_pos c1] at h
      cases h
      refine v_sub [] (L1 := []) rfl ?_
      exact hE _ rfl 
    · rw [if_neg c1] at h
      refine v_aload_n dX14_objectOf_167 0 rfl rfl ?_
      refine v_aload_n dX14_objectOf_168 0 rfl rfl ?_
      refine v_aload_n dX14_objectOf_169 0 rfl rfl ?_
      refine v_getS (f := 71) (t := 140) cf14 oc87 rfl rfl rfl (by decide) q2441 dX14_objectOf_170 ?_
      refine v_iload_n dX14_objectOf_173 2 rfl rfl ?_
      refine v_iload dX14_objectOf_174 3 rfl ?_
      refine v_iadd dX14_objectOf_176 ?_
      obtain ⟨g2, h⟩ := gd_some h
      refine v_iald oc140 (w32_rg _) g2.1 g2.2 dX14_objectOf_177 ?_
      refine v_iconst dX14_objectOf_178 ?_
      obtain ⟨r6, s3, e4, h⟩ := bd_some h
      have k5 := c_X14_numberOf e4 (gE_rg _ _ _) (rgl rfl)
      have r7 : rg r6 := k5.1.2.2
      refine v_callV (st := [vO 87]) cf14 oc87 k5 (lw_V q2996 q2998 qs180 q311 q2999) rfl yk_X14_numberOf ⟨Nat.le_of_ble_eq_true rfl, Nat.le_of_ble_eq_true rfl⟩ ⟨kc87, trivial⟩ ⟨kc87, trivial⟩ (Nat.le_of_ble_eq_true rfl) rfl dX14_objectOf_179 ?_
      refine v_iconst dX14_objectOf_182 ?_
      obtain ⟨s8, e9, h⟩ := bdv_some h
      have k10 := c_X14_saySevens e9 r7 (rgl rfl)
      refine v_callV (st := []) cf14 oc87 k10 (lw_V q3267 q3269 qs245 q311 q3270) rfl yk_X14_saySevens ⟨Nat.le_of_ble_eq_true rfl, Nat.le_of_ble_eq_true rfl⟩ trivial ⟨kc87, trivial⟩ (Nat.le_of_ble_eq_true rfl) rfl dX14_objectOf_183 ?_
      obtain ⟨y11, e12, h⟩ := vl_some h
      refine v_iinc (L1 := [(5, vI (w32 (x5 + 1))), (0, vO 87), (2, vI x2), (3, vI x3)]) dX14_objectOf_186 3 rfl (by decide) rfl ?_
      rw [← e12]
      have r13 : rg y11 := by rw [e12]; exact w32_rg _
      refine v_goto (tgt := 161) dX14_objectOf_189 (by decide) ?_
      refine v_sub [1, 2, 3, 0] (L1 := [(0, vO 87), (2, vI x2), (3, vI x3), (5, vI y11)]) rfl ?_
      exact ih y11 s8 _ h r13 hE

def j_X14_objectOf_131 (x2 : Int) (x3 : Int) (x4 : Int) (s : vS) : Option (Int × vS) :=
  stp (sI s 87 105 0) fun s1 =>
  gd (inb (w32 (x3 + 1)) (gN s1 140)) <|
  bd (f_X14_numberOf (gE s1 140 (w32 (x3 + 1))) 0 s1) fun r7 s4 =>
  bdv (f_X14_saySevens r7 (w32 (40 * x4)) s4) fun s9 =>
  lq_0 (l_X14_objectOf_161 FU x2 x3 2 s9) fun s12 =>
  some (1, s12)
theorem wj_X14_objectOf_131 {x2 : Int} {x3 : Int} {x4 : Int} {s : vS} {out : Int × vS} (h : j_X14_objectOf_131 x2 x3 x4 s = some out)  (rx2 : rg x2) (rx3 : rg x3) (rx4 : rg x4) : VW cX14_objectOf (RX14, (some (vI out.1)), out.2, (some .boolean), 4, 98, 6, []) (P0 []) s 131 [(0, vO 87), (2, vI x2), (3, vI x3), (4, vI x4)] [] := by
  unfold j_X14_objectOf_131 at h
  refine v_aload_n dX14_objectOf_131 0 rfl rfl ?_
  refine v_iconst dX14_objectOf_132 ?_
  obtain ⟨s1, e2, h⟩ := stp_some h
  refine v_putI (f := 105) cf14 oc87 rfl (by decide) q2475 dX14_objectOf_133 rfl rfl ?_
  rw [← e2]
  refine v_aload_n dX14_objectOf_136 0 rfl rfl ?_
  refine v_aload_n dX14_objectOf_137 0 rfl rfl ?_
  refine v_aload_n dX14_objectOf_138 0 rfl rfl ?_
  refine v_getS (f := 71) (t := 140) cf14 oc87 rfl rfl rfl (by decide) q2441 dX14_objectOf_139 ?_
  refine v_iload_n dX14_objectOf_142 2 rfl rfl ?_
  refine v_iconst dX14_objectOf_143 ?_
  refine v_iadd dX14_objectOf_144 ?_
  obtain ⟨g3, h⟩ := gd_some h
  refine v_iald oc140 (w32_rg _) g3.1 g3.2 dX14_objectOf_145 ?_
  refine v_iconst dX14_objectOf_146 ?_
  obtain ⟨r7, s4, e5, h⟩ := bd_some h
  have k6 := c_X14_numberOf e5 (gE_rg _ _ _) (rgl rfl)
  have r8 : rg r7 := k6.1.2.2
  refine v_callV (st := [vO 87]) cf14 oc87 k6 (lw_V q2996 q2998 qs180 q311 q2999) rfl yk_X14_numberOf ⟨Nat.le_of_ble_eq_true rfl, Nat.le_of_ble_eq_true rfl⟩ ⟨kc87, trivial⟩ ⟨kc87, trivial⟩ (Nat.le_of_ble_eq_true rfl) rfl dX14_objectOf_147 ?_
  refine v_bipush dX14_objectOf_150 rfl ?_
  refine v_iload dX14_objectOf_152 3 rfl ?_
  refine v_imul dX14_objectOf_154 ?_
  obtain ⟨s9, e10, h⟩ := bdv_some h
  have k11 := c_X14_saySevens e10 r8 (w32_rg _)
  refine v_callV (st := []) cf14 oc87 k11 (lw_V q3267 q3269 qs245 q311 q3270) rfl yk_X14_saySevens ⟨Nat.le_of_ble_eq_true rfl, Nat.le_of_ble_eq_true rfl⟩ trivial ⟨kc87, trivial⟩ (Nat.le_of_ble_eq_true rfl) rfl dX14_objectOf_155 ?_
  refine v_iconst dX14_objectOf_158 ?_
  refine v_istore (L1 := [(5, vI 2), (0, vO 87), (2, vI x2), (3, vI x3), (4, vI x4)]) dX14_objectOf_159 (by decide) rfl ?_
  refine v_sub [1, 2, 3, 0] (L1 := [(0, vO 87), (2, vI x2), (3, vI x3), (5, vI 2)]) rfl ?_
  obtain ⟨s12, e13, h⟩ := lq_0_some h
  refine wl_X14_objectOf_161 rx2 rx3 FU 2 s9 _ e13 (rgl rfl) ?_
  unfold E_X14_objectOf_161
  intro s12' z_
  cases z_
  refine v_iconst dX14_objectOf_192 ?_
  cases h
  exact v_zret (Or.inr rfl) dX14_objectOf_193

def j_X14_objectOf_58 (x2 : Int) (x3 : Int) (z0 : Int) (s : vS) : Option (Int × vS) :=
  bd (f_X14_within z0 0 2 s) fun r4 s1 =>
  if r4 = 0 then
    some (0, s1)
  else
    lqs_0 (l_X14_objectOf_75 FU x2 x3 z0 1 s1) (fun s7 =>
      if 2 ≤ z0 then
        j_X14_objectOf_131 x2 x3 z0 s7
      else
        gd (inb (w32 (x3 + 1)) (gN s7 140)) <|
        bd (f_X14_numberOf (gE s7 140 (w32 (x3 + 1))) 0 s7) fun r14 s11 =>
        bd (f_X14_asInt r14 s11) fun r19 s16 =>
        if r19 ≤ 39 then
          j_X14_objectOf_131 x2 x3 z0 s16
        else
          some (0, s16))
      (fun q => some q)
theorem wj_X14_objectOf_58 {x2 : Int} {x3 : Int} {z0 : Int} {s : vS} {out : Int × vS} (h : j_X14_objectOf_58 x2 x3 z0 s = some out)  (rx2 : rg x2) (rx3 : rg x3) (rz0 : rg z0) : VW cX14_objectOf (RX14, (some (vI out.1)), out.2, (some .boolean), 4, 98, 6, []) (P0 []) s 58 [(0, vO 87), (2, vI x2), (3, vI x3)] [vI z0] := by
  unfold j_X14_objectOf_58 at h
  refine v_istore (L1 := [(4, vI z0), (0, vO 87), (2, vI x2), (3, vI x3)]) dX14_objectOf_58 (by decide) rfl ?_
  refine v_iload dX14_objectOf_60 0 rfl ?_
  refine v_iconst dX14_objectOf_62 ?_
  refine v_iconst dX14_objectOf_63 ?_
  obtain ⟨r4, s1, e2, h⟩ := bd_some h
  have k3 := c_X14_within e2 rz0 (rgl rfl) (rgl rfl)
  have r5 : rg r4 := k3.1.2.2
  refine v_callS (st := []) k3 (lw_S q2878 q2879 q311 q2880) yk_X14_within ⟨Nat.le_of_ble_eq_true rfl, Nat.le_of_ble_eq_true rfl⟩ trivial ⟨kc87, trivial⟩ (Nat.le_of_ble_eq_true rfl) rfl dX14_objectOf_64 ?_
  refine v_if_ne (tgt := 72) dX14_objectOf_67 r5 (by decide) (fun c6 => ?_) (fun c6 => ?_)
  · rw [if_neg c6] at h
    refine v_iconst dX14_objectOf_72 ?_
    refine v_istore (L1 := [(5, vI 1), (4, vI z0), (0, vO 87), (2, vI x2), (3, vI x3)]) dX14_objectOf_73 (by decide) rfl ?_
    refine v_sub [2, 3, 4, 1, 0] (L1 := [(0, vO 87), (2, vI x2), (3, vI x3), (4, vI z0), (5, vI 1)]) rfl ?_
    rcases lqs_0_some h with ⟨s7, e8, h⟩ | ⟨q9, e8, h⟩
    · refine wl_X14_objectOf_75 rx2 rx3 rz0 FU 1 s1 _ e8 (rgl rfl) ?_
      unfold E_X14_objectOf_75
      refine ⟨?_, fun v9 s9 z_ => (by cases z_)⟩
      intro s7' z_
      cases z_
      refine v_iload dX14_objectOf_101 3 rfl ?_
      refine v_iconst dX14_objectOf_103 ?_
      refine v_icmp_ge (tgt := 131) dX14_objectOf_104 rz0 (rgl rfl) (by decide) (fun c9 => ?_) (fun c9 => ?_)
      · rw [if_pos c9] at h
        exact wj_X14_objectOf_131 h rx2 rx3 rz0
      · rw [if_neg c9] at h
        refine v_aload_n dX14_objectOf_107 0 rfl rfl ?_
        refine v_aload_n dX14_objectOf_108 0 rfl rfl ?_
        refine v_aload_n dX14_objectOf_109 0 rfl rfl ?_
        refine v_getS (f := 71) (t := 140) cf14 oc87 rfl rfl rfl (by decide) q2441 dX14_objectOf_110 ?_
        refine v_iload_n dX14_objectOf_113 2 rfl rfl ?_
        refine v_iconst dX14_objectOf_114 ?_
        refine v_iadd dX14_objectOf_115 ?_
        obtain ⟨g10, h⟩ := gd_some h
        refine v_iald oc140 (w32_rg _) g10.1 g10.2 dX14_objectOf_116 ?_
        refine v_iconst dX14_objectOf_117 ?_
        obtain ⟨r14, s11, e12, h⟩ := bd_some h
        have k13 := c_X14_numberOf e12 (gE_rg _ _ _) (rgl rfl)
        have r15 : rg r14 := k13.1.2.2
        refine v_callV (st := [vO 87]) cf14 oc87 k13 (lw_V q2996 q2998 qs180 q311 q2999) rfl yk_X14_numberOf ⟨Nat.le_of_ble_eq_true rfl, Nat.le_of_ble_eq_true rfl⟩ ⟨kc87, trivial⟩ ⟨kc87, trivial⟩ (Nat.le_of_ble_eq_true rfl) rfl dX14_objectOf_118 ?_
        obtain ⟨r19, s16, e17, h⟩ := bd_some h
        have k18 := c_X14_asInt e17 r15
        have r20 : rg r19 := k18.1.2.2
        refine v_callV (st := []) cf14 oc87 k18 (lw_V q3019 q3021 qs185 q311 q3022) rfl yk_X14_asInt ⟨Nat.le_of_ble_eq_true rfl, Nat.le_of_ble_eq_true rfl⟩ trivial ⟨kc87, trivial⟩ (Nat.le_of_ble_eq_true rfl) rfl dX14_objectOf_121 ?_
        refine v_bipush dX14_objectOf_124 rfl ?_
        refine v_icmp_le (tgt := 131) dX14_objectOf_126 r20 (rgl rfl) (by decide) (fun c21 => ?_) (fun c21 => ?_)
        · rw [if_pos c21] at h
          exact wj_X14_objectOf_131 h rx2 rx3 rz0
        · rw [if_neg c21] at h
          refine v_iconst dX14_objectOf_129 ?_
          cases h
          exact v_zret (Or.inl rfl) dX14_objectOf_130
    · cases h
      refine wl_X14_objectOf_75 rx2 rx3 rz0 FU 1 s1 _ e8 (rgl rfl) ?_
      unfold E_X14_objectOf_75
      refine ⟨fun _ z_ => (by cases z_), ?_⟩
      intro v9 s9 z_
      cases z_
      exact ⟨rfl, rfl⟩
  · rw [if_pos c6] at h
    refine v_iconst dX14_objectOf_70 ?_
    cases h
    exact v_zret (Or.inl rfl) dX14_objectOf_71

def f_X14_objectOf (x1 : Int) (s : vS) : Option (Int × vS) :=
  gd (inb x1 (gN s 137)) <|
  vl (gE s 137 x1) fun y2 =>
  if 2 ≤ y2 then
    gd (inb x1 (gN s 136)) <|
    vl (gE s 136 x1) fun y7 =>
    gd (inb y7 (gN s 140)) <|
    if (gE s 140 y7) < 0 then
      gd (inb y7 (gN s 139)) <|
      bd (f_X14_arcOf (gE s 139 y7) s) fun r16 s13 =>
      j_X14_objectOf_58 y2 y7 r16 s13
    else
      gd (inb y7 (gN s 140)) <|
      bd (f_X14_numberOf (gE s 140 y7) 0 s) fun r22 s19 =>
      bd (f_X14_asInt r22 s19) fun r27 s24 =>
      j_X14_objectOf_58 y2 y7 r27 s24
  else
    some (0, s)
theorem yk_X14_objectOf : yOk yX14_objectOf 1 := ⟨by decide, by decide, by decide +kernel⟩
theorem c_X14_objectOf {x1 : Int} {s : vS} {out : Int × vS} (h : f_X14_objectOf x1 s = some out)  (rx1 : rg x1) : VC yX14_objectOf cX14_objectOf 6 (some .boolean) 4 98 [vO 87, vI x1] s (some (vI out.1)) out.2 [] := by
  unfold f_X14_objectOf at h
  refine VC.of RX14 (by decide) rfl (Nat.le_of_ble_eq_true rfl) ?_
  show VW cX14_objectOf (RX14, (some (vI out.1)), out.2, (some .boolean), 4, 98, 6, []) (P0 []) s 0 [(0, vO 87), (1, vI x1)] []
  refine v_aload_n dX14_objectOf_0 0 rfl rfl ?_
  refine v_getS (f := 67) (t := 137) cf14 oc87 rfl rfl rfl (by decide) q2437 dX14_objectOf_1 ?_
  refine v_iload_n dX14_objectOf_4 1 rfl rfl ?_
  obtain ⟨g1, h⟩ := gd_some h
  refine v_iald oc137 rx1 g1.1 g1.2 dX14_objectOf_5 ?_
  obtain ⟨y2, e3, h⟩ := vl_some h
  rw [← e3]
  have r4 : rg y2 := by rw [e3]; exact gE_rg _ _ _
  refine v_istore_n (L1 := [(2, vI y2), (0, vO 87), (1, vI x1)]) dX14_objectOf_6 rfl (by decide) rfl ?_
  refine v_iload_n dX14_objectOf_7 0 rfl rfl ?_
  refine v_iconst dX14_objectOf_8 ?_
  refine v_icmp_ge (tgt := 14) dX14_objectOf_9 r4 (rgl rfl) (by decide) (fun c5 => ?_) (fun c5 => ?_)
  · rw [if_pos c5] at h
    refine v_aload_n dX14_objectOf_14 1 rfl rfl ?_
    refine v_getS (f := 66) (t := 136) cf14 oc87 rfl rfl rfl (by decide) q2436 dX14_objectOf_15 ?_
    refine v_iload_n dX14_objectOf_18 2 rfl rfl ?_
    obtain ⟨g6, h⟩ := gd_some h
    refine v_iald oc136 rx1 g6.1 g6.2 dX14_objectOf_19 ?_
    obtain ⟨y7, e8, h⟩ := vl_some h
    rw [← e8]
    have r9 : rg y7 := by rw [e8]; exact gE_rg _ _ _
    refine v_istore_n (L1 := [(3, vI y7), (2, vI y2), (0, vO 87), (1, vI x1)]) dX14_objectOf_20 rfl (by decide) rfl ?_
    refine v_aload_n dX14_objectOf_21 2 rfl rfl ?_
    refine v_getS (f := 71) (t := 140) cf14 oc87 rfl rfl rfl (by decide) q2441 dX14_objectOf_22 ?_
    refine v_iload_n dX14_objectOf_25 0 rfl rfl ?_
    obtain ⟨g10, h⟩ := gd_some h
    refine v_iald oc140 r9 g10.1 g10.2 dX14_objectOf_26 ?_
    refine v_if_lt (tgt := 48) dX14_objectOf_27 (gE_rg _ _ _) (by decide) (fun c11 => ?_) (fun c11 => ?_)
    · rw [if_pos c11] at h
      refine v_aload_n dX14_objectOf_48 2 rfl rfl ?_
      refine v_aload_n dX14_objectOf_49 2 rfl rfl ?_
      refine v_getS (f := 70) (t := 139) cf14 oc87 rfl rfl rfl (by decide) q2440 dX14_objectOf_50 ?_
      refine v_iload_n dX14_objectOf_53 0 rfl rfl ?_
      obtain ⟨g12, h⟩ := gd_some h
      refine v_iald oc139 r9 g12.1 g12.2 dX14_objectOf_54 ?_
      obtain ⟨r16, s13, e14, h⟩ := bd_some h
      have k15 := c_X14_arcOf e14 (gE_rg _ _ _)
      have r17 : rg r16 := k15.1.2.2
      refine v_callV (st := []) cf14 oc87 k15 (lw_V q3263 q3265 qs244 q311 q3266) rfl yk_X14_arcOf ⟨Nat.le_of_ble_eq_true rfl, Nat.le_of_ble_eq_true rfl⟩ trivial ⟨kc87, trivial⟩ (Nat.le_of_ble_eq_true rfl) rfl dX14_objectOf_55 ?_
      refine v_sub [2, 1, 0] (L1 := [(0, vO 87), (2, vI y2), (3, vI y7)]) rfl ?_
      exact wj_X14_objectOf_58 h r4 r9 r17
    · rw [if_neg c11] at h
      refine v_aload_n dX14_objectOf_30 2 rfl rfl ?_
      refine v_aload_n dX14_objectOf_31 2 rfl rfl ?_
      refine v_aload_n dX14_objectOf_32 2 rfl rfl ?_
      refine v_getS (f := 71) (t := 140) cf14 oc87 rfl rfl rfl (by decide) q2441 dX14_objectOf_33 ?_
      refine v_iload_n dX14_objectOf_36 0 rfl rfl ?_
      obtain ⟨g18, h⟩ := gd_some h
      refine v_iald oc140 r9 g18.1 g18.2 dX14_objectOf_37 ?_
      refine v_iconst dX14_objectOf_38 ?_
      obtain ⟨r22, s19, e20, h⟩ := bd_some h
      have k21 := c_X14_numberOf e20 (gE_rg _ _ _) (rgl rfl)
      have r23 : rg r22 := k21.1.2.2
      refine v_callV (st := [vO 87]) cf14 oc87 k21 (lw_V q2996 q2998 qs180 q311 q2999) rfl yk_X14_numberOf ⟨Nat.le_of_ble_eq_true rfl, Nat.le_of_ble_eq_true rfl⟩ ⟨kc87, trivial⟩ ⟨kc87, trivial⟩ (Nat.le_of_ble_eq_true rfl) rfl dX14_objectOf_39 ?_
      obtain ⟨r27, s24, e25, h⟩ := bd_some h
      have k26 := c_X14_asInt e25 r23
      have r28 : rg r27 := k26.1.2.2
      refine v_callV (st := []) cf14 oc87 k26 (lw_V q3019 q3021 qs185 q311 q3022) rfl yk_X14_asInt ⟨Nat.le_of_ble_eq_true rfl, Nat.le_of_ble_eq_true rfl⟩ trivial ⟨kc87, trivial⟩ (Nat.le_of_ble_eq_true rfl) rfl dX14_objectOf_42 ?_
      refine v_goto (tgt := 58) dX14_objectOf_45 (by decide) ?_
      refine v_sub [2, 1, 0] (L1 := [(0, vO 87), (2, vI y2), (3, vI y7)]) rfl ?_
      exact wj_X14_objectOf_58 h r4 r9 r28
  · rw [if_neg c5] at h
    refine v_iconst dX14_objectOf_12 ?_
    cases h
    exact v_zret (Or.inl rfl) dX14_objectOf_13

def E_X14_allMayMiss_9 (rv : Option vA) (σo : vS) (q : Int × vS) : Prop := ∀ (x2' : Int) (s' : vS), q = (x2', s') → rg x2' → VW cX14_allMayMiss (RX14, rv, σo, (some .boolean), 0, 0, 4, []) (P0 []) s' 42 [(2, vI x2')] []
def l_X14_allMayMiss_9 : Nat → Int → Int → vS → Option (Int × vS)
  | 0, _, _, _ => none
  | n + 1, x2, x3, s =>
    if x3 < 0 then
      some (x2, s)
    else
      if x2 = 0 then
        gd (inb x3 (gN s 120)) <|
        vl (gE s 120 x3) fun y4 =>
        l_X14_allMayMiss_9 n 0 y4 s
      else
        gd (inb x3 (gN s 118)) <|
        if (gE s 118 x3) ≤ 0 then
          gd (inb x3 (gN s 120)) <|
          vl (gE s 120 x3) fun y10 =>
          l_X14_allMayMiss_9 n 0 y10 s
        else
          gd (inb x3 (gN s 120)) <|
          vl (gE s 120 x3) fun y14 =>
          l_X14_allMayMiss_9 n 1 y14 s
theorem wl_X14_allMayMiss_9 {rv : Option vA} {σo : vS}  : ∀ (n : Nat) (x2 : Int) (x3 : Int) (s : vS) (q : Int × vS), l_X14_allMayMiss_9 n x2 x3 s = some q → rg x2 → rg x3 → E_X14_allMayMiss_9 rv σo q → VW cX14_allMayMiss (RX14, rv, σo, (some .boolean), 0, 0, 4, []) (P0 []) s 9 [(0, vO 87), (2, vI x2), (3, vI x3)] [] := by
  intro n
  induction n with
  | zero => intro x2 x3 s q h; cases h
  | succ n ih =>
    intro x2 x3 s q h rx2 rx3 hE
    unfold l_X14_allMayMiss_9 at h
    refine v_iload_n dX14_allMayMiss_9 2 rfl rfl ?_
    refine v_if_lt (tgt := 42) dX14_allMayMiss_10 rx3 (by decide) (fun c1 => ?_) (fun c1 => ?_)
    · rw [if_pos c1] at h
      cases h
      refine v_sub [1] (L1 := [(2, vI x2)]) rfl ?_
      exact hE _ _ rfl rx2
    · rw [if_neg c1] at h
      refine v_iload_n dX14_allMayMiss_13 1 rfl rfl ?_
      refine v_if_eq (tgt := 30) dX14_allMayMiss_14 rx2 (by decide) (fun c2 => ?_) (fun c2 => ?_)
      · rw [if_pos c2] at h
        refine v_iconst dX14_allMayMiss_30 ?_
        refine v_istore_n (L1 := [(2, vI 0), (0, vO 87), (3, vI x3)]) dX14_allMayMiss_31 rfl (by decide) rfl ?_
        refine v_aload_n dX14_allMayMiss_32 1 rfl rfl ?_
        refine v_getS (f := 47) (t := 120) cf14 oc87 rfl rfl rfl (by decide) q2417 dX14_allMayMiss_33 ?_
        refine v_iload_n dX14_allMayMiss_36 2 rfl rfl ?_
        obtain ⟨g3, h⟩ := gd_some h
        refine v_iald oc120 rx3 g3.1 g3.2 dX14_allMayMiss_37 ?_
        obtain ⟨y4, e5, h⟩ := vl_some h
        rw [← e5]
        have r6 : rg y4 := by rw [e5]; exact gE_rg _ _ _
        refine v_istore_n (L1 := [(3, vI y4), (2, vI 0), (0, vO 87)]) dX14_allMayMiss_38 rfl (by decide) rfl ?_
        refine v_goto (tgt := 9) dX14_allMayMiss_39 (by decide) ?_
        refine v_sub [2, 1, 0] (L1 := [(0, vO 87), (2, vI 0), (3, vI y4)]) rfl ?_
        exact ih 0 y4 s _ h (rgl rfl) r6 hE
      · rw [if_neg c2] at h
        refine v_aload_n dX14_allMayMiss_17 0 rfl rfl ?_
        refine v_getS (f := 45) (t := 118) cf14 oc87 rfl rfl rfl (by decide) q2415 dX14_allMayMiss_18 ?_
        refine v_iload_n dX14_allMayMiss_21 2 rfl rfl ?_
        obtain ⟨g7, h⟩ := gd_some h
        refine v_iald oc118 rx3 g7.1 g7.2 dX14_allMayMiss_22 ?_
        refine v_if_le (tgt := 30) dX14_allMayMiss_23 (gE_rg _ _ _) (by decide) (fun c8 => ?_) (fun c8 => ?_)
        · rw [if_pos c8] at h
          refine v_iconst dX14_allMayMiss_30 ?_
          refine v_istore_n (L1 := [(2, vI 0), (0, vO 87), (3, vI x3)]) dX14_allMayMiss_31 rfl (by decide) rfl ?_
          refine v_aload_n dX14_allMayMiss_32 1 rfl rfl ?_
          refine v_getS (f := 47) (t := 120) cf14 oc87 rfl rfl rfl (by decide) q2417 dX14_allMayMiss_33 ?_
          refine v_iload_n dX14_allMayMiss_36 2 rfl rfl ?_
          obtain ⟨g9, h⟩ := gd_some h
          refine v_iald oc120 rx3 g9.1 g9.2 dX14_allMayMiss_37 ?_
          obtain ⟨y10, e11, h⟩ := vl_some h
          rw [← e11]
          have r12 : rg y10 := by rw [e11]; exact gE_rg _ _ _
          refine v_istore_n (L1 := [(3, vI y10), (2, vI 0), (0, vO 87)]) dX14_allMayMiss_38 rfl (by decide) rfl ?_
          refine v_goto (tgt := 9) dX14_allMayMiss_39 (by decide) ?_
          refine v_sub [2, 1, 0] (L1 := [(0, vO 87), (2, vI 0), (3, vI y10)]) rfl ?_
          exact ih 0 y10 s _ h (rgl rfl) r12 hE
        · rw [if_neg c8] at h
          refine v_iconst dX14_allMayMiss_26 ?_
          refine v_goto (tgt := 31) dX14_allMayMiss_27 (by decide) ?_
          refine v_istore_n (L1 := [(2, vI 1), (0, vO 87), (3, vI x3)]) dX14_allMayMiss_31 rfl (by decide) rfl ?_
          refine v_aload_n dX14_allMayMiss_32 1 rfl rfl ?_
          refine v_getS (f := 47) (t := 120) cf14 oc87 rfl rfl rfl (by decide) q2417 dX14_allMayMiss_33 ?_
          refine v_iload_n dX14_allMayMiss_36 2 rfl rfl ?_
          obtain ⟨g13, h⟩ := gd_some h
          refine v_iald oc120 rx3 g13.1 g13.2 dX14_allMayMiss_37 ?_
          obtain ⟨y14, e15, h⟩ := vl_some h
          rw [← e15]
          have r16 : rg y14 := by rw [e15]; exact gE_rg _ _ _
          refine v_istore_n (L1 := [(3, vI y14), (2, vI 1), (0, vO 87)]) dX14_allMayMiss_38 rfl (by decide) rfl ?_
          refine v_goto (tgt := 9) dX14_allMayMiss_39 (by decide) ?_
          refine v_sub [2, 1, 0] (L1 := [(0, vO 87), (2, vI 1), (3, vI y14)]) rfl ?_
          exact ih 1 y14 s _ h (rgl rfl) r16 hE

def f_X14_allMayMiss (x1 : Int) (s : vS) : Option (Int × vS) :=
  gd (inb x1 (gN s 104)) <|
  vl (gE s 104 x1) fun y2 =>
  lq_1 (l_X14_allMayMiss_9 FU 1 y2 s) fun y5 s6 =>
  gd (y5 = 0 ∨ y5 = 1) <|
  some (y5, s6)
theorem yk_X14_allMayMiss : yOk yX14_allMayMiss 1 := ⟨by decide, by decide, by decide +kernel⟩
theorem c_X14_allMayMiss {x1 : Int} {s : vS} {out : Int × vS} (h : f_X14_allMayMiss x1 s = some out)  (rx1 : rg x1) : VC yX14_allMayMiss cX14_allMayMiss 4 (some .boolean) 0 0 [vO 87, vI x1] s (some (vI out.1)) out.2 [] := by
  unfold f_X14_allMayMiss at h
  refine VC.of RX14 (by decide) rfl (Nat.le_of_ble_eq_true rfl) ?_
  show VW cX14_allMayMiss (RX14, (some (vI out.1)), out.2, (some .boolean), 0, 0, 4, []) (P0 []) s 0 [(0, vO 87), (1, vI x1)] []
  refine v_iconst dX14_allMayMiss_0 ?_
  refine v_istore_n (L1 := [(2, vI 1), (0, vO 87), (1, vI x1)]) dX14_allMayMiss_1 rfl (by decide) rfl ?_
  refine v_aload_n dX14_allMayMiss_2 1 rfl rfl ?_
  refine v_getS (f := 28) (t := 104) cf14 oc87 rfl rfl rfl (by decide) q2398 dX14_allMayMiss_3 ?_
  refine v_iload_n dX14_allMayMiss_6 2 rfl rfl ?_
  obtain ⟨g1, h⟩ := gd_some h
  refine v_iald oc104 rx1 g1.1 g1.2 dX14_allMayMiss_7 ?_
  obtain ⟨y2, e3, h⟩ := vl_some h
  rw [← e3]
  have r4 : rg y2 := by rw [e3]; exact gE_rg _ _ _
  refine v_istore_n (L1 := [(3, vI y2), (2, vI 1), (0, vO 87), (1, vI x1)]) dX14_allMayMiss_8 rfl (by decide) rfl ?_
  refine v_sub [2, 1, 0] (L1 := [(0, vO 87), (2, vI 1), (3, vI y2)]) rfl ?_
  obtain ⟨y5, s6, e7, h⟩ := lq_1_some h
  refine wl_X14_allMayMiss_9  FU 1 y2 s _ e7 (rgl rfl) r4 ?_
  unfold E_X14_allMayMiss_9
  intro y5' s6' z_ r8
  cases z_
  refine v_iload_n dX14_allMayMiss_42 0 rfl rfl ?_
  obtain ⟨g9, h⟩ := gd_some h
  cases h
  exact v_zret g9 dX14_allMayMiss_43

def f_X14_isFew (x1 : Int) (s : vS) : Option (Int × vS) :=
  gd (inb x1 (gN s 103)) <|
  if (gE s 103 x1) = 0 then
    some (1, s)
  else
    if 64 < (gI s 87 107) then
      some (0, s)
    else
      some (1, s)
theorem yk_X14_isFew : yOk yX14_isFew 1 := ⟨by decide, by decide, by decide +kernel⟩
theorem c_X14_isFew {x1 : Int} {s : vS} {out : Int × vS} (h : f_X14_isFew x1 s = some out)  (rx1 : rg x1) : VC yX14_isFew cX14_isFew 2 (some .boolean) 0 0 [vO 87, vI x1] s (some (vI out.1)) out.2 [] := by
  unfold f_X14_isFew at h
  refine VC.of RX14 (by decide) rfl (Nat.le_of_ble_eq_true rfl) ?_
  show VW cX14_isFew (RX14, (some (vI out.1)), out.2, (some .boolean), 0, 0, 2, []) (P0 []) s 0 [(0, vO 87), (1, vI x1)] []
  refine v_aload_n dX14_isFew_0 0 rfl rfl ?_
  refine v_getS (f := 27) (t := 103) cf14 oc87 rfl rfl rfl (by decide) q2397 dX14_isFew_1 ?_
  refine v_iload_n dX14_isFew_4 1 rfl rfl ?_
  obtain ⟨g1, h⟩ := gd_some h
  refine v_iald oc103 rx1 g1.1 g1.2 dX14_isFew_5 ?_
  refine v_if_eq (tgt := 18) dX14_isFew_6 (gE_rg _ _ _) (by decide) (fun c2 => ?_) (fun c2 => ?_)
  · rw [if_pos c2] at h
    refine v_iconst dX14_isFew_18 ?_
    refine v_goto (tgt := 23) dX14_isFew_19 (by decide) ?_
    cases h
    exact v_zret (Or.inr rfl) dX14_isFew_23
  · rw [if_neg c2] at h
    refine v_aload_n dX14_isFew_9 0 rfl rfl ?_
    refine v_getI (f := 107) cf14 oc87 rfl (by decide) q2477 dX14_isFew_10 ?_
    refine v_bipush dX14_isFew_13 rfl ?_
    refine v_icmp_gt (tgt := 22) dX14_isFew_15 (gI_rg _ _ _) (rgl rfl) (by decide) (fun c3 => ?_) (fun c3 => ?_)
    · rw [if_pos c3] at h
      refine v_iconst dX14_isFew_22 ?_
      cases h
      exact v_zret (Or.inl rfl) dX14_isFew_23
    · rw [if_neg c3] at h
      refine v_iconst dX14_isFew_18 ?_
      refine v_goto (tgt := 23) dX14_isFew_19 (by decide) ?_
      cases h
      exact v_zret (Or.inr rfl) dX14_isFew_23

def E_X14_characters_54 (x2 : Int) (rv : Option vA) (σo : vS) (q : Int × vS) : Prop := ∀ (x4' : Int) (s' : vS), q = (x4', s') → rg x4' → VW cX14_characters (RX14, rv, σo, (some .boolean), 5, 114, 6, []) (P0 []) s' 100 [(0, vO 87), (2, vI x2), (4, vI x4')] []
def l_X14_characters_54 : Nat → Int → Int → Int → Int → vS → Option (Int × vS)
  | 0, _, _, _, _, _ => none
  | n + 1, x2, x3, x4, x5, s =>
    if (gI s 87 105) ≤ x5 then
      some (x4, s)
    else
      if x4 = 0 then
        vl (w32 (x5 + 1)) fun y3 =>
        l_X14_characters_54 n x2 x3 0 y3 s
      else
        if x3 = 8 then
          gd (inb x5 (gN s 161)) <|
          bd (f_X14_isPrintable (gE s 161 x5) s) fun r14 s11 =>
          if r14 = 0 then
            vl (w32 (x5 + 1)) fun y17 =>
            l_X14_characters_54 n x2 x3 0 y17 s11
          else
            vl (w32 (x5 + 1)) fun y20 =>
            l_X14_characters_54 n x2 x3 1 y20 s11
        else
          vl (w32 (x5 + 1)) fun y7 =>
          l_X14_characters_54 n x2 x3 1 y7 s
theorem wl_X14_characters_54 {x2 : Int} {x3 : Int} {rv : Option vA} {σo : vS}  (rx2 : rg x2) (rx3 : rg x3) : ∀ (n : Nat) (x4 : Int) (x5 : Int) (s : vS) (q : Int × vS), l_X14_characters_54 n x2 x3 x4 x5 s = some q → rg x4 → rg x5 → E_X14_characters_54 x2 rv σo q → VW cX14_characters (RX14, rv, σo, (some .boolean), 5, 114, 6, []) (P0 []) s 54 [(0, vO 87), (2, vI x2), (3, vI x3), (4, vI x4), (5, vI x5)] [] := by
  intro n
  induction n with
  | zero => intro x4 x5 s q h; cases h
  | succ n ih =>
    intro x4 x5 s q h rx4 rx5 hE
    unfold l_X14_characters_54 at h
    refine v_iload dX14_characters_54 4 rfl ?_
    refine v_aload_n dX14_characters_56 0 rfl rfl ?_
    refine v_getI (f := 105) cf14 oc87 rfl (by decide) q2475 dX14_characters_57 ?_
    refine v_icmp_ge (tgt := 100) dX14_characters_60 rx5 (gI_rg _ _ _) (by decide) (fun c1 => ?_) (fun c1 => ?_)
    · rw [if_pos c1] at h
      cases h
      refine v_sub [0, 1, 3] (L1 := [(0, vO 87), (2, vI x2), (4, vI x4)]) rfl ?_
      exact hE _ _ rfl rx4
    · rw [if_neg c1] at h
      refine v_iload dX14_characters_63 3 rfl ?_
      refine v_if_eq (tgt := 91) dX14_characters_65 rx4 (by decide) (fun c2 => ?_) (fun c2 => ?_)
      · rw [if_pos c2] at h
        refine v_iconst dX14_characters_91 ?_
        refine v_istore (L1 := [(4, vI 0), (0, vO 87), (2, vI x2), (3, vI x3), (5, vI x5)]) dX14_characters_92 (by decide) rfl ?_
        obtain ⟨y3, e4, h⟩ := vl_some h
        refine v_iinc (L1 := [(5, vI (w32 (x5 + 1))), (4, vI 0), (0, vO 87), (2, vI x2), (3, vI x3)]) dX14_characters_94 4 rfl (by decide) rfl ?_
        rw [← e4]
        have r5 : rg y3 := by rw [e4]; exact w32_rg _
        refine v_goto (tgt := 54) dX14_characters_97 (by decide) ?_
        refine v_sub [2, 3, 4, 1, 0] (L1 := [(0, vO 87), (2, vI x2), (3, vI x3), (4, vI 0), (5, vI y3)]) rfl ?_
        exact ih 0 y3 s _ h (rgl rfl) r5 hE
      · rw [if_neg c2] at h
        refine v_iload_n dX14_characters_68 2 rfl rfl ?_
        refine v_bipush dX14_characters_69 rfl ?_
        refine v_icmp_ne (tgt := 87) dX14_characters_71 rx3 (rgl rfl) (by decide) (fun c6 => ?_) (fun c6 => ?_)
        · rw [if_neg c6] at h
          refine v_iconst dX14_characters_87 ?_
          refine v_goto (tgt := 92) dX14_characters_88 (by decide) ?_
          refine v_istore (L1 := [(4, vI 1), (0, vO 87), (2, vI x2), (3, vI x3), (5, vI x5)]) dX14_characters_92 (by decide) rfl ?_
          obtain ⟨y7, e8, h⟩ := vl_some h
          refine v_iinc (L1 := [(5, vI (w32 (x5 + 1))), (4, vI 1), (0, vO 87), (2, vI x2), (3, vI x3)]) dX14_characters_94 4 rfl (by decide) rfl ?_
          rw [← e8]
          have r9 : rg y7 := by rw [e8]; exact w32_rg _
          refine v_goto (tgt := 54) dX14_characters_97 (by decide) ?_
          refine v_sub [2, 3, 4, 1, 0] (L1 := [(0, vO 87), (2, vI x2), (3, vI x3), (4, vI 1), (5, vI y7)]) rfl ?_
          exact ih 1 y7 s _ h (rgl rfl) r9 hE
        · rw [if_pos c6] at h
          refine v_aload_n dX14_characters_74 0 rfl rfl ?_
          refine v_getS (f := 106) (t := 161) cf14 oc87 rfl rfl rfl (by decide) q2476 dX14_characters_75 ?_
          refine v_iload dX14_characters_78 4 rfl ?_
          obtain ⟨g10, h⟩ := gd_some h
          refine v_iald oc161 rx5 g10.1 g10.2 dX14_characters_80 ?_
          obtain ⟨r14, s11, e12, h⟩ := bd_some h
          have k13 := c_X14_isPrintable e12 (gE_rg _ _ _)
          have r15 : rg r14 := k13.1.2.2
          refine v_callS (st := []) k13 (lw_S q3323 q3324 q311 q3325) yk_X14_isPrintable ⟨Nat.le_of_ble_eq_true rfl, Nat.le_of_ble_eq_true rfl⟩ trivial ⟨kc87, trivial⟩ (Nat.le_of_ble_eq_true rfl) rfl dX14_characters_81 ?_
          refine v_if_eq (tgt := 91) dX14_characters_84 r15 (by decide) (fun c16 => ?_) (fun c16 => ?_)
          · rw [if_pos c16] at h
            refine v_iconst dX14_characters_91 ?_
            refine v_istore (L1 := [(4, vI 0), (0, vO 87), (2, vI x2), (3, vI x3), (5, vI x5)]) dX14_characters_92 (by decide) rfl ?_
            obtain ⟨y17, e18, h⟩ := vl_some h
            refine v_iinc (L1 := [(5, vI (w32 (x5 + 1))), (4, vI 0), (0, vO 87), (2, vI x2), (3, vI x3)]) dX14_characters_94 4 rfl (by decide) rfl ?_
            rw [← e18]
            have r19 : rg y17 := by rw [e18]; exact w32_rg _
            refine v_goto (tgt := 54) dX14_characters_97 (by decide) ?_
            refine v_sub [2, 3, 4, 1, 0] (L1 := [(0, vO 87), (2, vI x2), (3, vI x3), (4, vI 0), (5, vI y17)]) rfl ?_
            exact ih 0 y17 s11 _ h (rgl rfl) r19 hE
          · rw [if_neg c16] at h
            refine v_iconst dX14_characters_87 ?_
            refine v_goto (tgt := 92) dX14_characters_88 (by decide) ?_
            refine v_istore (L1 := [(4, vI 1), (0, vO 87), (2, vI x2), (3, vI x3), (5, vI x5)]) dX14_characters_92 (by decide) rfl ?_
            obtain ⟨y20, e21, h⟩ := vl_some h
            refine v_iinc (L1 := [(5, vI (w32 (x5 + 1))), (4, vI 1), (0, vO 87), (2, vI x2), (3, vI x3)]) dX14_characters_94 4 rfl (by decide) rfl ?_
            rw [← e21]
            have r22 : rg y20 := by rw [e21]; exact w32_rg _
            refine v_goto (tgt := 54) dX14_characters_97 (by decide) ?_
            refine v_sub [2, 3, 4, 1, 0] (L1 := [(0, vO 87), (2, vI x2), (3, vI x3), (4, vI 1), (5, vI y20)]) rfl ?_
            exact ih 1 y20 s11 _ h (rgl rfl) r22 hE

def f_X14_characters (x1 : Int) (x2 : Int) (x3 : Int) (s : vS) : Option (Int × vS) :=
  gd (inb x1 (gN s 134)) <|
  bdv (f_X14_textOf (gE s 134 x1) s) fun s2 =>
  if x3 = 10 then
    bd (f_X14_utcTime s2) fun r27 s24 =>
    if r27 = 0 then
      some (1, s24)
    else
      some (0, s24)
  else
    if x3 = 11 then
      bd (f_X14_generalTime s2) fun r21 s18 =>
      if r21 = 0 then
        some (1, s18)
      else
        some (0, s18)
    else
      lq_1 (l_X14_characters_54 FU x2 x3 1 0 s2) fun y7 s8 =>
      if y7 = 0 then
        some (0, s8)
      else
        bd (f_X14_holdsSize x2 (gI s8 87 105) s8) fun r15 s12 =>
        if r15 = 0 then
          some (0, s12)
        else
          some (1, s12)
theorem yk_X14_characters : yOk yX14_characters 3 := ⟨by decide, by decide, by decide +kernel⟩
theorem c_X14_characters {x1 : Int} {x2 : Int} {x3 : Int} {s : vS} {out : Int × vS} (h : f_X14_characters x1 x2 x3 s = some out)  (rx1 : rg x1) (rx2 : rg x2) (rx3 : rg x3) : VC yX14_characters cX14_characters 6 (some .boolean) 5 114 [vO 87, vI x1, vI x2, vI x3] s (some (vI out.1)) out.2 [] := by
  unfold f_X14_characters at h
  refine VC.of RX14 (by decide) rfl (Nat.le_of_ble_eq_true rfl) ?_
  show VW cX14_characters (RX14, (some (vI out.1)), out.2, (some .boolean), 5, 114, 6, []) (P0 []) s 0 [(0, vO 87), (1, vI x1), (2, vI x2), (3, vI x3)] []
  refine v_aload_n dX14_characters_0 0 rfl rfl ?_
  refine v_aload_n dX14_characters_1 0 rfl rfl ?_
  refine v_getS (f := 64) (t := 134) cf14 oc87 rfl rfl rfl (by decide) q2434 dX14_characters_2 ?_
  refine v_iload_n dX14_characters_5 1 rfl rfl ?_
  obtain ⟨g1, h⟩ := gd_some h
  refine v_iald oc134 rx1 g1.1 g1.2 dX14_characters_6 ?_
  obtain ⟨s2, e3, h⟩ := bdv_some h
  have k4 := c_X14_textOf e3 (gE_rg _ _ _)
  refine v_callV (st := []) cf14 oc87 k4 (lw_V q3275 q3277 qs247 q311 q3278) rfl yk_X14_textOf ⟨Nat.le_of_ble_eq_true rfl, Nat.le_of_ble_eq_true rfl⟩ trivial ⟨kc87, trivial⟩ (Nat.le_of_ble_eq_true rfl) rfl dX14_characters_7 ?_
  refine v_iload_n dX14_characters_10 3 rfl rfl ?_
  refine v_bipush dX14_characters_11 rfl ?_
  refine v_icmp_ne (tgt := 29) dX14_characters_13 rx3 (rgl rfl) (by decide) (fun c5 => ?_) (fun c5 => ?_)
  · rw [if_neg c5] at h
    refine v_iload_n dX14_characters_29 3 rfl rfl ?_
    refine v_bipush dX14_characters_30 rfl ?_
    refine v_icmp_ne (tgt := 48) dX14_characters_32 rx3 (rgl rfl) (by decide) (fun c6 => ?_) (fun c6 => ?_)
    · rw [if_neg c6] at h
      refine v_iconst dX14_characters_48 ?_
      refine v_istore (L1 := [(4, vI 1), (0, vO 87), (1, vI x1), (2, vI x2), (3, vI x3)]) dX14_characters_49 (by decide) rfl ?_
      refine v_iconst dX14_characters_51 ?_
      refine v_istore (L1 := [(5, vI 0), (4, vI 1), (0, vO 87), (1, vI x1), (2, vI x2), (3, vI x3)]) dX14_characters_52 (by decide) rfl ?_
      refine v_sub [2, 4, 5, 1, 0] (L1 := [(0, vO 87), (2, vI x2), (3, vI x3), (4, vI 1), (5, vI 0)]) rfl ?_
      obtain ⟨y7, s8, e9, h⟩ := lq_1_some h
      refine wl_X14_characters_54 rx2 rx3 FU 1 0 s2 _ e9 (rgl rfl) (rgl rfl) ?_
      unfold E_X14_characters_54
      intro y7' s8' z_ r10
      cases z_
      refine v_iload dX14_characters_100 2 rfl ?_
      refine v_if_eq (tgt := 121) dX14_characters_102 r10 (by decide) (fun c11 => ?_) (fun c11 => ?_)
      · rw [if_pos c11] at h
        refine v_iconst dX14_characters_121 ?_
        cases h
        exact v_zret (Or.inl rfl) dX14_characters_122
      · rw [if_neg c11] at h
        refine v_aload_n dX14_characters_105 0 rfl rfl ?_
        refine v_iload_n dX14_characters_106 1 rfl rfl ?_
        refine v_aload_n dX14_characters_107 0 rfl rfl ?_
        refine v_getI (f := 105) cf14 oc87 rfl (by decide) q2475 dX14_characters_108 ?_
        obtain ⟨r15, s12, e13, h⟩ := bd_some h
        have k14 := c_X14_holdsSize e13 rx2 (gI_rg _ _ _)
        have r16 : rg r15 := k14.1.2.2
        refine v_callV (st := []) cf14 oc87 k14 (lw_V q3247 q3249 qs240 q311 q3250) rfl yk_X14_holdsSize ⟨Nat.le_of_ble_eq_true rfl, Nat.le_of_ble_eq_true rfl⟩ trivial ⟨kc87, trivial⟩ (Nat.le_of_ble_eq_true rfl) rfl dX14_characters_111 ?_
        refine v_if_eq (tgt := 121) dX14_characters_114 r16 (by decide) (fun c17 => ?_) (fun c17 => ?_)
        · rw [if_pos c17] at h
          refine v_iconst dX14_characters_121 ?_
          cases h
          exact v_zret (Or.inl rfl) dX14_characters_122
        · rw [if_neg c17] at h
          refine v_iconst dX14_characters_117 ?_
          refine v_goto (tgt := 122) dX14_characters_118 (by decide) ?_
          cases h
          exact v_zret (Or.inr rfl) dX14_characters_122
    · rw [if_pos c6] at h
      refine v_aload_n dX14_characters_35 0 rfl rfl ?_
      obtain ⟨r21, s18, e19, h⟩ := bd_some h
      have k20 := c_X14_generalTime e19
      have r22 : rg r21 := k20.1.2.2
      refine v_callV (st := []) cf14 oc87 k20 (lw_V q3315 q3317 qs256 q311 q3318) rfl yk_X14_generalTime ⟨Nat.le_of_ble_eq_true rfl, Nat.le_of_ble_eq_true rfl⟩ trivial ⟨kc87, trivial⟩ (Nat.le_of_ble_eq_true rfl) rfl dX14_characters_36 ?_
      refine v_if_ne (tgt := 46) dX14_characters_39 r22 (by decide) (fun c23 => ?_) (fun c23 => ?_)
      · rw [if_neg c23] at h
        refine v_iconst dX14_characters_46 ?_
        cases h
        exact v_zret (Or.inl rfl) dX14_characters_47
      · rw [if_pos c23] at h
        refine v_iconst dX14_characters_42 ?_
        refine v_goto (tgt := 47) dX14_characters_43 (by decide) ?_
        cases h
        exact v_zret (Or.inr rfl) dX14_characters_47
  · rw [if_pos c5] at h
    refine v_aload_n dX14_characters_16 0 rfl rfl ?_
    obtain ⟨r27, s24, e25, h⟩ := bd_some h
    have k26 := c_X14_utcTime e25
    have r28 : rg r27 := k26.1.2.2
    refine v_callV (st := []) cf14 oc87 k26 (lw_V q3279 q3281 qs248 q311 q3282) rfl yk_X14_utcTime ⟨Nat.le_of_ble_eq_true rfl, Nat.le_of_ble_eq_true rfl⟩ trivial ⟨kc87, trivial⟩ (Nat.le_of_ble_eq_true rfl) rfl dX14_characters_17 ?_
    refine v_if_ne (tgt := 27) dX14_characters_20 r28 (by decide) (fun c29 => ?_) (fun c29 => ?_)
    · rw [if_neg c29] at h
      refine v_iconst dX14_characters_27 ?_
      cases h
      exact v_zret (Or.inl rfl) dX14_characters_28
    · rw [if_pos c29] at h
      refine v_iconst dX14_characters_23 ?_
      refine v_goto (tgt := 28) dX14_characters_24 (by decide) ?_
      cases h
      exact v_zret (Or.inr rfl) dX14_characters_28

def j_X14_literal_178 (x2 : Int) (x4 : Int) (z0 : Int) (s : vS) : Option (Int × vS) :=
  if 0 ≤ z0 then
    bdv (f_X14_sayNumber z0 s) fun s2 =>
    if x4 = 3 then
      some (1, s2)
    else
      bd (f_X14_holds x2 z0 0 s2) fun r9 s6 =>
      if r9 = 0 then
        some (0, s6)
      else
        some (1, s6)
  else
    some (0, s)
theorem wj_X14_literal_178 {x2 : Int} {x4 : Int} {z0 : Int} {s : vS} {out : Int × vS} (h : j_X14_literal_178 x2 x4 z0 s = some out)  (rx2 : rg x2) (rx4 : rg x4) (rz0 : rg z0) : VW cX14_literal (RX14, (some (vI out.1)), out.2, (some .boolean), 6, 151, 9, []) (P0 []) s 178 [(0, vO 87), (2, vI x2), (4, vI x4)] [vI z0] := by
  unfold j_X14_literal_178 at h
  refine v_istore (L1 := [(7, vI z0), (0, vO 87), (2, vI x2), (4, vI x4)]) dX14_literal_178 (by decide) rfl ?_
  refine v_iload dX14_literal_180 0 rfl ?_
  refine v_if_ge (tgt := 187) dX14_literal_182 rz0 (by decide) (fun c1 => ?_) (fun c1 => ?_)
  · rw [if_pos c1] at h
    refine v_aload_n dX14_literal_187 1 rfl rfl ?_
    refine v_iload dX14_literal_188 0 rfl ?_
    obtain ⟨s2, e3, h⟩ := bdv_some h
    have k4 := c_X14_sayNumber e3 rz0
    refine v_callV (st := []) cf14 oc87 k4 (lw_V q3211 q3213 qs231 q311 q3214) rfl yk_X14_sayNumber ⟨Nat.le_of_ble_eq_true rfl, Nat.le_of_ble_eq_true rfl⟩ trivial ⟨kc87, trivial⟩ (Nat.le_of_ble_eq_true rfl) rfl dX14_literal_190 ?_
    refine v_iload dX14_literal_193 3 rfl ?_
    refine v_iconst dX14_literal_195 ?_
    refine v_icmp_eq (tgt := 210) dX14_literal_196 rx4 (rgl rfl) (by decide) (fun c5 => ?_) (fun c5 => ?_)
    · rw [if_pos c5] at h
      refine v_iconst dX14_literal_210 ?_
      refine v_goto (tgt := 215) dX14_literal_211 (by decide) ?_
      cases h
      exact v_zret (Or.inr rfl) dX14_literal_215
    · rw [if_neg c5] at h
      refine v_aload_n dX14_literal_199 1 rfl rfl ?_
      refine v_iload_n dX14_literal_200 2 rfl rfl ?_
      refine v_iload dX14_literal_201 0 rfl ?_
      refine v_iconst dX14_literal_203 ?_
      obtain ⟨r9, s6, e7, h⟩ := bd_some h
      have k8 := c_X14_holds e7 rx2 rz0 (rgl rfl)
      have r10 : rg r9 := k8.1.2.2
      refine v_callV (st := []) cf14 oc87 k8 (lw_V q3215 q3217 qs232 q311 q3218) rfl yk_X14_holds ⟨Nat.le_of_ble_eq_true rfl, Nat.le_of_ble_eq_true rfl⟩ trivial ⟨kc87, trivial⟩ (Nat.le_of_ble_eq_true rfl) rfl dX14_literal_204 ?_
      refine v_if_eq (tgt := 214) dX14_literal_207 r10 (by decide) (fun c11 => ?_) (fun c11 => ?_)
      · rw [if_pos c11] at h
        refine v_iconst dX14_literal_214 ?_
        cases h
        exact v_zret (Or.inl rfl) dX14_literal_215
      · rw [if_neg c11] at h
        refine v_iconst dX14_literal_210 ?_
        refine v_goto (tgt := 215) dX14_literal_211 (by decide) ?_
        cases h
        exact v_zret (Or.inr rfl) dX14_literal_215
  · rw [if_neg c1] at h
    refine v_iconst dX14_literal_185 ?_
    cases h
    exact v_zret (Or.inl rfl) dX14_literal_186

def j_X14_literal_129 (x1 : Int) (x2 : Int) (x4 : Int) (x5 : Int) (z0 : Int) (s : vS) : Option (Int × vS) :=
  if z0 < 0 then
    if x5 = 3 then
      if x4 = 2 then
        gd (inb x1 (gN s 134)) <|
        gd (inb x1 (gN s 135)) <|
        bd (f_X14_numberOf (gE s 134 x1) (gZ s 135 x1) s) fun r9 s6 =>
        j_X14_literal_178 x2 x4 r9 s6
      else
        j_X14_literal_178 x2 x4 (-1) s
    else
      j_X14_literal_178 x2 x4 (-1) s
  else
    gd (inb z0 (gN s 115)) <|
    j_X14_literal_178 x2 x4 (gE s 115 z0) s
theorem wj_X14_literal_129 {x1 : Int} {x2 : Int} {x4 : Int} {x5 : Int} {z0 : Int} {s : vS} {out : Int × vS} (h : j_X14_literal_129 x1 x2 x4 x5 z0 s = some out)  (rx1 : rg x1) (rx2 : rg x2) (rx4 : rg x4) (rx5 : rg x5) (rz0 : rg z0) : VW cX14_literal (RX14, (some (vI out.1)), out.2, (some .boolean), 6, 151, 9, []) (P0 []) s 129 [(0, vO 87), (1, vI x1), (2, vI x2), (4, vI x4), (5, vI x5)] [vI z0] := by
  unfold j_X14_literal_129 at h
  refine v_istore (L1 := [(6, vI z0), (0, vO 87), (1, vI x1), (2, vI x2), (4, vI x4), (5, vI x5)]) dX14_literal_129 (by decide) rfl ?_
  refine v_iload dX14_literal_131 0 rfl ?_
  refine v_if_lt (tgt := 146) dX14_literal_133 rz0 (by decide) (fun c1 => ?_) (fun c1 => ?_)
  · rw [if_pos c1] at h
    refine v_iload dX14_literal_146 5 rfl ?_
    refine v_iconst dX14_literal_148 ?_
    refine v_icmp_ne (tgt := 177) dX14_literal_149 rx5 (rgl rfl) (by decide) (fun c2 => ?_) (fun c2 => ?_)
    · rw [if_neg c2] at h
      refine v_iconst dX14_literal_177 ?_
      refine v_sub [1, 3, 4] (L1 := [(0, vO 87), (2, vI x2), (4, vI x4)]) rfl ?_
      exact wj_X14_literal_178 h rx2 rx4 (rgl rfl)
    · rw [if_pos c2] at h
      refine v_iload dX14_literal_152 4 rfl ?_
      refine v_iconst dX14_literal_154 ?_
      refine v_icmp_ne (tgt := 177) dX14_literal_155 rx4 (rgl rfl) (by decide) (fun c3 => ?_) (fun c3 => ?_)
      · rw [if_neg c3] at h
        refine v_iconst dX14_literal_177 ?_
        refine v_sub [1, 3, 4] (L1 := [(0, vO 87), (2, vI x2), (4, vI x4)]) rfl ?_
        exact wj_X14_literal_178 h rx2 rx4 (rgl rfl)
      · rw [if_pos c3] at h
        refine v_aload_n dX14_literal_158 1 rfl rfl ?_
        refine v_aload_n dX14_literal_159 1 rfl rfl ?_
        refine v_getS (f := 64) (t := 134) cf14 oc87 rfl rfl rfl (by decide) q2434 dX14_literal_160 ?_
        refine v_iload_n dX14_literal_163 2 rfl rfl ?_
        obtain ⟨g4, h⟩ := gd_some h
        refine v_iald oc134 rx1 g4.1 g4.2 dX14_literal_164 ?_
        refine v_aload_n dX14_literal_165 1 rfl rfl ?_
        refine v_getS (f := 65) (t := 135) cf14 oc87 rfl rfl rfl (by decide) q2435 dX14_literal_166 ?_
        refine v_iload_n dX14_literal_169 2 rfl rfl ?_
        obtain ⟨g5, h⟩ := gd_some h
        refine v_zald oc135 rx1 g5.1 g5.2 dX14_literal_170 ?_
        obtain ⟨r9, s6, e7, h⟩ := bd_some h
        have k8 := c_X14_numberOf e7 (gE_rg _ _ _) (gZ_rg _ _ _)
        have r10 : rg r9 := k8.1.2.2
        refine v_callV (st := []) cf14 oc87 k8 (lw_V q2996 q2998 qs180 q311 q2999) rfl yk_X14_numberOf ⟨Nat.le_of_ble_eq_true rfl, Nat.le_of_ble_eq_true rfl⟩ trivial ⟨kc87, trivial⟩ (Nat.le_of_ble_eq_true rfl) rfl dX14_literal_171 ?_
        refine v_goto (tgt := 178) dX14_literal_174 (by decide) ?_
        refine v_sub [1, 3, 4] (L1 := [(0, vO 87), (2, vI x2), (4, vI x4)]) rfl ?_
        exact wj_X14_literal_178 h rx2 rx4 r10
  · rw [if_neg c1] at h
    refine v_aload_n dX14_literal_136 1 rfl rfl ?_
    refine v_getS (f := 41) (t := 115) cf14 oc87 rfl rfl rfl (by decide) q2411 dX14_literal_137 ?_
    refine v_iload dX14_literal_140 0 rfl ?_
    obtain ⟨g11, h⟩ := gd_some h
    refine v_iald oc115 rz0 g11.1 g11.2 dX14_literal_142 ?_
    refine v_goto (tgt := 178) dX14_literal_143 (by decide) ?_
    refine v_sub [1, 3, 4] (L1 := [(0, vO 87), (2, vI x2), (4, vI x4)]) rfl ?_
    exact wj_X14_literal_178 h rx2 rx4 (gE_rg _ _ _)

def j_X14_literal_108 (x1 : Int) (x2 : Int) (x3 : Int) (x4 : Int) (x5 : Int) (s : vS) : Option (Int × vS) :=
  if x5 = 2 then
    gd (inb x1 (gN s 134)) <|
    bd (f_X14_itemIn x3 (gE s 134 x1) s) fun r6 s3 =>
    j_X14_literal_129 x1 x2 x4 x5 r6 s3
  else
    j_X14_literal_129 x1 x2 x4 x5 (-1) s
theorem wj_X14_literal_108 {x1 : Int} {x2 : Int} {x3 : Int} {x4 : Int} {x5 : Int} {s : vS} {out : Int × vS} (h : j_X14_literal_108 x1 x2 x3 x4 x5 s = some out)  (rx1 : rg x1) (rx2 : rg x2) (rx3 : rg x3) (rx4 : rg x4) (rx5 : rg x5) : VW cX14_literal (RX14, (some (vI out.1)), out.2, (some .boolean), 6, 151, 9, []) (P0 []) s 108 [(0, vO 87), (1, vI x1), (2, vI x2), (3, vI x3), (4, vI x4), (5, vI x5)] [] := by
  unfold j_X14_literal_108 at h
  refine v_iload dX14_literal_108 5 rfl ?_
  refine v_iconst dX14_literal_110 ?_
  refine v_icmp_ne (tgt := 128) dX14_literal_111 rx5 (rgl rfl) (by decide) (fun c1 => ?_) (fun c1 => ?_)
  · rw [if_neg c1] at h
    refine v_iconst dX14_literal_128 ?_
    refine v_sub [0, 1, 2, 4, 5] (L1 := [(0, vO 87), (1, vI x1), (2, vI x2), (4, vI x4), (5, vI x5)]) rfl ?_
    exact wj_X14_literal_129 h rx1 rx2 rx4 rx5 (rgl rfl)
  · rw [if_pos c1] at h
    refine v_aload_n dX14_literal_114 0 rfl rfl ?_
    refine v_iload_n dX14_literal_115 3 rfl rfl ?_
    refine v_aload_n dX14_literal_116 0 rfl rfl ?_
    refine v_getS (f := 64) (t := 134) cf14 oc87 rfl rfl rfl (by decide) q2434 dX14_literal_117 ?_
    refine v_iload_n dX14_literal_120 1 rfl rfl ?_
    obtain ⟨g2, h⟩ := gd_some h
    refine v_iald oc134 rx1 g2.1 g2.2 dX14_literal_121 ?_
    obtain ⟨r6, s3, e4, h⟩ := bd_some h
    have k5 := c_X14_itemIn e4 rx3 (gE_rg _ _ _)
    have r7 : rg r6 := k5.1.2.2
    refine v_callV (st := []) cf14 oc87 k5 (lw_V q3133 q3135 qs213 q311 q3136) rfl yk_X14_itemIn ⟨Nat.le_of_ble_eq_true rfl, Nat.le_of_ble_eq_true rfl⟩ trivial ⟨kc87, trivial⟩ (Nat.le_of_ble_eq_true rfl) rfl dX14_literal_122 ?_
    refine v_goto (tgt := 129) dX14_literal_125 (by decide) ?_
    refine v_sub [0, 1, 2, 4, 5] (L1 := [(0, vO 87), (1, vI x1), (2, vI x2), (4, vI x4), (5, vI x5)]) rfl ?_
    exact wj_X14_literal_129 h rx1 rx2 rx4 rx5 r7

def j_X14_literal_510 (x3 : Int) (s : vS) : Option (Int × vS) :=
  bd (f_X14_allMayMiss x3 s) fun r4 s1 =>
  gd (r4 = 0 ∨ r4 = 1) <|
  some (r4, s1)
theorem wj_X14_literal_510 {x3 : Int} {s : vS} {out : Int × vS} (h : j_X14_literal_510 x3 s = some out)  (rx3 : rg x3) : VW cX14_literal (RX14, (some (vI out.1)), out.2, (some .boolean), 6, 151, 9, []) (P0 []) s 510 [(0, vO 87), (3, vI x3)] [] := by
  unfold j_X14_literal_510 at h
  refine v_aload_n dX14_literal_510 0 rfl rfl ?_
  refine v_iload_n dX14_literal_511 1 rfl rfl ?_
  obtain ⟨r4, s1, e2, h⟩ := bd_some h
  have k3 := c_X14_allMayMiss e2 rx3
  have r5 : rg r4 := k3.1.2.2
  refine v_callV (st := []) cf14 oc87 k3 (lw_V q3326 q3328 qs258 q311 q3329) rfl yk_X14_allMayMiss ⟨Nat.le_of_ble_eq_true rfl, Nat.le_of_ble_eq_true rfl⟩ trivial ⟨kc87, trivial⟩ (Nat.le_of_ble_eq_true rfl) rfl dX14_literal_512 ?_
  refine v_goto (tgt := 524) dX14_literal_515 (by decide) ?_
  obtain ⟨g6, h⟩ := gd_some h
  cases h
  exact v_zret g6 dX14_literal_524

def j_X14_literal_471 (x1 : Int) (x2 : Int) (x3 : Int) (x4 : Int) (x5 : Int) (s : vS) : Option (Int × vS) :=
  if x4 = 16 then
    some (0, s)
  else
    if x5 = 12 then
      gd (inb x1 (gN s 137)) <|
      if (gE s 137 x1) ≤ 0 then
        if x4 = 12 then
          j_X14_literal_510 x3 s
        else
          if x4 = 13 then
            j_X14_literal_510 x3 s
          else
            bd (f_X14_holdsSize x2 0 s) fun r10 s7 =>
            gd (r10 = 0 ∨ r10 = 1) <|
            some (r10, s7)
      else
        some (0, s)
    else
      some (0, s)
theorem wj_X14_literal_471 {x1 : Int} {x2 : Int} {x3 : Int} {x4 : Int} {x5 : Int} {s : vS} {out : Int × vS} (h : j_X14_literal_471 x1 x2 x3 x4 x5 s = some out)  (rx1 : rg x1) (rx2 : rg x2) (rx3 : rg x3) (rx4 : rg x4) (rx5 : rg x5) : VW cX14_literal (RX14, (some (vI out.1)), out.2, (some .boolean), 6, 151, 9, []) (P0 []) s 471 [(0, vO 87), (1, vI x1), (2, vI x2), (3, vI x3), (4, vI x4), (5, vI x5)] [] := by
  unfold j_X14_literal_471 at h
  refine v_iload dX14_literal_471 4 rfl ?_
  refine v_bipush dX14_literal_473 rfl ?_
  refine v_icmp_eq (tgt := 494) dX14_literal_475 rx4 (rgl rfl) (by decide) (fun c1 => ?_) (fun c1 => ?_)
  · rw [if_pos c1] at h
    refine v_iconst dX14_literal_494 ?_
    cases h
    exact v_zret (Or.inl rfl) dX14_literal_495
  · rw [if_neg c1] at h
    refine v_iload dX14_literal_478 5 rfl ?_
    refine v_bipush dX14_literal_480 rfl ?_
    refine v_icmp_ne (tgt := 494) dX14_literal_482 rx5 (rgl rfl) (by decide) (fun c2 => ?_) (fun c2 => ?_)
    · rw [if_neg c2] at h
      refine v_iconst dX14_literal_494 ?_
      cases h
      exact v_zret (Or.inl rfl) dX14_literal_495
    · rw [if_pos c2] at h
      refine v_aload_n dX14_literal_485 0 rfl rfl ?_
      refine v_getS (f := 67) (t := 137) cf14 oc87 rfl rfl rfl (by decide) q2437 dX14_literal_486 ?_
      refine v_iload_n dX14_literal_489 1 rfl rfl ?_
      obtain ⟨g3, h⟩ := gd_some h
      refine v_iald oc137 rx1 g3.1 g3.2 dX14_literal_490 ?_
      refine v_if_le (tgt := 496) dX14_literal_491 (gE_rg _ _ _) (by decide) (fun c4 => ?_) (fun c4 => ?_)
      · rw [if_pos c4] at h
        refine v_iload dX14_literal_496 4 rfl ?_
        refine v_bipush dX14_literal_498 rfl ?_
        refine v_icmp_eq (tgt := 510) dX14_literal_500 rx4 (rgl rfl) (by decide) (fun c5 => ?_) (fun c5 => ?_)
        · rw [if_pos c5] at h
          refine v_sub [0, 3] (L1 := [(0, vO 87), (3, vI x3)]) rfl ?_
          exact wj_X14_literal_510 h rx3
        · rw [if_neg c5] at h
          refine v_iload dX14_literal_503 4 rfl ?_
          refine v_bipush dX14_literal_505 rfl ?_
          refine v_icmp_ne (tgt := 518) dX14_literal_507 rx4 (rgl rfl) (by decide) (fun c6 => ?_) (fun c6 => ?_)
          · rw [if_neg c6] at h
            refine v_aload_n dX14_literal_518 0 rfl rfl ?_
            refine v_iload_n dX14_literal_519 2 rfl rfl ?_
            refine v_iconst dX14_literal_520 ?_
            obtain ⟨r10, s7, e8, h⟩ := bd_some h
            have k9 := c_X14_holdsSize e8 rx2 (rgl rfl)
            have r11 : rg r10 := k9.1.2.2
            refine v_callV (st := []) cf14 oc87 k9 (lw_V q3247 q3249 qs240 q311 q3250) rfl yk_X14_holdsSize ⟨Nat.le_of_ble_eq_true rfl, Nat.le_of_ble_eq_true rfl⟩ trivial ⟨kc87, trivial⟩ (Nat.le_of_ble_eq_true rfl) rfl dX14_literal_521 ?_
            obtain ⟨g12, h⟩ := gd_some h
            cases h
            exact v_zret g12 dX14_literal_524
          · rw [if_pos c6] at h
            refine v_sub [0, 3] (L1 := [(0, vO 87), (3, vI x3)]) rfl ?_
            exact wj_X14_literal_510 h rx3
      · rw [if_neg c4] at h
        refine v_iconst dX14_literal_494 ?_
        cases h
        exact v_zret (Or.inl rfl) dX14_literal_495

def E_X14_literal_317 (x2 : Int) (rv : Option vA) (σo : vS) (q : vS) : Prop := ∀ (s' : vS), q = s' → VW cX14_literal (RX14, rv, σo, (some .boolean), 6, 151, 9, []) (P0 []) s' 335 [(0, vO 87), (2, vI x2)] []
def l_X14_literal_317 : Nat → Int → vS → Option (vS)
  | 0, _, _ => none
  | n + 1, x2, s =>
    if (m32 (gI s 87 107) 8) ≤ 0 then
      some s
    else
      bdv (f_X14_sayBit 0 s) fun s2 =>
      l_X14_literal_317 n x2 s2
theorem wl_X14_literal_317 {x2 : Int} {rv : Option vA} {σo : vS}  (rx2 : rg x2) : ∀ (n : Nat) (s : vS) (q : vS), l_X14_literal_317 n x2 s = some q → E_X14_literal_317 x2 rv σo q → VW cX14_literal (RX14, rv, σo, (some .boolean), 6, 151, 9, []) (P0 []) s 317 [(0, vO 87), (2, vI x2)] [] := by
  intro n
  induction n with
  | zero => intro s q h; cases h
  | succ n ih =>
    intro s q h  hE
    unfold l_X14_literal_317 at h
    refine v_aload_n dX14_literal_317 0 rfl rfl ?_
    refine v_getI (f := 107) cf14 oc87 rfl (by decide) q2477 dX14_literal_318 ?_
    refine v_bipush dX14_literal_321 rfl ?_
    refine v_irem dX14_literal_323 (rgl rfl) (by decide) ?_
    refine v_if_le (tgt := 335) dX14_literal_324 (m32_rg _ _) (by decide) (fun c1 => ?_) (fun c1 => ?_)
    · rw [if_pos c1] at h
      cases h
      exact hE _ rfl 
    · rw [if_neg c1] at h
      refine v_aload_n dX14_literal_327 0 rfl rfl ?_
      refine v_iconst dX14_literal_328 ?_
      obtain ⟨s2, e3, h⟩ := bdv_some h
      have k4 := c_X14_sayBit e3 (rgl rfl)
      refine v_callV (st := []) cf14 oc87 k4 (lw_V q3227 q3229 qs235 q311 q3230) rfl yk_X14_sayBit ⟨Nat.le_of_ble_eq_true rfl, Nat.le_of_ble_eq_true rfl⟩ trivial ⟨kc87, trivial⟩ (Nat.le_of_ble_eq_true rfl) rfl dX14_literal_329 ?_
      refine v_goto (tgt := 317) dX14_literal_332 (by decide) ?_
      exact ih s2 _ h  hE

def E_X14_literal_338 (x2 : Int) (rv : Option vA) (σo : vS) (q : vS) : Prop := ∀ (s' : vS), q = s' → VW cX14_literal (RX14, rv, σo, (some .boolean), 6, 151, 9, []) (P0 []) s' 395 [(0, vO 87), (2, vI x2)] []
def E_X14_literal_353 (x2 : Int) (x6 : Int) (rv : Option vA) (σo : vS) (q : Int × vS) : Prop := ∀ (x7' : Int) (s' : vS), q = (x7', s') → rg x7' → VW cX14_literal (RX14, rv, σo, (some .boolean), 6, 151, 9, []) (P0 []) s' 383 [(0, vO 87), (2, vI x2), (6, vI x6), (7, vI x7')] []
def l_X14_literal_353 : Nat → Int → Int → Int → Int → vS → Option (Int × vS)
  | 0, _, _, _, _, _ => none
  | n + 1, x2, x6, x7, x8, s =>
    if 8 ≤ x8 then
      some (x7, s)
    else
      gd (inb (w32 (x6 + x8)) (gN s 162)) <|
      vl (or32 (shl32 x7 1) (gE s 162 (w32 (x6 + x8)))) fun y3 =>
      vl (w32 (x8 + 1)) fun y6 =>
      l_X14_literal_353 n x2 x6 y3 y6 s
theorem wl_X14_literal_353 {x2 : Int} {x6 : Int} {rv : Option vA} {σo : vS}  (rx2 : rg x2) (rx6 : rg x6) : ∀ (n : Nat) (x7 : Int) (x8 : Int) (s : vS) (q : Int × vS), l_X14_literal_353 n x2 x6 x7 x8 s = some q → rg x7 → rg x8 → E_X14_literal_353 x2 x6 rv σo q → VW cX14_literal (RX14, rv, σo, (some .boolean), 6, 151, 9, []) (P0 []) s 353 [(0, vO 87), (2, vI x2), (6, vI x6), (7, vI x7), (8, vI x8)] [] := by
  intro n
  induction n with
  | zero => intro x7 x8 s q h; cases h
  | succ n ih =>
    intro x7 x8 s q h rx7 rx8 hE
    unfold l_X14_literal_353 at h
    refine v_iload dX14_literal_353 4 rfl ?_
    refine v_bipush dX14_literal_355 rfl ?_
    refine v_icmp_ge (tgt := 383) dX14_literal_357 rx8 (rgl rfl) (by decide) (fun c1 => ?_) (fun c1 => ?_)
    · rw [if_pos c1] at h
      cases h
      refine v_sub [0, 1, 2, 3] (L1 := [(0, vO 87), (2, vI x2), (6, vI x6), (7, vI x7)]) rfl ?_
      exact hE _ _ rfl rx7
    · rw [if_neg c1] at h
      refine v_iload dX14_literal_360 3 rfl ?_
      refine v_iconst dX14_literal_362 ?_
      refine v_ishl dX14_literal_363 ?_
      refine v_aload_n dX14_literal_364 0 rfl rfl ?_
      refine v_getS (f := 108) (t := 162) cf14 oc87 rfl rfl rfl (by decide) q2478 dX14_literal_365 ?_
      refine v_iload dX14_literal_368 2 rfl ?_
      refine v_iload dX14_literal_370 4 rfl ?_
      refine v_iadd dX14_literal_372 ?_
      obtain ⟨g2, h⟩ := gd_some h
      refine v_iald oc162 (w32_rg _) g2.1 g2.2 dX14_literal_373 ?_
      refine v_ior dX14_literal_374 ?_
      obtain ⟨y3, e4, h⟩ := vl_some h
      rw [← e4]
      have r5 : rg y3 := by rw [e4]; exact or32_rg _ _
      refine v_istore (L1 := [(7, vI y3), (0, vO 87), (2, vI x2), (6, vI x6), (8, vI x8)]) dX14_literal_375 (by decide) rfl ?_
      obtain ⟨y6, e7, h⟩ := vl_some h
      refine v_iinc (L1 := [(8, vI (w32 (x8 + 1))), (7, vI y3), (0, vO 87), (2, vI x2), (6, vI x6)]) dX14_literal_377 4 rfl (by decide) rfl ?_
      rw [← e7]
      have r8 : rg y6 := by rw [e7]; exact w32_rg _
      refine v_goto (tgt := 353) dX14_literal_380 (by decide) ?_
      refine v_sub [2, 3, 4, 1, 0] (L1 := [(0, vO 87), (2, vI x2), (6, vI x6), (7, vI y3), (8, vI y6)]) rfl ?_
      exact ih y3 y6 s _ h r5 r8 hE

def l_X14_literal_338 : Nat → Int → Int → vS → Option (vS)
  | 0, _, _, _ => none
  | n + 1, x2, x6, s =>
    if (gI s 87 107) ≤ x6 then
      some s
    else
      lq_1 (l_X14_literal_353 FU x2 x6 0 0 s) fun y2 s3 =>
      bdv (f_X14_say y2 s3) fun s6 =>
      vl (w32 (x6 + 8)) fun y9 =>
      l_X14_literal_338 n x2 y9 s6
theorem wl_X14_literal_338 {x2 : Int} {rv : Option vA} {σo : vS}  (rx2 : rg x2) : ∀ (n : Nat) (x6 : Int) (s : vS) (q : vS), l_X14_literal_338 n x2 x6 s = some q → rg x6 → E_X14_literal_338 x2 rv σo q → VW cX14_literal (RX14, rv, σo, (some .boolean), 6, 151, 9, []) (P0 []) s 338 [(0, vO 87), (2, vI x2), (6, vI x6)] [] := by
  intro n
  induction n with
  | zero => intro x6 s q h; cases h
  | succ n ih =>
    intro x6 s q h rx6 hE
    unfold l_X14_literal_338 at h
    refine v_iload dX14_literal_338 2 rfl ?_
    refine v_aload_n dX14_literal_340 0 rfl rfl ?_
    refine v_getI (f := 107) cf14 oc87 rfl (by decide) q2477 dX14_literal_341 ?_
    refine v_icmp_ge (tgt := 395) dX14_literal_344 rx6 (gI_rg _ _ _) (by decide) (fun c1 => ?_) (fun c1 => ?_)
    · rw [if_pos c1] at h
      cases h
      refine v_sub [0, 1] (L1 := [(0, vO 87), (2, vI x2)]) rfl ?_
      exact hE _ rfl 
    · rw [if_neg c1] at h
      refine v_iconst dX14_literal_347 ?_
      refine v_istore (L1 := [(7, vI 0), (0, vO 87), (2, vI x2), (6, vI x6)]) dX14_literal_348 (by decide) rfl ?_
      refine v_iconst dX14_literal_350 ?_
      refine v_istore (L1 := [(8, vI 0), (7, vI 0), (0, vO 87), (2, vI x2), (6, vI x6)]) dX14_literal_351 (by decide) rfl ?_
      refine v_sub [2, 3, 4, 1, 0] (L1 := [(0, vO 87), (2, vI x2), (6, vI x6), (7, vI 0), (8, vI 0)]) rfl ?_
      obtain ⟨y2, s3, e4, h⟩ := lq_1_some h
      refine wl_X14_literal_353 rx2 rx6 FU 0 0 s _ e4 (rgl rfl) (rgl rfl) ?_
      unfold E_X14_literal_353
      intro y2' s3' z_ r5
      cases z_
      refine v_aload_n dX14_literal_383 0 rfl rfl ?_
      refine v_iload dX14_literal_384 3 rfl ?_
      obtain ⟨s6, e7, h⟩ := bdv_some h
      have k8 := c_X14_say e7 r5
      refine v_callV (st := []) cf14 oc87 k8 (lw_V q3207 q3209 qs230 q311 q3210) rfl yk_X14_say ⟨Nat.le_of_ble_eq_true rfl, Nat.le_of_ble_eq_true rfl⟩ trivial ⟨kc87, trivial⟩ (Nat.le_of_ble_eq_true rfl) rfl dX14_literal_386 ?_
      obtain ⟨y9, e10, h⟩ := vl_some h
      refine v_iinc (L1 := [(6, vI (w32 (x6 + 8))), (0, vO 87), (2, vI x2), (7, vI y2)]) dX14_literal_389 2 rfl (by decide) rfl ?_
      rw [← e10]
      have r11 : rg y9 := by rw [e10]; exact w32_rg _
      refine v_goto (tgt := 338) dX14_literal_392 (by decide) ?_
      refine v_sub [1, 2, 0] (L1 := [(0, vO 87), (2, vI x2), (6, vI y9)]) rfl ?_
      exact ih y9 s6 _ h r11 hE

def j_X14_literal_307 (x1 : Int) (x2 : Int) (s : vS) : Option (Int × vS) :=
  gd (inb x1 (gN s 134)) <|
  bdv (f_X14_bitsOfText (gE s 134 x1) s) fun s2 =>
  lq_0 (l_X14_literal_317 FU x2 s2) fun s5 =>
  lq_0 (l_X14_literal_338 FU x2 0 s5) fun s7 =>
  bd (f_X14_holdsSize x2 (gI s7 87 105) s7) fun r12 s9 =>
  gd (r12 = 0 ∨ r12 = 1) <|
  some (r12, s9)
theorem wj_X14_literal_307 {x1 : Int} {x2 : Int} {s : vS} {out : Int × vS} (h : j_X14_literal_307 x1 x2 s = some out)  (rx1 : rg x1) (rx2 : rg x2) : VW cX14_literal (RX14, (some (vI out.1)), out.2, (some .boolean), 6, 151, 9, []) (P0 []) s 307 [(0, vO 87), (1, vI x1), (2, vI x2)] [] := by
  unfold j_X14_literal_307 at h
  refine v_aload_n dX14_literal_307 0 rfl rfl ?_
  refine v_aload_n dX14_literal_308 0 rfl rfl ?_
  refine v_getS (f := 64) (t := 134) cf14 oc87 rfl rfl rfl (by decide) q2434 dX14_literal_309 ?_
  refine v_iload_n dX14_literal_312 1 rfl rfl ?_
  obtain ⟨g1, h⟩ := gd_some h
  refine v_iald oc134 rx1 g1.1 g1.2 dX14_literal_313 ?_
  obtain ⟨s2, e3, h⟩ := bdv_some h
  have k4 := c_X14_bitsOfText e3 (gE_rg _ _ _)
  refine v_callV (st := []) cf14 oc87 k4 (lw_V q3223 q3225 qs234 q311 q3226) rfl yk_X14_bitsOfText ⟨Nat.le_of_ble_eq_true rfl, Nat.le_of_ble_eq_true rfl⟩ trivial ⟨kc87, trivial⟩ (Nat.le_of_ble_eq_true rfl) rfl dX14_literal_314 ?_
  refine v_sub [0, 2] (L1 := [(0, vO 87), (2, vI x2)]) rfl ?_
  obtain ⟨s5, e6, h⟩ := lq_0_some h
  refine wl_X14_literal_317 rx2 FU  s2 _ e6  ?_
  unfold E_X14_literal_317
  intro s5' z_
  cases z_
  refine v_iconst dX14_literal_335 ?_
  refine v_istore (L1 := [(6, vI 0), (0, vO 87), (2, vI x2)]) dX14_literal_336 (by decide) rfl ?_
  refine v_sub [1, 2, 0] (L1 := [(0, vO 87), (2, vI x2), (6, vI 0)]) rfl ?_
  obtain ⟨s7, e8, h⟩ := lq_0_some h
  refine wl_X14_literal_338 rx2 FU 0 s5 _ e8 (rgl rfl) ?_
  unfold E_X14_literal_338
  intro s7' z_
  cases z_
  refine v_aload_n dX14_literal_395 0 rfl rfl ?_
  refine v_iload_n dX14_literal_396 1 rfl rfl ?_
  refine v_aload_n dX14_literal_397 0 rfl rfl ?_
  refine v_getI (f := 105) cf14 oc87 rfl (by decide) q2475 dX14_literal_398 ?_
  obtain ⟨r12, s9, e10, h⟩ := bd_some h
  have k11 := c_X14_holdsSize e10 rx2 (gI_rg _ _ _)
  have r13 : rg r12 := k11.1.2.2
  refine v_callV (st := []) cf14 oc87 k11 (lw_V q3247 q3249 qs240 q311 q3250) rfl yk_X14_holdsSize ⟨Nat.le_of_ble_eq_true rfl, Nat.le_of_ble_eq_true rfl⟩ trivial ⟨kc87, trivial⟩ (Nat.le_of_ble_eq_true rfl) rfl dX14_literal_401 ?_
  obtain ⟨g14, h⟩ := gd_some h
  cases h
  exact v_zret g14 dX14_literal_404

def j_X14_literal_265 (x2 : Int) (x3 : Int) (s : vS) : Option (Int × vS) :=
  bd (f_X14_writeBits x2 s) fun r4 s1 =>
  if r4 = 0 then
    some (0, s1)
  else
    bd (f_X14_isFew x3 s1) fun r10 s7 =>
    if r10 = 0 then
      some (0, s7)
    else
      some (1, s7)
theorem wj_X14_literal_265 {x2 : Int} {x3 : Int} {s : vS} {out : Int × vS} (h : j_X14_literal_265 x2 x3 s = some out)  (rx2 : rg x2) (rx3 : rg x3) : VW cX14_literal (RX14, (some (vI out.1)), out.2, (some .boolean), 6, 151, 9, []) (P0 []) s 265 [(0, vO 87), (2, vI x2), (3, vI x3)] [] := by
  unfold j_X14_literal_265 at h
  refine v_aload_n dX14_literal_265 0 rfl rfl ?_
  refine v_iload_n dX14_literal_266 1 rfl rfl ?_
  obtain ⟨r4, s1, e2, h⟩ := bd_some h
  have k3 := c_X14_writeBits e2 rx2
  have r5 : rg r4 := k3.1.2.2
  refine v_callV (st := []) cf14 oc87 k3 (lw_V q3235 q3237 qs237 q311 q3238) rfl yk_X14_writeBits ⟨Nat.le_of_ble_eq_true rfl, Nat.le_of_ble_eq_true rfl⟩ trivial ⟨kc87, trivial⟩ (Nat.le_of_ble_eq_true rfl) rfl dX14_literal_267 ?_
  refine v_if_eq (tgt := 285) dX14_literal_270 r5 (by decide) (fun c6 => ?_) (fun c6 => ?_)
  · rw [if_pos c6] at h
    refine v_iconst dX14_literal_285 ?_
    cases h
    exact v_zret (Or.inl rfl) dX14_literal_286
  · rw [if_neg c6] at h
    refine v_aload_n dX14_literal_273 0 rfl rfl ?_
    refine v_iload_n dX14_literal_274 2 rfl rfl ?_
    obtain ⟨r10, s7, e8, h⟩ := bd_some h
    have k9 := c_X14_isFew e8 rx3
    have r11 : rg r10 := k9.1.2.2
    refine v_callV (st := []) cf14 oc87 k9 (lw_V q3255 q3257 qs242 q311 q3258) rfl yk_X14_isFew ⟨Nat.le_of_ble_eq_true rfl, Nat.le_of_ble_eq_true rfl⟩ trivial ⟨kc87, trivial⟩ (Nat.le_of_ble_eq_true rfl) rfl dX14_literal_275 ?_
    refine v_if_eq (tgt := 285) dX14_literal_278 r11 (by decide) (fun c12 => ?_) (fun c12 => ?_)
    · rw [if_pos c12] at h
      refine v_iconst dX14_literal_285 ?_
      cases h
      exact v_zret (Or.inl rfl) dX14_literal_286
    · rw [if_neg c12] at h
      refine v_iconst dX14_literal_281 ?_
      refine v_goto (tgt := 286) dX14_literal_282 (by decide) ?_
      cases h
      exact v_zret (Or.inr rfl) dX14_literal_286

def j_X14_literal_234 (x1 : Int) (x2 : Int) (x3 : Int) (s : vS) : Option (Int × vS) :=
  gd (inb x1 (gN s 134)) <|
  bdv (f_X14_bitsOfText (gE s 134 x1) s) fun s2 =>
  j_X14_literal_265 x2 x3 s2
theorem wj_X14_literal_234 {x1 : Int} {x2 : Int} {x3 : Int} {s : vS} {out : Int × vS} (h : j_X14_literal_234 x1 x2 x3 s = some out)  (rx1 : rg x1) (rx2 : rg x2) (rx3 : rg x3) : VW cX14_literal (RX14, (some (vI out.1)), out.2, (some .boolean), 6, 151, 9, []) (P0 []) s 234 [(0, vO 87), (1, vI x1), (2, vI x2), (3, vI x3)] [] := by
  unfold j_X14_literal_234 at h
  refine v_aload_n dX14_literal_234 0 rfl rfl ?_
  refine v_aload_n dX14_literal_235 0 rfl rfl ?_
  refine v_getS (f := 64) (t := 134) cf14 oc87 rfl rfl rfl (by decide) q2434 dX14_literal_236 ?_
  refine v_iload_n dX14_literal_239 1 rfl rfl ?_
  obtain ⟨g1, h⟩ := gd_some h
  refine v_iald oc134 rx1 g1.1 g1.2 dX14_literal_240 ?_
  obtain ⟨s2, e3, h⟩ := bdv_some h
  have k4 := c_X14_bitsOfText e3 (gE_rg _ _ _)
  refine v_callV (st := []) cf14 oc87 k4 (lw_V q3223 q3225 qs234 q311 q3226) rfl yk_X14_bitsOfText ⟨Nat.le_of_ble_eq_true rfl, Nat.le_of_ble_eq_true rfl⟩ trivial ⟨kc87, trivial⟩ (Nat.le_of_ble_eq_true rfl) rfl dX14_literal_241 ?_
  refine v_goto (tgt := 265) dX14_literal_244 (by decide) ?_
  refine v_sub [0, 2, 3] (L1 := [(0, vO 87), (2, vI x2), (3, vI x3)]) rfl ?_
  exact wj_X14_literal_265 h rx2 rx3

def j_X14_literal_54 (x5 : Int) (z1 : Int) (s : vS) : Option (Int × vS) :=
  bdv (f_X14_say z1 s) fun s1 =>
  if x5 = 106 then
    some (1, s1)
  else
    if x5 = 67 then
      some (1, s1)
    else
      some (0, s1)
theorem wj_X14_literal_54 {x5 : Int} {z1 : Int} {s : vS} {out : Int × vS} (h : j_X14_literal_54 x5 z1 s = some out)  (rx5 : rg x5) (rz1 : rg z1) : VW cX14_literal (RX14, (some (vI out.1)), out.2, (some .boolean), 6, 151, 9, []) (P0 []) s 54 [(5, vI x5)] [vI z1, vO 87] := by
  unfold j_X14_literal_54 at h
  obtain ⟨s1, e2, h⟩ := bdv_some h
  have k3 := c_X14_say e2 rz1
  refine v_callV (st := []) cf14 oc87 k3 (lw_V q3207 q3209 qs230 q311 q3210) rfl yk_X14_say ⟨Nat.le_of_ble_eq_true rfl, Nat.le_of_ble_eq_true rfl⟩ trivial trivial (Nat.le_of_ble_eq_true rfl) rfl dX14_literal_54 ?_
  refine v_iload dX14_literal_57 0 rfl ?_
  refine v_bipush dX14_literal_59 rfl ?_
  refine v_icmp_eq (tgt := 71) dX14_literal_61 rx5 (rgl rfl) (by decide) (fun c4 => ?_) (fun c4 => ?_)
  · rw [if_pos c4] at h
    refine v_iconst dX14_literal_71 ?_
    refine v_goto (tgt := 76) dX14_literal_72 (by decide) ?_
    cases h
    exact v_zret (Or.inr rfl) dX14_literal_76
  · rw [if_neg c4] at h
    refine v_iload dX14_literal_64 0 rfl ?_
    refine v_bipush dX14_literal_66 rfl ?_
    refine v_icmp_ne (tgt := 75) dX14_literal_68 rx5 (rgl rfl) (by decide) (fun c5 => ?_) (fun c5 => ?_)
    · rw [if_neg c5] at h
      refine v_iconst dX14_literal_75 ?_
      cases h
      exact v_zret (Or.inl rfl) dX14_literal_76
    · rw [if_pos c5] at h
      refine v_iconst dX14_literal_71 ?_
      refine v_goto (tgt := 76) dX14_literal_72 (by decide) ?_
      cases h
      exact v_zret (Or.inr rfl) dX14_literal_76

def f_X14_literal (x1 : Int) (s : vS) : Option (Int × vS) :=
  gd (inb x1 (gN s 138)) <|
  vl (gE s 138 x1) fun y2 =>
  bd (f_X14_root y2 s) fun r8 s5 =>
  gd (inb r8 (gN s5 97)) <|
  vl (gE s5 97 r8) fun y11 =>
  gd (inb x1 (gN s5 132)) <|
  vl (gE s5 132 x1) fun y15 =>
  stp (sI s5 87 105 0) fun s18 =>
  if y11 = 0 then
    if y15 = 106 then
      j_X14_literal_54 y15 255 s18
    else
      j_X14_literal_54 y15 0 s18
  else
    if y11 = 1 then
      if y15 = 85 then
        some (1, s18)
      else
        some (0, s18)
    else
      if y11 = 2 then
        j_X14_literal_108 x1 y2 r8 y11 y15 s18
      else
        if y11 = 3 then
          j_X14_literal_108 x1 y2 r8 y11 y15 s18
        else
          if y11 = 4 then
            if y15 = 4 then
              j_X14_literal_234 x1 y2 r8 s18
            else
              if y15 = 5 then
                j_X14_literal_234 x1 y2 r8 s18
              else
                if y15 = 12 then
                  bd (f_X14_bitsOfItems x1 r8 s18) fun r51 s48 =>
                  if r51 = 0 then
                    some (0, s48)
                  else
                    j_X14_literal_265 y2 r8 s48
                else
                  some (0, s18)
          else
            if y11 = 5 then
              if y15 = 4 then
                j_X14_literal_307 x1 y2 s18
              else
                if y15 = 5 then
                  j_X14_literal_307 x1 y2 s18
                else
                  some (0, s18)
            else
              if y11 = 6 then
                if y15 = 12 then
                  bd (f_X14_objectOf x1 s18) fun r40 s37 =>
                  if r40 = 0 then
                    some (0, s37)
                  else
                    some (1, s37)
                else
                  some (0, s18)
              else
                if y11 < 7 then
                  j_X14_literal_471 x1 y2 r8 y11 y15 s18
                else
                  if 11 < y11 then
                    j_X14_literal_471 x1 y2 r8 y11 y15 s18
                  else
                    if y15 = 6 then
                      bd (f_X14_characters x1 y2 y11 s18) fun r33 s30 =>
                      if r33 = 0 then
                        some (0, s30)
                      else
                        some (1, s30)
                    else
                      some (0, s18)
theorem yk_X14_literal : yOk yX14_literal 1 := ⟨by decide, by decide, by decide +kernel⟩
theorem c_X14_literal {x1 : Int} {s : vS} {out : Int × vS} (h : f_X14_literal x1 s = some out)  (rx1 : rg x1) : VC yX14_literal cX14_literal 9 (some .boolean) 6 151 [vO 87, vI x1] s (some (vI out.1)) out.2 [] := by
  unfold f_X14_literal at h
  refine VC.of RX14 (by decide) rfl (Nat.le_of_ble_eq_true rfl) ?_
  show VW cX14_literal (RX14, (some (vI out.1)), out.2, (some .boolean), 6, 151, 9, []) (P0 []) s 0 [(0, vO 87), (1, vI x1)] []
  refine v_aload_n dX14_literal_0 0 rfl rfl ?_
  refine v_getS (f := 68) (t := 138) cf14 oc87 rfl rfl rfl (by decide) q2438 dX14_literal_1 ?_
  refine v_iload_n dX14_literal_4 1 rfl rfl ?_
  obtain ⟨g1, h⟩ := gd_some h
  refine v_iald oc138 rx1 g1.1 g1.2 dX14_literal_5 ?_
  obtain ⟨y2, e3, h⟩ := vl_some h
  rw [← e3]
  have r4 : rg y2 := by rw [e3]; exact gE_rg _ _ _
  refine v_istore_n (L1 := [(2, vI y2), (0, vO 87), (1, vI x1)]) dX14_literal_6 rfl (by decide) rfl ?_
  refine v_aload_n dX14_literal_7 1 rfl rfl ?_
  refine v_iload_n dX14_literal_8 0 rfl rfl ?_
  obtain ⟨r8, s5, e6, h⟩ := bd_some h
  have k7 := c_X14_root e6 r4
  have r9 : rg r8 := k7.1.2.2
  refine v_callV (st := []) cf14 oc87 k7 (lw_V q3129 q3131 qs212 q311 q3132) rfl yk_X14_root ⟨Nat.le_of_ble_eq_true rfl, Nat.le_of_ble_eq_true rfl⟩ trivial ⟨kc87, trivial⟩ (Nat.le_of_ble_eq_true rfl) rfl dX14_literal_9 ?_
  refine v_istore_n (L1 := [(3, vI r8), (2, vI y2), (0, vO 87), (1, vI x1)]) dX14_literal_12 rfl (by decide) rfl ?_
  refine v_aload_n dX14_literal_13 2 rfl rfl ?_
  refine v_getS (f := 21) (t := 97) cf14 oc87 rfl rfl rfl (by decide) q2391 dX14_literal_14 ?_
  refine v_iload_n dX14_literal_17 0 rfl rfl ?_
  obtain ⟨g10, h⟩ := gd_some h
  refine v_iald oc97 r9 g10.1 g10.2 dX14_literal_18 ?_
  obtain ⟨y11, e12, h⟩ := vl_some h
  rw [← e12]
  have r13 : rg y11 := by rw [e12]; exact gE_rg _ _ _
  refine v_istore (L1 := [(4, vI y11), (3, vI r8), (2, vI y2), (0, vO 87), (1, vI x1)]) dX14_literal_19 (by decide) rfl ?_
  refine v_aload_n dX14_literal_21 3 rfl rfl ?_
  refine v_getS (f := 62) (t := 132) cf14 oc87 rfl rfl rfl (by decide) q2432 dX14_literal_22 ?_
  refine v_iload_n dX14_literal_25 4 rfl rfl ?_
  obtain ⟨g14, h⟩ := gd_some h
  refine v_iald oc132 rx1 g14.1 g14.2 dX14_literal_26 ?_
  obtain ⟨y15, e16, h⟩ := vl_some h
  rw [← e16]
  have r17 : rg y15 := by rw [e16]; exact gE_rg _ _ _
  refine v_istore (L1 := [(5, vI y15), (4, vI y11), (3, vI r8), (2, vI y2), (0, vO 87), (1, vI x1)]) dX14_literal_27 (by decide) rfl ?_
  refine v_aload_n dX14_literal_29 4 rfl rfl ?_
  refine v_iconst dX14_literal_30 ?_
  obtain ⟨s18, e19, h⟩ := stp_some h
  refine v_putI (f := 105) cf14 oc87 rfl (by decide) q2475 dX14_literal_31 rfl rfl ?_
  rw [← e19]
  refine v_iload dX14_literal_34 1 rfl ?_
  refine v_if_ne (tgt := 77) dX14_literal_36 r13 (by decide) (fun c20 => ?_) (fun c20 => ?_)
  · rw [if_neg c20] at h
    refine v_iload dX14_literal_77 1 rfl ?_
    refine v_iconst dX14_literal_79 ?_
    refine v_icmp_ne (tgt := 96) dX14_literal_80 r13 (rgl rfl) (by decide) (fun c21 => ?_) (fun c21 => ?_)
    · rw [if_neg c21] at h
      refine v_iload dX14_literal_96 1 rfl ?_
      refine v_iconst dX14_literal_98 ?_
      refine v_icmp_eq (tgt := 108) dX14_literal_99 r13 (rgl rfl) (by decide) (fun c22 => ?_) (fun c22 => ?_)
      · rw [if_pos c22] at h
        refine v_sub [4, 5, 3, 2, 1, 0] (L1 := [(0, vO 87), (1, vI x1), (2, vI y2), (3, vI r8), (4, vI y11), (5, vI y15)]) rfl ?_
        exact wj_X14_literal_108 h rx1 r4 r9 r13 r17
      · rw [if_neg c22] at h
        refine v_iload dX14_literal_102 1 rfl ?_
        refine v_iconst dX14_literal_104 ?_
        refine v_icmp_ne (tgt := 216) dX14_literal_105 r13 (rgl rfl) (by decide) (fun c23 => ?_) (fun c23 => ?_)
        · rw [if_neg c23] at h
          refine v_iload dX14_literal_216 1 rfl ?_
          refine v_iconst dX14_literal_218 ?_
          refine v_icmp_ne (tgt := 287) dX14_literal_219 r13 (rgl rfl) (by decide) (fun c24 => ?_) (fun c24 => ?_)
          · rw [if_neg c24] at h
            refine v_iload dX14_literal_287 1 rfl ?_
            refine v_iconst dX14_literal_289 ?_
            refine v_icmp_ne (tgt := 405) dX14_literal_290 r13 (rgl rfl) (by decide) (fun c25 => ?_) (fun c25 => ?_)
            · rw [if_neg c25] at h
              refine v_iload dX14_literal_405 1 rfl ?_
              refine v_bipush dX14_literal_407 rfl ?_
              refine v_icmp_ne (tgt := 433) dX14_literal_409 r13 (rgl rfl) (by decide) (fun c26 => ?_) (fun c26 => ?_)
              · rw [if_neg c26] at h
                refine v_iload dX14_literal_433 1 rfl ?_
                refine v_bipush dX14_literal_435 rfl ?_
                refine v_icmp_lt (tgt := 471) dX14_literal_437 r13 (rgl rfl) (by decide) (fun c27 => ?_) (fun c27 => ?_)
                · rw [if_pos c27] at h
                  refine v_sub [4, 5, 3, 2, 1, 0] (L1 := [(0, vO 87), (1, vI x1), (2, vI y2), (3, vI r8), (4, vI y11), (5, vI y15)]) rfl ?_
                  exact wj_X14_literal_471 h rx1 r4 r9 r13 r17
                · rw [if_neg c27] at h
                  refine v_iload dX14_literal_440 1 rfl ?_
                  refine v_bipush dX14_literal_442 rfl ?_
                  refine v_icmp_gt (tgt := 471) dX14_literal_444 r13 (rgl rfl) (by decide) (fun c28 => ?_) (fun c28 => ?_)
                  · rw [if_pos c28] at h
                    refine v_sub [4, 5, 3, 2, 1, 0] (L1 := [(0, vO 87), (1, vI x1), (2, vI y2), (3, vI r8), (4, vI y11), (5, vI y15)]) rfl ?_
                    exact wj_X14_literal_471 h rx1 r4 r9 r13 r17
                  · rw [if_neg c28] at h
                    refine v_iload dX14_literal_447 0 rfl ?_
                    refine v_bipush dX14_literal_449 rfl ?_
                    refine v_icmp_ne (tgt := 469) dX14_literal_451 r17 (rgl rfl) (by decide) (fun c29 => ?_) (fun c29 => ?_)
                    · rw [if_neg c29] at h
                      refine v_iconst dX14_literal_469 ?_
                      cases h
                      exact v_zret (Or.inl rfl) dX14_literal_470
                    · rw [if_pos c29] at h
                      refine v_aload_n dX14_literal_454 4 rfl rfl ?_
                      refine v_iload_n dX14_literal_455 5 rfl rfl ?_
                      refine v_iload_n dX14_literal_456 3 rfl rfl ?_
                      refine v_iload dX14_literal_457 1 rfl ?_
                      obtain ⟨r33, s30, e31, h⟩ := bd_some h
                      have k32 := c_X14_characters e31 rx1 r4 r13
                      have r34 : rg r33 := k32.1.2.2
                      refine v_callV (st := []) cf14 oc87 k32 (lw_V q3271 q3273 qs246 q311 q3274) rfl yk_X14_characters ⟨Nat.le_of_ble_eq_true rfl, Nat.le_of_ble_eq_true rfl⟩ trivial ⟨kc87, trivial⟩ (Nat.le_of_ble_eq_true rfl) rfl dX14_literal_459 ?_
                      refine v_if_eq (tgt := 469) dX14_literal_462 r34 (by decide) (fun c35 => ?_) (fun c35 => ?_)
                      · rw [if_pos c35] at h
                        refine v_iconst dX14_literal_469 ?_
                        cases h
                        exact v_zret (Or.inl rfl) dX14_literal_470
                      · rw [if_neg c35] at h
                        refine v_iconst dX14_literal_465 ?_
                        refine v_goto (tgt := 470) dX14_literal_466 (by decide) ?_
                        cases h
                        exact v_zret (Or.inr rfl) dX14_literal_470
              · rw [if_pos c26] at h
                refine v_iload dX14_literal_412 0 rfl ?_
                refine v_bipush dX14_literal_414 rfl ?_
                refine v_icmp_ne (tgt := 431) dX14_literal_416 r17 (rgl rfl) (by decide) (fun c36 => ?_) (fun c36 => ?_)
                · rw [if_neg c36] at h
                  refine v_iconst dX14_literal_431 ?_
                  cases h
                  exact v_zret (Or.inl rfl) dX14_literal_432
                · rw [if_pos c36] at h
                  refine v_aload_n dX14_literal_419 4 rfl rfl ?_
                  refine v_iload_n dX14_literal_420 5 rfl rfl ?_
                  obtain ⟨r40, s37, e38, h⟩ := bd_some h
                  have k39 := c_X14_objectOf e38 rx1
                  have r41 : rg r40 := k39.1.2.2
                  refine v_callV (st := []) cf14 oc87 k39 (lw_V q3259 q3261 qs243 q311 q3262) rfl yk_X14_objectOf ⟨Nat.le_of_ble_eq_true rfl, Nat.le_of_ble_eq_true rfl⟩ trivial ⟨kc87, trivial⟩ (Nat.le_of_ble_eq_true rfl) rfl dX14_literal_421 ?_
                  refine v_if_eq (tgt := 431) dX14_literal_424 r41 (by decide) (fun c42 => ?_) (fun c42 => ?_)
                  · rw [if_pos c42] at h
                    refine v_iconst dX14_literal_431 ?_
                    cases h
                    exact v_zret (Or.inl rfl) dX14_literal_432
                  · rw [if_neg c42] at h
                    refine v_iconst dX14_literal_427 ?_
                    refine v_goto (tgt := 432) dX14_literal_428 (by decide) ?_
                    cases h
                    exact v_zret (Or.inr rfl) dX14_literal_432
            · rw [if_pos c25] at h
              refine v_iload dX14_literal_293 0 rfl ?_
              refine v_iconst dX14_literal_295 ?_
              refine v_icmp_eq (tgt := 307) dX14_literal_296 r17 (rgl rfl) (by decide) (fun c43 => ?_) (fun c43 => ?_)
              · rw [if_pos c43] at h
                refine v_sub [4, 5, 3] (L1 := [(0, vO 87), (1, vI x1), (2, vI y2)]) rfl ?_
                exact wj_X14_literal_307 h rx1 r4
              · rw [if_neg c43] at h
                refine v_iload dX14_literal_299 0 rfl ?_
                refine v_iconst dX14_literal_301 ?_
                refine v_icmp_eq (tgt := 307) dX14_literal_302 r17 (rgl rfl) (by decide) (fun c44 => ?_) (fun c44 => ?_)
                · rw [if_pos c44] at h
                  refine v_sub [4, 5, 3] (L1 := [(0, vO 87), (1, vI x1), (2, vI y2)]) rfl ?_
                  exact wj_X14_literal_307 h rx1 r4
                · rw [if_neg c44] at h
                  refine v_iconst dX14_literal_305 ?_
                  cases h
                  exact v_zret (Or.inl rfl) dX14_literal_306
          · rw [if_pos c24] at h
            refine v_iload dX14_literal_222 0 rfl ?_
            refine v_iconst dX14_literal_224 ?_
            refine v_icmp_eq (tgt := 234) dX14_literal_225 r17 (rgl rfl) (by decide) (fun c45 => ?_) (fun c45 => ?_)
            · rw [if_pos c45] at h
              refine v_sub [4, 5, 3, 2] (L1 := [(0, vO 87), (1, vI x1), (2, vI y2), (3, vI r8)]) rfl ?_
              exact wj_X14_literal_234 h rx1 r4 r9
            · rw [if_neg c45] at h
              refine v_iload dX14_literal_228 0 rfl ?_
              refine v_iconst dX14_literal_230 ?_
              refine v_icmp_ne (tgt := 247) dX14_literal_231 r17 (rgl rfl) (by decide) (fun c46 => ?_) (fun c46 => ?_)
              · rw [if_neg c46] at h
                refine v_iload dX14_literal_247 0 rfl ?_
                refine v_bipush dX14_literal_249 rfl ?_
                refine v_icmp_ne (tgt := 263) dX14_literal_251 r17 (rgl rfl) (by decide) (fun c47 => ?_) (fun c47 => ?_)
                · rw [if_neg c47] at h
                  refine v_iconst dX14_literal_263 ?_
                  cases h
                  exact v_zret (Or.inl rfl) dX14_literal_264
                · rw [if_pos c47] at h
                  refine v_aload_n dX14_literal_254 4 rfl rfl ?_
                  refine v_iload_n dX14_literal_255 5 rfl rfl ?_
                  refine v_iload_n dX14_literal_256 2 rfl rfl ?_
                  obtain ⟨r51, s48, e49, h⟩ := bd_some h
                  have k50 := c_X14_bitsOfItems e49 rx1 r9
                  have r52 : rg r51 := k50.1.2.2
                  refine v_callV (st := []) cf14 oc87 k50 (lw_V q3231 q3233 qs236 q311 q3234) rfl yk_X14_bitsOfItems ⟨Nat.le_of_ble_eq_true rfl, Nat.le_of_ble_eq_true rfl⟩ trivial ⟨kc87, trivial⟩ (Nat.le_of_ble_eq_true rfl) rfl dX14_literal_257 ?_
                  refine v_if_ne (tgt := 265) dX14_literal_260 r52 (by decide) (fun c53 => ?_) (fun c53 => ?_)
                  · rw [if_neg c53] at h
                    refine v_sub [4, 3, 2] (L1 := [(0, vO 87), (2, vI y2), (3, vI r8)]) rfl ?_
                    exact wj_X14_literal_265 h r4 r9
                  · rw [if_pos c53] at h
                    refine v_iconst dX14_literal_263 ?_
                    cases h
                    exact v_zret (Or.inl rfl) dX14_literal_264
              · rw [if_pos c46] at h
                refine v_sub [4, 5, 3, 2] (L1 := [(0, vO 87), (1, vI x1), (2, vI y2), (3, vI r8)]) rfl ?_
                exact wj_X14_literal_234 h rx1 r4 r9
        · rw [if_pos c23] at h
          refine v_sub [4, 5, 3, 2, 1, 0] (L1 := [(0, vO 87), (1, vI x1), (2, vI y2), (3, vI r8), (4, vI y11), (5, vI y15)]) rfl ?_
          exact wj_X14_literal_108 h rx1 r4 r9 r13 r17
    · rw [if_pos c21] at h
      refine v_iload dX14_literal_83 0 rfl ?_
      refine v_bipush dX14_literal_85 rfl ?_
      refine v_icmp_ne (tgt := 94) dX14_literal_87 r17 (rgl rfl) (by decide) (fun c54 => ?_) (fun c54 => ?_)
      · rw [if_neg c54] at h
        refine v_iconst dX14_literal_94 ?_
        cases h
        exact v_zret (Or.inl rfl) dX14_literal_95
      · rw [if_pos c54] at h
        refine v_iconst dX14_literal_90 ?_
        refine v_goto (tgt := 95) dX14_literal_91 (by decide) ?_
        cases h
        exact v_zret (Or.inr rfl) dX14_literal_95
  · rw [if_pos c20] at h
    refine v_aload_n dX14_literal_39 4 rfl rfl ?_
    refine v_iload dX14_literal_40 0 rfl ?_
    refine v_bipush dX14_literal_42 rfl ?_
    refine v_icmp_ne (tgt := 53) dX14_literal_44 r17 (rgl rfl) (by decide) (fun c55 => ?_) (fun c55 => ?_)
    · rw [if_neg c55] at h
      refine v_iconst dX14_literal_53 ?_
      refine v_sub [0] (L1 := [(5, vI y15)]) rfl ?_
      exact wj_X14_literal_54 h r17 (rgl rfl)
    · rw [if_pos c55] at h
      refine v_sipush dX14_literal_47 rfl ?_
      refine v_goto (tgt := 54) dX14_literal_50 (by decide) ?_
      refine v_sub [0] (L1 := [(5, vI y15)]) rfl ?_
      exact wj_X14_literal_54 h r17 (rgl rfl)

def E_X14_derived_53 (x3 : Int) (x4 : Int) (x5 : Int) (rv : Option vA) (σo : vS) (q : vS) : Prop := ∀ (s' : vS), q = s' → VW cX14_derived (RX14, rv, σo, (some .boolean), 6, 151, 10, []) (P0 []) s' 88 [(0, vO 87), (3, vI x3), (4, vI x4), (5, vI x5)] []
def l_X14_derived_53 : Nat → Int → Int → Int → Int → Int → vS → Option (vS)
  | 0, _, _, _, _, _, _ => none
  | n + 1, x2, x3, x4, x5, x6, s =>
    gd (inb x2 (gN s 167)) <|
    if (gE s 167 x2) ≤ x6 then
      some s
    else
      gd (inb x2 (gN s 166)) <|
      gd (inb (w32 ((gE s 166 x2) + x6)) (gN s 165)) <|
      bdv (f_X14_say (gE s 165 (w32 ((gE s 166 x2) + x6))) s) fun s5 =>
      vl (w32 (x6 + 1)) fun y8 =>
      l_X14_derived_53 n x2 x3 x4 x5 y8 s5
theorem wl_X14_derived_53 {x2 : Int} {x3 : Int} {x4 : Int} {x5 : Int} {rv : Option vA} {σo : vS}  (rx2 : rg x2) (rx3 : rg x3) (rx4 : rg x4) (rx5 : rg x5) : ∀ (n : Nat) (x6 : Int) (s : vS) (q : vS), l_X14_derived_53 n x2 x3 x4 x5 x6 s = some q → rg x6 → E_X14_derived_53 x3 x4 x5 rv σo q → VW cX14_derived (RX14, rv, σo, (some .boolean), 6, 151, 10, []) (P0 []) s 53 [(0, vO 87), (2, vI x2), (3, vI x3), (4, vI x4), (5, vI x5), (6, vI x6)] [] := by
  intro n
  induction n with
  | zero => intro x6 s q h; cases h
  | succ n ih =>
    intro x6 s q h rx6 hE
    unfold l_X14_derived_53 at h
    refine v_iload dX14_derived_53 5 rfl ?_
    refine v_aload_n dX14_derived_55 0 rfl rfl ?_
    refine v_getS (f := 114) (t := 167) cf14 oc87 rfl rfl rfl (by decide) q2484 dX14_derived_56 ?_
    refine v_iload_n dX14_derived_59 1 rfl rfl ?_
    obtain ⟨g1, h⟩ := gd_some h
    refine v_iald oc167 rx2 g1.1 g1.2 dX14_derived_60 ?_
    refine v_icmp_ge (tgt := 88) dX14_derived_61 rx6 (gE_rg _ _ _) (by decide) (fun c2 => ?_) (fun c2 => ?_)
    · rw [if_pos c2] at h
      cases h
      refine v_sub [0, 2, 3, 4] (L1 := [(0, vO 87), (3, vI x3), (4, vI x4), (5, vI x5)]) rfl ?_
      exact hE _ rfl 
    · rw [if_neg c2] at h
      refine v_aload_n dX14_derived_64 0 rfl rfl ?_
      refine v_aload_n dX14_derived_65 0 rfl rfl ?_
      refine v_getS (f := 112) (t := 165) cf14 oc87 rfl rfl rfl (by decide) q2482 dX14_derived_66 ?_
      refine v_aload_n dX14_derived_69 0 rfl rfl ?_
      refine v_getS (f := 113) (t := 166) cf14 oc87 rfl rfl rfl (by decide) q2483 dX14_derived_70 ?_
      refine v_iload_n dX14_derived_73 1 rfl rfl ?_
      obtain ⟨g3, h⟩ := gd_some h
      refine v_iald oc166 rx2 g3.1 g3.2 dX14_derived_74 ?_
      refine v_iload dX14_derived_75 5 rfl ?_
      refine v_iadd dX14_derived_77 ?_
      obtain ⟨g4, h⟩ := gd_some h
      refine v_iald oc165 (w32_rg _) g4.1 g4.2 dX14_derived_78 ?_
      obtain ⟨s5, e6, h⟩ := bdv_some h
      have k7 := c_X14_say e6 (gE_rg _ _ _)
      refine v_callV (st := []) cf14 oc87 k7 (lw_V q3207 q3209 qs230 q311 q3210) rfl yk_X14_say ⟨Nat.le_of_ble_eq_true rfl, Nat.le_of_ble_eq_true rfl⟩ trivial ⟨kc87, trivial⟩ (Nat.le_of_ble_eq_true rfl) rfl dX14_derived_79 ?_
      obtain ⟨y8, e9, h⟩ := vl_some h
      refine v_iinc (L1 := [(6, vI (w32 (x6 + 1))), (0, vO 87), (2, vI x2), (3, vI x3), (4, vI x4), (5, vI x5)]) dX14_derived_82 5 rfl (by decide) rfl ?_
      rw [← e9]
      have r10 : rg y8 := by rw [e9]; exact w32_rg _
      refine v_goto (tgt := 53) dX14_derived_85 (by decide) ?_
      refine v_sub [1, 2, 3, 4, 5, 0] (L1 := [(0, vO 87), (2, vI x2), (3, vI x3), (4, vI x4), (5, vI x5), (6, vI y8)]) rfl ?_
      exact ih y8 s5 _ h r10 hE

def j_X14_derived_100 (x3 : Int) (x4 : Int) (x5 : Int) (s : vS) : Option (Int × vS) :=
  vl (gI s 87 85) fun y1 =>
  vl (gI s 87 84) fun y4 =>
  bd (f_X14_pieceNumber s) fun r10 s7 =>
  if x5 = 2 then
    bd (f_X14_holds x3 r10 0 s7) fun r26 s23 =>
    stp (sI s23 87 84 y4) fun s28 =>
    stp (sI s28 87 85 y1) fun s30 =>
    gd (r26 = 0 ∨ r26 = 1) <|
    some (r26, s30)
  else
    bd (f_X14_hasNumber x4 r10 s7) fun r16 s13 =>
    stp (sI s13 87 84 y4) fun s18 =>
    stp (sI s18 87 85 y1) fun s20 =>
    gd (r16 = 0 ∨ r16 = 1) <|
    some (r16, s20)
theorem wj_X14_derived_100 {x3 : Int} {x4 : Int} {x5 : Int} {s : vS} {out : Int × vS} (h : j_X14_derived_100 x3 x4 x5 s = some out)  (rx3 : rg x3) (rx4 : rg x4) (rx5 : rg x5) : VW cX14_derived (RX14, (some (vI out.1)), out.2, (some .boolean), 6, 151, 10, []) (P0 []) s 100 [(0, vO 87), (3, vI x3), (4, vI x4), (5, vI x5)] [] := by
  unfold j_X14_derived_100 at h
  refine v_aload_n dX14_derived_100 0 rfl rfl ?_
  refine v_getI (f := 85) cf14 oc87 rfl (by decide) q2455 dX14_derived_101 ?_
  obtain ⟨y1, e2, h⟩ := vl_some h
  rw [← e2]
  have r3 : rg y1 := by rw [e2]; exact gI_rg _ _ _
  refine v_istore (L1 := [(6, vI y1), (0, vO 87), (3, vI x3), (4, vI x4), (5, vI x5)]) dX14_derived_104 (by decide) rfl ?_
  refine v_aload_n dX14_derived_106 1 rfl rfl ?_
  refine v_getI (f := 84) cf14 oc87 rfl (by decide) q2454 dX14_derived_107 ?_
  obtain ⟨y4, e5, h⟩ := vl_some h
  rw [← e5]
  have r6 : rg y4 := by rw [e5]; exact gI_rg _ _ _
  refine v_istore (L1 := [(7, vI y4), (6, vI y1), (0, vO 87), (3, vI x3), (4, vI x4), (5, vI x5)]) dX14_derived_110 (by decide) rfl ?_
  refine v_aload_n dX14_derived_112 2 rfl rfl ?_
  obtain ⟨r10, s7, e8, h⟩ := bd_some h
  have k9 := c_X14_pieceNumber e8
  have r11 : rg r10 := k9.1.2.2
  refine v_callV (st := []) cf14 oc87 k9 (lw_V q3342 q3344 qs262 q311 q3345) rfl yk_X14_pieceNumber ⟨Nat.le_of_ble_eq_true rfl, Nat.le_of_ble_eq_true rfl⟩ trivial ⟨kc87, trivial⟩ (Nat.le_of_ble_eq_true rfl) rfl dX14_derived_113 ?_
  refine v_istore (L1 := [(8, vI r10), (7, vI y4), (6, vI y1), (0, vO 87), (3, vI x3), (4, vI x4), (5, vI x5)]) dX14_derived_116 (by decide) rfl ?_
  refine v_iload dX14_derived_118 6 rfl ?_
  refine v_iconst dX14_derived_120 ?_
  refine v_icmp_ne (tgt := 135) dX14_derived_121 rx5 (rgl rfl) (by decide) (fun c12 => ?_) (fun c12 => ?_)
  · rw [if_neg c12] at h
    refine v_aload_n dX14_derived_135 3 rfl rfl ?_
    refine v_iload dX14_derived_136 5 rfl ?_
    refine v_iload dX14_derived_138 0 rfl ?_
    obtain ⟨r16, s13, e14, h⟩ := bd_some h
    have k15 := c_X14_hasNumber e14 rx4 r11
    have r17 : rg r16 := k15.1.2.2
    refine v_callV (st := []) cf14 oc87 k15 (lw_V q3113 q3115 qs208 q311 q3116) rfl yk_X14_hasNumber ⟨Nat.le_of_ble_eq_true rfl, Nat.le_of_ble_eq_true rfl⟩ trivial ⟨kc87, trivial⟩ (Nat.le_of_ble_eq_true rfl) rfl dX14_derived_140 ?_
    refine v_istore (L1 := [(9, vI r16), (8, vI r10), (7, vI y4), (6, vI y1), (0, vO 87), (3, vI x3), (4, vI x4), (5, vI x5)]) dX14_derived_143 (by decide) rfl ?_
    refine v_aload_n dX14_derived_145 4 rfl rfl ?_
    refine v_iload dX14_derived_146 2 rfl ?_
    obtain ⟨s18, e19, h⟩ := stp_some h
    refine v_putI (f := 84) cf14 oc87 rfl (by decide) q2454 dX14_derived_148 rfl rfl ?_
    rw [← e19]
    refine v_aload_n dX14_derived_151 4 rfl rfl ?_
    refine v_iload dX14_derived_152 3 rfl ?_
    obtain ⟨s20, e21, h⟩ := stp_some h
    refine v_putI (f := 85) cf14 oc87 rfl (by decide) q2455 dX14_derived_154 rfl rfl ?_
    rw [← e21]
    refine v_iload dX14_derived_157 0 rfl ?_
    obtain ⟨g22, h⟩ := gd_some h
    cases h
    exact v_zret g22 dX14_derived_159
  · rw [if_pos c12] at h
    refine v_aload_n dX14_derived_124 3 rfl rfl ?_
    refine v_iload_n dX14_derived_125 4 rfl rfl ?_
    refine v_iload dX14_derived_126 0 rfl ?_
    refine v_iconst dX14_derived_128 ?_
    obtain ⟨r26, s23, e24, h⟩ := bd_some h
    have k25 := c_X14_holds e24 rx3 r11 (rgl rfl)
    have r27 : rg r26 := k25.1.2.2
    refine v_callV (st := []) cf14 oc87 k25 (lw_V q3215 q3217 qs232 q311 q3218) rfl yk_X14_holds ⟨Nat.le_of_ble_eq_true rfl, Nat.le_of_ble_eq_true rfl⟩ trivial ⟨kc87, trivial⟩ (Nat.le_of_ble_eq_true rfl) rfl dX14_derived_129 ?_
    refine v_goto (tgt := 143) dX14_derived_132 (by decide) ?_
    refine v_istore (L1 := [(9, vI r26), (8, vI r10), (7, vI y4), (6, vI y1), (0, vO 87), (3, vI x3), (4, vI x4), (5, vI x5)]) dX14_derived_143 (by decide) rfl ?_
    refine v_aload_n dX14_derived_145 4 rfl rfl ?_
    refine v_iload dX14_derived_146 2 rfl ?_
    obtain ⟨s28, e29, h⟩ := stp_some h
    refine v_putI (f := 84) cf14 oc87 rfl (by decide) q2454 dX14_derived_148 rfl rfl ?_
    rw [← e29]
    refine v_aload_n dX14_derived_151 4 rfl rfl ?_
    refine v_iload dX14_derived_152 3 rfl ?_
    obtain ⟨s30, e31, h⟩ := stp_some h
    refine v_putI (f := 85) cf14 oc87 rfl (by decide) q2455 dX14_derived_154 rfl rfl ?_
    rw [← e31]
    refine v_iload dX14_derived_157 0 rfl ?_
    obtain ⟨g32, h⟩ := gd_some h
    cases h
    exact v_zret g32 dX14_derived_159

def j_X14_derived_265 (x4 : Int) (s : vS) : Option (Int × vS) :=
  bd (f_X14_allMayMiss x4 s) fun r4 s1 =>
  gd (r4 = 0 ∨ r4 = 1) <|
  some (r4, s1)
theorem wj_X14_derived_265 {x4 : Int} {s : vS} {out : Int × vS} (h : j_X14_derived_265 x4 s = some out)  (rx4 : rg x4) : VW cX14_derived (RX14, (some (vI out.1)), out.2, (some .boolean), 6, 151, 10, []) (P0 []) s 265 [(0, vO 87), (4, vI x4)] [] := by
  unfold j_X14_derived_265 at h
  refine v_aload_n dX14_derived_265 0 rfl rfl ?_
  refine v_iload dX14_derived_266 1 rfl ?_
  obtain ⟨r4, s1, e2, h⟩ := bd_some h
  have k3 := c_X14_allMayMiss e2 rx4
  have r5 : rg r4 := k3.1.2.2
  refine v_callV (st := []) cf14 oc87 k3 (lw_V q3326 q3328 qs258 q311 q3329) rfl yk_X14_allMayMiss ⟨Nat.le_of_ble_eq_true rfl, Nat.le_of_ble_eq_true rfl⟩ trivial ⟨kc87, trivial⟩ (Nat.le_of_ble_eq_true rfl) rfl dX14_derived_268 ?_
  obtain ⟨g6, h⟩ := gd_some h
  cases h
  exact v_zret g6 dX14_derived_271

def j_X14_derived_286 (x3 : Int) (s : vS) : Option (Int × vS) :=
  bd (f_X14_holdsSize x3 0 s) fun r4 s1 =>
  gd (r4 = 0 ∨ r4 = 1) <|
  some (r4, s1)
theorem wj_X14_derived_286 {x3 : Int} {s : vS} {out : Int × vS} (h : j_X14_derived_286 x3 s = some out)  (rx3 : rg x3) : VW cX14_derived (RX14, (some (vI out.1)), out.2, (some .boolean), 6, 151, 10, []) (P0 []) s 286 [(0, vO 87), (3, vI x3)] [] := by
  unfold j_X14_derived_286 at h
  refine v_aload_n dX14_derived_286 0 rfl rfl ?_
  refine v_iload_n dX14_derived_287 1 rfl rfl ?_
  refine v_iconst dX14_derived_288 ?_
  obtain ⟨r4, s1, e2, h⟩ := bd_some h
  have k3 := c_X14_holdsSize e2 rx3 (rgl rfl)
  have r5 : rg r4 := k3.1.2.2
  refine v_callV (st := []) cf14 oc87 k3 (lw_V q3247 q3249 qs240 q311 q3250) rfl yk_X14_holdsSize ⟨Nat.le_of_ble_eq_true rfl, Nat.le_of_ble_eq_true rfl⟩ trivial ⟨kc87, trivial⟩ (Nat.le_of_ble_eq_true rfl) rfl dX14_derived_289 ?_
  obtain ⟨g6, h⟩ := gd_some h
  cases h
  exact v_zret g6 dX14_derived_292

def E_X14_derived_174 (x3 : Int) (x4 : Int) (rv : Option vA) (σo : vS) (q : vS) : Prop := ∀ (s' : vS), q = s' → VW cX14_derived (RX14, rv, σo, (some .boolean), 6, 151, 10, []) (P0 []) s' 228 [(0, vO 87), (3, vI x3), (4, vI x4)] []
def l_X14_derived_174 : Nat → Int → Int → Int → vS → Option (vS)
  | 0, _, _, _, _ => none
  | n + 1, x3, x4, x6, s =>
    gd (inb 0 (gN s 161)) <|
    if (w32 ((w32 (8 * (w32 ((gI s 87 105) - 1)))) - (gE s 161 0))) ≤ x6 then
      some s
    else
      gd (inb (w32 (1 + (d32 x6 8))) (gN s 161)) <|
      bdv (f_X14_sayBit (and32 (shr32 (gE s 161 (w32 (1 + (d32 x6 8)))) (w32 (7 - (m32 x6 8)))) 1) s) fun s4 =>
      vl (w32 (x6 + 1)) fun y7 =>
      l_X14_derived_174 n x3 x4 y7 s4
theorem wl_X14_derived_174 {x3 : Int} {x4 : Int} {rv : Option vA} {σo : vS}  (rx3 : rg x3) (rx4 : rg x4) : ∀ (n : Nat) (x6 : Int) (s : vS) (q : vS), l_X14_derived_174 n x3 x4 x6 s = some q → rg x6 → E_X14_derived_174 x3 x4 rv σo q → VW cX14_derived (RX14, rv, σo, (some .boolean), 6, 151, 10, []) (P0 []) s 174 [(0, vO 87), (3, vI x3), (4, vI x4), (6, vI x6)] [] := by
  intro n
  induction n with
  | zero => intro x6 s q h; cases h
  | succ n ih =>
    intro x6 s q h rx6 hE
    unfold l_X14_derived_174 at h
    refine v_iload dX14_derived_174 3 rfl ?_
    refine v_bipush dX14_derived_176 rfl ?_
    refine v_aload_n dX14_derived_178 0 rfl rfl ?_
    refine v_getI (f := 105) cf14 oc87 rfl (by decide) q2475 dX14_derived_179 ?_
    refine v_iconst dX14_derived_182 ?_
    refine v_isub dX14_derived_183 ?_
    refine v_imul dX14_derived_184 ?_
    refine v_aload_n dX14_derived_185 0 rfl rfl ?_
    refine v_getS (f := 106) (t := 161) cf14 oc87 rfl rfl rfl (by decide) q2476 dX14_derived_186 ?_
    refine v_iconst dX14_derived_189 ?_
    obtain ⟨g1, h⟩ := gd_some h
    refine v_iald oc161 (rgl rfl) g1.1 g1.2 dX14_derived_190 ?_
    refine v_isub dX14_derived_191 ?_
    refine v_icmp_ge (tgt := 228) dX14_derived_192 rx6 (w32_rg _) (by decide) (fun c2 => ?_) (fun c2 => ?_)
    · rw [if_pos c2] at h
      cases h
      refine v_sub [0, 1, 2] (L1 := [(0, vO 87), (3, vI x3), (4, vI x4)]) rfl ?_
      exact hE _ rfl 
    · rw [if_neg c2] at h
      refine v_aload_n dX14_derived_195 0 rfl rfl ?_
      refine v_aload_n dX14_derived_196 0 rfl rfl ?_
      refine v_getS (f := 106) (t := 161) cf14 oc87 rfl rfl rfl (by decide) q2476 dX14_derived_197 ?_
      refine v_iconst dX14_derived_200 ?_
      refine v_iload dX14_derived_201 3 rfl ?_
      refine v_bipush dX14_derived_203 rfl ?_
      refine v_idiv dX14_derived_205 (rgl rfl) (by decide) ?_
      refine v_iadd dX14_derived_206 ?_
      obtain ⟨g3, h⟩ := gd_some h
      refine v_iald oc161 (w32_rg _) g3.1 g3.2 dX14_derived_207 ?_
      refine v_bipush dX14_derived_208 rfl ?_
      refine v_iload dX14_derived_210 3 rfl ?_
      refine v_bipush dX14_derived_212 rfl ?_
      refine v_irem dX14_derived_214 (rgl rfl) (by decide) ?_
      refine v_isub dX14_derived_215 ?_
      refine v_ishr dX14_derived_216 ?_
      refine v_iconst dX14_derived_217 ?_
      refine v_iand dX14_derived_218 ?_
      obtain ⟨s4, e5, h⟩ := bdv_some h
      have k6 := c_X14_sayBit e5 (and32_rg _ _)
      refine v_callV (st := []) cf14 oc87 k6 (lw_V q3227 q3229 qs235 q311 q3230) rfl yk_X14_sayBit ⟨Nat.le_of_ble_eq_true rfl, Nat.le_of_ble_eq_true rfl⟩ trivial ⟨kc87, trivial⟩ (Nat.le_of_ble_eq_true rfl) rfl dX14_derived_219 ?_
      obtain ⟨y7, e8, h⟩ := vl_some h
      refine v_iinc (L1 := [(6, vI (w32 (x6 + 1))), (0, vO 87), (3, vI x3), (4, vI x4)]) dX14_derived_222 3 rfl (by decide) rfl ?_
      rw [← e8]
      have r9 : rg y7 := by rw [e8]; exact w32_rg _
      refine v_goto (tgt := 174) dX14_derived_225 (by decide) ?_
      refine v_sub [1, 2, 3, 0] (L1 := [(0, vO 87), (3, vI x3), (4, vI x4), (6, vI y7)]) rfl ?_
      exact ih y7 s4 _ h r9 hE

def f_X14_derived (x1 : Int) (x2 : Int) (s : vS) : Option (Int × vS) :=
  gd (inb x1 (gN s 138)) <|
  vl (gE s 138 x1) fun y2 =>
  bd (f_X14_root y2 s) fun r8 s5 =>
  gd (inb r8 (gN s5 97)) <|
  vl (gE s5 97 r8) fun y11 =>
  gd (inb x2 (gN s5 138)) <|
  bd (f_X14_root (gE s5 138 x2) s5) fun r18 s15 =>
  gd (gN s15 97 = gN s5 97) <|
  gd (inb r18 (gN s15 97)) <|
  if y11 = (gE s15 97 r18) then
    stp (sI s15 87 105 0) fun s23 =>
    lq_0 (l_X14_derived_53 FU x2 y2 r8 y11 0 s23) fun s25 =>
    if y11 = 2 then
      j_X14_derived_100 y2 r8 y11 s25
    else
      if y11 = 3 then
        j_X14_derived_100 y2 r8 y11 s25
      else
        if y11 = 4 then
          stp (sI s25 87 107 0) fun s46 =>
          lq_0 (l_X14_derived_174 FU y2 r8 0 s46) fun s48 =>
          bd (f_X14_writeBits y2 s48) fun r53 s50 =>
          if r53 = 0 then
            some (0, s50)
          else
            bd (f_X14_isFew r8 s50) fun r59 s56 =>
            if r59 = 0 then
              some (0, s56)
            else
              some (1, s56)
        else
          if y11 = 12 then
            j_X14_derived_265 r8 s25
          else
            if y11 = 13 then
              j_X14_derived_265 r8 s25
            else
              if y11 = 14 then
                j_X14_derived_286 y2 s25
              else
                if y11 = 15 then
                  j_X14_derived_286 y2 s25
                else
                  bd (f_X14_hasSizes y11 s25) fun r37 s34 =>
                  if r37 = 0 then
                    some (1, s34)
                  else
                    bd (f_X14_holdsSize y2 (gI s34 87 105) s34) fun r43 s40 =>
                    if r43 = 0 then
                      some (0, s40)
                    else
                      some (1, s40)
  else
    some (0, s15)
theorem yk_X14_derived : yOk yX14_derived 2 := ⟨by decide, by decide, by decide +kernel⟩
theorem c_X14_derived {x1 : Int} {x2 : Int} {s : vS} {out : Int × vS} (h : f_X14_derived x1 x2 s = some out)  (rx1 : rg x1) (rx2 : rg x2) : VC yX14_derived cX14_derived 10 (some .boolean) 6 151 [vO 87, vI x1, vI x2] s (some (vI out.1)) out.2 [] := by
  unfold f_X14_derived at h
  refine VC.of RX14 (by decide) rfl (Nat.le_of_ble_eq_true rfl) ?_
  show VW cX14_derived (RX14, (some (vI out.1)), out.2, (some .boolean), 6, 151, 10, []) (P0 []) s 0 [(0, vO 87), (1, vI x1), (2, vI x2)] []
  refine v_aload_n dX14_derived_0 0 rfl rfl ?_
  refine v_getS (f := 68) (t := 138) cf14 oc87 rfl rfl rfl (by decide) q2438 dX14_derived_1 ?_
  refine v_iload_n dX14_derived_4 1 rfl rfl ?_
  obtain ⟨g1, h⟩ := gd_some h
  refine v_iald oc138 rx1 g1.1 g1.2 dX14_derived_5 ?_
  obtain ⟨y2, e3, h⟩ := vl_some h
  rw [← e3]
  have r4 : rg y2 := by rw [e3]; exact gE_rg _ _ _
  refine v_istore_n (L1 := [(3, vI y2), (0, vO 87), (1, vI x1), (2, vI x2)]) dX14_derived_6 rfl (by decide) rfl ?_
  refine v_aload_n dX14_derived_7 1 rfl rfl ?_
  refine v_iload_n dX14_derived_8 0 rfl rfl ?_
  obtain ⟨r8, s5, e6, h⟩ := bd_some h
  have k7 := c_X14_root e6 r4
  have r9 : rg r8 := k7.1.2.2
  refine v_callV (st := []) cf14 oc87 k7 (lw_V q3129 q3131 qs212 q311 q3132) rfl yk_X14_root ⟨Nat.le_of_ble_eq_true rfl, Nat.le_of_ble_eq_true rfl⟩ trivial ⟨kc87, trivial⟩ (Nat.le_of_ble_eq_true rfl) rfl dX14_derived_9 ?_
  refine v_istore (L1 := [(4, vI r8), (3, vI y2), (0, vO 87), (1, vI x1), (2, vI x2)]) dX14_derived_12 (by decide) rfl ?_
  refine v_aload_n dX14_derived_14 2 rfl rfl ?_
  refine v_getS (f := 21) (t := 97) cf14 oc87 rfl rfl rfl (by decide) q2391 dX14_derived_15 ?_
  refine v_iload dX14_derived_18 0 rfl ?_
  obtain ⟨g10, h⟩ := gd_some h
  refine v_iald oc97 r9 g10.1 g10.2 dX14_derived_20 ?_
  obtain ⟨y11, e12, h⟩ := vl_some h
  rw [← e12]
  have r13 : rg y11 := by rw [e12]; exact gE_rg _ _ _
  refine v_istore (L1 := [(5, vI y11), (4, vI r8), (3, vI y2), (0, vO 87), (1, vI x1), (2, vI x2)]) dX14_derived_21 (by decide) rfl ?_
  refine v_iload dX14_derived_23 0 rfl ?_
  refine v_aload_n dX14_derived_25 3 rfl rfl ?_
  refine v_getS (f := 21) (t := 97) cf14 oc87 rfl rfl rfl (by decide) q2391 dX14_derived_26 ?_
  refine v_aload_n dX14_derived_29 3 rfl rfl ?_
  refine v_aload_n dX14_derived_30 3 rfl rfl ?_
  refine v_getS (f := 68) (t := 138) cf14 oc87 rfl rfl rfl (by decide) q2438 dX14_derived_31 ?_
  refine v_iload_n dX14_derived_34 5 rfl rfl ?_
  obtain ⟨g14, h⟩ := gd_some h
  refine v_iald oc138 rx2 g14.1 g14.2 dX14_derived_35 ?_
  obtain ⟨r18, s15, e16, h⟩ := bd_some h
  have k17 := c_X14_root e16 (gE_rg _ _ _)
  have r19 : rg r18 := k17.1.2.2
  obtain ⟨g20, h⟩ := gd_some h
  refine v_callV (st := [vO 97, vI y11]) cf14 oc87 k17 (lw_V q3129 q3131 qs212 q311 q3132) rfl yk_X14_root ⟨Nat.le_of_ble_eq_true rfl, Nat.le_of_ble_eq_true rfl⟩ ⟨(kp_arr (by decide) g20), trivial⟩ ⟨kc87, trivial⟩ (Nat.le_of_ble_eq_true rfl) rfl dX14_derived_36 ?_
  obtain ⟨g21, h⟩ := gd_some h
  refine v_iald oc97 r19 g21.1 g21.2 dX14_derived_39 ?_
  refine v_icmp_eq (tgt := 45) dX14_derived_40 r13 (gE_rg _ _ _) (by decide) (fun c22 => ?_) (fun c22 => ?_)
  · rw [if_pos c22] at h
    refine v_aload_n dX14_derived_45 3 rfl rfl ?_
    refine v_iconst dX14_derived_46 ?_
    obtain ⟨s23, e24, h⟩ := stp_some h
    refine v_putI (f := 105) cf14 oc87 rfl (by decide) q2475 dX14_derived_47 rfl rfl ?_
    rw [← e24]
    refine v_iconst dX14_derived_50 ?_
    refine v_istore (L1 := [(6, vI 0), (5, vI y11), (4, vI r8), (3, vI y2), (0, vO 87), (1, vI x1), (2, vI x2)]) dX14_derived_51 (by decide) rfl ?_
    refine v_sub [4, 6, 3, 2, 1, 0] (L1 := [(0, vO 87), (2, vI x2), (3, vI y2), (4, vI r8), (5, vI y11), (6, vI 0)]) rfl ?_
    obtain ⟨s25, e26, h⟩ := lq_0_some h
    refine wl_X14_derived_53 rx2 r4 r9 r13 FU 0 s23 _ e26 (rgl rfl) ?_
    unfold E_X14_derived_53
    intro s25' z_
    cases z_
    refine v_iload dX14_derived_88 3 rfl ?_
    refine v_iconst dX14_derived_90 ?_
    refine v_icmp_eq (tgt := 100) dX14_derived_91 r13 (rgl rfl) (by decide) (fun c27 => ?_) (fun c27 => ?_)
    · rw [if_pos c27] at h
      exact wj_X14_derived_100 h r4 r9 r13
    · rw [if_neg c27] at h
      refine v_iload dX14_derived_94 3 rfl ?_
      refine v_iconst dX14_derived_96 ?_
      refine v_icmp_ne (tgt := 160) dX14_derived_97 r13 (rgl rfl) (by decide) (fun c28 => ?_) (fun c28 => ?_)
      · rw [if_neg c28] at h
        refine v_iload dX14_derived_160 3 rfl ?_
        refine v_iconst dX14_derived_162 ?_
        refine v_icmp_ne (tgt := 251) dX14_derived_163 r13 (rgl rfl) (by decide) (fun c29 => ?_) (fun c29 => ?_)
        · rw [if_neg c29] at h
          refine v_iload dX14_derived_251 3 rfl ?_
          refine v_bipush dX14_derived_253 rfl ?_
          refine v_icmp_eq (tgt := 265) dX14_derived_255 r13 (rgl rfl) (by decide) (fun c30 => ?_) (fun c30 => ?_)
          · rw [if_pos c30] at h
            refine v_sub [0, 2] (L1 := [(0, vO 87), (4, vI r8)]) rfl ?_
            exact wj_X14_derived_265 h r9
          · rw [if_neg c30] at h
            refine v_iload dX14_derived_258 3 rfl ?_
            refine v_bipush dX14_derived_260 rfl ?_
            refine v_icmp_ne (tgt := 272) dX14_derived_262 r13 (rgl rfl) (by decide) (fun c31 => ?_) (fun c31 => ?_)
            · rw [if_neg c31] at h
              refine v_iload dX14_derived_272 3 rfl ?_
              refine v_bipush dX14_derived_274 rfl ?_
              refine v_icmp_eq (tgt := 286) dX14_derived_276 r13 (rgl rfl) (by decide) (fun c32 => ?_) (fun c32 => ?_)
              · rw [if_pos c32] at h
                refine v_sub [0, 1] (L1 := [(0, vO 87), (3, vI y2)]) rfl ?_
                exact wj_X14_derived_286 h r4
              · rw [if_neg c32] at h
                refine v_iload dX14_derived_279 3 rfl ?_
                refine v_bipush dX14_derived_281 rfl ?_
                refine v_icmp_ne (tgt := 293) dX14_derived_283 r13 (rgl rfl) (by decide) (fun c33 => ?_) (fun c33 => ?_)
                · rw [if_neg c33] at h
                  refine v_iload dX14_derived_293 3 rfl ?_
                  obtain ⟨r37, s34, e35, h⟩ := bd_some h
                  have k36 := c_X14_hasSizes e35 r13
                  have r38 : rg r37 := k36.1.2.2
                  refine v_callS (st := []) k36 (lw_S q3184 q3185 q311 q3186) yk_X14_hasSizes ⟨Nat.le_of_ble_eq_true rfl, Nat.le_of_ble_eq_true rfl⟩ trivial ⟨kc87, trivial⟩ (Nat.le_of_ble_eq_true rfl) rfl dX14_derived_295 ?_
                  refine v_if_eq (tgt := 313) dX14_derived_298 r38 (by decide) (fun c39 => ?_) (fun c39 => ?_)
                  · rw [if_pos c39] at h
                    refine v_iconst dX14_derived_313 ?_
                    refine v_goto (tgt := 318) dX14_derived_314 (by decide) ?_
                    cases h
                    exact v_zret (Or.inr rfl) dX14_derived_318
                  · rw [if_neg c39] at h
                    refine v_aload_n dX14_derived_301 0 rfl rfl ?_
                    refine v_iload_n dX14_derived_302 1 rfl rfl ?_
                    refine v_aload_n dX14_derived_303 0 rfl rfl ?_
                    refine v_getI (f := 105) cf14 oc87 rfl (by decide) q2475 dX14_derived_304 ?_
                    obtain ⟨r43, s40, e41, h⟩ := bd_some h
                    have k42 := c_X14_holdsSize e41 r4 (gI_rg _ _ _)
                    have r44 : rg r43 := k42.1.2.2
                    refine v_callV (st := []) cf14 oc87 k42 (lw_V q3247 q3249 qs240 q311 q3250) rfl yk_X14_holdsSize ⟨Nat.le_of_ble_eq_true rfl, Nat.le_of_ble_eq_true rfl⟩ trivial ⟨kc87, trivial⟩ (Nat.le_of_ble_eq_true rfl) rfl dX14_derived_307 ?_
                    refine v_if_eq (tgt := 317) dX14_derived_310 r44 (by decide) (fun c45 => ?_) (fun c45 => ?_)
                    · rw [if_pos c45] at h
                      refine v_iconst dX14_derived_317 ?_
                      cases h
                      exact v_zret (Or.inl rfl) dX14_derived_318
                    · rw [if_neg c45] at h
                      refine v_iconst dX14_derived_313 ?_
                      refine v_goto (tgt := 318) dX14_derived_314 (by decide) ?_
                      cases h
                      exact v_zret (Or.inr rfl) dX14_derived_318
                · rw [if_pos c33] at h
                  refine v_sub [0, 1] (L1 := [(0, vO 87), (3, vI y2)]) rfl ?_
                  exact wj_X14_derived_286 h r4
            · rw [if_pos c31] at h
              refine v_sub [0, 2] (L1 := [(0, vO 87), (4, vI r8)]) rfl ?_
              exact wj_X14_derived_265 h r9
        · rw [if_pos c29] at h
          refine v_aload_n dX14_derived_166 0 rfl rfl ?_
          refine v_iconst dX14_derived_167 ?_
          obtain ⟨s46, e47, h⟩ := stp_some h
          refine v_putI (f := 107) cf14 oc87 rfl (by decide) q2477 dX14_derived_168 rfl rfl ?_
          rw [← e47]
          refine v_iconst dX14_derived_171 ?_
          refine v_istore (L1 := [(6, vI 0), (0, vO 87), (3, vI y2), (4, vI r8), (5, vI y11)]) dX14_derived_172 (by decide) rfl ?_
          refine v_sub [1, 2, 3, 0] (L1 := [(0, vO 87), (3, vI y2), (4, vI r8), (6, vI 0)]) rfl ?_
          obtain ⟨s48, e49, h⟩ := lq_0_some h
          refine wl_X14_derived_174 r4 r9 FU 0 s46 _ e49 (rgl rfl) ?_
          unfold E_X14_derived_174
          intro s48' z_
          cases z_
          refine v_aload_n dX14_derived_228 0 rfl rfl ?_
          refine v_iload_n dX14_derived_229 1 rfl rfl ?_
          obtain ⟨r53, s50, e51, h⟩ := bd_some h
          have k52 := c_X14_writeBits e51 r4
          have r54 : rg r53 := k52.1.2.2
          refine v_callV (st := []) cf14 oc87 k52 (lw_V q3235 q3237 qs237 q311 q3238) rfl yk_X14_writeBits ⟨Nat.le_of_ble_eq_true rfl, Nat.le_of_ble_eq_true rfl⟩ trivial ⟨kc87, trivial⟩ (Nat.le_of_ble_eq_true rfl) rfl dX14_derived_230 ?_
          refine v_if_eq (tgt := 249) dX14_derived_233 r54 (by decide) (fun c55 => ?_) (fun c55 => ?_)
          · rw [if_pos c55] at h
            refine v_iconst dX14_derived_249 ?_
            cases h
            exact v_zret (Or.inl rfl) dX14_derived_250
          · rw [if_neg c55] at h
            refine v_aload_n dX14_derived_236 0 rfl rfl ?_
            refine v_iload dX14_derived_237 2 rfl ?_
            obtain ⟨r59, s56, e57, h⟩ := bd_some h
            have k58 := c_X14_isFew e57 r9
            have r60 : rg r59 := k58.1.2.2
            refine v_callV (st := []) cf14 oc87 k58 (lw_V q3255 q3257 qs242 q311 q3258) rfl yk_X14_isFew ⟨Nat.le_of_ble_eq_true rfl, Nat.le_of_ble_eq_true rfl⟩ trivial ⟨kc87, trivial⟩ (Nat.le_of_ble_eq_true rfl) rfl dX14_derived_239 ?_
            refine v_if_eq (tgt := 249) dX14_derived_242 r60 (by decide) (fun c61 => ?_) (fun c61 => ?_)
            · rw [if_pos c61] at h
              refine v_iconst dX14_derived_249 ?_
              cases h
              exact v_zret (Or.inl rfl) dX14_derived_250
            · rw [if_neg c61] at h
              refine v_iconst dX14_derived_245 ?_
              refine v_goto (tgt := 250) dX14_derived_246 (by decide) ?_
              cases h
              exact v_zret (Or.inr rfl) dX14_derived_250
      · rw [if_pos c28] at h
        exact wj_X14_derived_100 h r4 r9 r13
  · rw [if_neg c22] at h
    refine v_iconst dX14_derived_43 ?_
    cases h
    exact v_zret (Or.inl rfl) dX14_derived_44

def E_X14_isWritten_21 (rv : Option vA) (σo : vS) (q : Int × vS) : Prop := ∀ (x2' : Int) (s' : vS), q = (x2', s') → rg x2' → VW cX14_isWritten (RX14, rv, σo, (some .boolean), 0, 0, 4, []) (P0 []) s' 67 [(2, vI x2')] []
def l_X14_isWritten_21 : Nat → Int → Int → Int → vS → Option (Int × vS)
  | 0, _, _, _, _ => none
  | n + 1, x1, x2, x3, s =>
    if (gI s 87 105) ≤ x3 then
      some (x2, s)
    else
      if x2 = 0 then
        some (x2, s)
      else
        gd (inb x1 (gN s 166)) <|
        gd (inb (w32 ((gE s 166 x1) + x3)) (gN s 165)) <|
        gd (inb x3 (gN s 161)) <|
        if (gE s 165 (w32 ((gE s 166 x1) + x3))) = (gE s 161 x3) then
          vl (w32 (x3 + 1)) fun y10 =>
          l_X14_isWritten_21 n x1 1 y10 s
        else
          vl (w32 (x3 + 1)) fun y7 =>
          l_X14_isWritten_21 n x1 0 y7 s
theorem wl_X14_isWritten_21 {x1 : Int} {rv : Option vA} {σo : vS}  (rx1 : rg x1) : ∀ (n : Nat) (x2 : Int) (x3 : Int) (s : vS) (q : Int × vS), l_X14_isWritten_21 n x1 x2 x3 s = some q → rg x2 → rg x3 → E_X14_isWritten_21 rv σo q → VW cX14_isWritten (RX14, rv, σo, (some .boolean), 0, 0, 4, []) (P0 []) s 21 [(0, vO 87), (1, vI x1), (2, vI x2), (3, vI x3)] [] := by
  intro n
  induction n with
  | zero => intro x2 x3 s q h; cases h
  | succ n ih =>
    intro x2 x3 s q h rx2 rx3 hE
    unfold l_X14_isWritten_21 at h
    refine v_iload_n dX14_isWritten_21 3 rfl rfl ?_
    refine v_aload_n dX14_isWritten_22 0 rfl rfl ?_
    refine v_getI (f := 105) cf14 oc87 rfl (by decide) q2475 dX14_isWritten_23 ?_
    refine v_icmp_ge (tgt := 67) dX14_isWritten_26 rx3 (gI_rg _ _ _) (by decide) (fun c1 => ?_) (fun c1 => ?_)
    · rw [if_pos c1] at h
      cases h
      refine v_sub [2] (L1 := [(2, vI x2)]) rfl ?_
      exact hE _ _ rfl rx2
    · rw [if_neg c1] at h
      refine v_iload_n dX14_isWritten_29 2 rfl rfl ?_
      refine v_if_eq (tgt := 67) dX14_isWritten_30 rx2 (by decide) (fun c2 => ?_) (fun c2 => ?_)
      · rw [if_pos c2] at h
        cases h
        refine v_sub [2] (L1 := [(2, vI x2)]) rfl ?_
        exact hE _ _ rfl rx2
      · rw [if_neg c2] at h
        refine v_aload_n dX14_isWritten_33 0 rfl rfl ?_
        refine v_getS (f := 112) (t := 165) cf14 oc87 rfl rfl rfl (by decide) q2482 dX14_isWritten_34 ?_
        refine v_aload_n dX14_isWritten_37 0 rfl rfl ?_
        refine v_getS (f := 113) (t := 166) cf14 oc87 rfl rfl rfl (by decide) q2483 dX14_isWritten_38 ?_
        refine v_iload_n dX14_isWritten_41 1 rfl rfl ?_
        obtain ⟨g3, h⟩ := gd_some h
        refine v_iald oc166 rx1 g3.1 g3.2 dX14_isWritten_42 ?_
        refine v_iload_n dX14_isWritten_43 3 rfl rfl ?_
        refine v_iadd dX14_isWritten_44 ?_
        obtain ⟨g4, h⟩ := gd_some h
        refine v_iald oc165 (w32_rg _) g4.1 g4.2 dX14_isWritten_45 ?_
        refine v_aload_n dX14_isWritten_46 0 rfl rfl ?_
        refine v_getS (f := 106) (t := 161) cf14 oc87 rfl rfl rfl (by decide) q2476 dX14_isWritten_47 ?_
        refine v_iload_n dX14_isWritten_50 3 rfl rfl ?_
        obtain ⟨g5, h⟩ := gd_some h
        refine v_iald oc161 rx3 g5.1 g5.2 dX14_isWritten_51 ?_
        refine v_icmp_ne (tgt := 59) dX14_isWritten_52 (gE_rg _ _ _) (gE_rg _ _ _) (by decide) (fun c6 => ?_) (fun c6 => ?_)
        · rw [if_neg c6] at h
          refine v_iconst dX14_isWritten_59 ?_
          refine v_istore_n (L1 := [(2, vI 0), (0, vO 87), (1, vI x1), (3, vI x3)]) dX14_isWritten_60 rfl (by decide) rfl ?_
          obtain ⟨y7, e8, h⟩ := vl_some h
          refine v_iinc (L1 := [(3, vI (w32 (x3 + 1))), (2, vI 0), (0, vO 87), (1, vI x1)]) dX14_isWritten_61 3 rfl (by decide) rfl ?_
          rw [← e8]
          have r9 : rg y7 := by rw [e8]; exact w32_rg _
          refine v_goto (tgt := 21) dX14_isWritten_64 (by decide) ?_
          refine v_sub [2, 3, 1, 0] (L1 := [(0, vO 87), (1, vI x1), (2, vI 0), (3, vI y7)]) rfl ?_
          exact ih 0 y7 s _ h (rgl rfl) r9 hE
        · rw [if_pos c6] at h
          refine v_iconst dX14_isWritten_55 ?_
          refine v_goto (tgt := 60) dX14_isWritten_56 (by decide) ?_
          refine v_istore_n (L1 := [(2, vI 1), (0, vO 87), (1, vI x1), (3, vI x3)]) dX14_isWritten_60 rfl (by decide) rfl ?_
          obtain ⟨y10, e11, h⟩ := vl_some h
          refine v_iinc (L1 := [(3, vI (w32 (x3 + 1))), (2, vI 1), (0, vO 87), (1, vI x1)]) dX14_isWritten_61 3 rfl (by decide) rfl ?_
          rw [← e11]
          have r12 : rg y10 := by rw [e11]; exact w32_rg _
          refine v_goto (tgt := 21) dX14_isWritten_64 (by decide) ?_
          refine v_sub [2, 3, 1, 0] (L1 := [(0, vO 87), (1, vI x1), (2, vI 1), (3, vI y10)]) rfl ?_
          exact ih 1 y10 s _ h (rgl rfl) r12 hE

def f_X14_isWritten (x1 : Int) (s : vS) : Option (Int × vS) :=
  gd (inb x1 (gN s 167)) <|
  if (gE s 167 x1) = (gI s 87 105) then
    lq_1 (l_X14_isWritten_21 FU x1 1 0 s) fun y8 s9 =>
    gd (y8 = 0 ∨ y8 = 1) <|
    some (y8, s9)
  else
    lq_1 (l_X14_isWritten_21 FU x1 0 0 s) fun y3 s4 =>
    gd (y3 = 0 ∨ y3 = 1) <|
    some (y3, s4)
theorem yk_X14_isWritten : yOk yX14_isWritten 1 := ⟨by decide, by decide, by decide +kernel⟩
theorem c_X14_isWritten {x1 : Int} {s : vS} {out : Int × vS} (h : f_X14_isWritten x1 s = some out)  (rx1 : rg x1) : VC yX14_isWritten cX14_isWritten 4 (some .boolean) 0 0 [vO 87, vI x1] s (some (vI out.1)) out.2 [] := by
  unfold f_X14_isWritten at h
  refine VC.of RX14 (by decide) rfl (Nat.le_of_ble_eq_true rfl) ?_
  show VW cX14_isWritten (RX14, (some (vI out.1)), out.2, (some .boolean), 0, 0, 4, []) (P0 []) s 0 [(0, vO 87), (1, vI x1)] []
  refine v_aload_n dX14_isWritten_0 0 rfl rfl ?_
  refine v_getS (f := 114) (t := 167) cf14 oc87 rfl rfl rfl (by decide) q2484 dX14_isWritten_1 ?_
  refine v_iload_n dX14_isWritten_4 1 rfl rfl ?_
  obtain ⟨g1, h⟩ := gd_some h
  refine v_iald oc167 rx1 g1.1 g1.2 dX14_isWritten_5 ?_
  refine v_aload_n dX14_isWritten_6 0 rfl rfl ?_
  refine v_getI (f := 105) cf14 oc87 rfl (by decide) q2475 dX14_isWritten_7 ?_
  refine v_icmp_ne (tgt := 17) dX14_isWritten_10 (gE_rg _ _ _) (gI_rg _ _ _) (by decide) (fun c2 => ?_) (fun c2 => ?_)
  · rw [if_neg c2] at h
    refine v_iconst dX14_isWritten_17 ?_
    refine v_istore_n (L1 := [(2, vI 0), (0, vO 87), (1, vI x1)]) dX14_isWritten_18 rfl (by decide) rfl ?_
    refine v_iconst dX14_isWritten_19 ?_
    refine v_istore_n (L1 := [(3, vI 0), (2, vI 0), (0, vO 87), (1, vI x1)]) dX14_isWritten_20 rfl (by decide) rfl ?_
    refine v_sub [2, 3, 1, 0] (L1 := [(0, vO 87), (1, vI x1), (2, vI 0), (3, vI 0)]) rfl ?_
    obtain ⟨y3, s4, e5, h⟩ := lq_1_some h
    refine wl_X14_isWritten_21 rx1 FU 0 0 s _ e5 (rgl rfl) (rgl rfl) ?_
    unfold E_X14_isWritten_21
    intro y3' s4' z_ r6
    cases z_
    refine v_iload_n dX14_isWritten_67 0 rfl rfl ?_
    obtain ⟨g7, h⟩ := gd_some h
    cases h
    exact v_zret g7 dX14_isWritten_68
  · rw [if_pos c2] at h
    refine v_iconst dX14_isWritten_13 ?_
    refine v_goto (tgt := 18) dX14_isWritten_14 (by decide) ?_
    refine v_istore_n (L1 := [(2, vI 1), (0, vO 87), (1, vI x1)]) dX14_isWritten_18 rfl (by decide) rfl ?_
    refine v_iconst dX14_isWritten_19 ?_
    refine v_istore_n (L1 := [(3, vI 0), (2, vI 1), (0, vO 87), (1, vI x1)]) dX14_isWritten_20 rfl (by decide) rfl ?_
    refine v_sub [2, 3, 1, 0] (L1 := [(0, vO 87), (1, vI x1), (2, vI 1), (3, vI 0)]) rfl ?_
    obtain ⟨y8, s9, e10, h⟩ := lq_1_some h
    refine wl_X14_isWritten_21 rx1 FU 1 0 s _ e10 (rgl rfl) (rgl rfl) ?_
    unfold E_X14_isWritten_21
    intro y8' s9' z_ r11
    cases z_
    refine v_iload_n dX14_isWritten_67 0 rfl rfl ?_
    obtain ⟨g12, h⟩ := gd_some h
    cases h
    exact v_zret g12 dX14_isWritten_68

def E_X14_keepValue_111 (rv : Option vA) (σo : vS) (q : vS) : Prop := ∀ (s' : vS), q = s' → VW cX14_keepValue (RX14, rv, σo, none, 1, 23, 5, []) (P0 []) s' 145 [(0, vO 87)] []
def l_X14_keepValue_111 : Nat → Int → vS → Option (vS)
  | 0, _, _ => none
  | n + 1, x4, s =>
    if (gI s 87 105) ≤ x4 then
      some s
    else
      gd (inb x4 (gN s 161)) <|
      gd (inb (w32 ((gI s 87 111) + x4)) (gN s 165)) <|
      stp (sE s 165 (w32 ((gI s 87 111) + x4)) (gE s 161 x4)) fun s4 =>
      vl (w32 (x4 + 1)) fun y6 =>
      l_X14_keepValue_111 n y6 s4
theorem wl_X14_keepValue_111 {rv : Option vA} {σo : vS}  : ∀ (n : Nat) (x4 : Int) (s : vS) (q : vS), l_X14_keepValue_111 n x4 s = some q → rg x4 → E_X14_keepValue_111 rv σo q → VW cX14_keepValue (RX14, rv, σo, none, 1, 23, 5, []) (P0 []) s 111 [(0, vO 87), (4, vI x4)] [] := by
  intro n
  induction n with
  | zero => intro x4 s q h; cases h
  | succ n ih =>
    intro x4 s q h rx4 hE
    unfold l_X14_keepValue_111 at h
    refine v_iload dX14_keepValue_111 1 rfl ?_
    refine v_aload_n dX14_keepValue_113 0 rfl rfl ?_
    refine v_getI (f := 105) cf14 oc87 rfl (by decide) q2475 dX14_keepValue_114 ?_
    refine v_icmp_ge (tgt := 145) dX14_keepValue_117 rx4 (gI_rg _ _ _) (by decide) (fun c1 => ?_) (fun c1 => ?_)
    · rw [if_pos c1] at h
      cases h
      refine v_sub [0] (L1 := [(0, vO 87)]) rfl ?_
      exact hE _ rfl 
    · rw [if_neg c1] at h
      refine v_aload_n dX14_keepValue_120 0 rfl rfl ?_
      refine v_getS (f := 112) (t := 165) cf14 oc87 rfl rfl rfl (by decide) q2482 dX14_keepValue_121 ?_
      refine v_aload_n dX14_keepValue_124 0 rfl rfl ?_
      refine v_getI (f := 111) cf14 oc87 rfl (by decide) q2481 dX14_keepValue_125 ?_
      refine v_iload dX14_keepValue_128 1 rfl ?_
      refine v_iadd dX14_keepValue_130 ?_
      refine v_aload_n dX14_keepValue_131 0 rfl rfl ?_
      refine v_getS (f := 106) (t := 161) cf14 oc87 rfl rfl rfl (by decide) q2476 dX14_keepValue_132 ?_
      refine v_iload dX14_keepValue_135 1 rfl ?_
      obtain ⟨g2, h⟩ := gd_some h
      refine v_iald oc161 rx4 g2.1 g2.2 dX14_keepValue_137 ?_
      obtain ⟨g3, h⟩ := gd_some h
      obtain ⟨s4, e5, h⟩ := stp_some h
      refine v_iast oc165 (w32_rg _) g3.1 g3.2 dX14_keepValue_138 ?_
      rw [← e5]
      obtain ⟨y6, e7, h⟩ := vl_some h
      refine v_iinc (L1 := [(4, vI (w32 (x4 + 1))), (0, vO 87)]) dX14_keepValue_139 1 rfl (by decide) rfl ?_
      rw [← e7]
      have r8 : rg y6 := by rw [e7]; exact w32_rg _
      refine v_goto (tgt := 111) dX14_keepValue_142 (by decide) ?_
      refine v_sub [1, 0] (L1 := [(0, vO 87), (4, vI y6)]) rfl ?_
      exact ih y6 s4 _ h r8 hE

def j_X14_keepValue_59 (x1 : Int) (s : vS) : Option (vS) :=
  gd (inb x1 (gN s 166)) <|
  stp (sE s 166 x1 (gI s 87 111)) fun s2 =>
  if (w32 ((gI s2 87 111) + (gI s2 87 105))) ≤ (w32 (gN s2 165 : Int)) then
    lq_0 (l_X14_keepValue_111 FU 0 s2) fun s5 =>
    stp (sI s5 87 111 (w32 ((gI s5 87 111) + (gI s5 87 105)))) fun s7 =>
    some s7
  else
    bdv (f_X14_longer 165 (w32 (2 * (w32 ((gI s2 87 111) + (gI s2 87 105))))) s2) fun s9 =>
    gd (2 * gN s9 165 ≤ gN s9 199 ∧ 2 ≤ gN s9 199) <|
    stp (sw2 s9 165 199) fun s13 =>
    stp (rs s13) fun s15 =>
    lq_0 (l_X14_keepValue_111 FU 0 s15) fun s17 =>
    stp (sI s17 87 111 (w32 ((gI s17 87 111) + (gI s17 87 105)))) fun s19 =>
    some s19
theorem wj_X14_keepValue_59 {x1 : Int} {s : vS} {out : vS} (h : j_X14_keepValue_59 x1 s = some out)  (rx1 : rg x1) : VW cX14_keepValue (RX14, none, out, none, 1, 23, 5, []) (P0 []) s 59 [(0, vO 87), (1, vI x1)] [] := by
  unfold j_X14_keepValue_59 at h
  refine v_aload_n dX14_keepValue_59 0 rfl rfl ?_
  refine v_getS (f := 113) (t := 166) cf14 oc87 rfl rfl rfl (by decide) q2483 dX14_keepValue_60 ?_
  refine v_iload_n dX14_keepValue_63 1 rfl rfl ?_
  refine v_aload_n dX14_keepValue_64 0 rfl rfl ?_
  refine v_getI (f := 111) cf14 oc87 rfl (by decide) q2481 dX14_keepValue_65 ?_
  obtain ⟨g1, h⟩ := gd_some h
  obtain ⟨s2, e3, h⟩ := stp_some h
  refine v_iast oc166 rx1 g1.1 g1.2 dX14_keepValue_68 ?_
  rw [← e3]
  refine v_aload_n dX14_keepValue_69 0 rfl rfl ?_
  refine v_getI (f := 111) cf14 oc87 rfl (by decide) q2481 dX14_keepValue_70 ?_
  refine v_aload_n dX14_keepValue_73 0 rfl rfl ?_
  refine v_getI (f := 105) cf14 oc87 rfl (by decide) q2475 dX14_keepValue_74 ?_
  refine v_iadd dX14_keepValue_77 ?_
  refine v_aload_n dX14_keepValue_78 0 rfl rfl ?_
  refine v_getS (f := 112) (t := 165) cf14 oc87 rfl rfl rfl (by decide) q2482 dX14_keepValue_79 ?_
  refine v_alen24 oc165 dX14_keepValue_82 ?_
  refine v_icmp_le (tgt := 108) dX14_keepValue_83 (w32_rg _) (w32_rg _) (by decide) (fun c4 => ?_) (fun c4 => ?_)
  · rw [if_pos c4] at h
    refine v_iconst dX14_keepValue_108 ?_
    refine v_istore (L1 := [(4, vI 0), (0, vO 87), (1, vI x1)]) dX14_keepValue_109 (by decide) rfl ?_
    refine v_sub [1, 0] (L1 := [(0, vO 87), (4, vI 0)]) rfl ?_
    obtain ⟨s5, e6, h⟩ := lq_0_some h
    refine wl_X14_keepValue_111  FU 0 s2 _ e6 (rgl rfl) ?_
    unfold E_X14_keepValue_111
    intro s5' z_
    cases z_
    refine v_aload_n dX14_keepValue_145 0 rfl rfl ?_
    refine v_dupO dX14_keepValue_146 ?_
    refine v_getI (f := 111) cf14 oc87 rfl (by decide) q2481 dX14_keepValue_147 ?_
    refine v_aload_n dX14_keepValue_150 0 rfl rfl ?_
    refine v_getI (f := 105) cf14 oc87 rfl (by decide) q2475 dX14_keepValue_151 ?_
    refine v_iadd dX14_keepValue_154 ?_
    obtain ⟨s7, e8, h⟩ := stp_some h
    refine v_putI (f := 111) cf14 oc87 rfl (by decide) q2481 dX14_keepValue_155 rfl rfl ?_
    rw [← e8]
    cases h
    exact v_vret dX14_keepValue_158
  · rw [if_neg c4] at h
    refine v_aload_n dX14_keepValue_86 0 rfl rfl ?_
    refine v_aload_n dX14_keepValue_87 0 rfl rfl ?_
    refine v_getS (f := 112) (t := 165) cf14 oc87 rfl rfl rfl (by decide) q2482 dX14_keepValue_88 ?_
    refine v_iconst dX14_keepValue_91 ?_
    refine v_aload_n dX14_keepValue_92 0 rfl rfl ?_
    refine v_getI (f := 111) cf14 oc87 rfl (by decide) q2481 dX14_keepValue_93 ?_
    refine v_aload_n dX14_keepValue_96 0 rfl rfl ?_
    refine v_getI (f := 105) cf14 oc87 rfl (by decide) q2475 dX14_keepValue_97 ?_
    refine v_iadd dX14_keepValue_100 ?_
    refine v_imul dX14_keepValue_101 ?_
    obtain ⟨s9, e10, h⟩ := bdv_some h
    have k11 := c_X14_longer e10 (⟨by decide, rfl⟩ : okB 165 24) (w32_rg _)
    refine v_callS (st := [vO 87]) k11 (lw_S q3012 q3013 q311 q3014) yk_X14_longer ⟨Nat.le_of_ble_eq_true rfl, Nat.le_of_ble_eq_true rfl⟩ ⟨kc87, trivial⟩ ⟨kc87, trivial⟩ (Nat.le_of_ble_eq_true rfl) rfl dX14_keepValue_102 ?_
    obtain ⟨g12, h⟩ := gd_some h
    obtain ⟨s13, e14, h⟩ := stp_some h
    refine v_pa (i := 0) (K := 199) (t0 := 165) (f := 112) (tk1 := [(24, 0)]) (L1 := [(0, vO 87), (1, vI x1)]) (st1 := []) rfl rfl (by decide) cf14 (⟨by decide, rfl⟩ : okB 87 13) rfl (by decide) rfl rfl (by decide) rfl g12 q2482 dX14_keepValue_105 rfl rfl rfl rfl ?_
    rw [← e14]
    refine v_sub [0] (L1 := [(0, vO 87)]) rfl ?_
    obtain ⟨s15, e16, h⟩ := stp_some h
    refine v_dr (by decide) (by decide) ⟨(by decide), trivial⟩ trivial ?_
    rw [← e16]
    refine v_iconst dX14_keepValue_108 ?_
    refine v_istore (L1 := [(4, vI 0), (0, vO 87)]) dX14_keepValue_109 (by decide) rfl ?_
    refine v_sub [1, 0] (L1 := [(0, vO 87), (4, vI 0)]) rfl ?_
    obtain ⟨s17, e18, h⟩ := lq_0_some h
    refine wl_X14_keepValue_111  FU 0 s15 _ e18 (rgl rfl) ?_
    unfold E_X14_keepValue_111
    intro s17' z_
    cases z_
    refine v_aload_n dX14_keepValue_145 0 rfl rfl ?_
    refine v_dupO dX14_keepValue_146 ?_
    refine v_getI (f := 111) cf14 oc87 rfl (by decide) q2481 dX14_keepValue_147 ?_
    refine v_aload_n dX14_keepValue_150 0 rfl rfl ?_
    refine v_getI (f := 105) cf14 oc87 rfl (by decide) q2475 dX14_keepValue_151 ?_
    refine v_iadd dX14_keepValue_154 ?_
    obtain ⟨s19, e20, h⟩ := stp_some h
    refine v_putI (f := 111) cf14 oc87 rfl (by decide) q2481 dX14_keepValue_155 rfl rfl ?_
    rw [← e20]
    cases h
    exact v_vret dX14_keepValue_158

def j_X14_keepValue_24 (x1 : Int) (x3 : Int) (s : vS) : Option (vS) :=
  gd (inb x1 (gN s 167)) <|
  stp (sE s 167 x1 (gI s 87 105)) fun s2 =>
  if x3 < 0 then
    j_X14_keepValue_59 x1 s2
  else
    bd (f_X14_isWritten x3 s2) fun r8 s5 =>
    if r8 = 0 then
      j_X14_keepValue_59 x1 s5
    else
      gd (inb x3 (gN s5 166)) <|
      gd (inb x1 (gN s5 166)) <|
      stp (sE s5 166 x1 (gE s5 166 x3)) fun s13 =>
      some s13
theorem wj_X14_keepValue_24 {x1 : Int} {x3 : Int} {s : vS} {out : vS} (h : j_X14_keepValue_24 x1 x3 s = some out)  (rx1 : rg x1) (rx3 : rg x3) : VW cX14_keepValue (RX14, none, out, none, 1, 23, 5, []) (P0 []) s 24 [(0, vO 87), (1, vI x1), (3, vI x3)] [] := by
  unfold j_X14_keepValue_24 at h
  refine v_aload_n dX14_keepValue_24 0 rfl rfl ?_
  refine v_getS (f := 114) (t := 167) cf14 oc87 rfl rfl rfl (by decide) q2484 dX14_keepValue_25 ?_
  refine v_iload_n dX14_keepValue_28 1 rfl rfl ?_
  refine v_aload_n dX14_keepValue_29 0 rfl rfl ?_
  refine v_getI (f := 105) cf14 oc87 rfl (by decide) q2475 dX14_keepValue_30 ?_
  obtain ⟨g1, h⟩ := gd_some h
  obtain ⟨s2, e3, h⟩ := stp_some h
  refine v_iast oc167 rx1 g1.1 g1.2 dX14_keepValue_33 ?_
  rw [← e3]
  refine v_iload_n dX14_keepValue_34 2 rfl rfl ?_
  refine v_if_lt (tgt := 59) dX14_keepValue_35 rx3 (by decide) (fun c4 => ?_) (fun c4 => ?_)
  · rw [if_pos c4] at h
    refine v_sub [0, 1] (L1 := [(0, vO 87), (1, vI x1)]) rfl ?_
    exact wj_X14_keepValue_59 h rx1
  · rw [if_neg c4] at h
    refine v_aload_n dX14_keepValue_38 0 rfl rfl ?_
    refine v_iload_n dX14_keepValue_39 2 rfl rfl ?_
    obtain ⟨r8, s5, e6, h⟩ := bd_some h
    have k7 := c_X14_isWritten e6 rx3
    have r9 : rg r8 := k7.1.2.2
    refine v_callV (st := []) cf14 oc87 k7 (lw_V q3334 q3336 qs260 q311 q3337) rfl yk_X14_isWritten ⟨Nat.le_of_ble_eq_true rfl, Nat.le_of_ble_eq_true rfl⟩ trivial ⟨kc87, trivial⟩ (Nat.le_of_ble_eq_true rfl) rfl dX14_keepValue_40 ?_
    refine v_if_eq (tgt := 59) dX14_keepValue_43 r9 (by decide) (fun c10 => ?_) (fun c10 => ?_)
    · rw [if_pos c10] at h
      refine v_sub [0, 1] (L1 := [(0, vO 87), (1, vI x1)]) rfl ?_
      exact wj_X14_keepValue_59 h rx1
    · rw [if_neg c10] at h
      refine v_aload_n dX14_keepValue_46 0 rfl rfl ?_
      refine v_getS (f := 113) (t := 166) cf14 oc87 rfl rfl rfl (by decide) q2483 dX14_keepValue_47 ?_
      refine v_iload_n dX14_keepValue_50 1 rfl rfl ?_
      refine v_aload_n dX14_keepValue_51 0 rfl rfl ?_
      refine v_getS (f := 113) (t := 166) cf14 oc87 rfl rfl rfl (by decide) q2483 dX14_keepValue_52 ?_
      refine v_iload_n dX14_keepValue_55 2 rfl rfl ?_
      obtain ⟨g11, h⟩ := gd_some h
      refine v_iald oc166 rx3 g11.1 g11.2 dX14_keepValue_56 ?_
      obtain ⟨g12, h⟩ := gd_some h
      obtain ⟨s13, e14, h⟩ := stp_some h
      refine v_iast oc166 rx1 g12.1 g12.2 dX14_keepValue_57 ?_
      rw [← e14]
      cases h
      exact v_vret dX14_keepValue_58

def j_X14_keepValue_14 (x1 : Int) (x2 : Int) (x3 : Int) (z1 : Int) (z2 : Int) (s : vS) : Option (vS) :=
  gd (inb z1 (gN s 168)) <|
  stp (sE s 168 z1 z2) fun s2 =>
  if x2 = 0 then
    stp (sI s2 87 105 0) fun s5 =>
    j_X14_keepValue_24 x1 x3 s5
  else
    j_X14_keepValue_24 x1 x3 s2
theorem wj_X14_keepValue_14 {x1 : Int} {x2 : Int} {x3 : Int} {z1 : Int} {z2 : Int} {s : vS} {out : vS} (h : j_X14_keepValue_14 x1 x2 x3 z1 z2 s = some out)  (rx1 : rg x1) (rx2 : rg x2) (rx3 : rg x3) (rz1 : rg z1) (rz2 : rg z2) : VW cX14_keepValue (RX14, none, out, none, 1, 23, 5, []) (P0 []) s 14 [(0, vO 87), (1, vI x1), (2, vI x2), (3, vI x3)] [vI z2, vI z1, vO 168] := by
  unfold j_X14_keepValue_14 at h
  obtain ⟨g1, h⟩ := gd_some h
  obtain ⟨s2, e3, h⟩ := stp_some h
  refine v_iast oc168 rz1 g1.1 g1.2 dX14_keepValue_14 ?_
  rw [← e3]
  refine v_iload_n dX14_keepValue_15 2 rfl rfl ?_
  refine v_if_ne (tgt := 24) dX14_keepValue_16 rx2 (by decide) (fun c4 => ?_) (fun c4 => ?_)
  · rw [if_neg c4] at h
    refine v_sub [0, 1, 3] (L1 := [(0, vO 87), (1, vI x1), (3, vI x3)]) rfl ?_
    exact wj_X14_keepValue_24 h rx1 rx3
  · rw [if_pos c4] at h
    refine v_aload_n dX14_keepValue_19 0 rfl rfl ?_
    refine v_iconst dX14_keepValue_20 ?_
    obtain ⟨s5, e6, h⟩ := stp_some h
    refine v_putI (f := 105) cf14 oc87 rfl (by decide) q2475 dX14_keepValue_21 rfl rfl ?_
    rw [← e6]
    refine v_sub [0, 1, 3] (L1 := [(0, vO 87), (1, vI x1), (3, vI x3)]) rfl ?_
    exact wj_X14_keepValue_24 h rx1 rx3

def f_X14_keepValue (x1 : Int) (x2 : Int) (x3 : Int) (s : vS) : Option (vS) :=
  if x2 = 0 then
    j_X14_keepValue_14 x1 x2 x3 x1 2 s
  else
    j_X14_keepValue_14 x1 x2 x3 x1 1 s
theorem yk_X14_keepValue : yOk yX14_keepValue 3 := ⟨by decide, by decide, by decide +kernel⟩
theorem c_X14_keepValue {x1 : Int} {x2 : Int} {x3 : Int} {s : vS} {out : vS} (h : f_X14_keepValue x1 x2 x3 s = some out)  (rx1 : rg x1) (rx2 : rg x2) (rx3 : rg x3) : VC yX14_keepValue cX14_keepValue 5 none 1 23 [vO 87, vI x1, vI x2, vI x3] s none out [] := by
  unfold f_X14_keepValue at h
  refine VC.of RX14 (by decide) rfl (Nat.le_of_ble_eq_true rfl) ?_
  show VW cX14_keepValue (RX14, none, out, none, 1, 23, 5, []) (P0 []) s 0 [(0, vO 87), (1, vI x1), (2, vI x2), (3, vI x3)] []
  refine v_aload_n dX14_keepValue_0 0 rfl rfl ?_
  refine v_getS (f := 115) (t := 168) cf14 oc87 rfl rfl rfl (by decide) q2485 dX14_keepValue_1 ?_
  refine v_iload_n dX14_keepValue_4 1 rfl rfl ?_
  refine v_iload_n dX14_keepValue_5 2 rfl rfl ?_
  refine v_if_eq (tgt := 13) dX14_keepValue_6 rx2 (by decide) (fun c1 => ?_) (fun c1 => ?_)
  · rw [if_pos c1] at h
    refine v_iconst dX14_keepValue_13 ?_
    exact wj_X14_keepValue_14 h rx1 rx2 rx3 rx1 (rgl rfl)
  · rw [if_neg c1] at h
    refine v_iconst dX14_keepValue_9 ?_
    refine v_goto (tgt := 14) dX14_keepValue_10 (by decide) ?_
    exact wj_X14_keepValue_14 h rx1 rx2 rx3 rx1 (rgl rfl)

def E_X14_checkValues_2 (rv : Option vA) (σo : vS) (q : vS) : Prop := ∀ (s' : vS), q = s' → VW cX14_checkValues (RX14, rv, σo, none, 7, 180, 5, []) (P0 []) s' 23 [(0, vO 87)] []
def l_X14_checkValues_2 : Nat → Int → vS → Option (vS)
  | 0, _, _ => none
  | n + 1, x1, s =>
    if (gI s 87 61) ≤ x1 then
      some s
    else
      gd (inb x1 (gN s 168)) <|
      stp (sE s 168 x1 0) fun s3 =>
      vl (w32 (x1 + 1)) fun y5 =>
      l_X14_checkValues_2 n y5 s3
theorem wl_X14_checkValues_2 {rv : Option vA} {σo : vS}  : ∀ (n : Nat) (x1 : Int) (s : vS) (q : vS), l_X14_checkValues_2 n x1 s = some q → rg x1 → E_X14_checkValues_2 rv σo q → VW cX14_checkValues (RX14, rv, σo, none, 7, 180, 5, []) (P0 []) s 2 [(0, vO 87), (1, vI x1)] [] := by
  intro n
  induction n with
  | zero => intro x1 s q h; cases h
  | succ n ih =>
    intro x1 s q h rx1 hE
    unfold l_X14_checkValues_2 at h
    refine v_iload_n dX14_checkValues_2 1 rfl rfl ?_
    refine v_aload_n dX14_checkValues_3 0 rfl rfl ?_
    refine v_getI (f := 61) cf14 oc87 rfl (by decide) q2431 dX14_checkValues_4 ?_
    refine v_icmp_ge (tgt := 23) dX14_checkValues_7 rx1 (gI_rg _ _ _) (by decide) (fun c1 => ?_) (fun c1 => ?_)
    · rw [if_pos c1] at h
      cases h
      refine v_sub [0] (L1 := [(0, vO 87)]) rfl ?_
      exact hE _ rfl 
    · rw [if_neg c1] at h
      refine v_aload_n dX14_checkValues_10 0 rfl rfl ?_
      refine v_getS (f := 115) (t := 168) cf14 oc87 rfl rfl rfl (by decide) q2485 dX14_checkValues_11 ?_
      refine v_iload_n dX14_checkValues_14 1 rfl rfl ?_
      refine v_iconst dX14_checkValues_15 ?_
      obtain ⟨g2, h⟩ := gd_some h
      obtain ⟨s3, e4, h⟩ := stp_some h
      refine v_iast oc168 rx1 g2.1 g2.2 dX14_checkValues_16 ?_
      rw [← e4]
      obtain ⟨y5, e6, h⟩ := vl_some h
      refine v_iinc (L1 := [(1, vI (w32 (x1 + 1))), (0, vO 87)]) dX14_checkValues_17 1 rfl (by decide) rfl ?_
      rw [← e6]
      have r7 : rg y5 := by rw [e6]; exact w32_rg _
      refine v_goto (tgt := 2) dX14_checkValues_20 (by decide) ?_
      refine v_sub [1, 0] (L1 := [(0, vO 87), (1, vI y5)]) rfl ?_
      exact ih y5 s3 _ h r7 hE

def E_X14_checkValues_30 (rv : Option vA) (σo : vS) (q : vS) : Prop := ∀ (s' : vS), q = s' → VW cX14_checkValues (RX14, rv, σo, none, 7, 180, 5, []) (P0 []) s' 170 [(0, vO 87)] []
def E_X14_checkValues_42 (x1 : Int) (rv : Option vA) (σo : vS) (q : Int × Int × vS) : Prop := ∀ (x2' : Int) (x3' : Int) (s' : vS), q = (x2', x3', s') → rg x2' → rg x3' → VW cX14_checkValues (RX14, rv, σo, none, 7, 180, 5, []) (P0 []) s' 83 [(0, vO 87), (1, vI x1), (2, vI x2'), (3, vI x3')] []
def l_X14_checkValues_42 : Nat → Int → Int → Int → vS → Option (Int × Int × vS)
  | 0, _, _, _, _ => none
  | n + 1, x1, x2, x3, s =>
    gd (inb x3 (gN s 168)) <|
    if (gE s 168 x3) = 0 then
      bd (f_X14_goesOn x3 s) fun r6 s3 =>
      if r6 < 0 then
        some (x2, x3, s3)
      else
        gd (inb x2 (gN s3 157)) <|
        stp (sE s3 157 x2 x3) fun s10 =>
        vl (w32 (x2 + 1)) fun y12 =>
        bd (f_X14_goesOn x3 s10) fun r18 s15 =>
        gd (gN s15 143 = gN s10 143) <|
        gd (inb r18 (gN s15 143)) <|
        vl (gE s15 143 r18) fun y22 =>
        l_X14_checkValues_42 n x1 y12 y22 s15
    else
      some (x2, x3, s)
theorem wl_X14_checkValues_42 {x1 : Int} {rv : Option vA} {σo : vS}  (rx1 : rg x1) : ∀ (n : Nat) (x2 : Int) (x3 : Int) (s : vS) (q : Int × Int × vS), l_X14_checkValues_42 n x1 x2 x3 s = some q → rg x2 → rg x3 → E_X14_checkValues_42 x1 rv σo q → VW cX14_checkValues (RX14, rv, σo, none, 7, 180, 5, []) (P0 []) s 42 [(0, vO 87), (1, vI x1), (2, vI x2), (3, vI x3)] [] := by
  intro n
  induction n with
  | zero => intro x2 x3 s q h; cases h
  | succ n ih =>
    intro x2 x3 s q h rx2 rx3 hE
    unfold l_X14_checkValues_42 at h
    refine v_aload_n dX14_checkValues_42 0 rfl rfl ?_
    refine v_getS (f := 115) (t := 168) cf14 oc87 rfl rfl rfl (by decide) q2485 dX14_checkValues_43 ?_
    refine v_iload_n dX14_checkValues_46 3 rfl rfl ?_
    obtain ⟨g1, h⟩ := gd_some h
    refine v_iald oc168 rx3 g1.1 g1.2 dX14_checkValues_47 ?_
    refine v_if_ne (tgt := 83) dX14_checkValues_48 (gE_rg _ _ _) (by decide) (fun c2 => ?_) (fun c2 => ?_)
    · rw [if_neg c2] at h
      cases h
      exact hE _ _ _ rfl rx2 rx3
    · rw [if_pos c2] at h
      refine v_aload_n dX14_checkValues_51 0 rfl rfl ?_
      refine v_iload_n dX14_checkValues_52 3 rfl rfl ?_
      obtain ⟨r6, s3, e4, h⟩ := bd_some h
      have k5 := c_X14_goesOn e4 rx3
      have r7 : rg r6 := k5.1.2.2
      refine v_callV (st := []) cf14 oc87 k5 (lw_V q3176 q3178 qs223 q311 q3179) rfl yk_X14_goesOn ⟨Nat.le_of_ble_eq_true rfl, Nat.le_of_ble_eq_true rfl⟩ trivial ⟨kc87, trivial⟩ (Nat.le_of_ble_eq_true rfl) rfl dX14_checkValues_53 ?_
      refine v_if_lt (tgt := 83) dX14_checkValues_56 r7 (by decide) (fun c8 => ?_) (fun c8 => ?_)
      · rw [if_pos c8] at h
        cases h
        exact hE _ _ _ rfl rx2 rx3
      · rw [if_neg c8] at h
        refine v_aload_n dX14_checkValues_59 0 rfl rfl ?_
        refine v_getS (f := 98) (t := 157) cf14 oc87 rfl rfl rfl (by decide) q2468 dX14_checkValues_60 ?_
        refine v_iload_n dX14_checkValues_63 2 rfl rfl ?_
        refine v_iload_n dX14_checkValues_64 3 rfl rfl ?_
        obtain ⟨g9, h⟩ := gd_some h
        obtain ⟨s10, e11, h⟩ := stp_some h
        refine v_iast oc157 rx2 g9.1 g9.2 dX14_checkValues_65 ?_
        rw [← e11]
        obtain ⟨y12, e13, h⟩ := vl_some h
        refine v_iinc (L1 := [(2, vI (w32 (x2 + 1))), (0, vO 87), (1, vI x1), (3, vI x3)]) dX14_checkValues_66 2 rfl (by decide) rfl ?_
        rw [← e13]
        have r14 : rg y12 := by rw [e13]; exact w32_rg _
        refine v_aload_n dX14_checkValues_69 1 rfl rfl ?_
        refine v_getS (f := 75) (t := 143) cf14 oc87 rfl rfl rfl (by decide) q2445 dX14_checkValues_70 ?_
        refine v_aload_n dX14_checkValues_73 1 rfl rfl ?_
        refine v_iload_n dX14_checkValues_74 3 rfl rfl ?_
        obtain ⟨r18, s15, e16, h⟩ := bd_some h
        have k17 := c_X14_goesOn e16 rx3
        have r19 : rg r18 := k17.1.2.2
        obtain ⟨g20, h⟩ := gd_some h
        refine v_callV (st := [vO 143]) cf14 oc87 k17 (lw_V q3176 q3178 qs223 q311 q3179) rfl yk_X14_goesOn ⟨Nat.le_of_ble_eq_true rfl, Nat.le_of_ble_eq_true rfl⟩ ⟨(kp_arr (by decide) g20), trivial⟩ ⟨kc87, trivial⟩ (Nat.le_of_ble_eq_true rfl) rfl dX14_checkValues_75 ?_
        obtain ⟨g21, h⟩ := gd_some h
        refine v_iald oc143 r19 g21.1 g21.2 dX14_checkValues_78 ?_
        obtain ⟨y22, e23, h⟩ := vl_some h
        rw [← e23]
        have r24 : rg y22 := by rw [e23]; exact gE_rg _ _ _
        refine v_istore_n (L1 := [(3, vI y22), (2, vI y12), (0, vO 87), (1, vI x1)]) dX14_checkValues_79 rfl (by decide) rfl ?_
        refine v_goto (tgt := 42) dX14_checkValues_80 (by decide) ?_
        refine v_sub [2, 3, 1, 0] (L1 := [(0, vO 87), (1, vI x1), (2, vI y12), (3, vI y22)]) rfl ?_
        exact ih y12 y22 s15 _ h r14 r24 hE

def E_X14_checkValues_103 (x1 : Int) (rv : Option vA) (σo : vS) (q : vS) : Prop := ∀ (s' : vS), q = s' → VW cX14_checkValues (RX14, rv, σo, none, 7, 180, 5, []) (P0 []) s' 164 [(0, vO 87), (1, vI x1)] []
def j_X14_checkValues_139 (rec : Int → Int → Int → vS → Option (vS)) (x1 : Int) (x2 : Int) (x3 : Int) (z0 : Int) (s : vS) : Option (vS) :=
  gd (inb x2 (gN s 157)) <|
  bdv (f_X14_keepValue (gE s 157 x2) z0 x3 s) fun s2 =>
  gd (inb x2 (gN s2 157)) <|
  vl (gE s2 157 x2) fun y6 =>
  rec x1 x2 y6 s2
theorem wj_X14_checkValues_139 {x1 : Int} {x2 : Int} {x3 : Int} {z0 : Int} {s : vS} {rv : Option vA} {σo : vS} {rec : Int → Int → Int → vS → Option (vS)} {q : vS} (h : j_X14_checkValues_139 rec x1 x2 x3 z0 s = some q)  (rx1 : rg x1) (rx2 : rg x2) (rx3 : rg x3) (rz0 : rg z0) (hrec : ∀ (y2 : Int) (y3 : Int) (s : vS) (q : vS), rec x1 y2 y3 s = some q → rg y2 → rg y3 → E_X14_checkValues_103 x1 rv σo q → VW cX14_checkValues (RX14, rv, σo, none, 7, 180, 5, []) (P0 []) s 103 [(0, vO 87), (1, vI x1), (2, vI y2), (3, vI y3)] []) (hE : E_X14_checkValues_103 x1 rv σo q) : VW cX14_checkValues (RX14, rv, σo, none, 7, 180, 5, []) (P0 []) s 139 [(0, vO 87), (1, vI x1), (2, vI x2), (3, vI x3)] [vI z0] := by
  unfold j_X14_checkValues_139 at h
  refine v_istore (L1 := [(4, vI z0), (0, vO 87), (1, vI x1), (2, vI x2), (3, vI x3)]) dX14_checkValues_139 (by decide) rfl ?_
  refine v_aload_n dX14_checkValues_141 1 rfl rfl ?_
  refine v_aload_n dX14_checkValues_142 1 rfl rfl ?_
  refine v_getS (f := 98) (t := 157) cf14 oc87 rfl rfl rfl (by decide) q2468 dX14_checkValues_143 ?_
  refine v_iload_n dX14_checkValues_146 3 rfl rfl ?_
  obtain ⟨g1, h⟩ := gd_some h
  refine v_iald oc157 rx2 g1.1 g1.2 dX14_checkValues_147 ?_
  refine v_iload dX14_checkValues_148 0 rfl ?_
  refine v_iload_n dX14_checkValues_150 4 rfl rfl ?_
  obtain ⟨s2, e3, h⟩ := bdv_some h
  have k4 := c_X14_keepValue e3 (gE_rg _ _ _) rz0 rx3
  refine v_callV (st := []) cf14 oc87 k4 (lw_V q3330 q3332 qs259 q311 q3333) rfl yk_X14_keepValue ⟨Nat.le_of_ble_eq_true rfl, Nat.le_of_ble_eq_true rfl⟩ trivial ⟨kc87, trivial⟩ (Nat.le_of_ble_eq_true rfl) rfl dX14_checkValues_151 ?_
  refine v_aload_n dX14_checkValues_154 1 rfl rfl ?_
  refine v_getS (f := 98) (t := 157) cf14 oc87 rfl rfl rfl (by decide) q2468 dX14_checkValues_155 ?_
  refine v_iload_n dX14_checkValues_158 3 rfl rfl ?_
  obtain ⟨g5, h⟩ := gd_some h
  refine v_iald oc157 rx2 g5.1 g5.2 dX14_checkValues_159 ?_
  obtain ⟨y6, e7, h⟩ := vl_some h
  rw [← e7]
  have r8 : rg y6 := by rw [e7]; exact gE_rg _ _ _
  refine v_istore_n (L1 := [(3, vI y6), (4, vI z0), (0, vO 87), (1, vI x1), (2, vI x2)]) dX14_checkValues_160 rfl (by decide) rfl ?_
  refine v_goto (tgt := 103) dX14_checkValues_161 (by decide) ?_
  refine v_sub [2, 3, 4, 0] (L1 := [(0, vO 87), (1, vI x1), (2, vI x2), (3, vI y6)]) rfl ?_
  exact hrec x2 y6 s2 _ h rx2 r8 hE

def l_X14_checkValues_103 : Nat → Int → Int → Int → vS → Option (vS)
  | 0, _, _, _, _ => none
  | n + 1, x1, x2, x3, s =>
    if x2 ≤ 0 then
      some s
    else
      vl (w32 (x2 + (-1))) fun y2 =>
      gd (inb x3 (gN s 168)) <|
      if (gE s 168 x3) = 1 then
        gd (inb y2 (gN s 157)) <|
        bd (f_X14_derived (gE s 157 y2) x3 s) fun r11 s8 =>
        if r11 = 0 then
          j_X14_checkValues_139 (l_X14_checkValues_103 n) x1 y2 x3 0 s8
        else
          j_X14_checkValues_139 (l_X14_checkValues_103 n) x1 y2 x3 1 s8
      else
        j_X14_checkValues_139 (l_X14_checkValues_103 n) x1 y2 x3 0 s
theorem wl_X14_checkValues_103 {x1 : Int} {rv : Option vA} {σo : vS}  (rx1 : rg x1) : ∀ (n : Nat) (x2 : Int) (x3 : Int) (s : vS) (q : vS), l_X14_checkValues_103 n x1 x2 x3 s = some q → rg x2 → rg x3 → E_X14_checkValues_103 x1 rv σo q → VW cX14_checkValues (RX14, rv, σo, none, 7, 180, 5, []) (P0 []) s 103 [(0, vO 87), (1, vI x1), (2, vI x2), (3, vI x3)] [] := by
  intro n
  induction n with
  | zero => intro x2 x3 s q h; cases h
  | succ n ih =>
    intro x2 x3 s q h rx2 rx3 hE
    unfold l_X14_checkValues_103 at h
    refine v_iload_n dX14_checkValues_103 2 rfl rfl ?_
    refine v_if_le (tgt := 164) dX14_checkValues_104 rx2 (by decide) (fun c1 => ?_) (fun c1 => ?_)
    · rw [if_pos c1] at h
      cases h
      refine v_sub [0, 1] (L1 := [(0, vO 87), (1, vI x1)]) rfl ?_
      exact hE _ rfl 
    · rw [if_neg c1] at h
      obtain ⟨y2, e3, h⟩ := vl_some h
      refine v_iinc (L1 := [(2, vI (w32 (x2 + (-1)))), (0, vO 87), (1, vI x1), (3, vI x3)]) dX14_checkValues_107 2 rfl (by decide) rfl ?_
      rw [← e3]
      have r4 : rg y2 := by rw [e3]; exact w32_rg _
      refine v_aload_n dX14_checkValues_110 1 rfl rfl ?_
      refine v_getS (f := 115) (t := 168) cf14 oc87 rfl rfl rfl (by decide) q2485 dX14_checkValues_111 ?_
      refine v_iload_n dX14_checkValues_114 3 rfl rfl ?_
      obtain ⟨g5, h⟩ := gd_some h
      refine v_iald oc168 rx3 g5.1 g5.2 dX14_checkValues_115 ?_
      refine v_iconst dX14_checkValues_116 ?_
      refine v_icmp_ne (tgt := 138) dX14_checkValues_117 (gE_rg _ _ _) (rgl rfl) (by decide) (fun c6 => ?_) (fun c6 => ?_)
      · rw [if_neg c6] at h
        refine v_iconst dX14_checkValues_138 ?_
        refine v_sub [1, 2, 0, 3] (L1 := [(0, vO 87), (1, vI x1), (2, vI y2), (3, vI x3)]) rfl ?_
        exact wj_X14_checkValues_139 h rx1 r4 rx3 (rgl rfl) ih hE
      · rw [if_pos c6] at h
        refine v_aload_n dX14_checkValues_120 1 rfl rfl ?_
        refine v_aload_n dX14_checkValues_121 1 rfl rfl ?_
        refine v_getS (f := 98) (t := 157) cf14 oc87 rfl rfl rfl (by decide) q2468 dX14_checkValues_122 ?_
        refine v_iload_n dX14_checkValues_125 0 rfl rfl ?_
        obtain ⟨g7, h⟩ := gd_some h
        refine v_iald oc157 r4 g7.1 g7.2 dX14_checkValues_126 ?_
        refine v_iload_n dX14_checkValues_127 3 rfl rfl ?_
        obtain ⟨r11, s8, e9, h⟩ := bd_some h
        have k10 := c_X14_derived e9 (gE_rg _ _ _) rx3
        have r12 : rg r11 := k10.1.2.2
        refine v_callV (st := []) cf14 oc87 k10 (lw_V q3338 q3340 qs261 q311 q3341) rfl yk_X14_derived ⟨Nat.le_of_ble_eq_true rfl, Nat.le_of_ble_eq_true rfl⟩ trivial ⟨kc87, trivial⟩ (Nat.le_of_ble_eq_true rfl) rfl dX14_checkValues_128 ?_
        refine v_if_eq (tgt := 138) dX14_checkValues_131 r12 (by decide) (fun c13 => ?_) (fun c13 => ?_)
        · rw [if_pos c13] at h
          refine v_iconst dX14_checkValues_138 ?_
          refine v_sub [1, 2, 0, 3] (L1 := [(0, vO 87), (1, vI x1), (2, vI y2), (3, vI x3)]) rfl ?_
          exact wj_X14_checkValues_139 h rx1 r4 rx3 (rgl rfl) ih hE
        · rw [if_neg c13] at h
          refine v_iconst dX14_checkValues_134 ?_
          refine v_goto (tgt := 139) dX14_checkValues_135 (by decide) ?_
          refine v_sub [1, 2, 0, 3] (L1 := [(0, vO 87), (1, vI x1), (2, vI y2), (3, vI x3)]) rfl ?_
          exact wj_X14_checkValues_139 h rx1 r4 rx3 (rgl rfl) ih hE

def j_X14_checkValues_83 (rec : Int → vS → Option (vS)) (x1 : Int) (x2 : Int) (x3 : Int) (s : vS) : Option (vS) :=
  gd (inb x3 (gN s 168)) <|
  if (gE s 168 x3) = 0 then
    bd (f_X14_literal x3 s) fun r11 s8 =>
    bdv (f_X14_keepValue x3 r11 (-1) s8) fun s13 =>
    lq_0 (l_X14_checkValues_103 FU x1 x2 x3 s13) fun s16 =>
    vl (w32 (x1 + 1)) fun y18 =>
    rec y18 s16
  else
    lq_0 (l_X14_checkValues_103 FU x1 x2 x3 s) fun s3 =>
    vl (w32 (x1 + 1)) fun y5 =>
    rec y5 s3
theorem wj_X14_checkValues_83 {x1 : Int} {x2 : Int} {x3 : Int} {s : vS} {rv : Option vA} {σo : vS} {rec : Int → vS → Option (vS)} {q : vS} (h : j_X14_checkValues_83 rec x1 x2 x3 s = some q)  (rx1 : rg x1) (rx2 : rg x2) (rx3 : rg x3) (hrec : ∀ (y1 : Int) (s : vS) (q : vS), rec y1 s = some q → rg y1 → E_X14_checkValues_30 rv σo q → VW cX14_checkValues (RX14, rv, σo, none, 7, 180, 5, []) (P0 []) s 30 [(0, vO 87), (1, vI y1)] []) (hE : E_X14_checkValues_30 rv σo q) : VW cX14_checkValues (RX14, rv, σo, none, 7, 180, 5, []) (P0 []) s 83 [(0, vO 87), (1, vI x1), (2, vI x2), (3, vI x3)] [] := by
  unfold j_X14_checkValues_83 at h
  refine v_aload_n dX14_checkValues_83 0 rfl rfl ?_
  refine v_getS (f := 115) (t := 168) cf14 oc87 rfl rfl rfl (by decide) q2485 dX14_checkValues_84 ?_
  refine v_iload_n dX14_checkValues_87 3 rfl rfl ?_
  obtain ⟨g1, h⟩ := gd_some h
  refine v_iald oc168 rx3 g1.1 g1.2 dX14_checkValues_88 ?_
  refine v_if_ne (tgt := 103) dX14_checkValues_89 (gE_rg _ _ _) (by decide) (fun c2 => ?_) (fun c2 => ?_)
  · rw [if_neg c2] at h
    obtain ⟨s3, e4, h⟩ := lq_0_some h
    refine wl_X14_checkValues_103 rx1 FU x2 x3 s _ e4 rx2 rx3 ?_
    unfold E_X14_checkValues_103
    intro s3' z_
    cases z_
    obtain ⟨y5, e6, h⟩ := vl_some h
    refine v_iinc (L1 := [(1, vI (w32 (x1 + 1))), (0, vO 87)]) dX14_checkValues_164 1 rfl (by decide) rfl ?_
    rw [← e6]
    have r7 : rg y5 := by rw [e6]; exact w32_rg _
    refine v_goto (tgt := 30) dX14_checkValues_167 (by decide) ?_
    refine v_sub [1, 0] (L1 := [(0, vO 87), (1, vI y5)]) rfl ?_
    exact hrec y5 s3 _ h r7 hE
  · rw [if_pos c2] at h
    refine v_aload_n dX14_checkValues_92 0 rfl rfl ?_
    refine v_iload_n dX14_checkValues_93 3 rfl rfl ?_
    refine v_aload_n dX14_checkValues_94 0 rfl rfl ?_
    refine v_iload_n dX14_checkValues_95 3 rfl rfl ?_
    obtain ⟨r11, s8, e9, h⟩ := bd_some h
    have k10 := c_X14_literal e9 rx3
    have r12 : rg r11 := k10.1.2.2
    refine v_callV (st := [vI x3, vO 87]) cf14 oc87 k10 (lw_V q3203 q3205 qs229 q311 q3206) rfl yk_X14_literal ⟨Nat.le_of_ble_eq_true rfl, Nat.le_of_ble_eq_true rfl⟩ ⟨kc87, trivial⟩ ⟨kc87, trivial⟩ (Nat.le_of_ble_eq_true rfl) rfl dX14_checkValues_96 ?_
    refine v_iconst dX14_checkValues_99 ?_
    obtain ⟨s13, e14, h⟩ := bdv_some h
    have k15 := c_X14_keepValue e14 rx3 r12 (rgl rfl)
    refine v_callV (st := []) cf14 oc87 k15 (lw_V q3330 q3332 qs259 q311 q3333) rfl yk_X14_keepValue ⟨Nat.le_of_ble_eq_true rfl, Nat.le_of_ble_eq_true rfl⟩ trivial ⟨kc87, trivial⟩ (Nat.le_of_ble_eq_true rfl) rfl dX14_checkValues_100 ?_
    obtain ⟨s16, e17, h⟩ := lq_0_some h
    refine wl_X14_checkValues_103 rx1 FU x2 x3 s13 _ e17 rx2 rx3 ?_
    unfold E_X14_checkValues_103
    intro s16' z_
    cases z_
    obtain ⟨y18, e19, h⟩ := vl_some h
    refine v_iinc (L1 := [(1, vI (w32 (x1 + 1))), (0, vO 87)]) dX14_checkValues_164 1 rfl (by decide) rfl ?_
    rw [← e19]
    have r20 : rg y18 := by rw [e19]; exact w32_rg _
    refine v_goto (tgt := 30) dX14_checkValues_167 (by decide) ?_
    refine v_sub [1, 0] (L1 := [(0, vO 87), (1, vI y18)]) rfl ?_
    exact hrec y18 s16 _ h r20 hE

def l_X14_checkValues_30 : Nat → Int → vS → Option (vS)
  | 0, _, _ => none
  | n + 1, x1, s =>
    if (gI s 87 61) ≤ x1 then
      some s
    else
      lq_2 (l_X14_checkValues_42 FU x1 0 x1 s) fun y2 y3 s4 =>
      j_X14_checkValues_83 (l_X14_checkValues_30 n) x1 y2 y3 s4
theorem wl_X14_checkValues_30 {rv : Option vA} {σo : vS}  : ∀ (n : Nat) (x1 : Int) (s : vS) (q : vS), l_X14_checkValues_30 n x1 s = some q → rg x1 → E_X14_checkValues_30 rv σo q → VW cX14_checkValues (RX14, rv, σo, none, 7, 180, 5, []) (P0 []) s 30 [(0, vO 87), (1, vI x1)] [] := by
  intro n
  induction n with
  | zero => intro x1 s q h; cases h
  | succ n ih =>
    intro x1 s q h rx1 hE
    unfold l_X14_checkValues_30 at h
    refine v_iload_n dX14_checkValues_30 1 rfl rfl ?_
    refine v_aload_n dX14_checkValues_31 0 rfl rfl ?_
    refine v_getI (f := 61) cf14 oc87 rfl (by decide) q2431 dX14_checkValues_32 ?_
    refine v_icmp_ge (tgt := 170) dX14_checkValues_35 rx1 (gI_rg _ _ _) (by decide) (fun c1 => ?_) (fun c1 => ?_)
    · rw [if_pos c1] at h
      cases h
      refine v_sub [0] (L1 := [(0, vO 87)]) rfl ?_
      exact hE _ rfl 
    · rw [if_neg c1] at h
      refine v_iconst dX14_checkValues_38 ?_
      refine v_istore_n (L1 := [(2, vI 0), (0, vO 87), (1, vI x1)]) dX14_checkValues_39 rfl (by decide) rfl ?_
      refine v_iload_n dX14_checkValues_40 2 rfl rfl ?_
      refine v_istore_n (L1 := [(3, vI x1), (2, vI 0), (0, vO 87), (1, vI x1)]) dX14_checkValues_41 rfl (by decide) rfl ?_
      refine v_sub [2, 3, 1, 0] (L1 := [(0, vO 87), (1, vI x1), (2, vI 0), (3, vI x1)]) rfl ?_
      obtain ⟨y2, y3, s4, e5, h⟩ := lq_2_some h
      refine wl_X14_checkValues_42 rx1 FU 0 x1 s _ e5 (rgl rfl) rx1 ?_
      unfold E_X14_checkValues_42
      intro y2' y3' s4' z_ r6 r7
      cases z_
      exact wj_X14_checkValues_83 h rx1 r6 r7 ih hE

def E_X14_checkValues_172 (rv : Option vA) (σo : vS) (q : vS) : Prop := ∀ (s' : vS), q = s' → VW cX14_checkValues (RX14, rv, σo, none, 7, 180, 5, []) (P0 []) s' 211 [(0, vO 87)] []
def l_X14_checkValues_172 : Nat → Int → vS → Option (vS)
  | 0, _, _ => none
  | n + 1, x1, s =>
    if (gI s 87 61) ≤ x1 then
      some s
    else
      gd (inb x1 (gN s 168)) <|
      if (gE s 168 x1) = 2 then
        gd (inb x1 (gN s 133)) <|
        gd (inb (gE s 133 x1) (gN s 95)) <|
        bdv (f_X14_first (gE s 95 (gE s 133 x1)) s) fun s9 =>
        vl (w32 (x1 + 1)) fun y12 =>
        l_X14_checkValues_172 n y12 s9
      else
        vl (w32 (x1 + 1)) fun y4 =>
        l_X14_checkValues_172 n y4 s
theorem wl_X14_checkValues_172 {rv : Option vA} {σo : vS}  : ∀ (n : Nat) (x1 : Int) (s : vS) (q : vS), l_X14_checkValues_172 n x1 s = some q → rg x1 → E_X14_checkValues_172 rv σo q → VW cX14_checkValues (RX14, rv, σo, none, 7, 180, 5, []) (P0 []) s 172 [(0, vO 87), (1, vI x1)] [] := by
  intro n
  induction n with
  | zero => intro x1 s q h; cases h
  | succ n ih =>
    intro x1 s q h rx1 hE
    unfold l_X14_checkValues_172 at h
    refine v_iload_n dX14_checkValues_172 1 rfl rfl ?_
    refine v_aload_n dX14_checkValues_173 0 rfl rfl ?_
    refine v_getI (f := 61) cf14 oc87 rfl (by decide) q2431 dX14_checkValues_174 ?_
    refine v_icmp_ge (tgt := 211) dX14_checkValues_177 rx1 (gI_rg _ _ _) (by decide) (fun c1 => ?_) (fun c1 => ?_)
    · rw [if_pos c1] at h
      cases h
      refine v_sub [0] (L1 := [(0, vO 87)]) rfl ?_
      exact hE _ rfl 
    · rw [if_neg c1] at h
      refine v_aload_n dX14_checkValues_180 0 rfl rfl ?_
      refine v_getS (f := 115) (t := 168) cf14 oc87 rfl rfl rfl (by decide) q2485 dX14_checkValues_181 ?_
      refine v_iload_n dX14_checkValues_184 1 rfl rfl ?_
      obtain ⟨g2, h⟩ := gd_some h
      refine v_iald oc168 rx1 g2.1 g2.2 dX14_checkValues_185 ?_
      refine v_iconst dX14_checkValues_186 ?_
      refine v_icmp_ne (tgt := 205) dX14_checkValues_187 (gE_rg _ _ _) (rgl rfl) (by decide) (fun c3 => ?_) (fun c3 => ?_)
      · rw [if_neg c3] at h
        obtain ⟨y4, e5, h⟩ := vl_some h
        refine v_iinc (L1 := [(1, vI (w32 (x1 + 1))), (0, vO 87)]) dX14_checkValues_205 1 rfl (by decide) rfl ?_
        rw [← e5]
        have r6 : rg y4 := by rw [e5]; exact w32_rg _
        refine v_goto (tgt := 172) dX14_checkValues_208 (by decide) ?_
        refine v_sub [1, 0] (L1 := [(0, vO 87), (1, vI y4)]) rfl ?_
        exact ih y4 s _ h r6 hE
      · rw [if_pos c3] at h
        refine v_aload_n dX14_checkValues_190 0 rfl rfl ?_
        refine v_aload_n dX14_checkValues_191 0 rfl rfl ?_
        refine v_getS (f := 17) (t := 95) cf14 oc87 rfl rfl rfl (by decide) q2387 dX14_checkValues_192 ?_
        refine v_aload_n dX14_checkValues_195 0 rfl rfl ?_
        refine v_getS (f := 63) (t := 133) cf14 oc87 rfl rfl rfl (by decide) q2433 dX14_checkValues_196 ?_
        refine v_iload_n dX14_checkValues_199 1 rfl rfl ?_
        obtain ⟨g7, h⟩ := gd_some h
        refine v_iald oc133 rx1 g7.1 g7.2 dX14_checkValues_200 ?_
        obtain ⟨g8, h⟩ := gd_some h
        refine v_iald oc95 (gE_rg _ _ _) g8.1 g8.2 dX14_checkValues_201 ?_
        obtain ⟨s9, e10, h⟩ := bdv_some h
        have k11 := c_X14_first e10 (gE_rg _ _ _)
        refine v_callV (st := []) cf14 oc87 k11 (lw_V q3093 q3095 qs203 q311 q3096) rfl yk_X14_first ⟨Nat.le_of_ble_eq_true rfl, Nat.le_of_ble_eq_true rfl⟩ trivial ⟨kc87, trivial⟩ (Nat.le_of_ble_eq_true rfl) rfl dX14_checkValues_202 ?_
        obtain ⟨y12, e13, h⟩ := vl_some h
        refine v_iinc (L1 := [(1, vI (w32 (x1 + 1))), (0, vO 87)]) dX14_checkValues_205 1 rfl (by decide) rfl ?_
        rw [← e13]
        have r14 : rg y12 := by rw [e13]; exact w32_rg _
        refine v_goto (tgt := 172) dX14_checkValues_208 (by decide) ?_
        refine v_sub [1, 0] (L1 := [(0, vO 87), (1, vI y12)]) rfl ?_
        exact ih y12 s9 _ h r14 hE

def f_X14_checkValues (s : vS) : Option (vS) :=
  lq_0 (l_X14_checkValues_2 FU 0 s) fun s1 =>
  stp (sI s1 87 111 0) fun s3 =>
  lq_0 (l_X14_checkValues_30 FU 0 s3) fun s5 =>
  lq_0 (l_X14_checkValues_172 FU 0 s5) fun s7 =>
  bdv (f_X14_told 12 s7) fun s9 =>
  some s9
theorem yk_X14_checkValues : yOk yX14_checkValues 0 := ⟨by decide, by decide, by decide +kernel⟩
theorem c_X14_checkValues {s : vS} {out : vS} (h : f_X14_checkValues s = some out)   : VC yX14_checkValues cX14_checkValues 5 none 7 180 [vO 87] s none out [] := by
  unfold f_X14_checkValues at h
  refine VC.of RX14 (by decide) rfl (Nat.le_of_ble_eq_true rfl) ?_
  show VW cX14_checkValues (RX14, none, out, none, 7, 180, 5, []) (P0 []) s 0 [(0, vO 87)] []
  refine v_iconst dX14_checkValues_0 ?_
  refine v_istore_n (L1 := [(1, vI 0), (0, vO 87)]) dX14_checkValues_1 rfl (by decide) rfl ?_
  refine v_sub [1, 0] (L1 := [(0, vO 87), (1, vI 0)]) rfl ?_
  obtain ⟨s1, e2, h⟩ := lq_0_some h
  refine wl_X14_checkValues_2  FU 0 s _ e2 (rgl rfl) ?_
  unfold E_X14_checkValues_2
  intro s1' z_
  cases z_
  refine v_aload_n dX14_checkValues_23 0 rfl rfl ?_
  refine v_iconst dX14_checkValues_24 ?_
  obtain ⟨s3, e4, h⟩ := stp_some h
  refine v_putI (f := 111) cf14 oc87 rfl (by decide) q2481 dX14_checkValues_25 rfl rfl ?_
  rw [← e4]
  refine v_iconst dX14_checkValues_28 ?_
  refine v_istore_n (L1 := [(1, vI 0), (0, vO 87)]) dX14_checkValues_29 rfl (by decide) rfl ?_
  refine v_sub [1, 0] (L1 := [(0, vO 87), (1, vI 0)]) rfl ?_
  obtain ⟨s5, e6, h⟩ := lq_0_some h
  refine wl_X14_checkValues_30  FU 0 s3 _ e6 (rgl rfl) ?_
  unfold E_X14_checkValues_30
  intro s5' z_
  cases z_
  refine v_iconst dX14_checkValues_170 ?_
  refine v_istore_n (L1 := [(1, vI 0), (0, vO 87)]) dX14_checkValues_171 rfl (by decide) rfl ?_
  refine v_sub [1, 0] (L1 := [(0, vO 87), (1, vI 0)]) rfl ?_
  obtain ⟨s7, e8, h⟩ := lq_0_some h
  refine wl_X14_checkValues_172  FU 0 s5 _ e8 (rgl rfl) ?_
  unfold E_X14_checkValues_172
  intro s7' z_
  cases z_
  refine v_aload_n dX14_checkValues_211 0 rfl rfl ?_
  refine v_bipush dX14_checkValues_212 rfl ?_
  obtain ⟨s9, e10, h⟩ := bdv_some h
  have k11 := c_X14_told e10 (rgl rfl)
  refine v_callV (st := []) cf14 oc87 k11 (lw_V q3101 q3103 qs205 q311 q3104) rfl yk_X14_told ⟨Nat.le_of_ble_eq_true rfl, Nat.le_of_ble_eq_true rfl⟩ trivial ⟨kc87, trivial⟩ (Nat.le_of_ble_eq_true rfl) rfl dX14_checkValues_214 ?_
  cases h
  exact v_vret dX14_checkValues_217

def E_X14_compile_35 (rv : Option vA) (σo : vS) (q : vS) : Prop := ∀ (s' : vS), q = s' → VW cX14_compile (RX14, rv, σo, (some .int), 11, 241, 2, []) (P0 []) s' 61 [(0, vO 87)] []
def l_X14_compile_35 : Nat → Int → vS → Option (vS)
  | 0, _, _ => none
  | n + 1, x1, s =>
    if (gI s 87 4) ≤ x1 then
      some s
    else
      gd (inb x1 (gN s 91)) <|
      gd (inb x1 (gN s 93)) <|
      stp (sE s 93 x1 (gE s 91 x1)) fun s4 =>
      vl (w32 (x1 + 1)) fun y6 =>
      l_X14_compile_35 n y6 s4
theorem wl_X14_compile_35 {rv : Option vA} {σo : vS}  : ∀ (n : Nat) (x1 : Int) (s : vS) (q : vS), l_X14_compile_35 n x1 s = some q → rg x1 → E_X14_compile_35 rv σo q → VW cX14_compile (RX14, rv, σo, (some .int), 11, 241, 2, []) (P0 []) s 35 [(0, vO 87), (1, vI x1)] [] := by
  intro n
  induction n with
  | zero => intro x1 s q h; cases h
  | succ n ih =>
    intro x1 s q h rx1 hE
    unfold l_X14_compile_35 at h
    refine v_iload_n dX14_compile_35 1 rfl rfl ?_
    refine v_aload_n dX14_compile_36 0 rfl rfl ?_
    refine v_getI (f := 4) cf14 oc87 rfl (by decide) q2374 dX14_compile_37 ?_
    refine v_icmp_ge (tgt := 61) dX14_compile_40 rx1 (gI_rg _ _ _) (by decide) (fun c1 => ?_) (fun c1 => ?_)
    · rw [if_pos c1] at h
      cases h
      refine v_sub [0] (L1 := [(0, vO 87)]) rfl ?_
      exact hE _ rfl 
    · rw [if_neg c1] at h
      refine v_aload_n dX14_compile_43 0 rfl rfl ?_
      refine v_getS (f := 14) (t := 93) cf14 oc87 rfl rfl rfl (by decide) q2384 dX14_compile_44 ?_
      refine v_iload_n dX14_compile_47 1 rfl rfl ?_
      refine v_aload_n dX14_compile_48 0 rfl rfl ?_
      refine v_getS (f := 5) (t := 91) cf14 oc87 rfl rfl rfl (by decide) q2375 dX14_compile_49 ?_
      refine v_iload_n dX14_compile_52 1 rfl rfl ?_
      obtain ⟨g2, h⟩ := gd_some h
      refine v_iald oc91 rx1 g2.1 g2.2 dX14_compile_53 ?_
      obtain ⟨g3, h⟩ := gd_some h
      obtain ⟨s4, e5, h⟩ := stp_some h
      refine v_iast oc93 rx1 g3.1 g3.2 dX14_compile_54 ?_
      rw [← e5]
      obtain ⟨y6, e7, h⟩ := vl_some h
      refine v_iinc (L1 := [(1, vI (w32 (x1 + 1))), (0, vO 87)]) dX14_compile_55 1 rfl (by decide) rfl ?_
      rw [← e7]
      have r8 : rg y6 := by rw [e7]; exact w32_rg _
      refine v_goto (tgt := 35) dX14_compile_58 (by decide) ?_
      refine v_sub [1, 0] (L1 := [(0, vO 87), (1, vI y6)]) rfl ?_
      exact ih y6 s4 _ h r8 hE

def E_X14_compile_145 (rv : Option vA) (σo : vS) (q : vS) : Prop := ∀ (s' : vS), q = s' → VW cX14_compile (RX14, rv, σo, (some .int), 11, 241, 2, []) (P0 []) s' 173 [(0, vO 87)] []
def l_X14_compile_145 : Nat → Int → vS → Option (vS)
  | 0, _, _ => none
  | n + 1, x1, s =>
    if (gI s 87 15) < x1 then
      some s
    else
      gd (inb x1 (gN s 150)) <|
      stp (sE s 150 x1 (-1)) fun s3 =>
      gd (inb x1 (gN s3 151)) <|
      stp (sE s3 151 x1 (-1)) fun s6 =>
      vl (w32 (x1 + 1)) fun y8 =>
      l_X14_compile_145 n y8 s6
theorem wl_X14_compile_145 {rv : Option vA} {σo : vS}  : ∀ (n : Nat) (x1 : Int) (s : vS) (q : vS), l_X14_compile_145 n x1 s = some q → rg x1 → E_X14_compile_145 rv σo q → VW cX14_compile (RX14, rv, σo, (some .int), 11, 241, 2, []) (P0 []) s 145 [(0, vO 87), (1, vI x1)] [] := by
  intro n
  induction n with
  | zero => intro x1 s q h; cases h
  | succ n ih =>
    intro x1 s q h rx1 hE
    unfold l_X14_compile_145 at h
    refine v_iload_n dX14_compile_145 1 rfl rfl ?_
    refine v_aload_n dX14_compile_146 0 rfl rfl ?_
    refine v_getI (f := 15) cf14 oc87 rfl (by decide) q2385 dX14_compile_147 ?_
    refine v_icmp_gt (tgt := 173) dX14_compile_150 rx1 (gI_rg _ _ _) (by decide) (fun c1 => ?_) (fun c1 => ?_)
    · rw [if_pos c1] at h
      cases h
      refine v_sub [0] (L1 := [(0, vO 87)]) rfl ?_
      exact hE _ rfl 
    · rw [if_neg c1] at h
      refine v_aload_n dX14_compile_153 0 rfl rfl ?_
      refine v_getS (f := 89) (t := 150) cf14 oc87 rfl rfl rfl (by decide) q2459 dX14_compile_154 ?_
      refine v_iload_n dX14_compile_157 1 rfl rfl ?_
      refine v_iconst dX14_compile_158 ?_
      obtain ⟨g2, h⟩ := gd_some h
      obtain ⟨s3, e4, h⟩ := stp_some h
      refine v_iast oc150 rx1 g2.1 g2.2 dX14_compile_159 ?_
      rw [← e4]
      refine v_aload_n dX14_compile_160 0 rfl rfl ?_
      refine v_getS (f := 90) (t := 151) cf14 oc87 rfl rfl rfl (by decide) q2460 dX14_compile_161 ?_
      refine v_iload_n dX14_compile_164 1 rfl rfl ?_
      refine v_iconst dX14_compile_165 ?_
      obtain ⟨g5, h⟩ := gd_some h
      obtain ⟨s6, e7, h⟩ := stp_some h
      refine v_iast oc151 rx1 g5.1 g5.2 dX14_compile_166 ?_
      rw [← e7]
      obtain ⟨y8, e9, h⟩ := vl_some h
      refine v_iinc (L1 := [(1, vI (w32 (x1 + 1))), (0, vO 87)]) dX14_compile_167 1 rfl (by decide) rfl ?_
      rw [← e9]
      have r10 : rg y8 := by rw [e9]; exact w32_rg _
      refine v_goto (tgt := 145) dX14_compile_170 (by decide) ?_
      refine v_sub [1, 0] (L1 := [(0, vO 87), (1, vI y8)]) rfl ?_
      exact ih y8 s6 _ h r10 hE

def j_X14_compile_283 (s : vS) : Option (Int × vS) :=
  if (gI s 87 8) ≤ 0 then
    stp (sI s 87 7 1) fun s2 =>
    some (gI s2 87 76, s2)
  else
    bd (f_X14_fail 1 s) fun r7 s4 =>
    some (r7, s4)
theorem wj_X14_compile_283 {s : vS} {out : Int × vS} (h : j_X14_compile_283 s = some out)  : VW cX14_compile (RX14, (some (vI out.1)), out.2, (some .int), 11, 241, 2, []) (P0 []) s 283 [(0, vO 87)] [] := by
  unfold j_X14_compile_283 at h
  refine v_aload_n dX14_compile_283 0 rfl rfl ?_
  refine v_getI (f := 8) cf14 oc87 rfl (by decide) q2378 dX14_compile_284 ?_
  refine v_if_le (tgt := 296) dX14_compile_287 (gI_rg _ _ _) (by decide) (fun c1 => ?_) (fun c1 => ?_)
  · rw [if_pos c1] at h
    refine v_aload_n dX14_compile_296 0 rfl rfl ?_
    refine v_iconst dX14_compile_297 ?_
    obtain ⟨s2, e3, h⟩ := stp_some h
    refine v_putZ (f := 7) cf14 oc87 rfl (by decide) q2377 dX14_compile_298 rfl rfl (Or.inr rfl) ?_
    rw [← e3]
    refine v_aload_n dX14_compile_301 0 rfl rfl ?_
    refine v_getI (f := 76) cf14 oc87 rfl (by decide) q2446 dX14_compile_302 ?_
    cases h
    exact v_iret (gI_rg _ _ _) dX14_compile_305
  · rw [if_neg c1] at h
    refine v_aload_n dX14_compile_290 0 rfl rfl ?_
    refine v_iconst dX14_compile_291 ?_
    obtain ⟨r7, s4, e5, h⟩ := bd_some h
    have k6 := c_X14_fail e5 (rgl rfl)
    have r8 : rg r7 := k6.1.2.2
    refine v_callV (st := []) cf14 oc87 k6 (lw_V q2870 q2872 qs156 q311 q2873) rfl yk_X14_fail ⟨Nat.le_of_ble_eq_true rfl, Nat.le_of_ble_eq_true rfl⟩ trivial ⟨kc87, trivial⟩ (Nat.le_of_ble_eq_true rfl) rfl dX14_compile_292 ?_
    cases h
    exact v_iret r8 dX14_compile_295

def j_X14_compile_272 (s : vS) : Option (Int × vS) :=
  if (gI s 87 8) = 0 then
    bdv (f_X14_checkValues s) fun s2 =>
    j_X14_compile_283 s2
  else
    j_X14_compile_283 s
theorem wj_X14_compile_272 {s : vS} {out : Int × vS} (h : j_X14_compile_272 s = some out)  : VW cX14_compile (RX14, (some (vI out.1)), out.2, (some .int), 11, 241, 2, []) (P0 []) s 272 [(0, vO 87)] [] := by
  unfold j_X14_compile_272 at h
  refine v_aload_n dX14_compile_272 0 rfl rfl ?_
  refine v_getI (f := 8) cf14 oc87 rfl (by decide) q2378 dX14_compile_273 ?_
  refine v_if_ne (tgt := 283) dX14_compile_276 (gI_rg _ _ _) (by decide) (fun c1 => ?_) (fun c1 => ?_)
  · rw [if_neg c1] at h
    exact wj_X14_compile_283 h 
  · rw [if_pos c1] at h
    refine v_aload_n dX14_compile_279 0 rfl rfl ?_
    obtain ⟨s2, e3, h⟩ := bdv_some h
    have k4 := c_X14_checkValues e3
    refine v_callV (st := []) cf14 oc87 k4 (lw_V q3199 q3201 qs228 q311 q3202) rfl yk_X14_checkValues ⟨Nat.le_of_ble_eq_true rfl, Nat.le_of_ble_eq_true rfl⟩ trivial ⟨kc87, trivial⟩ (Nat.le_of_ble_eq_true rfl) rfl dX14_compile_280 ?_
    exact wj_X14_compile_283 h 

def j_X14_compile_261 (s : vS) : Option (Int × vS) :=
  if (gI s 87 8) = 0 then
    bdv (f_X14_checkBounds s) fun s2 =>
    j_X14_compile_272 s2
  else
    j_X14_compile_272 s
theorem wj_X14_compile_261 {s : vS} {out : Int × vS} (h : j_X14_compile_261 s = some out)  : VW cX14_compile (RX14, (some (vI out.1)), out.2, (some .int), 11, 241, 2, []) (P0 []) s 261 [(0, vO 87)] [] := by
  unfold j_X14_compile_261 at h
  refine v_aload_n dX14_compile_261 0 rfl rfl ?_
  refine v_getI (f := 8) cf14 oc87 rfl (by decide) q2378 dX14_compile_262 ?_
  refine v_if_ne (tgt := 272) dX14_compile_265 (gI_rg _ _ _) (by decide) (fun c1 => ?_) (fun c1 => ?_)
  · rw [if_neg c1] at h
    exact wj_X14_compile_272 h 
  · rw [if_pos c1] at h
    refine v_aload_n dX14_compile_268 0 rfl rfl ?_
    obtain ⟨s2, e3, h⟩ := bdv_some h
    have k4 := c_X14_checkBounds e3
    refine v_callV (st := []) cf14 oc87 k4 (lw_V q3180 q3182 qs224 q311 q3183) rfl yk_X14_checkBounds ⟨Nat.le_of_ble_eq_true rfl, Nat.le_of_ble_eq_true rfl⟩ trivial ⟨kc87, trivial⟩ (Nat.le_of_ble_eq_true rfl) rfl dX14_compile_269 ?_
    exact wj_X14_compile_272 h 

def j_X14_compile_250 (s : vS) : Option (Int × vS) :=
  if (gI s 87 8) = 0 then
    bdv (f_X14_checkCircles s) fun s2 =>
    j_X14_compile_261 s2
  else
    j_X14_compile_261 s
theorem wj_X14_compile_250 {s : vS} {out : Int × vS} (h : j_X14_compile_250 s = some out)  : VW cX14_compile (RX14, (some (vI out.1)), out.2, (some .int), 11, 241, 2, []) (P0 []) s 250 [(0, vO 87)] [] := by
  unfold j_X14_compile_250 at h
  refine v_aload_n dX14_compile_250 0 rfl rfl ?_
  refine v_getI (f := 8) cf14 oc87 rfl (by decide) q2378 dX14_compile_251 ?_
  refine v_if_ne (tgt := 261) dX14_compile_254 (gI_rg _ _ _) (by decide) (fun c1 => ?_) (fun c1 => ?_)
  · rw [if_neg c1] at h
    exact wj_X14_compile_261 h 
  · rw [if_pos c1] at h
    refine v_aload_n dX14_compile_257 0 rfl rfl ?_
    obtain ⟨s2, e3, h⟩ := bdv_some h
    have k4 := c_X14_checkCircles e3
    refine v_callV (st := []) cf14 oc87 k4 (lw_V q3172 q3174 qs222 q311 q3175) rfl yk_X14_checkCircles ⟨Nat.le_of_ble_eq_true rfl, Nat.le_of_ble_eq_true rfl⟩ trivial ⟨kc87, trivial⟩ (Nat.le_of_ble_eq_true rfl) rfl dX14_compile_258 ?_
    exact wj_X14_compile_261 h 

def j_X14_compile_239 (s : vS) : Option (Int × vS) :=
  if (gI s 87 8) = 0 then
    bdv (f_X14_checkRows s) fun s2 =>
    j_X14_compile_250 s2
  else
    j_X14_compile_250 s
theorem wj_X14_compile_239 {s : vS} {out : Int × vS} (h : j_X14_compile_239 s = some out)  : VW cX14_compile (RX14, (some (vI out.1)), out.2, (some .int), 11, 241, 2, []) (P0 []) s 239 [(0, vO 87)] [] := by
  unfold j_X14_compile_239 at h
  refine v_aload_n dX14_compile_239 0 rfl rfl ?_
  refine v_getI (f := 8) cf14 oc87 rfl (by decide) q2378 dX14_compile_240 ?_
  refine v_if_ne (tgt := 250) dX14_compile_243 (gI_rg _ _ _) (by decide) (fun c1 => ?_) (fun c1 => ?_)
  · rw [if_neg c1] at h
    exact wj_X14_compile_250 h 
  · rw [if_pos c1] at h
    refine v_aload_n dX14_compile_246 0 rfl rfl ?_
    obtain ⟨s2, e3, h⟩ := bdv_some h
    have k4 := c_X14_checkRows e3
    refine v_callV (st := []) cf14 oc87 k4 (lw_V q3160 q3162 qs219 q311 q3163) rfl yk_X14_checkRows ⟨Nat.le_of_ble_eq_true rfl, Nat.le_of_ble_eq_true rfl⟩ trivial ⟨kc87, trivial⟩ (Nat.le_of_ble_eq_true rfl) rfl dX14_compile_247 ?_
    exact wj_X14_compile_250 h 

def j_X14_compile_228 (s : vS) : Option (Int × vS) :=
  if (gI s 87 8) = 0 then
    bdv (f_X14_checkTags s) fun s2 =>
    j_X14_compile_239 s2
  else
    j_X14_compile_239 s
theorem wj_X14_compile_228 {s : vS} {out : Int × vS} (h : j_X14_compile_228 s = some out)  : VW cX14_compile (RX14, (some (vI out.1)), out.2, (some .int), 11, 241, 2, []) (P0 []) s 228 [(0, vO 87)] [] := by
  unfold j_X14_compile_228 at h
  refine v_aload_n dX14_compile_228 0 rfl rfl ?_
  refine v_getI (f := 8) cf14 oc87 rfl (by decide) q2378 dX14_compile_229 ?_
  refine v_if_ne (tgt := 239) dX14_compile_232 (gI_rg _ _ _) (by decide) (fun c1 => ?_) (fun c1 => ?_)
  · rw [if_neg c1] at h
    exact wj_X14_compile_239 h 
  · rw [if_pos c1] at h
    refine v_aload_n dX14_compile_235 0 rfl rfl ?_
    obtain ⟨s2, e3, h⟩ := bdv_some h
    have k4 := c_X14_checkTags e3
    refine v_callV (st := []) cf14 oc87 k4 (lw_V q3145 q3147 qs216 q311 q3148) rfl yk_X14_checkTags ⟨Nat.le_of_ble_eq_true rfl, Nat.le_of_ble_eq_true rfl⟩ trivial ⟨kc87, trivial⟩ (Nat.le_of_ble_eq_true rfl) rfl dX14_compile_236 ?_
    exact wj_X14_compile_239 h 

def j_X14_compile_217 (s : vS) : Option (Int × vS) :=
  if (gI s 87 8) = 0 then
    bdv (f_X14_checkEndless s) fun s2 =>
    j_X14_compile_228 s2
  else
    j_X14_compile_228 s
theorem wj_X14_compile_217 {s : vS} {out : Int × vS} (h : j_X14_compile_217 s = some out)  : VW cX14_compile (RX14, (some (vI out.1)), out.2, (some .int), 11, 241, 2, []) (P0 []) s 217 [(0, vO 87)] [] := by
  unfold j_X14_compile_217 at h
  refine v_aload_n dX14_compile_217 0 rfl rfl ?_
  refine v_getI (f := 8) cf14 oc87 rfl (by decide) q2378 dX14_compile_218 ?_
  refine v_if_ne (tgt := 228) dX14_compile_221 (gI_rg _ _ _) (by decide) (fun c1 => ?_) (fun c1 => ?_)
  · rw [if_neg c1] at h
    exact wj_X14_compile_228 h 
  · rw [if_pos c1] at h
    refine v_aload_n dX14_compile_224 0 rfl rfl ?_
    obtain ⟨s2, e3, h⟩ := bdv_some h
    have k4 := c_X14_checkEndless e3
    refine v_callV (st := []) cf14 oc87 k4 (lw_V q3137 q3139 qs214 q311 q3140) rfl yk_X14_checkEndless ⟨Nat.le_of_ble_eq_true rfl, Nat.le_of_ble_eq_true rfl⟩ trivial ⟨kc87, trivial⟩ (Nat.le_of_ble_eq_true rfl) rfl dX14_compile_225 ?_
    exact wj_X14_compile_228 h 

def j_X14_compile_206 (s : vS) : Option (Int × vS) :=
  if (gI s 87 8) = 0 then
    bdv (f_X14_checkUnknown s) fun s2 =>
    j_X14_compile_217 s2
  else
    j_X14_compile_217 s
theorem wj_X14_compile_206 {s : vS} {out : Int × vS} (h : j_X14_compile_206 s = some out)  : VW cX14_compile (RX14, (some (vI out.1)), out.2, (some .int), 11, 241, 2, []) (P0 []) s 206 [(0, vO 87)] [] := by
  unfold j_X14_compile_206 at h
  refine v_aload_n dX14_compile_206 0 rfl rfl ?_
  refine v_getI (f := 8) cf14 oc87 rfl (by decide) q2378 dX14_compile_207 ?_
  refine v_if_ne (tgt := 217) dX14_compile_210 (gI_rg _ _ _) (by decide) (fun c1 => ?_) (fun c1 => ?_)
  · rw [if_neg c1] at h
    exact wj_X14_compile_217 h 
  · rw [if_pos c1] at h
    refine v_aload_n dX14_compile_213 0 rfl rfl ?_
    obtain ⟨s2, e3, h⟩ := bdv_some h
    have k4 := c_X14_checkUnknown e3
    refine v_callV (st := []) cf14 oc87 k4 (lw_V q3117 q3119 qs209 q311 q3120) rfl yk_X14_checkUnknown ⟨Nat.le_of_ble_eq_true rfl, Nat.le_of_ble_eq_true rfl⟩ trivial ⟨kc87, trivial⟩ (Nat.le_of_ble_eq_true rfl) rfl dX14_compile_214 ?_
    exact wj_X14_compile_217 h 

def j_X14_compile_195 (s : vS) : Option (Int × vS) :=
  if (gI s 87 8) = 0 then
    bdv (f_X14_countItems s) fun s2 =>
    j_X14_compile_206 s2
  else
    j_X14_compile_206 s
theorem wj_X14_compile_195 {s : vS} {out : Int × vS} (h : j_X14_compile_195 s = some out)  : VW cX14_compile (RX14, (some (vI out.1)), out.2, (some .int), 11, 241, 2, []) (P0 []) s 195 [(0, vO 87)] [] := by
  unfold j_X14_compile_195 at h
  refine v_aload_n dX14_compile_195 0 rfl rfl ?_
  refine v_getI (f := 8) cf14 oc87 rfl (by decide) q2378 dX14_compile_196 ?_
  refine v_if_ne (tgt := 206) dX14_compile_199 (gI_rg _ _ _) (by decide) (fun c1 => ?_) (fun c1 => ?_)
  · rw [if_neg c1] at h
    exact wj_X14_compile_206 h 
  · rw [if_pos c1] at h
    refine v_aload_n dX14_compile_202 0 rfl rfl ?_
    obtain ⟨s2, e3, h⟩ := bdv_some h
    have k4 := c_X14_countItems e3
    refine v_callV (st := []) cf14 oc87 k4 (lw_V q3105 q3107 qs206 q311 q3108) rfl yk_X14_countItems ⟨Nat.le_of_ble_eq_true rfl, Nat.le_of_ble_eq_true rfl⟩ trivial ⟨kc87, trivial⟩ (Nat.le_of_ble_eq_true rfl) rfl dX14_compile_203 ?_
    exact wj_X14_compile_206 h 

def j_X14_compile_184 (s : vS) : Option (Int × vS) :=
  if (gI s 87 8) = 0 then
    bdv (f_X14_checkTwice s) fun s2 =>
    j_X14_compile_195 s2
  else
    j_X14_compile_195 s
theorem wj_X14_compile_184 {s : vS} {out : Int × vS} (h : j_X14_compile_184 s = some out)  : VW cX14_compile (RX14, (some (vI out.1)), out.2, (some .int), 11, 241, 2, []) (P0 []) s 184 [(0, vO 87)] [] := by
  unfold j_X14_compile_184 at h
  refine v_aload_n dX14_compile_184 0 rfl rfl ?_
  refine v_getI (f := 8) cf14 oc87 rfl (by decide) q2378 dX14_compile_185 ?_
  refine v_if_ne (tgt := 195) dX14_compile_188 (gI_rg _ _ _) (by decide) (fun c1 => ?_) (fun c1 => ?_)
  · rw [if_neg c1] at h
    exact wj_X14_compile_195 h 
  · rw [if_pos c1] at h
    refine v_aload_n dX14_compile_191 0 rfl rfl ?_
    obtain ⟨s2, e3, h⟩ := bdv_some h
    have k4 := c_X14_checkTwice e3
    refine v_callV (st := []) cf14 oc87 k4 (lw_V q3077 q3079 qs199 q311 q3080) rfl yk_X14_checkTwice ⟨Nat.le_of_ble_eq_true rfl, Nat.le_of_ble_eq_true rfl⟩ trivial ⟨kc87, trivial⟩ (Nat.le_of_ble_eq_true rfl) rfl dX14_compile_192 ?_
    exact wj_X14_compile_195 h 

def f_X14_compile (s : vS) : Option (Int × vS) :=
  stp (sI s 87 3 0) fun s1 =>
  stp (sI s1 87 7 0) fun s3 =>
  stp (sI s3 87 8 0) fun s5 =>
  stp (sI s5 87 9 0) fun s7 =>
  stp (sI s7 87 94 (-1)) fun s9 =>
  stp (sI s9 87 13 (gI s9 87 4)) fun s11 =>
  lq_0 (l_X14_compile_35 FU 0 s11) fun s13 =>
  stp (sI s13 87 4 0) fun s15 =>
  stp (sI s15 87 20 0) fun s17 =>
  stp (sI s17 87 116 (-1)) fun s19 =>
  stp (sI s19 87 32 0) fun s21 =>
  stp (sI s21 87 37 0) fun s23 =>
  stp (sI s23 87 42 0) fun s25 =>
  stp (sI s25 87 48 0) fun s27 =>
  stp (sI s27 87 54 0) fun s29 =>
  stp (sI s29 87 61 0) fun s31 =>
  stp (sI s31 87 69 0) fun s33 =>
  stp (sI s33 87 72 0) fun s35 =>
  stp (sI s35 87 76 0) fun s37 =>
  stp (sI s37 87 84 0) fun s39 =>
  stp (sI s39 87 85 0) fun s41 =>
  bdv (f_X14_roomForLexemes s41) fun s43 =>
  bdv (f_X14_cutText s43) fun s46 =>
  bdv (f_X14_roomForTypes s46) fun s49 =>
  lq_0 (l_X14_compile_145 FU 0 s49) fun s52 =>
  if (gI s52 87 8) = 0 then
    bdv (f_X14_parseModule s52) fun s55 =>
    j_X14_compile_184 s55
  else
    j_X14_compile_184 s52
theorem yk_X14_compile : yOk yX14_compile 0 := ⟨by decide, by decide, by decide +kernel⟩
theorem c_X14_compile {s : vS} {out : Int × vS} (h : f_X14_compile s = some out)   : VC yX14_compile cX14_compile 2 (some .int) 11 241 [vO 87] s (some (vI out.1)) out.2 [] := by
  unfold f_X14_compile at h
  refine VC.of RX14 (by decide) rfl (Nat.le_of_ble_eq_true rfl) ?_
  show VW cX14_compile (RX14, (some (vI out.1)), out.2, (some .int), 11, 241, 2, []) (P0 []) s 0 [(0, vO 87)] []
  refine v_aload_n dX14_compile_0 0 rfl rfl ?_
  refine v_iconst dX14_compile_1 ?_
  obtain ⟨s1, e2, h⟩ := stp_some h
  refine v_putI (f := 3) cf14 oc87 rfl (by decide) q2373 dX14_compile_2 rfl rfl ?_
  rw [← e2]
  refine v_aload_n dX14_compile_5 0 rfl rfl ?_
  refine v_iconst dX14_compile_6 ?_
  obtain ⟨s3, e4, h⟩ := stp_some h
  refine v_putZ (f := 7) cf14 oc87 rfl (by decide) q2377 dX14_compile_7 rfl rfl (Or.inl rfl) ?_
  rw [← e4]
  refine v_aload_n dX14_compile_10 0 rfl rfl ?_
  refine v_iconst dX14_compile_11 ?_
  obtain ⟨s5, e6, h⟩ := stp_some h
  refine v_putI (f := 8) cf14 oc87 rfl (by decide) q2378 dX14_compile_12 rfl rfl ?_
  rw [← e6]
  refine v_aload_n dX14_compile_15 0 rfl rfl ?_
  refine v_iconst dX14_compile_16 ?_
  obtain ⟨s7, e8, h⟩ := stp_some h
  refine v_putI (f := 9) cf14 oc87 rfl (by decide) q2379 dX14_compile_17 rfl rfl ?_
  rw [← e8]
  refine v_aload_n dX14_compile_20 0 rfl rfl ?_
  refine v_iconst dX14_compile_21 ?_
  obtain ⟨s9, e10, h⟩ := stp_some h
  refine v_putI (f := 94) cf14 oc87 rfl (by decide) q2464 dX14_compile_22 rfl rfl ?_
  rw [← e10]
  refine v_aload_n dX14_compile_25 0 rfl rfl ?_
  refine v_aload_n dX14_compile_26 0 rfl rfl ?_
  refine v_getI (f := 4) cf14 oc87 rfl (by decide) q2374 dX14_compile_27 ?_
  obtain ⟨s11, e12, h⟩ := stp_some h
  refine v_putI (f := 13) cf14 oc87 rfl (by decide) q2383 dX14_compile_30 rfl rfl ?_
  rw [← e12]
  refine v_iconst dX14_compile_33 ?_
  refine v_istore_n (L1 := [(1, vI 0), (0, vO 87)]) dX14_compile_34 rfl (by decide) rfl ?_
  refine v_sub [1, 0] (L1 := [(0, vO 87), (1, vI 0)]) rfl ?_
  obtain ⟨s13, e14, h⟩ := lq_0_some h
  refine wl_X14_compile_35  FU 0 s11 _ e14 (rgl rfl) ?_
  unfold E_X14_compile_35
  intro s13' z_
  cases z_
  refine v_aload_n dX14_compile_61 0 rfl rfl ?_
  refine v_iconst dX14_compile_62 ?_
  obtain ⟨s15, e16, h⟩ := stp_some h
  refine v_putI (f := 4) cf14 oc87 rfl (by decide) q2374 dX14_compile_63 rfl rfl ?_
  rw [← e16]
  refine v_aload_n dX14_compile_66 0 rfl rfl ?_
  refine v_iconst dX14_compile_67 ?_
  obtain ⟨s17, e18, h⟩ := stp_some h
  refine v_putI (f := 20) cf14 oc87 rfl (by decide) q2390 dX14_compile_68 rfl rfl ?_
  rw [← e18]
  refine v_aload_n dX14_compile_71 0 rfl rfl ?_
  refine v_iconst dX14_compile_72 ?_
  obtain ⟨s19, e20, h⟩ := stp_some h
  refine v_putI (f := 116) cf14 oc87 rfl (by decide) q2486 dX14_compile_73 rfl rfl ?_
  rw [← e20]
  refine v_aload_n dX14_compile_76 0 rfl rfl ?_
  refine v_iconst dX14_compile_77 ?_
  obtain ⟨s21, e22, h⟩ := stp_some h
  refine v_putI (f := 32) cf14 oc87 rfl (by decide) q2402 dX14_compile_78 rfl rfl ?_
  rw [← e22]
  refine v_aload_n dX14_compile_81 0 rfl rfl ?_
  refine v_iconst dX14_compile_82 ?_
  obtain ⟨s23, e24, h⟩ := stp_some h
  refine v_putI (f := 37) cf14 oc87 rfl (by decide) q2407 dX14_compile_83 rfl rfl ?_
  rw [← e24]
  refine v_aload_n dX14_compile_86 0 rfl rfl ?_
  refine v_iconst dX14_compile_87 ?_
  obtain ⟨s25, e26, h⟩ := stp_some h
  refine v_putI (f := 42) cf14 oc87 rfl (by decide) q2412 dX14_compile_88 rfl rfl ?_
  rw [← e26]
  refine v_aload_n dX14_compile_91 0 rfl rfl ?_
  refine v_iconst dX14_compile_92 ?_
  obtain ⟨s27, e28, h⟩ := stp_some h
  refine v_putI (f := 48) cf14 oc87 rfl (by decide) q2418 dX14_compile_93 rfl rfl ?_
  rw [← e28]
  refine v_aload_n dX14_compile_96 0 rfl rfl ?_
  refine v_iconst dX14_compile_97 ?_
  obtain ⟨s29, e30, h⟩ := stp_some h
  refine v_putI (f := 54) cf14 oc87 rfl (by decide) q2424 dX14_compile_98 rfl rfl ?_
  rw [← e30]
  refine v_aload_n dX14_compile_101 0 rfl rfl ?_
  refine v_iconst dX14_compile_102 ?_
  obtain ⟨s31, e32, h⟩ := stp_some h
  refine v_putI (f := 61) cf14 oc87 rfl (by decide) q2431 dX14_compile_103 rfl rfl ?_
  rw [← e32]
  refine v_aload_n dX14_compile_106 0 rfl rfl ?_
  refine v_iconst dX14_compile_107 ?_
  obtain ⟨s33, e34, h⟩ := stp_some h
  refine v_putI (f := 69) cf14 oc87 rfl (by decide) q2439 dX14_compile_108 rfl rfl ?_
  rw [← e34]
  refine v_aload_n dX14_compile_111 0 rfl rfl ?_
  refine v_iconst dX14_compile_112 ?_
  obtain ⟨s35, e36, h⟩ := stp_some h
  refine v_putI (f := 72) cf14 oc87 rfl (by decide) q2442 dX14_compile_113 rfl rfl ?_
  rw [← e36]
  refine v_aload_n dX14_compile_116 0 rfl rfl ?_
  refine v_iconst dX14_compile_117 ?_
  obtain ⟨s37, e38, h⟩ := stp_some h
  refine v_putI (f := 76) cf14 oc87 rfl (by decide) q2446 dX14_compile_118 rfl rfl ?_
  rw [← e38]
  refine v_aload_n dX14_compile_121 0 rfl rfl ?_
  refine v_iconst dX14_compile_122 ?_
  obtain ⟨s39, e40, h⟩ := stp_some h
  refine v_putI (f := 84) cf14 oc87 rfl (by decide) q2454 dX14_compile_123 rfl rfl ?_
  rw [← e40]
  refine v_aload_n dX14_compile_126 0 rfl rfl ?_
  refine v_iconst dX14_compile_127 ?_
  obtain ⟨s41, e42, h⟩ := stp_some h
  refine v_putI (f := 85) cf14 oc87 rfl (by decide) q2455 dX14_compile_128 rfl rfl ?_
  rw [← e42]
  refine v_aload_n dX14_compile_131 0 rfl rfl ?_
  obtain ⟨s43, e44, h⟩ := bdv_some h
  have k45 := c_X14_roomForLexemes e44
  refine v_callV (st := []) cf14 oc87 k45 (lw_V q2885 q2887 qs157 q311 q2888) rfl yk_X14_roomForLexemes ⟨Nat.le_of_ble_eq_true rfl, Nat.le_of_ble_eq_true rfl⟩ trivial ⟨kc87, trivial⟩ (Nat.le_of_ble_eq_true rfl) rfl dX14_compile_132 ?_
  refine v_aload_n dX14_compile_135 0 rfl rfl ?_
  obtain ⟨s46, e47, h⟩ := bdv_some h
  have k48 := c_X14_cutText e47
  refine v_callV (st := []) cf14 oc87 k48 (lw_V q2893 q2895 qs158 q311 q2896) rfl yk_X14_cutText ⟨Nat.le_of_ble_eq_true rfl, Nat.le_of_ble_eq_true rfl⟩ trivial ⟨kc87, trivial⟩ (Nat.le_of_ble_eq_true rfl) rfl dX14_compile_136 ?_
  refine v_aload_n dX14_compile_139 0 rfl rfl ?_
  obtain ⟨s49, e50, h⟩ := bdv_some h
  have k51 := c_X14_roomForTypes e50
  refine v_callV (st := []) cf14 oc87 k51 (lw_V q2956 q2958 qs170 q311 q2959) rfl yk_X14_roomForTypes ⟨Nat.le_of_ble_eq_true rfl, Nat.le_of_ble_eq_true rfl⟩ trivial ⟨kc87, trivial⟩ (Nat.le_of_ble_eq_true rfl) rfl dX14_compile_140 ?_
  refine v_iconst dX14_compile_143 ?_
  refine v_istore_n (L1 := [(1, vI 0), (0, vO 87)]) dX14_compile_144 rfl (by decide) rfl ?_
  refine v_sub [1, 0] (L1 := [(0, vO 87), (1, vI 0)]) rfl ?_
  obtain ⟨s52, e53, h⟩ := lq_0_some h
  refine wl_X14_compile_145  FU 0 s49 _ e53 (rgl rfl) ?_
  unfold E_X14_compile_145
  intro s52' z_
  cases z_
  refine v_aload_n dX14_compile_173 0 rfl rfl ?_
  refine v_getI (f := 8) cf14 oc87 rfl (by decide) q2378 dX14_compile_174 ?_
  refine v_if_ne (tgt := 184) dX14_compile_177 (gI_rg _ _ _) (by decide) (fun c54 => ?_) (fun c54 => ?_)
  · rw [if_neg c54] at h
    exact wj_X14_compile_184 h 
  · rw [if_pos c54] at h
    refine v_aload_n dX14_compile_180 0 rfl rfl ?_
    obtain ⟨s55, e56, h⟩ := bdv_some h
    have k57 := c_X14_parseModule e56
    refine v_callV (st := []) cf14 oc87 k57 (lw_V q2960 q2962 qs171 q311 q2963) rfl yk_X14_parseModule ⟨Nat.le_of_ble_eq_true rfl, Nat.le_of_ble_eq_true rfl⟩ trivial ⟨kc87, trivial⟩ (Nat.le_of_ble_eq_true rfl) rfl dX14_compile_181 ?_
    exact wj_X14_compile_184 h 

def f_X14_fault (x1 : Int) (s : vS) : Option (Int × vS) :=
  stp (sI s 87 3 0) fun s1 =>
  if x1 = 0 then
    some (gI s1 87 8, s1)
  else
    if x1 = 1 then
      some (gI s1 87 9, s1)
    else
      bd (f_X14_fail 1 s1) fun r8 s5 =>
      some (r8, s5)
theorem yk_X14_fault : yOk yX14_fault 1 := ⟨by decide, by decide, by decide +kernel⟩
theorem c_X14_fault {x1 : Int} {s : vS} {out : Int × vS} (h : f_X14_fault x1 s = some out)  (rx1 : rg x1) : VC yX14_fault cX14_fault 2 (some .int) 1 21 [vO 87, vI x1] s (some (vI out.1)) out.2 [] := by
  unfold f_X14_fault at h
  refine VC.of RX14 (by decide) rfl (Nat.le_of_ble_eq_true rfl) ?_
  show VW cX14_fault (RX14, (some (vI out.1)), out.2, (some .int), 1, 21, 2, []) (P0 []) s 0 [(0, vO 87), (1, vI x1)] []
  refine v_aload_n dX14_fault_0 0 rfl rfl ?_
  refine v_iconst dX14_fault_1 ?_
  obtain ⟨s1, e2, h⟩ := stp_some h
  refine v_putI (f := 3) cf14 oc87 rfl (by decide) q2373 dX14_fault_2 rfl rfl ?_
  rw [← e2]
  refine v_iload_n dX14_fault_5 1 rfl rfl ?_
  refine v_if_ne (tgt := 16) dX14_fault_6 rx1 (by decide) (fun c3 => ?_) (fun c3 => ?_)
  · rw [if_neg c3] at h
    refine v_iload_n dX14_fault_16 1 rfl rfl ?_
    refine v_iconst dX14_fault_17 ?_
    refine v_icmp_ne (tgt := 28) dX14_fault_18 rx1 (rgl rfl) (by decide) (fun c4 => ?_) (fun c4 => ?_)
    · rw [if_neg c4] at h
      refine v_aload_n dX14_fault_28 0 rfl rfl ?_
      refine v_iconst dX14_fault_29 ?_
      obtain ⟨r8, s5, e6, h⟩ := bd_some h
      have k7 := c_X14_fail e6 (rgl rfl)
      have r9 : rg r8 := k7.1.2.2
      refine v_callV (st := []) cf14 oc87 k7 (lw_V q2870 q2872 qs156 q311 q2873) rfl yk_X14_fail ⟨Nat.le_of_ble_eq_true rfl, Nat.le_of_ble_eq_true rfl⟩ trivial ⟨kc87, trivial⟩ (Nat.le_of_ble_eq_true rfl) rfl dX14_fault_30 ?_
      cases h
      exact v_iret r9 dX14_fault_33
    · rw [if_pos c4] at h
      refine v_aload_n dX14_fault_21 0 rfl rfl ?_
      refine v_getI (f := 9) cf14 oc87 rfl (by decide) q2379 dX14_fault_22 ?_
      refine v_goto (tgt := 33) dX14_fault_25 (by decide) ?_
      cases h
      exact v_iret (gI_rg _ _ _) dX14_fault_33
  · rw [if_pos c3] at h
    refine v_aload_n dX14_fault_9 0 rfl rfl ?_
    refine v_getI (f := 8) cf14 oc87 rfl (by decide) q2378 dX14_fault_10 ?_
    refine v_goto (tgt := 33) dX14_fault_13 (by decide) ?_
    cases h
    exact v_iret (gI_rg _ _ _) dX14_fault_33

def f_X14_hasType (x1 : Int) (s : vS) : Option (Int × vS) :=
  if (gI s 87 7) = 0 then
    some (0, s)
  else
    bd (f_X14_within x1 0 (w32 ((gI s 87 76) - 1)) s) fun r5 s2 =>
    if r5 = 0 then
      some (0, s2)
    else
      some (1, s2)
theorem yk_X14_hasType : yOk yX14_hasType 1 := ⟨by decide, by decide, by decide +kernel⟩
theorem c_X14_hasType {x1 : Int} {s : vS} {out : Int × vS} (h : f_X14_hasType x1 s = some out)  (rx1 : rg x1) : VC yX14_hasType cX14_hasType 2 (some .boolean) 1 22 [vO 87, vI x1] s (some (vI out.1)) out.2 [] := by
  unfold f_X14_hasType at h
  refine VC.of RX14 (by decide) rfl (Nat.le_of_ble_eq_true rfl) ?_
  show VW cX14_hasType (RX14, (some (vI out.1)), out.2, (some .boolean), 1, 22, 2, []) (P0 []) s 0 [(0, vO 87), (1, vI x1)] []
  refine v_aload_n dX14_hasType_0 0 rfl rfl ?_
  refine v_getI (f := 7) cf14 oc87 rfl (by decide) q2377 dX14_hasType_1 ?_
  refine v_if_eq (tgt := 25) dX14_hasType_4 (gI_rg _ _ _) (by decide) (fun c1 => ?_) (fun c1 => ?_)
  · rw [if_pos c1] at h
    refine v_iconst dX14_hasType_25 ?_
    cases h
    exact v_zret (Or.inl rfl) dX14_hasType_26
  · rw [if_neg c1] at h
    refine v_iload_n dX14_hasType_7 1 rfl rfl ?_
    refine v_iconst dX14_hasType_8 ?_
    refine v_aload_n dX14_hasType_9 0 rfl rfl ?_
    refine v_getI (f := 76) cf14 oc87 rfl (by decide) q2446 dX14_hasType_10 ?_
    refine v_iconst dX14_hasType_13 ?_
    refine v_isub dX14_hasType_14 ?_
    obtain ⟨r5, s2, e3, h⟩ := bd_some h
    have k4 := c_X14_within e3 rx1 (rgl rfl) (w32_rg _)
    have r6 : rg r5 := k4.1.2.2
    refine v_callS (st := []) k4 (lw_S q2878 q2879 q311 q2880) yk_X14_within ⟨Nat.le_of_ble_eq_true rfl, Nat.le_of_ble_eq_true rfl⟩ trivial ⟨kc87, trivial⟩ (Nat.le_of_ble_eq_true rfl) rfl dX14_hasType_15 ?_
    refine v_if_eq (tgt := 25) dX14_hasType_18 r6 (by decide) (fun c7 => ?_) (fun c7 => ?_)
    · rw [if_pos c7] at h
      refine v_iconst dX14_hasType_25 ?_
      cases h
      exact v_zret (Or.inl rfl) dX14_hasType_26
    · rw [if_neg c7] at h
      refine v_iconst dX14_hasType_21 ?_
      refine v_goto (tgt := 26) dX14_hasType_22 (by decide) ?_
      cases h
      exact v_zret (Or.inr rfl) dX14_hasType_26

def j_X14_type_22 (s : vS) : Option (Int × vS) :=
  bd (f_X14_fail 1 s) fun r4 s1 =>
  some (r4, s1)
theorem wj_X14_type_22 {s : vS} {out : Int × vS} (h : j_X14_type_22 s = some out)  : VW cX14_type (RX14, (some (vI out.1)), out.2, (some .int), 2, 47, 6, []) (P0 []) s 22 [(0, vO 87)] [] := by
  unfold j_X14_type_22 at h
  refine v_aload_n dX14_type_22 0 rfl rfl ?_
  refine v_iconst dX14_type_23 ?_
  obtain ⟨r4, s1, e2, h⟩ := bd_some h
  have k3 := c_X14_fail e2 (rgl rfl)
  have r5 : rg r4 := k3.1.2.2
  refine v_callV (st := []) cf14 oc87 k3 (lw_V q2870 q2872 qs156 q311 q2873) rfl yk_X14_fail ⟨Nat.le_of_ble_eq_true rfl, Nat.le_of_ble_eq_true rfl⟩ trivial ⟨kc87, trivial⟩ (Nat.le_of_ble_eq_true rfl) rfl dX14_type_24 ?_
  cases h
  exact v_iret r5 dX14_type_27

def f_X14_type (x1 : Int) (x2 : Int) (s : vS) : Option (Int × vS) :=
  stp (sI s 87 3 0) fun s1 =>
  bd (f_X14_hasType x1 s1) fun r6 s3 =>
  if r6 = 0 then
    j_X14_type_22 s3
  else
    bd (f_X14_within x2 0 5 s3) fun r12 s9 =>
    if r12 = 0 then
      j_X14_type_22 s9
    else
      gd (inb x1 (gN s9 144)) <|
      vl (gE s9 144 x1) fun y16 =>
      gd (inb y16 (gN s9 142)) <|
      vl (gE s9 142 y16) fun y20 =>
      bd (f_X14_root y20 s9) fun r26 s23 =>
      if x2 = 0 then
        gd (inb y16 (gN s23 141)) <|
        gd (inb (gE s23 141 y16) (gN s23 96)) <|
        gd (inb y16 (gN s23 141)) <|
        gd (inb (gE s23 141 y16) (gN s23 95)) <|
        some (w32 ((gE s23 96 (gE s23 141 y16)) - (gE s23 95 (gE s23 141 y16))), s23)
      else
        if x2 = 1 then
          gd (inb r26 (gN s23 97)) <|
          some (gE s23 97 r26, s23)
        else
          if x2 = 5 then
            gd (inb r26 (gN s23 105)) <|
            gd (inb r26 (gN s23 103)) <|
            some (w32 ((gE s23 105 r26) + (gE s23 103 r26)), s23)
          else
            bdv (f_X14_findLayers y20 s23) fun s31 =>
            if x2 = 2 then
              some (gI s31 87 101, s31)
            else
              if (gI s31 87 101) = 0 then
                some ((-1), s31)
              else
                if x2 = 3 then
                  gd (inb (w32 ((gI s31 87 101) - 1)) (gN s31 159)) <|
                  some (w32 (shr64 (gEL s31 159 (w32 ((gI s31 87 101) - 1))) 32), s31)
                else
                  gd (inb (w32 ((gI s31 87 101) - 1)) (gN s31 159)) <|
                  some (w32 (gEL s31 159 (w32 ((gI s31 87 101) - 1))), s31)
theorem yk_X14_type : yOk yX14_type 2 := ⟨by decide, by decide, by decide +kernel⟩
theorem c_X14_type {x1 : Int} {x2 : Int} {s : vS} {out : Int × vS} (h : f_X14_type x1 x2 s = some out)  (rx1 : rg x1) (rx2 : rg x2) : VC yX14_type cX14_type 6 (some .int) 2 47 [vO 87, vI x1, vI x2] s (some (vI out.1)) out.2 [] := by
  unfold f_X14_type at h
  refine VC.of RX14 (by decide) rfl (Nat.le_of_ble_eq_true rfl) ?_
  show VW cX14_type (RX14, (some (vI out.1)), out.2, (some .int), 2, 47, 6, []) (P0 []) s 0 [(0, vO 87), (1, vI x1), (2, vI x2)] []
  refine v_aload_n dX14_type_0 0 rfl rfl ?_
  refine v_iconst dX14_type_1 ?_
  obtain ⟨s1, e2, h⟩ := stp_some h
  refine v_putI (f := 3) cf14 oc87 rfl (by decide) q2373 dX14_type_2 rfl rfl ?_
  rw [← e2]
  refine v_aload_n dX14_type_5 0 rfl rfl ?_
  refine v_iload_n dX14_type_6 1 rfl rfl ?_
  obtain ⟨r6, s3, e4, h⟩ := bd_some h
  have k5 := c_X14_hasType e4 rx1
  have r7 : rg r6 := k5.1.2.2
  refine v_callV (st := []) cf14 oc87 k5 (lw_V q3354 q3356 qs263 q311 q3357) rfl yk_X14_hasType ⟨Nat.le_of_ble_eq_true rfl, Nat.le_of_ble_eq_true rfl⟩ trivial ⟨kc87, trivial⟩ (Nat.le_of_ble_eq_true rfl) rfl dX14_type_7 ?_
  refine v_if_eq (tgt := 22) dX14_type_10 r7 (by decide) (fun c8 => ?_) (fun c8 => ?_)
  · rw [if_pos c8] at h
    refine v_sub [0] (L1 := [(0, vO 87)]) rfl ?_
    exact wj_X14_type_22 h 
  · rw [if_neg c8] at h
    refine v_iload_n dX14_type_13 2 rfl rfl ?_
    refine v_iconst dX14_type_14 ?_
    refine v_iconst dX14_type_15 ?_
    obtain ⟨r12, s9, e10, h⟩ := bd_some h
    have k11 := c_X14_within e10 rx2 (rgl rfl) (rgl rfl)
    have r13 : rg r12 := k11.1.2.2
    refine v_callS (st := []) k11 (lw_S q2878 q2879 q311 q2880) yk_X14_within ⟨Nat.le_of_ble_eq_true rfl, Nat.le_of_ble_eq_true rfl⟩ trivial ⟨kc87, trivial⟩ (Nat.le_of_ble_eq_true rfl) rfl dX14_type_16 ?_
    refine v_if_ne (tgt := 28) dX14_type_19 r13 (by decide) (fun c14 => ?_) (fun c14 => ?_)
    · rw [if_neg c14] at h
      refine v_aload_n dX14_type_28 0 rfl rfl ?_
      refine v_getS (f := 77) (t := 144) cf14 oc87 rfl rfl rfl (by decide) q2447 dX14_type_29 ?_
      refine v_iload_n dX14_type_32 1 rfl rfl ?_
      obtain ⟨g15, h⟩ := gd_some h
      refine v_iald oc144 rx1 g15.1 g15.2 dX14_type_33 ?_
      obtain ⟨y16, e17, h⟩ := vl_some h
      rw [← e17]
      have r18 : rg y16 := by rw [e17]; exact gE_rg _ _ _
      refine v_istore_n (L1 := [(3, vI y16), (0, vO 87), (1, vI x1), (2, vI x2)]) dX14_type_34 rfl (by decide) rfl ?_
      refine v_aload_n dX14_type_35 1 rfl rfl ?_
      refine v_getS (f := 74) (t := 142) cf14 oc87 rfl rfl rfl (by decide) q2444 dX14_type_36 ?_
      refine v_iload_n dX14_type_39 0 rfl rfl ?_
      obtain ⟨g19, h⟩ := gd_some h
      refine v_iald oc142 r18 g19.1 g19.2 dX14_type_40 ?_
      obtain ⟨y20, e21, h⟩ := vl_some h
      rw [← e21]
      have r22 : rg y20 := by rw [e21]; exact gE_rg _ _ _
      refine v_istore (L1 := [(4, vI y20), (3, vI y16), (0, vO 87), (1, vI x1), (2, vI x2)]) dX14_type_41 (by decide) rfl ?_
      refine v_aload_n dX14_type_43 2 rfl rfl ?_
      refine v_iload dX14_type_44 0 rfl ?_
      obtain ⟨r26, s23, e24, h⟩ := bd_some h
      have k25 := c_X14_root e24 r22
      have r27 : rg r26 := k25.1.2.2
      refine v_callV (st := []) cf14 oc87 k25 (lw_V q3129 q3131 qs212 q311 q3132) rfl yk_X14_root ⟨Nat.le_of_ble_eq_true rfl, Nat.le_of_ble_eq_true rfl⟩ trivial ⟨kc87, trivial⟩ (Nat.le_of_ble_eq_true rfl) rfl dX14_type_46 ?_
      refine v_istore (L1 := [(5, vI r26), (4, vI y20), (3, vI y16), (0, vO 87), (1, vI x1), (2, vI x2)]) dX14_type_49 (by decide) rfl ?_
      refine v_iload_n dX14_type_51 5 rfl rfl ?_
      refine v_if_ne (tgt := 79) dX14_type_52 rx2 (by decide) (fun c28 => ?_) (fun c28 => ?_)
      · rw [if_neg c28] at h
        refine v_iload_n dX14_type_79 5 rfl rfl ?_
        refine v_iconst dX14_type_80 ?_
        refine v_icmp_ne (tgt := 92) dX14_type_81 rx2 (rgl rfl) (by decide) (fun c29 => ?_) (fun c29 => ?_)
        · rw [if_neg c29] at h
          refine v_iload_n dX14_type_92 5 rfl rfl ?_
          refine v_iconst dX14_type_93 ?_
          refine v_icmp_ne (tgt := 113) dX14_type_94 rx2 (rgl rfl) (by decide) (fun c30 => ?_) (fun c30 => ?_)
          · rw [if_neg c30] at h
            refine v_aload_n dX14_type_113 3 rfl rfl ?_
            refine v_iload dX14_type_114 1 rfl ?_
            obtain ⟨s31, e32, h⟩ := bdv_some h
            have k33 := c_X14_findLayers e32 r22
            refine v_callV (st := []) cf14 oc87 k33 (lw_V q3153 q3155 qs218 q311 q3156) rfl yk_X14_findLayers ⟨Nat.le_of_ble_eq_true rfl, Nat.le_of_ble_eq_true rfl⟩ trivial ⟨kc87, trivial⟩ (Nat.le_of_ble_eq_true rfl) rfl dX14_type_116 ?_
            refine v_iload_n dX14_type_119 5 rfl rfl ?_
            refine v_iconst dX14_type_120 ?_
            refine v_icmp_ne (tgt := 129) dX14_type_121 rx2 (rgl rfl) (by decide) (fun c34 => ?_) (fun c34 => ?_)
            · rw [if_neg c34] at h
              refine v_aload_n dX14_type_129 3 rfl rfl ?_
              refine v_getI (f := 101) cf14 oc87 rfl (by decide) q2471 dX14_type_130 ?_
              refine v_if_ne (tgt := 138) dX14_type_133 (gI_rg _ _ _) (by decide) (fun c35 => ?_) (fun c35 => ?_)
              · rw [if_neg c35] at h
                refine v_iload_n dX14_type_138 5 rfl rfl ?_
                refine v_iconst dX14_type_139 ?_
                refine v_icmp_ne (tgt := 161) dX14_type_140 rx2 (rgl rfl) (by decide) (fun c36 => ?_) (fun c36 => ?_)
                · rw [if_neg c36] at h
                  refine v_aload_n dX14_type_161 3 rfl rfl ?_
                  refine v_getS (f := 102) (t := 159) cf14 oc87 rfl rfl rfl (by decide) q2472 dX14_type_162 ?_
                  refine v_aload_n dX14_type_165 3 rfl rfl ?_
                  refine v_getI (f := 101) cf14 oc87 rfl (by decide) q2471 dX14_type_166 ?_
                  refine v_iconst dX14_type_169 ?_
                  refine v_isub dX14_type_170 ?_
                  obtain ⟨g37, h⟩ := gd_some h
                  refine v_lald oc159 (w32_rg _) g37.1 g37.2 dX14_type_171 ?_
                  refine v_l2i dX14_type_172 ?_
                  cases h
                  exact v_iret (w32_rg _) dX14_type_173
                · rw [if_pos c36] at h
                  refine v_aload_n dX14_type_143 3 rfl rfl ?_
                  refine v_getS (f := 102) (t := 159) cf14 oc87 rfl rfl rfl (by decide) q2472 dX14_type_144 ?_
                  refine v_aload_n dX14_type_147 3 rfl rfl ?_
                  refine v_getI (f := 101) cf14 oc87 rfl (by decide) q2471 dX14_type_148 ?_
                  refine v_iconst dX14_type_151 ?_
                  refine v_isub dX14_type_152 ?_
                  obtain ⟨g38, h⟩ := gd_some h
                  refine v_lald oc159 (w32_rg _) g38.1 g38.2 dX14_type_153 ?_
                  refine v_bipush dX14_type_154 rfl ?_
                  refine v_lshr dX14_type_156 ?_
                  refine v_l2i dX14_type_157 ?_
                  refine v_goto (tgt := 173) dX14_type_158 (by decide) ?_
                  cases h
                  exact v_iret (w32_rg _) dX14_type_173
              · rw [if_pos c35] at h
                refine v_iconst dX14_type_136 ?_
                cases h
                exact v_iret (rgl rfl) dX14_type_137
            · rw [if_pos c34] at h
              refine v_aload_n dX14_type_124 3 rfl rfl ?_
              refine v_getI (f := 101) cf14 oc87 rfl (by decide) q2471 dX14_type_125 ?_
              cases h
              exact v_iret (gI_rg _ _ _) dX14_type_128
          · rw [if_pos c30] at h
            refine v_aload_n dX14_type_97 3 rfl rfl ?_
            refine v_getS (f := 29) (t := 105) cf14 oc87 rfl rfl rfl (by decide) q2399 dX14_type_98 ?_
            refine v_iload dX14_type_101 0 rfl ?_
            obtain ⟨g39, h⟩ := gd_some h
            refine v_iald oc105 r27 g39.1 g39.2 dX14_type_103 ?_
            refine v_aload_n dX14_type_104 3 rfl rfl ?_
            refine v_getS (f := 27) (t := 103) cf14 oc87 rfl rfl rfl (by decide) q2397 dX14_type_105 ?_
            refine v_iload dX14_type_108 0 rfl ?_
            obtain ⟨g40, h⟩ := gd_some h
            refine v_iald oc103 r27 g40.1 g40.2 dX14_type_110 ?_
            refine v_iadd dX14_type_111 ?_
            cases h
            exact v_iret (w32_rg _) dX14_type_112
        · rw [if_pos c29] at h
          refine v_aload_n dX14_type_84 3 rfl rfl ?_
          refine v_getS (f := 21) (t := 97) cf14 oc87 rfl rfl rfl (by decide) q2391 dX14_type_85 ?_
          refine v_iload dX14_type_88 0 rfl ?_
          obtain ⟨g41, h⟩ := gd_some h
          refine v_iald oc97 r27 g41.1 g41.2 dX14_type_90 ?_
          cases h
          exact v_iret (gE_rg _ _ _) dX14_type_91
      · rw [if_pos c28] at h
        refine v_aload_n dX14_type_55 3 rfl rfl ?_
        refine v_getS (f := 18) (t := 96) cf14 oc87 rfl rfl rfl (by decide) q2388 dX14_type_56 ?_
        refine v_aload_n dX14_type_59 3 rfl rfl ?_
        refine v_getS (f := 73) (t := 141) cf14 oc87 rfl rfl rfl (by decide) q2443 dX14_type_60 ?_
        refine v_iload_n dX14_type_63 2 rfl rfl ?_
        obtain ⟨g42, h⟩ := gd_some h
        refine v_iald oc141 r18 g42.1 g42.2 dX14_type_64 ?_
        obtain ⟨g43, h⟩ := gd_some h
        refine v_iald oc96 (gE_rg _ _ _) g43.1 g43.2 dX14_type_65 ?_
        refine v_aload_n dX14_type_66 3 rfl rfl ?_
        refine v_getS (f := 17) (t := 95) cf14 oc87 rfl rfl rfl (by decide) q2387 dX14_type_67 ?_
        refine v_aload_n dX14_type_70 3 rfl rfl ?_
        refine v_getS (f := 73) (t := 141) cf14 oc87 rfl rfl rfl (by decide) q2443 dX14_type_71 ?_
        refine v_iload_n dX14_type_74 2 rfl rfl ?_
        obtain ⟨g44, h⟩ := gd_some h
        refine v_iald oc141 r18 g44.1 g44.2 dX14_type_75 ?_
        obtain ⟨g45, h⟩ := gd_some h
        refine v_iald oc95 (gE_rg _ _ _) g45.1 g45.2 dX14_type_76 ?_
        refine v_isub dX14_type_77 ?_
        cases h
        exact v_iret (w32_rg _) dX14_type_78
    · rw [if_pos c14] at h
      refine v_sub [0] (L1 := [(0, vO 87)]) rfl ?_
      exact wj_X14_type_22 h 

def f_X14_name (x1 : Int) (x2 : Int) (s : vS) : Option (Int × vS) :=
  stp (sI s 87 3 0) fun s1 =>
  bd (f_X14_hasType x1 s1) fun r6 s3 =>
  if r6 = 0 then
    bd (f_X14_fail 1 s3) fun r32 s29 =>
    some (r32, s29)
  else
    gd (inb x1 (gN s3 144)) <|
    gd (inb (gE s3 144 x1) (gN s3 141)) <|
    vl (gE s3 141 (gE s3 144 x1)) fun y11 =>
    gd (inb y11 (gN s3 96)) <|
    gd (inb y11 (gN s3 95)) <|
    bd (f_X14_within x2 0 (w32 ((w32 ((gE s3 96 y11) - (gE s3 95 y11))) - 1)) s3) fun r19 s16 =>
    if r19 = 0 then
      bd (f_X14_fail 1 s16) fun r25 s22 =>
      some (r25, s22)
    else
      gd (inb y11 (gN s16 95)) <|
      gd (inb (w32 ((gE s16 95 y11) + x2)) (gN s16 93)) <|
      some (gE s16 93 (w32 ((gE s16 95 y11) + x2)), s16)
theorem yk_X14_name : yOk yX14_name 2 := ⟨by decide, by decide, by decide +kernel⟩
theorem c_X14_name {x1 : Int} {x2 : Int} {s : vS} {out : Int × vS} (h : f_X14_name x1 x2 s = some out)  (rx1 : rg x1) (rx2 : rg x2) : VC yX14_name cX14_name 4 (some .int) 2 43 [vO 87, vI x1, vI x2] s (some (vI out.1)) out.2 [] := by
  unfold f_X14_name at h
  refine VC.of RX14 (by decide) rfl (Nat.le_of_ble_eq_true rfl) ?_
  show VW cX14_name (RX14, (some (vI out.1)), out.2, (some .int), 2, 43, 4, []) (P0 []) s 0 [(0, vO 87), (1, vI x1), (2, vI x2)] []
  refine v_aload_n dX14_name_0 0 rfl rfl ?_
  refine v_iconst dX14_name_1 ?_
  obtain ⟨s1, e2, h⟩ := stp_some h
  refine v_putI (f := 3) cf14 oc87 rfl (by decide) q2373 dX14_name_2 rfl rfl ?_
  rw [← e2]
  refine v_aload_n dX14_name_5 0 rfl rfl ?_
  refine v_iload_n dX14_name_6 1 rfl rfl ?_
  obtain ⟨r6, s3, e4, h⟩ := bd_some h
  have k5 := c_X14_hasType e4 rx1
  have r7 : rg r6 := k5.1.2.2
  refine v_callV (st := []) cf14 oc87 k5 (lw_V q3354 q3356 qs263 q311 q3357) rfl yk_X14_hasType ⟨Nat.le_of_ble_eq_true rfl, Nat.le_of_ble_eq_true rfl⟩ trivial ⟨kc87, trivial⟩ (Nat.le_of_ble_eq_true rfl) rfl dX14_name_7 ?_
  refine v_if_ne (tgt := 19) dX14_name_10 r7 (by decide) (fun c8 => ?_) (fun c8 => ?_)
  · rw [if_neg c8] at h
    refine v_aload_n dX14_name_19 0 rfl rfl ?_
    refine v_getS (f := 73) (t := 141) cf14 oc87 rfl rfl rfl (by decide) q2443 dX14_name_20 ?_
    refine v_aload_n dX14_name_23 0 rfl rfl ?_
    refine v_getS (f := 77) (t := 144) cf14 oc87 rfl rfl rfl (by decide) q2447 dX14_name_24 ?_
    refine v_iload_n dX14_name_27 1 rfl rfl ?_
    obtain ⟨g9, h⟩ := gd_some h
    refine v_iald oc144 rx1 g9.1 g9.2 dX14_name_28 ?_
    obtain ⟨g10, h⟩ := gd_some h
    refine v_iald oc141 (gE_rg _ _ _) g10.1 g10.2 dX14_name_29 ?_
    obtain ⟨y11, e12, h⟩ := vl_some h
    rw [← e12]
    have r13 : rg y11 := by rw [e12]; exact gE_rg _ _ _
    refine v_istore_n (L1 := [(3, vI y11), (0, vO 87), (1, vI x1), (2, vI x2)]) dX14_name_30 rfl (by decide) rfl ?_
    refine v_iload_n dX14_name_31 3 rfl rfl ?_
    refine v_iconst dX14_name_32 ?_
    refine v_aload_n dX14_name_33 1 rfl rfl ?_
    refine v_getS (f := 18) (t := 96) cf14 oc87 rfl rfl rfl (by decide) q2388 dX14_name_34 ?_
    refine v_iload_n dX14_name_37 0 rfl rfl ?_
    obtain ⟨g14, h⟩ := gd_some h
    refine v_iald oc96 r13 g14.1 g14.2 dX14_name_38 ?_
    refine v_aload_n dX14_name_39 1 rfl rfl ?_
    refine v_getS (f := 17) (t := 95) cf14 oc87 rfl rfl rfl (by decide) q2387 dX14_name_40 ?_
    refine v_iload_n dX14_name_43 0 rfl rfl ?_
    obtain ⟨g15, h⟩ := gd_some h
    refine v_iald oc95 r13 g15.1 g15.2 dX14_name_44 ?_
    refine v_isub dX14_name_45 ?_
    refine v_iconst dX14_name_46 ?_
    refine v_isub dX14_name_47 ?_
    obtain ⟨r19, s16, e17, h⟩ := bd_some h
    have k18 := c_X14_within e17 rx2 (rgl rfl) (w32_rg _)
    have r20 : rg r19 := k18.1.2.2
    refine v_callS (st := []) k18 (lw_S q2878 q2879 q311 q2880) yk_X14_within ⟨Nat.le_of_ble_eq_true rfl, Nat.le_of_ble_eq_true rfl⟩ trivial ⟨kc87, trivial⟩ (Nat.le_of_ble_eq_true rfl) rfl dX14_name_48 ?_
    refine v_if_eq (tgt := 70) dX14_name_51 r20 (by decide) (fun c21 => ?_) (fun c21 => ?_)
    · rw [if_pos c21] at h
      refine v_aload_n dX14_name_70 1 rfl rfl ?_
      refine v_iconst dX14_name_71 ?_
      obtain ⟨r25, s22, e23, h⟩ := bd_some h
      have k24 := c_X14_fail e23 (rgl rfl)
      have r26 : rg r25 := k24.1.2.2
      refine v_callV (st := []) cf14 oc87 k24 (lw_V q2870 q2872 qs156 q311 q2873) rfl yk_X14_fail ⟨Nat.le_of_ble_eq_true rfl, Nat.le_of_ble_eq_true rfl⟩ trivial ⟨kc87, trivial⟩ (Nat.le_of_ble_eq_true rfl) rfl dX14_name_72 ?_
      cases h
      exact v_iret r26 dX14_name_75
    · rw [if_neg c21] at h
      refine v_aload_n dX14_name_54 1 rfl rfl ?_
      refine v_getS (f := 14) (t := 93) cf14 oc87 rfl rfl rfl (by decide) q2384 dX14_name_55 ?_
      refine v_aload_n dX14_name_58 1 rfl rfl ?_
      refine v_getS (f := 17) (t := 95) cf14 oc87 rfl rfl rfl (by decide) q2387 dX14_name_59 ?_
      refine v_iload_n dX14_name_62 0 rfl rfl ?_
      obtain ⟨g27, h⟩ := gd_some h
      refine v_iald oc95 r13 g27.1 g27.2 dX14_name_63 ?_
      refine v_iload_n dX14_name_64 3 rfl rfl ?_
      refine v_iadd dX14_name_65 ?_
      obtain ⟨g28, h⟩ := gd_some h
      refine v_iald oc93 (w32_rg _) g28.1 g28.2 dX14_name_66 ?_
      refine v_goto (tgt := 75) dX14_name_67 (by decide) ?_
      cases h
      exact v_iret (gE_rg _ _ _) dX14_name_75
  · rw [if_pos c8] at h
    refine v_aload_n dX14_name_13 0 rfl rfl ?_
    refine v_iconst dX14_name_14 ?_
    obtain ⟨r32, s29, e30, h⟩ := bd_some h
    have k31 := c_X14_fail e30 (rgl rfl)
    have r33 : rg r32 := k31.1.2.2
    refine v_callV (st := []) cf14 oc87 k31 (lw_V q2870 q2872 qs156 q311 q2873) rfl yk_X14_fail ⟨Nat.le_of_ble_eq_true rfl, Nat.le_of_ble_eq_true rfl⟩ trivial ⟨kc87, trivial⟩ (Nat.le_of_ble_eq_true rfl) rfl dX14_name_15 ?_
    cases h
    exact v_iret r33 dX14_name_18

def E_X14_defaultSize_90 (rv : Option vA) (σo : vS) (q : Int × vS) : Prop := ∀ (x4' : Int) (s' : vS), q = (x4', s') → rg x4' → VW cX14_defaultSize (RX14, rv, σo, (some .int), 2, 43, 6, []) (P0 []) s' 111 [(0, vO 87), (4, vI x4')] []
def l_X14_defaultSize_90 : Nat → Int → Int → Int → vS → Option (Int × vS)
  | 0, _, _, _, _ => none
  | n + 1, x2, x4, x5, s =>
    if x2 ≤ x5 then
      some (x4, s)
    else
      gd (inb x4 (gN s 120)) <|
      vl (gE s 120 x4) fun y3 =>
      vl (w32 (x5 + 1)) fun y6 =>
      l_X14_defaultSize_90 n x2 y3 y6 s
theorem wl_X14_defaultSize_90 {x2 : Int} {rv : Option vA} {σo : vS}  (rx2 : rg x2) : ∀ (n : Nat) (x4 : Int) (x5 : Int) (s : vS) (q : Int × vS), l_X14_defaultSize_90 n x2 x4 x5 s = some q → rg x4 → rg x5 → E_X14_defaultSize_90 rv σo q → VW cX14_defaultSize (RX14, rv, σo, (some .int), 2, 43, 6, []) (P0 []) s 90 [(0, vO 87), (2, vI x2), (4, vI x4), (5, vI x5)] [] := by
  intro n
  induction n with
  | zero => intro x4 x5 s q h; cases h
  | succ n ih =>
    intro x4 x5 s q h rx4 rx5 hE
    unfold l_X14_defaultSize_90 at h
    refine v_iload dX14_defaultSize_90 3 rfl ?_
    refine v_iload_n dX14_defaultSize_92 1 rfl rfl ?_
    refine v_icmp_ge (tgt := 111) dX14_defaultSize_93 rx5 rx2 (by decide) (fun c1 => ?_) (fun c1 => ?_)
    · rw [if_pos c1] at h
      cases h
      refine v_sub [0, 2] (L1 := [(0, vO 87), (4, vI x4)]) rfl ?_
      exact hE _ _ rfl rx4
    · rw [if_neg c1] at h
      refine v_aload_n dX14_defaultSize_96 0 rfl rfl ?_
      refine v_getS (f := 47) (t := 120) cf14 oc87 rfl rfl rfl (by decide) q2417 dX14_defaultSize_97 ?_
      refine v_iload dX14_defaultSize_100 2 rfl ?_
      obtain ⟨g2, h⟩ := gd_some h
      refine v_iald oc120 rx4 g2.1 g2.2 dX14_defaultSize_102 ?_
      obtain ⟨y3, e4, h⟩ := vl_some h
      rw [← e4]
      have r5 : rg y3 := by rw [e4]; exact gE_rg _ _ _
      refine v_istore (L1 := [(4, vI y3), (0, vO 87), (2, vI x2), (5, vI x5)]) dX14_defaultSize_103 (by decide) rfl ?_
      obtain ⟨y6, e7, h⟩ := vl_some h
      refine v_iinc (L1 := [(5, vI (w32 (x5 + 1))), (4, vI y3), (0, vO 87), (2, vI x2)]) dX14_defaultSize_105 3 rfl (by decide) rfl ?_
      rw [← e7]
      have r8 : rg y6 := by rw [e7]; exact w32_rg _
      refine v_goto (tgt := 90) dX14_defaultSize_108 (by decide) ?_
      refine v_sub [2, 3, 1, 0] (L1 := [(0, vO 87), (2, vI x2), (4, vI y3), (5, vI y6)]) rfl ?_
      exact ih y3 y6 s _ h r5 r8 hE

def j_X14_defaultSize_73 (s : vS) : Option (Int × vS) :=
  bd (f_X14_fail 1 s) fun r4 s1 =>
  some (r4, s1)
theorem wj_X14_defaultSize_73 {s : vS} {out : Int × vS} (h : j_X14_defaultSize_73 s = some out)  : VW cX14_defaultSize (RX14, (some (vI out.1)), out.2, (some .int), 2, 43, 6, []) (P0 []) s 73 [(0, vO 87)] [] := by
  unfold j_X14_defaultSize_73 at h
  refine v_aload_n dX14_defaultSize_73 0 rfl rfl ?_
  refine v_iconst dX14_defaultSize_74 ?_
  obtain ⟨r4, s1, e2, h⟩ := bd_some h
  have k3 := c_X14_fail e2 (rgl rfl)
  have r5 : rg r4 := k3.1.2.2
  refine v_callV (st := []) cf14 oc87 k3 (lw_V q2870 q2872 qs156 q311 q2873) rfl yk_X14_fail ⟨Nat.le_of_ble_eq_true rfl, Nat.le_of_ble_eq_true rfl⟩ trivial ⟨kc87, trivial⟩ (Nat.le_of_ble_eq_true rfl) rfl dX14_defaultSize_75 ?_
  cases h
  exact v_iret r5 dX14_defaultSize_78

def j_X14_defaultSize_57 (x2 : Int) (x3 : Int) (s : vS) : Option (Int × vS) :=
  gd (inb x3 (gN s 105)) <|
  bd (f_X14_within x2 0 (w32 ((gE s 105 x3) - 1)) s) fun r5 s2 =>
  if r5 = 0 then
    j_X14_defaultSize_73 s2
  else
    gd (inb x3 (gN s2 104)) <|
    vl (gE s2 104 x3) fun y9 =>
    lq_1 (l_X14_defaultSize_90 FU x2 y9 0 s2) fun y12 s13 =>
    gd (inb y12 (gN s13 118)) <|
    if (gE s13 118 y12) = 2 then
      gd (inb y12 (gN s13 119)) <|
      gd (inb (gE s13 119 y12) (gN s13 167)) <|
      some (gE s13 167 (gE s13 119 y12), s13)
    else
      some ((-1), s13)
theorem wj_X14_defaultSize_57 {x2 : Int} {x3 : Int} {s : vS} {out : Int × vS} (h : j_X14_defaultSize_57 x2 x3 s = some out)  (rx2 : rg x2) (rx3 : rg x3) : VW cX14_defaultSize (RX14, (some (vI out.1)), out.2, (some .int), 2, 43, 6, []) (P0 []) s 57 [(0, vO 87), (2, vI x2), (3, vI x3)] [] := by
  unfold j_X14_defaultSize_57 at h
  refine v_iload_n dX14_defaultSize_57 1 rfl rfl ?_
  refine v_iconst dX14_defaultSize_58 ?_
  refine v_aload_n dX14_defaultSize_59 0 rfl rfl ?_
  refine v_getS (f := 29) (t := 105) cf14 oc87 rfl rfl rfl (by decide) q2399 dX14_defaultSize_60 ?_
  refine v_iload_n dX14_defaultSize_63 2 rfl rfl ?_
  obtain ⟨g1, h⟩ := gd_some h
  refine v_iald oc105 rx3 g1.1 g1.2 dX14_defaultSize_64 ?_
  refine v_iconst dX14_defaultSize_65 ?_
  refine v_isub dX14_defaultSize_66 ?_
  obtain ⟨r5, s2, e3, h⟩ := bd_some h
  have k4 := c_X14_within e3 rx2 (rgl rfl) (w32_rg _)
  have r6 : rg r5 := k4.1.2.2
  refine v_callS (st := []) k4 (lw_S q2878 q2879 q311 q2880) yk_X14_within ⟨Nat.le_of_ble_eq_true rfl, Nat.le_of_ble_eq_true rfl⟩ trivial ⟨kc87, trivial⟩ (Nat.le_of_ble_eq_true rfl) rfl dX14_defaultSize_67 ?_
  refine v_if_ne (tgt := 79) dX14_defaultSize_70 r6 (by decide) (fun c7 => ?_) (fun c7 => ?_)
  · rw [if_neg c7] at h
    refine v_aload_n dX14_defaultSize_79 0 rfl rfl ?_
    refine v_getS (f := 28) (t := 104) cf14 oc87 rfl rfl rfl (by decide) q2398 dX14_defaultSize_80 ?_
    refine v_iload_n dX14_defaultSize_83 2 rfl rfl ?_
    obtain ⟨g8, h⟩ := gd_some h
    refine v_iald oc104 rx3 g8.1 g8.2 dX14_defaultSize_84 ?_
    obtain ⟨y9, e10, h⟩ := vl_some h
    rw [← e10]
    have r11 : rg y9 := by rw [e10]; exact gE_rg _ _ _
    refine v_istore (L1 := [(4, vI y9), (0, vO 87), (2, vI x2), (3, vI x3)]) dX14_defaultSize_85 (by decide) rfl ?_
    refine v_iconst dX14_defaultSize_87 ?_
    refine v_istore (L1 := [(5, vI 0), (4, vI y9), (0, vO 87), (2, vI x2), (3, vI x3)]) dX14_defaultSize_88 (by decide) rfl ?_
    refine v_sub [2, 3, 1, 0] (L1 := [(0, vO 87), (2, vI x2), (4, vI y9), (5, vI 0)]) rfl ?_
    obtain ⟨y12, s13, e14, h⟩ := lq_1_some h
    refine wl_X14_defaultSize_90 rx2 FU y9 0 s2 _ e14 r11 (rgl rfl) ?_
    unfold E_X14_defaultSize_90
    intro y12' s13' z_ r15
    cases z_
    refine v_aload_n dX14_defaultSize_111 0 rfl rfl ?_
    refine v_getS (f := 45) (t := 118) cf14 oc87 rfl rfl rfl (by decide) q2415 dX14_defaultSize_112 ?_
    refine v_iload dX14_defaultSize_115 1 rfl ?_
    obtain ⟨g16, h⟩ := gd_some h
    refine v_iald oc118 r15 g16.1 g16.2 dX14_defaultSize_117 ?_
    refine v_iconst dX14_defaultSize_118 ?_
    refine v_icmp_ne (tgt := 137) dX14_defaultSize_119 (gE_rg _ _ _) (rgl rfl) (by decide) (fun c17 => ?_) (fun c17 => ?_)
    · rw [if_neg c17] at h
      refine v_iconst dX14_defaultSize_137 ?_
      cases h
      exact v_iret (rgl rfl) dX14_defaultSize_138
    · rw [if_pos c17] at h
      refine v_aload_n dX14_defaultSize_122 0 rfl rfl ?_
      refine v_getS (f := 114) (t := 167) cf14 oc87 rfl rfl rfl (by decide) q2484 dX14_defaultSize_123 ?_
      refine v_aload_n dX14_defaultSize_126 0 rfl rfl ?_
      refine v_getS (f := 46) (t := 119) cf14 oc87 rfl rfl rfl (by decide) q2416 dX14_defaultSize_127 ?_
      refine v_iload dX14_defaultSize_130 1 rfl ?_
      obtain ⟨g18, h⟩ := gd_some h
      refine v_iald oc119 r15 g18.1 g18.2 dX14_defaultSize_132 ?_
      obtain ⟨g19, h⟩ := gd_some h
      refine v_iald oc167 (gE_rg _ _ _) g19.1 g19.2 dX14_defaultSize_133 ?_
      refine v_goto (tgt := 138) dX14_defaultSize_134 (by decide) ?_
      cases h
      exact v_iret (gE_rg _ _ _) dX14_defaultSize_138
  · rw [if_pos c7] at h
    refine v_sub [0] (L1 := [(0, vO 87)]) rfl ?_
    exact wj_X14_defaultSize_73 h 

def f_X14_defaultSize (x1 : Int) (x2 : Int) (s : vS) : Option (Int × vS) :=
  stp (sI s 87 3 0) fun s1 =>
  bd (f_X14_hasType x1 s1) fun r6 s3 =>
  if r6 = 0 then
    bd (f_X14_fail 1 s3) fun r23 s20 =>
    some (r23, s20)
  else
    gd (inb x1 (gN s3 144)) <|
    gd (inb (gE s3 144 x1) (gN s3 142)) <|
    bd (f_X14_root (gE s3 142 (gE s3 144 x1)) s3) fun r14 s11 =>
    gd (inb r14 (gN s11 97)) <|
    if (gE s11 97 r14) = 12 then
      j_X14_defaultSize_57 x2 r14 s11
    else
      gd (inb r14 (gN s11 97)) <|
      if (gE s11 97 r14) = 13 then
        j_X14_defaultSize_57 x2 r14 s11
      else
        j_X14_defaultSize_73 s11
theorem yk_X14_defaultSize : yOk yX14_defaultSize 2 := ⟨by decide, by decide, by decide +kernel⟩
theorem c_X14_defaultSize {x1 : Int} {x2 : Int} {s : vS} {out : Int × vS} (h : f_X14_defaultSize x1 x2 s = some out)  (rx1 : rg x1) (rx2 : rg x2) : VC yX14_defaultSize cX14_defaultSize 6 (some .int) 2 43 [vO 87, vI x1, vI x2] s (some (vI out.1)) out.2 [] := by
  unfold f_X14_defaultSize at h
  refine VC.of RX14 (by decide) rfl (Nat.le_of_ble_eq_true rfl) ?_
  show VW cX14_defaultSize (RX14, (some (vI out.1)), out.2, (some .int), 2, 43, 6, []) (P0 []) s 0 [(0, vO 87), (1, vI x1), (2, vI x2)] []
  refine v_aload_n dX14_defaultSize_0 0 rfl rfl ?_
  refine v_iconst dX14_defaultSize_1 ?_
  obtain ⟨s1, e2, h⟩ := stp_some h
  refine v_putI (f := 3) cf14 oc87 rfl (by decide) q2373 dX14_defaultSize_2 rfl rfl ?_
  rw [← e2]
  refine v_aload_n dX14_defaultSize_5 0 rfl rfl ?_
  refine v_iload_n dX14_defaultSize_6 1 rfl rfl ?_
  obtain ⟨r6, s3, e4, h⟩ := bd_some h
  have k5 := c_X14_hasType e4 rx1
  have r7 : rg r6 := k5.1.2.2
  refine v_callV (st := []) cf14 oc87 k5 (lw_V q3354 q3356 qs263 q311 q3357) rfl yk_X14_hasType ⟨Nat.le_of_ble_eq_true rfl, Nat.le_of_ble_eq_true rfl⟩ trivial ⟨kc87, trivial⟩ (Nat.le_of_ble_eq_true rfl) rfl dX14_defaultSize_7 ?_
  refine v_if_ne (tgt := 19) dX14_defaultSize_10 r7 (by decide) (fun c8 => ?_) (fun c8 => ?_)
  · rw [if_neg c8] at h
    refine v_aload_n dX14_defaultSize_19 0 rfl rfl ?_
    refine v_aload_n dX14_defaultSize_20 0 rfl rfl ?_
    refine v_getS (f := 74) (t := 142) cf14 oc87 rfl rfl rfl (by decide) q2444 dX14_defaultSize_21 ?_
    refine v_aload_n dX14_defaultSize_24 0 rfl rfl ?_
    refine v_getS (f := 77) (t := 144) cf14 oc87 rfl rfl rfl (by decide) q2447 dX14_defaultSize_25 ?_
    refine v_iload_n dX14_defaultSize_28 1 rfl rfl ?_
    obtain ⟨g9, h⟩ := gd_some h
    refine v_iald oc144 rx1 g9.1 g9.2 dX14_defaultSize_29 ?_
    obtain ⟨g10, h⟩ := gd_some h
    refine v_iald oc142 (gE_rg _ _ _) g10.1 g10.2 dX14_defaultSize_30 ?_
    obtain ⟨r14, s11, e12, h⟩ := bd_some h
    have k13 := c_X14_root e12 (gE_rg _ _ _)
    have r15 : rg r14 := k13.1.2.2
    refine v_callV (st := []) cf14 oc87 k13 (lw_V q3129 q3131 qs212 q311 q3132) rfl yk_X14_root ⟨Nat.le_of_ble_eq_true rfl, Nat.le_of_ble_eq_true rfl⟩ trivial ⟨kc87, trivial⟩ (Nat.le_of_ble_eq_true rfl) rfl dX14_defaultSize_31 ?_
    refine v_istore_n (L1 := [(3, vI r14), (0, vO 87), (1, vI x1), (2, vI x2)]) dX14_defaultSize_34 rfl (by decide) rfl ?_
    refine v_aload_n dX14_defaultSize_35 1 rfl rfl ?_
    refine v_getS (f := 21) (t := 97) cf14 oc87 rfl rfl rfl (by decide) q2391 dX14_defaultSize_36 ?_
    refine v_iload_n dX14_defaultSize_39 0 rfl rfl ?_
    obtain ⟨g16, h⟩ := gd_some h
    refine v_iald oc97 r15 g16.1 g16.2 dX14_defaultSize_40 ?_
    refine v_bipush dX14_defaultSize_41 rfl ?_
    refine v_icmp_eq (tgt := 57) dX14_defaultSize_43 (gE_rg _ _ _) (rgl rfl) (by decide) (fun c17 => ?_) (fun c17 => ?_)
    · rw [if_pos c17] at h
      refine v_sub [1, 3, 0] (L1 := [(0, vO 87), (2, vI x2), (3, vI r14)]) rfl ?_
      exact wj_X14_defaultSize_57 h rx2 r15
    · rw [if_neg c17] at h
      refine v_aload_n dX14_defaultSize_46 1 rfl rfl ?_
      refine v_getS (f := 21) (t := 97) cf14 oc87 rfl rfl rfl (by decide) q2391 dX14_defaultSize_47 ?_
      refine v_iload_n dX14_defaultSize_50 0 rfl rfl ?_
      obtain ⟨g18, h⟩ := gd_some h
      refine v_iald oc97 r15 g18.1 g18.2 dX14_defaultSize_51 ?_
      refine v_bipush dX14_defaultSize_52 rfl ?_
      refine v_icmp_ne (tgt := 73) dX14_defaultSize_54 (gE_rg _ _ _) (rgl rfl) (by decide) (fun c19 => ?_) (fun c19 => ?_)
      · rw [if_neg c19] at h
        refine v_sub [1] (L1 := [(0, vO 87)]) rfl ?_
        exact wj_X14_defaultSize_73 h 
      · rw [if_pos c19] at h
        refine v_sub [1, 3, 0] (L1 := [(0, vO 87), (2, vI x2), (3, vI r14)]) rfl ?_
        exact wj_X14_defaultSize_57 h rx2 r15
  · rw [if_pos c8] at h
    refine v_aload_n dX14_defaultSize_13 0 rfl rfl ?_
    refine v_iconst dX14_defaultSize_14 ?_
    obtain ⟨r23, s20, e21, h⟩ := bd_some h
    have k22 := c_X14_fail e21 (rgl rfl)
    have r24 : rg r23 := k22.1.2.2
    refine v_callV (st := []) cf14 oc87 k22 (lw_V q2870 q2872 qs156 q311 q2873) rfl yk_X14_fail ⟨Nat.le_of_ble_eq_true rfl, Nat.le_of_ble_eq_true rfl⟩ trivial ⟨kc87, trivial⟩ (Nat.le_of_ble_eq_true rfl) rfl dX14_defaultSize_15 ?_
    cases h
    exact v_iret r24 dX14_defaultSize_18

def f_X14_limit (x1 : Int) (s : vS) : Option (Int × vS) :=
  stp (sI s 87 3 0) fun s1 =>
  bd (f_X14_within x1 4 1024 s1) fun r6 s3 =>
  if r6 = 0 then
    bd (f_X14_fail 1 s3) fun r17 s14 =>
    some (r17, s14)
  else
    vl (gI s3 87 6) fun y9 =>
    stp (sI s3 87 6 x1) fun s12 =>
    some (y9, s12)
theorem yk_X14_limit : yOk yX14_limit 1 := ⟨by decide, by decide, by decide +kernel⟩
theorem c_X14_limit {x1 : Int} {s : vS} {out : Int × vS} (h : f_X14_limit x1 s = some out)  (rx1 : rg x1) : VC yX14_limit cX14_limit 3 (some .int) 1 22 [vO 87, vI x1] s (some (vI out.1)) out.2 [] := by
  unfold f_X14_limit at h
  refine VC.of RX14 (by decide) rfl (Nat.le_of_ble_eq_true rfl) ?_
  show VW cX14_limit (RX14, (some (vI out.1)), out.2, (some .int), 1, 22, 3, []) (P0 []) s 0 [(0, vO 87), (1, vI x1)] []
  refine v_aload_n dX14_limit_0 0 rfl rfl ?_
  refine v_iconst dX14_limit_1 ?_
  obtain ⟨s1, e2, h⟩ := stp_some h
  refine v_putI (f := 3) cf14 oc87 rfl (by decide) q2373 dX14_limit_2 rfl rfl ?_
  rw [← e2]
  refine v_iload_n dX14_limit_5 1 rfl rfl ?_
  refine v_iconst dX14_limit_6 ?_
  refine v_sipush dX14_limit_7 rfl ?_
  obtain ⟨r6, s3, e4, h⟩ := bd_some h
  have k5 := c_X14_within e4 rx1 (rgl rfl) (rgl rfl)
  have r7 : rg r6 := k5.1.2.2
  refine v_callS (st := []) k5 (lw_S q2878 q2879 q311 q2880) yk_X14_within ⟨Nat.le_of_ble_eq_true rfl, Nat.le_of_ble_eq_true rfl⟩ trivial ⟨kc87, trivial⟩ (Nat.le_of_ble_eq_true rfl) rfl dX14_limit_10 ?_
  refine v_if_ne (tgt := 22) dX14_limit_13 r7 (by decide) (fun c8 => ?_) (fun c8 => ?_)
  · rw [if_neg c8] at h
    refine v_aload_n dX14_limit_22 0 rfl rfl ?_
    refine v_getI (f := 6) cf14 oc87 rfl (by decide) q2376 dX14_limit_23 ?_
    obtain ⟨y9, e10, h⟩ := vl_some h
    rw [← e10]
    have r11 : rg y9 := by rw [e10]; exact gI_rg _ _ _
    refine v_istore_n (L1 := [(2, vI y9), (0, vO 87), (1, vI x1)]) dX14_limit_26 rfl (by decide) rfl ?_
    refine v_aload_n dX14_limit_27 1 rfl rfl ?_
    refine v_iload_n dX14_limit_28 2 rfl rfl ?_
    obtain ⟨s12, e13, h⟩ := stp_some h
    refine v_putI (f := 6) cf14 oc87 rfl (by decide) q2376 dX14_limit_29 rfl rfl ?_
    rw [← e13]
    refine v_iload_n dX14_limit_32 0 rfl rfl ?_
    cases h
    exact v_iret r11 dX14_limit_33
  · rw [if_pos c8] at h
    refine v_aload_n dX14_limit_16 0 rfl rfl ?_
    refine v_iconst dX14_limit_17 ?_
    obtain ⟨r17, s14, e15, h⟩ := bd_some h
    have k16 := c_X14_fail e15 (rgl rfl)
    have r18 : rg r17 := k16.1.2.2
    refine v_callV (st := []) cf14 oc87 k16 (lw_V q2870 q2872 qs156 q311 q2873) rfl yk_X14_fail ⟨Nat.le_of_ble_eq_true rfl, Nat.le_of_ble_eq_true rfl⟩ trivial ⟨kc87, trivial⟩ (Nat.le_of_ble_eq_true rfl) rfl dX14_limit_18 ?_
    cases h
    exact v_iret r18 dX14_limit_21

def E_X14_wall_5 (rv : Option vA) (σo : vS) (q : Int × vS) : Prop := ∀ (x1' : Int) (s' : vS), q = (x1', s') → rg x1' → VW cX14_wall (RX14, rv, σo, (some .int), 0, 0, 2, []) (P0 []) s' 28 [(0, vO 87), (1, vI x1')] []
def l_X14_wall_5 : Nat → Int → vS → Option (Int × vS)
  | 0, _, _ => none
  | n + 1, x1, s =>
    if x1 < 0 then
      some (x1, s)
    else
      gd (inb x1 (gN s 178)) <|
      if (gZ s 178 x1) = 0 then
        some (x1, s)
      else
        gd (inb x1 (gN s 179)) <|
        vl (gE s 179 x1) fun y5 =>
        l_X14_wall_5 n y5 s
theorem wl_X14_wall_5 {rv : Option vA} {σo : vS}  : ∀ (n : Nat) (x1 : Int) (s : vS) (q : Int × vS), l_X14_wall_5 n x1 s = some q → rg x1 → E_X14_wall_5 rv σo q → VW cX14_wall (RX14, rv, σo, (some .int), 0, 0, 2, []) (P0 []) s 5 [(0, vO 87), (1, vI x1)] [] := by
  intro n
  induction n with
  | zero => intro x1 s q h; cases h
  | succ n ih =>
    intro x1 s q h rx1 hE
    unfold l_X14_wall_5 at h
    refine v_iload_n dX14_wall_5 1 rfl rfl ?_
    refine v_if_lt (tgt := 28) dX14_wall_6 rx1 (by decide) (fun c1 => ?_) (fun c1 => ?_)
    · rw [if_pos c1] at h
      cases h
      exact hE _ _ rfl rx1
    · rw [if_neg c1] at h
      refine v_aload_n dX14_wall_9 0 rfl rfl ?_
      refine v_getS (f := 136) (t := 178) cf14 oc87 rfl rfl rfl (by decide) q2506 dX14_wall_10 ?_
      refine v_iload_n dX14_wall_13 1 rfl rfl ?_
      obtain ⟨g2, h⟩ := gd_some h
      refine v_zald oc178 rx1 g2.1 g2.2 dX14_wall_14 ?_
      refine v_if_eq (tgt := 28) dX14_wall_15 (gZ_rg _ _ _) (by decide) (fun c3 => ?_) (fun c3 => ?_)
      · rw [if_pos c3] at h
        cases h
        exact hE _ _ rfl rx1
      · rw [if_neg c3] at h
        refine v_aload_n dX14_wall_18 0 rfl rfl ?_
        refine v_getS (f := 137) (t := 179) cf14 oc87 rfl rfl rfl (by decide) q2507 dX14_wall_19 ?_
        refine v_iload_n dX14_wall_22 1 rfl rfl ?_
        obtain ⟨g4, h⟩ := gd_some h
        refine v_iald oc179 rx1 g4.1 g4.2 dX14_wall_23 ?_
        obtain ⟨y5, e6, h⟩ := vl_some h
        rw [← e6]
        have r7 : rg y5 := by rw [e6]; exact gE_rg _ _ _
        refine v_istore_n (L1 := [(1, vI y5), (0, vO 87)]) dX14_wall_24 rfl (by decide) rfl ?_
        refine v_goto (tgt := 5) dX14_wall_25 (by decide) ?_
        refine v_sub [1, 0] (L1 := [(0, vO 87), (1, vI y5)]) rfl ?_
        exact ih y5 s _ h r7 hE

def j_X14_wall_28 (x1 : Int) (s : vS) : Option (Int × vS) :=
  if 0 ≤ x1 then
    gd (inb x1 (gN s 177)) <|
    some (gE s 177 x1, s)
  else
    some (gI s 87 127, s)
theorem wj_X14_wall_28 {x1 : Int} {s : vS} {out : Int × vS} (h : j_X14_wall_28 x1 s = some out)  (rx1 : rg x1) : VW cX14_wall (RX14, (some (vI out.1)), out.2, (some .int), 0, 0, 2, []) (P0 []) s 28 [(0, vO 87), (1, vI x1)] [] := by
  unfold j_X14_wall_28 at h
  refine v_iload_n dX14_wall_28 1 rfl rfl ?_
  refine v_if_ge (tgt := 39) dX14_wall_29 rx1 (by decide) (fun c1 => ?_) (fun c1 => ?_)
  · rw [if_pos c1] at h
    refine v_aload_n dX14_wall_39 0 rfl rfl ?_
    refine v_getS (f := 135) (t := 177) cf14 oc87 rfl rfl rfl (by decide) q2505 dX14_wall_40 ?_
    refine v_iload_n dX14_wall_43 1 rfl rfl ?_
    obtain ⟨g2, h⟩ := gd_some h
    refine v_iald oc177 rx1 g2.1 g2.2 dX14_wall_44 ?_
    cases h
    exact v_iret (gE_rg _ _ _) dX14_wall_45
  · rw [if_neg c1] at h
    refine v_aload_n dX14_wall_32 0 rfl rfl ?_
    refine v_getI (f := 127) cf14 oc87 rfl (by decide) q2497 dX14_wall_33 ?_
    refine v_goto (tgt := 45) dX14_wall_36 (by decide) ?_
    cases h
    exact v_iret (gI_rg _ _ _) dX14_wall_45

def f_X14_wall (s : vS) : Option (Int × vS) :=
  vl (gI s 87 141) fun y1 =>
  lq_1 (l_X14_wall_5 FU y1 s) fun y4 s5 =>
  j_X14_wall_28 y4 s5
theorem yk_X14_wall : yOk yX14_wall 0 := ⟨by decide, by decide, by decide +kernel⟩
theorem c_X14_wall {s : vS} {out : Int × vS} (h : f_X14_wall s = some out)   : VC yX14_wall cX14_wall 2 (some .int) 0 0 [vO 87] s (some (vI out.1)) out.2 [] := by
  unfold f_X14_wall at h
  refine VC.of RX14 (by decide) rfl (Nat.le_of_ble_eq_true rfl) ?_
  show VW cX14_wall (RX14, (some (vI out.1)), out.2, (some .int), 0, 0, 2, []) (P0 []) s 0 [(0, vO 87)] []
  refine v_aload_n dX14_wall_0 0 rfl rfl ?_
  refine v_getI (f := 141) cf14 oc87 rfl (by decide) q2511 dX14_wall_1 ?_
  obtain ⟨y1, e2, h⟩ := vl_some h
  rw [← e2]
  have r3 : rg y1 := by rw [e2]; exact gI_rg _ _ _
  refine v_istore_n (L1 := [(1, vI y1), (0, vO 87)]) dX14_wall_4 rfl (by decide) rfl ?_
  refine v_sub [1, 0] (L1 := [(0, vO 87), (1, vI y1)]) rfl ?_
  obtain ⟨y4, s5, e6, h⟩ := lq_1_some h
  refine wl_X14_wall_5  FU y1 s _ e6 r3 ?_
  unfold E_X14_wall_5
  intro y4' s5' z_ r7
  cases z_
  exact wj_X14_wall_28 h r7

def f_X14_closeParent (s : vS) : Option (vS) :=
  gd (inb (gI s 87 141) (gN s 179)) <|
  stp (sI s 87 141 (gE s 179 (gI s 87 141))) fun s2 =>
  stp (sI s2 87 142 (w32 ((gI s2 87 142) - 1))) fun s4 =>
  some s4
theorem yk_X14_closeParent : yOk yX14_closeParent 0 := ⟨by decide, by decide, by decide +kernel⟩
theorem c_X14_closeParent {s : vS} {out : vS} (h : f_X14_closeParent s = some out)   : VC yX14_closeParent cX14_closeParent 1 none 0 0 [vO 87] s none out [] := by
  unfold f_X14_closeParent at h
  refine VC.of RX14 (by decide) rfl (Nat.le_of_ble_eq_true rfl) ?_
  show VW cX14_closeParent (RX14, none, out, none, 0, 0, 1, []) (P0 []) s 0 [(0, vO 87)] []
  refine v_aload_n dX14_closeParent_0 0 rfl rfl ?_
  refine v_aload_n dX14_closeParent_1 0 rfl rfl ?_
  refine v_getS (f := 137) (t := 179) cf14 oc87 rfl rfl rfl (by decide) q2507 dX14_closeParent_2 ?_
  refine v_aload_n dX14_closeParent_5 0 rfl rfl ?_
  refine v_getI (f := 141) cf14 oc87 rfl (by decide) q2511 dX14_closeParent_6 ?_
  obtain ⟨g1, h⟩ := gd_some h
  refine v_iald oc179 (gI_rg _ _ _) g1.1 g1.2 dX14_closeParent_9 ?_
  obtain ⟨s2, e3, h⟩ := stp_some h
  refine v_putI (f := 141) cf14 oc87 rfl (by decide) q2511 dX14_closeParent_10 rfl rfl ?_
  rw [← e3]
  refine v_aload_n dX14_closeParent_13 0 rfl rfl ?_
  refine v_dupO dX14_closeParent_14 ?_
  refine v_getI (f := 142) cf14 oc87 rfl (by decide) q2512 dX14_closeParent_15 ?_
  refine v_iconst dX14_closeParent_18 ?_
  refine v_isub dX14_closeParent_19 ?_
  obtain ⟨s4, e5, h⟩ := stp_some h
  refine v_putI (f := 142) cf14 oc87 rfl (by decide) q2512 dX14_closeParent_20 rfl rfl ?_
  rw [← e5]
  cases h
  exact v_vret dX14_closeParent_23

def j_X14_element_30 (x3 : Int) (s : vS) : Option (vS) :=
  bdv (f_X14_tell 4 x3 s) fun s1 =>
  some s1
theorem wj_X14_element_30 {x3 : Int} {s : vS} {out : vS} (h : j_X14_element_30 x3 s = some out)  (rx3 : rg x3) : VW cX14_element (RX14, none, out, none, 1, 22, 12, []) (P0 []) s 30 [(0, vO 87), (3, vI x3)] [] := by
  unfold j_X14_element_30 at h
  refine v_aload_n dX14_element_30 0 rfl rfl ?_
  refine v_iconst dX14_element_31 ?_
  refine v_iload_n dX14_element_32 1 rfl rfl ?_
  obtain ⟨s1, e2, h⟩ := bdv_some h
  have k3 := c_X14_tell e2 (rgl rfl) rx3
  refine v_callV (st := []) cf14 oc87 k3 (lw_V q2916 q2918 qs163 q311 q2919) rfl yk_X14_tell ⟨Nat.le_of_ble_eq_true rfl, Nat.le_of_ble_eq_true rfl⟩ trivial ⟨kc87, trivial⟩ (Nat.le_of_ble_eq_true rfl) rfl dX14_element_33 ?_
  cases h
  exact v_vret dX14_element_36

def j_X14_element_626 (x2 : Int) (x5 : Int) (x10 : Int) (s : vS) : Option (vS) :=
  stp (sI s 87 129 (w32 ((gI s 87 129) + 1))) fun s1 =>
  if x10 = 0 then
    gd (inb x2 (gN s1 177)) <|
    stp (sI s1 87 143 (gE s1 177 x2)) fun s5 =>
    some s5
  else
    stp (sI s1 87 141 x2) fun s7 =>
    stp (sI s7 87 142 (w32 ((gI s7 87 142) + 1))) fun s9 =>
    stp (sI s9 87 143 x5) fun s11 =>
    some s11
theorem wj_X14_element_626 {x2 : Int} {x5 : Int} {x10 : Int} {s : vS} {out : vS} (h : j_X14_element_626 x2 x5 x10 s = some out)  (rx2 : rg x2) (rx5 : rg x5) (rx10 : rg x10) : VW cX14_element (RX14, none, out, none, 1, 22, 12, []) (P0 []) s 626 [(0, vO 87), (2, vI x2), (5, vI x5), (10, vI x10)] [] := by
  unfold j_X14_element_626 at h
  refine v_aload_n dX14_element_626 0 rfl rfl ?_
  refine v_dupO dX14_element_627 ?_
  refine v_getI (f := 129) cf14 oc87 rfl (by decide) q2499 dX14_element_628 ?_
  refine v_iconst dX14_element_631 ?_
  refine v_iadd dX14_element_632 ?_
  obtain ⟨s1, e2, h⟩ := stp_some h
  refine v_putI (f := 129) cf14 oc87 rfl (by decide) q2499 dX14_element_633 rfl rfl ?_
  rw [← e2]
  refine v_iload dX14_element_636 3 rfl ?_
  refine v_if_eq (tgt := 665) dX14_element_638 rx10 (by decide) (fun c3 => ?_) (fun c3 => ?_)
  · rw [if_pos c3] at h
    refine v_aload_n dX14_element_665 0 rfl rfl ?_
    refine v_aload_n dX14_element_666 0 rfl rfl ?_
    refine v_getS (f := 135) (t := 177) cf14 oc87 rfl rfl rfl (by decide) q2505 dX14_element_667 ?_
    refine v_iload_n dX14_element_670 1 rfl rfl ?_
    obtain ⟨g4, h⟩ := gd_some h
    refine v_iald oc177 rx2 g4.1 g4.2 dX14_element_671 ?_
    obtain ⟨s5, e6, h⟩ := stp_some h
    refine v_putI (f := 143) cf14 oc87 rfl (by decide) q2513 dX14_element_672 rfl rfl ?_
    rw [← e6]
    cases h
    exact v_vret dX14_element_675
  · rw [if_neg c3] at h
    refine v_aload_n dX14_element_641 0 rfl rfl ?_
    refine v_iload_n dX14_element_642 1 rfl rfl ?_
    obtain ⟨s7, e8, h⟩ := stp_some h
    refine v_putI (f := 141) cf14 oc87 rfl (by decide) q2511 dX14_element_643 rfl rfl ?_
    rw [← e8]
    refine v_aload_n dX14_element_646 0 rfl rfl ?_
    refine v_dupO dX14_element_647 ?_
    refine v_getI (f := 142) cf14 oc87 rfl (by decide) q2512 dX14_element_648 ?_
    refine v_iconst dX14_element_651 ?_
    refine v_iadd dX14_element_652 ?_
    obtain ⟨s9, e10, h⟩ := stp_some h
    refine v_putI (f := 142) cf14 oc87 rfl (by decide) q2512 dX14_element_653 rfl rfl ?_
    rw [← e10]
    refine v_aload_n dX14_element_656 0 rfl rfl ?_
    refine v_iload dX14_element_657 2 rfl ?_
    obtain ⟨s11, e12, h⟩ := stp_some h
    refine v_putI (f := 143) cf14 oc87 rfl (by decide) q2513 dX14_element_659 rfl rfl ?_
    rw [← e12]
    refine v_goto (tgt := 675) dX14_element_662 (by decide) ?_
    cases h
    exact v_vret dX14_element_675

def j_X14_element_609 (x2 : Int) (x5 : Int) (x10 : Int) (s : vS) : Option (vS) :=
  if (gI s 87 141) < 0 then
    j_X14_element_626 x2 x5 x10 s
  else
    gd (inb (gI s 87 141) (gN s 181)) <|
    stp (sE s 181 (gI s 87 141) x2) fun s3 =>
    j_X14_element_626 x2 x5 x10 s3
theorem wj_X14_element_609 {x2 : Int} {x5 : Int} {x10 : Int} {s : vS} {out : vS} (h : j_X14_element_609 x2 x5 x10 s = some out)  (rx2 : rg x2) (rx5 : rg x5) (rx10 : rg x10) : VW cX14_element (RX14, none, out, none, 1, 22, 12, []) (P0 []) s 609 [(0, vO 87), (2, vI x2), (5, vI x5), (10, vI x10)] [] := by
  unfold j_X14_element_609 at h
  refine v_aload_n dX14_element_609 0 rfl rfl ?_
  refine v_getI (f := 141) cf14 oc87 rfl (by decide) q2511 dX14_element_610 ?_
  refine v_if_lt (tgt := 626) dX14_element_613 (gI_rg _ _ _) (by decide) (fun c1 => ?_) (fun c1 => ?_)
  · rw [if_pos c1] at h
    exact wj_X14_element_626 h rx2 rx5 rx10
  · rw [if_neg c1] at h
    refine v_aload_n dX14_element_616 0 rfl rfl ?_
    refine v_getS (f := 139) (t := 181) cf14 oc87 rfl rfl rfl (by decide) q2509 dX14_element_617 ?_
    refine v_aload_n dX14_element_620 0 rfl rfl ?_
    refine v_getI (f := 141) cf14 oc87 rfl (by decide) q2511 dX14_element_621 ?_
    refine v_iload_n dX14_element_624 1 rfl rfl ?_
    obtain ⟨g2, h⟩ := gd_some h
    obtain ⟨s3, e4, h⟩ := stp_some h
    refine v_iast oc181 (gI_rg _ _ _) g2.1 g2.2 dX14_element_625 ?_
    rw [← e4]
    exact wj_X14_element_626 h rx2 rx5 rx10

def j_X14_element_580 (x2 : Int) (x5 : Int) (x10 : Int) (s : vS) : Option (vS) :=
  if (gI s 87 141) < 0 then
    j_X14_element_609 x2 x5 x10 s
  else
    gd (inb (gI s 87 141) (gN s 181)) <|
    if 0 ≤ (gE s 181 (gI s 87 141)) then
      j_X14_element_609 x2 x5 x10 s
    else
      gd (inb (gI s 87 141) (gN s 180)) <|
      stp (sE s 180 (gI s 87 141) x2) fun s5 =>
      j_X14_element_609 x2 x5 x10 s5
theorem wj_X14_element_580 {x2 : Int} {x5 : Int} {x10 : Int} {s : vS} {out : vS} (h : j_X14_element_580 x2 x5 x10 s = some out)  (rx2 : rg x2) (rx5 : rg x5) (rx10 : rg x10) : VW cX14_element (RX14, none, out, none, 1, 22, 12, []) (P0 []) s 580 [(0, vO 87), (2, vI x2), (5, vI x5), (10, vI x10)] [] := by
  unfold j_X14_element_580 at h
  refine v_aload_n dX14_element_580 0 rfl rfl ?_
  refine v_getI (f := 141) cf14 oc87 rfl (by decide) q2511 dX14_element_581 ?_
  refine v_if_lt (tgt := 609) dX14_element_584 (gI_rg _ _ _) (by decide) (fun c1 => ?_) (fun c1 => ?_)
  · rw [if_pos c1] at h
    exact wj_X14_element_609 h rx2 rx5 rx10
  · rw [if_neg c1] at h
    refine v_aload_n dX14_element_587 0 rfl rfl ?_
    refine v_getS (f := 139) (t := 181) cf14 oc87 rfl rfl rfl (by decide) q2509 dX14_element_588 ?_
    refine v_aload_n dX14_element_591 0 rfl rfl ?_
    refine v_getI (f := 141) cf14 oc87 rfl (by decide) q2511 dX14_element_592 ?_
    obtain ⟨g2, h⟩ := gd_some h
    refine v_iald oc181 (gI_rg _ _ _) g2.1 g2.2 dX14_element_595 ?_
    refine v_if_ge (tgt := 609) dX14_element_596 (gE_rg _ _ _) (by decide) (fun c3 => ?_) (fun c3 => ?_)
    · rw [if_pos c3] at h
      exact wj_X14_element_609 h rx2 rx5 rx10
    · rw [if_neg c3] at h
      refine v_aload_n dX14_element_599 0 rfl rfl ?_
      refine v_getS (f := 138) (t := 180) cf14 oc87 rfl rfl rfl (by decide) q2508 dX14_element_600 ?_
      refine v_aload_n dX14_element_603 0 rfl rfl ?_
      refine v_getI (f := 141) cf14 oc87 rfl (by decide) q2511 dX14_element_604 ?_
      refine v_iload_n dX14_element_607 1 rfl rfl ?_
      obtain ⟨g4, h⟩ := gd_some h
      obtain ⟨s5, e6, h⟩ := stp_some h
      refine v_iast oc180 (gI_rg _ _ _) g4.1 g4.2 dX14_element_608 ?_
      rw [← e6]
      exact wj_X14_element_609 h rx2 rx5 rx10

def j_X14_element_506 (x2 : Int) (x5 : Int) (x10 : Int) (x11 : Int) (z1 : Int) (z2 : Int) (s : vS) : Option (vS) :=
  gd (inb z1 (gN s 177)) <|
  stp (sE s 177 z1 z2) fun s2 =>
  gd (inb x2 (gN s2 178)) <|
  stp (sE s2 178 x2 x11) fun s5 =>
  gd (inb x2 (gN s5 179)) <|
  stp (sE s5 179 x2 (gI s5 87 141)) fun s8 =>
  gd (inb x2 (gN s8 180)) <|
  stp (sE s8 180 x2 (-1)) fun s11 =>
  gd (inb x2 (gN s11 181)) <|
  stp (sE s11 181 x2 (-1)) fun s14 =>
  gd (inb x2 (gN s14 182)) <|
  stp (sE s14 182 x2 (-1)) fun s17 =>
  if (gI s17 87 141) < 0 then
    j_X14_element_580 x2 x5 x10 s17
  else
    gd (inb (gI s17 87 141) (gN s17 181)) <|
    if (gE s17 181 (gI s17 87 141)) < 0 then
      j_X14_element_580 x2 x5 x10 s17
    else
      gd (inb (gI s17 87 141) (gN s17 181)) <|
      gd (inb (gE s17 181 (gI s17 87 141)) (gN s17 182)) <|
      stp (sE s17 182 (gE s17 181 (gI s17 87 141)) x2) fun s24 =>
      j_X14_element_580 x2 x5 x10 s24
theorem wj_X14_element_506 {x2 : Int} {x5 : Int} {x10 : Int} {x11 : Int} {z1 : Int} {z2 : Int} {s : vS} {out : vS} (h : j_X14_element_506 x2 x5 x10 x11 z1 z2 s = some out)  (rx2 : rg x2) (rx5 : rg x5) (rx10 : rg x10) (rx11 : rg x11) (rz1 : rg z1) (rz2 : rg z2) : VW cX14_element (RX14, none, out, none, 1, 22, 12, []) (P0 []) s 506 [(0, vO 87), (2, vI x2), (5, vI x5), (10, vI x10), (11, vI x11)] [vI z2, vI z1, vO 177] := by
  unfold j_X14_element_506 at h
  obtain ⟨g1, h⟩ := gd_some h
  obtain ⟨s2, e3, h⟩ := stp_some h
  refine v_iast oc177 rz1 g1.1 g1.2 dX14_element_506 ?_
  rw [← e3]
  refine v_aload_n dX14_element_507 0 rfl rfl ?_
  refine v_getS (f := 136) (t := 178) cf14 oc87 rfl rfl rfl (by decide) q2506 dX14_element_508 ?_
  refine v_iload_n dX14_element_511 1 rfl rfl ?_
  refine v_iload dX14_element_512 4 rfl ?_
  obtain ⟨g4, h⟩ := gd_some h
  obtain ⟨s5, e6, h⟩ := stp_some h
  refine v_zast oc178 rx2 g4.1 g4.2 dX14_element_514 ?_
  rw [← e6]
  refine v_aload_n dX14_element_515 0 rfl rfl ?_
  refine v_getS (f := 137) (t := 179) cf14 oc87 rfl rfl rfl (by decide) q2507 dX14_element_516 ?_
  refine v_iload_n dX14_element_519 1 rfl rfl ?_
  refine v_aload_n dX14_element_520 0 rfl rfl ?_
  refine v_getI (f := 141) cf14 oc87 rfl (by decide) q2511 dX14_element_521 ?_
  obtain ⟨g7, h⟩ := gd_some h
  obtain ⟨s8, e9, h⟩ := stp_some h
  refine v_iast oc179 rx2 g7.1 g7.2 dX14_element_524 ?_
  rw [← e9]
  refine v_aload_n dX14_element_525 0 rfl rfl ?_
  refine v_getS (f := 138) (t := 180) cf14 oc87 rfl rfl rfl (by decide) q2508 dX14_element_526 ?_
  refine v_iload_n dX14_element_529 1 rfl rfl ?_
  refine v_iconst dX14_element_530 ?_
  obtain ⟨g10, h⟩ := gd_some h
  obtain ⟨s11, e12, h⟩ := stp_some h
  refine v_iast oc180 rx2 g10.1 g10.2 dX14_element_531 ?_
  rw [← e12]
  refine v_aload_n dX14_element_532 0 rfl rfl ?_
  refine v_getS (f := 139) (t := 181) cf14 oc87 rfl rfl rfl (by decide) q2509 dX14_element_533 ?_
  refine v_iload_n dX14_element_536 1 rfl rfl ?_
  refine v_iconst dX14_element_537 ?_
  obtain ⟨g13, h⟩ := gd_some h
  obtain ⟨s14, e15, h⟩ := stp_some h
  refine v_iast oc181 rx2 g13.1 g13.2 dX14_element_538 ?_
  rw [← e15]
  refine v_aload_n dX14_element_539 0 rfl rfl ?_
  refine v_getS (f := 140) (t := 182) cf14 oc87 rfl rfl rfl (by decide) q2510 dX14_element_540 ?_
  refine v_iload_n dX14_element_543 1 rfl rfl ?_
  refine v_iconst dX14_element_544 ?_
  obtain ⟨g16, h⟩ := gd_some h
  obtain ⟨s17, e18, h⟩ := stp_some h
  refine v_iast oc182 rx2 g16.1 g16.2 dX14_element_545 ?_
  rw [← e18]
  refine v_aload_n dX14_element_546 0 rfl rfl ?_
  refine v_getI (f := 141) cf14 oc87 rfl (by decide) q2511 dX14_element_547 ?_
  refine v_if_lt (tgt := 580) dX14_element_550 (gI_rg _ _ _) (by decide) (fun c19 => ?_) (fun c19 => ?_)
  · rw [if_pos c19] at h
    refine v_sub [0, 1, 2, 3] (L1 := [(0, vO 87), (2, vI x2), (5, vI x5), (10, vI x10)]) rfl ?_
    exact wj_X14_element_580 h rx2 rx5 rx10
  · rw [if_neg c19] at h
    refine v_aload_n dX14_element_553 0 rfl rfl ?_
    refine v_getS (f := 139) (t := 181) cf14 oc87 rfl rfl rfl (by decide) q2509 dX14_element_554 ?_
    refine v_aload_n dX14_element_557 0 rfl rfl ?_
    refine v_getI (f := 141) cf14 oc87 rfl (by decide) q2511 dX14_element_558 ?_
    obtain ⟨g20, h⟩ := gd_some h
    refine v_iald oc181 (gI_rg _ _ _) g20.1 g20.2 dX14_element_561 ?_
    refine v_if_lt (tgt := 580) dX14_element_562 (gE_rg _ _ _) (by decide) (fun c21 => ?_) (fun c21 => ?_)
    · rw [if_pos c21] at h
      refine v_sub [0, 1, 2, 3] (L1 := [(0, vO 87), (2, vI x2), (5, vI x5), (10, vI x10)]) rfl ?_
      exact wj_X14_element_580 h rx2 rx5 rx10
    · rw [if_neg c21] at h
      refine v_aload_n dX14_element_565 0 rfl rfl ?_
      refine v_getS (f := 140) (t := 182) cf14 oc87 rfl rfl rfl (by decide) q2510 dX14_element_566 ?_
      refine v_aload_n dX14_element_569 0 rfl rfl ?_
      refine v_getS (f := 139) (t := 181) cf14 oc87 rfl rfl rfl (by decide) q2509 dX14_element_570 ?_
      refine v_aload_n dX14_element_573 0 rfl rfl ?_
      refine v_getI (f := 141) cf14 oc87 rfl (by decide) q2511 dX14_element_574 ?_
      obtain ⟨g22, h⟩ := gd_some h
      refine v_iald oc181 (gI_rg _ _ _) g22.1 g22.2 dX14_element_577 ?_
      refine v_iload_n dX14_element_578 1 rfl rfl ?_
      obtain ⟨g23, h⟩ := gd_some h
      obtain ⟨s24, e25, h⟩ := stp_some h
      refine v_iast oc182 (gE_rg _ _ _) g23.1 g23.2 dX14_element_579 ?_
      rw [← e25]
      refine v_sub [0, 1, 2, 3] (L1 := [(0, vO 87), (2, vI x2), (5, vI x5), (10, vI x10)]) rfl ?_
      exact wj_X14_element_580 h rx2 rx5 rx10

def j_X14_element_436 (x2 : Int) (x3 : Int) (x4 : Int) (x5 : Int) (x6 : Int) (x8 : Int) (x10 : Int) (x11 : Int) (s : vS) : Option (vS) :=
  if (gI s 87 8) ≤ 0 then
    gd (inb x2 (gN s 172)) <|
    stp (sE s 172 x2 x3) fun s3 =>
    gd (inb x2 (gN s3 173)) <|
    stp (sE s3 173 x2 (shr32 x4 6)) fun s6 =>
    gd (inb x2 (gN s6 174)) <|
    stp (sE s6 174 x2 x10) fun s9 =>
    gd (inb x2 (gN s9 175)) <|
    stp (sE s9 175 x2 x6) fun s12 =>
    gd (inb x2 (gN s12 176)) <|
    stp (sE s12 176 x2 x5) fun s15 =>
    if x11 = 0 then
      j_X14_element_506 x2 x5 x10 x11 x2 (w32 (x5 + (w32 x8))) s15
    else
      j_X14_element_506 x2 x5 x10 x11 x2 (-1) s15
  else
    some s
theorem wj_X14_element_436 {x2 : Int} {x3 : Int} {x4 : Int} {x5 : Int} {x6 : Int} {x8 : Int} {x10 : Int} {x11 : Int} {s : vS} {out : vS} (h : j_X14_element_436 x2 x3 x4 x5 x6 x8 x10 x11 s = some out)  (rx2 : rg x2) (rx3 : rg x3) (rx4 : rg x4) (rx5 : rg x5) (rx6 : rg x6) (rx8 : rgL x8) (rx10 : rg x10) (rx11 : rg x11) : VW cX14_element (RX14, none, out, none, 1, 22, 12, []) (P0 []) s 436 [(0, vO 87), (2, vI x2), (3, vI x3), (4, vI x4), (5, vI x5), (6, vI x6), (8, vL x8), (10, vI x10), (11, vI x11)] [] := by
  unfold j_X14_element_436 at h
  refine v_aload_n dX14_element_436 0 rfl rfl ?_
  refine v_getI (f := 8) cf14 oc87 rfl (by decide) q2378 dX14_element_437 ?_
  refine v_if_le (tgt := 444) dX14_element_440 (gI_rg _ _ _) (by decide) (fun c1 => ?_) (fun c1 => ?_)
  · rw [if_pos c1] at h
    refine v_aload_n dX14_element_444 0 rfl rfl ?_
    refine v_getS (f := 130) (t := 172) cf14 oc87 rfl rfl rfl (by decide) q2500 dX14_element_445 ?_
    refine v_iload_n dX14_element_448 1 rfl rfl ?_
    refine v_iload_n dX14_element_449 2 rfl rfl ?_
    obtain ⟨g2, h⟩ := gd_some h
    obtain ⟨s3, e4, h⟩ := stp_some h
    refine v_iast oc172 rx2 g2.1 g2.2 dX14_element_450 ?_
    rw [← e4]
    refine v_aload_n dX14_element_451 0 rfl rfl ?_
    refine v_getS (f := 131) (t := 173) cf14 oc87 rfl rfl rfl (by decide) q2501 dX14_element_452 ?_
    refine v_iload_n dX14_element_455 1 rfl rfl ?_
    refine v_iload dX14_element_456 3 rfl ?_
    refine v_bipush dX14_element_458 rfl ?_
    refine v_ishr dX14_element_460 ?_
    obtain ⟨g5, h⟩ := gd_some h
    obtain ⟨s6, e7, h⟩ := stp_some h
    refine v_iast oc173 rx2 g5.1 g5.2 dX14_element_461 ?_
    rw [← e7]
    refine v_aload_n dX14_element_462 0 rfl rfl ?_
    refine v_getS (f := 132) (t := 174) cf14 oc87 rfl rfl rfl (by decide) q2502 dX14_element_463 ?_
    refine v_iload_n dX14_element_466 1 rfl rfl ?_
    refine v_iload dX14_element_467 7 rfl ?_
    obtain ⟨g8, h⟩ := gd_some h
    obtain ⟨s9, e10, h⟩ := stp_some h
    refine v_zast oc174 rx2 g8.1 g8.2 dX14_element_469 ?_
    rw [← e10]
    refine v_aload_n dX14_element_470 0 rfl rfl ?_
    refine v_getS (f := 133) (t := 175) cf14 oc87 rfl rfl rfl (by decide) q2503 dX14_element_471 ?_
    refine v_iload_n dX14_element_474 1 rfl rfl ?_
    refine v_iload dX14_element_475 5 rfl ?_
    obtain ⟨g11, h⟩ := gd_some h
    obtain ⟨s12, e13, h⟩ := stp_some h
    refine v_iast oc175 rx2 g11.1 g11.2 dX14_element_477 ?_
    rw [← e13]
    refine v_aload_n dX14_element_478 0 rfl rfl ?_
    refine v_getS (f := 134) (t := 176) cf14 oc87 rfl rfl rfl (by decide) q2504 dX14_element_479 ?_
    refine v_iload_n dX14_element_482 1 rfl rfl ?_
    refine v_iload dX14_element_483 4 rfl ?_
    obtain ⟨g14, h⟩ := gd_some h
    obtain ⟨s15, e16, h⟩ := stp_some h
    refine v_iast oc176 rx2 g14.1 g14.2 dX14_element_485 ?_
    rw [← e16]
    refine v_aload_n dX14_element_486 0 rfl rfl ?_
    refine v_getS (f := 135) (t := 177) cf14 oc87 rfl rfl rfl (by decide) q2505 dX14_element_487 ?_
    refine v_iload_n dX14_element_490 1 rfl rfl ?_
    refine v_iload dX14_element_491 8 rfl ?_
    refine v_if_eq (tgt := 500) dX14_element_493 rx11 (by decide) (fun c17 => ?_) (fun c17 => ?_)
    · rw [if_pos c17] at h
      refine v_iload dX14_element_500 4 rfl ?_
      refine v_lload dX14_element_502 6 rfl ?_
      refine v_l2i dX14_element_504 ?_
      refine v_iadd dX14_element_505 ?_
      refine v_sub [0, 1, 4, 7, 8] (L1 := [(0, vO 87), (2, vI x2), (5, vI x5), (10, vI x10), (11, vI x11)]) rfl ?_
      exact wj_X14_element_506 h rx2 rx5 rx10 rx11 rx2 (w32_rg _)
    · rw [if_neg c17] at h
      refine v_iconst dX14_element_496 ?_
      refine v_goto (tgt := 506) dX14_element_497 (by decide) ?_
      refine v_sub [0, 1, 4, 7, 8] (L1 := [(0, vO 87), (2, vI x2), (5, vI x5), (10, vI x10), (11, vI x11)]) rfl ?_
      exact wj_X14_element_506 h rx2 rx5 rx10 rx11 rx2 (rgl rfl)
  · rw [if_neg c1] at h
    cases h
    exact v_vret dX14_element_443

def j_X14_element_404 (x1 : Int) (x2 : Int) (x3 : Int) (x4 : Int) (x5 : Int) (x6 : Int) (x8 : Int) (x10 : Int) (z0 : Int) (s : vS) : Option (vS) :=
  if (gI s 87 8) = 0 then
    if z0 = 0 then
      if (cmp64 (w64 (x5 + x8)) x1) ≤ 0 then
        j_X14_element_436 x2 x3 x4 x5 x6 x8 x10 z0 s
      else
        bdv (f_X14_tell 1 x3 s) fun s4 =>
        j_X14_element_436 x2 x3 x4 x5 x6 x8 x10 z0 s4
    else
      j_X14_element_436 x2 x3 x4 x5 x6 x8 x10 z0 s
  else
    j_X14_element_436 x2 x3 x4 x5 x6 x8 x10 z0 s
theorem wj_X14_element_404 {x1 : Int} {x2 : Int} {x3 : Int} {x4 : Int} {x5 : Int} {x6 : Int} {x8 : Int} {x10 : Int} {z0 : Int} {s : vS} {out : vS} (h : j_X14_element_404 x1 x2 x3 x4 x5 x6 x8 x10 z0 s = some out)  (rx1 : rg x1) (rx2 : rg x2) (rx3 : rg x3) (rx4 : rg x4) (rx5 : rg x5) (rx6 : rg x6) (rx8 : rgL x8) (rx10 : rg x10) (rz0 : rg z0) : VW cX14_element (RX14, none, out, none, 1, 22, 12, []) (P0 []) s 404 [(0, vO 87), (1, vI x1), (2, vI x2), (3, vI x3), (4, vI x4), (5, vI x5), (6, vI x6), (8, vL x8), (10, vI x10)] [vI z0] := by
  unfold j_X14_element_404 at h
  refine v_istore (L1 := [(11, vI z0), (0, vO 87), (1, vI x1), (2, vI x2), (3, vI x3), (4, vI x4), (5, vI x5), (6, vI x6), (8, vL x8), (10, vI x10)]) dX14_element_404 (by decide) rfl ?_
  refine v_aload_n dX14_element_406 1 rfl rfl ?_
  refine v_getI (f := 8) cf14 oc87 rfl (by decide) q2378 dX14_element_407 ?_
  refine v_if_ne (tgt := 436) dX14_element_410 (gI_rg _ _ _) (by decide) (fun c1 => ?_) (fun c1 => ?_)
  · rw [if_neg c1] at h
    refine v_sub [1, 3, 4, 5, 6, 7, 8, 9, 0] (L1 := [(0, vO 87), (2, vI x2), (3, vI x3), (4, vI x4), (5, vI x5), (6, vI x6), (8, vL x8), (10, vI x10), (11, vI z0)]) rfl ?_
    exact wj_X14_element_436 h rx2 rx3 rx4 rx5 rx6 rx8 rx10 rz0
  · rw [if_pos c1] at h
    refine v_iload dX14_element_413 0 rfl ?_
    refine v_if_ne (tgt := 436) dX14_element_415 rz0 (by decide) (fun c2 => ?_) (fun c2 => ?_)
    · rw [if_neg c2] at h
      refine v_sub [1, 3, 4, 5, 6, 7, 8, 9, 0] (L1 := [(0, vO 87), (2, vI x2), (3, vI x3), (4, vI x4), (5, vI x5), (6, vI x6), (8, vL x8), (10, vI x10), (11, vI z0)]) rfl ?_
      exact wj_X14_element_436 h rx2 rx3 rx4 rx5 rx6 rx8 rx10 rz0
    · rw [if_pos c2] at h
      refine v_iload dX14_element_418 6 rfl ?_
      refine v_i2l dX14_element_420 rx5 ?_
      refine v_lload dX14_element_421 8 rfl ?_
      refine v_ladd dX14_element_423 ?_
      refine v_iload_n dX14_element_424 2 rfl rfl ?_
      refine v_i2l dX14_element_425 rx1 ?_
      refine v_lcmp dX14_element_426 (w64_rg _) (rg_rgL rx1) ?_
      refine v_if_le (tgt := 436) dX14_element_427 (cmp64_rg _ _) (by decide) (fun c3 => ?_) (fun c3 => ?_)
      · rw [if_pos c3] at h
        refine v_sub [1, 3, 4, 5, 6, 7, 8, 9, 0] (L1 := [(0, vO 87), (2, vI x2), (3, vI x3), (4, vI x4), (5, vI x5), (6, vI x6), (8, vL x8), (10, vI x10), (11, vI z0)]) rfl ?_
        exact wj_X14_element_436 h rx2 rx3 rx4 rx5 rx6 rx8 rx10 rz0
      · rw [if_neg c3] at h
        refine v_aload_n dX14_element_430 1 rfl rfl ?_
        refine v_iconst dX14_element_431 ?_
        refine v_iload_n dX14_element_432 4 rfl rfl ?_
        obtain ⟨s4, e5, h⟩ := bdv_some h
        have k6 := c_X14_tell e5 (rgl rfl) rx3
        refine v_callV (st := []) cf14 oc87 k6 (lw_V q2916 q2918 qs163 q311 q2919) rfl yk_X14_tell ⟨Nat.le_of_ble_eq_true rfl, Nat.le_of_ble_eq_true rfl⟩ trivial ⟨kc87, trivial⟩ (Nat.le_of_ble_eq_true rfl) rfl dX14_element_433 ?_
        refine v_sub [1, 3, 4, 5, 6, 7, 8, 9, 0] (L1 := [(0, vO 87), (2, vI x2), (3, vI x3), (4, vI x4), (5, vI x5), (6, vI x6), (8, vL x8), (10, vI x10), (11, vI z0)]) rfl ?_
        exact wj_X14_element_436 h rx2 rx3 rx4 rx5 rx6 rx8 rx10 rz0

def j_X14_element_391 (x1 : Int) (x2 : Int) (x3 : Int) (x4 : Int) (x5 : Int) (x6 : Int) (x7 : Int) (x8 : Int) (x10 : Int) (s : vS) : Option (vS) :=
  if x7 = 128 then
    j_X14_element_404 x1 x2 x3 x4 x5 x6 x8 x10 1 s
  else
    j_X14_element_404 x1 x2 x3 x4 x5 x6 x8 x10 0 s
theorem wj_X14_element_391 {x1 : Int} {x2 : Int} {x3 : Int} {x4 : Int} {x5 : Int} {x6 : Int} {x7 : Int} {x8 : Int} {x10 : Int} {s : vS} {out : vS} (h : j_X14_element_391 x1 x2 x3 x4 x5 x6 x7 x8 x10 s = some out)  (rx1 : rg x1) (rx2 : rg x2) (rx3 : rg x3) (rx4 : rg x4) (rx5 : rg x5) (rx6 : rg x6) (rx7 : rg x7) (rx8 : rgL x8) (rx10 : rg x10) : VW cX14_element (RX14, none, out, none, 1, 22, 12, []) (P0 []) s 391 [(0, vO 87), (1, vI x1), (2, vI x2), (3, vI x3), (4, vI x4), (5, vI x5), (6, vI x6), (7, vI x7), (8, vL x8), (10, vI x10)] [] := by
  unfold j_X14_element_391 at h
  refine v_iload dX14_element_391 7 rfl ?_
  refine v_sipush dX14_element_393 rfl ?_
  refine v_icmp_ne (tgt := 403) dX14_element_396 rx7 (rgl rfl) (by decide) (fun c1 => ?_) (fun c1 => ?_)
  · rw [if_neg c1] at h
    refine v_iconst dX14_element_403 ?_
    refine v_sub [0, 1, 2, 3, 4, 5, 6, 8, 9] (L1 := [(0, vO 87), (1, vI x1), (2, vI x2), (3, vI x3), (4, vI x4), (5, vI x5), (6, vI x6), (8, vL x8), (10, vI x10)]) rfl ?_
    exact wj_X14_element_404 h rx1 rx2 rx3 rx4 rx5 rx6 rx8 rx10 (rgl rfl)
  · rw [if_pos c1] at h
    refine v_iconst dX14_element_399 ?_
    refine v_goto (tgt := 404) dX14_element_400 (by decide) ?_
    refine v_sub [0, 1, 2, 3, 4, 5, 6, 8, 9] (L1 := [(0, vO 87), (1, vI x1), (2, vI x2), (3, vI x3), (4, vI x4), (5, vI x5), (6, vI x6), (8, vL x8), (10, vI x10)]) rfl ?_
    exact wj_X14_element_404 h rx1 rx2 rx3 rx4 rx5 rx6 rx8 rx10 (rgl rfl)

def j_X14_element_287 (x1 : Int) (x2 : Int) (x3 : Int) (x4 : Int) (x5 : Int) (x6 : Int) (x7 : Int) (x8 : Int) (x10 : Int) (s : vS) : Option (vS) :=
  bdv (f_X14_tell 3 x3 s) fun s1 =>
  j_X14_element_391 x1 x2 x3 x4 x5 x6 x7 x8 x10 s1
theorem wj_X14_element_287 {x1 : Int} {x2 : Int} {x3 : Int} {x4 : Int} {x5 : Int} {x6 : Int} {x7 : Int} {x8 : Int} {x10 : Int} {s : vS} {out : vS} (h : j_X14_element_287 x1 x2 x3 x4 x5 x6 x7 x8 x10 s = some out)  (rx1 : rg x1) (rx2 : rg x2) (rx3 : rg x3) (rx4 : rg x4) (rx5 : rg x5) (rx6 : rg x6) (rx7 : rg x7) (rx8 : rgL x8) (rx10 : rg x10) : VW cX14_element (RX14, none, out, none, 1, 22, 12, []) (P0 []) s 287 [(0, vO 87), (1, vI x1), (2, vI x2), (3, vI x3), (4, vI x4), (5, vI x5), (6, vI x6), (7, vI x7), (8, vL x8), (10, vI x10)] [] := by
  unfold j_X14_element_287 at h
  refine v_aload_n dX14_element_287 0 rfl rfl ?_
  refine v_iconst dX14_element_288 ?_
  refine v_iload_n dX14_element_289 3 rfl rfl ?_
  obtain ⟨s1, e2, h⟩ := bdv_some h
  have k3 := c_X14_tell e2 (rgl rfl) rx3
  refine v_callV (st := []) cf14 oc87 k3 (lw_V q2916 q2918 qs163 q311 q2919) rfl yk_X14_tell ⟨Nat.le_of_ble_eq_true rfl, Nat.le_of_ble_eq_true rfl⟩ trivial ⟨kc87, trivial⟩ (Nat.le_of_ble_eq_true rfl) rfl dX14_element_290 ?_
  refine v_goto (tgt := 391) dX14_element_293 (by decide) ?_
  exact wj_X14_element_391 h rx1 rx2 rx3 rx4 rx5 rx6 rx7 rx8 rx10

def E_X14_element_310 (x1 : Int) (x2 : Int) (x3 : Int) (x4 : Int) (x6 : Int) (x7 : Int) (x10 : Int) (rv : Option vA) (σo : vS) (q : Int × Int × vS) : Prop := ∀ (x5' : Int) (x8' : Int) (s' : vS), q = (x5', x8', s') → rg x5' → rgL x8' → VW cX14_element (RX14, rv, σo, none, 1, 22, 12, []) (P0 []) s' 391 [(0, vO 87), (1, vI x1), (2, vI x2), (3, vI x3), (4, vI x4), (5, vI x5'), (6, vI x6), (7, vI x7), (8, vL x8'), (10, vI x10)] []
def j_X14_element_363 (rec : Int → Int → Int → Int → Int → Int → Int → Int → Int → Int → vS → Option (Int × Int × vS)) (x1 : Int) (x2 : Int) (x3 : Int) (x4 : Int) (x5 : Int) (x6 : Int) (x7 : Int) (x10 : Int) (x11 : Int) (z0 : Int) (z1 : Int) (s : vS) : Option (Int × Int × vS) :=
  vl (w64 (z0 + z1)) fun y1 =>
  if (cmp64 y1 2147483647) ≤ 0 then
    vl (w32 (x5 + 1)) fun y5 =>
    vl (w32 (x11 + 1)) fun y8 =>
    rec x1 x2 x3 x4 y5 x6 x7 y1 x10 y8 s
  else
    bdv (f_X14_tell 3 x3 s) fun s11 =>
    vl (w32 (x5 + 1)) fun y14 =>
    vl (w32 (x11 + 1)) fun y17 =>
    rec x1 x2 x3 x4 y14 x6 x7 y1 x10 y17 s11
theorem wj_X14_element_363 {x1 : Int} {x2 : Int} {x3 : Int} {x4 : Int} {x5 : Int} {x6 : Int} {x7 : Int} {x10 : Int} {x11 : Int} {z0 : Int} {z1 : Int} {s : vS} {rv : Option vA} {σo : vS} {rec : Int → Int → Int → Int → Int → Int → Int → Int → Int → Int → vS → Option (Int × Int × vS)} {q : Int × Int × vS} (h : j_X14_element_363 rec x1 x2 x3 x4 x5 x6 x7 x10 x11 z0 z1 s = some q)  (rx1 : rg x1) (rx2 : rg x2) (rx3 : rg x3) (rx4 : rg x4) (rx5 : rg x5) (rx6 : rg x6) (rx7 : rg x7) (rx10 : rg x10) (rx11 : rg x11) (rz0 : rgL z0) (rz1 : rg z1) (hrec : ∀ (y5 : Int) (y8 : Int) (y11 : Int) (s : vS) (q : Int × Int × vS), rec x1 x2 x3 x4 y5 x6 x7 y8 x10 y11 s = some q → rg y5 → rgL y8 → rg y11 → E_X14_element_310 x1 x2 x3 x4 x6 x7 x10 rv σo q → VW cX14_element (RX14, rv, σo, none, 1, 22, 12, []) (P0 []) s 310 [(0, vO 87), (1, vI x1), (2, vI x2), (3, vI x3), (4, vI x4), (5, vI y5), (6, vI x6), (7, vI x7), (8, vL y8), (10, vI x10), (11, vI y11)] []) (hE : E_X14_element_310 x1 x2 x3 x4 x6 x7 x10 rv σo q) : VW cX14_element (RX14, rv, σo, none, 1, 22, 12, []) (P0 []) s 363 [(0, vO 87), (1, vI x1), (2, vI x2), (3, vI x3), (4, vI x4), (5, vI x5), (6, vI x6), (7, vI x7), (10, vI x10), (11, vI x11)] [vI z1, vL z0] := by
  unfold j_X14_element_363 at h
  refine v_i2l dX14_element_363 rz1 ?_
  refine v_ladd dX14_element_364 ?_
  obtain ⟨y1, e2, h⟩ := vl_some h
  rw [← e2]
  have r3 : rgL y1 := by rw [e2]; exact w64_rg _
  refine v_lstore (L1 := [(8, vL y1), (0, vO 87), (1, vI x1), (2, vI x2), (3, vI x3), (4, vI x4), (5, vI x5), (6, vI x6), (7, vI x7), (10, vI x10), (11, vI x11)]) dX14_element_365 (by decide) rfl ?_
  refine v_lload dX14_element_367 0 rfl ?_
  refine v_ldc2 (n := 2147483647) dX14_element_369 q3396 rfl ?_
  refine v_lcmp dX14_element_372 r3 (rglL rfl) ?_
  refine v_if_le (tgt := 382) dX14_element_373 (cmp64_rg _ _) (by decide) (fun c4 => ?_) (fun c4 => ?_)
  · rw [if_pos c4] at h
    obtain ⟨y5, e6, h⟩ := vl_some h
    refine v_iinc (L1 := [(5, vI (w32 (x5 + 1))), (8, vL y1), (0, vO 87), (1, vI x1), (2, vI x2), (3, vI x3), (4, vI x4), (6, vI x6), (7, vI x7), (10, vI x10), (11, vI x11)]) dX14_element_382 6 rfl (by decide) rfl ?_
    rw [← e6]
    have r7 : rg y5 := by rw [e6]; exact w32_rg _
    obtain ⟨y8, e9, h⟩ := vl_some h
    refine v_iinc (L1 := [(11, vI (w32 (x11 + 1))), (5, vI y5), (8, vL y1), (0, vO 87), (1, vI x1), (2, vI x2), (3, vI x3), (4, vI x4), (6, vI x6), (7, vI x7), (10, vI x10)]) dX14_element_385 10 rfl (by decide) rfl ?_
    rw [← e9]
    have r10 : rg y8 := by rw [e9]; exact w32_rg _
    refine v_goto (tgt := 310) dX14_element_388 (by decide) ?_
    refine v_sub [3, 4, 5, 6, 7, 1, 8, 9, 2, 10, 0] (L1 := [(0, vO 87), (1, vI x1), (2, vI x2), (3, vI x3), (4, vI x4), (5, vI y5), (6, vI x6), (7, vI x7), (8, vL y1), (10, vI x10), (11, vI y8)]) rfl ?_
    exact hrec y5 y1 y8 s _ h r7 r3 r10 hE
  · rw [if_neg c4] at h
    refine v_aload_n dX14_element_376 1 rfl rfl ?_
    refine v_iconst dX14_element_377 ?_
    refine v_iload_n dX14_element_378 4 rfl rfl ?_
    obtain ⟨s11, e12, h⟩ := bdv_some h
    have k13 := c_X14_tell e12 (rgl rfl) rx3
    refine v_callV (st := []) cf14 oc87 k13 (lw_V q2916 q2918 qs163 q311 q2919) rfl yk_X14_tell ⟨Nat.le_of_ble_eq_true rfl, Nat.le_of_ble_eq_true rfl⟩ trivial ⟨kc87, trivial⟩ (Nat.le_of_ble_eq_true rfl) rfl dX14_element_379 ?_
    obtain ⟨y14, e15, h⟩ := vl_some h
    refine v_iinc (L1 := [(5, vI (w32 (x5 + 1))), (8, vL y1), (0, vO 87), (1, vI x1), (2, vI x2), (3, vI x3), (4, vI x4), (6, vI x6), (7, vI x7), (10, vI x10), (11, vI x11)]) dX14_element_382 6 rfl (by decide) rfl ?_
    rw [← e15]
    have r16 : rg y14 := by rw [e15]; exact w32_rg _
    obtain ⟨y17, e18, h⟩ := vl_some h
    refine v_iinc (L1 := [(11, vI (w32 (x11 + 1))), (5, vI y14), (8, vL y1), (0, vO 87), (1, vI x1), (2, vI x2), (3, vI x3), (4, vI x4), (6, vI x6), (7, vI x7), (10, vI x10)]) dX14_element_385 10 rfl (by decide) rfl ?_
    rw [← e18]
    have r19 : rg y17 := by rw [e18]; exact w32_rg _
    refine v_goto (tgt := 310) dX14_element_388 (by decide) ?_
    refine v_sub [3, 4, 5, 6, 7, 1, 8, 9, 2, 10, 0] (L1 := [(0, vO 87), (1, vI x1), (2, vI x2), (3, vI x3), (4, vI x4), (5, vI y14), (6, vI x6), (7, vI x7), (8, vL y1), (10, vI x10), (11, vI y17)]) rfl ?_
    exact hrec y14 y1 y17 s11 _ h r16 r3 r19 hE

def j_X14_element_340 (rec : Int → Int → Int → Int → Int → Int → Int → Int → Int → Int → vS → Option (Int × Int × vS)) (x1 : Int) (x2 : Int) (x3 : Int) (x4 : Int) (x5 : Int) (x6 : Int) (x7 : Int) (x8 : Int) (x10 : Int) (x11 : Int) (s : vS) : Option (Int × Int × vS) :=
  if x1 ≤ x5 then
    j_X14_element_363 rec x1 x2 x3 x4 x5 x6 x7 x10 x11 (w64 (256 * x8)) 0 s
  else
    gd (inb x5 (gN s 171)) <|
    j_X14_element_363 rec x1 x2 x3 x4 x5 x6 x7 x10 x11 (w64 (256 * x8)) (gE s 171 x5) s
theorem wj_X14_element_340 {x1 : Int} {x2 : Int} {x3 : Int} {x4 : Int} {x5 : Int} {x6 : Int} {x7 : Int} {x8 : Int} {x10 : Int} {x11 : Int} {s : vS} {rv : Option vA} {σo : vS} {rec : Int → Int → Int → Int → Int → Int → Int → Int → Int → Int → vS → Option (Int × Int × vS)} {q : Int × Int × vS} (h : j_X14_element_340 rec x1 x2 x3 x4 x5 x6 x7 x8 x10 x11 s = some q)  (rx1 : rg x1) (rx2 : rg x2) (rx3 : rg x3) (rx4 : rg x4) (rx5 : rg x5) (rx6 : rg x6) (rx7 : rg x7) (rx8 : rgL x8) (rx10 : rg x10) (rx11 : rg x11) (hrec : ∀ (y5 : Int) (y8 : Int) (y11 : Int) (s : vS) (q : Int × Int × vS), rec x1 x2 x3 x4 y5 x6 x7 y8 x10 y11 s = some q → rg y5 → rgL y8 → rg y11 → E_X14_element_310 x1 x2 x3 x4 x6 x7 x10 rv σo q → VW cX14_element (RX14, rv, σo, none, 1, 22, 12, []) (P0 []) s 310 [(0, vO 87), (1, vI x1), (2, vI x2), (3, vI x3), (4, vI x4), (5, vI y5), (6, vI x6), (7, vI x7), (8, vL y8), (10, vI x10), (11, vI y11)] []) (hE : E_X14_element_310 x1 x2 x3 x4 x6 x7 x10 rv σo q) : VW cX14_element (RX14, rv, σo, none, 1, 22, 12, []) (P0 []) s 340 [(0, vO 87), (1, vI x1), (2, vI x2), (3, vI x3), (4, vI x4), (5, vI x5), (6, vI x6), (7, vI x7), (8, vL x8), (10, vI x10), (11, vI x11)] [] := by
  unfold j_X14_element_340 at h
  refine v_ldc2 (n := 256) dX14_element_340 q3395 rfl ?_
  refine v_lload dX14_element_343 8 rfl ?_
  refine v_lmul dX14_element_345 ?_
  refine v_iload dX14_element_346 5 rfl ?_
  refine v_iload_n dX14_element_348 1 rfl rfl ?_
  refine v_icmp_ge (tgt := 362) dX14_element_349 rx5 rx1 (by decide) (fun c1 => ?_) (fun c1 => ?_)
  · rw [if_pos c1] at h
    refine v_iconst dX14_element_362 ?_
    refine v_sub [0, 1, 2, 3, 4, 5, 6, 7, 9, 10] (L1 := [(0, vO 87), (1, vI x1), (2, vI x2), (3, vI x3), (4, vI x4), (5, vI x5), (6, vI x6), (7, vI x7), (10, vI x10), (11, vI x11)]) rfl ?_
    exact wj_X14_element_363 h rx1 rx2 rx3 rx4 rx5 rx6 rx7 rx10 rx11 (w64_rg _) (rgl rfl) hrec hE
  · rw [if_neg c1] at h
    refine v_aload_n dX14_element_352 0 rfl rfl ?_
    refine v_getS (f := 128) (t := 171) cf14 oc87 rfl rfl rfl (by decide) q2498 dX14_element_353 ?_
    refine v_iload dX14_element_356 5 rfl ?_
    obtain ⟨g2, h⟩ := gd_some h
    refine v_iald oc171 rx5 g2.1 g2.2 dX14_element_358 ?_
    refine v_goto (tgt := 363) dX14_element_359 (by decide) ?_
    refine v_sub [0, 1, 2, 3, 4, 5, 6, 7, 9, 10] (L1 := [(0, vO 87), (1, vI x1), (2, vI x2), (3, vI x3), (4, vI x4), (5, vI x5), (6, vI x6), (7, vI x7), (10, vI x10), (11, vI x11)]) rfl ?_
    exact wj_X14_element_363 h rx1 rx2 rx3 rx4 rx5 rx6 rx7 rx10 rx11 (w64_rg _) (gE_rg _ _ _) hrec hE

def l_X14_element_310 : Nat → Int → Int → Int → Int → Int → Int → Int → Int → Int → Int → vS → Option (Int × Int × vS)
  | 0, _, _, _, _, _, _, _, _, _, _, _ => none
  | n + 1, x1, x2, x3, x4, x5, x6, x7, x8, x10, x11, s =>
    if (w32 (x7 - 128)) ≤ x11 then
      some (x5, x8, s)
    else
      if (gI s 87 8) = 0 then
        if x5 < x1 then
          j_X14_element_340 (l_X14_element_310 n) x1 x2 x3 x4 x5 x6 x7 x8 x10 x11 s
        else
          bdv (f_X14_tell 1 x3 s) fun s4 =>
          j_X14_element_340 (l_X14_element_310 n) x1 x2 x3 x4 x5 x6 x7 x8 x10 x11 s4
      else
        some (x5, x8, s)
theorem wl_X14_element_310 {x1 : Int} {x2 : Int} {x3 : Int} {x4 : Int} {x6 : Int} {x7 : Int} {x10 : Int} {rv : Option vA} {σo : vS}  (rx1 : rg x1) (rx2 : rg x2) (rx3 : rg x3) (rx4 : rg x4) (rx6 : rg x6) (rx7 : rg x7) (rx10 : rg x10) : ∀ (n : Nat) (x5 : Int) (x8 : Int) (x11 : Int) (s : vS) (q : Int × Int × vS), l_X14_element_310 n x1 x2 x3 x4 x5 x6 x7 x8 x10 x11 s = some q → rg x5 → rgL x8 → rg x11 → E_X14_element_310 x1 x2 x3 x4 x6 x7 x10 rv σo q → VW cX14_element (RX14, rv, σo, none, 1, 22, 12, []) (P0 []) s 310 [(0, vO 87), (1, vI x1), (2, vI x2), (3, vI x3), (4, vI x4), (5, vI x5), (6, vI x6), (7, vI x7), (8, vL x8), (10, vI x10), (11, vI x11)] [] := by
  intro n
  induction n with
  | zero => intro x5 x8 x11 s q h; cases h
  | succ n ih =>
    intro x5 x8 x11 s q h rx5 rx8 rx11 hE
    unfold l_X14_element_310 at h
    refine v_iload dX14_element_310 10 rfl ?_
    refine v_iload dX14_element_312 7 rfl ?_
    refine v_sipush dX14_element_314 rfl ?_
    refine v_isub dX14_element_317 ?_
    refine v_icmp_ge (tgt := 391) dX14_element_318 rx11 (w32_rg _) (by decide) (fun c1 => ?_) (fun c1 => ?_)
    · rw [if_pos c1] at h
      cases h
      refine v_sub [0, 1, 2, 3, 4, 5, 6, 7, 8, 9] (L1 := [(0, vO 87), (1, vI x1), (2, vI x2), (3, vI x3), (4, vI x4), (5, vI x5), (6, vI x6), (7, vI x7), (8, vL x8), (10, vI x10)]) rfl ?_
      exact hE _ _ _ rfl rx5 rx8
    · rw [if_neg c1] at h
      refine v_aload_n dX14_element_321 0 rfl rfl ?_
      refine v_getI (f := 8) cf14 oc87 rfl (by decide) q2378 dX14_element_322 ?_
      refine v_if_ne (tgt := 391) dX14_element_325 (gI_rg _ _ _) (by decide) (fun c2 => ?_) (fun c2 => ?_)
      · rw [if_neg c2] at h
        cases h
        refine v_sub [0, 1, 2, 3, 4, 5, 6, 7, 8, 9] (L1 := [(0, vO 87), (1, vI x1), (2, vI x2), (3, vI x3), (4, vI x4), (5, vI x5), (6, vI x6), (7, vI x7), (8, vL x8), (10, vI x10)]) rfl ?_
        exact hE _ _ _ rfl rx5 rx8
      · rw [if_pos c2] at h
        refine v_iload dX14_element_328 5 rfl ?_
        refine v_iload_n dX14_element_330 1 rfl rfl ?_
        refine v_icmp_lt (tgt := 340) dX14_element_331 rx5 rx1 (by decide) (fun c3 => ?_) (fun c3 => ?_)
        · rw [if_pos c3] at h
          exact wj_X14_element_340 h rx1 rx2 rx3 rx4 rx5 rx6 rx7 rx8 rx10 rx11 ih hE
        · rw [if_neg c3] at h
          refine v_aload_n dX14_element_334 0 rfl rfl ?_
          refine v_iconst dX14_element_335 ?_
          refine v_iload_n dX14_element_336 3 rfl rfl ?_
          obtain ⟨s4, e5, h⟩ := bdv_some h
          have k6 := c_X14_tell e5 (rgl rfl) rx3
          refine v_callV (st := []) cf14 oc87 k6 (lw_V q2916 q2918 qs163 q311 q2919) rfl yk_X14_tell ⟨Nat.le_of_ble_eq_true rfl, Nat.le_of_ble_eq_true rfl⟩ trivial ⟨kc87, trivial⟩ (Nat.le_of_ble_eq_true rfl) rfl dX14_element_337 ?_
          exact wj_X14_element_340 h rx1 rx2 rx3 rx4 rx5 rx6 rx7 rx8 rx10 rx11 ih hE

def j_X14_element_296 (x1 : Int) (x2 : Int) (x3 : Int) (x4 : Int) (x5 : Int) (x6 : Int) (x7 : Int) (x8 : Int) (x10 : Int) (s : vS) : Option (vS) :=
  if x7 ≤ 128 then
    j_X14_element_391 x1 x2 x3 x4 x5 x6 x7 x8 x10 s
  else
    lq_2 (l_X14_element_310 FU x1 x2 x3 x4 x5 x6 x7 0 x10 0 s) fun y2 y3 s4 =>
    j_X14_element_391 x1 x2 x3 x4 y2 x6 x7 y3 x10 s4
theorem wj_X14_element_296 {x1 : Int} {x2 : Int} {x3 : Int} {x4 : Int} {x5 : Int} {x6 : Int} {x7 : Int} {x8 : Int} {x10 : Int} {s : vS} {out : vS} (h : j_X14_element_296 x1 x2 x3 x4 x5 x6 x7 x8 x10 s = some out)  (rx1 : rg x1) (rx2 : rg x2) (rx3 : rg x3) (rx4 : rg x4) (rx5 : rg x5) (rx6 : rg x6) (rx7 : rg x7) (rx8 : rgL x8) (rx10 : rg x10) : VW cX14_element (RX14, none, out, none, 1, 22, 12, []) (P0 []) s 296 [(0, vO 87), (1, vI x1), (2, vI x2), (3, vI x3), (4, vI x4), (5, vI x5), (6, vI x6), (7, vI x7), (8, vL x8), (10, vI x10)] [] := by
  unfold j_X14_element_296 at h
  refine v_iload dX14_element_296 7 rfl ?_
  refine v_sipush dX14_element_298 rfl ?_
  refine v_icmp_le (tgt := 391) dX14_element_301 rx7 (rgl rfl) (by decide) (fun c1 => ?_) (fun c1 => ?_)
  · rw [if_pos c1] at h
    exact wj_X14_element_391 h rx1 rx2 rx3 rx4 rx5 rx6 rx7 rx8 rx10
  · rw [if_neg c1] at h
    refine v_lconst (n := 0) dX14_element_304 rfl ?_
    refine v_lstore (L1 := [(8, vL 0), (0, vO 87), (1, vI x1), (2, vI x2), (3, vI x3), (4, vI x4), (5, vI x5), (6, vI x6), (7, vI x7), (10, vI x10)]) dX14_element_305 (by decide) rfl ?_
    refine v_iconst dX14_element_307 ?_
    refine v_istore (L1 := [(11, vI 0), (8, vL 0), (0, vO 87), (1, vI x1), (2, vI x2), (3, vI x3), (4, vI x4), (5, vI x5), (6, vI x6), (7, vI x7), (10, vI x10)]) dX14_element_308 (by decide) rfl ?_
    refine v_sub [2, 3, 4, 5, 6, 7, 8, 9, 1, 10, 0] (L1 := [(0, vO 87), (1, vI x1), (2, vI x2), (3, vI x3), (4, vI x4), (5, vI x5), (6, vI x6), (7, vI x7), (8, vL 0), (10, vI x10), (11, vI 0)]) rfl ?_
    obtain ⟨y2, y3, s4, e5, h⟩ := lq_2_some h
    refine wl_X14_element_310 rx1 rx2 rx3 rx4 rx6 rx7 rx10 FU x5 0 0 s _ e5 rx5 (rglL rfl) (rgl rfl) ?_
    unfold E_X14_element_310
    intro y2' y3' s4' z_ r6 r7
    cases z_
    exact wj_X14_element_391 h rx1 rx2 rx3 rx4 r6 rx6 rx7 r7 rx10

def j_X14_element_264 (x1 : Int) (x2 : Int) (x3 : Int) (x4 : Int) (x5 : Int) (x6 : Int) (x7 : Int) (x8 : Int) (z0 : Int) (s : vS) : Option (vS) :=
  if x7 = 255 then
    j_X14_element_287 x1 x2 x3 x4 x5 x6 x7 x8 z0 s
  else
    if x7 = 128 then
      if z0 = 0 then
        j_X14_element_287 x1 x2 x3 x4 x5 x6 x7 x8 z0 s
      else
        j_X14_element_296 x1 x2 x3 x4 x5 x6 x7 x8 z0 s
    else
      j_X14_element_296 x1 x2 x3 x4 x5 x6 x7 x8 z0 s
theorem wj_X14_element_264 {x1 : Int} {x2 : Int} {x3 : Int} {x4 : Int} {x5 : Int} {x6 : Int} {x7 : Int} {x8 : Int} {z0 : Int} {s : vS} {out : vS} (h : j_X14_element_264 x1 x2 x3 x4 x5 x6 x7 x8 z0 s = some out)  (rx1 : rg x1) (rx2 : rg x2) (rx3 : rg x3) (rx4 : rg x4) (rx5 : rg x5) (rx6 : rg x6) (rx7 : rg x7) (rx8 : rgL x8) (rz0 : rg z0) : VW cX14_element (RX14, none, out, none, 1, 22, 12, []) (P0 []) s 264 [(0, vO 87), (1, vI x1), (2, vI x2), (3, vI x3), (4, vI x4), (5, vI x5), (6, vI x6), (7, vI x7), (8, vL x8)] [vI z0] := by
  unfold j_X14_element_264 at h
  refine v_istore (L1 := [(10, vI z0), (0, vO 87), (1, vI x1), (2, vI x2), (3, vI x3), (4, vI x4), (5, vI x5), (6, vI x6), (7, vI x7), (8, vL x8)]) dX14_element_264 (by decide) rfl ?_
  refine v_iload dX14_element_266 8 rfl ?_
  refine v_sipush dX14_element_268 rfl ?_
  refine v_icmp_eq (tgt := 287) dX14_element_271 rx7 (rgl rfl) (by decide) (fun c1 => ?_) (fun c1 => ?_)
  · rw [if_pos c1] at h
    refine v_sub [1, 2, 3, 4, 5, 6, 7, 8, 9, 0] (L1 := [(0, vO 87), (1, vI x1), (2, vI x2), (3, vI x3), (4, vI x4), (5, vI x5), (6, vI x6), (7, vI x7), (8, vL x8), (10, vI z0)]) rfl ?_
    exact wj_X14_element_287 h rx1 rx2 rx3 rx4 rx5 rx6 rx7 rx8 rz0
  · rw [if_neg c1] at h
    refine v_iload dX14_element_274 8 rfl ?_
    refine v_sipush dX14_element_276 rfl ?_
    refine v_icmp_ne (tgt := 296) dX14_element_279 rx7 (rgl rfl) (by decide) (fun c2 => ?_) (fun c2 => ?_)
    · rw [if_neg c2] at h
      refine v_sub [1, 2, 3, 4, 5, 6, 7, 8, 9, 0] (L1 := [(0, vO 87), (1, vI x1), (2, vI x2), (3, vI x3), (4, vI x4), (5, vI x5), (6, vI x6), (7, vI x7), (8, vL x8), (10, vI z0)]) rfl ?_
      exact wj_X14_element_296 h rx1 rx2 rx3 rx4 rx5 rx6 rx7 rx8 rz0
    · rw [if_pos c2] at h
      refine v_iload dX14_element_282 0 rfl ?_
      refine v_if_ne (tgt := 296) dX14_element_284 rz0 (by decide) (fun c3 => ?_) (fun c3 => ?_)
      · rw [if_neg c3] at h
        refine v_sub [1, 2, 3, 4, 5, 6, 7, 8, 9, 0] (L1 := [(0, vO 87), (1, vI x1), (2, vI x2), (3, vI x3), (4, vI x4), (5, vI x5), (6, vI x6), (7, vI x7), (8, vL x8), (10, vI z0)]) rfl ?_
        exact wj_X14_element_296 h rx1 rx2 rx3 rx4 rx5 rx6 rx7 rx8 rz0
      · rw [if_pos c3] at h
        refine v_sub [1, 2, 3, 4, 5, 6, 7, 8, 9, 0] (L1 := [(0, vO 87), (1, vI x1), (2, vI x2), (3, vI x3), (4, vI x4), (5, vI x5), (6, vI x6), (7, vI x7), (8, vL x8), (10, vI z0)]) rfl ?_
        exact wj_X14_element_287 h rx1 rx2 rx3 rx4 rx5 rx6 rx7 rx8 rz0

def j_X14_element_224 (x1 : Int) (x2 : Int) (x3 : Int) (x4 : Int) (x5 : Int) (x6 : Int) (s : vS) : Option (vS) :=
  if (gI s 87 8) ≤ 0 then
    gd (inb x5 (gN s 171)) <|
    vl (gE s 171 x5) fun y3 =>
    vl (w32 (x5 + 1)) fun y6 =>
    if (and32 (shr32 x4 5) 1) = 1 then
      j_X14_element_264 x1 x2 x3 x4 y6 x6 y3 y3 1 s
    else
      j_X14_element_264 x1 x2 x3 x4 y6 x6 y3 y3 0 s
  else
    some s
theorem wj_X14_element_224 {x1 : Int} {x2 : Int} {x3 : Int} {x4 : Int} {x5 : Int} {x6 : Int} {s : vS} {out : vS} (h : j_X14_element_224 x1 x2 x3 x4 x5 x6 s = some out)  (rx1 : rg x1) (rx2 : rg x2) (rx3 : rg x3) (rx4 : rg x4) (rx5 : rg x5) (rx6 : rg x6) : VW cX14_element (RX14, none, out, none, 1, 22, 12, []) (P0 []) s 224 [(0, vO 87), (1, vI x1), (2, vI x2), (3, vI x3), (4, vI x4), (5, vI x5), (6, vI x6)] [] := by
  unfold j_X14_element_224 at h
  refine v_aload_n dX14_element_224 0 rfl rfl ?_
  refine v_getI (f := 8) cf14 oc87 rfl (by decide) q2378 dX14_element_225 ?_
  refine v_if_le (tgt := 232) dX14_element_228 (gI_rg _ _ _) (by decide) (fun c1 => ?_) (fun c1 => ?_)
  · rw [if_pos c1] at h
    refine v_aload_n dX14_element_232 0 rfl rfl ?_
    refine v_getS (f := 128) (t := 171) cf14 oc87 rfl rfl rfl (by decide) q2498 dX14_element_233 ?_
    refine v_iload dX14_element_236 5 rfl ?_
    obtain ⟨g2, h⟩ := gd_some h
    refine v_iald oc171 rx5 g2.1 g2.2 dX14_element_238 ?_
    obtain ⟨y3, e4, h⟩ := vl_some h
    rw [← e4]
    have r5 : rg y3 := by rw [e4]; exact gE_rg _ _ _
    refine v_istore (L1 := [(7, vI y3), (0, vO 87), (1, vI x1), (2, vI x2), (3, vI x3), (4, vI x4), (5, vI x5), (6, vI x6)]) dX14_element_239 (by decide) rfl ?_
    obtain ⟨y6, e7, h⟩ := vl_some h
    refine v_iinc (L1 := [(5, vI (w32 (x5 + 1))), (7, vI y3), (0, vO 87), (1, vI x1), (2, vI x2), (3, vI x3), (4, vI x4), (6, vI x6)]) dX14_element_241 6 rfl (by decide) rfl ?_
    rw [← e7]
    have r8 : rg y6 := by rw [e7]; exact w32_rg _
    refine v_iload dX14_element_244 1 rfl ?_
    refine v_i2l dX14_element_246 r5 ?_
    refine v_lstore (L1 := [(8, vL y3), (5, vI y6), (7, vI y3), (0, vO 87), (1, vI x1), (2, vI x2), (3, vI x3), (4, vI x4), (6, vI x6)]) dX14_element_247 (by decide) rfl ?_
    refine v_iload dX14_element_249 7 rfl ?_
    refine v_iconst dX14_element_251 ?_
    refine v_ishr dX14_element_252 ?_
    refine v_iconst dX14_element_253 ?_
    refine v_iand dX14_element_254 ?_
    refine v_iconst dX14_element_255 ?_
    refine v_icmp_ne (tgt := 263) dX14_element_256 (and32_rg _ _) (rgl rfl) (by decide) (fun c9 => ?_) (fun c9 => ?_)
    · rw [if_neg c9] at h
      refine v_iconst dX14_element_263 ?_
      refine v_sub [3, 4, 5, 6, 7, 1, 8, 2, 0] (L1 := [(0, vO 87), (1, vI x1), (2, vI x2), (3, vI x3), (4, vI x4), (5, vI y6), (6, vI x6), (7, vI y3), (8, vL y3)]) rfl ?_
      exact wj_X14_element_264 h rx1 rx2 rx3 rx4 r8 rx6 r5 (rg_rgL r5) (rgl rfl)
    · rw [if_pos c9] at h
      refine v_iconst dX14_element_259 ?_
      refine v_goto (tgt := 264) dX14_element_260 (by decide) ?_
      refine v_sub [3, 4, 5, 6, 7, 1, 8, 2, 0] (L1 := [(0, vO 87), (1, vI x1), (2, vI x2), (3, vI x3), (4, vI x4), (5, vI y6), (6, vI x6), (7, vI y3), (8, vL y3)]) rfl ?_
      exact wj_X14_element_264 h rx1 rx2 rx3 rx4 r8 rx6 r5 (rg_rgL r5) (rgl rfl)
  · rw [if_neg c1] at h
    cases h
    exact v_vret dX14_element_231

def j_X14_element_205 (x1 : Int) (x2 : Int) (x3 : Int) (x4 : Int) (x5 : Int) (x6 : Int) (s : vS) : Option (vS) :=
  if (gI s 87 8) = 0 then
    if x5 < x1 then
      j_X14_element_224 x1 x2 x3 x4 x5 x6 s
    else
      bdv (f_X14_tell 1 x3 s) fun s3 =>
      j_X14_element_224 x1 x2 x3 x4 x5 x6 s3
  else
    j_X14_element_224 x1 x2 x3 x4 x5 x6 s
theorem wj_X14_element_205 {x1 : Int} {x2 : Int} {x3 : Int} {x4 : Int} {x5 : Int} {x6 : Int} {s : vS} {out : vS} (h : j_X14_element_205 x1 x2 x3 x4 x5 x6 s = some out)  (rx1 : rg x1) (rx2 : rg x2) (rx3 : rg x3) (rx4 : rg x4) (rx5 : rg x5) (rx6 : rg x6) : VW cX14_element (RX14, none, out, none, 1, 22, 12, []) (P0 []) s 205 [(0, vO 87), (1, vI x1), (2, vI x2), (3, vI x3), (4, vI x4), (5, vI x5), (6, vI x6)] [] := by
  unfold j_X14_element_205 at h
  refine v_aload_n dX14_element_205 0 rfl rfl ?_
  refine v_getI (f := 8) cf14 oc87 rfl (by decide) q2378 dX14_element_206 ?_
  refine v_if_ne (tgt := 224) dX14_element_209 (gI_rg _ _ _) (by decide) (fun c1 => ?_) (fun c1 => ?_)
  · rw [if_neg c1] at h
    exact wj_X14_element_224 h rx1 rx2 rx3 rx4 rx5 rx6
  · rw [if_pos c1] at h
    refine v_iload dX14_element_212 5 rfl ?_
    refine v_iload_n dX14_element_214 1 rfl rfl ?_
    refine v_icmp_lt (tgt := 224) dX14_element_215 rx5 rx1 (by decide) (fun c2 => ?_) (fun c2 => ?_)
    · rw [if_pos c2] at h
      exact wj_X14_element_224 h rx1 rx2 rx3 rx4 rx5 rx6
    · rw [if_neg c2] at h
      refine v_aload_n dX14_element_218 0 rfl rfl ?_
      refine v_iconst dX14_element_219 ?_
      refine v_iload_n dX14_element_220 3 rfl rfl ?_
      obtain ⟨s3, e4, h⟩ := bdv_some h
      have k5 := c_X14_tell e4 (rgl rfl) rx3
      refine v_callV (st := []) cf14 oc87 k5 (lw_V q2916 q2918 qs163 q311 q2919) rfl yk_X14_tell ⟨Nat.le_of_ble_eq_true rfl, Nat.le_of_ble_eq_true rfl⟩ trivial ⟨kc87, trivial⟩ (Nat.le_of_ble_eq_true rfl) rfl dX14_element_221 ?_
      exact wj_X14_element_224 h rx1 rx2 rx3 rx4 rx5 rx6

def E_X14_element_62 (x1 : Int) (x2 : Int) (x3 : Int) (x4 : Int) (rv : Option vA) (σo : vS) (q : Int × Int × vS) : Prop := ∀ (x5' : Int) (x6' : Int) (s' : vS), q = (x5', x6', s') → rg x5' → rg x6' → VW cX14_element (RX14, rv, σo, none, 1, 22, 12, []) (P0 []) s' 185 [(0, vO 87), (1, vI x1), (2, vI x2), (3, vI x3), (4, vI x4), (5, vI x5'), (6, vI x6')] []
def j_X14_element_151 (rec : Int → Int → Int → Int → Int → Int → Int → vS → Option (Int × Int × vS)) (x1 : Int) (x2 : Int) (x3 : Int) (x4 : Int) (x5 : Int) (x6 : Int) (x8 : Int) (s : vS) : Option (Int × Int × vS) :=
  vl (w32 ((w32 (128 * x6)) + (and32 x8 127))) fun y1 =>
  if x8 ≤ 127 then
    vl (w32 (x5 + 1)) fun y5 =>
    rec x1 x2 x3 x4 y5 y1 0 s
  else
    vl (w32 (x5 + 1)) fun y8 =>
    rec x1 x2 x3 x4 y8 y1 1 s
theorem wj_X14_element_151 {x1 : Int} {x2 : Int} {x3 : Int} {x4 : Int} {x5 : Int} {x6 : Int} {x8 : Int} {s : vS} {rv : Option vA} {σo : vS} {rec : Int → Int → Int → Int → Int → Int → Int → vS → Option (Int × Int × vS)} {q : Int × Int × vS} (h : j_X14_element_151 rec x1 x2 x3 x4 x5 x6 x8 s = some q)  (rx1 : rg x1) (rx2 : rg x2) (rx3 : rg x3) (rx4 : rg x4) (rx5 : rg x5) (rx6 : rg x6) (rx8 : rg x8) (hrec : ∀ (y5 : Int) (y6 : Int) (y7 : Int) (s : vS) (q : Int × Int × vS), rec x1 x2 x3 x4 y5 y6 y7 s = some q → rg y5 → rg y6 → rg y7 → E_X14_element_62 x1 x2 x3 x4 rv σo q → VW cX14_element (RX14, rv, σo, none, 1, 22, 12, []) (P0 []) s 62 [(0, vO 87), (1, vI x1), (2, vI x2), (3, vI x3), (4, vI x4), (5, vI y5), (6, vI y6), (7, vI y7)] []) (hE : E_X14_element_62 x1 x2 x3 x4 rv σo q) : VW cX14_element (RX14, rv, σo, none, 1, 22, 12, []) (P0 []) s 151 [(0, vO 87), (1, vI x1), (2, vI x2), (3, vI x3), (4, vI x4), (5, vI x5), (6, vI x6), (8, vI x8)] [] := by
  unfold j_X14_element_151 at h
  refine v_sipush dX14_element_151 rfl ?_
  refine v_iload dX14_element_154 6 rfl ?_
  refine v_imul dX14_element_156 ?_
  refine v_iload dX14_element_157 7 rfl ?_
  refine v_bipush dX14_element_159 rfl ?_
  refine v_iand dX14_element_161 ?_
  refine v_iadd dX14_element_162 ?_
  obtain ⟨y1, e2, h⟩ := vl_some h
  rw [← e2]
  have r3 : rg y1 := by rw [e2]; exact w32_rg _
  refine v_istore (L1 := [(6, vI y1), (0, vO 87), (1, vI x1), (2, vI x2), (3, vI x3), (4, vI x4), (5, vI x5), (8, vI x8)]) dX14_element_163 (by decide) rfl ?_
  refine v_iload dX14_element_165 7 rfl ?_
  refine v_bipush dX14_element_167 rfl ?_
  refine v_icmp_le (tgt := 176) dX14_element_169 rx8 (rgl rfl) (by decide) (fun c4 => ?_) (fun c4 => ?_)
  · rw [if_pos c4] at h
    refine v_iconst dX14_element_176 ?_
    refine v_istore (L1 := [(7, vI 0), (6, vI y1), (0, vO 87), (1, vI x1), (2, vI x2), (3, vI x3), (4, vI x4), (5, vI x5), (8, vI x8)]) dX14_element_177 (by decide) rfl ?_
    obtain ⟨y5, e6, h⟩ := vl_some h
    refine v_iinc (L1 := [(5, vI (w32 (x5 + 1))), (7, vI 0), (6, vI y1), (0, vO 87), (1, vI x1), (2, vI x2), (3, vI x3), (4, vI x4), (8, vI x8)]) dX14_element_179 7 rfl (by decide) rfl ?_
    rw [← e6]
    have r7 : rg y5 := by rw [e6]; exact w32_rg _
    refine v_goto (tgt := 62) dX14_element_182 (by decide) ?_
    refine v_sub [3, 4, 5, 6, 7, 0, 2, 1] (L1 := [(0, vO 87), (1, vI x1), (2, vI x2), (3, vI x3), (4, vI x4), (5, vI y5), (6, vI y1), (7, vI 0)]) rfl ?_
    exact hrec y5 y1 0 s _ h r7 r3 (rgl rfl) hE
  · rw [if_neg c4] at h
    refine v_iconst dX14_element_172 ?_
    refine v_goto (tgt := 177) dX14_element_173 (by decide) ?_
    refine v_istore (L1 := [(7, vI 1), (6, vI y1), (0, vO 87), (1, vI x1), (2, vI x2), (3, vI x3), (4, vI x4), (5, vI x5), (8, vI x8)]) dX14_element_177 (by decide) rfl ?_
    obtain ⟨y8, e9, h⟩ := vl_some h
    refine v_iinc (L1 := [(5, vI (w32 (x5 + 1))), (7, vI 1), (6, vI y1), (0, vO 87), (1, vI x1), (2, vI x2), (3, vI x3), (4, vI x4), (8, vI x8)]) dX14_element_179 7 rfl (by decide) rfl ?_
    rw [← e9]
    have r10 : rg y8 := by rw [e9]; exact w32_rg _
    refine v_goto (tgt := 62) dX14_element_182 (by decide) ?_
    refine v_sub [3, 4, 5, 6, 7, 0, 2, 1] (L1 := [(0, vO 87), (1, vI x1), (2, vI x2), (3, vI x3), (4, vI x4), (5, vI y8), (6, vI y1), (7, vI 1)]) rfl ?_
    exact hrec y8 y1 1 s _ h r10 r3 (rgl rfl) hE

def j_X14_element_134 (rec : Int → Int → Int → Int → Int → Int → Int → vS → Option (Int × Int × vS)) (x1 : Int) (x2 : Int) (x3 : Int) (x4 : Int) (x5 : Int) (x6 : Int) (x8 : Int) (s : vS) : Option (Int × Int × vS) :=
  if x6 ≤ 2097151 then
    j_X14_element_151 rec x1 x2 x3 x4 x5 x6 x8 s
  else
    bdv (f_X14_tell 2 x3 s) fun s2 =>
    j_X14_element_151 rec x1 x2 x3 x4 x5 0 x8 s2
theorem wj_X14_element_134 {x1 : Int} {x2 : Int} {x3 : Int} {x4 : Int} {x5 : Int} {x6 : Int} {x8 : Int} {s : vS} {rv : Option vA} {σo : vS} {rec : Int → Int → Int → Int → Int → Int → Int → vS → Option (Int × Int × vS)} {q : Int × Int × vS} (h : j_X14_element_134 rec x1 x2 x3 x4 x5 x6 x8 s = some q)  (rx1 : rg x1) (rx2 : rg x2) (rx3 : rg x3) (rx4 : rg x4) (rx5 : rg x5) (rx6 : rg x6) (rx8 : rg x8) (hrec : ∀ (y5 : Int) (y6 : Int) (y7 : Int) (s : vS) (q : Int × Int × vS), rec x1 x2 x3 x4 y5 y6 y7 s = some q → rg y5 → rg y6 → rg y7 → E_X14_element_62 x1 x2 x3 x4 rv σo q → VW cX14_element (RX14, rv, σo, none, 1, 22, 12, []) (P0 []) s 62 [(0, vO 87), (1, vI x1), (2, vI x2), (3, vI x3), (4, vI x4), (5, vI y5), (6, vI y6), (7, vI y7)] []) (hE : E_X14_element_62 x1 x2 x3 x4 rv σo q) : VW cX14_element (RX14, rv, σo, none, 1, 22, 12, []) (P0 []) s 134 [(0, vO 87), (1, vI x1), (2, vI x2), (3, vI x3), (4, vI x4), (5, vI x5), (6, vI x6), (8, vI x8)] [] := by
  unfold j_X14_element_134 at h
  refine v_iload dX14_element_134 6 rfl ?_
  refine v_ldcw (n := 2097151) dX14_element_136 q3394 rfl ?_
  refine v_icmp_le (tgt := 151) dX14_element_139 rx6 (rgl rfl) (by decide) (fun c1 => ?_) (fun c1 => ?_)
  · rw [if_pos c1] at h
    exact wj_X14_element_151 h rx1 rx2 rx3 rx4 rx5 rx6 rx8 hrec hE
  · rw [if_neg c1] at h
    refine v_aload_n dX14_element_142 0 rfl rfl ?_
    refine v_iconst dX14_element_143 ?_
    refine v_iload_n dX14_element_144 3 rfl rfl ?_
    obtain ⟨s2, e3, h⟩ := bdv_some h
    have k4 := c_X14_tell e3 (rgl rfl) rx3
    refine v_callV (st := []) cf14 oc87 k4 (lw_V q2916 q2918 qs163 q311 q2919) rfl yk_X14_tell ⟨Nat.le_of_ble_eq_true rfl, Nat.le_of_ble_eq_true rfl⟩ trivial ⟨kc87, trivial⟩ (Nat.le_of_ble_eq_true rfl) rfl dX14_element_145 ?_
    refine v_iconst dX14_element_148 ?_
    refine v_istore (L1 := [(6, vI 0), (0, vO 87), (1, vI x1), (2, vI x2), (3, vI x3), (4, vI x4), (5, vI x5), (8, vI x8)]) dX14_element_149 (by decide) rfl ?_
    refine v_sub [1, 2, 3, 4, 5, 6, 0, 7] (L1 := [(0, vO 87), (1, vI x1), (2, vI x2), (3, vI x3), (4, vI x4), (5, vI x5), (6, vI 0), (8, vI x8)]) rfl ?_
    exact wj_X14_element_151 h rx1 rx2 rx3 rx4 rx5 (rgl rfl) rx8 hrec hE

def j_X14_element_103 (rec : Int → Int → Int → Int → Int → Int → Int → vS → Option (Int × Int × vS)) (x1 : Int) (x2 : Int) (x3 : Int) (x4 : Int) (x5 : Int) (x6 : Int) (z0 : Int) (s : vS) : Option (Int × Int × vS) :=
  if (gI s 87 8) = 0 then
    if x5 = (w32 (x3 + 1)) then
      if z0 = 128 then
        bdv (f_X14_tell 2 x3 s) fun s4 =>
        j_X14_element_134 rec x1 x2 x3 x4 x5 x6 z0 s4
      else
        j_X14_element_134 rec x1 x2 x3 x4 x5 x6 z0 s
    else
      j_X14_element_134 rec x1 x2 x3 x4 x5 x6 z0 s
  else
    j_X14_element_134 rec x1 x2 x3 x4 x5 x6 z0 s
theorem wj_X14_element_103 {x1 : Int} {x2 : Int} {x3 : Int} {x4 : Int} {x5 : Int} {x6 : Int} {z0 : Int} {s : vS} {rv : Option vA} {σo : vS} {rec : Int → Int → Int → Int → Int → Int → Int → vS → Option (Int × Int × vS)} {q : Int × Int × vS} (h : j_X14_element_103 rec x1 x2 x3 x4 x5 x6 z0 s = some q)  (rx1 : rg x1) (rx2 : rg x2) (rx3 : rg x3) (rx4 : rg x4) (rx5 : rg x5) (rx6 : rg x6) (rz0 : rg z0) (hrec : ∀ (y5 : Int) (y6 : Int) (y7 : Int) (s : vS) (q : Int × Int × vS), rec x1 x2 x3 x4 y5 y6 y7 s = some q → rg y5 → rg y6 → rg y7 → E_X14_element_62 x1 x2 x3 x4 rv σo q → VW cX14_element (RX14, rv, σo, none, 1, 22, 12, []) (P0 []) s 62 [(0, vO 87), (1, vI x1), (2, vI x2), (3, vI x3), (4, vI x4), (5, vI y5), (6, vI y6), (7, vI y7)] []) (hE : E_X14_element_62 x1 x2 x3 x4 rv σo q) : VW cX14_element (RX14, rv, σo, none, 1, 22, 12, []) (P0 []) s 103 [(0, vO 87), (1, vI x1), (2, vI x2), (3, vI x3), (4, vI x4), (5, vI x5), (6, vI x6)] [vI z0] := by
  unfold j_X14_element_103 at h
  refine v_istore (L1 := [(8, vI z0), (0, vO 87), (1, vI x1), (2, vI x2), (3, vI x3), (4, vI x4), (5, vI x5), (6, vI x6)]) dX14_element_103 (by decide) rfl ?_
  refine v_aload_n dX14_element_105 1 rfl rfl ?_
  refine v_getI (f := 8) cf14 oc87 rfl (by decide) q2378 dX14_element_106 ?_
  refine v_if_ne (tgt := 134) dX14_element_109 (gI_rg _ _ _) (by decide) (fun c1 => ?_) (fun c1 => ?_)
  · rw [if_neg c1] at h
    refine v_sub [1, 2, 3, 4, 5, 6, 7, 0] (L1 := [(0, vO 87), (1, vI x1), (2, vI x2), (3, vI x3), (4, vI x4), (5, vI x5), (6, vI x6), (8, vI z0)]) rfl ?_
    exact wj_X14_element_134 h rx1 rx2 rx3 rx4 rx5 rx6 rz0 hrec hE
  · rw [if_pos c1] at h
    refine v_iload dX14_element_112 6 rfl ?_
    refine v_iload_n dX14_element_114 4 rfl rfl ?_
    refine v_iconst dX14_element_115 ?_
    refine v_iadd dX14_element_116 ?_
    refine v_icmp_ne (tgt := 134) dX14_element_117 rx5 (w32_rg _) (by decide) (fun c2 => ?_) (fun c2 => ?_)
    · rw [if_neg c2] at h
      refine v_sub [1, 2, 3, 4, 5, 6, 7, 0] (L1 := [(0, vO 87), (1, vI x1), (2, vI x2), (3, vI x3), (4, vI x4), (5, vI x5), (6, vI x6), (8, vI z0)]) rfl ?_
      exact wj_X14_element_134 h rx1 rx2 rx3 rx4 rx5 rx6 rz0 hrec hE
    · rw [if_pos c2] at h
      refine v_iload dX14_element_120 0 rfl ?_
      refine v_sipush dX14_element_122 rfl ?_
      refine v_icmp_ne (tgt := 134) dX14_element_125 rz0 (rgl rfl) (by decide) (fun c3 => ?_) (fun c3 => ?_)
      · rw [if_neg c3] at h
        refine v_sub [1, 2, 3, 4, 5, 6, 7, 0] (L1 := [(0, vO 87), (1, vI x1), (2, vI x2), (3, vI x3), (4, vI x4), (5, vI x5), (6, vI x6), (8, vI z0)]) rfl ?_
        exact wj_X14_element_134 h rx1 rx2 rx3 rx4 rx5 rx6 rz0 hrec hE
      · rw [if_pos c3] at h
        refine v_aload_n dX14_element_128 1 rfl rfl ?_
        refine v_iconst dX14_element_129 ?_
        refine v_iload_n dX14_element_130 4 rfl rfl ?_
        obtain ⟨s4, e5, h⟩ := bdv_some h
        have k6 := c_X14_tell e5 (rgl rfl) rx3
        refine v_callV (st := []) cf14 oc87 k6 (lw_V q2916 q2918 qs163 q311 q2919) rfl yk_X14_tell ⟨Nat.le_of_ble_eq_true rfl, Nat.le_of_ble_eq_true rfl⟩ trivial ⟨kc87, trivial⟩ (Nat.le_of_ble_eq_true rfl) rfl dX14_element_131 ?_
        refine v_sub [1, 2, 3, 4, 5, 6, 7, 0] (L1 := [(0, vO 87), (1, vI x1), (2, vI x2), (3, vI x3), (4, vI x4), (5, vI x5), (6, vI x6), (8, vI z0)]) rfl ?_
        exact wj_X14_element_134 h rx1 rx2 rx3 rx4 rx5 rx6 rz0 hrec hE

def j_X14_element_86 (rec : Int → Int → Int → Int → Int → Int → Int → vS → Option (Int × Int × vS)) (x1 : Int) (x2 : Int) (x3 : Int) (x4 : Int) (x5 : Int) (x6 : Int) (s : vS) : Option (Int × Int × vS) :=
  if x1 ≤ x5 then
    j_X14_element_103 rec x1 x2 x3 x4 x5 x6 0 s
  else
    gd (inb x5 (gN s 171)) <|
    j_X14_element_103 rec x1 x2 x3 x4 x5 x6 (gE s 171 x5) s
theorem wj_X14_element_86 {x1 : Int} {x2 : Int} {x3 : Int} {x4 : Int} {x5 : Int} {x6 : Int} {s : vS} {rv : Option vA} {σo : vS} {rec : Int → Int → Int → Int → Int → Int → Int → vS → Option (Int × Int × vS)} {q : Int × Int × vS} (h : j_X14_element_86 rec x1 x2 x3 x4 x5 x6 s = some q)  (rx1 : rg x1) (rx2 : rg x2) (rx3 : rg x3) (rx4 : rg x4) (rx5 : rg x5) (rx6 : rg x6) (hrec : ∀ (y5 : Int) (y6 : Int) (y7 : Int) (s : vS) (q : Int × Int × vS), rec x1 x2 x3 x4 y5 y6 y7 s = some q → rg y5 → rg y6 → rg y7 → E_X14_element_62 x1 x2 x3 x4 rv σo q → VW cX14_element (RX14, rv, σo, none, 1, 22, 12, []) (P0 []) s 62 [(0, vO 87), (1, vI x1), (2, vI x2), (3, vI x3), (4, vI x4), (5, vI y5), (6, vI y6), (7, vI y7)] []) (hE : E_X14_element_62 x1 x2 x3 x4 rv σo q) : VW cX14_element (RX14, rv, σo, none, 1, 22, 12, []) (P0 []) s 86 [(0, vO 87), (1, vI x1), (2, vI x2), (3, vI x3), (4, vI x4), (5, vI x5), (6, vI x6)] [] := by
  unfold j_X14_element_86 at h
  refine v_iload dX14_element_86 5 rfl ?_
  refine v_iload_n dX14_element_88 1 rfl rfl ?_
  refine v_icmp_ge (tgt := 102) dX14_element_89 rx5 rx1 (by decide) (fun c1 => ?_) (fun c1 => ?_)
  · rw [if_pos c1] at h
    refine v_iconst dX14_element_102 ?_
    exact wj_X14_element_103 h rx1 rx2 rx3 rx4 rx5 rx6 (rgl rfl) hrec hE
  · rw [if_neg c1] at h
    refine v_aload_n dX14_element_92 0 rfl rfl ?_
    refine v_getS (f := 128) (t := 171) cf14 oc87 rfl rfl rfl (by decide) q2498 dX14_element_93 ?_
    refine v_iload dX14_element_96 5 rfl ?_
    obtain ⟨g2, h⟩ := gd_some h
    refine v_iald oc171 rx5 g2.1 g2.2 dX14_element_98 ?_
    refine v_goto (tgt := 103) dX14_element_99 (by decide) ?_
    exact wj_X14_element_103 h rx1 rx2 rx3 rx4 rx5 rx6 (gE_rg _ _ _) hrec hE

def l_X14_element_62 : Nat → Int → Int → Int → Int → Int → Int → Int → vS → Option (Int × Int × vS)
  | 0, _, _, _, _, _, _, _, _ => none
  | n + 1, x1, x2, x3, x4, x5, x6, x7, s =>
    if x7 = 0 then
      some (x5, x6, s)
    else
      if (gI s 87 8) = 0 then
        if x5 < x1 then
          j_X14_element_86 (l_X14_element_62 n) x1 x2 x3 x4 x5 x6 s
        else
          bdv (f_X14_tell 1 x3 s) fun s4 =>
          j_X14_element_86 (l_X14_element_62 n) x1 x2 x3 x4 x5 x6 s4
      else
        some (x5, x6, s)
theorem wl_X14_element_62 {x1 : Int} {x2 : Int} {x3 : Int} {x4 : Int} {rv : Option vA} {σo : vS}  (rx1 : rg x1) (rx2 : rg x2) (rx3 : rg x3) (rx4 : rg x4) : ∀ (n : Nat) (x5 : Int) (x6 : Int) (x7 : Int) (s : vS) (q : Int × Int × vS), l_X14_element_62 n x1 x2 x3 x4 x5 x6 x7 s = some q → rg x5 → rg x6 → rg x7 → E_X14_element_62 x1 x2 x3 x4 rv σo q → VW cX14_element (RX14, rv, σo, none, 1, 22, 12, []) (P0 []) s 62 [(0, vO 87), (1, vI x1), (2, vI x2), (3, vI x3), (4, vI x4), (5, vI x5), (6, vI x6), (7, vI x7)] [] := by
  intro n
  induction n with
  | zero => intro x5 x6 x7 s q h; cases h
  | succ n ih =>
    intro x5 x6 x7 s q h rx5 rx6 rx7 hE
    unfold l_X14_element_62 at h
    refine v_iload dX14_element_62 7 rfl ?_
    refine v_if_eq (tgt := 185) dX14_element_64 rx7 (by decide) (fun c1 => ?_) (fun c1 => ?_)
    · rw [if_pos c1] at h
      cases h
      refine v_sub [0, 1, 2, 3, 4, 5, 6] (L1 := [(0, vO 87), (1, vI x1), (2, vI x2), (3, vI x3), (4, vI x4), (5, vI x5), (6, vI x6)]) rfl ?_
      exact hE _ _ _ rfl rx5 rx6
    · rw [if_neg c1] at h
      refine v_aload_n dX14_element_67 0 rfl rfl ?_
      refine v_getI (f := 8) cf14 oc87 rfl (by decide) q2378 dX14_element_68 ?_
      refine v_if_ne (tgt := 185) dX14_element_71 (gI_rg _ _ _) (by decide) (fun c2 => ?_) (fun c2 => ?_)
      · rw [if_neg c2] at h
        cases h
        refine v_sub [0, 1, 2, 3, 4, 5, 6] (L1 := [(0, vO 87), (1, vI x1), (2, vI x2), (3, vI x3), (4, vI x4), (5, vI x5), (6, vI x6)]) rfl ?_
        exact hE _ _ _ rfl rx5 rx6
      · rw [if_pos c2] at h
        refine v_iload dX14_element_74 5 rfl ?_
        refine v_iload_n dX14_element_76 1 rfl rfl ?_
        refine v_icmp_lt (tgt := 86) dX14_element_77 rx5 rx1 (by decide) (fun c3 => ?_) (fun c3 => ?_)
        · rw [if_pos c3] at h
          refine v_sub [0, 1, 2, 3, 4, 5, 6] (L1 := [(0, vO 87), (1, vI x1), (2, vI x2), (3, vI x3), (4, vI x4), (5, vI x5), (6, vI x6)]) rfl ?_
          exact wj_X14_element_86 h rx1 rx2 rx3 rx4 rx5 rx6 ih hE
        · rw [if_neg c3] at h
          refine v_aload_n dX14_element_80 0 rfl rfl ?_
          refine v_iconst dX14_element_81 ?_
          refine v_iload_n dX14_element_82 3 rfl rfl ?_
          obtain ⟨s4, e5, h⟩ := bdv_some h
          have k6 := c_X14_tell e5 (rgl rfl) rx3
          refine v_callV (st := []) cf14 oc87 k6 (lw_V q2916 q2918 qs163 q311 q2919) rfl yk_X14_tell ⟨Nat.le_of_ble_eq_true rfl, Nat.le_of_ble_eq_true rfl⟩ trivial ⟨kc87, trivial⟩ (Nat.le_of_ble_eq_true rfl) rfl dX14_element_83 ?_
          refine v_sub [0, 1, 2, 3, 4, 5, 6] (L1 := [(0, vO 87), (1, vI x1), (2, vI x2), (3, vI x3), (4, vI x4), (5, vI x5), (6, vI x6)]) rfl ?_
          exact wj_X14_element_86 h rx1 rx2 rx3 rx4 rx5 rx6 ih hE

def j_X14_element_185 (x1 : Int) (x2 : Int) (x3 : Int) (x4 : Int) (x5 : Int) (x6 : Int) (s : vS) : Option (vS) :=
  if (gI s 87 8) = 0 then
    if 31 ≤ x6 then
      j_X14_element_205 x1 x2 x3 x4 x5 x6 s
    else
      bdv (f_X14_tell 2 x3 s) fun s3 =>
      j_X14_element_205 x1 x2 x3 x4 x5 x6 s3
  else
    j_X14_element_205 x1 x2 x3 x4 x5 x6 s
theorem wj_X14_element_185 {x1 : Int} {x2 : Int} {x3 : Int} {x4 : Int} {x5 : Int} {x6 : Int} {s : vS} {out : vS} (h : j_X14_element_185 x1 x2 x3 x4 x5 x6 s = some out)  (rx1 : rg x1) (rx2 : rg x2) (rx3 : rg x3) (rx4 : rg x4) (rx5 : rg x5) (rx6 : rg x6) : VW cX14_element (RX14, none, out, none, 1, 22, 12, []) (P0 []) s 185 [(0, vO 87), (1, vI x1), (2, vI x2), (3, vI x3), (4, vI x4), (5, vI x5), (6, vI x6)] [] := by
  unfold j_X14_element_185 at h
  refine v_aload_n dX14_element_185 0 rfl rfl ?_
  refine v_getI (f := 8) cf14 oc87 rfl (by decide) q2378 dX14_element_186 ?_
  refine v_if_ne (tgt := 205) dX14_element_189 (gI_rg _ _ _) (by decide) (fun c1 => ?_) (fun c1 => ?_)
  · rw [if_neg c1] at h
    exact wj_X14_element_205 h rx1 rx2 rx3 rx4 rx5 rx6
  · rw [if_pos c1] at h
    refine v_iload dX14_element_192 6 rfl ?_
    refine v_bipush dX14_element_194 rfl ?_
    refine v_icmp_ge (tgt := 205) dX14_element_196 rx6 (rgl rfl) (by decide) (fun c2 => ?_) (fun c2 => ?_)
    · rw [if_pos c2] at h
      exact wj_X14_element_205 h rx1 rx2 rx3 rx4 rx5 rx6
    · rw [if_neg c2] at h
      refine v_aload_n dX14_element_199 0 rfl rfl ?_
      refine v_iconst dX14_element_200 ?_
      refine v_iload_n dX14_element_201 3 rfl rfl ?_
      obtain ⟨s3, e4, h⟩ := bdv_some h
      have k5 := c_X14_tell e4 (rgl rfl) rx3
      refine v_callV (st := []) cf14 oc87 k5 (lw_V q2916 q2918 qs163 q311 q2919) rfl yk_X14_tell ⟨Nat.le_of_ble_eq_true rfl, Nat.le_of_ble_eq_true rfl⟩ trivial ⟨kc87, trivial⟩ (Nat.le_of_ble_eq_true rfl) rfl dX14_element_202 ?_
      exact wj_X14_element_205 h rx1 rx2 rx3 rx4 rx5 rx6

def f_X14_element (x1 : Int) (s : vS) : Option (vS) :=
  vl (gI s 87 129) fun y1 =>
  vl (gI s 87 143) fun y4 =>
  gd (inb y4 (gN s 171)) <|
  vl (gE s 171 y4) fun y8 =>
  if y8 = 0 then
    j_X14_element_30 y4 s
  else
    if y8 = 32 then
      j_X14_element_30 y4 s
    else
      vl (w32 (y4 + 1)) fun y13 =>
      vl (and32 y8 31) fun y16 =>
      if y16 = 31 then
        lq_2 (l_X14_element_62 FU x1 y1 y4 y8 y13 0 1 s) fun y20 y21 s22 =>
        j_X14_element_185 x1 y1 y4 y8 y20 y21 s22
      else
        j_X14_element_205 x1 y1 y4 y8 y13 y16 s
theorem yk_X14_element : yOk yX14_element 1 := ⟨by decide, by decide, by decide +kernel⟩
theorem c_X14_element {x1 : Int} {s : vS} {out : vS} (h : f_X14_element x1 s = some out)  (rx1 : rg x1) : VC yX14_element cX14_element 12 none 1 22 [vO 87, vI x1] s none out [] := by
  unfold f_X14_element at h
  refine VC.of RX14 (by decide) rfl (Nat.le_of_ble_eq_true rfl) ?_
  show VW cX14_element (RX14, none, out, none, 1, 22, 12, []) (P0 []) s 0 [(0, vO 87), (1, vI x1)] []
  refine v_aload_n dX14_element_0 0 rfl rfl ?_
  refine v_getI (f := 129) cf14 oc87 rfl (by decide) q2499 dX14_element_1 ?_
  obtain ⟨y1, e2, h⟩ := vl_some h
  rw [← e2]
  have r3 : rg y1 := by rw [e2]; exact gI_rg _ _ _
  refine v_istore_n (L1 := [(2, vI y1), (0, vO 87), (1, vI x1)]) dX14_element_4 rfl (by decide) rfl ?_
  refine v_aload_n dX14_element_5 1 rfl rfl ?_
  refine v_getI (f := 143) cf14 oc87 rfl (by decide) q2513 dX14_element_6 ?_
  obtain ⟨y4, e5, h⟩ := vl_some h
  rw [← e5]
  have r6 : rg y4 := by rw [e5]; exact gI_rg _ _ _
  refine v_istore_n (L1 := [(3, vI y4), (2, vI y1), (0, vO 87), (1, vI x1)]) dX14_element_9 rfl (by decide) rfl ?_
  refine v_aload_n dX14_element_10 2 rfl rfl ?_
  refine v_getS (f := 128) (t := 171) cf14 oc87 rfl rfl rfl (by decide) q2498 dX14_element_11 ?_
  refine v_iload_n dX14_element_14 0 rfl rfl ?_
  obtain ⟨g7, h⟩ := gd_some h
  refine v_iald oc171 r6 g7.1 g7.2 dX14_element_15 ?_
  obtain ⟨y8, e9, h⟩ := vl_some h
  rw [← e9]
  have r10 : rg y8 := by rw [e9]; exact gE_rg _ _ _
  refine v_istore (L1 := [(4, vI y8), (3, vI y4), (2, vI y1), (0, vO 87), (1, vI x1)]) dX14_element_16 (by decide) rfl ?_
  refine v_iload dX14_element_18 0 rfl ?_
  refine v_if_eq (tgt := 30) dX14_element_20 r10 (by decide) (fun c11 => ?_) (fun c11 => ?_)
  · rw [if_pos c11] at h
    refine v_sub [3, 1] (L1 := [(0, vO 87), (3, vI y4)]) rfl ?_
    exact wj_X14_element_30 h r6
  · rw [if_neg c11] at h
    refine v_iload dX14_element_23 0 rfl ?_
    refine v_bipush dX14_element_25 rfl ?_
    refine v_icmp_ne (tgt := 37) dX14_element_27 r10 (rgl rfl) (by decide) (fun c12 => ?_) (fun c12 => ?_)
    · rw [if_neg c12] at h
      refine v_iload_n dX14_element_37 1 rfl rfl ?_
      refine v_iconst dX14_element_38 ?_
      refine v_iadd dX14_element_39 ?_
      obtain ⟨y13, e14, h⟩ := vl_some h
      rw [← e14]
      have r15 : rg y13 := by rw [e14]; exact w32_rg _
      refine v_istore (L1 := [(5, vI y13), (4, vI y8), (3, vI y4), (2, vI y1), (0, vO 87), (1, vI x1)]) dX14_element_40 (by decide) rfl ?_
      refine v_iload dX14_element_42 1 rfl ?_
      refine v_bipush dX14_element_44 rfl ?_
      refine v_iand dX14_element_46 ?_
      obtain ⟨y16, e17, h⟩ := vl_some h
      rw [← e17]
      have r18 : rg y16 := by rw [e17]; exact and32_rg _ _
      refine v_istore (L1 := [(6, vI y16), (5, vI y13), (4, vI y8), (3, vI y4), (2, vI y1), (0, vO 87), (1, vI x1)]) dX14_element_47 (by decide) rfl ?_
      refine v_iload dX14_element_49 0 rfl ?_
      refine v_bipush dX14_element_51 rfl ?_
      refine v_icmp_ne (tgt := 205) dX14_element_53 r18 (rgl rfl) (by decide) (fun c19 => ?_) (fun c19 => ?_)
      · rw [if_neg c19] at h
        refine v_sub [5, 6, 4, 3, 2, 1, 0] (L1 := [(0, vO 87), (1, vI x1), (2, vI y1), (3, vI y4), (4, vI y8), (5, vI y13), (6, vI y16)]) rfl ?_
        exact wj_X14_element_205 h rx1 r3 r6 r10 r15 r18
      · rw [if_pos c19] at h
        refine v_iconst dX14_element_56 ?_
        refine v_istore (L1 := [(6, vI 0), (5, vI y13), (4, vI y8), (3, vI y4), (2, vI y1), (0, vO 87), (1, vI x1)]) dX14_element_57 (by decide) rfl ?_
        refine v_iconst dX14_element_59 ?_
        refine v_istore (L1 := [(7, vI 1), (6, vI 0), (5, vI y13), (4, vI y8), (3, vI y4), (2, vI y1), (0, vO 87), (1, vI x1)]) dX14_element_60 (by decide) rfl ?_
        refine v_sub [6, 7, 5, 4, 3, 2, 1, 0] (L1 := [(0, vO 87), (1, vI x1), (2, vI y1), (3, vI y4), (4, vI y8), (5, vI y13), (6, vI 0), (7, vI 1)]) rfl ?_
        obtain ⟨y20, y21, s22, e23, h⟩ := lq_2_some h
        refine wl_X14_element_62 rx1 r3 r6 r10 FU y13 0 1 s _ e23 r15 (rgl rfl) (rgl rfl) ?_
        unfold E_X14_element_62
        intro y20' y21' s22' z_ r24 r25
        cases z_
        exact wj_X14_element_185 h rx1 r3 r6 r10 r24 r25
    · rw [if_pos c12] at h
      refine v_sub [3, 1] (L1 := [(0, vO 87), (3, vI y4)]) rfl ?_
      exact wj_X14_element_30 h r6

def E_X14_cutElements_22 (rv : Option vA) (σo : vS) (q : vS) : Prop := ∀ (s' : vS), q = s' → VW cX14_cutElements (RX14, rv, σo, none, 2, 53, 3, []) (P0 []) s' 235 [(0, vO 87)] []
def j_X14_cutElements_184 (rec : Int → vS → Option (vS)) (x1 : Int) (x2 : Int) (s : vS) : Option (vS) :=
  if (gI s 87 143) < x2 then
    if (gI s 87 142) ≤ (gI s 87 6) then
      bdv (f_X14_element x2 s) fun s3 =>
      rec x1 s3
    else
      bdv (f_X14_tell 5 (gI s 87 143) s) fun s6 =>
      rec x1 s6
  else
    bdv (f_X14_tell 1 (gI s 87 143) s) fun s9 =>
    rec x1 s9
theorem wj_X14_cutElements_184 {x1 : Int} {x2 : Int} {s : vS} {rv : Option vA} {σo : vS} {rec : Int → vS → Option (vS)} {q : vS} (h : j_X14_cutElements_184 rec x1 x2 s = some q)  (rx1 : rg x1) (rx2 : rg x2) (hrec : ∀ (y1 : Int) (s : vS) (q : vS), rec y1 s = some q → rg y1 → E_X14_cutElements_22 rv σo q → VW cX14_cutElements (RX14, rv, σo, none, 2, 53, 3, []) (P0 []) s 22 [(0, vO 87), (1, vI y1)] []) (hE : E_X14_cutElements_22 rv σo q) : VW cX14_cutElements (RX14, rv, σo, none, 2, 53, 3, []) (P0 []) s 184 [(0, vO 87), (1, vI x1), (2, vI x2)] [] := by
  unfold j_X14_cutElements_184 at h
  refine v_aload_n dX14_cutElements_184 0 rfl rfl ?_
  refine v_getI (f := 143) cf14 oc87 rfl (by decide) q2513 dX14_cutElements_185 ?_
  refine v_iload_n dX14_cutElements_188 2 rfl rfl ?_
  refine v_icmp_lt (tgt := 204) dX14_cutElements_189 (gI_rg _ _ _) rx2 (by decide) (fun c1 => ?_) (fun c1 => ?_)
  · rw [if_pos c1] at h
    refine v_aload_n dX14_cutElements_204 0 rfl rfl ?_
    refine v_getI (f := 142) cf14 oc87 rfl (by decide) q2512 dX14_cutElements_205 ?_
    refine v_aload_n dX14_cutElements_208 0 rfl rfl ?_
    refine v_getI (f := 6) cf14 oc87 rfl (by decide) q2376 dX14_cutElements_209 ?_
    refine v_icmp_le (tgt := 227) dX14_cutElements_212 (gI_rg _ _ _) (gI_rg _ _ _) (by decide) (fun c2 => ?_) (fun c2 => ?_)
    · rw [if_pos c2] at h
      refine v_aload_n dX14_cutElements_227 0 rfl rfl ?_
      refine v_iload_n dX14_cutElements_228 2 rfl rfl ?_
      obtain ⟨s3, e4, h⟩ := bdv_some h
      have k5 := c_X14_element e4 rx2
      refine v_callV (st := []) cf14 oc87 k5 (lw_V q3390 q3392 qs268 q311 q3393) rfl yk_X14_element ⟨Nat.le_of_ble_eq_true rfl, Nat.le_of_ble_eq_true rfl⟩ trivial ⟨kc87, trivial⟩ (Nat.le_of_ble_eq_true rfl) rfl dX14_cutElements_229 ?_
      refine v_goto (tgt := 22) dX14_cutElements_232 (by decide) ?_
      refine v_sub [0, 1] (L1 := [(0, vO 87), (1, vI x1)]) rfl ?_
      exact hrec x1 s3 _ h rx1 hE
    · rw [if_neg c2] at h
      refine v_aload_n dX14_cutElements_215 0 rfl rfl ?_
      refine v_iconst dX14_cutElements_216 ?_
      refine v_aload_n dX14_cutElements_217 0 rfl rfl ?_
      refine v_getI (f := 143) cf14 oc87 rfl (by decide) q2513 dX14_cutElements_218 ?_
      obtain ⟨s6, e7, h⟩ := bdv_some h
      have k8 := c_X14_tell e7 (rgl rfl) (gI_rg _ _ _)
      refine v_callV (st := []) cf14 oc87 k8 (lw_V q2916 q2918 qs163 q311 q2919) rfl yk_X14_tell ⟨Nat.le_of_ble_eq_true rfl, Nat.le_of_ble_eq_true rfl⟩ trivial ⟨kc87, trivial⟩ (Nat.le_of_ble_eq_true rfl) rfl dX14_cutElements_221 ?_
      refine v_goto (tgt := 232) dX14_cutElements_224 (by decide) ?_
      refine v_goto (tgt := 22) dX14_cutElements_232 (by decide) ?_
      refine v_sub [0, 1] (L1 := [(0, vO 87), (1, vI x1)]) rfl ?_
      exact hrec x1 s6 _ h rx1 hE
  · rw [if_neg c1] at h
    refine v_aload_n dX14_cutElements_192 0 rfl rfl ?_
    refine v_iconst dX14_cutElements_193 ?_
    refine v_aload_n dX14_cutElements_194 0 rfl rfl ?_
    refine v_getI (f := 143) cf14 oc87 rfl (by decide) q2513 dX14_cutElements_195 ?_
    obtain ⟨s9, e10, h⟩ := bdv_some h
    have k11 := c_X14_tell e10 (rgl rfl) (gI_rg _ _ _)
    refine v_callV (st := []) cf14 oc87 k11 (lw_V q2916 q2918 qs163 q311 q2919) rfl yk_X14_tell ⟨Nat.le_of_ble_eq_true rfl, Nat.le_of_ble_eq_true rfl⟩ trivial ⟨kc87, trivial⟩ (Nat.le_of_ble_eq_true rfl) rfl dX14_cutElements_198 ?_
    refine v_goto (tgt := 232) dX14_cutElements_201 (by decide) ?_
    refine v_goto (tgt := 22) dX14_cutElements_232 (by decide) ?_
    refine v_sub [0, 1] (L1 := [(0, vO 87), (1, vI x1)]) rfl ?_
    exact hrec x1 s9 _ h rx1 hE

def j_X14_cutElements_99 (rec : Int → vS → Option (vS)) (x1 : Int) (x2 : Int) (s : vS) : Option (vS) :=
  if (gI s 87 141) < 0 then
    j_X14_cutElements_184 rec x1 x2 s
  else
    gd (inb (gI s 87 141) (gN s 178)) <|
    if (gZ s 178 (gI s 87 141)) = 0 then
      j_X14_cutElements_184 rec x1 x2 s
    else
      if x2 ≤ (w32 ((gI s 87 143) + 1)) then
        j_X14_cutElements_184 rec x1 x2 s
      else
        gd (inb (gI s 87 143) (gN s 171)) <|
        if (gE s 171 (gI s 87 143)) = 0 then
          gd (inb (w32 ((gI s 87 143) + 1)) (gN s 171)) <|
          if (gE s 171 (w32 ((gI s 87 143) + 1))) = 0 then
            gd (inb (gI s 87 141) (gN s 177)) <|
            stp (sE s 177 (gI s 87 141) (gI s 87 143)) fun s10 =>
            stp (sI s10 87 143 (w32 ((gI s10 87 143) + 2))) fun s12 =>
            bdv (f_X14_closeParent s12) fun s14 =>
            rec x1 s14
          else
            j_X14_cutElements_184 rec x1 x2 s
        else
          j_X14_cutElements_184 rec x1 x2 s
theorem wj_X14_cutElements_99 {x1 : Int} {x2 : Int} {s : vS} {rv : Option vA} {σo : vS} {rec : Int → vS → Option (vS)} {q : vS} (h : j_X14_cutElements_99 rec x1 x2 s = some q)  (rx1 : rg x1) (rx2 : rg x2) (hrec : ∀ (y1 : Int) (s : vS) (q : vS), rec y1 s = some q → rg y1 → E_X14_cutElements_22 rv σo q → VW cX14_cutElements (RX14, rv, σo, none, 2, 53, 3, []) (P0 []) s 22 [(0, vO 87), (1, vI y1)] []) (hE : E_X14_cutElements_22 rv σo q) : VW cX14_cutElements (RX14, rv, σo, none, 2, 53, 3, []) (P0 []) s 99 [(0, vO 87), (1, vI x1), (2, vI x2)] [] := by
  unfold j_X14_cutElements_99 at h
  refine v_aload_n dX14_cutElements_99 0 rfl rfl ?_
  refine v_getI (f := 141) cf14 oc87 rfl (by decide) q2511 dX14_cutElements_100 ?_
  refine v_if_lt (tgt := 184) dX14_cutElements_103 (gI_rg _ _ _) (by decide) (fun c1 => ?_) (fun c1 => ?_)
  · rw [if_pos c1] at h
    exact wj_X14_cutElements_184 h rx1 rx2 hrec hE
  · rw [if_neg c1] at h
    refine v_aload_n dX14_cutElements_106 0 rfl rfl ?_
    refine v_getS (f := 136) (t := 178) cf14 oc87 rfl rfl rfl (by decide) q2506 dX14_cutElements_107 ?_
    refine v_aload_n dX14_cutElements_110 0 rfl rfl ?_
    refine v_getI (f := 141) cf14 oc87 rfl (by decide) q2511 dX14_cutElements_111 ?_
    obtain ⟨g2, h⟩ := gd_some h
    refine v_zald oc178 (gI_rg _ _ _) g2.1 g2.2 dX14_cutElements_114 ?_
    refine v_if_eq (tgt := 184) dX14_cutElements_115 (gZ_rg _ _ _) (by decide) (fun c3 => ?_) (fun c3 => ?_)
    · rw [if_pos c3] at h
      exact wj_X14_cutElements_184 h rx1 rx2 hrec hE
    · rw [if_neg c3] at h
      refine v_aload_n dX14_cutElements_118 0 rfl rfl ?_
      refine v_getI (f := 143) cf14 oc87 rfl (by decide) q2513 dX14_cutElements_119 ?_
      refine v_iconst dX14_cutElements_122 ?_
      refine v_iadd dX14_cutElements_123 ?_
      refine v_iload_n dX14_cutElements_124 2 rfl rfl ?_
      refine v_icmp_ge (tgt := 184) dX14_cutElements_125 (w32_rg _) rx2 (by decide) (fun c4 => ?_) (fun c4 => ?_)
      · rw [if_pos c4] at h
        exact wj_X14_cutElements_184 h rx1 rx2 hrec hE
      · rw [if_neg c4] at h
        refine v_aload_n dX14_cutElements_128 0 rfl rfl ?_
        refine v_getS (f := 128) (t := 171) cf14 oc87 rfl rfl rfl (by decide) q2498 dX14_cutElements_129 ?_
        refine v_aload_n dX14_cutElements_132 0 rfl rfl ?_
        refine v_getI (f := 143) cf14 oc87 rfl (by decide) q2513 dX14_cutElements_133 ?_
        obtain ⟨g5, h⟩ := gd_some h
        refine v_iald oc171 (gI_rg _ _ _) g5.1 g5.2 dX14_cutElements_136 ?_
        refine v_if_ne (tgt := 184) dX14_cutElements_137 (gE_rg _ _ _) (by decide) (fun c6 => ?_) (fun c6 => ?_)
        · rw [if_neg c6] at h
          exact wj_X14_cutElements_184 h rx1 rx2 hrec hE
        · rw [if_pos c6] at h
          refine v_aload_n dX14_cutElements_140 0 rfl rfl ?_
          refine v_getS (f := 128) (t := 171) cf14 oc87 rfl rfl rfl (by decide) q2498 dX14_cutElements_141 ?_
          refine v_aload_n dX14_cutElements_144 0 rfl rfl ?_
          refine v_getI (f := 143) cf14 oc87 rfl (by decide) q2513 dX14_cutElements_145 ?_
          refine v_iconst dX14_cutElements_148 ?_
          refine v_iadd dX14_cutElements_149 ?_
          obtain ⟨g7, h⟩ := gd_some h
          refine v_iald oc171 (w32_rg _) g7.1 g7.2 dX14_cutElements_150 ?_
          refine v_if_ne (tgt := 184) dX14_cutElements_151 (gE_rg _ _ _) (by decide) (fun c8 => ?_) (fun c8 => ?_)
          · rw [if_neg c8] at h
            exact wj_X14_cutElements_184 h rx1 rx2 hrec hE
          · rw [if_pos c8] at h
            refine v_aload_n dX14_cutElements_154 0 rfl rfl ?_
            refine v_getS (f := 135) (t := 177) cf14 oc87 rfl rfl rfl (by decide) q2505 dX14_cutElements_155 ?_
            refine v_aload_n dX14_cutElements_158 0 rfl rfl ?_
            refine v_getI (f := 141) cf14 oc87 rfl (by decide) q2511 dX14_cutElements_159 ?_
            refine v_aload_n dX14_cutElements_162 0 rfl rfl ?_
            refine v_getI (f := 143) cf14 oc87 rfl (by decide) q2513 dX14_cutElements_163 ?_
            obtain ⟨g9, h⟩ := gd_some h
            obtain ⟨s10, e11, h⟩ := stp_some h
            refine v_iast oc177 (gI_rg _ _ _) g9.1 g9.2 dX14_cutElements_166 ?_
            rw [← e11]
            refine v_aload_n dX14_cutElements_167 0 rfl rfl ?_
            refine v_dupO dX14_cutElements_168 ?_
            refine v_getI (f := 143) cf14 oc87 rfl (by decide) q2513 dX14_cutElements_169 ?_
            refine v_iconst dX14_cutElements_172 ?_
            refine v_iadd dX14_cutElements_173 ?_
            obtain ⟨s12, e13, h⟩ := stp_some h
            refine v_putI (f := 143) cf14 oc87 rfl (by decide) q2513 dX14_cutElements_174 rfl rfl ?_
            rw [← e13]
            refine v_aload_n dX14_cutElements_177 0 rfl rfl ?_
            obtain ⟨s14, e15, h⟩ := bdv_some h
            have k16 := c_X14_closeParent e15
            refine v_callV (st := []) cf14 oc87 k16 (lw_V q3386 q3388 qs267 q311 q3389) rfl yk_X14_closeParent ⟨Nat.le_of_ble_eq_true rfl, Nat.le_of_ble_eq_true rfl⟩ trivial ⟨kc87, trivial⟩ (Nat.le_of_ble_eq_true rfl) rfl dX14_cutElements_178 ?_
            refine v_goto (tgt := 232) dX14_cutElements_181 (by decide) ?_
            refine v_goto (tgt := 22) dX14_cutElements_232 (by decide) ?_
            refine v_sub [0, 1] (L1 := [(0, vO 87), (1, vI x1)]) rfl ?_
            exact hrec x1 s14 _ h rx1 hE

def j_X14_cutElements_57 (rec : Int → vS → Option (vS)) (x1 : Int) (x2 : Int) (s : vS) : Option (vS) :=
  if (gI s 87 141) < 0 then
    j_X14_cutElements_99 rec x1 x2 s
  else
    gd (inb (gI s 87 141) (gN s 178)) <|
    if (gZ s 178 (gI s 87 141)) = 0 then
      gd (inb (gI s 87 141) (gN s 177)) <|
      if (gI s 87 143) = (gE s 177 (gI s 87 141)) then
        bdv (f_X14_closeParent s) fun s6 =>
        rec x1 s6
      else
        j_X14_cutElements_99 rec x1 x2 s
    else
      j_X14_cutElements_99 rec x1 x2 s
theorem wj_X14_cutElements_57 {x1 : Int} {x2 : Int} {s : vS} {rv : Option vA} {σo : vS} {rec : Int → vS → Option (vS)} {q : vS} (h : j_X14_cutElements_57 rec x1 x2 s = some q)  (rx1 : rg x1) (rx2 : rg x2) (hrec : ∀ (y1 : Int) (s : vS) (q : vS), rec y1 s = some q → rg y1 → E_X14_cutElements_22 rv σo q → VW cX14_cutElements (RX14, rv, σo, none, 2, 53, 3, []) (P0 []) s 22 [(0, vO 87), (1, vI y1)] []) (hE : E_X14_cutElements_22 rv σo q) : VW cX14_cutElements (RX14, rv, σo, none, 2, 53, 3, []) (P0 []) s 57 [(0, vO 87), (1, vI x1), (2, vI x2)] [] := by
  unfold j_X14_cutElements_57 at h
  refine v_aload_n dX14_cutElements_57 0 rfl rfl ?_
  refine v_getI (f := 141) cf14 oc87 rfl (by decide) q2511 dX14_cutElements_58 ?_
  refine v_if_lt (tgt := 99) dX14_cutElements_61 (gI_rg _ _ _) (by decide) (fun c1 => ?_) (fun c1 => ?_)
  · rw [if_pos c1] at h
    exact wj_X14_cutElements_99 h rx1 rx2 hrec hE
  · rw [if_neg c1] at h
    refine v_aload_n dX14_cutElements_64 0 rfl rfl ?_
    refine v_getS (f := 136) (t := 178) cf14 oc87 rfl rfl rfl (by decide) q2506 dX14_cutElements_65 ?_
    refine v_aload_n dX14_cutElements_68 0 rfl rfl ?_
    refine v_getI (f := 141) cf14 oc87 rfl (by decide) q2511 dX14_cutElements_69 ?_
    obtain ⟨g2, h⟩ := gd_some h
    refine v_zald oc178 (gI_rg _ _ _) g2.1 g2.2 dX14_cutElements_72 ?_
    refine v_if_ne (tgt := 99) dX14_cutElements_73 (gZ_rg _ _ _) (by decide) (fun c3 => ?_) (fun c3 => ?_)
    · rw [if_neg c3] at h
      exact wj_X14_cutElements_99 h rx1 rx2 hrec hE
    · rw [if_pos c3] at h
      refine v_aload_n dX14_cutElements_76 0 rfl rfl ?_
      refine v_getI (f := 143) cf14 oc87 rfl (by decide) q2513 dX14_cutElements_77 ?_
      refine v_aload_n dX14_cutElements_80 0 rfl rfl ?_
      refine v_getS (f := 135) (t := 177) cf14 oc87 rfl rfl rfl (by decide) q2505 dX14_cutElements_81 ?_
      refine v_aload_n dX14_cutElements_84 0 rfl rfl ?_
      refine v_getI (f := 141) cf14 oc87 rfl (by decide) q2511 dX14_cutElements_85 ?_
      obtain ⟨g4, h⟩ := gd_some h
      refine v_iald oc177 (gI_rg _ _ _) g4.1 g4.2 dX14_cutElements_88 ?_
      refine v_icmp_ne (tgt := 99) dX14_cutElements_89 (gI_rg _ _ _) (gE_rg _ _ _) (by decide) (fun c5 => ?_) (fun c5 => ?_)
      · rw [if_neg c5] at h
        exact wj_X14_cutElements_99 h rx1 rx2 hrec hE
      · rw [if_pos c5] at h
        refine v_aload_n dX14_cutElements_92 0 rfl rfl ?_
        obtain ⟨s6, e7, h⟩ := bdv_some h
        have k8 := c_X14_closeParent e7
        refine v_callV (st := []) cf14 oc87 k8 (lw_V q3386 q3388 qs267 q311 q3389) rfl yk_X14_closeParent ⟨Nat.le_of_ble_eq_true rfl, Nat.le_of_ble_eq_true rfl⟩ trivial ⟨kc87, trivial⟩ (Nat.le_of_ble_eq_true rfl) rfl dX14_cutElements_93 ?_
        refine v_goto (tgt := 232) dX14_cutElements_96 (by decide) ?_
        refine v_goto (tgt := 22) dX14_cutElements_232 (by decide) ?_
        refine v_sub [0, 1] (L1 := [(0, vO 87), (1, vI x1)]) rfl ?_
        exact hrec x1 s6 _ h rx1 hE

def l_X14_cutElements_22 : Nat → Int → vS → Option (vS)
  | 0, _, _ => none
  | n + 1, x1, s =>
    if (gI s 87 8) = 0 then
      if x1 = 0 then
        bd (f_X14_wall s) fun r6 s3 =>
        if 0 ≤ (gI s3 87 141) then
          j_X14_cutElements_57 (l_X14_cutElements_22 n) x1 r6 s3
        else
          if (gI s3 87 129) ≤ 0 then
            j_X14_cutElements_57 (l_X14_cutElements_22 n) x1 r6 s3
          else
            l_X14_cutElements_22 n 1 s3
      else
        some s
    else
      some s
theorem wl_X14_cutElements_22 {rv : Option vA} {σo : vS}  : ∀ (n : Nat) (x1 : Int) (s : vS) (q : vS), l_X14_cutElements_22 n x1 s = some q → rg x1 → E_X14_cutElements_22 rv σo q → VW cX14_cutElements (RX14, rv, σo, none, 2, 53, 3, []) (P0 []) s 22 [(0, vO 87), (1, vI x1)] [] := by
  intro n
  induction n with
  | zero => intro x1 s q h; cases h
  | succ n ih =>
    intro x1 s q h rx1 hE
    unfold l_X14_cutElements_22 at h
    refine v_aload_n dX14_cutElements_22 0 rfl rfl ?_
    refine v_getI (f := 8) cf14 oc87 rfl (by decide) q2378 dX14_cutElements_23 ?_
    refine v_if_ne (tgt := 235) dX14_cutElements_26 (gI_rg _ _ _) (by decide) (fun c1 => ?_) (fun c1 => ?_)
    · rw [if_neg c1] at h
      cases h
      refine v_sub [0] (L1 := [(0, vO 87)]) rfl ?_
      exact hE _ rfl 
    · rw [if_pos c1] at h
      refine v_iload_n dX14_cutElements_29 1 rfl rfl ?_
      refine v_if_ne (tgt := 235) dX14_cutElements_30 rx1 (by decide) (fun c2 => ?_) (fun c2 => ?_)
      · rw [if_neg c2] at h
        cases h
        refine v_sub [0] (L1 := [(0, vO 87)]) rfl ?_
        exact hE _ rfl 
      · rw [if_pos c2] at h
        refine v_aload_n dX14_cutElements_33 0 rfl rfl ?_
        obtain ⟨r6, s3, e4, h⟩ := bd_some h
        have k5 := c_X14_wall e4
        have r7 : rg r6 := k5.1.2.2
        refine v_callV (st := []) cf14 oc87 k5 (lw_V q3382 q3384 qs266 q311 q3385) rfl yk_X14_wall ⟨Nat.le_of_ble_eq_true rfl, Nat.le_of_ble_eq_true rfl⟩ trivial ⟨kc87, trivial⟩ (Nat.le_of_ble_eq_true rfl) rfl dX14_cutElements_34 ?_
        refine v_istore_n (L1 := [(2, vI r6), (0, vO 87), (1, vI x1)]) dX14_cutElements_37 rfl (by decide) rfl ?_
        refine v_aload_n dX14_cutElements_38 1 rfl rfl ?_
        refine v_getI (f := 141) cf14 oc87 rfl (by decide) q2511 dX14_cutElements_39 ?_
        refine v_if_ge (tgt := 57) dX14_cutElements_42 (gI_rg _ _ _) (by decide) (fun c8 => ?_) (fun c8 => ?_)
        · rw [if_pos c8] at h
          refine v_sub [1, 2, 0] (L1 := [(0, vO 87), (1, vI x1), (2, vI r6)]) rfl ?_
          exact wj_X14_cutElements_57 h rx1 r7 ih hE
        · rw [if_neg c8] at h
          refine v_aload_n dX14_cutElements_45 1 rfl rfl ?_
          refine v_getI (f := 129) cf14 oc87 rfl (by decide) q2499 dX14_cutElements_46 ?_
          refine v_if_le (tgt := 57) dX14_cutElements_49 (gI_rg _ _ _) (by decide) (fun c9 => ?_) (fun c9 => ?_)
          · rw [if_pos c9] at h
            refine v_sub [1, 2, 0] (L1 := [(0, vO 87), (1, vI x1), (2, vI r6)]) rfl ?_
            exact wj_X14_cutElements_57 h rx1 r7 ih hE
          · rw [if_neg c9] at h
            refine v_iconst dX14_cutElements_52 ?_
            refine v_istore_n (L1 := [(1, vI 1), (2, vI r6), (0, vO 87)]) dX14_cutElements_53 rfl (by decide) rfl ?_
            refine v_goto (tgt := 232) dX14_cutElements_54 (by decide) ?_
            refine v_goto (tgt := 22) dX14_cutElements_232 (by decide) ?_
            refine v_sub [2, 0] (L1 := [(0, vO 87), (1, vI 1)]) rfl ?_
            exact ih 1 s3 _ h (rgl rfl) hE

def j_X14_cutElements_235 (s : vS) : Option (vS) :=
  if (gI s 87 8) = 0 then
    if (gI s 87 127) ≤ (gI s 87 143) then
      some s
    else
      bdv (f_X14_tell 6 (gI s 87 143) s) fun s3 =>
      some s3
  else
    some s
theorem wj_X14_cutElements_235 {s : vS} {out : vS} (h : j_X14_cutElements_235 s = some out)  : VW cX14_cutElements (RX14, none, out, none, 2, 53, 3, []) (P0 []) s 235 [(0, vO 87)] [] := by
  unfold j_X14_cutElements_235 at h
  refine v_aload_n dX14_cutElements_235 0 rfl rfl ?_
  refine v_getI (f := 8) cf14 oc87 rfl (by decide) q2378 dX14_cutElements_236 ?_
  refine v_if_ne (tgt := 263) dX14_cutElements_239 (gI_rg _ _ _) (by decide) (fun c1 => ?_) (fun c1 => ?_)
  · rw [if_neg c1] at h
    cases h
    exact v_vret dX14_cutElements_263
  · rw [if_pos c1] at h
    refine v_aload_n dX14_cutElements_242 0 rfl rfl ?_
    refine v_getI (f := 143) cf14 oc87 rfl (by decide) q2513 dX14_cutElements_243 ?_
    refine v_aload_n dX14_cutElements_246 0 rfl rfl ?_
    refine v_getI (f := 127) cf14 oc87 rfl (by decide) q2497 dX14_cutElements_247 ?_
    refine v_icmp_ge (tgt := 263) dX14_cutElements_250 (gI_rg _ _ _) (gI_rg _ _ _) (by decide) (fun c2 => ?_) (fun c2 => ?_)
    · rw [if_pos c2] at h
      cases h
      exact v_vret dX14_cutElements_263
    · rw [if_neg c2] at h
      refine v_aload_n dX14_cutElements_253 0 rfl rfl ?_
      refine v_bipush dX14_cutElements_254 rfl ?_
      refine v_aload_n dX14_cutElements_256 0 rfl rfl ?_
      refine v_getI (f := 143) cf14 oc87 rfl (by decide) q2513 dX14_cutElements_257 ?_
      obtain ⟨s3, e4, h⟩ := bdv_some h
      have k5 := c_X14_tell e4 (rgl rfl) (gI_rg _ _ _)
      refine v_callV (st := []) cf14 oc87 k5 (lw_V q2916 q2918 qs163 q311 q2919) rfl yk_X14_tell ⟨Nat.le_of_ble_eq_true rfl, Nat.le_of_ble_eq_true rfl⟩ trivial ⟨kc87, trivial⟩ (Nat.le_of_ble_eq_true rfl) rfl dX14_cutElements_260 ?_
      cases h
      exact v_vret dX14_cutElements_263

def f_X14_cutElements (s : vS) : Option (vS) :=
  stp (sI s 87 129 0) fun s1 =>
  stp (sI s1 87 141 (-1)) fun s3 =>
  stp (sI s3 87 142 0) fun s5 =>
  stp (sI s5 87 143 0) fun s7 =>
  lq_0 (l_X14_cutElements_22 FU 0 s7) fun s9 =>
  j_X14_cutElements_235 s9
theorem yk_X14_cutElements : yOk yX14_cutElements 0 := ⟨by decide, by decide, by decide +kernel⟩
theorem c_X14_cutElements {s : vS} {out : vS} (h : f_X14_cutElements s = some out)   : VC yX14_cutElements cX14_cutElements 3 none 2 53 [vO 87] s none out [] := by
  unfold f_X14_cutElements at h
  refine VC.of RX14 (by decide) rfl (Nat.le_of_ble_eq_true rfl) ?_
  show VW cX14_cutElements (RX14, none, out, none, 2, 53, 3, []) (P0 []) s 0 [(0, vO 87)] []
  refine v_aload_n dX14_cutElements_0 0 rfl rfl ?_
  refine v_iconst dX14_cutElements_1 ?_
  obtain ⟨s1, e2, h⟩ := stp_some h
  refine v_putI (f := 129) cf14 oc87 rfl (by decide) q2499 dX14_cutElements_2 rfl rfl ?_
  rw [← e2]
  refine v_aload_n dX14_cutElements_5 0 rfl rfl ?_
  refine v_iconst dX14_cutElements_6 ?_
  obtain ⟨s3, e4, h⟩ := stp_some h
  refine v_putI (f := 141) cf14 oc87 rfl (by decide) q2511 dX14_cutElements_7 rfl rfl ?_
  rw [← e4]
  refine v_aload_n dX14_cutElements_10 0 rfl rfl ?_
  refine v_iconst dX14_cutElements_11 ?_
  obtain ⟨s5, e6, h⟩ := stp_some h
  refine v_putI (f := 142) cf14 oc87 rfl (by decide) q2512 dX14_cutElements_12 rfl rfl ?_
  rw [← e6]
  refine v_aload_n dX14_cutElements_15 0 rfl rfl ?_
  refine v_iconst dX14_cutElements_16 ?_
  obtain ⟨s7, e8, h⟩ := stp_some h
  refine v_putI (f := 143) cf14 oc87 rfl (by decide) q2513 dX14_cutElements_17 rfl rfl ?_
  rw [← e8]
  refine v_iconst dX14_cutElements_20 ?_
  refine v_istore_n (L1 := [(1, vI 0), (0, vO 87)]) dX14_cutElements_21 rfl (by decide) rfl ?_
  refine v_sub [1, 0] (L1 := [(0, vO 87), (1, vI 0)]) rfl ?_
  obtain ⟨s9, e10, h⟩ := lq_0_some h
  refine wl_X14_cutElements_22  FU 0 s7 _ e10 (rgl rfl) ?_
  unfold E_X14_cutElements_22
  intro s9' z_
  cases z_
  exact wj_X14_cutElements_235 h 

def j_X14_roomForWork_51 (z2 : Int) (s : vS) : Option (vS) :=
  bdv (f_X14_longer 183 z2 s) fun s1 =>
  gd (2 * gN s1 183 ≤ gN s1 199 ∧ 2 ≤ gN s1 199) <|
  stp (sw2 s1 183 199) fun s5 =>
  stp (rs s5) fun s7 =>
  some s7
theorem wj_X14_roomForWork_51 {z2 : Int} {s : vS} {out : vS} (h : j_X14_roomForWork_51 z2 s = some out)  (rz2 : rg z2) : VW cX14_roomForWork (RX14, none, out, none, 1, 23, 3, []) (P0 []) s 51 [] [vI z2, vO 183, vO 87] := by
  unfold j_X14_roomForWork_51 at h
  obtain ⟨s1, e2, h⟩ := bdv_some h
  have k3 := c_X14_longer e2 (⟨by decide, rfl⟩ : okB 183 24) rz2
  refine v_callS (st := [vO 87]) k3 (lw_S q3012 q3013 q311 q3014) yk_X14_longer ⟨Nat.le_of_ble_eq_true rfl, Nat.le_of_ble_eq_true rfl⟩ ⟨kc87, trivial⟩ trivial (Nat.le_of_ble_eq_true rfl) rfl dX14_roomForWork_51 ?_
  obtain ⟨g4, h⟩ := gd_some h
  obtain ⟨s5, e6, h⟩ := stp_some h
  refine v_pa (i := 0) (K := 199) (t0 := 183) (f := 145) (tk1 := [(24, 0)]) (L1 := []) (st1 := []) rfl rfl (by decide) cf14 (⟨by decide, rfl⟩ : okB 87 13) rfl (by decide) rfl rfl (by decide) rfl g4 q2515 dX14_roomForWork_54 rfl rfl rfl rfl ?_
  rw [← e6]
  obtain ⟨s7, e8, h⟩ := stp_some h
  refine v_dr (by decide) (by decide) trivial trivial ?_
  rw [← e8]
  cases h
  exact v_vret dX14_roomForWork_57

def f_X14_roomForWork (x1 : Int) (s : vS) : Option (vS) :=
  vl (w32 ((gI s 87 144) + x1)) fun y1 =>
  if (w32 (gN s 183 : Int)) < y1 then
    if 32768 < y1 then
      if 131072 < y1 then
        j_X14_roomForWork_51 (w32 (2 * y1)) s
      else
        j_X14_roomForWork_51 131072 s
    else
      j_X14_roomForWork_51 32768 s
  else
    some s
theorem yk_X14_roomForWork : yOk yX14_roomForWork 1 := ⟨by decide, by decide, by decide +kernel⟩
theorem c_X14_roomForWork {x1 : Int} {s : vS} {out : vS} (h : f_X14_roomForWork x1 s = some out)  (rx1 : rg x1) : VC yX14_roomForWork cX14_roomForWork 3 none 1 23 [vO 87, vI x1] s none out [] := by
  unfold f_X14_roomForWork at h
  refine VC.of RX14 (by decide) rfl (Nat.le_of_ble_eq_true rfl) ?_
  show VW cX14_roomForWork (RX14, none, out, none, 1, 23, 3, []) (P0 []) s 0 [(0, vO 87), (1, vI x1)] []
  refine v_aload_n dX14_roomForWork_0 0 rfl rfl ?_
  refine v_getI (f := 144) cf14 oc87 rfl (by decide) q2514 dX14_roomForWork_1 ?_
  refine v_iload_n dX14_roomForWork_4 1 rfl rfl ?_
  refine v_iadd dX14_roomForWork_5 ?_
  obtain ⟨y1, e2, h⟩ := vl_some h
  rw [← e2]
  have r3 : rg y1 := by rw [e2]; exact w32_rg _
  refine v_istore_n (L1 := [(2, vI y1), (0, vO 87), (1, vI x1)]) dX14_roomForWork_6 rfl (by decide) rfl ?_
  refine v_iload_n dX14_roomForWork_7 0 rfl rfl ?_
  refine v_aload_n dX14_roomForWork_8 1 rfl rfl ?_
  refine v_getS (f := 145) (t := 183) cf14 oc87 rfl rfl rfl (by decide) q2515 dX14_roomForWork_9 ?_
  refine v_alen24 oc183 dX14_roomForWork_12 ?_
  refine v_icmp_gt (tgt := 17) dX14_roomForWork_13 r3 (w32_rg _) (by decide) (fun c4 => ?_) (fun c4 => ?_)
  · rw [if_pos c4] at h
    refine v_aload_n dX14_roomForWork_17 1 rfl rfl ?_
    refine v_aload_n dX14_roomForWork_18 1 rfl rfl ?_
    refine v_getS (f := 145) (t := 183) cf14 oc87 rfl rfl rfl (by decide) q2515 dX14_roomForWork_19 ?_
    refine v_iload_n dX14_roomForWork_22 0 rfl rfl ?_
    refine v_ldcw (n := 32768) dX14_roomForWork_23 q2869 rfl ?_
    refine v_icmp_gt (tgt := 35) dX14_roomForWork_26 r3 (rgl rfl) (by decide) (fun c5 => ?_) (fun c5 => ?_)
    · rw [if_pos c5] at h
      refine v_iload_n dX14_roomForWork_35 0 rfl rfl ?_
      refine v_ldcw (n := 131072) dX14_roomForWork_36 q3457 rfl ?_
      refine v_icmp_gt (tgt := 48) dX14_roomForWork_39 r3 (rgl rfl) (by decide) (fun c6 => ?_) (fun c6 => ?_)
      · rw [if_pos c6] at h
        refine v_iconst dX14_roomForWork_48 ?_
        refine v_iload_n dX14_roomForWork_49 0 rfl rfl ?_
        refine v_imul dX14_roomForWork_50 ?_
        refine v_sub [] (L1 := []) rfl ?_
        exact wj_X14_roomForWork_51 h (w32_rg _)
      · rw [if_neg c6] at h
        refine v_ldcw (n := 131072) dX14_roomForWork_42 q3457 rfl ?_
        refine v_goto (tgt := 51) dX14_roomForWork_45 (by decide) ?_
        refine v_sub [] (L1 := []) rfl ?_
        exact wj_X14_roomForWork_51 h (rgl rfl)
    · rw [if_neg c5] at h
      refine v_ldcw (n := 32768) dX14_roomForWork_29 q2869 rfl ?_
      refine v_goto (tgt := 51) dX14_roomForWork_32 (by decide) ?_
      refine v_sub [] (L1 := []) rfl ?_
      exact wj_X14_roomForWork_51 h (rgl rfl)
  · rw [if_neg c4] at h
    cases h
    exact v_vret dX14_roomForWork_16

def f_X14_write (x1 : Int) (s : vS) : Option (vS) :=
  bdv (f_X14_roomForWork 1 s) fun s1 =>
  gd (inb (gI s1 87 144) (gN s1 183)) <|
  stp (sE s1 183 (gI s1 87 144) x1) fun s5 =>
  stp (sI s5 87 144 (w32 ((gI s5 87 144) + 1))) fun s7 =>
  some s7
theorem yk_X14_write : yOk yX14_write 1 := ⟨by decide, by decide, by decide +kernel⟩
theorem c_X14_write {x1 : Int} {s : vS} {out : vS} (h : f_X14_write x1 s = some out)  (rx1 : rg x1) : VC yX14_write cX14_write 2 none 2 45 [vO 87, vI x1] s none out [] := by
  unfold f_X14_write at h
  refine VC.of RX14 (by decide) rfl (Nat.le_of_ble_eq_true rfl) ?_
  show VW cX14_write (RX14, none, out, none, 2, 45, 2, []) (P0 []) s 0 [(0, vO 87), (1, vI x1)] []
  refine v_aload_n dX14_write_0 0 rfl rfl ?_
  refine v_iconst dX14_write_1 ?_
  obtain ⟨s1, e2, h⟩ := bdv_some h
  have k3 := c_X14_roomForWork e2 (rgl rfl)
  refine v_callV (st := []) cf14 oc87 k3 (lw_V q3453 q3455 qs282 q311 q3456) rfl yk_X14_roomForWork ⟨Nat.le_of_ble_eq_true rfl, Nat.le_of_ble_eq_true rfl⟩ trivial ⟨kc87, trivial⟩ (Nat.le_of_ble_eq_true rfl) rfl dX14_write_2 ?_
  refine v_aload_n dX14_write_5 0 rfl rfl ?_
  refine v_getS (f := 145) (t := 183) cf14 oc87 rfl rfl rfl (by decide) q2515 dX14_write_6 ?_
  refine v_aload_n dX14_write_9 0 rfl rfl ?_
  refine v_getI (f := 144) cf14 oc87 rfl (by decide) q2514 dX14_write_10 ?_
  refine v_iload_n dX14_write_13 1 rfl rfl ?_
  obtain ⟨g4, h⟩ := gd_some h
  obtain ⟨s5, e6, h⟩ := stp_some h
  refine v_iast oc183 (gI_rg _ _ _) g4.1 g4.2 dX14_write_14 ?_
  rw [← e6]
  refine v_aload_n dX14_write_15 0 rfl rfl ?_
  refine v_dupO dX14_write_16 ?_
  refine v_getI (f := 144) cf14 oc87 rfl (by decide) q2514 dX14_write_17 ?_
  refine v_iconst dX14_write_20 ?_
  refine v_iadd dX14_write_21 ?_
  obtain ⟨s7, e8, h⟩ := stp_some h
  refine v_putI (f := 144) cf14 oc87 rfl (by decide) q2514 dX14_write_22 rfl rfl ?_
  rw [← e8]
  cases h
  exact v_vret dX14_write_25

def f_X14_headByte (x1 : Int) (s : vS) : Option (vS) :=
  gd (inb (gI s 87 147) (gN s 185)) <|
  stp (sE s 185 (gI s 87 147) x1) fun s2 =>
  stp (sI s2 87 147 (w32 ((gI s2 87 147) + 1))) fun s4 =>
  some s4
theorem yk_X14_headByte : yOk yX14_headByte 1 := ⟨by decide, by decide, by decide +kernel⟩
theorem c_X14_headByte {x1 : Int} {s : vS} {out : vS} (h : f_X14_headByte x1 s = some out)  (rx1 : rg x1) : VC yX14_headByte cX14_headByte 2 none 0 0 [vO 87, vI x1] s none out [] := by
  unfold f_X14_headByte at h
  refine VC.of RX14 (by decide) rfl (Nat.le_of_ble_eq_true rfl) ?_
  show VW cX14_headByte (RX14, none, out, none, 0, 0, 2, []) (P0 []) s 0 [(0, vO 87), (1, vI x1)] []
  refine v_aload_n dX14_headByte_0 0 rfl rfl ?_
  refine v_getS (f := 148) (t := 185) cf14 oc87 rfl rfl rfl (by decide) q2518 dX14_headByte_1 ?_
  refine v_aload_n dX14_headByte_4 0 rfl rfl ?_
  refine v_getI (f := 147) cf14 oc87 rfl (by decide) q2517 dX14_headByte_5 ?_
  refine v_iload_n dX14_headByte_8 1 rfl rfl ?_
  obtain ⟨g1, h⟩ := gd_some h
  obtain ⟨s2, e3, h⟩ := stp_some h
  refine v_iast oc185 (gI_rg _ _ _) g1.1 g1.2 dX14_headByte_9 ?_
  rw [← e3]
  refine v_aload_n dX14_headByte_10 0 rfl rfl ?_
  refine v_dupO dX14_headByte_11 ?_
  refine v_getI (f := 147) cf14 oc87 rfl (by decide) q2517 dX14_headByte_12 ?_
  refine v_iconst dX14_headByte_15 ?_
  refine v_iadd dX14_headByte_16 ?_
  obtain ⟨s4, e5, h⟩ := stp_some h
  refine v_putI (f := 147) cf14 oc87 rfl (by decide) q2517 dX14_headByte_17 rfl rfl ?_
  rw [← e5]
  cases h
  exact v_vret dX14_headByte_20

def E_X14_wrap_34 (x1 : Int) (x2 : Int) (x4 : Int) (rv : Option vA) (σo : vS) (q : vS) : Prop := ∀ (s' : vS), q = s' → VW cX14_wrap (RX14, rv, σo, none, 2, 45, 10, []) (P0 []) s' 59 [(0, vO 87), (1, vI x1), (2, vL x2), (4, vI x4)] []
def l_X14_wrap_34 : Nat → Int → Int → Int → Int → vS → Option (vS)
  | 0, _, _, _, _, _ => none
  | n + 1, x1, x2, x4, x6, s =>
    if x6 ≤ 0 then
      some s
    else
      bdv (f_X14_headByte (and32 x6 255) s) fun s2 =>
      vl (ushr32 x6 8) fun y5 =>
      l_X14_wrap_34 n x1 x2 x4 y5 s2
theorem wl_X14_wrap_34 {x1 : Int} {x2 : Int} {x4 : Int} {rv : Option vA} {σo : vS}  (rx1 : rg x1) (rx2 : rgL x2) (rx4 : rg x4) : ∀ (n : Nat) (x6 : Int) (s : vS) (q : vS), l_X14_wrap_34 n x1 x2 x4 x6 s = some q → rg x6 → E_X14_wrap_34 x1 x2 x4 rv σo q → VW cX14_wrap (RX14, rv, σo, none, 2, 45, 10, []) (P0 []) s 34 [(0, vO 87), (1, vI x1), (2, vL x2), (4, vI x4), (6, vI x6)] [] := by
  intro n
  induction n with
  | zero => intro x6 s q h; cases h
  | succ n ih =>
    intro x6 s q h rx6 hE
    unfold l_X14_wrap_34 at h
    refine v_iload dX14_wrap_34 4 rfl ?_
    refine v_if_le (tgt := 59) dX14_wrap_36 rx6 (by decide) (fun c1 => ?_) (fun c1 => ?_)
    · rw [if_pos c1] at h
      cases h
      refine v_sub [0, 1, 2, 3] (L1 := [(0, vO 87), (1, vI x1), (2, vL x2), (4, vI x4)]) rfl ?_
      exact hE _ rfl 
    · rw [if_neg c1] at h
      refine v_aload_n dX14_wrap_39 0 rfl rfl ?_
      refine v_iload dX14_wrap_40 4 rfl ?_
      refine v_sipush dX14_wrap_42 rfl ?_
      refine v_iand dX14_wrap_45 ?_
      obtain ⟨s2, e3, h⟩ := bdv_some h
      have k4 := c_X14_headByte e3 (and32_rg _ _)
      refine v_callV (st := []) cf14 oc87 k4 (lw_V q3470 q3472 qs286 q311 q3473) rfl yk_X14_headByte ⟨Nat.le_of_ble_eq_true rfl, Nat.le_of_ble_eq_true rfl⟩ trivial ⟨kc87, trivial⟩ (Nat.le_of_ble_eq_true rfl) rfl dX14_wrap_46 ?_
      refine v_iload dX14_wrap_49 4 rfl ?_
      refine v_bipush dX14_wrap_51 rfl ?_
      refine v_iushr dX14_wrap_53 ?_
      obtain ⟨y5, e6, h⟩ := vl_some h
      rw [← e6]
      have r7 : rg y5 := by rw [e6]; exact ushr32_rg _ _
      refine v_istore (L1 := [(6, vI y5), (0, vO 87), (1, vI x1), (2, vL x2), (4, vI x4)]) dX14_wrap_54 (by decide) rfl ?_
      refine v_goto (tgt := 34) dX14_wrap_56 (by decide) ?_
      refine v_sub [1, 2, 3, 4, 0] (L1 := [(0, vO 87), (1, vI x1), (2, vL x2), (4, vI x4), (6, vI y5)]) rfl ?_
      exact ih y5 s2 _ h r7 hE

def E_X14_wrap_123 (x1 : Int) (x7 : Int) (rv : Option vA) (σo : vS) (q : vS) : Prop := ∀ (s' : vS), q = s' → VW cX14_wrap (RX14, rv, σo, none, 2, 45, 10, []) (P0 []) s' 155 [(0, vO 87), (1, vI x1), (7, vI x7)] []
def l_X14_wrap_123 : Nat → Int → Int → Int → Int → vS → Option (vS)
  | 0, _, _, _, _, _ => none
  | n + 1, x1, x7, x8, x9, s =>
    if x8 ≤ 0 then
      some s
    else
      bdv (f_X14_headByte (or32 (and32 x8 127) x9) s) fun s2 =>
      vl (shr32 x8 7) fun y5 =>
      l_X14_wrap_123 n x1 x7 y5 128 s2
theorem wl_X14_wrap_123 {x1 : Int} {x7 : Int} {rv : Option vA} {σo : vS}  (rx1 : rg x1) (rx7 : rg x7) : ∀ (n : Nat) (x8 : Int) (x9 : Int) (s : vS) (q : vS), l_X14_wrap_123 n x1 x7 x8 x9 s = some q → rg x8 → rg x9 → E_X14_wrap_123 x1 x7 rv σo q → VW cX14_wrap (RX14, rv, σo, none, 2, 45, 10, []) (P0 []) s 123 [(0, vO 87), (1, vI x1), (7, vI x7), (8, vI x8), (9, vI x9)] [] := by
  intro n
  induction n with
  | zero => intro x8 x9 s q h; cases h
  | succ n ih =>
    intro x8 x9 s q h rx8 rx9 hE
    unfold l_X14_wrap_123 at h
    refine v_iload dX14_wrap_123 3 rfl ?_
    refine v_if_le (tgt := 155) dX14_wrap_125 rx8 (by decide) (fun c1 => ?_) (fun c1 => ?_)
    · rw [if_pos c1] at h
      cases h
      refine v_sub [0, 1, 2] (L1 := [(0, vO 87), (1, vI x1), (7, vI x7)]) rfl ?_
      exact hE _ rfl 
    · rw [if_neg c1] at h
      refine v_aload_n dX14_wrap_128 0 rfl rfl ?_
      refine v_iload dX14_wrap_129 3 rfl ?_
      refine v_bipush dX14_wrap_131 rfl ?_
      refine v_iand dX14_wrap_133 ?_
      refine v_iload dX14_wrap_134 4 rfl ?_
      refine v_ior dX14_wrap_136 ?_
      obtain ⟨s2, e3, h⟩ := bdv_some h
      have k4 := c_X14_headByte e3 (or32_rg _ _)
      refine v_callV (st := []) cf14 oc87 k4 (lw_V q3470 q3472 qs286 q311 q3473) rfl yk_X14_headByte ⟨Nat.le_of_ble_eq_true rfl, Nat.le_of_ble_eq_true rfl⟩ trivial ⟨kc87, trivial⟩ (Nat.le_of_ble_eq_true rfl) rfl dX14_wrap_137 ?_
      refine v_sipush dX14_wrap_140 rfl ?_
      refine v_istore (L1 := [(9, vI 128), (0, vO 87), (1, vI x1), (7, vI x7), (8, vI x8)]) dX14_wrap_143 (by decide) rfl ?_
      refine v_iload dX14_wrap_145 4 rfl ?_
      refine v_bipush dX14_wrap_147 rfl ?_
      refine v_ishr dX14_wrap_149 ?_
      obtain ⟨y5, e6, h⟩ := vl_some h
      rw [← e6]
      have r7 : rg y5 := by rw [e6]; exact shr32_rg _ _
      refine v_istore (L1 := [(8, vI y5), (9, vI 128), (0, vO 87), (1, vI x1), (7, vI x7)]) dX14_wrap_150 (by decide) rfl ?_
      refine v_goto (tgt := 123) dX14_wrap_152 (by decide) ?_
      refine v_sub [2, 3, 4, 0, 1] (L1 := [(0, vO 87), (1, vI x1), (7, vI x7), (8, vI y5), (9, vI 128)]) rfl ?_
      exact ih y5 128 s2 _ h r7 (rgl rfl) hE

def E_X14_wrap_180 (x1 : Int) (rv : Option vA) (σo : vS) (q : vS) : Prop := ∀ (s' : vS), q = s' → VW cX14_wrap (RX14, rv, σo, none, 2, 45, 10, []) (P0 []) s' 211 [(0, vO 87), (1, vI x1)] []
def l_X14_wrap_180 : Nat → Int → Int → vS → Option (vS)
  | 0, _, _, _ => none
  | n + 1, x1, x8, s =>
    if x8 < x1 then
      some s
    else
      gd (inb x8 (gN s 183)) <|
      gd (inb (w32 (x8 + (gI s 87 147))) (gN s 183)) <|
      stp (sE s 183 (w32 (x8 + (gI s 87 147))) (gE s 183 x8)) fun s4 =>
      vl (w32 (x8 + (-1))) fun y6 =>
      l_X14_wrap_180 n x1 y6 s4
theorem wl_X14_wrap_180 {x1 : Int} {rv : Option vA} {σo : vS}  (rx1 : rg x1) : ∀ (n : Nat) (x8 : Int) (s : vS) (q : vS), l_X14_wrap_180 n x1 x8 s = some q → rg x8 → E_X14_wrap_180 x1 rv σo q → VW cX14_wrap (RX14, rv, σo, none, 2, 45, 10, []) (P0 []) s 180 [(0, vO 87), (1, vI x1), (8, vI x8)] [] := by
  intro n
  induction n with
  | zero => intro x8 s q h; cases h
  | succ n ih =>
    intro x8 s q h rx8 hE
    unfold l_X14_wrap_180 at h
    refine v_iload dX14_wrap_180 2 rfl ?_
    refine v_iload_n dX14_wrap_182 1 rfl rfl ?_
    refine v_icmp_lt (tgt := 211) dX14_wrap_183 rx8 rx1 (by decide) (fun c1 => ?_) (fun c1 => ?_)
    · rw [if_pos c1] at h
      cases h
      refine v_sub [0, 1] (L1 := [(0, vO 87), (1, vI x1)]) rfl ?_
      exact hE _ rfl 
    · rw [if_neg c1] at h
      refine v_aload_n dX14_wrap_186 0 rfl rfl ?_
      refine v_getS (f := 145) (t := 183) cf14 oc87 rfl rfl rfl (by decide) q2515 dX14_wrap_187 ?_
      refine v_iload dX14_wrap_190 2 rfl ?_
      refine v_aload_n dX14_wrap_192 0 rfl rfl ?_
      refine v_getI (f := 147) cf14 oc87 rfl (by decide) q2517 dX14_wrap_193 ?_
      refine v_iadd dX14_wrap_196 ?_
      refine v_aload_n dX14_wrap_197 0 rfl rfl ?_
      refine v_getS (f := 145) (t := 183) cf14 oc87 rfl rfl rfl (by decide) q2515 dX14_wrap_198 ?_
      refine v_iload dX14_wrap_201 2 rfl ?_
      obtain ⟨g2, h⟩ := gd_some h
      refine v_iald oc183 rx8 g2.1 g2.2 dX14_wrap_203 ?_
      obtain ⟨g3, h⟩ := gd_some h
      obtain ⟨s4, e5, h⟩ := stp_some h
      refine v_iast oc183 (w32_rg _) g3.1 g3.2 dX14_wrap_204 ?_
      rw [← e5]
      obtain ⟨y6, e7, h⟩ := vl_some h
      refine v_iinc (L1 := [(8, vI (w32 (x8 + (-1)))), (0, vO 87), (1, vI x1)]) dX14_wrap_205 2 rfl (by decide) rfl ?_
      rw [← e7]
      have r8 : rg y6 := by rw [e7]; exact w32_rg _
      refine v_goto (tgt := 180) dX14_wrap_208 (by decide) ?_
      refine v_sub [1, 2, 0] (L1 := [(0, vO 87), (1, vI x1), (8, vI y6)]) rfl ?_
      exact ih y6 s4 _ h r8 hE

def E_X14_wrap_214 (rv : Option vA) (σo : vS) (q : vS) : Prop := ∀ (s' : vS), q = s' → VW cX14_wrap (RX14, rv, σo, none, 2, 45, 10, []) (P0 []) s' 252 [(0, vO 87)] []
def l_X14_wrap_214 : Nat → Int → Int → vS → Option (vS)
  | 0, _, _, _ => none
  | n + 1, x1, x8, s =>
    if (gI s 87 147) ≤ x8 then
      some s
    else
      gd (inb (w32 ((w32 ((gI s 87 147) - 1)) - x8)) (gN s 185)) <|
      gd (inb (w32 (x1 + x8)) (gN s 183)) <|
      stp (sE s 183 (w32 (x1 + x8)) (gE s 185 (w32 ((w32 ((gI s 87 147) - 1)) - x8)))) fun s4 =>
      vl (w32 (x8 + 1)) fun y6 =>
      l_X14_wrap_214 n x1 y6 s4
theorem wl_X14_wrap_214 {x1 : Int} {rv : Option vA} {σo : vS}  (rx1 : rg x1) : ∀ (n : Nat) (x8 : Int) (s : vS) (q : vS), l_X14_wrap_214 n x1 x8 s = some q → rg x8 → E_X14_wrap_214 rv σo q → VW cX14_wrap (RX14, rv, σo, none, 2, 45, 10, []) (P0 []) s 214 [(0, vO 87), (1, vI x1), (8, vI x8)] [] := by
  intro n
  induction n with
  | zero => intro x8 s q h; cases h
  | succ n ih =>
    intro x8 s q h rx8 hE
    unfold l_X14_wrap_214 at h
    refine v_iload dX14_wrap_214 2 rfl ?_
    refine v_aload_n dX14_wrap_216 0 rfl rfl ?_
    refine v_getI (f := 147) cf14 oc87 rfl (by decide) q2517 dX14_wrap_217 ?_
    refine v_icmp_ge (tgt := 252) dX14_wrap_220 rx8 (gI_rg _ _ _) (by decide) (fun c1 => ?_) (fun c1 => ?_)
    · rw [if_pos c1] at h
      cases h
      refine v_sub [0] (L1 := [(0, vO 87)]) rfl ?_
      exact hE _ rfl 
    · rw [if_neg c1] at h
      refine v_aload_n dX14_wrap_223 0 rfl rfl ?_
      refine v_getS (f := 145) (t := 183) cf14 oc87 rfl rfl rfl (by decide) q2515 dX14_wrap_224 ?_
      refine v_iload_n dX14_wrap_227 1 rfl rfl ?_
      refine v_iload dX14_wrap_228 2 rfl ?_
      refine v_iadd dX14_wrap_230 ?_
      refine v_aload_n dX14_wrap_231 0 rfl rfl ?_
      refine v_getS (f := 148) (t := 185) cf14 oc87 rfl rfl rfl (by decide) q2518 dX14_wrap_232 ?_
      refine v_aload_n dX14_wrap_235 0 rfl rfl ?_
      refine v_getI (f := 147) cf14 oc87 rfl (by decide) q2517 dX14_wrap_236 ?_
      refine v_iconst dX14_wrap_239 ?_
      refine v_isub dX14_wrap_240 ?_
      refine v_iload dX14_wrap_241 2 rfl ?_
      refine v_isub dX14_wrap_243 ?_
      obtain ⟨g2, h⟩ := gd_some h
      refine v_iald oc185 (w32_rg _) g2.1 g2.2 dX14_wrap_244 ?_
      obtain ⟨g3, h⟩ := gd_some h
      obtain ⟨s4, e5, h⟩ := stp_some h
      refine v_iast oc183 (w32_rg _) g3.1 g3.2 dX14_wrap_245 ?_
      rw [← e5]
      obtain ⟨y6, e7, h⟩ := vl_some h
      refine v_iinc (L1 := [(8, vI (w32 (x8 + 1))), (0, vO 87), (1, vI x1)]) dX14_wrap_246 2 rfl (by decide) rfl ?_
      rw [← e7]
      have r8 : rg y6 := by rw [e7]; exact w32_rg _
      refine v_goto (tgt := 214) dX14_wrap_249 (by decide) ?_
      refine v_sub [1, 2, 0] (L1 := [(0, vO 87), (1, vI x1), (8, vI y6)]) rfl ?_
      exact ih y6 s4 _ h r8 hE

def j_X14_wrap_164 (x1 : Int) (s : vS) : Option (vS) :=
  bdv (f_X14_roomForWork (gI s 87 147) s) fun s1 =>
  vl (w32 ((gI s1 87 144) - 1)) fun y4 =>
  lq_0 (l_X14_wrap_180 FU x1 y4 s1) fun s7 =>
  lq_0 (l_X14_wrap_214 FU x1 0 s7) fun s9 =>
  stp (sI s9 87 144 (w32 ((gI s9 87 144) + (gI s9 87 147)))) fun s11 =>
  some s11
theorem wj_X14_wrap_164 {x1 : Int} {s : vS} {out : vS} (h : j_X14_wrap_164 x1 s = some out)  (rx1 : rg x1) : VW cX14_wrap (RX14, none, out, none, 2, 45, 10, []) (P0 []) s 164 [(0, vO 87), (1, vI x1)] [] := by
  unfold j_X14_wrap_164 at h
  refine v_aload_n dX14_wrap_164 0 rfl rfl ?_
  refine v_aload_n dX14_wrap_165 0 rfl rfl ?_
  refine v_getI (f := 147) cf14 oc87 rfl (by decide) q2517 dX14_wrap_166 ?_
  obtain ⟨s1, e2, h⟩ := bdv_some h
  have k3 := c_X14_roomForWork e2 (gI_rg _ _ _)
  refine v_callV (st := []) cf14 oc87 k3 (lw_V q3453 q3455 qs282 q311 q3456) rfl yk_X14_roomForWork ⟨Nat.le_of_ble_eq_true rfl, Nat.le_of_ble_eq_true rfl⟩ trivial ⟨kc87, trivial⟩ (Nat.le_of_ble_eq_true rfl) rfl dX14_wrap_169 ?_
  refine v_aload_n dX14_wrap_172 0 rfl rfl ?_
  refine v_getI (f := 144) cf14 oc87 rfl (by decide) q2514 dX14_wrap_173 ?_
  refine v_iconst dX14_wrap_176 ?_
  refine v_isub dX14_wrap_177 ?_
  obtain ⟨y4, e5, h⟩ := vl_some h
  rw [← e5]
  have r6 : rg y4 := by rw [e5]; exact w32_rg _
  refine v_istore (L1 := [(8, vI y4), (0, vO 87), (1, vI x1)]) dX14_wrap_178 (by decide) rfl ?_
  refine v_sub [1, 2, 0] (L1 := [(0, vO 87), (1, vI x1), (8, vI y4)]) rfl ?_
  obtain ⟨s7, e8, h⟩ := lq_0_some h
  refine wl_X14_wrap_180 rx1 FU y4 s1 _ e8 r6 ?_
  unfold E_X14_wrap_180
  intro s7' z_
  cases z_
  refine v_iconst dX14_wrap_211 ?_
  refine v_istore (L1 := [(8, vI 0), (0, vO 87), (1, vI x1)]) dX14_wrap_212 (by decide) rfl ?_
  refine v_sub [1, 2, 0] (L1 := [(0, vO 87), (1, vI x1), (8, vI 0)]) rfl ?_
  obtain ⟨s9, e10, h⟩ := lq_0_some h
  refine wl_X14_wrap_214 rx1 FU 0 s7 _ e10 (rgl rfl) ?_
  unfold E_X14_wrap_214
  intro s9' z_
  cases z_
  refine v_aload_n dX14_wrap_252 0 rfl rfl ?_
  refine v_dupO dX14_wrap_253 ?_
  refine v_getI (f := 144) cf14 oc87 rfl (by decide) q2514 dX14_wrap_254 ?_
  refine v_aload_n dX14_wrap_257 0 rfl rfl ?_
  refine v_getI (f := 147) cf14 oc87 rfl (by decide) q2517 dX14_wrap_258 ?_
  refine v_iadd dX14_wrap_261 ?_
  obtain ⟨s11, e12, h⟩ := stp_some h
  refine v_putI (f := 144) cf14 oc87 rfl (by decide) q2514 dX14_wrap_262 rfl rfl ?_
  rw [← e12]
  cases h
  exact v_vret dX14_wrap_265

def j_X14_wrap_94 (x1 : Int) (x6 : Int) (z0 : Int) (z1 : Int) (s : vS) : Option (vS) :=
  vl (or32 z0 z1) fun y1 =>
  if 31 ≤ x6 then
    lq_0 (l_X14_wrap_123 FU x1 y1 x6 0 s) fun s5 =>
    bdv (f_X14_headByte (or32 y1 31) s5) fun s7 =>
    j_X14_wrap_164 x1 s7
  else
    bdv (f_X14_headByte (or32 y1 x6) s) fun s10 =>
    j_X14_wrap_164 x1 s10
theorem wj_X14_wrap_94 {x1 : Int} {x6 : Int} {z0 : Int} {z1 : Int} {s : vS} {out : vS} (h : j_X14_wrap_94 x1 x6 z0 z1 s = some out)  (rx1 : rg x1) (rx6 : rg x6) (rz0 : rg z0) (rz1 : rg z1) : VW cX14_wrap (RX14, none, out, none, 2, 45, 10, []) (P0 []) s 94 [(0, vO 87), (1, vI x1), (6, vI x6)] [vI z1, vI z0] := by
  unfold j_X14_wrap_94 at h
  refine v_ior dX14_wrap_94 ?_
  obtain ⟨y1, e2, h⟩ := vl_some h
  rw [← e2]
  have r3 : rg y1 := by rw [e2]; exact or32_rg _ _
  refine v_istore (L1 := [(7, vI y1), (0, vO 87), (1, vI x1), (6, vI x6)]) dX14_wrap_95 (by decide) rfl ?_
  refine v_iload dX14_wrap_97 3 rfl ?_
  refine v_bipush dX14_wrap_99 rfl ?_
  refine v_icmp_ge (tgt := 116) dX14_wrap_101 rx6 (rgl rfl) (by decide) (fun c4 => ?_) (fun c4 => ?_)
  · rw [if_pos c4] at h
    refine v_iload dX14_wrap_116 3 rfl ?_
    refine v_istore (L1 := [(8, vI x6), (7, vI y1), (0, vO 87), (1, vI x1), (6, vI x6)]) dX14_wrap_118 (by decide) rfl ?_
    refine v_iconst dX14_wrap_120 ?_
    refine v_istore (L1 := [(9, vI 0), (8, vI x6), (7, vI y1), (0, vO 87), (1, vI x1), (6, vI x6)]) dX14_wrap_121 (by decide) rfl ?_
    refine v_sub [3, 4, 2, 1, 0] (L1 := [(0, vO 87), (1, vI x1), (7, vI y1), (8, vI x6), (9, vI 0)]) rfl ?_
    obtain ⟨s5, e6, h⟩ := lq_0_some h
    refine wl_X14_wrap_123 rx1 r3 FU x6 0 s _ e6 rx6 (rgl rfl) ?_
    unfold E_X14_wrap_123
    intro s5' z_
    cases z_
    refine v_aload_n dX14_wrap_155 0 rfl rfl ?_
    refine v_iload dX14_wrap_156 2 rfl ?_
    refine v_bipush dX14_wrap_158 rfl ?_
    refine v_ior dX14_wrap_160 ?_
    obtain ⟨s7, e8, h⟩ := bdv_some h
    have k9 := c_X14_headByte e8 (or32_rg _ _)
    refine v_callV (st := []) cf14 oc87 k9 (lw_V q3470 q3472 qs286 q311 q3473) rfl yk_X14_headByte ⟨Nat.le_of_ble_eq_true rfl, Nat.le_of_ble_eq_true rfl⟩ trivial ⟨kc87, trivial⟩ (Nat.le_of_ble_eq_true rfl) rfl dX14_wrap_161 ?_
    refine v_sub [0, 1] (L1 := [(0, vO 87), (1, vI x1)]) rfl ?_
    exact wj_X14_wrap_164 h rx1
  · rw [if_neg c4] at h
    refine v_aload_n dX14_wrap_104 1 rfl rfl ?_
    refine v_iload dX14_wrap_105 0 rfl ?_
    refine v_iload dX14_wrap_107 3 rfl ?_
    refine v_ior dX14_wrap_109 ?_
    obtain ⟨s10, e11, h⟩ := bdv_some h
    have k12 := c_X14_headByte e11 (or32_rg _ _)
    refine v_callV (st := []) cf14 oc87 k12 (lw_V q3470 q3472 qs286 q311 q3473) rfl yk_X14_headByte ⟨Nat.le_of_ble_eq_true rfl, Nat.le_of_ble_eq_true rfl⟩ trivial ⟨kc87, trivial⟩ (Nat.le_of_ble_eq_true rfl) rfl dX14_wrap_110 ?_
    refine v_goto (tgt := 164) dX14_wrap_113 (by decide) ?_
    refine v_sub [1, 2] (L1 := [(0, vO 87), (1, vI x1)]) rfl ?_
    exact wj_X14_wrap_164 h rx1

def j_X14_wrap_71 (x1 : Int) (x2 : Int) (x4 : Int) (s : vS) : Option (vS) :=
  vl (w32 x2) fun y1 =>
  if x4 = 0 then
    j_X14_wrap_94 x1 y1 (shl32 (w32 (shr64 x2 32)) 6) 0 s
  else
    j_X14_wrap_94 x1 y1 (shl32 (w32 (shr64 x2 32)) 6) 32 s
theorem wj_X14_wrap_71 {x1 : Int} {x2 : Int} {x4 : Int} {s : vS} {out : vS} (h : j_X14_wrap_71 x1 x2 x4 s = some out)  (rx1 : rg x1) (rx2 : rgL x2) (rx4 : rg x4) : VW cX14_wrap (RX14, none, out, none, 2, 45, 10, []) (P0 []) s 71 [(0, vO 87), (1, vI x1), (2, vL x2), (4, vI x4)] [] := by
  unfold j_X14_wrap_71 at h
  refine v_lload_n dX14_wrap_71 2 rfl rfl ?_
  refine v_l2i dX14_wrap_72 ?_
  obtain ⟨y1, e2, h⟩ := vl_some h
  rw [← e2]
  have r3 : rg y1 := by rw [e2]; exact w32_rg _
  refine v_istore (L1 := [(6, vI y1), (0, vO 87), (1, vI x1), (2, vL x2), (4, vI x4)]) dX14_wrap_73 (by decide) rfl ?_
  refine v_lload_n dX14_wrap_75 3 rfl rfl ?_
  refine v_bipush dX14_wrap_76 rfl ?_
  refine v_lshr dX14_wrap_78 ?_
  refine v_l2i dX14_wrap_79 ?_
  refine v_bipush dX14_wrap_80 rfl ?_
  refine v_ishl dX14_wrap_82 ?_
  refine v_iload dX14_wrap_83 4 rfl ?_
  refine v_if_eq (tgt := 93) dX14_wrap_85 rx4 (by decide) (fun c4 => ?_) (fun c4 => ?_)
  · rw [if_pos c4] at h
    refine v_iconst dX14_wrap_93 ?_
    refine v_sub [1, 2, 0] (L1 := [(0, vO 87), (1, vI x1), (6, vI y1)]) rfl ?_
    exact wj_X14_wrap_94 h rx1 r3 (shl32_rg _ _) (rgl rfl)
  · rw [if_neg c4] at h
    refine v_bipush dX14_wrap_88 rfl ?_
    refine v_goto (tgt := 94) dX14_wrap_90 (by decide) ?_
    refine v_sub [1, 2, 0] (L1 := [(0, vO 87), (1, vI x1), (6, vI y1)]) rfl ?_
    exact wj_X14_wrap_94 h rx1 r3 (shl32_rg _ _) (rgl rfl)

def f_X14_wrap (x1 : Int) (x2 : Int) (x4 : Int) (s : vS) : Option (vS) :=
  vl (w32 ((gI s 87 144) - x1)) fun y1 =>
  stp (sI s 87 147 0) fun s4 =>
  if 128 ≤ y1 then
    lq_0 (l_X14_wrap_34 FU x1 x2 x4 y1 s4) fun s7 =>
    bdv (f_X14_headByte (w32 (128 + (gI s7 87 147))) s7) fun s9 =>
    j_X14_wrap_71 x1 x2 x4 s9
  else
    bdv (f_X14_headByte y1 s4) fun s12 =>
    j_X14_wrap_71 x1 x2 x4 s12
theorem yk_X14_wrap : yOk yX14_wrap 3 := ⟨by decide, by decide, by decide +kernel⟩
theorem c_X14_wrap {x1 : Int} {x2 : Int} {x4 : Int} {s : vS} {out : vS} (h : f_X14_wrap x1 x2 x4 s = some out)  (rx1 : rg x1) (rx2 : rgL x2) (rx4 : rg x4) : VC yX14_wrap cX14_wrap 10 none 2 45 [vO 87, vI x1, vL x2, vI x4] s none out [] := by
  unfold f_X14_wrap at h
  refine VC.of RX14 (by decide) rfl (Nat.le_of_ble_eq_true rfl) ?_
  show VW cX14_wrap (RX14, none, out, none, 2, 45, 10, []) (P0 []) s 0 [(0, vO 87), (1, vI x1), (2, vL x2), (4, vI x4)] []
  refine v_aload_n dX14_wrap_0 0 rfl rfl ?_
  refine v_getI (f := 144) cf14 oc87 rfl (by decide) q2514 dX14_wrap_1 ?_
  refine v_iload_n dX14_wrap_4 1 rfl rfl ?_
  refine v_isub dX14_wrap_5 ?_
  obtain ⟨y1, e2, h⟩ := vl_some h
  rw [← e2]
  have r3 : rg y1 := by rw [e2]; exact w32_rg _
  refine v_istore (L1 := [(5, vI y1), (0, vO 87), (1, vI x1), (2, vL x2), (4, vI x4)]) dX14_wrap_6 (by decide) rfl ?_
  refine v_aload_n dX14_wrap_8 1 rfl rfl ?_
  refine v_iconst dX14_wrap_9 ?_
  obtain ⟨s4, e5, h⟩ := stp_some h
  refine v_putI (f := 147) cf14 oc87 rfl (by decide) q2517 dX14_wrap_10 rfl rfl ?_
  rw [← e5]
  refine v_iload dX14_wrap_13 0 rfl ?_
  refine v_sipush dX14_wrap_15 rfl ?_
  refine v_icmp_ge (tgt := 30) dX14_wrap_18 r3 (rgl rfl) (by decide) (fun c6 => ?_) (fun c6 => ?_)
  · rw [if_pos c6] at h
    refine v_iload dX14_wrap_30 0 rfl ?_
    refine v_istore (L1 := [(6, vI y1), (5, vI y1), (0, vO 87), (1, vI x1), (2, vL x2), (4, vI x4)]) dX14_wrap_32 (by decide) rfl ?_
    refine v_sub [2, 3, 4, 5, 0] (L1 := [(0, vO 87), (1, vI x1), (2, vL x2), (4, vI x4), (6, vI y1)]) rfl ?_
    obtain ⟨s7, e8, h⟩ := lq_0_some h
    refine wl_X14_wrap_34 rx1 rx2 rx4 FU y1 s4 _ e8 r3 ?_
    unfold E_X14_wrap_34
    intro s7' z_
    cases z_
    refine v_aload_n dX14_wrap_59 0 rfl rfl ?_
    refine v_sipush dX14_wrap_60 rfl ?_
    refine v_aload_n dX14_wrap_63 0 rfl rfl ?_
    refine v_getI (f := 147) cf14 oc87 rfl (by decide) q2517 dX14_wrap_64 ?_
    refine v_iadd dX14_wrap_67 ?_
    obtain ⟨s9, e10, h⟩ := bdv_some h
    have k11 := c_X14_headByte e10 (w32_rg _)
    refine v_callV (st := []) cf14 oc87 k11 (lw_V q3470 q3472 qs286 q311 q3473) rfl yk_X14_headByte ⟨Nat.le_of_ble_eq_true rfl, Nat.le_of_ble_eq_true rfl⟩ trivial ⟨kc87, trivial⟩ (Nat.le_of_ble_eq_true rfl) rfl dX14_wrap_68 ?_
    exact wj_X14_wrap_71 h rx1 rx2 rx4
  · rw [if_neg c6] at h
    refine v_aload_n dX14_wrap_21 1 rfl rfl ?_
    refine v_iload dX14_wrap_22 0 rfl ?_
    obtain ⟨s12, e13, h⟩ := bdv_some h
    have k14 := c_X14_headByte e13 r3
    refine v_callV (st := []) cf14 oc87 k14 (lw_V q3470 q3472 qs286 q311 q3473) rfl yk_X14_headByte ⟨Nat.le_of_ble_eq_true rfl, Nat.le_of_ble_eq_true rfl⟩ trivial ⟨kc87, trivial⟩ (Nat.le_of_ble_eq_true rfl) rfl dX14_wrap_24 ?_
    refine v_goto (tgt := 71) dX14_wrap_27 (by decide) ?_
    refine v_sub [1, 2, 3, 4] (L1 := [(0, vO 87), (1, vI x1), (2, vL x2), (4, vI x4)]) rfl ?_
    exact wj_X14_wrap_71 h rx1 rx2 rx4
