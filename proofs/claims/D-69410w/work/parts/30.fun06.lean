set_option maxRecDepth 100000
set_option maxHeartbeats 1000000
def E_X13_finish_119 (x3 : Int) (rv : Option vA) (σo : vS) (q : vS) : Prop := ∀ (s' : vS), q = s' → VW cX13_finish (RX13, rv, σo, none, 9, 203, 7, []) (P0 []) s' 183 [(0, vO 54), (3, vI x3)] []
def l_X13_finish_119 : Nat → Int → Int → Int → vS → Option (vS)
  | 0, _, _, _, _ => none
  | n + 1, x3, x4, x5, s =>
    if (w32 ((gI s 54 27) - x3)) ≤ x5 then
      some s
    else
      gd (inb x5 (gN s 82)) <|
      gd (inb (gE s 82 x5) (gN s 80)) <|
      vl (gE s 80 (gE s 82 x5)) fun y4 =>
      gd (inb x5 (gN s 82)) <|
      gd (inb (w32 ((gE s 82 x5) + 1)) (gN s 80)) <|
      bdv (f_X2_all 77 75 (w32 (y4 - x4)) (w32 ((gE s 80 (w32 ((gE s 82 x5) + 1))) - x4)) s) fun s9 =>
      vl (w32 (x5 + 1)) fun y12 =>
      l_X13_finish_119 n x3 x4 y12 s9
theorem wl_X13_finish_119 {x3 : Int} {x4 : Int} {rv : Option vA} {σo : vS}  (rx3 : rg x3) (rx4 : rg x4) : ∀ (n : Nat) (x5 : Int) (s : vS) (q : vS), l_X13_finish_119 n x3 x4 x5 s = some q → rg x5 → E_X13_finish_119 x3 rv σo q → VW cX13_finish (RX13, rv, σo, none, 9, 203, 7, []) (P0 []) s 119 [(0, vO 54), (3, vI x3), (4, vI x4), (5, vI x5)] [] := by
  intro n
  induction n with
  | zero => intro x5 s q h; cases h
  | succ n ih =>
    intro x5 s q h rx5 hE
    unfold l_X13_finish_119 at h
    refine v_iload dX13_finish_119 3 rfl ?_
    refine v_aload_n dX13_finish_121 0 rfl rfl ?_
    refine v_getI (f := 27) cf13 oc54 rfl (by decide) q797 dX13_finish_122 ?_
    refine v_iload_n dX13_finish_125 1 rfl rfl ?_
    refine v_isub dX13_finish_126 ?_
    refine v_icmp_ge (tgt := 183) dX13_finish_127 rx5 (w32_rg _) (by decide) (fun c1 => ?_) (fun c1 => ?_)
    · rw [if_pos c1] at h
      cases h
      refine v_sub [0, 1] (L1 := [(0, vO 54), (3, vI x3)]) rfl ?_
      exact hE _ rfl 
    · rw [if_neg c1] at h
      refine v_aload_n dX13_finish_130 0 rfl rfl ?_
      refine v_getS (f := 25) (t := 80) cf13 oc54 rfl rfl rfl (by decide) q795 dX13_finish_131 ?_
      refine v_aload_n dX13_finish_134 0 rfl rfl ?_
      refine v_getS (f := 28) (t := 82) cf13 oc54 rfl rfl rfl (by decide) q798 dX13_finish_135 ?_
      refine v_iload dX13_finish_138 3 rfl ?_
      obtain ⟨g2, h⟩ := gd_some h
      refine v_iald oc82 rx5 g2.1 g2.2 dX13_finish_140 ?_
      obtain ⟨g3, h⟩ := gd_some h
      refine v_iald oc80 (gE_rg _ _ _) g3.1 g3.2 dX13_finish_141 ?_
      obtain ⟨y4, e5, h⟩ := vl_some h
      rw [← e5]
      have r6 : rg y4 := by rw [e5]; exact gE_rg _ _ _
      refine v_istore (L1 := [(6, vI y4), (0, vO 54), (3, vI x3), (4, vI x4), (5, vI x5)]) dX13_finish_142 (by decide) rfl ?_
      refine v_aload_n dX13_finish_144 1 rfl rfl ?_
      refine v_getS (f := 23) (t := 77) cf13 oc54 rfl rfl rfl (by decide) q793 dX13_finish_145 ?_
      refine v_aload_n dX13_finish_148 1 rfl rfl ?_
      refine v_getS (f := 22) (t := 75) cf13 oc54 rfl rfl rfl (by decide) q792 dX13_finish_149 ?_
      refine v_iload dX13_finish_152 0 rfl ?_
      refine v_iload dX13_finish_154 3 rfl ?_
      refine v_isub dX13_finish_156 ?_
      refine v_aload_n dX13_finish_157 1 rfl rfl ?_
      refine v_getS (f := 25) (t := 80) cf13 oc54 rfl rfl rfl (by decide) q795 dX13_finish_158 ?_
      refine v_aload_n dX13_finish_161 1 rfl rfl ?_
      refine v_getS (f := 28) (t := 82) cf13 oc54 rfl rfl rfl (by decide) q798 dX13_finish_162 ?_
      refine v_iload dX13_finish_165 4 rfl ?_
      obtain ⟨g7, h⟩ := gd_some h
      refine v_iald oc82 rx5 g7.1 g7.2 dX13_finish_167 ?_
      refine v_iconst dX13_finish_168 ?_
      refine v_iadd dX13_finish_169 ?_
      obtain ⟨g8, h⟩ := gd_some h
      refine v_iald oc80 (w32_rg _) g8.1 g8.2 dX13_finish_170 ?_
      refine v_iload dX13_finish_171 3 rfl ?_
      refine v_isub dX13_finish_173 ?_
      obtain ⟨s9, e10, h⟩ := bdv_some h
      have k11 := c_X2_all e10 (⟨by decide, rfl⟩ : okB 77 1) (⟨by decide, rfl⟩ : okB 75 1) (w32_rg _) (w32_rg _)
      refine v_callV (st := []) cf2 oc77 k11 (lw_V q2217 q1059 q1060 q299 q1061) rfl yk_X2_all ⟨Nat.le_of_ble_eq_true rfl, Nat.le_of_ble_eq_true rfl⟩ trivial ⟨kc54, trivial⟩ (Nat.le_of_ble_eq_true rfl) rfl dX13_finish_174 ?_
      obtain ⟨y12, e13, h⟩ := vl_some h
      refine v_iinc (L1 := [(5, vI (w32 (x5 + 1))), (6, vI y4), (0, vO 54), (3, vI x3), (4, vI x4)]) dX13_finish_177 4 rfl (by decide) rfl ?_
      rw [← e13]
      have r14 : rg y12 := by rw [e13]; exact w32_rg _
      refine v_goto (tgt := 119) dX13_finish_180 (by decide) ?_
      refine v_sub [2, 3, 4, 0] (L1 := [(0, vO 54), (3, vI x3), (4, vI x4), (5, vI y12)]) rfl ?_
      exact ih y12 s9 _ h r14 hE

def f_X13_finish (x1 : Int) (s : vS) : Option (vS) :=
  gd (inb x1 (gN s 67)) <|
  vl (gE s 67 x1) fun y2 =>
  gd (inb x1 (gN s 81)) <|
  vl (gE s 81 x1) fun y6 =>
  bd (f_X13_isAround y2 s) fun r12 s9 =>
  if r12 = 0 then
    bd (f_X13_kind y2 s9) fun r22 s19 =>
    if r22 = 15 then
      if (w32 ((gI s19 54 27) - y6)) ≤ 1 then
        stp (sI s19 54 27 y6) fun s30 =>
        stp (sI s30 54 18 (w32 ((gI s30 54 18) - 1))) fun s32 =>
        some s32
      else
        bd (f_X2_size 77 s19) fun r37 s34 =>
        gd (gN s34 80 = gN s19 80) <|
        gd (inb (gI s19 54 27) (gN s34 80)) <|
        stp (sE s34 80 (gI s19 54 27) r37) fun s41 =>
        bdv (f_X13_sort y6 (gI s41 54 27) 0 s41) fun s43 =>
        bdv (f_X2_clear 75 s43) fun s46 =>
        gd (inb y6 (gN s46 80)) <|
        bd (f_X2_size 77 s46) fun r53 s50 =>
        bdv (f_X2_all 75 77 (gE s46 80 y6) r53 s50) fun s55 =>
        gd (inb y6 (gN s55 80)) <|
        vl (gE s55 80 y6) fun y59 =>
        bdv (f_X2_cut 77 y59 s55) fun s62 =>
        lq_0 (l_X13_finish_119 FU y6 y59 0 s62) fun s65 =>
        stp (sI s65 54 27 y6) fun s67 =>
        stp (sI s67 54 18 (w32 ((gI s67 54 18) - 1))) fun s69 =>
        some s69
    else
      stp (sI s19 54 27 y6) fun s25 =>
      stp (sI s25 54 18 (w32 ((gI s25 54 18) - 1))) fun s27 =>
      some s27
  else
    stp (sI s9 54 27 y6) fun s15 =>
    stp (sI s15 54 18 (w32 ((gI s15 54 18) - 1))) fun s17 =>
    some s17
theorem yk_X13_finish : yOk yX13_finish 1 := ⟨by decide, by decide, by decide +kernel⟩
theorem c_X13_finish {x1 : Int} {s : vS} {out : vS} (h : f_X13_finish x1 s = some out)  (rx1 : rg x1) : VC yX13_finish cX13_finish 7 none 9 203 [vO 54, vI x1] s none out [] := by
  unfold f_X13_finish at h
  refine VC.of RX13 (by decide) rfl (Nat.le_of_ble_eq_true rfl) ?_
  show VW cX13_finish (RX13, none, out, none, 9, 203, 7, []) (P0 []) s 0 [(0, vO 54), (1, vI x1)] []
  refine v_aload_n dX13_finish_0 0 rfl rfl ?_
  refine v_getS (f := 14) (t := 67) cf13 oc54 rfl rfl rfl (by decide) q784 dX13_finish_1 ?_
  refine v_iload_n dX13_finish_4 1 rfl rfl ?_
  obtain ⟨g1, h⟩ := gd_some h
  refine v_iald oc67 rx1 g1.1 g1.2 dX13_finish_5 ?_
  obtain ⟨y2, e3, h⟩ := vl_some h
  rw [← e3]
  have r4 : rg y2 := by rw [e3]; exact gE_rg _ _ _
  refine v_istore_n (L1 := [(2, vI y2), (0, vO 54), (1, vI x1)]) dX13_finish_6 rfl (by decide) rfl ?_
  refine v_aload_n dX13_finish_7 1 rfl rfl ?_
  refine v_getS (f := 26) (t := 81) cf13 oc54 rfl rfl rfl (by decide) q796 dX13_finish_8 ?_
  refine v_iload_n dX13_finish_11 2 rfl rfl ?_
  obtain ⟨g5, h⟩ := gd_some h
  refine v_iald oc81 rx1 g5.1 g5.2 dX13_finish_12 ?_
  obtain ⟨y6, e7, h⟩ := vl_some h
  rw [← e7]
  have r8 : rg y6 := by rw [e7]; exact gE_rg _ _ _
  refine v_istore_n (L1 := [(3, vI y6), (2, vI y2), (0, vO 54), (1, vI x1)]) dX13_finish_13 rfl (by decide) rfl ?_
  refine v_aload_n dX13_finish_14 2 rfl rfl ?_
  refine v_iload_n dX13_finish_15 1 rfl rfl ?_
  obtain ⟨r12, s9, e10, h⟩ := bd_some h
  have k11 := c_X13_isAround e10 r4
  have r13 : rg r12 := k11.1.2.2
  refine v_callV (st := []) cf13 oc54 k11 (lw_V q2175 q2177 qs131 q310 q2178) rfl yk_X13_isAround ⟨Nat.le_of_ble_eq_true rfl, Nat.le_of_ble_eq_true rfl⟩ trivial ⟨kc54, trivial⟩ (Nat.le_of_ble_eq_true rfl) rfl dX13_finish_16 ?_
  refine v_if_ne (tgt := 183) dX13_finish_19 r13 (by decide) (fun c14 => ?_) (fun c14 => ?_)
  · rw [if_neg c14] at h
    refine v_aload_n dX13_finish_183 2 rfl rfl ?_
    refine v_iload_n dX13_finish_184 0 rfl rfl ?_
    obtain ⟨s15, e16, h⟩ := stp_some h
    refine v_putI (f := 27) cf13 oc54 rfl (by decide) q797 dX13_finish_185 rfl rfl ?_
    rw [← e16]
    refine v_aload_n dX13_finish_188 2 rfl rfl ?_
    refine v_dupO dX13_finish_189 ?_
    refine v_getI (f := 18) cf13 oc54 rfl (by decide) q788 dX13_finish_190 ?_
    refine v_iconst dX13_finish_193 ?_
    refine v_isub dX13_finish_194 ?_
    obtain ⟨s17, e18, h⟩ := stp_some h
    refine v_putI (f := 18) cf13 oc54 rfl (by decide) q788 dX13_finish_195 rfl rfl ?_
    rw [← e18]
    cases h
    exact v_vret dX13_finish_198
  · rw [if_pos c14] at h
    refine v_aload_n dX13_finish_22 2 rfl rfl ?_
    refine v_iload_n dX13_finish_23 1 rfl rfl ?_
    obtain ⟨r22, s19, e20, h⟩ := bd_some h
    have k21 := c_X13_kind e20 r4
    have r23 : rg r22 := k21.1.2.2
    refine v_callV (st := []) cf13 oc54 k21 (lw_V q2170 q2172 qs130 q310 q2173) rfl yk_X13_kind ⟨Nat.le_of_ble_eq_true rfl, Nat.le_of_ble_eq_true rfl⟩ trivial ⟨kc54, trivial⟩ (Nat.le_of_ble_eq_true rfl) rfl dX13_finish_24 ?_
    refine v_bipush dX13_finish_27 rfl ?_
    refine v_icmp_ne (tgt := 183) dX13_finish_29 r23 (rgl rfl) (by decide) (fun c24 => ?_) (fun c24 => ?_)
    · rw [if_neg c24] at h
      refine v_aload_n dX13_finish_183 2 rfl rfl ?_
      refine v_iload_n dX13_finish_184 0 rfl rfl ?_
      obtain ⟨s25, e26, h⟩ := stp_some h
      refine v_putI (f := 27) cf13 oc54 rfl (by decide) q797 dX13_finish_185 rfl rfl ?_
      rw [← e26]
      refine v_aload_n dX13_finish_188 2 rfl rfl ?_
      refine v_dupO dX13_finish_189 ?_
      refine v_getI (f := 18) cf13 oc54 rfl (by decide) q788 dX13_finish_190 ?_
      refine v_iconst dX13_finish_193 ?_
      refine v_isub dX13_finish_194 ?_
      obtain ⟨s27, e28, h⟩ := stp_some h
      refine v_putI (f := 18) cf13 oc54 rfl (by decide) q788 dX13_finish_195 rfl rfl ?_
      rw [← e28]
      cases h
      exact v_vret dX13_finish_198
    · rw [if_pos c24] at h
      refine v_aload_n dX13_finish_32 2 rfl rfl ?_
      refine v_getI (f := 27) cf13 oc54 rfl (by decide) q797 dX13_finish_33 ?_
      refine v_iload_n dX13_finish_36 0 rfl rfl ?_
      refine v_isub dX13_finish_37 ?_
      refine v_iconst dX13_finish_38 ?_
      refine v_icmp_le (tgt := 183) dX13_finish_39 (w32_rg _) (rgl rfl) (by decide) (fun c29 => ?_) (fun c29 => ?_)
      · rw [if_pos c29] at h
        refine v_aload_n dX13_finish_183 2 rfl rfl ?_
        refine v_iload_n dX13_finish_184 0 rfl rfl ?_
        obtain ⟨s30, e31, h⟩ := stp_some h
        refine v_putI (f := 27) cf13 oc54 rfl (by decide) q797 dX13_finish_185 rfl rfl ?_
        rw [← e31]
        refine v_aload_n dX13_finish_188 2 rfl rfl ?_
        refine v_dupO dX13_finish_189 ?_
        refine v_getI (f := 18) cf13 oc54 rfl (by decide) q788 dX13_finish_190 ?_
        refine v_iconst dX13_finish_193 ?_
        refine v_isub dX13_finish_194 ?_
        obtain ⟨s32, e33, h⟩ := stp_some h
        refine v_putI (f := 18) cf13 oc54 rfl (by decide) q788 dX13_finish_195 rfl rfl ?_
        rw [← e33]
        cases h
        exact v_vret dX13_finish_198
      · rw [if_neg c29] at h
        refine v_aload_n dX13_finish_42 2 rfl rfl ?_
        refine v_getS (f := 25) (t := 80) cf13 oc54 rfl rfl rfl (by decide) q795 dX13_finish_43 ?_
        refine v_aload_n dX13_finish_46 2 rfl rfl ?_
        refine v_getI (f := 27) cf13 oc54 rfl (by decide) q797 dX13_finish_47 ?_
        refine v_aload_n dX13_finish_50 2 rfl rfl ?_
        refine v_getS (f := 23) (t := 77) cf13 oc54 rfl rfl rfl (by decide) q793 dX13_finish_51 ?_
        obtain ⟨r37, s34, e35, h⟩ := bd_some h
        have k36 := c_X2_size e35 (⟨by decide, rfl⟩ : okB 77 1)
        have r38 : rg r37 := k36.1.2.2
        obtain ⟨g39, h⟩ := gd_some h
        refine v_callV (st := [vI (gI s19 54 27), vO 80]) cf2 oc77 k36 (lw_V q2191 q918 q919 q299 q920) rfl yk_X2_size ⟨Nat.le_of_ble_eq_true rfl, Nat.le_of_ble_eq_true rfl⟩ ⟨(kp_arr (by decide) g39), trivial⟩ ⟨kc54, trivial⟩ (Nat.le_of_ble_eq_true rfl) rfl dX13_finish_54 ?_
        obtain ⟨g40, h⟩ := gd_some h
        obtain ⟨s41, e42, h⟩ := stp_some h
        refine v_iast oc80 (gI_rg _ _ _) g40.1 g40.2 dX13_finish_57 ?_
        rw [← e42]
        refine v_aload_n dX13_finish_58 2 rfl rfl ?_
        refine v_iload_n dX13_finish_59 0 rfl rfl ?_
        refine v_aload_n dX13_finish_60 2 rfl rfl ?_
        refine v_getI (f := 27) cf13 oc54 rfl (by decide) q797 dX13_finish_61 ?_
        refine v_iconst dX13_finish_64 ?_
        obtain ⟨s43, e44, h⟩ := bdv_some h
        have k45 := c_X13_sort e44 r8 (gI_rg _ _ _) (rgl rfl)
        refine v_callV (st := []) cf13 oc54 k45 (lw_V q2330 q2332 qs152 q310 q2333) rfl yk_X13_sort ⟨Nat.le_of_ble_eq_true rfl, Nat.le_of_ble_eq_true rfl⟩ trivial ⟨kc54, trivial⟩ (Nat.le_of_ble_eq_true rfl) rfl dX13_finish_65 ?_
        refine v_aload_n dX13_finish_68 2 rfl rfl ?_
        refine v_getS (f := 22) (t := 75) cf13 oc54 rfl rfl rfl (by decide) q792 dX13_finish_69 ?_
        obtain ⟨s46, e47, h⟩ := bdv_some h
        have k48 := c_X2_clear e47 (⟨by decide, rfl⟩ : okB 75 1)
        refine v_callV (st := []) cf2 oc75 k48 (lw_V q2144 q1055 q1056 q299 q1057) rfl yk_X2_clear ⟨Nat.le_of_ble_eq_true rfl, Nat.le_of_ble_eq_true rfl⟩ trivial ⟨kc54, trivial⟩ (Nat.le_of_ble_eq_true rfl) rfl dX13_finish_72 ?_
        refine v_aload_n dX13_finish_75 2 rfl rfl ?_
        refine v_getS (f := 22) (t := 75) cf13 oc54 rfl rfl rfl (by decide) q792 dX13_finish_76 ?_
        refine v_aload_n dX13_finish_79 2 rfl rfl ?_
        refine v_getS (f := 23) (t := 77) cf13 oc54 rfl rfl rfl (by decide) q793 dX13_finish_80 ?_
        refine v_aload_n dX13_finish_83 2 rfl rfl ?_
        refine v_getS (f := 25) (t := 80) cf13 oc54 rfl rfl rfl (by decide) q795 dX13_finish_84 ?_
        refine v_iload_n dX13_finish_87 0 rfl rfl ?_
        obtain ⟨g49, h⟩ := gd_some h
        refine v_iald oc80 r8 g49.1 g49.2 dX13_finish_88 ?_
        refine v_aload_n dX13_finish_89 2 rfl rfl ?_
        refine v_getS (f := 23) (t := 77) cf13 oc54 rfl rfl rfl (by decide) q793 dX13_finish_90 ?_
        obtain ⟨r53, s50, e51, h⟩ := bd_some h
        have k52 := c_X2_size e51 (⟨by decide, rfl⟩ : okB 77 1)
        have r54 : rg r53 := k52.1.2.2
        refine v_callV (st := [vI (gE s46 80 y6), vO 77, vO 75]) cf2 oc77 k52 (lw_V q2191 q918 q919 q299 q920) rfl yk_X2_size ⟨Nat.le_of_ble_eq_true rfl, Nat.le_of_ble_eq_true rfl⟩ ⟨kc77, kc75, trivial⟩ ⟨kc54, trivial⟩ (Nat.le_of_ble_eq_true rfl) rfl dX13_finish_93 ?_
        obtain ⟨s55, e56, h⟩ := bdv_some h
        have k57 := c_X2_all e56 (⟨by decide, rfl⟩ : okB 75 1) (⟨by decide, rfl⟩ : okB 77 1) (gE_rg _ _ _) r54
        refine v_callV (st := []) cf2 oc75 k57 (lw_V q2217 q1059 q1060 q299 q1061) rfl yk_X2_all ⟨Nat.le_of_ble_eq_true rfl, Nat.le_of_ble_eq_true rfl⟩ trivial ⟨kc54, trivial⟩ (Nat.le_of_ble_eq_true rfl) rfl dX13_finish_96 ?_
        refine v_aload_n dX13_finish_99 2 rfl rfl ?_
        refine v_getS (f := 25) (t := 80) cf13 oc54 rfl rfl rfl (by decide) q795 dX13_finish_100 ?_
        refine v_iload_n dX13_finish_103 0 rfl rfl ?_
        obtain ⟨g58, h⟩ := gd_some h
        refine v_iald oc80 r8 g58.1 g58.2 dX13_finish_104 ?_
        obtain ⟨y59, e60, h⟩ := vl_some h
        rw [← e60]
        have r61 : rg y59 := by rw [e60]; exact gE_rg _ _ _
        refine v_istore (L1 := [(4, vI y59), (3, vI y6), (2, vI y2), (0, vO 54), (1, vI x1)]) dX13_finish_105 (by decide) rfl ?_
        refine v_aload_n dX13_finish_107 3 rfl rfl ?_
        refine v_getS (f := 23) (t := 77) cf13 oc54 rfl rfl rfl (by decide) q793 dX13_finish_108 ?_
        refine v_iload dX13_finish_111 0 rfl ?_
        obtain ⟨s62, e63, h⟩ := bdv_some h
        have k64 := c_X2_cut e63 (⟨by decide, rfl⟩ : okB 77 1) r61
        refine v_callV (st := []) cf2 oc77 k64 (lw_V q2347 q1040 q1041 q299 q1042) rfl yk_X2_cut ⟨Nat.le_of_ble_eq_true rfl, Nat.le_of_ble_eq_true rfl⟩ trivial ⟨kc54, trivial⟩ (Nat.le_of_ble_eq_true rfl) rfl dX13_finish_113 ?_
        refine v_iconst dX13_finish_116 ?_
        refine v_istore (L1 := [(5, vI 0), (4, vI y59), (3, vI y6), (2, vI y2), (0, vO 54), (1, vI x1)]) dX13_finish_117 (by decide) rfl ?_
        refine v_sub [4, 2, 1, 0] (L1 := [(0, vO 54), (3, vI y6), (4, vI y59), (5, vI 0)]) rfl ?_
        obtain ⟨s65, e66, h⟩ := lq_0_some h
        refine wl_X13_finish_119 r8 r61 FU 0 s62 _ e66 (rgl rfl) ?_
        unfold E_X13_finish_119
        intro s65' z_
        cases z_
        refine v_aload_n dX13_finish_183 0 rfl rfl ?_
        refine v_iload_n dX13_finish_184 1 rfl rfl ?_
        obtain ⟨s67, e68, h⟩ := stp_some h
        refine v_putI (f := 27) cf13 oc54 rfl (by decide) q797 dX13_finish_185 rfl rfl ?_
        rw [← e68]
        refine v_aload_n dX13_finish_188 0 rfl rfl ?_
        refine v_dupO dX13_finish_189 ?_
        refine v_getI (f := 18) cf13 oc54 rfl (by decide) q788 dX13_finish_190 ?_
        refine v_iconst dX13_finish_193 ?_
        refine v_isub dX13_finish_194 ?_
        obtain ⟨s69, e70, h⟩ := stp_some h
        refine v_putI (f := 18) cf13 oc54 rfl (by decide) q788 dX13_finish_195 rfl rfl ?_
        rw [← e70]
        cases h
        exact v_vret dX13_finish_198

def E_X13_write_26 (rv : Option vA) (σo : vS) (q : vS) : Prop := ∀ (s' : vS), q = s' → VW cX13_write (RX13, rv, σo, (some (.object "SchemaWorkshop$Bytes")), 11, 249, 3, []) (P0 []) s' 99 [(0, vO 54)] []
def l_X13_write_26 : Nat → vS → Option (vS)
  | 0, _ => none
  | n + 1, s =>
    if (gI s 54 18) ≤ 0 then
      some s
    else
      vl (w32 ((gI s 54 18) - 1)) fun y2 =>
      gd (inb y2 (gN s 68)) <|
      vl (gE s 68 y2) fun y6 =>
      if y6 = (gI s 54 27) then
        bdv (f_X13_finish y2 s) fun s27 =>
        l_X13_write_26 n s27
      else
        gd (inb y2 (gN s 68)) <|
        gd (inb y2 (gN s 68)) <|
        stp (sE s 68 y2 (w32 ((gE s 68 y2) + 1))) fun s12 =>
        bd (f_X2_size 77 s12) fun r17 s14 =>
        gd (gN s14 80 = gN s12 80) <|
        gd (inb y6 (gN s14 80)) <|
        stp (sE s14 80 y6 r17) fun s21 =>
        gd (inb y6 (gN s21 79)) <|
        bdv (f_X13_put (gE s21 79 y6) s21) fun s24 =>
        l_X13_write_26 n s24
theorem wl_X13_write_26 {rv : Option vA} {σo : vS}  : ∀ (n : Nat) (s : vS) (q : vS), l_X13_write_26 n  s = some q → E_X13_write_26 rv σo q → VW cX13_write (RX13, rv, σo, (some (.object "SchemaWorkshop$Bytes")), 11, 249, 3, []) (P0 []) s 26 [(0, vO 54)] [] := by
  intro n
  induction n with
  | zero => intro s q h; cases h
  | succ n ih =>
    intro s q h  hE
    unfold l_X13_write_26 at h
    refine v_aload_n dX13_write_26 0 rfl rfl ?_
    refine v_getI (f := 18) cf13 oc54 rfl (by decide) q788 dX13_write_27 ?_
    refine v_if_le (tgt := 99) dX13_write_30 (gI_rg _ _ _) (by decide) (fun c1 => ?_) (fun c1 => ?_)
    · rw [if_pos c1] at h
      cases h
      exact hE _ rfl 
    · rw [if_neg c1] at h
      refine v_aload_n dX13_write_33 0 rfl rfl ?_
      refine v_getI (f := 18) cf13 oc54 rfl (by decide) q788 dX13_write_34 ?_
      refine v_iconst dX13_write_37 ?_
      refine v_isub dX13_write_38 ?_
      obtain ⟨y2, e3, h⟩ := vl_some h
      rw [← e3]
      have r4 : rg y2 := by rw [e3]; exact w32_rg _
      refine v_istore_n (L1 := [(1, vI y2), (0, vO 54)]) dX13_write_39 rfl (by decide) rfl ?_
      refine v_aload_n dX13_write_40 1 rfl rfl ?_
      refine v_getS (f := 15) (t := 68) cf13 oc54 rfl rfl rfl (by decide) q785 dX13_write_41 ?_
      refine v_iload_n dX13_write_44 0 rfl rfl ?_
      obtain ⟨g5, h⟩ := gd_some h
      refine v_iald oc68 r4 g5.1 g5.2 dX13_write_45 ?_
      obtain ⟨y6, e7, h⟩ := vl_some h
      rw [← e7]
      have r8 : rg y6 := by rw [e7]; exact gE_rg _ _ _
      refine v_istore_n (L1 := [(2, vI y6), (1, vI y2), (0, vO 54)]) dX13_write_46 rfl (by decide) rfl ?_
      refine v_iload_n dX13_write_47 0 rfl rfl ?_
      refine v_aload_n dX13_write_48 2 rfl rfl ?_
      refine v_getI (f := 27) cf13 oc54 rfl (by decide) q797 dX13_write_49 ?_
      refine v_icmp_ne (tgt := 63) dX13_write_52 r8 (gI_rg _ _ _) (by decide) (fun c9 => ?_) (fun c9 => ?_)
      · rw [if_neg c9] at h
        refine v_aload_n dX13_write_63 2 rfl rfl ?_
        refine v_getS (f := 15) (t := 68) cf13 oc54 rfl rfl rfl (by decide) q785 dX13_write_64 ?_
        refine v_iload_n dX13_write_67 1 rfl rfl ?_
        refine v_dup2IO dX13_write_68 ?_
        obtain ⟨g10, h⟩ := gd_some h
        refine v_iald oc68 r4 g10.1 g10.2 dX13_write_69 ?_
        refine v_iconst dX13_write_70 ?_
        refine v_iadd dX13_write_71 ?_
        obtain ⟨g11, h⟩ := gd_some h
        obtain ⟨s12, e13, h⟩ := stp_some h
        refine v_iast oc68 r4 g11.1 g11.2 dX13_write_72 ?_
        rw [← e13]
        refine v_aload_n dX13_write_73 2 rfl rfl ?_
        refine v_getS (f := 25) (t := 80) cf13 oc54 rfl rfl rfl (by decide) q795 dX13_write_74 ?_
        refine v_iload_n dX13_write_77 0 rfl rfl ?_
        refine v_aload_n dX13_write_78 2 rfl rfl ?_
        refine v_getS (f := 23) (t := 77) cf13 oc54 rfl rfl rfl (by decide) q793 dX13_write_79 ?_
        obtain ⟨r17, s14, e15, h⟩ := bd_some h
        have k16 := c_X2_size e15 (⟨by decide, rfl⟩ : okB 77 1)
        have r18 : rg r17 := k16.1.2.2
        obtain ⟨g19, h⟩ := gd_some h
        refine v_callV (st := [vI y6, vO 80]) cf2 oc77 k16 (lw_V q2191 q918 q919 q299 q920) rfl yk_X2_size ⟨Nat.le_of_ble_eq_true rfl, Nat.le_of_ble_eq_true rfl⟩ ⟨(kp_arr (by decide) g19), trivial⟩ ⟨kc54, trivial⟩ (Nat.le_of_ble_eq_true rfl) rfl dX13_write_82 ?_
        obtain ⟨g20, h⟩ := gd_some h
        obtain ⟨s21, e22, h⟩ := stp_some h
        refine v_iast oc80 r8 g20.1 g20.2 dX13_write_85 ?_
        rw [← e22]
        refine v_aload_n dX13_write_86 2 rfl rfl ?_
        refine v_aload_n dX13_write_87 2 rfl rfl ?_
        refine v_getS (f := 24) (t := 79) cf13 oc54 rfl rfl rfl (by decide) q794 dX13_write_88 ?_
        refine v_iload_n dX13_write_91 0 rfl rfl ?_
        obtain ⟨g23, h⟩ := gd_some h
        refine v_iald oc79 r8 g23.1 g23.2 dX13_write_92 ?_
        obtain ⟨s24, e25, h⟩ := bdv_some h
        have k26 := c_X13_put e25 (gE_rg _ _ _)
        refine v_callV (st := []) cf13 oc54 k26 (lw_V q2318 q2320 qs149 q310 q2321) rfl yk_X13_put ⟨Nat.le_of_ble_eq_true rfl, Nat.le_of_ble_eq_true rfl⟩ trivial ⟨kc54, trivial⟩ (Nat.le_of_ble_eq_true rfl) rfl dX13_write_93 ?_
        refine v_goto (tgt := 26) dX13_write_96 (by decide) ?_
        refine v_sub [2] (L1 := [(0, vO 54)]) rfl ?_
        exact ih s24 _ h  hE
      · rw [if_pos c9] at h
        refine v_aload_n dX13_write_55 2 rfl rfl ?_
        refine v_iload_n dX13_write_56 1 rfl rfl ?_
        obtain ⟨s27, e28, h⟩ := bdv_some h
        have k29 := c_X13_finish e28 r4
        refine v_callV (st := []) cf13 oc54 k29 (lw_V q2343 q2345 qs155 q310 q2346) rfl yk_X13_finish ⟨Nat.le_of_ble_eq_true rfl, Nat.le_of_ble_eq_true rfl⟩ trivial ⟨kc54, trivial⟩ (Nat.le_of_ble_eq_true rfl) rfl dX13_write_57 ?_
        refine v_goto (tgt := 96) dX13_write_60 (by decide) ?_
        refine v_goto (tgt := 26) dX13_write_96 (by decide) ?_
        refine v_sub [2] (L1 := [(0, vO 54)]) rfl ?_
        exact ih s27 _ h  hE

def f_X13_write (s : vS) : Option (Nat × vS) :=
  bdv (f_X2_clear 77 s) fun s1 =>
  bdv (f_X13_measure s1) fun s4 =>
  stp (sI s4 54 18 0) fun s7 =>
  stp (sI s7 54 27 0) fun s9 =>
  bdv (f_X13_put 0 s9) fun s11 =>
  lq_0 (l_X13_write_26 FU s11) fun s14 =>
  some (77, s14)
theorem yk_X13_write : yOk yX13_write 0 := ⟨by decide, by decide, by decide +kernel⟩
theorem c_X13_write {s : vS} {out : Nat × vS} (h : f_X13_write s = some out)   : VC yX13_write cX13_write 3 (some (.object "SchemaWorkshop$Bytes")) 11 249 [vO 54] s (some (vO out.1)) out.2 [] := by
  unfold f_X13_write at h
  refine VC.of RX13 (by decide) rfl (Nat.le_of_ble_eq_true rfl) ?_
  show VW cX13_write (RX13, (some (vO out.1)), out.2, (some (.object "SchemaWorkshop$Bytes")), 11, 249, 3, []) (P0 []) s 0 [(0, vO 54)] []
  refine v_aload_n dX13_write_0 0 rfl rfl ?_
  refine v_getS (f := 23) (t := 77) cf13 oc54 rfl rfl rfl (by decide) q793 dX13_write_1 ?_
  obtain ⟨s1, e2, h⟩ := bdv_some h
  have k3 := c_X2_clear e2 (⟨by decide, rfl⟩ : okB 77 1)
  refine v_callV (st := []) cf2 oc77 k3 (lw_V q2144 q1055 q1056 q299 q1057) rfl yk_X2_clear ⟨Nat.le_of_ble_eq_true rfl, Nat.le_of_ble_eq_true rfl⟩ trivial ⟨kc54, trivial⟩ (Nat.le_of_ble_eq_true rfl) rfl dX13_write_4 ?_
  refine v_aload_n dX13_write_7 0 rfl rfl ?_
  obtain ⟨s4, e5, h⟩ := bdv_some h
  have k6 := c_X13_measure e5
  refine v_callV (st := []) cf13 oc54 k6 (lw_V q2289 q2291 qs146 q310 q2292) rfl yk_X13_measure ⟨Nat.le_of_ble_eq_true rfl, Nat.le_of_ble_eq_true rfl⟩ trivial ⟨kc54, trivial⟩ (Nat.le_of_ble_eq_true rfl) rfl dX13_write_8 ?_
  refine v_aload_n dX13_write_11 0 rfl rfl ?_
  refine v_iconst dX13_write_12 ?_
  obtain ⟨s7, e8, h⟩ := stp_some h
  refine v_putI (f := 18) cf13 oc54 rfl (by decide) q788 dX13_write_13 rfl rfl ?_
  rw [← e8]
  refine v_aload_n dX13_write_16 0 rfl rfl ?_
  refine v_iconst dX13_write_17 ?_
  obtain ⟨s9, e10, h⟩ := stp_some h
  refine v_putI (f := 27) cf13 oc54 rfl (by decide) q797 dX13_write_18 rfl rfl ?_
  rw [← e10]
  refine v_aload_n dX13_write_21 0 rfl rfl ?_
  refine v_iconst dX13_write_22 ?_
  obtain ⟨s11, e12, h⟩ := bdv_some h
  have k13 := c_X13_put e12 (rgl rfl)
  refine v_callV (st := []) cf13 oc54 k13 (lw_V q2318 q2320 qs149 q310 q2321) rfl yk_X13_put ⟨Nat.le_of_ble_eq_true rfl, Nat.le_of_ble_eq_true rfl⟩ trivial ⟨kc54, trivial⟩ (Nat.le_of_ble_eq_true rfl) rfl dX13_write_23 ?_
  obtain ⟨s14, e15, h⟩ := lq_0_some h
  refine wl_X13_write_26  FU  s11 _ e15  ?_
  unfold E_X13_write_26
  intro s14' z_
  cases z_
  refine v_aload_n dX13_write_99 0 rfl rfl ?_
  refine v_getS (f := 23) (t := 77) cf13 oc54 rfl rfl rfl (by decide) q793 dX13_write_100 ?_
  cases h
  exact v_aret dX13_write_103

def j_X1_transcode_133 (x2 : Int) (x3 : Int) (s : vS) : Option ((Int × vS) ⊕ (Nat × vS)) :=
  bdv (f_X2_clear 1 s) fun s1 =>
  bxv (f_X1_tell x2 x3 s1) fun s4 =>
  nx <|
  bd (f_X2_size 84 s4) fun r10 s7 =>
  some (r10, s7)
theorem wj_X1_transcode_133 {x2 : Int} {x3 : Int} {s : vS} {out : Int × vS} (h : j_X1_transcode_133 x2 x3 s = some (.inl out))  (rx2 : rg x2) (rx3 : rg x3) : VW cX1_transcode (RX1, (some (vI out.1)), out.2, (some .int), 14, 345, 5, []) (P0 []) s 133 [(0, vO 0), (2, vI x2), (3, vI x3)] [] := by
  unfold j_X1_transcode_133 at h
  refine v_aload_n dX1_transcode_133 0 rfl rfl ?_
  refine v_getS (f := 0) (t := 1) cf1 oc0 rfl rfl rfl (by decide) q861 dX1_transcode_134 ?_
  obtain ⟨s1, e2, h⟩ := bdv_some h
  have k3 := c_X2_clear e2 (⟨by decide, rfl⟩ : okB 1 1)
  refine v_callV (st := []) cf2 oc1 k3 (lw_V q1054 q1055 q1056 q299 q1057) rfl yk_X2_clear ⟨Nat.le_of_ble_eq_true rfl, Nat.le_of_ble_eq_true rfl⟩ trivial ⟨kc0, trivial⟩ (Nat.le_of_ble_eq_true rfl) rfl dX1_transcode_137 ?_
  refine v_aload_n dX1_transcode_140 0 rfl rfl ?_
  refine v_iload_n dX1_transcode_141 1 rfl rfl ?_
  refine v_iload_n dX1_transcode_142 2 rfl rfl ?_
  obtain ⟨s4, e5, h⟩ := bxv_inl h
  have k6 := c_X1_tell e5 rx2 rx3
  refine v_callV (st := []) cf1 oc0 k6 (lw_V q1244 q1246 qs15 q298 q1247) rfl yk_X1_tell ⟨Nat.le_of_ble_eq_true rfl, Nat.le_of_ble_eq_true rfl⟩ trivial ⟨kc0, trivial⟩ (Nat.le_of_ble_eq_true rfl) rfl dX1_transcode_143 ?_
  have h := nx_some h
  refine v_aload_n dX1_transcode_146 0 rfl rfl ?_
  refine v_getS (f := 8) (t := 84) cf1 oc0 rfl rfl rfl (by decide) q869 dX1_transcode_147 ?_
  obtain ⟨r10, s7, e8, h⟩ := bd_some h
  have k9 := c_X2_size e8 (⟨by decide, rfl⟩ : okB 84 1)
  have r11 : rg r10 := k9.1.2.2
  refine v_callV (st := []) cf2 oc84 k9 (lw_V q917 q918 q919 q299 q920) rfl yk_X2_size ⟨Nat.le_of_ble_eq_true rfl, Nat.le_of_ble_eq_true rfl⟩ trivial ⟨kc0, trivial⟩ (Nat.le_of_ble_eq_true rfl) rfl dX1_transcode_150 ?_
  cases h
  exact v_iret r11 dX1_transcode_153

def f_X1_transcode (x1 : Int) (s : vS) : Option ((Int × vS) ⊕ (Nat × vS)) :=
  bxv (f_X1_within x1 (gI s 0 10) s) fun s1 =>
  bd (f_X12_read 1 (gI s1 0 16) s1) fun r7 s4 =>
  if r7 = 0 then
    bd (f_X12_fault s4) fun r57 s54 =>
    bd (f_X12_place s54) fun r62 s59 =>
    j_X1_transcode_133 r57 r62 s59
  else
    bd (f_X1_typeOf x1 s4) fun r13 s10 =>
    bd (f_X13_read r13 1 s10) fun r18 s15 =>
    if r18 = 0 then
      bd (f_X13_fault s15) fun r47 s44 =>
      bd (f_X13_place s44) fun r52 s49 =>
      j_X1_transcode_133 r47 r52 s49
    else
      bdo (f_X13_write s15) fun r24 s21 =>
      gd (okB r24 1) <|
      bdv (f_X2_clear 84 s21) fun s26 =>
      bd (f_X2_size r24 s26) fun r32 s29 =>
      bdv (f_X2_all 84 r24 0 r32 s29) fun s34 =>
      bd (f_X12_size s34) fun r40 s37 =>
      stp (sI s37 0 13 r40) fun s42 =>
      j_X1_transcode_133 0 0 s42
theorem yk_X1_transcode : yOk yX1_transcode 1 := ⟨by decide, by decide, by decide +kernel⟩
theorem c_X1_transcode {x1 : Int} {s : vS} {out : Int × vS} (h : f_X1_transcode x1 s = some (.inl out))  (rx1 : rg x1) : VC yX1_transcode cX1_transcode 5 (some .int) 14 345 [vO 0, vI x1] s (some (vI out.1)) out.2 [] := by
  unfold f_X1_transcode at h
  refine VC.of RX1 (by decide) rfl (Nat.le_of_ble_eq_true rfl) ?_
  show VW cX1_transcode (RX1, (some (vI out.1)), out.2, (some .int), 14, 345, 5, []) (P0 []) s 0 [(0, vO 0), (1, vI x1)] []
  refine v_iload_n dX1_transcode_0 1 rfl rfl ?_
  refine v_aload_n dX1_transcode_1 0 rfl rfl ?_
  refine v_getI (f := 10) cf1 oc0 rfl (by decide) q871 dX1_transcode_2 ?_
  obtain ⟨s1, e2, h⟩ := bxv_inl h
  have k3 := c_X1_within e2 rx1 (gI_rg _ _ _)
  refine v_callS (st := []) k3 (lw_S q1985 q1986 q298 q1987) yk_X1_within ⟨Nat.le_of_ble_eq_true rfl, Nat.le_of_ble_eq_true rfl⟩ trivial ⟨kc0, trivial⟩ (Nat.le_of_ble_eq_true rfl) rfl dX1_transcode_5 ?_
  refine v_iconst dX1_transcode_8 ?_
  refine v_istore_n (L1 := [(2, vI 0), (0, vO 0), (1, vI x1)]) dX1_transcode_9 rfl (by decide) rfl ?_
  refine v_iconst dX1_transcode_10 ?_
  refine v_istore_n (L1 := [(3, vI 0), (2, vI 0), (0, vO 0), (1, vI x1)]) dX1_transcode_11 rfl (by decide) rfl ?_
  refine v_aload_n dX1_transcode_12 2 rfl rfl ?_
  refine v_getS (f := 6) (t := 44) cf1 oc0 rfl rfl rfl (by decide) q867 dX1_transcode_13 ?_
  refine v_aload_n dX1_transcode_16 2 rfl rfl ?_
  refine v_getS (f := 0) (t := 1) cf1 oc0 rfl rfl rfl (by decide) q861 dX1_transcode_17 ?_
  refine v_aload_n dX1_transcode_20 2 rfl rfl ?_
  refine v_getI (f := 16) cf1 oc0 rfl (by decide) q877 dX1_transcode_21 ?_
  obtain ⟨r7, s4, e5, h⟩ := bd_some h
  have k6 := c_X12_read e5 (⟨by decide, rfl⟩ : okB 1 1) (gI_rg _ _ _)
  have r8 : rg r7 := k6.1.2.2
  refine v_callV (st := []) cf12 oc44 k6 (lw_V q2075 q2076 q2077 q309 q2078) rfl yk_X12_read ⟨Nat.le_of_ble_eq_true rfl, Nat.le_of_ble_eq_true rfl⟩ trivial ⟨kc0, trivial⟩ (Nat.le_of_ble_eq_true rfl) rfl dX1_transcode_24 ?_
  refine v_if_ne (tgt := 49) dX1_transcode_27 r8 (by decide) (fun c9 => ?_) (fun c9 => ?_)
  · rw [if_neg c9] at h
    refine v_aload_n dX1_transcode_49 2 rfl rfl ?_
    refine v_getS (f := 7) (t := 54) cf1 oc0 rfl rfl rfl (by decide) q868 dX1_transcode_50 ?_
    refine v_aload_n dX1_transcode_53 2 rfl rfl ?_
    refine v_iload_n dX1_transcode_54 3 rfl rfl ?_
    obtain ⟨r13, s10, e11, h⟩ := bd_some h
    have k12 := c_X1_typeOf e11 rx1
    have r14 : rg r13 := k12.1.2.2
    refine v_callV (st := [vO 54]) cf1 oc0 k12 (lw_V q2010 q2012 qs114 q298 q2013) rfl yk_X1_typeOf ⟨Nat.le_of_ble_eq_true rfl, Nat.le_of_ble_eq_true rfl⟩ ⟨kc54, trivial⟩ ⟨kc0, trivial⟩ (Nat.le_of_ble_eq_true rfl) rfl dX1_transcode_55 ?_
    refine v_aload_n dX1_transcode_58 2 rfl rfl ?_
    refine v_getS (f := 6) (t := 44) cf1 oc0 rfl rfl rfl (by decide) q867 dX1_transcode_59 ?_
    refine v_aload_n dX1_transcode_62 2 rfl rfl ?_
    refine v_getS (f := 0) (t := 1) cf1 oc0 rfl rfl rfl (by decide) q861 dX1_transcode_63 ?_
    obtain ⟨r18, s15, e16, h⟩ := bd_some h
    have k17 := c_X13_read e16 (⟨by decide, rfl⟩ : okB 1 1) r14
    have r19 : rg r18 := k17.1.2.2
    refine v_callV (st := []) cf13 oc54 k17 (lw_V q2131 q2132 q2133 q310 q2134) rfl yk_X13_read ⟨Nat.le_of_ble_eq_true rfl, Nat.le_of_ble_eq_true rfl⟩ trivial ⟨kc0, trivial⟩ (Nat.le_of_ble_eq_true rfl) rfl dX1_transcode_66 ?_
    refine v_if_ne (tgt := 91) dX1_transcode_69 r19 (by decide) (fun c20 => ?_) (fun c20 => ?_)
    · rw [if_neg c20] at h
      refine v_aload_n dX1_transcode_91 2 rfl rfl ?_
      refine v_getS (f := 7) (t := 54) cf1 oc0 rfl rfl rfl (by decide) q868 dX1_transcode_92 ?_
      obtain ⟨r24, s21, e22, h⟩ := bdo_some h
      have k23 := c_X13_write e22
      obtain ⟨g25, h⟩ := gd_some h
      refine v_callV (st := []) cf13 oc54 k23 (lw_V q2285 q2286 q2287 q310 q2288) rfl yk_X13_write ⟨Nat.le_of_ble_eq_true rfl, Nat.le_of_ble_eq_true rfl⟩ trivial ⟨kc0, trivial⟩ (Nat.le_of_ble_eq_true rfl) rfl dX1_transcode_95 ?_
      refine v_astore (L1 := [(4, vO r24), (3, vI 0), (2, vI 0), (0, vO 0), (1, vI x1)]) dX1_transcode_98 (by decide) rfl ?_
      refine v_aload_n dX1_transcode_100 3 rfl rfl ?_
      refine v_getS (f := 8) (t := 84) cf1 oc0 rfl rfl rfl (by decide) q869 dX1_transcode_101 ?_
      obtain ⟨s26, e27, h⟩ := bdv_some h
      have k28 := c_X2_clear e27 (⟨by decide, rfl⟩ : okB 84 1)
      refine v_callV (st := []) cf2 oc84 k28 (lw_V q1054 q1055 q1056 q299 q1057) rfl yk_X2_clear ⟨Nat.le_of_ble_eq_true rfl, Nat.le_of_ble_eq_true rfl⟩ trivial ⟨(okB_kp g25 (by decide)), kc0, trivial⟩ (Nat.le_of_ble_eq_true rfl) rfl dX1_transcode_104 ?_
      refine v_aload_n dX1_transcode_107 3 rfl rfl ?_
      refine v_getS (f := 8) (t := 84) cf1 oc0 rfl rfl rfl (by decide) q869 dX1_transcode_108 ?_
      refine v_aload dX1_transcode_111 0 rfl ?_
      refine v_iconst dX1_transcode_113 ?_
      refine v_aload dX1_transcode_114 0 rfl ?_
      obtain ⟨r32, s29, e30, h⟩ := bd_some h
      have k31 := c_X2_size e30 g25
      have r33 : rg r32 := k31.1.2.2
      refine v_callV (st := [vI 0, vO r24, vO 84]) cf2 (okB_ok g25) k31 (lw_V q917 q918 q919 q299 q920) rfl yk_X2_size ⟨Nat.le_of_ble_eq_true rfl, Nat.le_of_ble_eq_true rfl⟩ ⟨(okB_kp g25 (by decide)), kc84, trivial⟩ ⟨(okB_kp g25 (by decide)), kc0, trivial⟩ (Nat.le_of_ble_eq_true rfl) rfl dX1_transcode_116 ?_
      obtain ⟨s34, e35, h⟩ := bdv_some h
      have k36 := c_X2_all e35 (⟨by decide, rfl⟩ : okB 84 1) g25 (rgl rfl) r33
      refine v_callV (st := []) cf2 oc84 k36 (lw_V q1058 q1059 q1060 q299 q1061) rfl yk_X2_all ⟨Nat.le_of_ble_eq_true rfl, Nat.le_of_ble_eq_true rfl⟩ trivial ⟨(okB_kp g25 (by decide)), kc0, trivial⟩ (Nat.le_of_ble_eq_true rfl) rfl dX1_transcode_119 ?_
      refine v_aload_n dX1_transcode_122 3 rfl rfl ?_
      refine v_aload_n dX1_transcode_123 3 rfl rfl ?_
      refine v_getS (f := 6) (t := 44) cf1 oc0 rfl rfl rfl (by decide) q867 dX1_transcode_124 ?_
      obtain ⟨r40, s37, e38, h⟩ := bd_some h
      have k39 := c_X12_size e38
      have r41 : rg r40 := k39.1.2.2
      refine v_callV (st := [vO 0]) cf12 oc44 k39 (lw_V q2348 q2136 q2137 q309 q2138) rfl yk_X12_size ⟨Nat.le_of_ble_eq_true rfl, Nat.le_of_ble_eq_true rfl⟩ ⟨kc0, trivial⟩ ⟨(okB_kp g25 (by decide)), kc0, trivial⟩ (Nat.le_of_ble_eq_true rfl) rfl dX1_transcode_127 ?_
      obtain ⟨s42, e43, h⟩ := stp_some h
      refine v_putI (f := 13) cf1 oc0 rfl (by decide) q874 dX1_transcode_130 rfl rfl ?_
      rw [← e43]
      refine v_sub [3, 2, 1] (L1 := [(0, vO 0), (2, vI 0), (3, vI 0)]) rfl ?_
      exact wj_X1_transcode_133 h (rgl rfl) (rgl rfl)
    · rw [if_pos c20] at h
      refine v_aload_n dX1_transcode_72 2 rfl rfl ?_
      refine v_getS (f := 7) (t := 54) cf1 oc0 rfl rfl rfl (by decide) q868 dX1_transcode_73 ?_
      obtain ⟨r47, s44, e45, h⟩ := bd_some h
      have k46 := c_X13_fault e45
      have r48 : rg r47 := k46.1.2.2
      refine v_callV (st := []) cf13 oc54 k46 (lw_V q2277 q2278 q2279 q310 q2280) rfl yk_X13_fault ⟨Nat.le_of_ble_eq_true rfl, Nat.le_of_ble_eq_true rfl⟩ trivial ⟨kc0, trivial⟩ (Nat.le_of_ble_eq_true rfl) rfl dX1_transcode_76 ?_
      refine v_istore_n (L1 := [(2, vI r47), (3, vI 0), (0, vO 0), (1, vI x1)]) dX1_transcode_79 rfl (by decide) rfl ?_
      refine v_aload_n dX1_transcode_80 2 rfl rfl ?_
      refine v_getS (f := 7) (t := 54) cf1 oc0 rfl rfl rfl (by decide) q868 dX1_transcode_81 ?_
      obtain ⟨r52, s49, e50, h⟩ := bd_some h
      have k51 := c_X13_place e50
      have r53 : rg r52 := k51.1.2.2
      refine v_callV (st := []) cf13 oc54 k51 (lw_V q2281 q2282 q2283 q310 q2284) rfl yk_X13_place ⟨Nat.le_of_ble_eq_true rfl, Nat.le_of_ble_eq_true rfl⟩ trivial ⟨kc0, trivial⟩ (Nat.le_of_ble_eq_true rfl) rfl dX1_transcode_84 ?_
      refine v_istore_n (L1 := [(3, vI r52), (2, vI r47), (0, vO 0), (1, vI x1)]) dX1_transcode_87 rfl (by decide) rfl ?_
      refine v_goto (tgt := 133) dX1_transcode_88 (by decide) ?_
      refine v_sub [2, 1, 0] (L1 := [(0, vO 0), (2, vI r47), (3, vI r52)]) rfl ?_
      exact wj_X1_transcode_133 h r48 r53
  · rw [if_pos c9] at h
    refine v_aload_n dX1_transcode_30 2 rfl rfl ?_
    refine v_getS (f := 6) (t := 44) cf1 oc0 rfl rfl rfl (by decide) q867 dX1_transcode_31 ?_
    obtain ⟨r57, s54, e55, h⟩ := bd_some h
    have k56 := c_X12_fault e55
    have r58 : rg r57 := k56.1.2.2
    refine v_callV (st := []) cf12 oc44 k56 (lw_V q2123 q2124 q2125 q309 q2126) rfl yk_X12_fault ⟨Nat.le_of_ble_eq_true rfl, Nat.le_of_ble_eq_true rfl⟩ trivial ⟨kc0, trivial⟩ (Nat.le_of_ble_eq_true rfl) rfl dX1_transcode_34 ?_
    refine v_istore_n (L1 := [(2, vI r57), (3, vI 0), (0, vO 0), (1, vI x1)]) dX1_transcode_37 rfl (by decide) rfl ?_
    refine v_aload_n dX1_transcode_38 2 rfl rfl ?_
    refine v_getS (f := 6) (t := 44) cf1 oc0 rfl rfl rfl (by decide) q867 dX1_transcode_39 ?_
    obtain ⟨r62, s59, e60, h⟩ := bd_some h
    have k61 := c_X12_place e60
    have r63 : rg r62 := k61.1.2.2
    refine v_callV (st := []) cf12 oc44 k61 (lw_V q2127 q2128 q2129 q309 q2130) rfl yk_X12_place ⟨Nat.le_of_ble_eq_true rfl, Nat.le_of_ble_eq_true rfl⟩ trivial ⟨kc0, trivial⟩ (Nat.le_of_ble_eq_true rfl) rfl dX1_transcode_42 ?_
    refine v_istore_n (L1 := [(3, vI r62), (2, vI r57), (0, vO 0), (1, vI x1)]) dX1_transcode_45 rfl (by decide) rfl ?_
    refine v_goto (tgt := 133) dX1_transcode_46 (by decide) ?_
    refine v_sub [2, 1, 0] (L1 := [(0, vO 0), (2, vI r57), (3, vI r62)]) rfl ?_
    exact wj_X1_transcode_133 h r58 r63
theorem tj_X1_transcode_133 {x2 : Int} {x3 : Int} {s : vS} {q : Nat × vS} (h : j_X1_transcode_133 x2 x3 s = some (.inr q))  (rx2 : rg x2) (rx3 : rg x3) : VW cX1_transcode (tB (exE q.1) RX1 q.2 14 345 5) (P0 []) s 133 [(0, vO 0), (2, vI x2), (3, vI x3)] [] := by
  unfold j_X1_transcode_133 at h
  refine v_aload_n dX1_transcode_133 0 rfl rfl ?_
  refine v_getS (f := 0) (t := 1) cf1 oc0 rfl rfl rfl (by decide) q861 dX1_transcode_134 ?_
  obtain ⟨s1, e2, h⟩ := bdv_some h
  have k3 := c_X2_clear e2 (⟨by decide, rfl⟩ : okB 1 1)
  refine v_callV (st := []) cf2 oc1 k3 (lw_V q1054 q1055 q1056 q299 q1057) rfl yk_X2_clear ⟨Nat.le_of_ble_eq_true rfl, Nat.le_of_ble_eq_true rfl⟩ trivial ⟨kc0, trivial⟩ (Nat.le_of_ble_eq_true rfl) rfl dX1_transcode_137 ?_
  refine v_aload_n dX1_transcode_140 0 rfl rfl ?_
  refine v_iload_n dX1_transcode_141 1 rfl rfl ?_
  refine v_iload_n dX1_transcode_142 2 rfl rfl ?_
  rcases bxv_inr h with e9 | ⟨s4, e5, h⟩
  · exact v_callXV (st := []) cf1 oc0 (t_X1_tell e9 rx2 rx3) (lw_V q1244 q1246 qs15 q298 q1247) rfl yk_X1_tell ⟨Nat.le_of_ble_eq_true rfl, Nat.le_of_ble_eq_true rfl⟩ (Nat.le_of_ble_eq_true rfl) rfl dX1_transcode_143
  have k6 := c_X1_tell e5 rx2 rx3
  refine v_callV (st := []) cf1 oc0 k6 (lw_V q1244 q1246 qs15 q298 q1247) rfl yk_X1_tell ⟨Nat.le_of_ble_eq_true rfl, Nat.le_of_ble_eq_true rfl⟩ trivial ⟨kc0, trivial⟩ (Nat.le_of_ble_eq_true rfl) rfl dX1_transcode_143 ?_
  exact (nx_no h).elim

theorem t_X1_transcode {x1 : Int} {s : vS} {q : Nat × vS} (h : f_X1_transcode x1 s = some (.inr q))  (rx1 : rg x1) : VT yX1_transcode cX1_transcode 5 (some .int) 14 345 [vO 0, vI x1] s (exE q.1) q.2 := by
  unfold f_X1_transcode at h
  refine VT.of RX1 (by decide) rfl (Nat.le_of_ble_eq_true rfl) ?_
  show VW cX1_transcode (tB (exE q.1) RX1 q.2 14 345 5) (P0 []) s 0 [(0, vO 0), (1, vI x1)] []
  refine v_iload_n dX1_transcode_0 1 rfl rfl ?_
  refine v_aload_n dX1_transcode_1 0 rfl rfl ?_
  refine v_getI (f := 10) cf1 oc0 rfl (by decide) q871 dX1_transcode_2 ?_
  rcases bxv_inr h with e9 | ⟨s1, e2, h⟩
  · exact v_callXS (st := []) (t_X1_within e9 rx1 (gI_rg _ _ _)) (lw_S q1985 q1986 q298 q1987) yk_X1_within ⟨Nat.le_of_ble_eq_true rfl, Nat.le_of_ble_eq_true rfl⟩ (Nat.le_of_ble_eq_true rfl) rfl dX1_transcode_5
  have k3 := c_X1_within e2 rx1 (gI_rg _ _ _)
  refine v_callS (st := []) k3 (lw_S q1985 q1986 q298 q1987) yk_X1_within ⟨Nat.le_of_ble_eq_true rfl, Nat.le_of_ble_eq_true rfl⟩ trivial ⟨kc0, trivial⟩ (Nat.le_of_ble_eq_true rfl) rfl dX1_transcode_5 ?_
  refine v_iconst dX1_transcode_8 ?_
  refine v_istore_n (L1 := [(2, vI 0), (0, vO 0), (1, vI x1)]) dX1_transcode_9 rfl (by decide) rfl ?_
  refine v_iconst dX1_transcode_10 ?_
  refine v_istore_n (L1 := [(3, vI 0), (2, vI 0), (0, vO 0), (1, vI x1)]) dX1_transcode_11 rfl (by decide) rfl ?_
  refine v_aload_n dX1_transcode_12 2 rfl rfl ?_
  refine v_getS (f := 6) (t := 44) cf1 oc0 rfl rfl rfl (by decide) q867 dX1_transcode_13 ?_
  refine v_aload_n dX1_transcode_16 2 rfl rfl ?_
  refine v_getS (f := 0) (t := 1) cf1 oc0 rfl rfl rfl (by decide) q861 dX1_transcode_17 ?_
  refine v_aload_n dX1_transcode_20 2 rfl rfl ?_
  refine v_getI (f := 16) cf1 oc0 rfl (by decide) q877 dX1_transcode_21 ?_
  obtain ⟨r7, s4, e5, h⟩ := bd_some h
  have k6 := c_X12_read e5 (⟨by decide, rfl⟩ : okB 1 1) (gI_rg _ _ _)
  have r8 : rg r7 := k6.1.2.2
  refine v_callV (st := []) cf12 oc44 k6 (lw_V q2075 q2076 q2077 q309 q2078) rfl yk_X12_read ⟨Nat.le_of_ble_eq_true rfl, Nat.le_of_ble_eq_true rfl⟩ trivial ⟨kc0, trivial⟩ (Nat.le_of_ble_eq_true rfl) rfl dX1_transcode_24 ?_
  refine v_if_ne (tgt := 49) dX1_transcode_27 r8 (by decide) (fun c9 => ?_) (fun c9 => ?_)
  · rw [if_neg c9] at h
    refine v_aload_n dX1_transcode_49 2 rfl rfl ?_
    refine v_getS (f := 7) (t := 54) cf1 oc0 rfl rfl rfl (by decide) q868 dX1_transcode_50 ?_
    refine v_aload_n dX1_transcode_53 2 rfl rfl ?_
    refine v_iload_n dX1_transcode_54 3 rfl rfl ?_
    obtain ⟨r13, s10, e11, h⟩ := bd_some h
    have k12 := c_X1_typeOf e11 rx1
    have r14 : rg r13 := k12.1.2.2
    refine v_callV (st := [vO 54]) cf1 oc0 k12 (lw_V q2010 q2012 qs114 q298 q2013) rfl yk_X1_typeOf ⟨Nat.le_of_ble_eq_true rfl, Nat.le_of_ble_eq_true rfl⟩ ⟨kc54, trivial⟩ ⟨kc0, trivial⟩ (Nat.le_of_ble_eq_true rfl) rfl dX1_transcode_55 ?_
    refine v_aload_n dX1_transcode_58 2 rfl rfl ?_
    refine v_getS (f := 6) (t := 44) cf1 oc0 rfl rfl rfl (by decide) q867 dX1_transcode_59 ?_
    refine v_aload_n dX1_transcode_62 2 rfl rfl ?_
    refine v_getS (f := 0) (t := 1) cf1 oc0 rfl rfl rfl (by decide) q861 dX1_transcode_63 ?_
    obtain ⟨r18, s15, e16, h⟩ := bd_some h
    have k17 := c_X13_read e16 (⟨by decide, rfl⟩ : okB 1 1) r14
    have r19 : rg r18 := k17.1.2.2
    refine v_callV (st := []) cf13 oc54 k17 (lw_V q2131 q2132 q2133 q310 q2134) rfl yk_X13_read ⟨Nat.le_of_ble_eq_true rfl, Nat.le_of_ble_eq_true rfl⟩ trivial ⟨kc0, trivial⟩ (Nat.le_of_ble_eq_true rfl) rfl dX1_transcode_66 ?_
    refine v_if_ne (tgt := 91) dX1_transcode_69 r19 (by decide) (fun c20 => ?_) (fun c20 => ?_)
    · rw [if_neg c20] at h
      refine v_aload_n dX1_transcode_91 2 rfl rfl ?_
      refine v_getS (f := 7) (t := 54) cf1 oc0 rfl rfl rfl (by decide) q868 dX1_transcode_92 ?_
      obtain ⟨r24, s21, e22, h⟩ := bdo_some h
      have k23 := c_X13_write e22
      obtain ⟨g25, h⟩ := gd_some h
      refine v_callV (st := []) cf13 oc54 k23 (lw_V q2285 q2286 q2287 q310 q2288) rfl yk_X13_write ⟨Nat.le_of_ble_eq_true rfl, Nat.le_of_ble_eq_true rfl⟩ trivial ⟨kc0, trivial⟩ (Nat.le_of_ble_eq_true rfl) rfl dX1_transcode_95 ?_
      refine v_astore (L1 := [(4, vO r24), (3, vI 0), (2, vI 0), (0, vO 0), (1, vI x1)]) dX1_transcode_98 (by decide) rfl ?_
      refine v_aload_n dX1_transcode_100 3 rfl rfl ?_
      refine v_getS (f := 8) (t := 84) cf1 oc0 rfl rfl rfl (by decide) q869 dX1_transcode_101 ?_
      obtain ⟨s26, e27, h⟩ := bdv_some h
      have k28 := c_X2_clear e27 (⟨by decide, rfl⟩ : okB 84 1)
      refine v_callV (st := []) cf2 oc84 k28 (lw_V q1054 q1055 q1056 q299 q1057) rfl yk_X2_clear ⟨Nat.le_of_ble_eq_true rfl, Nat.le_of_ble_eq_true rfl⟩ trivial ⟨(okB_kp g25 (by decide)), kc0, trivial⟩ (Nat.le_of_ble_eq_true rfl) rfl dX1_transcode_104 ?_
      refine v_aload_n dX1_transcode_107 3 rfl rfl ?_
      refine v_getS (f := 8) (t := 84) cf1 oc0 rfl rfl rfl (by decide) q869 dX1_transcode_108 ?_
      refine v_aload dX1_transcode_111 0 rfl ?_
      refine v_iconst dX1_transcode_113 ?_
      refine v_aload dX1_transcode_114 0 rfl ?_
      obtain ⟨r32, s29, e30, h⟩ := bd_some h
      have k31 := c_X2_size e30 g25
      have r33 : rg r32 := k31.1.2.2
      refine v_callV (st := [vI 0, vO r24, vO 84]) cf2 (okB_ok g25) k31 (lw_V q917 q918 q919 q299 q920) rfl yk_X2_size ⟨Nat.le_of_ble_eq_true rfl, Nat.le_of_ble_eq_true rfl⟩ ⟨(okB_kp g25 (by decide)), kc84, trivial⟩ ⟨(okB_kp g25 (by decide)), kc0, trivial⟩ (Nat.le_of_ble_eq_true rfl) rfl dX1_transcode_116 ?_
      obtain ⟨s34, e35, h⟩ := bdv_some h
      have k36 := c_X2_all e35 (⟨by decide, rfl⟩ : okB 84 1) g25 (rgl rfl) r33
      refine v_callV (st := []) cf2 oc84 k36 (lw_V q1058 q1059 q1060 q299 q1061) rfl yk_X2_all ⟨Nat.le_of_ble_eq_true rfl, Nat.le_of_ble_eq_true rfl⟩ trivial ⟨(okB_kp g25 (by decide)), kc0, trivial⟩ (Nat.le_of_ble_eq_true rfl) rfl dX1_transcode_119 ?_
      refine v_aload_n dX1_transcode_122 3 rfl rfl ?_
      refine v_aload_n dX1_transcode_123 3 rfl rfl ?_
      refine v_getS (f := 6) (t := 44) cf1 oc0 rfl rfl rfl (by decide) q867 dX1_transcode_124 ?_
      obtain ⟨r40, s37, e38, h⟩ := bd_some h
      have k39 := c_X12_size e38
      have r41 : rg r40 := k39.1.2.2
      refine v_callV (st := [vO 0]) cf12 oc44 k39 (lw_V q2348 q2136 q2137 q309 q2138) rfl yk_X12_size ⟨Nat.le_of_ble_eq_true rfl, Nat.le_of_ble_eq_true rfl⟩ ⟨kc0, trivial⟩ ⟨(okB_kp g25 (by decide)), kc0, trivial⟩ (Nat.le_of_ble_eq_true rfl) rfl dX1_transcode_127 ?_
      obtain ⟨s42, e43, h⟩ := stp_some h
      refine v_putI (f := 13) cf1 oc0 rfl (by decide) q874 dX1_transcode_130 rfl rfl ?_
      rw [← e43]
      refine v_sub [3, 2, 1] (L1 := [(0, vO 0), (2, vI 0), (3, vI 0)]) rfl ?_
      exact tj_X1_transcode_133 h (rgl rfl) (rgl rfl)
    · rw [if_pos c20] at h
      refine v_aload_n dX1_transcode_72 2 rfl rfl ?_
      refine v_getS (f := 7) (t := 54) cf1 oc0 rfl rfl rfl (by decide) q868 dX1_transcode_73 ?_
      obtain ⟨r47, s44, e45, h⟩ := bd_some h
      have k46 := c_X13_fault e45
      have r48 : rg r47 := k46.1.2.2
      refine v_callV (st := []) cf13 oc54 k46 (lw_V q2277 q2278 q2279 q310 q2280) rfl yk_X13_fault ⟨Nat.le_of_ble_eq_true rfl, Nat.le_of_ble_eq_true rfl⟩ trivial ⟨kc0, trivial⟩ (Nat.le_of_ble_eq_true rfl) rfl dX1_transcode_76 ?_
      refine v_istore_n (L1 := [(2, vI r47), (3, vI 0), (0, vO 0), (1, vI x1)]) dX1_transcode_79 rfl (by decide) rfl ?_
      refine v_aload_n dX1_transcode_80 2 rfl rfl ?_
      refine v_getS (f := 7) (t := 54) cf1 oc0 rfl rfl rfl (by decide) q868 dX1_transcode_81 ?_
      obtain ⟨r52, s49, e50, h⟩ := bd_some h
      have k51 := c_X13_place e50
      have r53 : rg r52 := k51.1.2.2
      refine v_callV (st := []) cf13 oc54 k51 (lw_V q2281 q2282 q2283 q310 q2284) rfl yk_X13_place ⟨Nat.le_of_ble_eq_true rfl, Nat.le_of_ble_eq_true rfl⟩ trivial ⟨kc0, trivial⟩ (Nat.le_of_ble_eq_true rfl) rfl dX1_transcode_84 ?_
      refine v_istore_n (L1 := [(3, vI r52), (2, vI r47), (0, vO 0), (1, vI x1)]) dX1_transcode_87 rfl (by decide) rfl ?_
      refine v_goto (tgt := 133) dX1_transcode_88 (by decide) ?_
      refine v_sub [2, 1, 0] (L1 := [(0, vO 0), (2, vI r47), (3, vI r52)]) rfl ?_
      exact tj_X1_transcode_133 h r48 r53
  · rw [if_pos c9] at h
    refine v_aload_n dX1_transcode_30 2 rfl rfl ?_
    refine v_getS (f := 6) (t := 44) cf1 oc0 rfl rfl rfl (by decide) q867 dX1_transcode_31 ?_
    obtain ⟨r57, s54, e55, h⟩ := bd_some h
    have k56 := c_X12_fault e55
    have r58 : rg r57 := k56.1.2.2
    refine v_callV (st := []) cf12 oc44 k56 (lw_V q2123 q2124 q2125 q309 q2126) rfl yk_X12_fault ⟨Nat.le_of_ble_eq_true rfl, Nat.le_of_ble_eq_true rfl⟩ trivial ⟨kc0, trivial⟩ (Nat.le_of_ble_eq_true rfl) rfl dX1_transcode_34 ?_
    refine v_istore_n (L1 := [(2, vI r57), (3, vI 0), (0, vO 0), (1, vI x1)]) dX1_transcode_37 rfl (by decide) rfl ?_
    refine v_aload_n dX1_transcode_38 2 rfl rfl ?_
    refine v_getS (f := 6) (t := 44) cf1 oc0 rfl rfl rfl (by decide) q867 dX1_transcode_39 ?_
    obtain ⟨r62, s59, e60, h⟩ := bd_some h
    have k61 := c_X12_place e60
    have r63 : rg r62 := k61.1.2.2
    refine v_callV (st := []) cf12 oc44 k61 (lw_V q2127 q2128 q2129 q309 q2130) rfl yk_X12_place ⟨Nat.le_of_ble_eq_true rfl, Nat.le_of_ble_eq_true rfl⟩ trivial ⟨kc0, trivial⟩ (Nat.le_of_ble_eq_true rfl) rfl dX1_transcode_42 ?_
    refine v_istore_n (L1 := [(3, vI r62), (2, vI r57), (0, vO 0), (1, vI x1)]) dX1_transcode_45 rfl (by decide) rfl ?_
    refine v_goto (tgt := 133) dX1_transcode_46 (by decide) ?_
    refine v_sub [2, 1, 0] (L1 := [(0, vO 0), (2, vI r57), (3, vI r62)]) rfl ?_
    exact tj_X1_transcode_133 h r58 r63

def f_X1_out (x1 : Int) (s : vS) : Option ((Int × vS) ⊕ (Nat × vS)) :=
  bd (f_X2_size 84 s) fun r4 s1 =>
  bxv (f_X1_within x1 r4 s1) fun s6 =>
  nx <|
  bd (f_X2_at 84 x1 s6) fun r12 s9 =>
  some (r12, s9)
theorem yk_X1_out : yOk yX1_out 1 := ⟨by decide, by decide, by decide +kernel⟩
theorem c_X1_out {x1 : Int} {s : vS} {out : Int × vS} (h : f_X1_out x1 s = some (.inl out))  (rx1 : rg x1) : VC yX1_out cX1_out 2 (some .int) 7 110 [vO 0, vI x1] s (some (vI out.1)) out.2 [] := by
  unfold f_X1_out at h
  refine VC.of RX1 (by decide) rfl (Nat.le_of_ble_eq_true rfl) ?_
  show VW cX1_out (RX1, (some (vI out.1)), out.2, (some .int), 7, 110, 2, []) (P0 []) s 0 [(0, vO 0), (1, vI x1)] []
  refine v_iload_n dX1_out_0 1 rfl rfl ?_
  refine v_aload_n dX1_out_1 0 rfl rfl ?_
  refine v_getS (f := 8) (t := 84) cf1 oc0 rfl rfl rfl (by decide) q869 dX1_out_2 ?_
  obtain ⟨r4, s1, e2, h⟩ := bd_some h
  have k3 := c_X2_size e2 (⟨by decide, rfl⟩ : okB 84 1)
  have r5 : rg r4 := k3.1.2.2
  refine v_callV (st := [vI x1]) cf2 oc84 k3 (lw_V q917 q918 q919 q299 q920) rfl yk_X2_size ⟨Nat.le_of_ble_eq_true rfl, Nat.le_of_ble_eq_true rfl⟩ trivial ⟨kc0, trivial⟩ (Nat.le_of_ble_eq_true rfl) rfl dX1_out_5 ?_
  obtain ⟨s6, e7, h⟩ := bxv_inl h
  have k8 := c_X1_within e7 rx1 r5
  refine v_callS (st := []) k8 (lw_S q1985 q1986 q298 q1987) yk_X1_within ⟨Nat.le_of_ble_eq_true rfl, Nat.le_of_ble_eq_true rfl⟩ trivial ⟨kc0, trivial⟩ (Nat.le_of_ble_eq_true rfl) rfl dX1_out_8 ?_
  have h := nx_some h
  refine v_aload_n dX1_out_11 0 rfl rfl ?_
  refine v_getS (f := 8) (t := 84) cf1 oc0 rfl rfl rfl (by decide) q869 dX1_out_12 ?_
  refine v_iload_n dX1_out_15 1 rfl rfl ?_
  obtain ⟨r12, s9, e10, h⟩ := bd_some h
  have k11 := c_X2_at e10 (⟨by decide, rfl⟩ : okB 84 1) rx1
  have r13 : rg r12 := k11.1.2.2
  refine v_callV (st := []) cf2 oc84 k11 (lw_V q2044 q1072 q1073 q299 q1074) rfl yk_X2_at ⟨Nat.le_of_ble_eq_true rfl, Nat.le_of_ble_eq_true rfl⟩ trivial ⟨kc0, trivial⟩ (Nat.le_of_ble_eq_true rfl) rfl dX1_out_16 ?_
  cases h
  exact v_iret r13 dX1_out_19
theorem t_X1_out {x1 : Int} {s : vS} {q : Nat × vS} (h : f_X1_out x1 s = some (.inr q))  (rx1 : rg x1) : VT yX1_out cX1_out 2 (some .int) 7 110 [vO 0, vI x1] s (exE q.1) q.2 := by
  unfold f_X1_out at h
  refine VT.of RX1 (by decide) rfl (Nat.le_of_ble_eq_true rfl) ?_
  show VW cX1_out (tB (exE q.1) RX1 q.2 7 110 2) (P0 []) s 0 [(0, vO 0), (1, vI x1)] []
  refine v_iload_n dX1_out_0 1 rfl rfl ?_
  refine v_aload_n dX1_out_1 0 rfl rfl ?_
  refine v_getS (f := 8) (t := 84) cf1 oc0 rfl rfl rfl (by decide) q869 dX1_out_2 ?_
  obtain ⟨r4, s1, e2, h⟩ := bd_some h
  have k3 := c_X2_size e2 (⟨by decide, rfl⟩ : okB 84 1)
  have r5 : rg r4 := k3.1.2.2
  refine v_callV (st := [vI x1]) cf2 oc84 k3 (lw_V q917 q918 q919 q299 q920) rfl yk_X2_size ⟨Nat.le_of_ble_eq_true rfl, Nat.le_of_ble_eq_true rfl⟩ trivial ⟨kc0, trivial⟩ (Nat.le_of_ble_eq_true rfl) rfl dX1_out_5 ?_
  rcases bxv_inr h with e9 | ⟨s6, e7, h⟩
  · exact v_callXS (st := []) (t_X1_within e9 rx1 r5) (lw_S q1985 q1986 q298 q1987) yk_X1_within ⟨Nat.le_of_ble_eq_true rfl, Nat.le_of_ble_eq_true rfl⟩ (Nat.le_of_ble_eq_true rfl) rfl dX1_out_8
  have k8 := c_X1_within e7 rx1 r5
  refine v_callS (st := []) k8 (lw_S q1985 q1986 q298 q1987) yk_X1_within ⟨Nat.le_of_ble_eq_true rfl, Nat.le_of_ble_eq_true rfl⟩ trivial ⟨kc0, trivial⟩ (Nat.le_of_ble_eq_true rfl) rfl dX1_out_8 ?_
  exact (nx_no h).elim

def j_X1_again_17 (z0 : Int) (s : vS) : Option ((Int × vS) ⊕ (Nat × vS)) :=
  bxv (f_X1_can z0 s) fun s1 =>
  nx <|
  bdv (f_X2_clear 1 s1) fun s4 =>
  bd (f_X2_size 84 s4) fun r10 s7 =>
  bdv (f_X2_all 1 84 0 r10 s7) fun s12 =>
  bd (f_X2_size 1 s12) fun r18 s15 =>
  some (r18, s15)
theorem wj_X1_again_17 {z0 : Int} {s : vS} {out : Int × vS} (h : j_X1_again_17 z0 s = some (.inl out))  (rz0 : rg z0) : VW cX1_again (RX1, (some (vI out.1)), out.2, (some .int), 7, 109, 1, []) (P0 []) s 17 [(0, vO 0)] [vI z0] := by
  unfold j_X1_again_17 at h
  obtain ⟨s1, e2, h⟩ := bxv_inl h
  have k3 := c_X1_can e2 rz0
  refine v_callS (st := []) k3 (lw_S q930 q931 q298 q932) yk_X1_can ⟨Nat.le_of_ble_eq_true rfl, Nat.le_of_ble_eq_true rfl⟩ trivial ⟨kc0, trivial⟩ (Nat.le_of_ble_eq_true rfl) rfl dX1_again_17 ?_
  have h := nx_some h
  refine v_aload_n dX1_again_20 0 rfl rfl ?_
  refine v_getS (f := 0) (t := 1) cf1 oc0 rfl rfl rfl (by decide) q861 dX1_again_21 ?_
  obtain ⟨s4, e5, h⟩ := bdv_some h
  have k6 := c_X2_clear e5 (⟨by decide, rfl⟩ : okB 1 1)
  refine v_callV (st := []) cf2 oc1 k6 (lw_V q1054 q1055 q1056 q299 q1057) rfl yk_X2_clear ⟨Nat.le_of_ble_eq_true rfl, Nat.le_of_ble_eq_true rfl⟩ trivial ⟨kc0, trivial⟩ (Nat.le_of_ble_eq_true rfl) rfl dX1_again_24 ?_
  refine v_aload_n dX1_again_27 0 rfl rfl ?_
  refine v_getS (f := 0) (t := 1) cf1 oc0 rfl rfl rfl (by decide) q861 dX1_again_28 ?_
  refine v_aload_n dX1_again_31 0 rfl rfl ?_
  refine v_getS (f := 8) (t := 84) cf1 oc0 rfl rfl rfl (by decide) q869 dX1_again_32 ?_
  refine v_iconst dX1_again_35 ?_
  refine v_aload_n dX1_again_36 0 rfl rfl ?_
  refine v_getS (f := 8) (t := 84) cf1 oc0 rfl rfl rfl (by decide) q869 dX1_again_37 ?_
  obtain ⟨r10, s7, e8, h⟩ := bd_some h
  have k9 := c_X2_size e8 (⟨by decide, rfl⟩ : okB 84 1)
  have r11 : rg r10 := k9.1.2.2
  refine v_callV (st := [vI 0, vO 84, vO 1]) cf2 oc84 k9 (lw_V q917 q918 q919 q299 q920) rfl yk_X2_size ⟨Nat.le_of_ble_eq_true rfl, Nat.le_of_ble_eq_true rfl⟩ ⟨kc84, kc1, trivial⟩ ⟨kc0, trivial⟩ (Nat.le_of_ble_eq_true rfl) rfl dX1_again_40 ?_
  obtain ⟨s12, e13, h⟩ := bdv_some h
  have k14 := c_X2_all e13 (⟨by decide, rfl⟩ : okB 1 1) (⟨by decide, rfl⟩ : okB 84 1) (rgl rfl) r11
  refine v_callV (st := []) cf2 oc1 k14 (lw_V q1058 q1059 q1060 q299 q1061) rfl yk_X2_all ⟨Nat.le_of_ble_eq_true rfl, Nat.le_of_ble_eq_true rfl⟩ trivial ⟨kc0, trivial⟩ (Nat.le_of_ble_eq_true rfl) rfl dX1_again_43 ?_
  refine v_aload_n dX1_again_46 0 rfl rfl ?_
  refine v_getS (f := 0) (t := 1) cf1 oc0 rfl rfl rfl (by decide) q861 dX1_again_47 ?_
  obtain ⟨r18, s15, e16, h⟩ := bd_some h
  have k17 := c_X2_size e16 (⟨by decide, rfl⟩ : okB 1 1)
  have r19 : rg r18 := k17.1.2.2
  refine v_callV (st := []) cf2 oc1 k17 (lw_V q917 q918 q919 q299 q920) rfl yk_X2_size ⟨Nat.le_of_ble_eq_true rfl, Nat.le_of_ble_eq_true rfl⟩ trivial ⟨kc0, trivial⟩ (Nat.le_of_ble_eq_true rfl) rfl dX1_again_50 ?_
  cases h
  exact v_iret r19 dX1_again_53

def f_X1_again (s : vS) : Option ((Int × vS) ⊕ (Nat × vS)) :=
  bd (f_X2_size 84 s) fun r4 s1 =>
  if 32768 < r4 then
    j_X1_again_17 0 s1
  else
    j_X1_again_17 1 s1
theorem yk_X1_again : yOk yX1_again 0 := ⟨by decide, by decide, by decide +kernel⟩
theorem c_X1_again {s : vS} {out : Int × vS} (h : f_X1_again s = some (.inl out))   : VC yX1_again cX1_again 1 (some .int) 7 109 [vO 0] s (some (vI out.1)) out.2 [] := by
  unfold f_X1_again at h
  refine VC.of RX1 (by decide) rfl (Nat.le_of_ble_eq_true rfl) ?_
  show VW cX1_again (RX1, (some (vI out.1)), out.2, (some .int), 7, 109, 1, []) (P0 []) s 0 [(0, vO 0)] []
  refine v_aload_n dX1_again_0 0 rfl rfl ?_
  refine v_getS (f := 8) (t := 84) cf1 oc0 rfl rfl rfl (by decide) q869 dX1_again_1 ?_
  obtain ⟨r4, s1, e2, h⟩ := bd_some h
  have k3 := c_X2_size e2 (⟨by decide, rfl⟩ : okB 84 1)
  have r5 : rg r4 := k3.1.2.2
  refine v_callV (st := []) cf2 oc84 k3 (lw_V q917 q918 q919 q299 q920) rfl yk_X2_size ⟨Nat.le_of_ble_eq_true rfl, Nat.le_of_ble_eq_true rfl⟩ trivial ⟨kc0, trivial⟩ (Nat.le_of_ble_eq_true rfl) rfl dX1_again_4 ?_
  refine v_ldc (n := 32768) dX1_again_7 q929 rfl ?_
  refine v_icmp_gt (tgt := 16) dX1_again_9 r5 (rgl rfl) (by decide) (fun c6 => ?_) (fun c6 => ?_)
  · rw [if_pos c6] at h
    refine v_iconst dX1_again_16 ?_
    exact wj_X1_again_17 h (rgl rfl)
  · rw [if_neg c6] at h
    refine v_iconst dX1_again_12 ?_
    refine v_goto (tgt := 17) dX1_again_13 (by decide) ?_
    exact wj_X1_again_17 h (rgl rfl)
theorem tj_X1_again_17 {z0 : Int} {s : vS} {q : Nat × vS} (h : j_X1_again_17 z0 s = some (.inr q))  (rz0 : rg z0) : VW cX1_again (tB (exE q.1) RX1 q.2 7 109 1) (P0 []) s 17 [(0, vO 0)] [vI z0] := by
  unfold j_X1_again_17 at h
  rcases bxv_inr h with e9 | ⟨s1, e2, h⟩
  · exact v_callXS (st := []) (t_X1_can e9 rz0) (lw_S q930 q931 q298 q932) yk_X1_can ⟨Nat.le_of_ble_eq_true rfl, Nat.le_of_ble_eq_true rfl⟩ (Nat.le_of_ble_eq_true rfl) rfl dX1_again_17
  have k3 := c_X1_can e2 rz0
  refine v_callS (st := []) k3 (lw_S q930 q931 q298 q932) yk_X1_can ⟨Nat.le_of_ble_eq_true rfl, Nat.le_of_ble_eq_true rfl⟩ trivial ⟨kc0, trivial⟩ (Nat.le_of_ble_eq_true rfl) rfl dX1_again_17 ?_
  exact (nx_no h).elim

theorem t_X1_again {s : vS} {q : Nat × vS} (h : f_X1_again s = some (.inr q))   : VT yX1_again cX1_again 1 (some .int) 7 109 [vO 0] s (exE q.1) q.2 := by
  unfold f_X1_again at h
  refine VT.of RX1 (by decide) rfl (Nat.le_of_ble_eq_true rfl) ?_
  show VW cX1_again (tB (exE q.1) RX1 q.2 7 109 1) (P0 []) s 0 [(0, vO 0)] []
  refine v_aload_n dX1_again_0 0 rfl rfl ?_
  refine v_getS (f := 8) (t := 84) cf1 oc0 rfl rfl rfl (by decide) q869 dX1_again_1 ?_
  obtain ⟨r4, s1, e2, h⟩ := bd_some h
  have k3 := c_X2_size e2 (⟨by decide, rfl⟩ : okB 84 1)
  have r5 : rg r4 := k3.1.2.2
  refine v_callV (st := []) cf2 oc84 k3 (lw_V q917 q918 q919 q299 q920) rfl yk_X2_size ⟨Nat.le_of_ble_eq_true rfl, Nat.le_of_ble_eq_true rfl⟩ trivial ⟨kc0, trivial⟩ (Nat.le_of_ble_eq_true rfl) rfl dX1_again_4 ?_
  refine v_ldc (n := 32768) dX1_again_7 q929 rfl ?_
  refine v_icmp_gt (tgt := 16) dX1_again_9 r5 (rgl rfl) (by decide) (fun c6 => ?_) (fun c6 => ?_)
  · rw [if_pos c6] at h
    refine v_iconst dX1_again_16 ?_
    exact tj_X1_again_17 h (rgl rfl)
  · rw [if_neg c6] at h
    refine v_iconst dX1_again_12 ?_
    refine v_goto (tgt := 17) dX1_again_13 (by decide) ?_
    exact tj_X1_again_17 h (rgl rfl)

def f_X1_count (x1 : Int) (s : vS) : Option (Int × vS) :=
  if x1 = 0 then
    bd (f_X2_size 1 s) fun r5 s2 =>
    some (r5, s2)
  else
  if x1 = 1 then
    some (gI s 0 12, s)
  else
  if x1 = 2 then
    some (gI s 0 10, s)
  else
  if x1 = 3 then
    some (gI s 0 11, s)
  else
  if x1 = 4 then
    bd (f_X2_size 84 s) fun r14 s11 =>
    some (r14, s11)
  else
  if x1 = 5 then
    some (gI s 0 13, s)
  else
    some ((-1), s)
theorem yk_X1_count : yOk yX1_count 1 := ⟨by decide, by decide, by decide +kernel⟩
theorem c_X1_count {x1 : Int} {s : vS} {out : Int × vS} (h : f_X1_count x1 s = some out)  (rx1 : rg x1) : VC yX1_count cX1_count 2 (some .int) 1 20 [vO 0, vI x1] s (some (vI out.1)) out.2 [] := by
  unfold f_X1_count at h
  refine VC.of RX1 (by decide) rfl (Nat.le_of_ble_eq_true rfl) ?_
  show VW cX1_count (RX1, (some (vI out.1)), out.2, (some .int), 1, 20, 2, []) (P0 []) s 0 [(0, vO 0), (1, vI x1)] []
  refine v_iload_n dX1_count_0 1 rfl rfl ?_
  by_cases c1 : x1 = 0
  · rw [if_pos c1] at h
    refine v_tswI (tgt := 40) dX1_count_1 rx1 (by rw [c1]; decide) (by rw [c1]; decide) (by rw [c1]; try rfl) (by decide) ?_
    refine v_aload_n dX1_count_40 0 rfl rfl ?_
    refine v_getS (f := 0) (t := 1) cf1 oc0 rfl rfl rfl (by decide) q861 dX1_count_41 ?_
    obtain ⟨r5, s2, e3, h⟩ := bd_some h
    have k4 := c_X2_size e3 (⟨by decide, rfl⟩ : okB 1 1)
    have r6 : rg r5 := k4.1.2.2
    refine v_callV (st := []) cf2 oc1 k4 (lw_V q917 q918 q919 q299 q920) rfl yk_X2_size ⟨Nat.le_of_ble_eq_true rfl, Nat.le_of_ble_eq_true rfl⟩ trivial ⟨kc0, trivial⟩ (Nat.le_of_ble_eq_true rfl) rfl dX1_count_44 ?_
    cases h
    exact v_iret r6 dX1_count_47
  rw [if_neg c1] at h
  by_cases c7 : x1 = 1
  · rw [if_pos c7] at h
    refine v_tswI (tgt := 48) dX1_count_1 rx1 (by rw [c7]; decide) (by rw [c7]; decide) (by rw [c7]; try rfl) (by decide) ?_
    refine v_aload_n dX1_count_48 0 rfl rfl ?_
    refine v_getI (f := 12) cf1 oc0 rfl (by decide) q873 dX1_count_49 ?_
    cases h
    exact v_iret (gI_rg _ _ _) dX1_count_52
  rw [if_neg c7] at h
  by_cases c8 : x1 = 2
  · rw [if_pos c8] at h
    refine v_tswI (tgt := 53) dX1_count_1 rx1 (by rw [c8]; decide) (by rw [c8]; decide) (by rw [c8]; try rfl) (by decide) ?_
    refine v_aload_n dX1_count_53 0 rfl rfl ?_
    refine v_getI (f := 10) cf1 oc0 rfl (by decide) q871 dX1_count_54 ?_
    cases h
    exact v_iret (gI_rg _ _ _) dX1_count_57
  rw [if_neg c8] at h
  by_cases c9 : x1 = 3
  · rw [if_pos c9] at h
    refine v_tswI (tgt := 58) dX1_count_1 rx1 (by rw [c9]; decide) (by rw [c9]; decide) (by rw [c9]; try rfl) (by decide) ?_
    refine v_aload_n dX1_count_58 0 rfl rfl ?_
    refine v_getI (f := 11) cf1 oc0 rfl (by decide) q872 dX1_count_59 ?_
    cases h
    exact v_iret (gI_rg _ _ _) dX1_count_62
  rw [if_neg c9] at h
  by_cases c10 : x1 = 4
  · rw [if_pos c10] at h
    refine v_tswI (tgt := 63) dX1_count_1 rx1 (by rw [c10]; decide) (by rw [c10]; decide) (by rw [c10]; try rfl) (by decide) ?_
    refine v_aload_n dX1_count_63 0 rfl rfl ?_
    refine v_getS (f := 8) (t := 84) cf1 oc0 rfl rfl rfl (by decide) q869 dX1_count_64 ?_
    obtain ⟨r14, s11, e12, h⟩ := bd_some h
    have k13 := c_X2_size e12 (⟨by decide, rfl⟩ : okB 84 1)
    have r15 : rg r14 := k13.1.2.2
    refine v_callV (st := []) cf2 oc84 k13 (lw_V q917 q918 q919 q299 q920) rfl yk_X2_size ⟨Nat.le_of_ble_eq_true rfl, Nat.le_of_ble_eq_true rfl⟩ trivial ⟨kc0, trivial⟩ (Nat.le_of_ble_eq_true rfl) rfl dX1_count_67 ?_
    cases h
    exact v_iret r15 dX1_count_70
  rw [if_neg c10] at h
  by_cases c16 : x1 = 5
  · rw [if_pos c16] at h
    refine v_tswI (tgt := 71) dX1_count_1 rx1 (by rw [c16]; decide) (by rw [c16]; decide) (by rw [c16]; try rfl) (by decide) ?_
    refine v_aload_n dX1_count_71 0 rfl rfl ?_
    refine v_getI (f := 13) cf1 oc0 rfl (by decide) q874 dX1_count_72 ?_
    cases h
    exact v_iret (gI_rg _ _ _) dX1_count_75
  rw [if_neg c16] at h
  refine v_tswO (tgt := 76) dX1_count_1 rx1 (by omega) (by decide) ?_
  refine v_iconst dX1_count_76 ?_
  cases h
  exact v_iret (rgl rfl) dX1_count_77

def f_X14_thrown (s : vS) : Option (Int × vS) :=
  some (gI s 87 3, s)
theorem yk_X14_thrown : yOk yX14_thrown 0 := ⟨by decide, by decide, by decide +kernel⟩
theorem c_X14_thrown {s : vS} {out : Int × vS} (h : f_X14_thrown s = some out)   : VC yX14_thrown cX14_thrown 1 (some .int) 0 0 [vO 87] s (some (vI out.1)) out.2 [] := by
  unfold f_X14_thrown at h
  refine VC.of RX14 (by decide) rfl (Nat.le_of_ble_eq_true rfl) ?_
  show VW cX14_thrown (RX14, (some (vI out.1)), out.2, (some .int), 0, 0, 1, []) (P0 []) s 0 [(0, vO 87)] []
  refine v_aload_n dX14_thrown_0 0 rfl rfl ?_
  refine v_getI (f := 3) cf14 oc87 rfl (by decide) q2373 dX14_thrown_1 ?_
  cases h
  exact v_iret (gI_rg _ _ _) dX14_thrown_4

def f_X14_fail (x1 : Int) (s : vS) : Option (Int × vS) :=
  stp (sI s 87 3 x1) fun s1 =>
  some (0, s1)
theorem yk_X14_fail : yOk yX14_fail 1 := ⟨by decide, by decide, by decide +kernel⟩
theorem c_X14_fail {x1 : Int} {s : vS} {out : Int × vS} (h : f_X14_fail x1 s = some out)  (rx1 : rg x1) : VC yX14_fail cX14_fail 2 (some .int) 0 0 [vO 87, vI x1] s (some (vI out.1)) out.2 [] := by
  unfold f_X14_fail at h
  refine VC.of RX14 (by decide) rfl (Nat.le_of_ble_eq_true rfl) ?_
  show VW cX14_fail (RX14, (some (vI out.1)), out.2, (some .int), 0, 0, 2, []) (P0 []) s 0 [(0, vO 87), (1, vI x1)] []
  refine v_aload_n dX14_fail_0 0 rfl rfl ?_
  refine v_iload_n dX14_fail_1 1 rfl rfl ?_
  obtain ⟨s1, e2, h⟩ := stp_some h
  refine v_putI (f := 3) cf14 oc87 rfl (by decide) q2373 dX14_fail_2 rfl rfl ?_
  rw [← e2]
  refine v_iconst dX14_fail_5 ?_
  cases h
  exact v_iret (rgl rfl) dX14_fail_6

def f_X14_within (x0 : Int) (x1 : Int) (x2 : Int) (s : vS) : Option (Int × vS) :=
  if x0 < x1 then
    some (0, s)
  else
    if x2 < x0 then
      some (0, s)
    else
      some (1, s)
theorem yk_X14_within : yOk yX14_within 3 := ⟨by decide, by decide, by decide +kernel⟩
theorem c_X14_within {x0 : Int} {x1 : Int} {x2 : Int} {s : vS} {out : Int × vS} (h : f_X14_within x0 x1 x2 s = some out)  (rx0 : rg x0) (rx1 : rg x1) (rx2 : rg x2) : VC yX14_within cX14_within 3 (some .boolean) 0 0 [vI x0, vI x1, vI x2] s (some (vI out.1)) out.2 [] := by
  unfold f_X14_within at h
  refine VC.of RX14 (by decide) rfl (Nat.le_of_ble_eq_true rfl) ?_
  show VW cX14_within (RX14, (some (vI out.1)), out.2, (some .boolean), 0, 0, 3, []) (P0 []) s 0 [(0, vI x0), (1, vI x1), (2, vI x2)] []
  refine v_iload_n dX14_within_0 0 rfl rfl ?_
  refine v_iload_n dX14_within_1 1 rfl rfl ?_
  refine v_icmp_lt (tgt := 14) dX14_within_2 rx0 rx1 (by decide) (fun c1 => ?_) (fun c1 => ?_)
  · rw [if_pos c1] at h
    refine v_iconst dX14_within_14 ?_
    cases h
    exact v_zret (Or.inl rfl) dX14_within_15
  · rw [if_neg c1] at h
    refine v_iload_n dX14_within_5 0 rfl rfl ?_
    refine v_iload_n dX14_within_6 2 rfl rfl ?_
    refine v_icmp_gt (tgt := 14) dX14_within_7 rx0 rx2 (by decide) (fun c2 => ?_) (fun c2 => ?_)
    · rw [if_pos c2] at h
      refine v_iconst dX14_within_14 ?_
      cases h
      exact v_zret (Or.inl rfl) dX14_within_15
    · rw [if_neg c2] at h
      refine v_iconst dX14_within_10 ?_
      refine v_goto (tgt := 15) dX14_within_11 (by decide) ?_
      cases h
      exact v_zret (Or.inr rfl) dX14_within_15

def f_X14_tell (x1 : Int) (x2 : Int) (s : vS) : Option (vS) :=
  if (gI s 87 8) ≤ 0 then
    stp (sI s 87 8 x1) fun s2 =>
    stp (sI s2 87 9 x2) fun s4 =>
    some s4
  else
    some s
theorem yk_X14_tell : yOk yX14_tell 2 := ⟨by decide, by decide, by decide +kernel⟩
theorem c_X14_tell {x1 : Int} {x2 : Int} {s : vS} {out : vS} (h : f_X14_tell x1 x2 s = some out)  (rx1 : rg x1) (rx2 : rg x2) : VC yX14_tell cX14_tell 3 none 0 0 [vO 87, vI x1, vI x2] s none out [] := by
  unfold f_X14_tell at h
  refine VC.of RX14 (by decide) rfl (Nat.le_of_ble_eq_true rfl) ?_
  show VW cX14_tell (RX14, none, out, none, 0, 0, 3, []) (P0 []) s 0 [(0, vO 87), (1, vI x1), (2, vI x2)] []
  refine v_aload_n dX14_tell_0 0 rfl rfl ?_
  refine v_getI (f := 8) cf14 oc87 rfl (by decide) q2378 dX14_tell_1 ?_
  refine v_if_le (tgt := 8) dX14_tell_4 (gI_rg _ _ _) (by decide) (fun c1 => ?_) (fun c1 => ?_)
  · rw [if_pos c1] at h
    refine v_aload_n dX14_tell_8 0 rfl rfl ?_
    refine v_iload_n dX14_tell_9 1 rfl rfl ?_
    obtain ⟨s2, e3, h⟩ := stp_some h
    refine v_putI (f := 8) cf14 oc87 rfl (by decide) q2378 dX14_tell_10 rfl rfl ?_
    rw [← e3]
    refine v_aload_n dX14_tell_13 0 rfl rfl ?_
    refine v_iload_n dX14_tell_14 2 rfl rfl ?_
    obtain ⟨s4, e5, h⟩ := stp_some h
    refine v_putI (f := 9) cf14 oc87 rfl (by decide) q2379 dX14_tell_15 rfl rfl ?_
    rw [← e5]
    cases h
    exact v_vret dX14_tell_18
  · rw [if_neg c1] at h
    cases h
    exact v_vret dX14_tell_7

def f_X14_room (x0 : Int) (x1 : Int) (s : vS) : Option (Int × vS) :=
  if (d32 x1 64) < x0 then
    if (d32 x1 8) < x0 then
      some (x1, s)
    else
      some (d32 x1 8, s)
  else
    some (d32 x1 64, s)
theorem yk_X14_room : yOk yX14_room 2 := ⟨by decide, by decide, by decide +kernel⟩
theorem c_X14_room {x0 : Int} {x1 : Int} {s : vS} {out : Int × vS} (h : f_X14_room x0 x1 s = some out)  (rx0 : rg x0) (rx1 : rg x1) : VC yX14_room cX14_room 2 (some .int) 0 0 [vI x0, vI x1] s (some (vI out.1)) out.2 [] := by
  unfold f_X14_room at h
  refine VC.of RX14 (by decide) rfl (Nat.le_of_ble_eq_true rfl) ?_
  show VW cX14_room (RX14, (some (vI out.1)), out.2, (some .int), 0, 0, 2, []) (P0 []) s 0 [(0, vI x0), (1, vI x1)] []
  refine v_iload_n dX14_room_0 0 rfl rfl ?_
  refine v_iload_n dX14_room_1 1 rfl rfl ?_
  refine v_bipush dX14_room_2 rfl ?_
  refine v_idiv dX14_room_4 (rgl rfl) (by decide) ?_
  refine v_icmp_gt (tgt := 15) dX14_room_5 rx0 (d32_rg _ _) (by decide) (fun c1 => ?_) (fun c1 => ?_)
  · rw [if_pos c1] at h
    refine v_iload_n dX14_room_15 0 rfl rfl ?_
    refine v_iload_n dX14_room_16 1 rfl rfl ?_
    refine v_bipush dX14_room_17 rfl ?_
    refine v_idiv dX14_room_19 (rgl rfl) (by decide) ?_
    refine v_icmp_gt (tgt := 30) dX14_room_20 rx0 (d32_rg _ _) (by decide) (fun c2 => ?_) (fun c2 => ?_)
    · rw [if_pos c2] at h
      refine v_iload_n dX14_room_30 1 rfl rfl ?_
      cases h
      exact v_iret rx1 dX14_room_31
    · rw [if_neg c2] at h
      refine v_iload_n dX14_room_23 1 rfl rfl ?_
      refine v_bipush dX14_room_24 rfl ?_
      refine v_idiv dX14_room_26 (rgl rfl) (by decide) ?_
      refine v_goto (tgt := 31) dX14_room_27 (by decide) ?_
      cases h
      exact v_iret (d32_rg _ _) dX14_room_31
  · rw [if_neg c1] at h
    refine v_iload_n dX14_room_8 1 rfl rfl ?_
    refine v_bipush dX14_room_9 rfl ?_
    refine v_idiv dX14_room_11 (rgl rfl) (by decide) ?_
    refine v_goto (tgt := 31) dX14_room_12 (by decide) ?_
    cases h
    exact v_iret (d32_rg _ _) dX14_room_31

def f_X14_roomForLexemes (s : vS) : Option (vS) :=
  if (w32 (gN s 94 : Int)) < (w32 ((gI s 87 13) + 4)) then
    bd (f_X14_room (w32 ((gI s 87 13) + 4)) 32776 s) fun r5 s2 =>
    gd (naG r5) <|
    stp (sA s2 199 (Int.toNat r5, fun _ => 0)) fun s8 =>
    gd (2 * gN s8 94 ≤ gN s8 199 ∧ 2 ≤ gN s8 199) <|
    stp (sw2 s8 94 199) fun s11 =>
    stp (rs s11) fun s13 =>
    gd (naG r5) <|
    stp (sA s13 199 (Int.toNat r5, fun _ => 0)) fun s16 =>
    gd (2 * gN s16 95 ≤ gN s16 199 ∧ 2 ≤ gN s16 199) <|
    stp (sw2 s16 95 199) fun s19 =>
    stp (rs s19) fun s21 =>
    gd (naG r5) <|
    stp (sA s21 199 (Int.toNat r5, fun _ => 0)) fun s24 =>
    gd (2 * gN s24 96 ≤ gN s24 199 ∧ 2 ≤ gN s24 199) <|
    stp (sw2 s24 96 199) fun s27 =>
    stp (rs s27) fun s29 =>
    some s29
  else
    some s
theorem yk_X14_roomForLexemes : yOk yX14_roomForLexemes 0 := ⟨by decide, by decide, by decide +kernel⟩
theorem c_X14_roomForLexemes {s : vS} {out : vS} (h : f_X14_roomForLexemes s = some out)   : VC yX14_roomForLexemes cX14_roomForLexemes 2 none 1 21 [vO 87] s none out [] := by
  unfold f_X14_roomForLexemes at h
  refine VC.of RX14 (by decide) rfl (Nat.le_of_ble_eq_true rfl) ?_
  show VW cX14_roomForLexemes (RX14, none, out, none, 1, 21, 2, []) (P0 []) s 0 [(0, vO 87)] []
  refine v_aload_n dX14_roomForLexemes_0 0 rfl rfl ?_
  refine v_getS (f := 16) (t := 94) cf14 oc87 rfl rfl rfl (by decide) q2386 dX14_roomForLexemes_1 ?_
  refine v_alen24 oc94 dX14_roomForLexemes_4 ?_
  refine v_aload_n dX14_roomForLexemes_5 0 rfl rfl ?_
  refine v_getI (f := 13) cf14 oc87 rfl (by decide) q2383 dX14_roomForLexemes_6 ?_
  refine v_iconst dX14_roomForLexemes_9 ?_
  refine v_iadd dX14_roomForLexemes_10 ?_
  refine v_icmp_lt (tgt := 15) dX14_roomForLexemes_11 (w32_rg _) (w32_rg _) (by decide) (fun c1 => ?_) (fun c1 => ?_)
  · rw [if_pos c1] at h
    refine v_aload_n dX14_roomForLexemes_15 0 rfl rfl ?_
    refine v_getI (f := 13) cf14 oc87 rfl (by decide) q2383 dX14_roomForLexemes_16 ?_
    refine v_iconst dX14_roomForLexemes_19 ?_
    refine v_iadd dX14_roomForLexemes_20 ?_
    refine v_ldcw (n := 32776) dX14_roomForLexemes_21 q2889 rfl ?_
    obtain ⟨r5, s2, e3, h⟩ := bd_some h
    have k4 := c_X14_room e3 (w32_rg _) (rgl rfl)
    have r6 : rg r5 := k4.1.2.2
    refine v_callS (st := []) k4 (lw_S q2890 q2891 q311 q2892) yk_X14_room ⟨Nat.le_of_ble_eq_true rfl, Nat.le_of_ble_eq_true rfl⟩ trivial ⟨kc87, trivial⟩ (Nat.le_of_ble_eq_true rfl) rfl dX14_roomForLexemes_24 ?_
    refine v_istore_n (L1 := [(1, vI r5), (0, vO 87)]) dX14_roomForLexemes_27 rfl (by decide) rfl ?_
    refine v_aload_n dX14_roomForLexemes_28 1 rfl rfl ?_
    refine v_iload_n dX14_roomForLexemes_29 0 rfl rfl ?_
    obtain ⟨g7, h⟩ := gd_some h
    obtain ⟨s8, e9, h⟩ := stp_some h
    refine v_na24 (K := 199) (tk1 := [(24, 1)]) rfl rfl (by decide) r6 g7 ⟨(by decide), trivial⟩ ⟨(by decide), trivial⟩ q459 dX14_roomForLexemes_30 ?_
    rw [← e9]
    obtain ⟨g10, h⟩ := gd_some h
    obtain ⟨s11, e12, h⟩ := stp_some h
    refine v_pa (i := 0) (K := 199) (t0 := 94) (f := 16) (tk1 := [(24, 0)]) (L1 := [(1, vI r5), (0, vO 87)]) (st1 := []) rfl rfl (by decide) cf14 (⟨by decide, rfl⟩ : okB 87 13) rfl (by decide) rfl rfl (by decide) rfl g10 q2386 dX14_roomForLexemes_32 rfl rfl rfl rfl ?_
    rw [← e12]
    refine v_sub [1, 0] (L1 := [(0, vO 87), (1, vI r5)]) rfl ?_
    obtain ⟨s13, e14, h⟩ := stp_some h
    refine v_dr (by decide) (by decide) ⟨(by decide), trivial⟩ trivial ?_
    rw [← e14]
    refine v_aload_n dX14_roomForLexemes_35 0 rfl rfl ?_
    refine v_iload_n dX14_roomForLexemes_36 1 rfl rfl ?_
    obtain ⟨g15, h⟩ := gd_some h
    obtain ⟨s16, e17, h⟩ := stp_some h
    refine v_na24 (K := 199) (tk1 := [(24, 1)]) rfl rfl (by decide) r6 g15 ⟨(by decide), trivial⟩ ⟨(by decide), trivial⟩ q459 dX14_roomForLexemes_37 ?_
    rw [← e17]
    obtain ⟨g18, h⟩ := gd_some h
    obtain ⟨s19, e20, h⟩ := stp_some h
    refine v_pa (i := 0) (K := 199) (t0 := 95) (f := 17) (tk1 := [(24, 0)]) (L1 := [(0, vO 87), (1, vI r5)]) (st1 := []) rfl rfl (by decide) cf14 (⟨by decide, rfl⟩ : okB 87 13) rfl (by decide) rfl rfl (by decide) rfl g18 q2387 dX14_roomForLexemes_39 rfl rfl rfl rfl ?_
    rw [← e20]
    obtain ⟨s21, e22, h⟩ := stp_some h
    refine v_dr (by decide) (by decide) ⟨(by decide), trivial⟩ trivial ?_
    rw [← e22]
    refine v_aload_n dX14_roomForLexemes_42 0 rfl rfl ?_
    refine v_iload_n dX14_roomForLexemes_43 1 rfl rfl ?_
    obtain ⟨g23, h⟩ := gd_some h
    obtain ⟨s24, e25, h⟩ := stp_some h
    refine v_na24 (K := 199) (tk1 := [(24, 1)]) rfl rfl (by decide) r6 g23 ⟨(by decide), trivial⟩ ⟨(by decide), trivial⟩ q459 dX14_roomForLexemes_44 ?_
    rw [← e25]
    obtain ⟨g26, h⟩ := gd_some h
    obtain ⟨s27, e28, h⟩ := stp_some h
    refine v_pa (i := 0) (K := 199) (t0 := 96) (f := 18) (tk1 := [(24, 0)]) (L1 := [(0, vO 87), (1, vI r5)]) (st1 := []) rfl rfl (by decide) cf14 (⟨by decide, rfl⟩ : okB 87 13) rfl (by decide) rfl rfl (by decide) rfl g26 q2388 dX14_roomForLexemes_46 rfl rfl rfl rfl ?_
    rw [← e28]
    refine v_sub [] (L1 := []) rfl ?_
    obtain ⟨s29, e30, h⟩ := stp_some h
    refine v_dr (by decide) (by decide) trivial trivial ?_
    rw [← e30]
    cases h
    exact v_vret dX14_roomForLexemes_49
  · rw [if_neg c1] at h
    cases h
    exact v_vret dX14_roomForLexemes_14

def f_X14_roomForTypes (s : vS) : Option (vS) :=
  if (w32 (gN s 97 : Int)) < (w32 ((gI s 87 15) + 4)) then
    bd (f_X14_room (w32 ((gI s 87 15) + 4)) 32776 s) fun r5 s2 =>
    gd (naG r5) <|
    stp (sA s2 199 (Int.toNat r5, fun _ => 0)) fun s8 =>
    gd (2 * gN s8 97 ≤ gN s8 199 ∧ 2 ≤ gN s8 199) <|
    stp (sw2 s8 97 199) fun s11 =>
    stp (rs s11) fun s13 =>
    gd (naG r5) <|
    stp (sA s13 199 (Int.toNat r5, fun _ => 0)) fun s16 =>
    gd (2 * gN s16 98 ≤ gN s16 199 ∧ 2 ≤ gN s16 199) <|
    stp (sw2 s16 98 199) fun s19 =>
    stp (rs s19) fun s21 =>
    gd (naG r5) <|
    stp (sA s21 199 (Int.toNat r5, fun _ => 0)) fun s24 =>
    gd (2 * gN s24 99 ≤ gN s24 199 ∧ 2 ≤ gN s24 199) <|
    stp (sw2 s24 99 199) fun s27 =>
    stp (rs s27) fun s29 =>
    gd (naG r5) <|
    stp (sA s29 199 (Int.toNat r5, fun _ => 0)) fun s32 =>
    gd (2 * gN s32 100 ≤ gN s32 199 ∧ 2 ≤ gN s32 199) <|
    stp (sw2 s32 100 199) fun s35 =>
    stp (rs s35) fun s37 =>
    gd (naG r5) <|
    stp (sA s37 199 (Int.toNat r5, fun _ => 0)) fun s40 =>
    gd (2 * gN s40 101 ≤ gN s40 199 ∧ 2 ≤ gN s40 199) <|
    stp (sw2 s40 101 199) fun s43 =>
    stp (rs s43) fun s45 =>
    gd (naG r5) <|
    stp (sA s45 199 (Int.toNat r5, fun _ => 0)) fun s48 =>
    gd (2 * gN s48 102 ≤ gN s48 199 ∧ 2 ≤ gN s48 199) <|
    stp (sw2 s48 102 199) fun s51 =>
    stp (rs s51) fun s53 =>
    gd (naG r5) <|
    stp (sA s53 199 (Int.toNat r5, fun _ => 0)) fun s56 =>
    gd (2 * gN s56 103 ≤ gN s56 199 ∧ 2 ≤ gN s56 199) <|
    stp (sw2 s56 103 199) fun s59 =>
    stp (rs s59) fun s61 =>
    gd (naG r5) <|
    stp (sA s61 199 (Int.toNat r5, fun _ => 0)) fun s64 =>
    gd (2 * gN s64 104 ≤ gN s64 199 ∧ 2 ≤ gN s64 199) <|
    stp (sw2 s64 104 199) fun s67 =>
    stp (rs s67) fun s69 =>
    gd (naG r5) <|
    stp (sA s69 199 (Int.toNat r5, fun _ => 0)) fun s72 =>
    gd (2 * gN s72 105 ≤ gN s72 199 ∧ 2 ≤ gN s72 199) <|
    stp (sw2 s72 105 199) fun s75 =>
    stp (rs s75) fun s77 =>
    gd (naG r5) <|
    stp (sA s77 199 (Int.toNat r5, fun _ => 0)) fun s80 =>
    gd (2 * gN s80 106 ≤ gN s80 199 ∧ 2 ≤ gN s80 199) <|
    stp (sw2 s80 106 199) fun s83 =>
    stp (rs s83) fun s85 =>
    gd (naG r5) <|
    stp (sA s85 199 (Int.toNat r5, fun _ => 0)) fun s88 =>
    gd (2 * gN s88 107 ≤ gN s88 199 ∧ 2 ≤ gN s88 199) <|
    stp (sw2 s88 107 199) fun s91 =>
    stp (rs s91) fun s93 =>
    gd (naG r5) <|
    stp (sA s93 199 (Int.toNat r5, fun _ => 0)) fun s96 =>
    gd (2 * gN s96 155 ≤ gN s96 199 ∧ 2 ≤ gN s96 199) <|
    stp (sw2 s96 155 199) fun s99 =>
    stp (rs s99) fun s101 =>
    gd (naG r5) <|
    stp (sA s101 199 (Int.toNat r5, fun _ => 0)) fun s104 =>
    gd (2 * gN s104 156 ≤ gN s104 199 ∧ 2 ≤ gN s104 199) <|
    stp (sw2 s104 156 199) fun s107 =>
    stp (rs s107) fun s109 =>
    gd (naG r5) <|
    stp (sA s109 199 (Int.toNat r5, fun _ => 0)) fun s112 =>
    gd (2 * gN s112 157 ≤ gN s112 199 ∧ 2 ≤ gN s112 199) <|
    stp (sw2 s112 157 199) fun s115 =>
    stp (rs s115) fun s117 =>
    gd (naG r5) <|
    stp (sA s117 199 (Int.toNat r5, fun _ => 0)) fun s120 =>
    gd (2 * gN s120 160 ≤ gN s120 199 ∧ 2 ≤ gN s120 199) <|
    stp (sw2 s120 160 199) fun s123 =>
    stp (rs s123) fun s125 =>
    gd (naG r5) <|
    stp (sA s125 199 (Int.toNat r5, fun _ => 0)) fun s128 =>
    gd (2 * gN s128 150 ≤ gN s128 199 ∧ 2 ≤ gN s128 199) <|
    stp (sw2 s128 150 199) fun s131 =>
    stp (rs s131) fun s133 =>
    gd (naG r5) <|
    stp (sA s133 199 (Int.toNat r5, fun _ => 0)) fun s136 =>
    gd (2 * gN s136 151 ≤ gN s136 199 ∧ 2 ≤ gN s136 199) <|
    stp (sw2 s136 151 199) fun s139 =>
    stp (rs s139) fun s141 =>
    gd (naG r5) <|
    stp (sA s141 199 (Int.toNat r5, fun _ => 0)) fun s144 =>
    gd (2 * gN s144 139 ≤ gN s144 199 ∧ 2 ≤ gN s144 199) <|
    stp (sw2 s144 139 199) fun s147 =>
    stp (rs s147) fun s149 =>
    gd (naG r5) <|
    stp (sA s149 199 (Int.toNat r5, fun _ => 0)) fun s152 =>
    gd (2 * gN s152 140 ≤ gN s152 199 ∧ 2 ≤ gN s152 199) <|
    stp (sw2 s152 140 199) fun s155 =>
    stp (rs s155) fun s157 =>
    gd (naG (w32 ((d32 r5 2) + 4))) <|
    stp (sA s157 199 (Int.toNat (w32 ((d32 r5 2) + 4)), fun _ => 0)) fun s160 =>
    gd (2 * gN s160 112 ≤ gN s160 199 ∧ 2 ≤ gN s160 199) <|
    stp (sw2 s160 112 199) fun s163 =>
    stp (rs s163) fun s165 =>
    gd (naG (w32 ((d32 r5 2) + 4))) <|
    stp (sA s165 199 (Int.toNat (w32 ((d32 r5 2) + 4)), fun _ => 0)) fun s168 =>
    gd (2 * gN s168 113 ≤ gN s168 199 ∧ 2 ≤ gN s168 199) <|
    stp (sw2 s168 113 199) fun s171 =>
    stp (rs s171) fun s173 =>
    gd (naG (w32 ((d32 r5 2) + 4))) <|
    stp (sA s173 199 (Int.toNat (w32 ((d32 r5 2) + 4)), fun _ => 0)) fun s176 =>
    gd (2 * gN s176 114 ≤ gN s176 199 ∧ 2 ≤ gN s176 199) <|
    stp (sw2 s176 114 199) fun s179 =>
    stp (rs s179) fun s181 =>
    gd (naG (w32 ((d32 r5 2) + 4))) <|
    stp (sA s181 199 (Int.toNat (w32 ((d32 r5 2) + 4)), fun _ => 0)) fun s184 =>
    gd (2 * gN s184 115 ≤ gN s184 199 ∧ 2 ≤ gN s184 199) <|
    stp (sw2 s184 115 199) fun s187 =>
    stp (rs s187) fun s189 =>
    gd (naG (w32 ((d32 r5 2) + 4))) <|
    stp (sA s189 199 (Int.toNat (w32 ((d32 r5 2) + 4)), fun _ => 0)) fun s192 =>
    gd (2 * gN s192 116 ≤ gN s192 199 ∧ 2 ≤ gN s192 199) <|
    stp (sw2 s192 116 199) fun s195 =>
    stp (rs s195) fun s197 =>
    gd (naG (w32 ((d32 r5 2) + 4))) <|
    stp (sA s197 199 (Int.toNat (w32 ((d32 r5 2) + 4)), fun _ => 0)) fun s200 =>
    gd (2 * gN s200 117 ≤ gN s200 199 ∧ 2 ≤ gN s200 199) <|
    stp (sw2 s200 117 199) fun s203 =>
    stp (rs s203) fun s205 =>
    gd (naG (w32 ((d32 r5 2) + 4))) <|
    stp (sA s205 199 (Int.toNat (w32 ((d32 r5 2) + 4)), fun _ => 0)) fun s208 =>
    gd (2 * gN s208 118 ≤ gN s208 199 ∧ 2 ≤ gN s208 199) <|
    stp (sw2 s208 118 199) fun s211 =>
    stp (rs s211) fun s213 =>
    gd (naG (w32 ((d32 r5 2) + 4))) <|
    stp (sA s213 199 (Int.toNat (w32 ((d32 r5 2) + 4)), fun _ => 0)) fun s216 =>
    gd (2 * gN s216 119 ≤ gN s216 199 ∧ 2 ≤ gN s216 199) <|
    stp (sw2 s216 119 199) fun s219 =>
    stp (rs s219) fun s221 =>
    gd (naG (w32 ((d32 r5 2) + 4))) <|
    stp (sA s221 199 (Int.toNat (w32 ((d32 r5 2) + 4)), fun _ => 0)) fun s224 =>
    gd (2 * gN s224 120 ≤ gN s224 199 ∧ 2 ≤ gN s224 199) <|
    stp (sw2 s224 120 199) fun s227 =>
    stp (rs s227) fun s229 =>
    gd (naG (w32 ((d32 r5 2) + 4))) <|
    stp (sA s229 199 (Int.toNat (w32 ((d32 r5 2) + 4)), fun _ => 0)) fun s232 =>
    gd (2 * gN s232 126 ≤ gN s232 199 ∧ 2 ≤ gN s232 199) <|
    stp (sw2 s232 126 199) fun s235 =>
    stp (rs s235) fun s237 =>
    gd (naG (w32 ((d32 r5 2) + 4))) <|
    stp (sA s237 199 (Int.toNat (w32 ((d32 r5 2) + 4)), fun _ => 0)) fun s240 =>
    gd (2 * gN s240 127 ≤ gN s240 199 ∧ 2 ≤ gN s240 199) <|
    stp (sw2 s240 127 199) fun s243 =>
    stp (rs s243) fun s245 =>
    gd (naG (w32 ((d32 r5 2) + 4))) <|
    stp (sA s245 199 (Int.toNat (w32 ((d32 r5 2) + 4)), fun _ => 0)) fun s248 =>
    gd (2 * gN s248 128 ≤ gN s248 199 ∧ 2 ≤ gN s248 199) <|
    stp (sw2 s248 128 199) fun s251 =>
    stp (rs s251) fun s253 =>
    gd (naG (w32 ((d32 r5 2) + 4))) <|
    stp (sA s253 199 (Int.toNat (w32 ((d32 r5 2) + 4)), fun _ => 0)) fun s256 =>
    gd (2 * gN s256 129 ≤ gN s256 199 ∧ 2 ≤ gN s256 199) <|
    stp (sw2 s256 129 199) fun s259 =>
    stp (rs s259) fun s261 =>
    gd (naG (w32 ((d32 r5 2) + 4))) <|
    stp (sA s261 199 (Int.toNat (w32 ((d32 r5 2) + 4)), fun _ => 0)) fun s264 =>
    gd (2 * gN s264 130 ≤ gN s264 199 ∧ 2 ≤ gN s264 199) <|
    stp (sw2 s264 130 199) fun s267 =>
    stp (rs s267) fun s269 =>
    gd (naG (w32 ((d32 r5 2) + 4))) <|
    stp (sA s269 199 (Int.toNat (w32 ((d32 r5 2) + 4)), fun _ => 0)) fun s272 =>
    gd (2 * gN s272 131 ≤ gN s272 199 ∧ 2 ≤ gN s272 199) <|
    stp (sw2 s272 131 199) fun s275 =>
    stp (rs s275) fun s277 =>
    gd (naG (w32 ((d32 r5 2) + 4))) <|
    stp (sA s277 199 (Int.toNat (w32 ((d32 r5 2) + 4)), fun _ => 0)) fun s280 =>
    gd (2 * gN s280 132 ≤ gN s280 199 ∧ 2 ≤ gN s280 199) <|
    stp (sw2 s280 132 199) fun s283 =>
    stp (rs s283) fun s285 =>
    gd (naG (w32 ((d32 r5 2) + 4))) <|
    stp (sA s285 199 (Int.toNat (w32 ((d32 r5 2) + 4)), fun _ => 0)) fun s288 =>
    gd (2 * gN s288 133 ≤ gN s288 199 ∧ 2 ≤ gN s288 199) <|
    stp (sw2 s288 133 199) fun s291 =>
    stp (rs s291) fun s293 =>
    gd (naG (w32 ((d32 r5 2) + 4))) <|
    stp (sA s293 199 (Int.toNat (w32 ((d32 r5 2) + 4)), fun _ => 0)) fun s296 =>
    gd (2 * gN s296 134 ≤ gN s296 199 ∧ 2 ≤ gN s296 199) <|
    stp (sw2 s296 134 199) fun s299 =>
    stp (rs s299) fun s301 =>
    gd (naG (w32 ((d32 r5 2) + 4))) <|
    stp (sA s301 199 (Int.toNat (w32 ((d32 r5 2) + 4)), fun _ => 0)) fun s304 =>
    gd (2 * gN s304 135 ≤ gN s304 199 ∧ 2 ≤ gN s304 199) <|
    stp (sw2 s304 135 199) fun s307 =>
    stp (rs s307) fun s309 =>
    gd (naG (w32 ((d32 r5 2) + 4))) <|
    stp (sA s309 199 (Int.toNat (w32 ((d32 r5 2) + 4)), fun _ => 0)) fun s312 =>
    gd (2 * gN s312 136 ≤ gN s312 199 ∧ 2 ≤ gN s312 199) <|
    stp (sw2 s312 136 199) fun s315 =>
    stp (rs s315) fun s317 =>
    gd (naG (w32 ((d32 r5 2) + 4))) <|
    stp (sA s317 199 (Int.toNat (w32 ((d32 r5 2) + 4)), fun _ => 0)) fun s320 =>
    gd (2 * gN s320 137 ≤ gN s320 199 ∧ 2 ≤ gN s320 199) <|
    stp (sw2 s320 137 199) fun s323 =>
    stp (rs s323) fun s325 =>
    gd (naG (w32 ((d32 r5 2) + 4))) <|
    stp (sA s325 199 (Int.toNat (w32 ((d32 r5 2) + 4)), fun _ => 0)) fun s328 =>
    gd (2 * gN s328 138 ≤ gN s328 199 ∧ 2 ≤ gN s328 199) <|
    stp (sw2 s328 138 199) fun s331 =>
    stp (rs s331) fun s333 =>
    gd (naG (w32 ((d32 r5 2) + 4))) <|
    stp (sA s333 199 (Int.toNat (w32 ((d32 r5 2) + 4)), fun _ => 0)) fun s336 =>
    gd (2 * gN s336 166 ≤ gN s336 199 ∧ 2 ≤ gN s336 199) <|
    stp (sw2 s336 166 199) fun s339 =>
    stp (rs s339) fun s341 =>
    gd (naG (w32 ((d32 r5 2) + 4))) <|
    stp (sA s341 199 (Int.toNat (w32 ((d32 r5 2) + 4)), fun _ => 0)) fun s344 =>
    gd (2 * gN s344 167 ≤ gN s344 199 ∧ 2 ≤ gN s344 199) <|
    stp (sw2 s344 167 199) fun s347 =>
    stp (rs s347) fun s349 =>
    gd (naG (w32 ((d32 r5 2) + 4))) <|
    stp (sA s349 199 (Int.toNat (w32 ((d32 r5 2) + 4)), fun _ => 0)) fun s352 =>
    gd (2 * gN s352 168 ≤ gN s352 199 ∧ 2 ≤ gN s352 199) <|
    stp (sw2 s352 168 199) fun s355 =>
    stp (rs s355) fun s357 =>
    gd (naG (w32 ((d32 r5 3) + 8))) <|
    stp (sA s357 199 (Int.toNat (w32 ((d32 r5 3) + 8)), fun _ => 0)) fun s360 =>
    gd (2 * gN s360 108 ≤ gN s360 199 ∧ 2 ≤ gN s360 199) <|
    stp (sw2 s360 108 199) fun s363 =>
    stp (rs s363) fun s365 =>
    gd (naG (w32 ((d32 r5 3) + 8))) <|
    stp (sA s365 199 (Int.toNat (w32 ((d32 r5 3) + 8)), fun _ => 0)) fun s368 =>
    gd (2 * gN s368 109 ≤ gN s368 199 ∧ 2 ≤ gN s368 199) <|
    stp (sw2 s368 109 199) fun s371 =>
    stp (rs s371) fun s373 =>
    gd (naG (w32 ((d32 r5 3) + 8))) <|
    stp (sA s373 199 (Int.toNat (w32 ((d32 r5 3) + 8)), fun _ => 0)) fun s376 =>
    gd (2 * gN s376 110 ≤ gN s376 199 ∧ 2 ≤ gN s376 199) <|
    stp (sw2 s376 110 199) fun s379 =>
    stp (rs s379) fun s381 =>
    gd (naG (w32 ((d32 r5 3) + 8))) <|
    stp (sA s381 199 (Int.toNat (w32 ((d32 r5 3) + 8)), fun _ => 0)) fun s384 =>
    gd (2 * gN s384 111 ≤ gN s384 199 ∧ 2 ≤ gN s384 199) <|
    stp (sw2 s384 111 199) fun s387 =>
    stp (rs s387) fun s389 =>
    gd (naG (w32 ((d32 r5 3) + 8))) <|
    stp (sA s389 199 (Int.toNat (w32 ((d32 r5 3) + 8)), fun _ => 0)) fun s392 =>
    gd (2 * gN s392 121 ≤ gN s392 199 ∧ 2 ≤ gN s392 199) <|
    stp (sw2 s392 121 199) fun s395 =>
    stp (rs s395) fun s397 =>
    gd (naG (w32 ((d32 r5 3) + 8))) <|
    stp (sA s397 199 (Int.toNat (w32 ((d32 r5 3) + 8)), fun _ => 0)) fun s400 =>
    gd (2 * gN s400 122 ≤ gN s400 199 ∧ 2 ≤ gN s400 199) <|
    stp (sw2 s400 122 199) fun s403 =>
    stp (rs s403) fun s405 =>
    gd (naG (w32 ((d32 r5 3) + 8))) <|
    stp (sA s405 199 (Int.toNat (w32 ((d32 r5 3) + 8)), fun _ => 0)) fun s408 =>
    gd (2 * gN s408 123 ≤ gN s408 199 ∧ 2 ≤ gN s408 199) <|
    stp (sw2 s408 123 199) fun s411 =>
    stp (rs s411) fun s413 =>
    gd (naG (w32 ((d32 r5 3) + 8))) <|
    stp (sA s413 199 (Int.toNat (w32 ((d32 r5 3) + 8)), fun _ => 0)) fun s416 =>
    gd (2 * gN s416 124 ≤ gN s416 199 ∧ 2 ≤ gN s416 199) <|
    stp (sw2 s416 124 199) fun s419 =>
    stp (rs s419) fun s421 =>
    gd (naG (w32 ((d32 r5 3) + 8))) <|
    stp (sA s421 199 (Int.toNat (w32 ((d32 r5 3) + 8)), fun _ => 0)) fun s424 =>
    gd (2 * gN s424 125 ≤ gN s424 199 ∧ 2 ≤ gN s424 199) <|
    stp (sw2 s424 125 199) fun s427 =>
    stp (rs s427) fun s429 =>
    gd (naG (w32 ((d32 r5 3) + 8))) <|
    stp (sA s429 199 (Int.toNat (w32 ((d32 r5 3) + 8)), fun _ => 0)) fun s432 =>
    gd (2 * gN s432 141 ≤ gN s432 199 ∧ 2 ≤ gN s432 199) <|
    stp (sw2 s432 141 199) fun s435 =>
    stp (rs s435) fun s437 =>
    gd (naG (w32 ((d32 r5 3) + 8))) <|
    stp (sA s437 199 (Int.toNat (w32 ((d32 r5 3) + 8)), fun _ => 0)) fun s440 =>
    gd (2 * gN s440 142 ≤ gN s440 199 ∧ 2 ≤ gN s440 199) <|
    stp (sw2 s440 142 199) fun s443 =>
    stp (rs s443) fun s445 =>
    gd (naG (w32 ((d32 r5 3) + 8))) <|
    stp (sA s445 199 (Int.toNat (w32 ((d32 r5 3) + 8)), fun _ => 0)) fun s448 =>
    gd (2 * gN s448 143 ≤ gN s448 199 ∧ 2 ≤ gN s448 199) <|
    stp (sw2 s448 143 199) fun s451 =>
    stp (rs s451) fun s453 =>
    gd (naG (w32 ((d32 r5 3) + 8))) <|
    stp (sA s453 199 (Int.toNat (w32 ((d32 r5 3) + 8)), fun _ => 0)) fun s456 =>
    gd (2 * gN s456 144 ≤ gN s456 199 ∧ 2 ≤ gN s456 199) <|
    stp (sw2 s456 144 199) fun s459 =>
    stp (rs s459) fun s461 =>
    gd (naG (w32 ((d32 r5 3) + 8))) <|
    stp (sA s461 199 (Int.toNat (w32 ((d32 r5 3) + 8)), fun _ => 0)) fun s464 =>
    gd (2 * gN s464 154 ≤ gN s464 199 ∧ 2 ≤ gN s464 199) <|
    stp (sw2 s464 154 199) fun s467 =>
    stp (rs s467) fun s469 =>
    gd (naG (w32 ((d32 r5 3) + 8))) <|
    stp (sA s469 199 (Int.toNat (w32 ((d32 r5 3) + 8)), fun _ => 0)) fun s472 =>
    gd (2 * gN s472 159 ≤ gN s472 199 ∧ 2 ≤ gN s472 199) <|
    stp (sw2 s472 159 199) fun s475 =>
    stp (rs s475) fun s477 =>
    some s477
  else
    some s
theorem yk_X14_roomForTypes : yOk yX14_roomForTypes 0 := ⟨by decide, by decide, by decide +kernel⟩
theorem c_X14_roomForTypes {s : vS} {out : vS} (h : f_X14_roomForTypes s = some out)   : VC yX14_roomForTypes cX14_roomForTypes 2 none 1 21 [vO 87] s none out [] := by
  unfold f_X14_roomForTypes at h
  refine VC.of RX14 (by decide) rfl (Nat.le_of_ble_eq_true rfl) ?_
  show VW cX14_roomForTypes (RX14, none, out, none, 1, 21, 2, []) (P0 []) s 0 [(0, vO 87)] []
  refine v_aload_n dX14_roomForTypes_0 0 rfl rfl ?_
  refine v_getS (f := 21) (t := 97) cf14 oc87 rfl rfl rfl (by decide) q2391 dX14_roomForTypes_1 ?_
  refine v_alen24 oc97 dX14_roomForTypes_4 ?_
  refine v_aload_n dX14_roomForTypes_5 0 rfl rfl ?_
  refine v_getI (f := 15) cf14 oc87 rfl (by decide) q2385 dX14_roomForTypes_6 ?_
  refine v_iconst dX14_roomForTypes_9 ?_
  refine v_iadd dX14_roomForTypes_10 ?_
  refine v_icmp_lt (tgt := 15) dX14_roomForTypes_11 (w32_rg _) (w32_rg _) (by decide) (fun c1 => ?_) (fun c1 => ?_)
  · rw [if_pos c1] at h
    refine v_aload_n dX14_roomForTypes_15 0 rfl rfl ?_
    refine v_getI (f := 15) cf14 oc87 rfl (by decide) q2385 dX14_roomForTypes_16 ?_
    refine v_iconst dX14_roomForTypes_19 ?_
    refine v_iadd dX14_roomForTypes_20 ?_
    refine v_ldcw (n := 32776) dX14_roomForTypes_21 q2889 rfl ?_
    obtain ⟨r5, s2, e3, h⟩ := bd_some h
    have k4 := c_X14_room e3 (w32_rg _) (rgl rfl)
    have r6 : rg r5 := k4.1.2.2
    refine v_callS (st := []) k4 (lw_S q2890 q2891 q311 q2892) yk_X14_room ⟨Nat.le_of_ble_eq_true rfl, Nat.le_of_ble_eq_true rfl⟩ trivial ⟨kc87, trivial⟩ (Nat.le_of_ble_eq_true rfl) rfl dX14_roomForTypes_24 ?_
    refine v_istore_n (L1 := [(1, vI r5), (0, vO 87)]) dX14_roomForTypes_27 rfl (by decide) rfl ?_
    refine v_aload_n dX14_roomForTypes_28 1 rfl rfl ?_
    refine v_iload_n dX14_roomForTypes_29 0 rfl rfl ?_
    obtain ⟨g7, h⟩ := gd_some h
    obtain ⟨s8, e9, h⟩ := stp_some h
    refine v_na24 (K := 199) (tk1 := [(24, 1)]) rfl rfl (by decide) r6 g7 ⟨(by decide), trivial⟩ ⟨(by decide), trivial⟩ q459 dX14_roomForTypes_30 ?_
    rw [← e9]
    obtain ⟨g10, h⟩ := gd_some h
    obtain ⟨s11, e12, h⟩ := stp_some h
    refine v_pa (i := 0) (K := 199) (t0 := 97) (f := 21) (tk1 := [(24, 0)]) (L1 := [(1, vI r5), (0, vO 87)]) (st1 := []) rfl rfl (by decide) cf14 (⟨by decide, rfl⟩ : okB 87 13) rfl (by decide) rfl rfl (by decide) rfl g10 q2391 dX14_roomForTypes_32 rfl rfl rfl rfl ?_
    rw [← e12]
    refine v_sub [1, 0] (L1 := [(0, vO 87), (1, vI r5)]) rfl ?_
    obtain ⟨s13, e14, h⟩ := stp_some h
    refine v_dr (by decide) (by decide) ⟨(by decide), trivial⟩ trivial ?_
    rw [← e14]
    refine v_aload_n dX14_roomForTypes_35 0 rfl rfl ?_
    refine v_iload_n dX14_roomForTypes_36 1 rfl rfl ?_
    obtain ⟨g15, h⟩ := gd_some h
    obtain ⟨s16, e17, h⟩ := stp_some h
    refine v_na24 (K := 199) (tk1 := [(24, 1)]) rfl rfl (by decide) r6 g15 ⟨(by decide), trivial⟩ ⟨(by decide), trivial⟩ q459 dX14_roomForTypes_37 ?_
    rw [← e17]
    obtain ⟨g18, h⟩ := gd_some h
    obtain ⟨s19, e20, h⟩ := stp_some h
    refine v_pa (i := 0) (K := 199) (t0 := 98) (f := 22) (tk1 := [(24, 0)]) (L1 := [(0, vO 87), (1, vI r5)]) (st1 := []) rfl rfl (by decide) cf14 (⟨by decide, rfl⟩ : okB 87 13) rfl (by decide) rfl rfl (by decide) rfl g18 q2392 dX14_roomForTypes_39 rfl rfl rfl rfl ?_
    rw [← e20]
    obtain ⟨s21, e22, h⟩ := stp_some h
    refine v_dr (by decide) (by decide) ⟨(by decide), trivial⟩ trivial ?_
    rw [← e22]
    refine v_aload_n dX14_roomForTypes_42 0 rfl rfl ?_
    refine v_iload_n dX14_roomForTypes_43 1 rfl rfl ?_
    obtain ⟨g23, h⟩ := gd_some h
    obtain ⟨s24, e25, h⟩ := stp_some h
    refine v_na24 (K := 199) (tk1 := [(24, 1)]) rfl rfl (by decide) r6 g23 ⟨(by decide), trivial⟩ ⟨(by decide), trivial⟩ q459 dX14_roomForTypes_44 ?_
    rw [← e25]
    obtain ⟨g26, h⟩ := gd_some h
    obtain ⟨s27, e28, h⟩ := stp_some h
    refine v_pa (i := 0) (K := 199) (t0 := 99) (f := 23) (tk1 := [(24, 0)]) (L1 := [(0, vO 87), (1, vI r5)]) (st1 := []) rfl rfl (by decide) cf14 (⟨by decide, rfl⟩ : okB 87 13) rfl (by decide) rfl rfl (by decide) rfl g26 q2393 dX14_roomForTypes_46 rfl rfl rfl rfl ?_
    rw [← e28]
    obtain ⟨s29, e30, h⟩ := stp_some h
    refine v_dr (by decide) (by decide) ⟨(by decide), trivial⟩ trivial ?_
    rw [← e30]
    refine v_aload_n dX14_roomForTypes_49 0 rfl rfl ?_
    refine v_iload_n dX14_roomForTypes_50 1 rfl rfl ?_
    obtain ⟨g31, h⟩ := gd_some h
    obtain ⟨s32, e33, h⟩ := stp_some h
    refine v_na24 (K := 199) (tk1 := [(24, 1)]) rfl rfl (by decide) r6 g31 ⟨(by decide), trivial⟩ ⟨(by decide), trivial⟩ q459 dX14_roomForTypes_51 ?_
    rw [← e33]
    obtain ⟨g34, h⟩ := gd_some h
    obtain ⟨s35, e36, h⟩ := stp_some h
    refine v_pa (i := 0) (K := 199) (t0 := 100) (f := 24) (tk1 := [(24, 0)]) (L1 := [(0, vO 87), (1, vI r5)]) (st1 := []) rfl rfl (by decide) cf14 (⟨by decide, rfl⟩ : okB 87 13) rfl (by decide) rfl rfl (by decide) rfl g34 q2394 dX14_roomForTypes_53 rfl rfl rfl rfl ?_
    rw [← e36]
    obtain ⟨s37, e38, h⟩ := stp_some h
    refine v_dr (by decide) (by decide) ⟨(by decide), trivial⟩ trivial ?_
    rw [← e38]
    refine v_aload_n dX14_roomForTypes_56 0 rfl rfl ?_
    refine v_iload_n dX14_roomForTypes_57 1 rfl rfl ?_
    obtain ⟨g39, h⟩ := gd_some h
    obtain ⟨s40, e41, h⟩ := stp_some h
    refine v_na24 (K := 199) (tk1 := [(24, 1)]) rfl rfl (by decide) r6 g39 ⟨(by decide), trivial⟩ ⟨(by decide), trivial⟩ q459 dX14_roomForTypes_58 ?_
    rw [← e41]
    obtain ⟨g42, h⟩ := gd_some h
    obtain ⟨s43, e44, h⟩ := stp_some h
    refine v_pa (i := 0) (K := 199) (t0 := 101) (f := 25) (tk1 := [(24, 0)]) (L1 := [(0, vO 87), (1, vI r5)]) (st1 := []) rfl rfl (by decide) cf14 (⟨by decide, rfl⟩ : okB 87 13) rfl (by decide) rfl rfl (by decide) rfl g42 q2395 dX14_roomForTypes_60 rfl rfl rfl rfl ?_
    rw [← e44]
    obtain ⟨s45, e46, h⟩ := stp_some h
    refine v_dr (by decide) (by decide) ⟨(by decide), trivial⟩ trivial ?_
    rw [← e46]
    refine v_aload_n dX14_roomForTypes_63 0 rfl rfl ?_
    refine v_iload_n dX14_roomForTypes_64 1 rfl rfl ?_
    obtain ⟨g47, h⟩ := gd_some h
    obtain ⟨s48, e49, h⟩ := stp_some h
    refine v_na24 (K := 199) (tk1 := [(24, 1)]) rfl rfl (by decide) r6 g47 ⟨(by decide), trivial⟩ ⟨(by decide), trivial⟩ q459 dX14_roomForTypes_65 ?_
    rw [← e49]
    obtain ⟨g50, h⟩ := gd_some h
    obtain ⟨s51, e52, h⟩ := stp_some h
    refine v_pa (i := 0) (K := 199) (t0 := 102) (f := 26) (tk1 := [(24, 0)]) (L1 := [(0, vO 87), (1, vI r5)]) (st1 := []) rfl rfl (by decide) cf14 (⟨by decide, rfl⟩ : okB 87 13) rfl (by decide) rfl rfl (by decide) rfl g50 q2396 dX14_roomForTypes_67 rfl rfl rfl rfl ?_
    rw [← e52]
    obtain ⟨s53, e54, h⟩ := stp_some h
    refine v_dr (by decide) (by decide) ⟨(by decide), trivial⟩ trivial ?_
    rw [← e54]
    refine v_aload_n dX14_roomForTypes_70 0 rfl rfl ?_
    refine v_iload_n dX14_roomForTypes_71 1 rfl rfl ?_
    obtain ⟨g55, h⟩ := gd_some h
    obtain ⟨s56, e57, h⟩ := stp_some h
    refine v_na24 (K := 199) (tk1 := [(24, 1)]) rfl rfl (by decide) r6 g55 ⟨(by decide), trivial⟩ ⟨(by decide), trivial⟩ q459 dX14_roomForTypes_72 ?_
    rw [← e57]
    obtain ⟨g58, h⟩ := gd_some h
    obtain ⟨s59, e60, h⟩ := stp_some h
    refine v_pa (i := 0) (K := 199) (t0 := 103) (f := 27) (tk1 := [(24, 0)]) (L1 := [(0, vO 87), (1, vI r5)]) (st1 := []) rfl rfl (by decide) cf14 (⟨by decide, rfl⟩ : okB 87 13) rfl (by decide) rfl rfl (by decide) rfl g58 q2397 dX14_roomForTypes_74 rfl rfl rfl rfl ?_
    rw [← e60]
    obtain ⟨s61, e62, h⟩ := stp_some h
    refine v_dr (by decide) (by decide) ⟨(by decide), trivial⟩ trivial ?_
    rw [← e62]
    refine v_aload_n dX14_roomForTypes_77 0 rfl rfl ?_
    refine v_iload_n dX14_roomForTypes_78 1 rfl rfl ?_
    obtain ⟨g63, h⟩ := gd_some h
    obtain ⟨s64, e65, h⟩ := stp_some h
    refine v_na24 (K := 199) (tk1 := [(24, 1)]) rfl rfl (by decide) r6 g63 ⟨(by decide), trivial⟩ ⟨(by decide), trivial⟩ q459 dX14_roomForTypes_79 ?_
    rw [← e65]
    obtain ⟨g66, h⟩ := gd_some h
    obtain ⟨s67, e68, h⟩ := stp_some h
    refine v_pa (i := 0) (K := 199) (t0 := 104) (f := 28) (tk1 := [(24, 0)]) (L1 := [(0, vO 87), (1, vI r5)]) (st1 := []) rfl rfl (by decide) cf14 (⟨by decide, rfl⟩ : okB 87 13) rfl (by decide) rfl rfl (by decide) rfl g66 q2398 dX14_roomForTypes_81 rfl rfl rfl rfl ?_
    rw [← e68]
    obtain ⟨s69, e70, h⟩ := stp_some h
    refine v_dr (by decide) (by decide) ⟨(by decide), trivial⟩ trivial ?_
    rw [← e70]
    refine v_aload_n dX14_roomForTypes_84 0 rfl rfl ?_
    refine v_iload_n dX14_roomForTypes_85 1 rfl rfl ?_
    obtain ⟨g71, h⟩ := gd_some h
    obtain ⟨s72, e73, h⟩ := stp_some h
    refine v_na24 (K := 199) (tk1 := [(24, 1)]) rfl rfl (by decide) r6 g71 ⟨(by decide), trivial⟩ ⟨(by decide), trivial⟩ q459 dX14_roomForTypes_86 ?_
    rw [← e73]
    obtain ⟨g74, h⟩ := gd_some h
    obtain ⟨s75, e76, h⟩ := stp_some h
    refine v_pa (i := 0) (K := 199) (t0 := 105) (f := 29) (tk1 := [(24, 0)]) (L1 := [(0, vO 87), (1, vI r5)]) (st1 := []) rfl rfl (by decide) cf14 (⟨by decide, rfl⟩ : okB 87 13) rfl (by decide) rfl rfl (by decide) rfl g74 q2399 dX14_roomForTypes_88 rfl rfl rfl rfl ?_
    rw [← e76]
    obtain ⟨s77, e78, h⟩ := stp_some h
    refine v_dr (by decide) (by decide) ⟨(by decide), trivial⟩ trivial ?_
    rw [← e78]
    refine v_aload_n dX14_roomForTypes_91 0 rfl rfl ?_
    refine v_iload_n dX14_roomForTypes_92 1 rfl rfl ?_
    obtain ⟨g79, h⟩ := gd_some h
    obtain ⟨s80, e81, h⟩ := stp_some h
    refine v_na24 (K := 199) (tk1 := [(24, 1)]) rfl rfl (by decide) r6 g79 ⟨(by decide), trivial⟩ ⟨(by decide), trivial⟩ q459 dX14_roomForTypes_93 ?_
    rw [← e81]
    obtain ⟨g82, h⟩ := gd_some h
    obtain ⟨s83, e84, h⟩ := stp_some h
    refine v_pa (i := 0) (K := 199) (t0 := 106) (f := 30) (tk1 := [(24, 0)]) (L1 := [(0, vO 87), (1, vI r5)]) (st1 := []) rfl rfl (by decide) cf14 (⟨by decide, rfl⟩ : okB 87 13) rfl (by decide) rfl rfl (by decide) rfl g82 q2400 dX14_roomForTypes_95 rfl rfl rfl rfl ?_
    rw [← e84]
    obtain ⟨s85, e86, h⟩ := stp_some h
    refine v_dr (by decide) (by decide) ⟨(by decide), trivial⟩ trivial ?_
    rw [← e86]
    refine v_aload_n dX14_roomForTypes_98 0 rfl rfl ?_
    refine v_iload_n dX14_roomForTypes_99 1 rfl rfl ?_
    obtain ⟨g87, h⟩ := gd_some h
    obtain ⟨s88, e89, h⟩ := stp_some h
    refine v_na24 (K := 199) (tk1 := [(24, 1)]) rfl rfl (by decide) r6 g87 ⟨(by decide), trivial⟩ ⟨(by decide), trivial⟩ q459 dX14_roomForTypes_100 ?_
    rw [← e89]
    obtain ⟨g90, h⟩ := gd_some h
    obtain ⟨s91, e92, h⟩ := stp_some h
    refine v_pa (i := 0) (K := 199) (t0 := 107) (f := 31) (tk1 := [(24, 0)]) (L1 := [(0, vO 87), (1, vI r5)]) (st1 := []) rfl rfl (by decide) cf14 (⟨by decide, rfl⟩ : okB 87 13) rfl (by decide) rfl rfl (by decide) rfl g90 q2401 dX14_roomForTypes_102 rfl rfl rfl rfl ?_
    rw [← e92]
    obtain ⟨s93, e94, h⟩ := stp_some h
    refine v_dr (by decide) (by decide) ⟨(by decide), trivial⟩ trivial ?_
    rw [← e94]
    refine v_aload_n dX14_roomForTypes_105 0 rfl rfl ?_
    refine v_iload_n dX14_roomForTypes_106 1 rfl rfl ?_
    obtain ⟨g95, h⟩ := gd_some h
    obtain ⟨s96, e97, h⟩ := stp_some h
    refine v_na26 (K := 199) (tk1 := [(26, 1)]) rfl rfl (by decide) r6 g95 ⟨(by decide), trivial⟩ ⟨(by decide), trivial⟩ q755 dX14_roomForTypes_107 ?_
    rw [← e97]
    obtain ⟨g98, h⟩ := gd_some h
    obtain ⟨s99, e100, h⟩ := stp_some h
    refine v_pa (i := 0) (K := 199) (t0 := 155) (f := 95) (tk1 := [(26, 0)]) (L1 := [(0, vO 87), (1, vI r5)]) (st1 := []) rfl rfl (by decide) cf14 (⟨by decide, rfl⟩ : okB 87 13) rfl (by decide) rfl rfl (by decide) rfl g98 q2465 dX14_roomForTypes_109 rfl rfl rfl rfl ?_
    rw [← e100]
    obtain ⟨s101, e102, h⟩ := stp_some h
    refine v_dr (by decide) (by decide) ⟨(by decide), trivial⟩ trivial ?_
    rw [← e102]
    refine v_aload_n dX14_roomForTypes_112 0 rfl rfl ?_
    refine v_iload_n dX14_roomForTypes_113 1 rfl rfl ?_
    obtain ⟨g103, h⟩ := gd_some h
    obtain ⟨s104, e105, h⟩ := stp_some h
    refine v_na27 (K := 199) (tk1 := [(27, 1)]) rfl rfl (by decide) r6 g103 ⟨(by decide), trivial⟩ ⟨(by decide), trivial⟩ q2860 dX14_roomForTypes_114 ?_
    rw [← e105]
    obtain ⟨g106, h⟩ := gd_some h
    obtain ⟨s107, e108, h⟩ := stp_some h
    refine v_pa (i := 0) (K := 199) (t0 := 156) (f := 96) (tk1 := [(27, 0)]) (L1 := [(0, vO 87), (1, vI r5)]) (st1 := []) rfl rfl (by decide) cf14 (⟨by decide, rfl⟩ : okB 87 13) rfl (by decide) rfl rfl (by decide) rfl g106 q2466 dX14_roomForTypes_116 rfl rfl rfl rfl ?_
    rw [← e108]
    obtain ⟨s109, e110, h⟩ := stp_some h
    refine v_dr (by decide) (by decide) ⟨(by decide), trivial⟩ trivial ?_
    rw [← e110]
    refine v_aload_n dX14_roomForTypes_119 0 rfl rfl ?_
    refine v_iload_n dX14_roomForTypes_120 1 rfl rfl ?_
    obtain ⟨g111, h⟩ := gd_some h
    obtain ⟨s112, e113, h⟩ := stp_some h
    refine v_na24 (K := 199) (tk1 := [(24, 1)]) rfl rfl (by decide) r6 g111 ⟨(by decide), trivial⟩ ⟨(by decide), trivial⟩ q459 dX14_roomForTypes_121 ?_
    rw [← e113]
    obtain ⟨g114, h⟩ := gd_some h
    obtain ⟨s115, e116, h⟩ := stp_some h
    refine v_pa (i := 0) (K := 199) (t0 := 157) (f := 98) (tk1 := [(24, 0)]) (L1 := [(0, vO 87), (1, vI r5)]) (st1 := []) rfl rfl (by decide) cf14 (⟨by decide, rfl⟩ : okB 87 13) rfl (by decide) rfl rfl (by decide) rfl g114 q2468 dX14_roomForTypes_123 rfl rfl rfl rfl ?_
    rw [← e116]
    obtain ⟨s117, e118, h⟩ := stp_some h
    refine v_dr (by decide) (by decide) ⟨(by decide), trivial⟩ trivial ?_
    rw [← e118]
    refine v_aload_n dX14_roomForTypes_126 0 rfl rfl ?_
    refine v_iload_n dX14_roomForTypes_127 1 rfl rfl ?_
    obtain ⟨g119, h⟩ := gd_some h
    obtain ⟨s120, e121, h⟩ := stp_some h
    refine v_na24 (K := 199) (tk1 := [(24, 1)]) rfl rfl (by decide) r6 g119 ⟨(by decide), trivial⟩ ⟨(by decide), trivial⟩ q459 dX14_roomForTypes_128 ?_
    rw [← e121]
    obtain ⟨g122, h⟩ := gd_some h
    obtain ⟨s123, e124, h⟩ := stp_some h
    refine v_pa (i := 0) (K := 199) (t0 := 160) (f := 103) (tk1 := [(24, 0)]) (L1 := [(0, vO 87), (1, vI r5)]) (st1 := []) rfl rfl (by decide) cf14 (⟨by decide, rfl⟩ : okB 87 13) rfl (by decide) rfl rfl (by decide) rfl g122 q2473 dX14_roomForTypes_130 rfl rfl rfl rfl ?_
    rw [← e124]
    obtain ⟨s125, e126, h⟩ := stp_some h
    refine v_dr (by decide) (by decide) ⟨(by decide), trivial⟩ trivial ?_
    rw [← e126]
    refine v_aload_n dX14_roomForTypes_133 0 rfl rfl ?_
    refine v_iload_n dX14_roomForTypes_134 1 rfl rfl ?_
    obtain ⟨g127, h⟩ := gd_some h
    obtain ⟨s128, e129, h⟩ := stp_some h
    refine v_na24 (K := 199) (tk1 := [(24, 1)]) rfl rfl (by decide) r6 g127 ⟨(by decide), trivial⟩ ⟨(by decide), trivial⟩ q459 dX14_roomForTypes_135 ?_
    rw [← e129]
    obtain ⟨g130, h⟩ := gd_some h
    obtain ⟨s131, e132, h⟩ := stp_some h
    refine v_pa (i := 0) (K := 199) (t0 := 150) (f := 89) (tk1 := [(24, 0)]) (L1 := [(0, vO 87), (1, vI r5)]) (st1 := []) rfl rfl (by decide) cf14 (⟨by decide, rfl⟩ : okB 87 13) rfl (by decide) rfl rfl (by decide) rfl g130 q2459 dX14_roomForTypes_137 rfl rfl rfl rfl ?_
    rw [← e132]
    obtain ⟨s133, e134, h⟩ := stp_some h
    refine v_dr (by decide) (by decide) ⟨(by decide), trivial⟩ trivial ?_
    rw [← e134]
    refine v_aload_n dX14_roomForTypes_140 0 rfl rfl ?_
    refine v_iload_n dX14_roomForTypes_141 1 rfl rfl ?_
    obtain ⟨g135, h⟩ := gd_some h
    obtain ⟨s136, e137, h⟩ := stp_some h
    refine v_na24 (K := 199) (tk1 := [(24, 1)]) rfl rfl (by decide) r6 g135 ⟨(by decide), trivial⟩ ⟨(by decide), trivial⟩ q459 dX14_roomForTypes_142 ?_
    rw [← e137]
    obtain ⟨g138, h⟩ := gd_some h
    obtain ⟨s139, e140, h⟩ := stp_some h
    refine v_pa (i := 0) (K := 199) (t0 := 151) (f := 90) (tk1 := [(24, 0)]) (L1 := [(0, vO 87), (1, vI r5)]) (st1 := []) rfl rfl (by decide) cf14 (⟨by decide, rfl⟩ : okB 87 13) rfl (by decide) rfl rfl (by decide) rfl g138 q2460 dX14_roomForTypes_144 rfl rfl rfl rfl ?_
    rw [← e140]
    obtain ⟨s141, e142, h⟩ := stp_some h
    refine v_dr (by decide) (by decide) ⟨(by decide), trivial⟩ trivial ?_
    rw [← e142]
    refine v_aload_n dX14_roomForTypes_147 0 rfl rfl ?_
    refine v_iload_n dX14_roomForTypes_148 1 rfl rfl ?_
    obtain ⟨g143, h⟩ := gd_some h
    obtain ⟨s144, e145, h⟩ := stp_some h
    refine v_na24 (K := 199) (tk1 := [(24, 1)]) rfl rfl (by decide) r6 g143 ⟨(by decide), trivial⟩ ⟨(by decide), trivial⟩ q459 dX14_roomForTypes_149 ?_
    rw [← e145]
    obtain ⟨g146, h⟩ := gd_some h
    obtain ⟨s147, e148, h⟩ := stp_some h
    refine v_pa (i := 0) (K := 199) (t0 := 139) (f := 70) (tk1 := [(24, 0)]) (L1 := [(0, vO 87), (1, vI r5)]) (st1 := []) rfl rfl (by decide) cf14 (⟨by decide, rfl⟩ : okB 87 13) rfl (by decide) rfl rfl (by decide) rfl g146 q2440 dX14_roomForTypes_151 rfl rfl rfl rfl ?_
    rw [← e148]
    obtain ⟨s149, e150, h⟩ := stp_some h
    refine v_dr (by decide) (by decide) ⟨(by decide), trivial⟩ trivial ?_
    rw [← e150]
    refine v_aload_n dX14_roomForTypes_154 0 rfl rfl ?_
    refine v_iload_n dX14_roomForTypes_155 1 rfl rfl ?_
    obtain ⟨g151, h⟩ := gd_some h
    obtain ⟨s152, e153, h⟩ := stp_some h
    refine v_na24 (K := 199) (tk1 := [(24, 1)]) rfl rfl (by decide) r6 g151 ⟨(by decide), trivial⟩ ⟨(by decide), trivial⟩ q459 dX14_roomForTypes_156 ?_
    rw [← e153]
    obtain ⟨g154, h⟩ := gd_some h
    obtain ⟨s155, e156, h⟩ := stp_some h
    refine v_pa (i := 0) (K := 199) (t0 := 140) (f := 71) (tk1 := [(24, 0)]) (L1 := [(0, vO 87), (1, vI r5)]) (st1 := []) rfl rfl (by decide) cf14 (⟨by decide, rfl⟩ : okB 87 13) rfl (by decide) rfl rfl (by decide) rfl g154 q2441 dX14_roomForTypes_158 rfl rfl rfl rfl ?_
    rw [← e156]
    obtain ⟨s157, e158, h⟩ := stp_some h
    refine v_dr (by decide) (by decide) ⟨(by decide), trivial⟩ trivial ?_
    rw [← e158]
    refine v_aload_n dX14_roomForTypes_161 0 rfl rfl ?_
    refine v_iload_n dX14_roomForTypes_162 1 rfl rfl ?_
    refine v_iconst dX14_roomForTypes_163 ?_
    refine v_idiv dX14_roomForTypes_164 (rgl rfl) (by decide) ?_
    refine v_iconst dX14_roomForTypes_165 ?_
    refine v_iadd dX14_roomForTypes_166 ?_
    obtain ⟨g159, h⟩ := gd_some h
    obtain ⟨s160, e161, h⟩ := stp_some h
    refine v_na24 (K := 199) (tk1 := [(24, 1)]) rfl rfl (by decide) (w32_rg _) g159 ⟨(by decide), trivial⟩ ⟨(by decide), trivial⟩ q459 dX14_roomForTypes_167 ?_
    rw [← e161]
    obtain ⟨g162, h⟩ := gd_some h
    obtain ⟨s163, e164, h⟩ := stp_some h
    refine v_pa (i := 0) (K := 199) (t0 := 112) (f := 38) (tk1 := [(24, 0)]) (L1 := [(0, vO 87), (1, vI r5)]) (st1 := []) rfl rfl (by decide) cf14 (⟨by decide, rfl⟩ : okB 87 13) rfl (by decide) rfl rfl (by decide) rfl g162 q2408 dX14_roomForTypes_169 rfl rfl rfl rfl ?_
    rw [← e164]
    obtain ⟨s165, e166, h⟩ := stp_some h
    refine v_dr (by decide) (by decide) ⟨(by decide), trivial⟩ trivial ?_
    rw [← e166]
    refine v_aload_n dX14_roomForTypes_172 0 rfl rfl ?_
    refine v_iload_n dX14_roomForTypes_173 1 rfl rfl ?_
    refine v_iconst dX14_roomForTypes_174 ?_
    refine v_idiv dX14_roomForTypes_175 (rgl rfl) (by decide) ?_
    refine v_iconst dX14_roomForTypes_176 ?_
    refine v_iadd dX14_roomForTypes_177 ?_
    obtain ⟨g167, h⟩ := gd_some h
    obtain ⟨s168, e169, h⟩ := stp_some h
    refine v_na24 (K := 199) (tk1 := [(24, 1)]) rfl rfl (by decide) (w32_rg _) g167 ⟨(by decide), trivial⟩ ⟨(by decide), trivial⟩ q459 dX14_roomForTypes_178 ?_
    rw [← e169]
    obtain ⟨g170, h⟩ := gd_some h
    obtain ⟨s171, e172, h⟩ := stp_some h
    refine v_pa (i := 0) (K := 199) (t0 := 113) (f := 39) (tk1 := [(24, 0)]) (L1 := [(0, vO 87), (1, vI r5)]) (st1 := []) rfl rfl (by decide) cf14 (⟨by decide, rfl⟩ : okB 87 13) rfl (by decide) rfl rfl (by decide) rfl g170 q2409 dX14_roomForTypes_180 rfl rfl rfl rfl ?_
    rw [← e172]
    obtain ⟨s173, e174, h⟩ := stp_some h
    refine v_dr (by decide) (by decide) ⟨(by decide), trivial⟩ trivial ?_
    rw [← e174]
    refine v_aload_n dX14_roomForTypes_183 0 rfl rfl ?_
    refine v_iload_n dX14_roomForTypes_184 1 rfl rfl ?_
    refine v_iconst dX14_roomForTypes_185 ?_
    refine v_idiv dX14_roomForTypes_186 (rgl rfl) (by decide) ?_
    refine v_iconst dX14_roomForTypes_187 ?_
    refine v_iadd dX14_roomForTypes_188 ?_
    obtain ⟨g175, h⟩ := gd_some h
    obtain ⟨s176, e177, h⟩ := stp_some h
    refine v_na26 (K := 199) (tk1 := [(26, 1)]) rfl rfl (by decide) (w32_rg _) g175 ⟨(by decide), trivial⟩ ⟨(by decide), trivial⟩ q755 dX14_roomForTypes_189 ?_
    rw [← e177]
    obtain ⟨g178, h⟩ := gd_some h
    obtain ⟨s179, e180, h⟩ := stp_some h
    refine v_pa (i := 0) (K := 199) (t0 := 114) (f := 40) (tk1 := [(26, 0)]) (L1 := [(0, vO 87), (1, vI r5)]) (st1 := []) rfl rfl (by decide) cf14 (⟨by decide, rfl⟩ : okB 87 13) rfl (by decide) rfl rfl (by decide) rfl g178 q2410 dX14_roomForTypes_191 rfl rfl rfl rfl ?_
    rw [← e180]
    obtain ⟨s181, e182, h⟩ := stp_some h
    refine v_dr (by decide) (by decide) ⟨(by decide), trivial⟩ trivial ?_
    rw [← e182]
    refine v_aload_n dX14_roomForTypes_194 0 rfl rfl ?_
    refine v_iload_n dX14_roomForTypes_195 1 rfl rfl ?_
    refine v_iconst dX14_roomForTypes_196 ?_
    refine v_idiv dX14_roomForTypes_197 (rgl rfl) (by decide) ?_
    refine v_iconst dX14_roomForTypes_198 ?_
    refine v_iadd dX14_roomForTypes_199 ?_
    obtain ⟨g183, h⟩ := gd_some h
    obtain ⟨s184, e185, h⟩ := stp_some h
    refine v_na24 (K := 199) (tk1 := [(24, 1)]) rfl rfl (by decide) (w32_rg _) g183 ⟨(by decide), trivial⟩ ⟨(by decide), trivial⟩ q459 dX14_roomForTypes_200 ?_
    rw [← e185]
    obtain ⟨g186, h⟩ := gd_some h
    obtain ⟨s187, e188, h⟩ := stp_some h
    refine v_pa (i := 0) (K := 199) (t0 := 115) (f := 41) (tk1 := [(24, 0)]) (L1 := [(0, vO 87), (1, vI r5)]) (st1 := []) rfl rfl (by decide) cf14 (⟨by decide, rfl⟩ : okB 87 13) rfl (by decide) rfl rfl (by decide) rfl g186 q2411 dX14_roomForTypes_202 rfl rfl rfl rfl ?_
    rw [← e188]
    obtain ⟨s189, e190, h⟩ := stp_some h
    refine v_dr (by decide) (by decide) ⟨(by decide), trivial⟩ trivial ?_
    rw [← e190]
    refine v_aload_n dX14_roomForTypes_205 0 rfl rfl ?_
    refine v_iload_n dX14_roomForTypes_206 1 rfl rfl ?_
    refine v_iconst dX14_roomForTypes_207 ?_
    refine v_idiv dX14_roomForTypes_208 (rgl rfl) (by decide) ?_
    refine v_iconst dX14_roomForTypes_209 ?_
    refine v_iadd dX14_roomForTypes_210 ?_
    obtain ⟨g191, h⟩ := gd_some h
    obtain ⟨s192, e193, h⟩ := stp_some h
    refine v_na24 (K := 199) (tk1 := [(24, 1)]) rfl rfl (by decide) (w32_rg _) g191 ⟨(by decide), trivial⟩ ⟨(by decide), trivial⟩ q459 dX14_roomForTypes_211 ?_
    rw [← e193]
    obtain ⟨g194, h⟩ := gd_some h
    obtain ⟨s195, e196, h⟩ := stp_some h
    refine v_pa (i := 0) (K := 199) (t0 := 116) (f := 43) (tk1 := [(24, 0)]) (L1 := [(0, vO 87), (1, vI r5)]) (st1 := []) rfl rfl (by decide) cf14 (⟨by decide, rfl⟩ : okB 87 13) rfl (by decide) rfl rfl (by decide) rfl g194 q2413 dX14_roomForTypes_213 rfl rfl rfl rfl ?_
    rw [← e196]
    obtain ⟨s197, e198, h⟩ := stp_some h
    refine v_dr (by decide) (by decide) ⟨(by decide), trivial⟩ trivial ?_
    rw [← e198]
    refine v_aload_n dX14_roomForTypes_216 0 rfl rfl ?_
    refine v_iload_n dX14_roomForTypes_217 1 rfl rfl ?_
    refine v_iconst dX14_roomForTypes_218 ?_
    refine v_idiv dX14_roomForTypes_219 (rgl rfl) (by decide) ?_
    refine v_iconst dX14_roomForTypes_220 ?_
    refine v_iadd dX14_roomForTypes_221 ?_
    obtain ⟨g199, h⟩ := gd_some h
    obtain ⟨s200, e201, h⟩ := stp_some h
    refine v_na24 (K := 199) (tk1 := [(24, 1)]) rfl rfl (by decide) (w32_rg _) g199 ⟨(by decide), trivial⟩ ⟨(by decide), trivial⟩ q459 dX14_roomForTypes_222 ?_
    rw [← e201]
    obtain ⟨g202, h⟩ := gd_some h
    obtain ⟨s203, e204, h⟩ := stp_some h
    refine v_pa (i := 0) (K := 199) (t0 := 117) (f := 44) (tk1 := [(24, 0)]) (L1 := [(0, vO 87), (1, vI r5)]) (st1 := []) rfl rfl (by decide) cf14 (⟨by decide, rfl⟩ : okB 87 13) rfl (by decide) rfl rfl (by decide) rfl g202 q2414 dX14_roomForTypes_224 rfl rfl rfl rfl ?_
    rw [← e204]
    obtain ⟨s205, e206, h⟩ := stp_some h
    refine v_dr (by decide) (by decide) ⟨(by decide), trivial⟩ trivial ?_
    rw [← e206]
    refine v_aload_n dX14_roomForTypes_227 0 rfl rfl ?_
    refine v_iload_n dX14_roomForTypes_228 1 rfl rfl ?_
    refine v_iconst dX14_roomForTypes_229 ?_
    refine v_idiv dX14_roomForTypes_230 (rgl rfl) (by decide) ?_
    refine v_iconst dX14_roomForTypes_231 ?_
    refine v_iadd dX14_roomForTypes_232 ?_
    obtain ⟨g207, h⟩ := gd_some h
    obtain ⟨s208, e209, h⟩ := stp_some h
    refine v_na24 (K := 199) (tk1 := [(24, 1)]) rfl rfl (by decide) (w32_rg _) g207 ⟨(by decide), trivial⟩ ⟨(by decide), trivial⟩ q459 dX14_roomForTypes_233 ?_
    rw [← e209]
    obtain ⟨g210, h⟩ := gd_some h
    obtain ⟨s211, e212, h⟩ := stp_some h
    refine v_pa (i := 0) (K := 199) (t0 := 118) (f := 45) (tk1 := [(24, 0)]) (L1 := [(0, vO 87), (1, vI r5)]) (st1 := []) rfl rfl (by decide) cf14 (⟨by decide, rfl⟩ : okB 87 13) rfl (by decide) rfl rfl (by decide) rfl g210 q2415 dX14_roomForTypes_235 rfl rfl rfl rfl ?_
    rw [← e212]
    obtain ⟨s213, e214, h⟩ := stp_some h
    refine v_dr (by decide) (by decide) ⟨(by decide), trivial⟩ trivial ?_
    rw [← e214]
    refine v_aload_n dX14_roomForTypes_238 0 rfl rfl ?_
    refine v_iload_n dX14_roomForTypes_239 1 rfl rfl ?_
    refine v_iconst dX14_roomForTypes_240 ?_
    refine v_idiv dX14_roomForTypes_241 (rgl rfl) (by decide) ?_
    refine v_iconst dX14_roomForTypes_242 ?_
    refine v_iadd dX14_roomForTypes_243 ?_
    obtain ⟨g215, h⟩ := gd_some h
    obtain ⟨s216, e217, h⟩ := stp_some h
    refine v_na24 (K := 199) (tk1 := [(24, 1)]) rfl rfl (by decide) (w32_rg _) g215 ⟨(by decide), trivial⟩ ⟨(by decide), trivial⟩ q459 dX14_roomForTypes_244 ?_
    rw [← e217]
    obtain ⟨g218, h⟩ := gd_some h
    obtain ⟨s219, e220, h⟩ := stp_some h
    refine v_pa (i := 0) (K := 199) (t0 := 119) (f := 46) (tk1 := [(24, 0)]) (L1 := [(0, vO 87), (1, vI r5)]) (st1 := []) rfl rfl (by decide) cf14 (⟨by decide, rfl⟩ : okB 87 13) rfl (by decide) rfl rfl (by decide) rfl g218 q2416 dX14_roomForTypes_246 rfl rfl rfl rfl ?_
    rw [← e220]
    obtain ⟨s221, e222, h⟩ := stp_some h
    refine v_dr (by decide) (by decide) ⟨(by decide), trivial⟩ trivial ?_
    rw [← e222]
    refine v_aload_n dX14_roomForTypes_249 0 rfl rfl ?_
    refine v_iload_n dX14_roomForTypes_250 1 rfl rfl ?_
    refine v_iconst dX14_roomForTypes_251 ?_
    refine v_idiv dX14_roomForTypes_252 (rgl rfl) (by decide) ?_
    refine v_iconst dX14_roomForTypes_253 ?_
    refine v_iadd dX14_roomForTypes_254 ?_
    obtain ⟨g223, h⟩ := gd_some h
    obtain ⟨s224, e225, h⟩ := stp_some h
    refine v_na24 (K := 199) (tk1 := [(24, 1)]) rfl rfl (by decide) (w32_rg _) g223 ⟨(by decide), trivial⟩ ⟨(by decide), trivial⟩ q459 dX14_roomForTypes_255 ?_
    rw [← e225]
    obtain ⟨g226, h⟩ := gd_some h
    obtain ⟨s227, e228, h⟩ := stp_some h
    refine v_pa (i := 0) (K := 199) (t0 := 120) (f := 47) (tk1 := [(24, 0)]) (L1 := [(0, vO 87), (1, vI r5)]) (st1 := []) rfl rfl (by decide) cf14 (⟨by decide, rfl⟩ : okB 87 13) rfl (by decide) rfl rfl (by decide) rfl g226 q2417 dX14_roomForTypes_257 rfl rfl rfl rfl ?_
    rw [← e228]
    obtain ⟨s229, e230, h⟩ := stp_some h
    refine v_dr (by decide) (by decide) ⟨(by decide), trivial⟩ trivial ?_
    rw [← e230]
    refine v_aload_n dX14_roomForTypes_260 0 rfl rfl ?_
    refine v_iload_n dX14_roomForTypes_261 1 rfl rfl ?_
    refine v_iconst dX14_roomForTypes_262 ?_
    refine v_idiv dX14_roomForTypes_263 (rgl rfl) (by decide) ?_
    refine v_iconst dX14_roomForTypes_264 ?_
    refine v_iadd dX14_roomForTypes_265 ?_
    obtain ⟨g231, h⟩ := gd_some h
    obtain ⟨s232, e233, h⟩ := stp_some h
    refine v_na24 (K := 199) (tk1 := [(24, 1)]) rfl rfl (by decide) (w32_rg _) g231 ⟨(by decide), trivial⟩ ⟨(by decide), trivial⟩ q459 dX14_roomForTypes_266 ?_
    rw [← e233]
    obtain ⟨g234, h⟩ := gd_some h
    obtain ⟨s235, e236, h⟩ := stp_some h
    refine v_pa (i := 0) (K := 199) (t0 := 126) (f := 55) (tk1 := [(24, 0)]) (L1 := [(0, vO 87), (1, vI r5)]) (st1 := []) rfl rfl (by decide) cf14 (⟨by decide, rfl⟩ : okB 87 13) rfl (by decide) rfl rfl (by decide) rfl g234 q2425 dX14_roomForTypes_268 rfl rfl rfl rfl ?_
    rw [← e236]
    obtain ⟨s237, e238, h⟩ := stp_some h
    refine v_dr (by decide) (by decide) ⟨(by decide), trivial⟩ trivial ?_
    rw [← e238]
    refine v_aload_n dX14_roomForTypes_271 0 rfl rfl ?_
    refine v_iload_n dX14_roomForTypes_272 1 rfl rfl ?_
    refine v_iconst dX14_roomForTypes_273 ?_
    refine v_idiv dX14_roomForTypes_274 (rgl rfl) (by decide) ?_
    refine v_iconst dX14_roomForTypes_275 ?_
    refine v_iadd dX14_roomForTypes_276 ?_
    obtain ⟨g239, h⟩ := gd_some h
    obtain ⟨s240, e241, h⟩ := stp_some h
    refine v_na26 (K := 199) (tk1 := [(26, 1)]) rfl rfl (by decide) (w32_rg _) g239 ⟨(by decide), trivial⟩ ⟨(by decide), trivial⟩ q755 dX14_roomForTypes_277 ?_
    rw [← e241]
    obtain ⟨g242, h⟩ := gd_some h
    obtain ⟨s243, e244, h⟩ := stp_some h
    refine v_pa (i := 0) (K := 199) (t0 := 127) (f := 56) (tk1 := [(26, 0)]) (L1 := [(0, vO 87), (1, vI r5)]) (st1 := []) rfl rfl (by decide) cf14 (⟨by decide, rfl⟩ : okB 87 13) rfl (by decide) rfl rfl (by decide) rfl g242 q2426 dX14_roomForTypes_279 rfl rfl rfl rfl ?_
    rw [← e244]
    obtain ⟨s245, e246, h⟩ := stp_some h
    refine v_dr (by decide) (by decide) ⟨(by decide), trivial⟩ trivial ?_
    rw [← e246]
    refine v_aload_n dX14_roomForTypes_282 0 rfl rfl ?_
    refine v_iload_n dX14_roomForTypes_283 1 rfl rfl ?_
    refine v_iconst dX14_roomForTypes_284 ?_
    refine v_idiv dX14_roomForTypes_285 (rgl rfl) (by decide) ?_
    refine v_iconst dX14_roomForTypes_286 ?_
    refine v_iadd dX14_roomForTypes_287 ?_
    obtain ⟨g247, h⟩ := gd_some h
    obtain ⟨s248, e249, h⟩ := stp_some h
    refine v_na24 (K := 199) (tk1 := [(24, 1)]) rfl rfl (by decide) (w32_rg _) g247 ⟨(by decide), trivial⟩ ⟨(by decide), trivial⟩ q459 dX14_roomForTypes_288 ?_
    rw [← e249]
    obtain ⟨g250, h⟩ := gd_some h
    obtain ⟨s251, e252, h⟩ := stp_some h
    refine v_pa (i := 0) (K := 199) (t0 := 128) (f := 57) (tk1 := [(24, 0)]) (L1 := [(0, vO 87), (1, vI r5)]) (st1 := []) rfl rfl (by decide) cf14 (⟨by decide, rfl⟩ : okB 87 13) rfl (by decide) rfl rfl (by decide) rfl g250 q2427 dX14_roomForTypes_290 rfl rfl rfl rfl ?_
    rw [← e252]
    obtain ⟨s253, e254, h⟩ := stp_some h
    refine v_dr (by decide) (by decide) ⟨(by decide), trivial⟩ trivial ?_
    rw [← e254]
    refine v_aload_n dX14_roomForTypes_293 0 rfl rfl ?_
    refine v_iload_n dX14_roomForTypes_294 1 rfl rfl ?_
    refine v_iconst dX14_roomForTypes_295 ?_
    refine v_idiv dX14_roomForTypes_296 (rgl rfl) (by decide) ?_
    refine v_iconst dX14_roomForTypes_297 ?_
    refine v_iadd dX14_roomForTypes_298 ?_
    obtain ⟨g255, h⟩ := gd_some h
    obtain ⟨s256, e257, h⟩ := stp_some h
    refine v_na26 (K := 199) (tk1 := [(26, 1)]) rfl rfl (by decide) (w32_rg _) g255 ⟨(by decide), trivial⟩ ⟨(by decide), trivial⟩ q755 dX14_roomForTypes_299 ?_
    rw [← e257]
    obtain ⟨g258, h⟩ := gd_some h
    obtain ⟨s259, e260, h⟩ := stp_some h
    refine v_pa (i := 0) (K := 199) (t0 := 129) (f := 58) (tk1 := [(26, 0)]) (L1 := [(0, vO 87), (1, vI r5)]) (st1 := []) rfl rfl (by decide) cf14 (⟨by decide, rfl⟩ : okB 87 13) rfl (by decide) rfl rfl (by decide) rfl g258 q2428 dX14_roomForTypes_301 rfl rfl rfl rfl ?_
    rw [← e260]
    obtain ⟨s261, e262, h⟩ := stp_some h
    refine v_dr (by decide) (by decide) ⟨(by decide), trivial⟩ trivial ?_
    rw [← e262]
    refine v_aload_n dX14_roomForTypes_304 0 rfl rfl ?_
    refine v_iload_n dX14_roomForTypes_305 1 rfl rfl ?_
    refine v_iconst dX14_roomForTypes_306 ?_
    refine v_idiv dX14_roomForTypes_307 (rgl rfl) (by decide) ?_
    refine v_iconst dX14_roomForTypes_308 ?_
    refine v_iadd dX14_roomForTypes_309 ?_
    obtain ⟨g263, h⟩ := gd_some h
    obtain ⟨s264, e265, h⟩ := stp_some h
    refine v_na24 (K := 199) (tk1 := [(24, 1)]) rfl rfl (by decide) (w32_rg _) g263 ⟨(by decide), trivial⟩ ⟨(by decide), trivial⟩ q459 dX14_roomForTypes_310 ?_
    rw [← e265]
    obtain ⟨g266, h⟩ := gd_some h
    obtain ⟨s267, e268, h⟩ := stp_some h
    refine v_pa (i := 0) (K := 199) (t0 := 130) (f := 59) (tk1 := [(24, 0)]) (L1 := [(0, vO 87), (1, vI r5)]) (st1 := []) rfl rfl (by decide) cf14 (⟨by decide, rfl⟩ : okB 87 13) rfl (by decide) rfl rfl (by decide) rfl g266 q2429 dX14_roomForTypes_312 rfl rfl rfl rfl ?_
    rw [← e268]
    obtain ⟨s269, e270, h⟩ := stp_some h
    refine v_dr (by decide) (by decide) ⟨(by decide), trivial⟩ trivial ?_
    rw [← e270]
    refine v_aload_n dX14_roomForTypes_315 0 rfl rfl ?_
    refine v_iload_n dX14_roomForTypes_316 1 rfl rfl ?_
    refine v_iconst dX14_roomForTypes_317 ?_
    refine v_idiv dX14_roomForTypes_318 (rgl rfl) (by decide) ?_
    refine v_iconst dX14_roomForTypes_319 ?_
    refine v_iadd dX14_roomForTypes_320 ?_
    obtain ⟨g271, h⟩ := gd_some h
    obtain ⟨s272, e273, h⟩ := stp_some h
    refine v_na24 (K := 199) (tk1 := [(24, 1)]) rfl rfl (by decide) (w32_rg _) g271 ⟨(by decide), trivial⟩ ⟨(by decide), trivial⟩ q459 dX14_roomForTypes_321 ?_
    rw [← e273]
    obtain ⟨g274, h⟩ := gd_some h
    obtain ⟨s275, e276, h⟩ := stp_some h
    refine v_pa (i := 0) (K := 199) (t0 := 131) (f := 60) (tk1 := [(24, 0)]) (L1 := [(0, vO 87), (1, vI r5)]) (st1 := []) rfl rfl (by decide) cf14 (⟨by decide, rfl⟩ : okB 87 13) rfl (by decide) rfl rfl (by decide) rfl g274 q2430 dX14_roomForTypes_323 rfl rfl rfl rfl ?_
    rw [← e276]
    obtain ⟨s277, e278, h⟩ := stp_some h
    refine v_dr (by decide) (by decide) ⟨(by decide), trivial⟩ trivial ?_
    rw [← e278]
    refine v_aload_n dX14_roomForTypes_326 0 rfl rfl ?_
    refine v_iload_n dX14_roomForTypes_327 1 rfl rfl ?_
    refine v_iconst dX14_roomForTypes_328 ?_
    refine v_idiv dX14_roomForTypes_329 (rgl rfl) (by decide) ?_
    refine v_iconst dX14_roomForTypes_330 ?_
    refine v_iadd dX14_roomForTypes_331 ?_
    obtain ⟨g279, h⟩ := gd_some h
    obtain ⟨s280, e281, h⟩ := stp_some h
    refine v_na24 (K := 199) (tk1 := [(24, 1)]) rfl rfl (by decide) (w32_rg _) g279 ⟨(by decide), trivial⟩ ⟨(by decide), trivial⟩ q459 dX14_roomForTypes_332 ?_
    rw [← e281]
    obtain ⟨g282, h⟩ := gd_some h
    obtain ⟨s283, e284, h⟩ := stp_some h
    refine v_pa (i := 0) (K := 199) (t0 := 132) (f := 62) (tk1 := [(24, 0)]) (L1 := [(0, vO 87), (1, vI r5)]) (st1 := []) rfl rfl (by decide) cf14 (⟨by decide, rfl⟩ : okB 87 13) rfl (by decide) rfl rfl (by decide) rfl g282 q2432 dX14_roomForTypes_334 rfl rfl rfl rfl ?_
    rw [← e284]
    obtain ⟨s285, e286, h⟩ := stp_some h
    refine v_dr (by decide) (by decide) ⟨(by decide), trivial⟩ trivial ?_
    rw [← e286]
    refine v_aload_n dX14_roomForTypes_337 0 rfl rfl ?_
    refine v_iload_n dX14_roomForTypes_338 1 rfl rfl ?_
    refine v_iconst dX14_roomForTypes_339 ?_
    refine v_idiv dX14_roomForTypes_340 (rgl rfl) (by decide) ?_
    refine v_iconst dX14_roomForTypes_341 ?_
    refine v_iadd dX14_roomForTypes_342 ?_
    obtain ⟨g287, h⟩ := gd_some h
    obtain ⟨s288, e289, h⟩ := stp_some h
    refine v_na24 (K := 199) (tk1 := [(24, 1)]) rfl rfl (by decide) (w32_rg _) g287 ⟨(by decide), trivial⟩ ⟨(by decide), trivial⟩ q459 dX14_roomForTypes_343 ?_
    rw [← e289]
    obtain ⟨g290, h⟩ := gd_some h
    obtain ⟨s291, e292, h⟩ := stp_some h
    refine v_pa (i := 0) (K := 199) (t0 := 133) (f := 63) (tk1 := [(24, 0)]) (L1 := [(0, vO 87), (1, vI r5)]) (st1 := []) rfl rfl (by decide) cf14 (⟨by decide, rfl⟩ : okB 87 13) rfl (by decide) rfl rfl (by decide) rfl g290 q2433 dX14_roomForTypes_345 rfl rfl rfl rfl ?_
    rw [← e292]
    obtain ⟨s293, e294, h⟩ := stp_some h
    refine v_dr (by decide) (by decide) ⟨(by decide), trivial⟩ trivial ?_
    rw [← e294]
    refine v_aload_n dX14_roomForTypes_348 0 rfl rfl ?_
    refine v_iload_n dX14_roomForTypes_349 1 rfl rfl ?_
    refine v_iconst dX14_roomForTypes_350 ?_
    refine v_idiv dX14_roomForTypes_351 (rgl rfl) (by decide) ?_
    refine v_iconst dX14_roomForTypes_352 ?_
    refine v_iadd dX14_roomForTypes_353 ?_
    obtain ⟨g295, h⟩ := gd_some h
    obtain ⟨s296, e297, h⟩ := stp_some h
    refine v_na24 (K := 199) (tk1 := [(24, 1)]) rfl rfl (by decide) (w32_rg _) g295 ⟨(by decide), trivial⟩ ⟨(by decide), trivial⟩ q459 dX14_roomForTypes_354 ?_
    rw [← e297]
    obtain ⟨g298, h⟩ := gd_some h
    obtain ⟨s299, e300, h⟩ := stp_some h
    refine v_pa (i := 0) (K := 199) (t0 := 134) (f := 64) (tk1 := [(24, 0)]) (L1 := [(0, vO 87), (1, vI r5)]) (st1 := []) rfl rfl (by decide) cf14 (⟨by decide, rfl⟩ : okB 87 13) rfl (by decide) rfl rfl (by decide) rfl g298 q2434 dX14_roomForTypes_356 rfl rfl rfl rfl ?_
    rw [← e300]
    obtain ⟨s301, e302, h⟩ := stp_some h
    refine v_dr (by decide) (by decide) ⟨(by decide), trivial⟩ trivial ?_
    rw [← e302]
    refine v_aload_n dX14_roomForTypes_359 0 rfl rfl ?_
    refine v_iload_n dX14_roomForTypes_360 1 rfl rfl ?_
    refine v_iconst dX14_roomForTypes_361 ?_
    refine v_idiv dX14_roomForTypes_362 (rgl rfl) (by decide) ?_
    refine v_iconst dX14_roomForTypes_363 ?_
    refine v_iadd dX14_roomForTypes_364 ?_
    obtain ⟨g303, h⟩ := gd_some h
    obtain ⟨s304, e305, h⟩ := stp_some h
    refine v_na26 (K := 199) (tk1 := [(26, 1)]) rfl rfl (by decide) (w32_rg _) g303 ⟨(by decide), trivial⟩ ⟨(by decide), trivial⟩ q755 dX14_roomForTypes_365 ?_
    rw [← e305]
    obtain ⟨g306, h⟩ := gd_some h
    obtain ⟨s307, e308, h⟩ := stp_some h
    refine v_pa (i := 0) (K := 199) (t0 := 135) (f := 65) (tk1 := [(26, 0)]) (L1 := [(0, vO 87), (1, vI r5)]) (st1 := []) rfl rfl (by decide) cf14 (⟨by decide, rfl⟩ : okB 87 13) rfl (by decide) rfl rfl (by decide) rfl g306 q2435 dX14_roomForTypes_367 rfl rfl rfl rfl ?_
    rw [← e308]
    obtain ⟨s309, e310, h⟩ := stp_some h
    refine v_dr (by decide) (by decide) ⟨(by decide), trivial⟩ trivial ?_
    rw [← e310]
    refine v_aload_n dX14_roomForTypes_370 0 rfl rfl ?_
    refine v_iload_n dX14_roomForTypes_371 1 rfl rfl ?_
    refine v_iconst dX14_roomForTypes_372 ?_
    refine v_idiv dX14_roomForTypes_373 (rgl rfl) (by decide) ?_
    refine v_iconst dX14_roomForTypes_374 ?_
    refine v_iadd dX14_roomForTypes_375 ?_
    obtain ⟨g311, h⟩ := gd_some h
    obtain ⟨s312, e313, h⟩ := stp_some h
    refine v_na24 (K := 199) (tk1 := [(24, 1)]) rfl rfl (by decide) (w32_rg _) g311 ⟨(by decide), trivial⟩ ⟨(by decide), trivial⟩ q459 dX14_roomForTypes_376 ?_
    rw [← e313]
    obtain ⟨g314, h⟩ := gd_some h
    obtain ⟨s315, e316, h⟩ := stp_some h
    refine v_pa (i := 0) (K := 199) (t0 := 136) (f := 66) (tk1 := [(24, 0)]) (L1 := [(0, vO 87), (1, vI r5)]) (st1 := []) rfl rfl (by decide) cf14 (⟨by decide, rfl⟩ : okB 87 13) rfl (by decide) rfl rfl (by decide) rfl g314 q2436 dX14_roomForTypes_378 rfl rfl rfl rfl ?_
    rw [← e316]
    obtain ⟨s317, e318, h⟩ := stp_some h
    refine v_dr (by decide) (by decide) ⟨(by decide), trivial⟩ trivial ?_
    rw [← e318]
    refine v_aload_n dX14_roomForTypes_381 0 rfl rfl ?_
    refine v_iload_n dX14_roomForTypes_382 1 rfl rfl ?_
    refine v_iconst dX14_roomForTypes_383 ?_
    refine v_idiv dX14_roomForTypes_384 (rgl rfl) (by decide) ?_
    refine v_iconst dX14_roomForTypes_385 ?_
    refine v_iadd dX14_roomForTypes_386 ?_
    obtain ⟨g319, h⟩ := gd_some h
    obtain ⟨s320, e321, h⟩ := stp_some h
    refine v_na24 (K := 199) (tk1 := [(24, 1)]) rfl rfl (by decide) (w32_rg _) g319 ⟨(by decide), trivial⟩ ⟨(by decide), trivial⟩ q459 dX14_roomForTypes_387 ?_
    rw [← e321]
    obtain ⟨g322, h⟩ := gd_some h
    obtain ⟨s323, e324, h⟩ := stp_some h
    refine v_pa (i := 0) (K := 199) (t0 := 137) (f := 67) (tk1 := [(24, 0)]) (L1 := [(0, vO 87), (1, vI r5)]) (st1 := []) rfl rfl (by decide) cf14 (⟨by decide, rfl⟩ : okB 87 13) rfl (by decide) rfl rfl (by decide) rfl g322 q2437 dX14_roomForTypes_389 rfl rfl rfl rfl ?_
    rw [← e324]
    obtain ⟨s325, e326, h⟩ := stp_some h
    refine v_dr (by decide) (by decide) ⟨(by decide), trivial⟩ trivial ?_
    rw [← e326]
    refine v_aload_n dX14_roomForTypes_392 0 rfl rfl ?_
    refine v_iload_n dX14_roomForTypes_393 1 rfl rfl ?_
    refine v_iconst dX14_roomForTypes_394 ?_
    refine v_idiv dX14_roomForTypes_395 (rgl rfl) (by decide) ?_
    refine v_iconst dX14_roomForTypes_396 ?_
    refine v_iadd dX14_roomForTypes_397 ?_
    obtain ⟨g327, h⟩ := gd_some h
    obtain ⟨s328, e329, h⟩ := stp_some h
    refine v_na24 (K := 199) (tk1 := [(24, 1)]) rfl rfl (by decide) (w32_rg _) g327 ⟨(by decide), trivial⟩ ⟨(by decide), trivial⟩ q459 dX14_roomForTypes_398 ?_
    rw [← e329]
    obtain ⟨g330, h⟩ := gd_some h
    obtain ⟨s331, e332, h⟩ := stp_some h
    refine v_pa (i := 0) (K := 199) (t0 := 138) (f := 68) (tk1 := [(24, 0)]) (L1 := [(0, vO 87), (1, vI r5)]) (st1 := []) rfl rfl (by decide) cf14 (⟨by decide, rfl⟩ : okB 87 13) rfl (by decide) rfl rfl (by decide) rfl g330 q2438 dX14_roomForTypes_400 rfl rfl rfl rfl ?_
    rw [← e332]
    obtain ⟨s333, e334, h⟩ := stp_some h
    refine v_dr (by decide) (by decide) ⟨(by decide), trivial⟩ trivial ?_
    rw [← e334]
    refine v_aload_n dX14_roomForTypes_403 0 rfl rfl ?_
    refine v_iload_n dX14_roomForTypes_404 1 rfl rfl ?_
    refine v_iconst dX14_roomForTypes_405 ?_
    refine v_idiv dX14_roomForTypes_406 (rgl rfl) (by decide) ?_
    refine v_iconst dX14_roomForTypes_407 ?_
    refine v_iadd dX14_roomForTypes_408 ?_
    obtain ⟨g335, h⟩ := gd_some h
    obtain ⟨s336, e337, h⟩ := stp_some h
    refine v_na24 (K := 199) (tk1 := [(24, 1)]) rfl rfl (by decide) (w32_rg _) g335 ⟨(by decide), trivial⟩ ⟨(by decide), trivial⟩ q459 dX14_roomForTypes_409 ?_
    rw [← e337]
    obtain ⟨g338, h⟩ := gd_some h
    obtain ⟨s339, e340, h⟩ := stp_some h
    refine v_pa (i := 0) (K := 199) (t0 := 166) (f := 113) (tk1 := [(24, 0)]) (L1 := [(0, vO 87), (1, vI r5)]) (st1 := []) rfl rfl (by decide) cf14 (⟨by decide, rfl⟩ : okB 87 13) rfl (by decide) rfl rfl (by decide) rfl g338 q2483 dX14_roomForTypes_411 rfl rfl rfl rfl ?_
    rw [← e340]
    obtain ⟨s341, e342, h⟩ := stp_some h
    refine v_dr (by decide) (by decide) ⟨(by decide), trivial⟩ trivial ?_
    rw [← e342]
    refine v_aload_n dX14_roomForTypes_414 0 rfl rfl ?_
    refine v_iload_n dX14_roomForTypes_415 1 rfl rfl ?_
    refine v_iconst dX14_roomForTypes_416 ?_
    refine v_idiv dX14_roomForTypes_417 (rgl rfl) (by decide) ?_
    refine v_iconst dX14_roomForTypes_418 ?_
    refine v_iadd dX14_roomForTypes_419 ?_
    obtain ⟨g343, h⟩ := gd_some h
    obtain ⟨s344, e345, h⟩ := stp_some h
    refine v_na24 (K := 199) (tk1 := [(24, 1)]) rfl rfl (by decide) (w32_rg _) g343 ⟨(by decide), trivial⟩ ⟨(by decide), trivial⟩ q459 dX14_roomForTypes_420 ?_
    rw [← e345]
    obtain ⟨g346, h⟩ := gd_some h
    obtain ⟨s347, e348, h⟩ := stp_some h
    refine v_pa (i := 0) (K := 199) (t0 := 167) (f := 114) (tk1 := [(24, 0)]) (L1 := [(0, vO 87), (1, vI r5)]) (st1 := []) rfl rfl (by decide) cf14 (⟨by decide, rfl⟩ : okB 87 13) rfl (by decide) rfl rfl (by decide) rfl g346 q2484 dX14_roomForTypes_422 rfl rfl rfl rfl ?_
    rw [← e348]
    obtain ⟨s349, e350, h⟩ := stp_some h
    refine v_dr (by decide) (by decide) ⟨(by decide), trivial⟩ trivial ?_
    rw [← e350]
    refine v_aload_n dX14_roomForTypes_425 0 rfl rfl ?_
    refine v_iload_n dX14_roomForTypes_426 1 rfl rfl ?_
    refine v_iconst dX14_roomForTypes_427 ?_
    refine v_idiv dX14_roomForTypes_428 (rgl rfl) (by decide) ?_
    refine v_iconst dX14_roomForTypes_429 ?_
    refine v_iadd dX14_roomForTypes_430 ?_
    obtain ⟨g351, h⟩ := gd_some h
    obtain ⟨s352, e353, h⟩ := stp_some h
    refine v_na24 (K := 199) (tk1 := [(24, 1)]) rfl rfl (by decide) (w32_rg _) g351 ⟨(by decide), trivial⟩ ⟨(by decide), trivial⟩ q459 dX14_roomForTypes_431 ?_
    rw [← e353]
    obtain ⟨g354, h⟩ := gd_some h
    obtain ⟨s355, e356, h⟩ := stp_some h
    refine v_pa (i := 0) (K := 199) (t0 := 168) (f := 115) (tk1 := [(24, 0)]) (L1 := [(0, vO 87), (1, vI r5)]) (st1 := []) rfl rfl (by decide) cf14 (⟨by decide, rfl⟩ : okB 87 13) rfl (by decide) rfl rfl (by decide) rfl g354 q2485 dX14_roomForTypes_433 rfl rfl rfl rfl ?_
    rw [← e356]
    obtain ⟨s357, e358, h⟩ := stp_some h
    refine v_dr (by decide) (by decide) ⟨(by decide), trivial⟩ trivial ?_
    rw [← e358]
    refine v_aload_n dX14_roomForTypes_436 0 rfl rfl ?_
    refine v_iload_n dX14_roomForTypes_437 1 rfl rfl ?_
    refine v_iconst dX14_roomForTypes_438 ?_
    refine v_idiv dX14_roomForTypes_439 (rgl rfl) (by decide) ?_
    refine v_bipush dX14_roomForTypes_440 rfl ?_
    refine v_iadd dX14_roomForTypes_442 ?_
    obtain ⟨g359, h⟩ := gd_some h
    obtain ⟨s360, e361, h⟩ := stp_some h
    refine v_na24 (K := 199) (tk1 := [(24, 1)]) rfl rfl (by decide) (w32_rg _) g359 ⟨(by decide), trivial⟩ ⟨(by decide), trivial⟩ q459 dX14_roomForTypes_443 ?_
    rw [← e361]
    obtain ⟨g362, h⟩ := gd_some h
    obtain ⟨s363, e364, h⟩ := stp_some h
    refine v_pa (i := 0) (K := 199) (t0 := 108) (f := 33) (tk1 := [(24, 0)]) (L1 := [(0, vO 87), (1, vI r5)]) (st1 := []) rfl rfl (by decide) cf14 (⟨by decide, rfl⟩ : okB 87 13) rfl (by decide) rfl rfl (by decide) rfl g362 q2403 dX14_roomForTypes_445 rfl rfl rfl rfl ?_
    rw [← e364]
    obtain ⟨s365, e366, h⟩ := stp_some h
    refine v_dr (by decide) (by decide) ⟨(by decide), trivial⟩ trivial ?_
    rw [← e366]
    refine v_aload_n dX14_roomForTypes_448 0 rfl rfl ?_
    refine v_iload_n dX14_roomForTypes_449 1 rfl rfl ?_
    refine v_iconst dX14_roomForTypes_450 ?_
    refine v_idiv dX14_roomForTypes_451 (rgl rfl) (by decide) ?_
    refine v_bipush dX14_roomForTypes_452 rfl ?_
    refine v_iadd dX14_roomForTypes_454 ?_
    obtain ⟨g367, h⟩ := gd_some h
    obtain ⟨s368, e369, h⟩ := stp_some h
    refine v_na24 (K := 199) (tk1 := [(24, 1)]) rfl rfl (by decide) (w32_rg _) g367 ⟨(by decide), trivial⟩ ⟨(by decide), trivial⟩ q459 dX14_roomForTypes_455 ?_
    rw [← e369]
    obtain ⟨g370, h⟩ := gd_some h
    obtain ⟨s371, e372, h⟩ := stp_some h
    refine v_pa (i := 0) (K := 199) (t0 := 109) (f := 34) (tk1 := [(24, 0)]) (L1 := [(0, vO 87), (1, vI r5)]) (st1 := []) rfl rfl (by decide) cf14 (⟨by decide, rfl⟩ : okB 87 13) rfl (by decide) rfl rfl (by decide) rfl g370 q2404 dX14_roomForTypes_457 rfl rfl rfl rfl ?_
    rw [← e372]
    obtain ⟨s373, e374, h⟩ := stp_some h
    refine v_dr (by decide) (by decide) ⟨(by decide), trivial⟩ trivial ?_
    rw [← e374]
    refine v_aload_n dX14_roomForTypes_460 0 rfl rfl ?_
    refine v_iload_n dX14_roomForTypes_461 1 rfl rfl ?_
    refine v_iconst dX14_roomForTypes_462 ?_
    refine v_idiv dX14_roomForTypes_463 (rgl rfl) (by decide) ?_
    refine v_bipush dX14_roomForTypes_464 rfl ?_
    refine v_iadd dX14_roomForTypes_466 ?_
    obtain ⟨g375, h⟩ := gd_some h
    obtain ⟨s376, e377, h⟩ := stp_some h
    refine v_na24 (K := 199) (tk1 := [(24, 1)]) rfl rfl (by decide) (w32_rg _) g375 ⟨(by decide), trivial⟩ ⟨(by decide), trivial⟩ q459 dX14_roomForTypes_467 ?_
    rw [← e377]
    obtain ⟨g378, h⟩ := gd_some h
    obtain ⟨s379, e380, h⟩ := stp_some h
    refine v_pa (i := 0) (K := 199) (t0 := 110) (f := 35) (tk1 := [(24, 0)]) (L1 := [(0, vO 87), (1, vI r5)]) (st1 := []) rfl rfl (by decide) cf14 (⟨by decide, rfl⟩ : okB 87 13) rfl (by decide) rfl rfl (by decide) rfl g378 q2405 dX14_roomForTypes_469 rfl rfl rfl rfl ?_
    rw [← e380]
    obtain ⟨s381, e382, h⟩ := stp_some h
    refine v_dr (by decide) (by decide) ⟨(by decide), trivial⟩ trivial ?_
    rw [← e382]
    refine v_aload_n dX14_roomForTypes_472 0 rfl rfl ?_
    refine v_iload_n dX14_roomForTypes_473 1 rfl rfl ?_
    refine v_iconst dX14_roomForTypes_474 ?_
    refine v_idiv dX14_roomForTypes_475 (rgl rfl) (by decide) ?_
    refine v_bipush dX14_roomForTypes_476 rfl ?_
    refine v_iadd dX14_roomForTypes_478 ?_
    obtain ⟨g383, h⟩ := gd_some h
    obtain ⟨s384, e385, h⟩ := stp_some h
    refine v_na24 (K := 199) (tk1 := [(24, 1)]) rfl rfl (by decide) (w32_rg _) g383 ⟨(by decide), trivial⟩ ⟨(by decide), trivial⟩ q459 dX14_roomForTypes_479 ?_
    rw [← e385]
    obtain ⟨g386, h⟩ := gd_some h
    obtain ⟨s387, e388, h⟩ := stp_some h
    refine v_pa (i := 0) (K := 199) (t0 := 111) (f := 36) (tk1 := [(24, 0)]) (L1 := [(0, vO 87), (1, vI r5)]) (st1 := []) rfl rfl (by decide) cf14 (⟨by decide, rfl⟩ : okB 87 13) rfl (by decide) rfl rfl (by decide) rfl g386 q2406 dX14_roomForTypes_481 rfl rfl rfl rfl ?_
    rw [← e388]
    obtain ⟨s389, e390, h⟩ := stp_some h
    refine v_dr (by decide) (by decide) ⟨(by decide), trivial⟩ trivial ?_
    rw [← e390]
    refine v_aload_n dX14_roomForTypes_484 0 rfl rfl ?_
    refine v_iload_n dX14_roomForTypes_485 1 rfl rfl ?_
    refine v_iconst dX14_roomForTypes_486 ?_
    refine v_idiv dX14_roomForTypes_487 (rgl rfl) (by decide) ?_
    refine v_bipush dX14_roomForTypes_488 rfl ?_
    refine v_iadd dX14_roomForTypes_490 ?_
    obtain ⟨g391, h⟩ := gd_some h
    obtain ⟨s392, e393, h⟩ := stp_some h
    refine v_na24 (K := 199) (tk1 := [(24, 1)]) rfl rfl (by decide) (w32_rg _) g391 ⟨(by decide), trivial⟩ ⟨(by decide), trivial⟩ q459 dX14_roomForTypes_491 ?_
    rw [← e393]
    obtain ⟨g394, h⟩ := gd_some h
    obtain ⟨s395, e396, h⟩ := stp_some h
    refine v_pa (i := 0) (K := 199) (t0 := 121) (f := 49) (tk1 := [(24, 0)]) (L1 := [(0, vO 87), (1, vI r5)]) (st1 := []) rfl rfl (by decide) cf14 (⟨by decide, rfl⟩ : okB 87 13) rfl (by decide) rfl rfl (by decide) rfl g394 q2419 dX14_roomForTypes_493 rfl rfl rfl rfl ?_
    rw [← e396]
    obtain ⟨s397, e398, h⟩ := stp_some h
    refine v_dr (by decide) (by decide) ⟨(by decide), trivial⟩ trivial ?_
    rw [← e398]
    refine v_aload_n dX14_roomForTypes_496 0 rfl rfl ?_
    refine v_iload_n dX14_roomForTypes_497 1 rfl rfl ?_
    refine v_iconst dX14_roomForTypes_498 ?_
    refine v_idiv dX14_roomForTypes_499 (rgl rfl) (by decide) ?_
    refine v_bipush dX14_roomForTypes_500 rfl ?_
    refine v_iadd dX14_roomForTypes_502 ?_
    obtain ⟨g399, h⟩ := gd_some h
    obtain ⟨s400, e401, h⟩ := stp_some h
    refine v_na26 (K := 199) (tk1 := [(26, 1)]) rfl rfl (by decide) (w32_rg _) g399 ⟨(by decide), trivial⟩ ⟨(by decide), trivial⟩ q755 dX14_roomForTypes_503 ?_
    rw [← e401]
    obtain ⟨g402, h⟩ := gd_some h
    obtain ⟨s403, e404, h⟩ := stp_some h
    refine v_pa (i := 0) (K := 199) (t0 := 122) (f := 50) (tk1 := [(26, 0)]) (L1 := [(0, vO 87), (1, vI r5)]) (st1 := []) rfl rfl (by decide) cf14 (⟨by decide, rfl⟩ : okB 87 13) rfl (by decide) rfl rfl (by decide) rfl g402 q2420 dX14_roomForTypes_505 rfl rfl rfl rfl ?_
    rw [← e404]
    obtain ⟨s405, e406, h⟩ := stp_some h
    refine v_dr (by decide) (by decide) ⟨(by decide), trivial⟩ trivial ?_
    rw [← e406]
    refine v_aload_n dX14_roomForTypes_508 0 rfl rfl ?_
    refine v_iload_n dX14_roomForTypes_509 1 rfl rfl ?_
    refine v_iconst dX14_roomForTypes_510 ?_
    refine v_idiv dX14_roomForTypes_511 (rgl rfl) (by decide) ?_
    refine v_bipush dX14_roomForTypes_512 rfl ?_
    refine v_iadd dX14_roomForTypes_514 ?_
    obtain ⟨g407, h⟩ := gd_some h
    obtain ⟨s408, e409, h⟩ := stp_some h
    refine v_na24 (K := 199) (tk1 := [(24, 1)]) rfl rfl (by decide) (w32_rg _) g407 ⟨(by decide), trivial⟩ ⟨(by decide), trivial⟩ q459 dX14_roomForTypes_515 ?_
    rw [← e409]
    obtain ⟨g410, h⟩ := gd_some h
    obtain ⟨s411, e412, h⟩ := stp_some h
    refine v_pa (i := 0) (K := 199) (t0 := 123) (f := 51) (tk1 := [(24, 0)]) (L1 := [(0, vO 87), (1, vI r5)]) (st1 := []) rfl rfl (by decide) cf14 (⟨by decide, rfl⟩ : okB 87 13) rfl (by decide) rfl rfl (by decide) rfl g410 q2421 dX14_roomForTypes_517 rfl rfl rfl rfl ?_
    rw [← e412]
    obtain ⟨s413, e414, h⟩ := stp_some h
    refine v_dr (by decide) (by decide) ⟨(by decide), trivial⟩ trivial ?_
    rw [← e414]
    refine v_aload_n dX14_roomForTypes_520 0 rfl rfl ?_
    refine v_iload_n dX14_roomForTypes_521 1 rfl rfl ?_
    refine v_iconst dX14_roomForTypes_522 ?_
    refine v_idiv dX14_roomForTypes_523 (rgl rfl) (by decide) ?_
    refine v_bipush dX14_roomForTypes_524 rfl ?_
    refine v_iadd dX14_roomForTypes_526 ?_
    obtain ⟨g415, h⟩ := gd_some h
    obtain ⟨s416, e417, h⟩ := stp_some h
    refine v_na24 (K := 199) (tk1 := [(24, 1)]) rfl rfl (by decide) (w32_rg _) g415 ⟨(by decide), trivial⟩ ⟨(by decide), trivial⟩ q459 dX14_roomForTypes_527 ?_
    rw [← e417]
    obtain ⟨g418, h⟩ := gd_some h
    obtain ⟨s419, e420, h⟩ := stp_some h
    refine v_pa (i := 0) (K := 199) (t0 := 124) (f := 52) (tk1 := [(24, 0)]) (L1 := [(0, vO 87), (1, vI r5)]) (st1 := []) rfl rfl (by decide) cf14 (⟨by decide, rfl⟩ : okB 87 13) rfl (by decide) rfl rfl (by decide) rfl g418 q2422 dX14_roomForTypes_529 rfl rfl rfl rfl ?_
    rw [← e420]
    obtain ⟨s421, e422, h⟩ := stp_some h
    refine v_dr (by decide) (by decide) ⟨(by decide), trivial⟩ trivial ?_
    rw [← e422]
    refine v_aload_n dX14_roomForTypes_532 0 rfl rfl ?_
    refine v_iload_n dX14_roomForTypes_533 1 rfl rfl ?_
    refine v_iconst dX14_roomForTypes_534 ?_
    refine v_idiv dX14_roomForTypes_535 (rgl rfl) (by decide) ?_
    refine v_bipush dX14_roomForTypes_536 rfl ?_
    refine v_iadd dX14_roomForTypes_538 ?_
    obtain ⟨g423, h⟩ := gd_some h
    obtain ⟨s424, e425, h⟩ := stp_some h
    refine v_na24 (K := 199) (tk1 := [(24, 1)]) rfl rfl (by decide) (w32_rg _) g423 ⟨(by decide), trivial⟩ ⟨(by decide), trivial⟩ q459 dX14_roomForTypes_539 ?_
    rw [← e425]
    obtain ⟨g426, h⟩ := gd_some h
    obtain ⟨s427, e428, h⟩ := stp_some h
    refine v_pa (i := 0) (K := 199) (t0 := 125) (f := 53) (tk1 := [(24, 0)]) (L1 := [(0, vO 87), (1, vI r5)]) (st1 := []) rfl rfl (by decide) cf14 (⟨by decide, rfl⟩ : okB 87 13) rfl (by decide) rfl rfl (by decide) rfl g426 q2423 dX14_roomForTypes_541 rfl rfl rfl rfl ?_
    rw [← e428]
    obtain ⟨s429, e430, h⟩ := stp_some h
    refine v_dr (by decide) (by decide) ⟨(by decide), trivial⟩ trivial ?_
    rw [← e430]
    refine v_aload_n dX14_roomForTypes_544 0 rfl rfl ?_
    refine v_iload_n dX14_roomForTypes_545 1 rfl rfl ?_
    refine v_iconst dX14_roomForTypes_546 ?_
    refine v_idiv dX14_roomForTypes_547 (rgl rfl) (by decide) ?_
    refine v_bipush dX14_roomForTypes_548 rfl ?_
    refine v_iadd dX14_roomForTypes_550 ?_
    obtain ⟨g431, h⟩ := gd_some h
    obtain ⟨s432, e433, h⟩ := stp_some h
    refine v_na24 (K := 199) (tk1 := [(24, 1)]) rfl rfl (by decide) (w32_rg _) g431 ⟨(by decide), trivial⟩ ⟨(by decide), trivial⟩ q459 dX14_roomForTypes_551 ?_
    rw [← e433]
    obtain ⟨g434, h⟩ := gd_some h
    obtain ⟨s435, e436, h⟩ := stp_some h
    refine v_pa (i := 0) (K := 199) (t0 := 141) (f := 73) (tk1 := [(24, 0)]) (L1 := [(0, vO 87), (1, vI r5)]) (st1 := []) rfl rfl (by decide) cf14 (⟨by decide, rfl⟩ : okB 87 13) rfl (by decide) rfl rfl (by decide) rfl g434 q2443 dX14_roomForTypes_553 rfl rfl rfl rfl ?_
    rw [← e436]
    obtain ⟨s437, e438, h⟩ := stp_some h
    refine v_dr (by decide) (by decide) ⟨(by decide), trivial⟩ trivial ?_
    rw [← e438]
    refine v_aload_n dX14_roomForTypes_556 0 rfl rfl ?_
    refine v_iload_n dX14_roomForTypes_557 1 rfl rfl ?_
    refine v_iconst dX14_roomForTypes_558 ?_
    refine v_idiv dX14_roomForTypes_559 (rgl rfl) (by decide) ?_
    refine v_bipush dX14_roomForTypes_560 rfl ?_
    refine v_iadd dX14_roomForTypes_562 ?_
    obtain ⟨g439, h⟩ := gd_some h
    obtain ⟨s440, e441, h⟩ := stp_some h
    refine v_na24 (K := 199) (tk1 := [(24, 1)]) rfl rfl (by decide) (w32_rg _) g439 ⟨(by decide), trivial⟩ ⟨(by decide), trivial⟩ q459 dX14_roomForTypes_563 ?_
    rw [← e441]
    obtain ⟨g442, h⟩ := gd_some h
    obtain ⟨s443, e444, h⟩ := stp_some h
    refine v_pa (i := 0) (K := 199) (t0 := 142) (f := 74) (tk1 := [(24, 0)]) (L1 := [(0, vO 87), (1, vI r5)]) (st1 := []) rfl rfl (by decide) cf14 (⟨by decide, rfl⟩ : okB 87 13) rfl (by decide) rfl rfl (by decide) rfl g442 q2444 dX14_roomForTypes_565 rfl rfl rfl rfl ?_
    rw [← e444]
    obtain ⟨s445, e446, h⟩ := stp_some h
    refine v_dr (by decide) (by decide) ⟨(by decide), trivial⟩ trivial ?_
    rw [← e446]
    refine v_aload_n dX14_roomForTypes_568 0 rfl rfl ?_
    refine v_iload_n dX14_roomForTypes_569 1 rfl rfl ?_
    refine v_iconst dX14_roomForTypes_570 ?_
    refine v_idiv dX14_roomForTypes_571 (rgl rfl) (by decide) ?_
    refine v_bipush dX14_roomForTypes_572 rfl ?_
    refine v_iadd dX14_roomForTypes_574 ?_
    obtain ⟨g447, h⟩ := gd_some h
    obtain ⟨s448, e449, h⟩ := stp_some h
    refine v_na24 (K := 199) (tk1 := [(24, 1)]) rfl rfl (by decide) (w32_rg _) g447 ⟨(by decide), trivial⟩ ⟨(by decide), trivial⟩ q459 dX14_roomForTypes_575 ?_
    rw [← e449]
    obtain ⟨g450, h⟩ := gd_some h
    obtain ⟨s451, e452, h⟩ := stp_some h
    refine v_pa (i := 0) (K := 199) (t0 := 143) (f := 75) (tk1 := [(24, 0)]) (L1 := [(0, vO 87), (1, vI r5)]) (st1 := []) rfl rfl (by decide) cf14 (⟨by decide, rfl⟩ : okB 87 13) rfl (by decide) rfl rfl (by decide) rfl g450 q2445 dX14_roomForTypes_577 rfl rfl rfl rfl ?_
    rw [← e452]
    obtain ⟨s453, e454, h⟩ := stp_some h
    refine v_dr (by decide) (by decide) ⟨(by decide), trivial⟩ trivial ?_
    rw [← e454]
    refine v_aload_n dX14_roomForTypes_580 0 rfl rfl ?_
    refine v_iload_n dX14_roomForTypes_581 1 rfl rfl ?_
    refine v_iconst dX14_roomForTypes_582 ?_
    refine v_idiv dX14_roomForTypes_583 (rgl rfl) (by decide) ?_
    refine v_bipush dX14_roomForTypes_584 rfl ?_
    refine v_iadd dX14_roomForTypes_586 ?_
    obtain ⟨g455, h⟩ := gd_some h
    obtain ⟨s456, e457, h⟩ := stp_some h
    refine v_na24 (K := 199) (tk1 := [(24, 1)]) rfl rfl (by decide) (w32_rg _) g455 ⟨(by decide), trivial⟩ ⟨(by decide), trivial⟩ q459 dX14_roomForTypes_587 ?_
    rw [← e457]
    obtain ⟨g458, h⟩ := gd_some h
    obtain ⟨s459, e460, h⟩ := stp_some h
    refine v_pa (i := 0) (K := 199) (t0 := 144) (f := 77) (tk1 := [(24, 0)]) (L1 := [(0, vO 87), (1, vI r5)]) (st1 := []) rfl rfl (by decide) cf14 (⟨by decide, rfl⟩ : okB 87 13) rfl (by decide) rfl rfl (by decide) rfl g458 q2447 dX14_roomForTypes_589 rfl rfl rfl rfl ?_
    rw [← e460]
    obtain ⟨s461, e462, h⟩ := stp_some h
    refine v_dr (by decide) (by decide) ⟨(by decide), trivial⟩ trivial ?_
    rw [← e462]
    refine v_aload_n dX14_roomForTypes_592 0 rfl rfl ?_
    refine v_iload_n dX14_roomForTypes_593 1 rfl rfl ?_
    refine v_iconst dX14_roomForTypes_594 ?_
    refine v_idiv dX14_roomForTypes_595 (rgl rfl) (by decide) ?_
    refine v_bipush dX14_roomForTypes_596 rfl ?_
    refine v_iadd dX14_roomForTypes_598 ?_
    obtain ⟨g463, h⟩ := gd_some h
    obtain ⟨s464, e465, h⟩ := stp_some h
    refine v_na24 (K := 199) (tk1 := [(24, 1)]) rfl rfl (by decide) (w32_rg _) g463 ⟨(by decide), trivial⟩ ⟨(by decide), trivial⟩ q459 dX14_roomForTypes_599 ?_
    rw [← e465]
    obtain ⟨g466, h⟩ := gd_some h
    obtain ⟨s467, e468, h⟩ := stp_some h
    refine v_pa (i := 0) (K := 199) (t0 := 154) (f := 93) (tk1 := [(24, 0)]) (L1 := [(0, vO 87), (1, vI r5)]) (st1 := []) rfl rfl (by decide) cf14 (⟨by decide, rfl⟩ : okB 87 13) rfl (by decide) rfl rfl (by decide) rfl g466 q2463 dX14_roomForTypes_601 rfl rfl rfl rfl ?_
    rw [← e468]
    obtain ⟨s469, e470, h⟩ := stp_some h
    refine v_dr (by decide) (by decide) ⟨(by decide), trivial⟩ trivial ?_
    rw [← e470]
    refine v_aload_n dX14_roomForTypes_604 0 rfl rfl ?_
    refine v_iload_n dX14_roomForTypes_605 1 rfl rfl ?_
    refine v_iconst dX14_roomForTypes_606 ?_
    refine v_idiv dX14_roomForTypes_607 (rgl rfl) (by decide) ?_
    refine v_bipush dX14_roomForTypes_608 rfl ?_
    refine v_iadd dX14_roomForTypes_610 ?_
    obtain ⟨g471, h⟩ := gd_some h
    obtain ⟨s472, e473, h⟩ := stp_some h
    refine v_na27 (K := 199) (tk1 := [(27, 1)]) rfl rfl (by decide) (w32_rg _) g471 ⟨(by decide), trivial⟩ ⟨(by decide), trivial⟩ q2860 dX14_roomForTypes_611 ?_
    rw [← e473]
    obtain ⟨g474, h⟩ := gd_some h
    obtain ⟨s475, e476, h⟩ := stp_some h
    refine v_pa (i := 0) (K := 199) (t0 := 159) (f := 102) (tk1 := [(27, 0)]) (L1 := [(0, vO 87), (1, vI r5)]) (st1 := []) rfl rfl (by decide) cf14 (⟨by decide, rfl⟩ : okB 87 13) rfl (by decide) rfl rfl (by decide) rfl g474 q2472 dX14_roomForTypes_613 rfl rfl rfl rfl ?_
    rw [← e476]
    refine v_sub [] (L1 := []) rfl ?_
    obtain ⟨s477, e478, h⟩ := stp_some h
    refine v_dr (by decide) (by decide) trivial trivial ?_
    rw [← e478]
    cases h
    exact v_vret dX14_roomForTypes_616
  · rw [if_neg c1] at h
    cases h
    exact v_vret dX14_roomForTypes_14

def f_X14_roomForElements (s : vS) : Option (vS) :=
  if (w32 (gN s 172 : Int)) < (w32 ((d32 (gI s 87 127) 2) + 4)) then
    bd (f_X14_room (w32 ((d32 (gI s 87 127) 2) + 4)) 16392 s) fun r5 s2 =>
    gd (naG r5) <|
    stp (sA s2 199 (Int.toNat r5, fun _ => 0)) fun s8 =>
    gd (2 * gN s8 172 ≤ gN s8 199 ∧ 2 ≤ gN s8 199) <|
    stp (sw2 s8 172 199) fun s11 =>
    stp (rs s11) fun s13 =>
    gd (naG r5) <|
    stp (sA s13 199 (Int.toNat r5, fun _ => 0)) fun s16 =>
    gd (2 * gN s16 173 ≤ gN s16 199 ∧ 2 ≤ gN s16 199) <|
    stp (sw2 s16 173 199) fun s19 =>
    stp (rs s19) fun s21 =>
    gd (naG r5) <|
    stp (sA s21 199 (Int.toNat r5, fun _ => 0)) fun s24 =>
    gd (2 * gN s24 174 ≤ gN s24 199 ∧ 2 ≤ gN s24 199) <|
    stp (sw2 s24 174 199) fun s27 =>
    stp (rs s27) fun s29 =>
    gd (naG r5) <|
    stp (sA s29 199 (Int.toNat r5, fun _ => 0)) fun s32 =>
    gd (2 * gN s32 175 ≤ gN s32 199 ∧ 2 ≤ gN s32 199) <|
    stp (sw2 s32 175 199) fun s35 =>
    stp (rs s35) fun s37 =>
    gd (naG r5) <|
    stp (sA s37 199 (Int.toNat r5, fun _ => 0)) fun s40 =>
    gd (2 * gN s40 176 ≤ gN s40 199 ∧ 2 ≤ gN s40 199) <|
    stp (sw2 s40 176 199) fun s43 =>
    stp (rs s43) fun s45 =>
    gd (naG r5) <|
    stp (sA s45 199 (Int.toNat r5, fun _ => 0)) fun s48 =>
    gd (2 * gN s48 177 ≤ gN s48 199 ∧ 2 ≤ gN s48 199) <|
    stp (sw2 s48 177 199) fun s51 =>
    stp (rs s51) fun s53 =>
    gd (naG r5) <|
    stp (sA s53 199 (Int.toNat r5, fun _ => 0)) fun s56 =>
    gd (2 * gN s56 178 ≤ gN s56 199 ∧ 2 ≤ gN s56 199) <|
    stp (sw2 s56 178 199) fun s59 =>
    stp (rs s59) fun s61 =>
    gd (naG r5) <|
    stp (sA s61 199 (Int.toNat r5, fun _ => 0)) fun s64 =>
    gd (2 * gN s64 179 ≤ gN s64 199 ∧ 2 ≤ gN s64 199) <|
    stp (sw2 s64 179 199) fun s67 =>
    stp (rs s67) fun s69 =>
    gd (naG r5) <|
    stp (sA s69 199 (Int.toNat r5, fun _ => 0)) fun s72 =>
    gd (2 * gN s72 180 ≤ gN s72 199 ∧ 2 ≤ gN s72 199) <|
    stp (sw2 s72 180 199) fun s75 =>
    stp (rs s75) fun s77 =>
    gd (naG r5) <|
    stp (sA s77 199 (Int.toNat r5, fun _ => 0)) fun s80 =>
    gd (2 * gN s80 181 ≤ gN s80 199 ∧ 2 ≤ gN s80 199) <|
    stp (sw2 s80 181 199) fun s83 =>
    stp (rs s83) fun s85 =>
    gd (naG r5) <|
    stp (sA s85 199 (Int.toNat r5, fun _ => 0)) fun s88 =>
    gd (2 * gN s88 182 ≤ gN s88 199 ∧ 2 ≤ gN s88 199) <|
    stp (sw2 s88 182 199) fun s91 =>
    stp (rs s91) fun s93 =>
    gd (naG r5) <|
    stp (sA s93 199 (Int.toNat r5, fun _ => 0)) fun s96 =>
    gd (2 * gN s96 194 ≤ gN s96 199 ∧ 2 ≤ gN s96 199) <|
    stp (sw2 s96 194 199) fun s99 =>
    stp (rs s99) fun s101 =>
    gd (naG r5) <|
    stp (sA s101 199 (Int.toNat r5, fun _ => 0)) fun s104 =>
    gd (2 * gN s104 195 ≤ gN s104 199 ∧ 2 ≤ gN s104 199) <|
    stp (sw2 s104 195 199) fun s107 =>
    stp (rs s107) fun s109 =>
    gd (naG r5) <|
    stp (sA s109 199 (Int.toNat r5, fun _ => 0)) fun s112 =>
    gd (2 * gN s112 196 ≤ gN s112 199 ∧ 2 ≤ gN s112 199) <|
    stp (sw2 s112 196 199) fun s115 =>
    stp (rs s115) fun s117 =>
    gd (naG r5) <|
    stp (sA s117 199 (Int.toNat r5, fun _ => 0)) fun s120 =>
    gd (2 * gN s120 197 ≤ gN s120 199 ∧ 2 ≤ gN s120 199) <|
    stp (sw2 s120 197 199) fun s123 =>
    stp (rs s123) fun s125 =>
    some s125
  else
    some s
theorem yk_X14_roomForElements : yOk yX14_roomForElements 0 := ⟨by decide, by decide, by decide +kernel⟩
theorem c_X14_roomForElements {s : vS} {out : vS} (h : f_X14_roomForElements s = some out)   : VC yX14_roomForElements cX14_roomForElements 2 none 1 21 [vO 87] s none out [] := by
  unfold f_X14_roomForElements at h
  refine VC.of RX14 (by decide) rfl (Nat.le_of_ble_eq_true rfl) ?_
  show VW cX14_roomForElements (RX14, none, out, none, 1, 21, 2, []) (P0 []) s 0 [(0, vO 87)] []
  refine v_aload_n dX14_roomForElements_0 0 rfl rfl ?_
  refine v_getS (f := 130) (t := 172) cf14 oc87 rfl rfl rfl (by decide) q2500 dX14_roomForElements_1 ?_
  refine v_alen24 oc172 dX14_roomForElements_4 ?_
  refine v_aload_n dX14_roomForElements_5 0 rfl rfl ?_
  refine v_getI (f := 127) cf14 oc87 rfl (by decide) q2497 dX14_roomForElements_6 ?_
  refine v_iconst dX14_roomForElements_9 ?_
  refine v_idiv dX14_roomForElements_10 (rgl rfl) (by decide) ?_
  refine v_iconst dX14_roomForElements_11 ?_
  refine v_iadd dX14_roomForElements_12 ?_
  refine v_icmp_lt (tgt := 17) dX14_roomForElements_13 (w32_rg _) (w32_rg _) (by decide) (fun c1 => ?_) (fun c1 => ?_)
  · rw [if_pos c1] at h
    refine v_aload_n dX14_roomForElements_17 0 rfl rfl ?_
    refine v_getI (f := 127) cf14 oc87 rfl (by decide) q2497 dX14_roomForElements_18 ?_
    refine v_iconst dX14_roomForElements_21 ?_
    refine v_idiv dX14_roomForElements_22 (rgl rfl) (by decide) ?_
    refine v_iconst dX14_roomForElements_23 ?_
    refine v_iadd dX14_roomForElements_24 ?_
    refine v_sipush dX14_roomForElements_25 rfl ?_
    obtain ⟨r5, s2, e3, h⟩ := bd_some h
    have k4 := c_X14_room e3 (w32_rg _) (rgl rfl)
    have r6 : rg r5 := k4.1.2.2
    refine v_callS (st := []) k4 (lw_S q2890 q2891 q311 q2892) yk_X14_room ⟨Nat.le_of_ble_eq_true rfl, Nat.le_of_ble_eq_true rfl⟩ trivial ⟨kc87, trivial⟩ (Nat.le_of_ble_eq_true rfl) rfl dX14_roomForElements_28 ?_
    refine v_istore_n (L1 := [(1, vI r5), (0, vO 87)]) dX14_roomForElements_31 rfl (by decide) rfl ?_
    refine v_aload_n dX14_roomForElements_32 1 rfl rfl ?_
    refine v_iload_n dX14_roomForElements_33 0 rfl rfl ?_
    obtain ⟨g7, h⟩ := gd_some h
    obtain ⟨s8, e9, h⟩ := stp_some h
    refine v_na24 (K := 199) (tk1 := [(24, 1)]) rfl rfl (by decide) r6 g7 ⟨(by decide), trivial⟩ ⟨(by decide), trivial⟩ q459 dX14_roomForElements_34 ?_
    rw [← e9]
    obtain ⟨g10, h⟩ := gd_some h
    obtain ⟨s11, e12, h⟩ := stp_some h
    refine v_pa (i := 0) (K := 199) (t0 := 172) (f := 130) (tk1 := [(24, 0)]) (L1 := [(1, vI r5), (0, vO 87)]) (st1 := []) rfl rfl (by decide) cf14 (⟨by decide, rfl⟩ : okB 87 13) rfl (by decide) rfl rfl (by decide) rfl g10 q2500 dX14_roomForElements_36 rfl rfl rfl rfl ?_
    rw [← e12]
    refine v_sub [1, 0] (L1 := [(0, vO 87), (1, vI r5)]) rfl ?_
    obtain ⟨s13, e14, h⟩ := stp_some h
    refine v_dr (by decide) (by decide) ⟨(by decide), trivial⟩ trivial ?_
    rw [← e14]
    refine v_aload_n dX14_roomForElements_39 0 rfl rfl ?_
    refine v_iload_n dX14_roomForElements_40 1 rfl rfl ?_
    obtain ⟨g15, h⟩ := gd_some h
    obtain ⟨s16, e17, h⟩ := stp_some h
    refine v_na24 (K := 199) (tk1 := [(24, 1)]) rfl rfl (by decide) r6 g15 ⟨(by decide), trivial⟩ ⟨(by decide), trivial⟩ q459 dX14_roomForElements_41 ?_
    rw [← e17]
    obtain ⟨g18, h⟩ := gd_some h
    obtain ⟨s19, e20, h⟩ := stp_some h
    refine v_pa (i := 0) (K := 199) (t0 := 173) (f := 131) (tk1 := [(24, 0)]) (L1 := [(0, vO 87), (1, vI r5)]) (st1 := []) rfl rfl (by decide) cf14 (⟨by decide, rfl⟩ : okB 87 13) rfl (by decide) rfl rfl (by decide) rfl g18 q2501 dX14_roomForElements_43 rfl rfl rfl rfl ?_
    rw [← e20]
    obtain ⟨s21, e22, h⟩ := stp_some h
    refine v_dr (by decide) (by decide) ⟨(by decide), trivial⟩ trivial ?_
    rw [← e22]
    refine v_aload_n dX14_roomForElements_46 0 rfl rfl ?_
    refine v_iload_n dX14_roomForElements_47 1 rfl rfl ?_
    obtain ⟨g23, h⟩ := gd_some h
    obtain ⟨s24, e25, h⟩ := stp_some h
    refine v_na26 (K := 199) (tk1 := [(26, 1)]) rfl rfl (by decide) r6 g23 ⟨(by decide), trivial⟩ ⟨(by decide), trivial⟩ q755 dX14_roomForElements_48 ?_
    rw [← e25]
    obtain ⟨g26, h⟩ := gd_some h
    obtain ⟨s27, e28, h⟩ := stp_some h
    refine v_pa (i := 0) (K := 199) (t0 := 174) (f := 132) (tk1 := [(26, 0)]) (L1 := [(0, vO 87), (1, vI r5)]) (st1 := []) rfl rfl (by decide) cf14 (⟨by decide, rfl⟩ : okB 87 13) rfl (by decide) rfl rfl (by decide) rfl g26 q2502 dX14_roomForElements_50 rfl rfl rfl rfl ?_
    rw [← e28]
    obtain ⟨s29, e30, h⟩ := stp_some h
    refine v_dr (by decide) (by decide) ⟨(by decide), trivial⟩ trivial ?_
    rw [← e30]
    refine v_aload_n dX14_roomForElements_53 0 rfl rfl ?_
    refine v_iload_n dX14_roomForElements_54 1 rfl rfl ?_
    obtain ⟨g31, h⟩ := gd_some h
    obtain ⟨s32, e33, h⟩ := stp_some h
    refine v_na24 (K := 199) (tk1 := [(24, 1)]) rfl rfl (by decide) r6 g31 ⟨(by decide), trivial⟩ ⟨(by decide), trivial⟩ q459 dX14_roomForElements_55 ?_
    rw [← e33]
    obtain ⟨g34, h⟩ := gd_some h
    obtain ⟨s35, e36, h⟩ := stp_some h
    refine v_pa (i := 0) (K := 199) (t0 := 175) (f := 133) (tk1 := [(24, 0)]) (L1 := [(0, vO 87), (1, vI r5)]) (st1 := []) rfl rfl (by decide) cf14 (⟨by decide, rfl⟩ : okB 87 13) rfl (by decide) rfl rfl (by decide) rfl g34 q2503 dX14_roomForElements_57 rfl rfl rfl rfl ?_
    rw [← e36]
    obtain ⟨s37, e38, h⟩ := stp_some h
    refine v_dr (by decide) (by decide) ⟨(by decide), trivial⟩ trivial ?_
    rw [← e38]
    refine v_aload_n dX14_roomForElements_60 0 rfl rfl ?_
    refine v_iload_n dX14_roomForElements_61 1 rfl rfl ?_
    obtain ⟨g39, h⟩ := gd_some h
    obtain ⟨s40, e41, h⟩ := stp_some h
    refine v_na24 (K := 199) (tk1 := [(24, 1)]) rfl rfl (by decide) r6 g39 ⟨(by decide), trivial⟩ ⟨(by decide), trivial⟩ q459 dX14_roomForElements_62 ?_
    rw [← e41]
    obtain ⟨g42, h⟩ := gd_some h
    obtain ⟨s43, e44, h⟩ := stp_some h
    refine v_pa (i := 0) (K := 199) (t0 := 176) (f := 134) (tk1 := [(24, 0)]) (L1 := [(0, vO 87), (1, vI r5)]) (st1 := []) rfl rfl (by decide) cf14 (⟨by decide, rfl⟩ : okB 87 13) rfl (by decide) rfl rfl (by decide) rfl g42 q2504 dX14_roomForElements_64 rfl rfl rfl rfl ?_
    rw [← e44]
    obtain ⟨s45, e46, h⟩ := stp_some h
    refine v_dr (by decide) (by decide) ⟨(by decide), trivial⟩ trivial ?_
    rw [← e46]
    refine v_aload_n dX14_roomForElements_67 0 rfl rfl ?_
    refine v_iload_n dX14_roomForElements_68 1 rfl rfl ?_
    obtain ⟨g47, h⟩ := gd_some h
    obtain ⟨s48, e49, h⟩ := stp_some h
    refine v_na24 (K := 199) (tk1 := [(24, 1)]) rfl rfl (by decide) r6 g47 ⟨(by decide), trivial⟩ ⟨(by decide), trivial⟩ q459 dX14_roomForElements_69 ?_
    rw [← e49]
    obtain ⟨g50, h⟩ := gd_some h
    obtain ⟨s51, e52, h⟩ := stp_some h
    refine v_pa (i := 0) (K := 199) (t0 := 177) (f := 135) (tk1 := [(24, 0)]) (L1 := [(0, vO 87), (1, vI r5)]) (st1 := []) rfl rfl (by decide) cf14 (⟨by decide, rfl⟩ : okB 87 13) rfl (by decide) rfl rfl (by decide) rfl g50 q2505 dX14_roomForElements_71 rfl rfl rfl rfl ?_
    rw [← e52]
    obtain ⟨s53, e54, h⟩ := stp_some h
    refine v_dr (by decide) (by decide) ⟨(by decide), trivial⟩ trivial ?_
    rw [← e54]
    refine v_aload_n dX14_roomForElements_74 0 rfl rfl ?_
    refine v_iload_n dX14_roomForElements_75 1 rfl rfl ?_
    obtain ⟨g55, h⟩ := gd_some h
    obtain ⟨s56, e57, h⟩ := stp_some h
    refine v_na26 (K := 199) (tk1 := [(26, 1)]) rfl rfl (by decide) r6 g55 ⟨(by decide), trivial⟩ ⟨(by decide), trivial⟩ q755 dX14_roomForElements_76 ?_
    rw [← e57]
    obtain ⟨g58, h⟩ := gd_some h
    obtain ⟨s59, e60, h⟩ := stp_some h
    refine v_pa (i := 0) (K := 199) (t0 := 178) (f := 136) (tk1 := [(26, 0)]) (L1 := [(0, vO 87), (1, vI r5)]) (st1 := []) rfl rfl (by decide) cf14 (⟨by decide, rfl⟩ : okB 87 13) rfl (by decide) rfl rfl (by decide) rfl g58 q2506 dX14_roomForElements_78 rfl rfl rfl rfl ?_
    rw [← e60]
    obtain ⟨s61, e62, h⟩ := stp_some h
    refine v_dr (by decide) (by decide) ⟨(by decide), trivial⟩ trivial ?_
    rw [← e62]
    refine v_aload_n dX14_roomForElements_81 0 rfl rfl ?_
    refine v_iload_n dX14_roomForElements_82 1 rfl rfl ?_
    obtain ⟨g63, h⟩ := gd_some h
    obtain ⟨s64, e65, h⟩ := stp_some h
    refine v_na24 (K := 199) (tk1 := [(24, 1)]) rfl rfl (by decide) r6 g63 ⟨(by decide), trivial⟩ ⟨(by decide), trivial⟩ q459 dX14_roomForElements_83 ?_
    rw [← e65]
    obtain ⟨g66, h⟩ := gd_some h
    obtain ⟨s67, e68, h⟩ := stp_some h
    refine v_pa (i := 0) (K := 199) (t0 := 179) (f := 137) (tk1 := [(24, 0)]) (L1 := [(0, vO 87), (1, vI r5)]) (st1 := []) rfl rfl (by decide) cf14 (⟨by decide, rfl⟩ : okB 87 13) rfl (by decide) rfl rfl (by decide) rfl g66 q2507 dX14_roomForElements_85 rfl rfl rfl rfl ?_
    rw [← e68]
    obtain ⟨s69, e70, h⟩ := stp_some h
    refine v_dr (by decide) (by decide) ⟨(by decide), trivial⟩ trivial ?_
    rw [← e70]
    refine v_aload_n dX14_roomForElements_88 0 rfl rfl ?_
    refine v_iload_n dX14_roomForElements_89 1 rfl rfl ?_
    obtain ⟨g71, h⟩ := gd_some h
    obtain ⟨s72, e73, h⟩ := stp_some h
    refine v_na24 (K := 199) (tk1 := [(24, 1)]) rfl rfl (by decide) r6 g71 ⟨(by decide), trivial⟩ ⟨(by decide), trivial⟩ q459 dX14_roomForElements_90 ?_
    rw [← e73]
    obtain ⟨g74, h⟩ := gd_some h
    obtain ⟨s75, e76, h⟩ := stp_some h
    refine v_pa (i := 0) (K := 199) (t0 := 180) (f := 138) (tk1 := [(24, 0)]) (L1 := [(0, vO 87), (1, vI r5)]) (st1 := []) rfl rfl (by decide) cf14 (⟨by decide, rfl⟩ : okB 87 13) rfl (by decide) rfl rfl (by decide) rfl g74 q2508 dX14_roomForElements_92 rfl rfl rfl rfl ?_
    rw [← e76]
    obtain ⟨s77, e78, h⟩ := stp_some h
    refine v_dr (by decide) (by decide) ⟨(by decide), trivial⟩ trivial ?_
    rw [← e78]
    refine v_aload_n dX14_roomForElements_95 0 rfl rfl ?_
    refine v_iload_n dX14_roomForElements_96 1 rfl rfl ?_
    obtain ⟨g79, h⟩ := gd_some h
    obtain ⟨s80, e81, h⟩ := stp_some h
    refine v_na24 (K := 199) (tk1 := [(24, 1)]) rfl rfl (by decide) r6 g79 ⟨(by decide), trivial⟩ ⟨(by decide), trivial⟩ q459 dX14_roomForElements_97 ?_
    rw [← e81]
    obtain ⟨g82, h⟩ := gd_some h
    obtain ⟨s83, e84, h⟩ := stp_some h
    refine v_pa (i := 0) (K := 199) (t0 := 181) (f := 139) (tk1 := [(24, 0)]) (L1 := [(0, vO 87), (1, vI r5)]) (st1 := []) rfl rfl (by decide) cf14 (⟨by decide, rfl⟩ : okB 87 13) rfl (by decide) rfl rfl (by decide) rfl g82 q2509 dX14_roomForElements_99 rfl rfl rfl rfl ?_
    rw [← e84]
    obtain ⟨s85, e86, h⟩ := stp_some h
    refine v_dr (by decide) (by decide) ⟨(by decide), trivial⟩ trivial ?_
    rw [← e86]
    refine v_aload_n dX14_roomForElements_102 0 rfl rfl ?_
    refine v_iload_n dX14_roomForElements_103 1 rfl rfl ?_
    obtain ⟨g87, h⟩ := gd_some h
    obtain ⟨s88, e89, h⟩ := stp_some h
    refine v_na24 (K := 199) (tk1 := [(24, 1)]) rfl rfl (by decide) r6 g87 ⟨(by decide), trivial⟩ ⟨(by decide), trivial⟩ q459 dX14_roomForElements_104 ?_
    rw [← e89]
    obtain ⟨g90, h⟩ := gd_some h
    obtain ⟨s91, e92, h⟩ := stp_some h
    refine v_pa (i := 0) (K := 199) (t0 := 182) (f := 140) (tk1 := [(24, 0)]) (L1 := [(0, vO 87), (1, vI r5)]) (st1 := []) rfl rfl (by decide) cf14 (⟨by decide, rfl⟩ : okB 87 13) rfl (by decide) rfl rfl (by decide) rfl g90 q2510 dX14_roomForElements_106 rfl rfl rfl rfl ?_
    rw [← e92]
    obtain ⟨s93, e94, h⟩ := stp_some h
    refine v_dr (by decide) (by decide) ⟨(by decide), trivial⟩ trivial ?_
    rw [← e94]
    refine v_aload_n dX14_roomForElements_109 0 rfl rfl ?_
    refine v_iload_n dX14_roomForElements_110 1 rfl rfl ?_
    obtain ⟨g95, h⟩ := gd_some h
    obtain ⟨s96, e97, h⟩ := stp_some h
    refine v_na24 (K := 199) (tk1 := [(24, 1)]) rfl rfl (by decide) r6 g95 ⟨(by decide), trivial⟩ ⟨(by decide), trivial⟩ q459 dX14_roomForElements_111 ?_
    rw [← e97]
    obtain ⟨g98, h⟩ := gd_some h
    obtain ⟨s99, e100, h⟩ := stp_some h
    refine v_pa (i := 0) (K := 199) (t0 := 194) (f := 159) (tk1 := [(24, 0)]) (L1 := [(0, vO 87), (1, vI r5)]) (st1 := []) rfl rfl (by decide) cf14 (⟨by decide, rfl⟩ : okB 87 13) rfl (by decide) rfl rfl (by decide) rfl g98 q2529 dX14_roomForElements_113 rfl rfl rfl rfl ?_
    rw [← e100]
    obtain ⟨s101, e102, h⟩ := stp_some h
    refine v_dr (by decide) (by decide) ⟨(by decide), trivial⟩ trivial ?_
    rw [← e102]
    refine v_aload_n dX14_roomForElements_116 0 rfl rfl ?_
    refine v_iload_n dX14_roomForElements_117 1 rfl rfl ?_
    obtain ⟨g103, h⟩ := gd_some h
    obtain ⟨s104, e105, h⟩ := stp_some h
    refine v_na24 (K := 199) (tk1 := [(24, 1)]) rfl rfl (by decide) r6 g103 ⟨(by decide), trivial⟩ ⟨(by decide), trivial⟩ q459 dX14_roomForElements_118 ?_
    rw [← e105]
    obtain ⟨g106, h⟩ := gd_some h
    obtain ⟨s107, e108, h⟩ := stp_some h
    refine v_pa (i := 0) (K := 199) (t0 := 195) (f := 160) (tk1 := [(24, 0)]) (L1 := [(0, vO 87), (1, vI r5)]) (st1 := []) rfl rfl (by decide) cf14 (⟨by decide, rfl⟩ : okB 87 13) rfl (by decide) rfl rfl (by decide) rfl g106 q2530 dX14_roomForElements_120 rfl rfl rfl rfl ?_
    rw [← e108]
    obtain ⟨s109, e110, h⟩ := stp_some h
    refine v_dr (by decide) (by decide) ⟨(by decide), trivial⟩ trivial ?_
    rw [← e110]
    refine v_aload_n dX14_roomForElements_123 0 rfl rfl ?_
    refine v_iload_n dX14_roomForElements_124 1 rfl rfl ?_
    obtain ⟨g111, h⟩ := gd_some h
    obtain ⟨s112, e113, h⟩ := stp_some h
    refine v_na24 (K := 199) (tk1 := [(24, 1)]) rfl rfl (by decide) r6 g111 ⟨(by decide), trivial⟩ ⟨(by decide), trivial⟩ q459 dX14_roomForElements_125 ?_
    rw [← e113]
    obtain ⟨g114, h⟩ := gd_some h
    obtain ⟨s115, e116, h⟩ := stp_some h
    refine v_pa (i := 0) (K := 199) (t0 := 196) (f := 161) (tk1 := [(24, 0)]) (L1 := [(0, vO 87), (1, vI r5)]) (st1 := []) rfl rfl (by decide) cf14 (⟨by decide, rfl⟩ : okB 87 13) rfl (by decide) rfl rfl (by decide) rfl g114 q2531 dX14_roomForElements_127 rfl rfl rfl rfl ?_
    rw [← e116]
    obtain ⟨s117, e118, h⟩ := stp_some h
    refine v_dr (by decide) (by decide) ⟨(by decide), trivial⟩ trivial ?_
    rw [← e118]
    refine v_aload_n dX14_roomForElements_130 0 rfl rfl ?_
    refine v_iload_n dX14_roomForElements_131 1 rfl rfl ?_
    obtain ⟨g119, h⟩ := gd_some h
    obtain ⟨s120, e121, h⟩ := stp_some h
    refine v_na24 (K := 199) (tk1 := [(24, 1)]) rfl rfl (by decide) r6 g119 ⟨(by decide), trivial⟩ ⟨(by decide), trivial⟩ q459 dX14_roomForElements_132 ?_
    rw [← e121]
    obtain ⟨g122, h⟩ := gd_some h
    obtain ⟨s123, e124, h⟩ := stp_some h
    refine v_pa (i := 0) (K := 199) (t0 := 197) (f := 162) (tk1 := [(24, 0)]) (L1 := [(0, vO 87), (1, vI r5)]) (st1 := []) rfl rfl (by decide) cf14 (⟨by decide, rfl⟩ : okB 87 13) rfl (by decide) rfl rfl (by decide) rfl g122 q2532 dX14_roomForElements_134 rfl rfl rfl rfl ?_
    rw [← e124]
    refine v_sub [] (L1 := []) rfl ?_
    obtain ⟨s125, e126, h⟩ := stp_some h
    refine v_dr (by decide) (by decide) trivial trivial ?_
    rw [← e126]
    cases h
    exact v_vret dX14_roomForElements_137
  · rw [if_neg c1] at h
    cases h
    exact v_vret dX14_roomForElements_16

def E_X14_longer_6 (p0 : Nat) (rv : Option vA) (σo : vS) (q : vS) : Prop := ∀ (s' : vS), q = s' → VW cX14_longer (RX14, rv, σo, (some (.array .int)), 0, 0, 4, [(24, 1)]) (P0 [(24, 1)]) s' 24 [(2, vO 199)] []
def l_X14_longer_6 (p0 : Nat) : Nat → Int → vS → Option (vS)
  | 0, _, _ => none
  | n + 1, x3, s =>
    if (w32 (gN s p0 : Int)) ≤ x3 then
      some s
    else
      gd (inb x3 (gN s p0)) <|
      gd (inb x3 (gN s 199)) <|
      stp (sE s 199 x3 (gE s p0 x3)) fun s4 =>
      vl (w32 (x3 + 1)) fun y6 =>
      l_X14_longer_6 p0 n y6 s4
theorem wl_X14_longer_6 (p0 : Nat) {rv : Option vA} {σo : vS} (hp0 : okB p0 24) : ∀ (n : Nat) (x3 : Int) (s : vS) (q : vS), l_X14_longer_6 p0 n x3 s = some q → rg x3 → E_X14_longer_6 p0 rv σo q → VW cX14_longer (RX14, rv, σo, (some (.array .int)), 0, 0, 4, [(24, 1)]) (P0 [(24, 1)]) s 6 [(0, vO p0), (2, vO 199), (3, vI x3)] [] := by
  intro n
  induction n with
  | zero => intro x3 s q h; cases h
  | succ n ih =>
    intro x3 s q h rx3 hE
    unfold l_X14_longer_6 at h
    refine v_iload_n dX14_longer_6 2 rfl rfl ?_
    refine v_aload_n dX14_longer_7 0 rfl rfl ?_
    refine v_alen24 (okB_ok hp0) dX14_longer_8 ?_
    refine v_icmp_ge (tgt := 24) dX14_longer_9 rx3 (w32_rg _) (by decide) (fun c1 => ?_) (fun c1 => ?_)
    · rw [if_pos c1] at h
      cases h
      refine v_sub [1] (L1 := [(2, vO 199)]) rfl ?_
      exact hE _ rfl 
    · rw [if_neg c1] at h
      refine v_aload_n dX14_longer_12 1 rfl rfl ?_
      refine v_iload_n dX14_longer_13 2 rfl rfl ?_
      refine v_aload_n dX14_longer_14 0 rfl rfl ?_
      refine v_iload_n dX14_longer_15 2 rfl rfl ?_
      obtain ⟨g2, h⟩ := gd_some h
      refine v_iald (okB_ok hp0) rx3 g2.1 g2.2 dX14_longer_16 ?_
      obtain ⟨g3, h⟩ := gd_some h
      obtain ⟨s4, e5, h⟩ := stp_some h
      refine v_iast (ok_tmp (i := 0) rfl) rx3 g3.1 g3.2 dX14_longer_17 ?_
      rw [← e5]
      obtain ⟨y6, e7, h⟩ := vl_some h
      refine v_iinc (L1 := [(3, vI (w32 (x3 + 1))), (0, vO p0), (2, vO 199)]) dX14_longer_18 2 rfl (by decide) rfl ?_
      rw [← e7]
      have r8 : rg y6 := by rw [e7]; exact w32_rg _
      refine v_goto (tgt := 6) dX14_longer_21 (by decide) ?_
      refine v_sub [1, 2, 0] (L1 := [(0, vO p0), (2, vO 199), (3, vI y6)]) rfl ?_
      exact ih y6 s4 _ h r8 hE

def f_X14_longer (p0 : Nat) (x1 : Int) (s : vS) : Option (vS) :=
  gd (naG x1) <|
  stp (sA s 199 (Int.toNat x1, fun _ => 0)) fun s2 =>
  lq_0 (l_X14_longer_6 p0 FU 0 s2) fun s4 =>
  some s4
theorem yk_X14_longer : yOk yX14_longer 2 := ⟨by decide, by decide, by decide +kernel⟩
theorem c_X14_longer {p0 : Nat} {x1 : Int} {s : vS} {out : vS} (h : f_X14_longer p0 x1 s = some out) (hp0 : okB p0 24) (rx1 : rg x1) : VC yX14_longer cX14_longer 4 (some (.array .int)) 0 0 [vO p0, vI x1] s (some (vO 199)) out [(24, 1)] := by
  unfold f_X14_longer at h
  refine VC.of RX14 (by decide) rfl (Nat.le_of_ble_eq_true rfl) ?_
  show VW cX14_longer (RX14, (some (vO 199)), out, (some (.array .int)), 0, 0, 4, [(24, 1)]) (P0 []) s 0 [(0, vO p0), (1, vI x1)] []
  refine v_iload_n dX14_longer_0 1 rfl rfl ?_
  obtain ⟨g1, h⟩ := gd_some h
  obtain ⟨s2, e3, h⟩ := stp_some h
  refine v_na24 (K := 199) (tk1 := [(24, 1)]) rfl rfl (by decide) rx1 g1 ⟨(Nat.lt_of_lt_of_le hp0.1 (by decide)), trivial⟩ trivial q459 dX14_longer_1 ?_
  rw [← e3]
  refine v_astore_n (L1 := [(2, vO 199), (0, vO p0), (1, vI x1)]) dX14_longer_3 rfl (by decide) rfl ?_
  refine v_iconst dX14_longer_4 ?_
  refine v_istore_n (L1 := [(3, vI 0), (2, vO 199), (0, vO p0), (1, vI x1)]) dX14_longer_5 rfl (by decide) rfl ?_
  refine v_sub [2, 1, 0] (L1 := [(0, vO p0), (2, vO 199), (3, vI 0)]) rfl ?_
  obtain ⟨s4, e5, h⟩ := lq_0_some h
  refine wl_X14_longer_6 p0 hp0 FU 0 s2 _ e5 (rgl rfl) ?_
  unfold E_X14_longer_6
  intro s4' z_
  cases z_
  refine v_aload_n dX14_longer_24 0 rfl rfl ?_
  cases h
  exact v_aretT dX14_longer_25

def f_X14_roomForFrames (s : vS) : Option (vS) :=
  if (w32 (gN s 186 : Int)) ≤ (gI s 87 149) then
    vl (w32 ((w32 (2 * (gI s 87 149))) + 64)) fun y2 =>
    bdv (f_X14_longer 186 y2 s) fun s5 =>
    gd (2 * gN s5 186 ≤ gN s5 199 ∧ 2 ≤ gN s5 199) <|
    stp (sw2 s5 186 199) fun s9 =>
    stp (rs s9) fun s11 =>
    bdv (f_X14_longer 187 y2 s11) fun s13 =>
    gd (2 * gN s13 187 ≤ gN s13 199 ∧ 2 ≤ gN s13 199) <|
    stp (sw2 s13 187 199) fun s17 =>
    stp (rs s17) fun s19 =>
    bdv (f_X14_longer 188 y2 s19) fun s21 =>
    gd (2 * gN s21 188 ≤ gN s21 199 ∧ 2 ≤ gN s21 199) <|
    stp (sw2 s21 188 199) fun s25 =>
    stp (rs s25) fun s27 =>
    bdv (f_X14_longer 189 y2 s27) fun s29 =>
    gd (2 * gN s29 189 ≤ gN s29 199 ∧ 2 ≤ gN s29 199) <|
    stp (sw2 s29 189 199) fun s33 =>
    stp (rs s33) fun s35 =>
    bdv (f_X14_longer 190 y2 s35) fun s37 =>
    gd (2 * gN s37 190 ≤ gN s37 199 ∧ 2 ≤ gN s37 199) <|
    stp (sw2 s37 190 199) fun s41 =>
    stp (rs s41) fun s43 =>
    bdv (f_X14_longer 191 y2 s43) fun s45 =>
    gd (2 * gN s45 191 ≤ gN s45 199 ∧ 2 ≤ gN s45 199) <|
    stp (sw2 s45 191 199) fun s49 =>
    stp (rs s49) fun s51 =>
    bdv (f_X14_longer 192 y2 s51) fun s53 =>
    gd (2 * gN s53 192 ≤ gN s53 199 ∧ 2 ≤ gN s53 199) <|
    stp (sw2 s53 192 199) fun s57 =>
    stp (rs s57) fun s59 =>
    bdv (f_X14_longer 193 y2 s59) fun s61 =>
    gd (2 * gN s61 193 ≤ gN s61 199 ∧ 2 ≤ gN s61 199) <|
    stp (sw2 s61 193 199) fun s65 =>
    stp (rs s65) fun s67 =>
    some s67
  else
    some s
theorem yk_X14_roomForFrames : yOk yX14_roomForFrames 0 := ⟨by decide, by decide, by decide +kernel⟩
theorem c_X14_roomForFrames {s : vS} {out : vS} (h : f_X14_roomForFrames s = some out)   : VC yX14_roomForFrames cX14_roomForFrames 2 none 1 23 [vO 87] s none out [] := by
  unfold f_X14_roomForFrames at h
  refine VC.of RX14 (by decide) rfl (Nat.le_of_ble_eq_true rfl) ?_
  show VW cX14_roomForFrames (RX14, none, out, none, 1, 23, 2, []) (P0 []) s 0 [(0, vO 87)] []
  refine v_aload_n dX14_roomForFrames_0 0 rfl rfl ?_
  refine v_getI (f := 149) cf14 oc87 rfl (by decide) q2519 dX14_roomForFrames_1 ?_
  refine v_aload_n dX14_roomForFrames_4 0 rfl rfl ?_
  refine v_getS (f := 150) (t := 186) cf14 oc87 rfl rfl rfl (by decide) q2520 dX14_roomForFrames_5 ?_
  refine v_alen24 oc186 dX14_roomForFrames_8 ?_
  refine v_icmp_ge (tgt := 13) dX14_roomForFrames_9 (gI_rg _ _ _) (w32_rg _) (by decide) (fun c1 => ?_) (fun c1 => ?_)
  · rw [if_pos c1] at h
    refine v_iconst dX14_roomForFrames_13 ?_
    refine v_aload_n dX14_roomForFrames_14 0 rfl rfl ?_
    refine v_getI (f := 149) cf14 oc87 rfl (by decide) q2519 dX14_roomForFrames_15 ?_
    refine v_imul dX14_roomForFrames_18 ?_
    refine v_bipush dX14_roomForFrames_19 rfl ?_
    refine v_iadd dX14_roomForFrames_21 ?_
    obtain ⟨y2, e3, h⟩ := vl_some h
    rw [← e3]
    have r4 : rg y2 := by rw [e3]; exact w32_rg _
    refine v_istore_n (L1 := [(1, vI y2), (0, vO 87)]) dX14_roomForFrames_22 rfl (by decide) rfl ?_
    refine v_aload_n dX14_roomForFrames_23 1 rfl rfl ?_
    refine v_aload_n dX14_roomForFrames_24 1 rfl rfl ?_
    refine v_getS (f := 150) (t := 186) cf14 oc87 rfl rfl rfl (by decide) q2520 dX14_roomForFrames_25 ?_
    refine v_iload_n dX14_roomForFrames_28 0 rfl rfl ?_
    obtain ⟨s5, e6, h⟩ := bdv_some h
    have k7 := c_X14_longer e6 (⟨by decide, rfl⟩ : okB 186 24) r4
    refine v_callS (st := [vO 87]) k7 (lw_S q3012 q3013 q311 q3014) yk_X14_longer ⟨Nat.le_of_ble_eq_true rfl, Nat.le_of_ble_eq_true rfl⟩ ⟨kc87, trivial⟩ ⟨kc87, trivial⟩ (Nat.le_of_ble_eq_true rfl) rfl dX14_roomForFrames_29 ?_
    obtain ⟨g8, h⟩ := gd_some h
    obtain ⟨s9, e10, h⟩ := stp_some h
    refine v_pa (i := 0) (K := 199) (t0 := 186) (f := 150) (tk1 := [(24, 0)]) (L1 := [(1, vI y2), (0, vO 87)]) (st1 := []) rfl rfl (by decide) cf14 (⟨by decide, rfl⟩ : okB 87 13) rfl (by decide) rfl rfl (by decide) rfl g8 q2520 dX14_roomForFrames_32 rfl rfl rfl rfl ?_
    rw [← e10]
    refine v_sub [1, 0] (L1 := [(0, vO 87), (1, vI y2)]) rfl ?_
    obtain ⟨s11, e12, h⟩ := stp_some h
    refine v_dr (by decide) (by decide) ⟨(by decide), trivial⟩ trivial ?_
    rw [← e12]
    refine v_aload_n dX14_roomForFrames_35 0 rfl rfl ?_
    refine v_aload_n dX14_roomForFrames_36 0 rfl rfl ?_
    refine v_getS (f := 151) (t := 187) cf14 oc87 rfl rfl rfl (by decide) q2521 dX14_roomForFrames_37 ?_
    refine v_iload_n dX14_roomForFrames_40 1 rfl rfl ?_
    obtain ⟨s13, e14, h⟩ := bdv_some h
    have k15 := c_X14_longer e14 (⟨by decide, rfl⟩ : okB 187 24) r4
    refine v_callS (st := [vO 87]) k15 (lw_S q3012 q3013 q311 q3014) yk_X14_longer ⟨Nat.le_of_ble_eq_true rfl, Nat.le_of_ble_eq_true rfl⟩ ⟨kc87, trivial⟩ ⟨kc87, trivial⟩ (Nat.le_of_ble_eq_true rfl) rfl dX14_roomForFrames_41 ?_
    obtain ⟨g16, h⟩ := gd_some h
    obtain ⟨s17, e18, h⟩ := stp_some h
    refine v_pa (i := 0) (K := 199) (t0 := 187) (f := 151) (tk1 := [(24, 0)]) (L1 := [(0, vO 87), (1, vI y2)]) (st1 := []) rfl rfl (by decide) cf14 (⟨by decide, rfl⟩ : okB 87 13) rfl (by decide) rfl rfl (by decide) rfl g16 q2521 dX14_roomForFrames_44 rfl rfl rfl rfl ?_
    rw [← e18]
    obtain ⟨s19, e20, h⟩ := stp_some h
    refine v_dr (by decide) (by decide) ⟨(by decide), trivial⟩ trivial ?_
    rw [← e20]
    refine v_aload_n dX14_roomForFrames_47 0 rfl rfl ?_
    refine v_aload_n dX14_roomForFrames_48 0 rfl rfl ?_
    refine v_getS (f := 152) (t := 188) cf14 oc87 rfl rfl rfl (by decide) q2522 dX14_roomForFrames_49 ?_
    refine v_iload_n dX14_roomForFrames_52 1 rfl rfl ?_
    obtain ⟨s21, e22, h⟩ := bdv_some h
    have k23 := c_X14_longer e22 (⟨by decide, rfl⟩ : okB 188 24) r4
    refine v_callS (st := [vO 87]) k23 (lw_S q3012 q3013 q311 q3014) yk_X14_longer ⟨Nat.le_of_ble_eq_true rfl, Nat.le_of_ble_eq_true rfl⟩ ⟨kc87, trivial⟩ ⟨kc87, trivial⟩ (Nat.le_of_ble_eq_true rfl) rfl dX14_roomForFrames_53 ?_
    obtain ⟨g24, h⟩ := gd_some h
    obtain ⟨s25, e26, h⟩ := stp_some h
    refine v_pa (i := 0) (K := 199) (t0 := 188) (f := 152) (tk1 := [(24, 0)]) (L1 := [(0, vO 87), (1, vI y2)]) (st1 := []) rfl rfl (by decide) cf14 (⟨by decide, rfl⟩ : okB 87 13) rfl (by decide) rfl rfl (by decide) rfl g24 q2522 dX14_roomForFrames_56 rfl rfl rfl rfl ?_
    rw [← e26]
    obtain ⟨s27, e28, h⟩ := stp_some h
    refine v_dr (by decide) (by decide) ⟨(by decide), trivial⟩ trivial ?_
    rw [← e28]
    refine v_aload_n dX14_roomForFrames_59 0 rfl rfl ?_
    refine v_aload_n dX14_roomForFrames_60 0 rfl rfl ?_
    refine v_getS (f := 153) (t := 189) cf14 oc87 rfl rfl rfl (by decide) q2523 dX14_roomForFrames_61 ?_
    refine v_iload_n dX14_roomForFrames_64 1 rfl rfl ?_
    obtain ⟨s29, e30, h⟩ := bdv_some h
    have k31 := c_X14_longer e30 (⟨by decide, rfl⟩ : okB 189 24) r4
    refine v_callS (st := [vO 87]) k31 (lw_S q3012 q3013 q311 q3014) yk_X14_longer ⟨Nat.le_of_ble_eq_true rfl, Nat.le_of_ble_eq_true rfl⟩ ⟨kc87, trivial⟩ ⟨kc87, trivial⟩ (Nat.le_of_ble_eq_true rfl) rfl dX14_roomForFrames_65 ?_
    obtain ⟨g32, h⟩ := gd_some h
    obtain ⟨s33, e34, h⟩ := stp_some h
    refine v_pa (i := 0) (K := 199) (t0 := 189) (f := 153) (tk1 := [(24, 0)]) (L1 := [(0, vO 87), (1, vI y2)]) (st1 := []) rfl rfl (by decide) cf14 (⟨by decide, rfl⟩ : okB 87 13) rfl (by decide) rfl rfl (by decide) rfl g32 q2523 dX14_roomForFrames_68 rfl rfl rfl rfl ?_
    rw [← e34]
    obtain ⟨s35, e36, h⟩ := stp_some h
    refine v_dr (by decide) (by decide) ⟨(by decide), trivial⟩ trivial ?_
    rw [← e36]
    refine v_aload_n dX14_roomForFrames_71 0 rfl rfl ?_
    refine v_aload_n dX14_roomForFrames_72 0 rfl rfl ?_
    refine v_getS (f := 154) (t := 190) cf14 oc87 rfl rfl rfl (by decide) q2524 dX14_roomForFrames_73 ?_
    refine v_iload_n dX14_roomForFrames_76 1 rfl rfl ?_
    obtain ⟨s37, e38, h⟩ := bdv_some h
    have k39 := c_X14_longer e38 (⟨by decide, rfl⟩ : okB 190 24) r4
    refine v_callS (st := [vO 87]) k39 (lw_S q3012 q3013 q311 q3014) yk_X14_longer ⟨Nat.le_of_ble_eq_true rfl, Nat.le_of_ble_eq_true rfl⟩ ⟨kc87, trivial⟩ ⟨kc87, trivial⟩ (Nat.le_of_ble_eq_true rfl) rfl dX14_roomForFrames_77 ?_
    obtain ⟨g40, h⟩ := gd_some h
    obtain ⟨s41, e42, h⟩ := stp_some h
    refine v_pa (i := 0) (K := 199) (t0 := 190) (f := 154) (tk1 := [(24, 0)]) (L1 := [(0, vO 87), (1, vI y2)]) (st1 := []) rfl rfl (by decide) cf14 (⟨by decide, rfl⟩ : okB 87 13) rfl (by decide) rfl rfl (by decide) rfl g40 q2524 dX14_roomForFrames_80 rfl rfl rfl rfl ?_
    rw [← e42]
    obtain ⟨s43, e44, h⟩ := stp_some h
    refine v_dr (by decide) (by decide) ⟨(by decide), trivial⟩ trivial ?_
    rw [← e44]
    refine v_aload_n dX14_roomForFrames_83 0 rfl rfl ?_
    refine v_aload_n dX14_roomForFrames_84 0 rfl rfl ?_
    refine v_getS (f := 155) (t := 191) cf14 oc87 rfl rfl rfl (by decide) q2525 dX14_roomForFrames_85 ?_
    refine v_iload_n dX14_roomForFrames_88 1 rfl rfl ?_
    obtain ⟨s45, e46, h⟩ := bdv_some h
    have k47 := c_X14_longer e46 (⟨by decide, rfl⟩ : okB 191 24) r4
    refine v_callS (st := [vO 87]) k47 (lw_S q3012 q3013 q311 q3014) yk_X14_longer ⟨Nat.le_of_ble_eq_true rfl, Nat.le_of_ble_eq_true rfl⟩ ⟨kc87, trivial⟩ ⟨kc87, trivial⟩ (Nat.le_of_ble_eq_true rfl) rfl dX14_roomForFrames_89 ?_
    obtain ⟨g48, h⟩ := gd_some h
    obtain ⟨s49, e50, h⟩ := stp_some h
    refine v_pa (i := 0) (K := 199) (t0 := 191) (f := 155) (tk1 := [(24, 0)]) (L1 := [(0, vO 87), (1, vI y2)]) (st1 := []) rfl rfl (by decide) cf14 (⟨by decide, rfl⟩ : okB 87 13) rfl (by decide) rfl rfl (by decide) rfl g48 q2525 dX14_roomForFrames_92 rfl rfl rfl rfl ?_
    rw [← e50]
    obtain ⟨s51, e52, h⟩ := stp_some h
    refine v_dr (by decide) (by decide) ⟨(by decide), trivial⟩ trivial ?_
    rw [← e52]
    refine v_aload_n dX14_roomForFrames_95 0 rfl rfl ?_
    refine v_aload_n dX14_roomForFrames_96 0 rfl rfl ?_
    refine v_getS (f := 156) (t := 192) cf14 oc87 rfl rfl rfl (by decide) q2526 dX14_roomForFrames_97 ?_
    refine v_iload_n dX14_roomForFrames_100 1 rfl rfl ?_
    obtain ⟨s53, e54, h⟩ := bdv_some h
    have k55 := c_X14_longer e54 (⟨by decide, rfl⟩ : okB 192 24) r4
    refine v_callS (st := [vO 87]) k55 (lw_S q3012 q3013 q311 q3014) yk_X14_longer ⟨Nat.le_of_ble_eq_true rfl, Nat.le_of_ble_eq_true rfl⟩ ⟨kc87, trivial⟩ ⟨kc87, trivial⟩ (Nat.le_of_ble_eq_true rfl) rfl dX14_roomForFrames_101 ?_
    obtain ⟨g56, h⟩ := gd_some h
    obtain ⟨s57, e58, h⟩ := stp_some h
    refine v_pa (i := 0) (K := 199) (t0 := 192) (f := 156) (tk1 := [(24, 0)]) (L1 := [(0, vO 87), (1, vI y2)]) (st1 := []) rfl rfl (by decide) cf14 (⟨by decide, rfl⟩ : okB 87 13) rfl (by decide) rfl rfl (by decide) rfl g56 q2526 dX14_roomForFrames_104 rfl rfl rfl rfl ?_
    rw [← e58]
    obtain ⟨s59, e60, h⟩ := stp_some h
    refine v_dr (by decide) (by decide) ⟨(by decide), trivial⟩ trivial ?_
    rw [← e60]
    refine v_aload_n dX14_roomForFrames_107 0 rfl rfl ?_
    refine v_aload_n dX14_roomForFrames_108 0 rfl rfl ?_
    refine v_getS (f := 157) (t := 193) cf14 oc87 rfl rfl rfl (by decide) q2527 dX14_roomForFrames_109 ?_
    refine v_iload_n dX14_roomForFrames_112 1 rfl rfl ?_
    obtain ⟨s61, e62, h⟩ := bdv_some h
    have k63 := c_X14_longer e62 (⟨by decide, rfl⟩ : okB 193 24) r4
    refine v_callS (st := [vO 87]) k63 (lw_S q3012 q3013 q311 q3014) yk_X14_longer ⟨Nat.le_of_ble_eq_true rfl, Nat.le_of_ble_eq_true rfl⟩ ⟨kc87, trivial⟩ ⟨kc87, trivial⟩ (Nat.le_of_ble_eq_true rfl) rfl dX14_roomForFrames_113 ?_
    obtain ⟨g64, h⟩ := gd_some h
    obtain ⟨s65, e66, h⟩ := stp_some h
    refine v_pa (i := 0) (K := 199) (t0 := 193) (f := 157) (tk1 := [(24, 0)]) (L1 := [(0, vO 87), (1, vI y2)]) (st1 := []) rfl rfl (by decide) cf14 (⟨by decide, rfl⟩ : okB 87 13) rfl (by decide) rfl rfl (by decide) rfl g64 q2527 dX14_roomForFrames_116 rfl rfl rfl rfl ?_
    rw [← e66]
    refine v_sub [] (L1 := []) rfl ?_
    obtain ⟨s67, e68, h⟩ := stp_some h
    refine v_dr (by decide) (by decide) trivial trivial ?_
    rw [← e68]
    cases h
    exact v_vret dX14_roomForFrames_119
  · rw [if_neg c1] at h
    cases h
    exact v_vret dX14_roomForFrames_12

def E_X14_feed_27 (rv : Option vA) (σo : vS) (q : vS) : Prop := ∀ (s' : vS), q = s' → VW cX14_feed (RX14, rv, σo, (some .int), 1, 21, 8, []) (P0 []) s' 117 [(0, vO 87)] []
def j_X14_feed_80 (rec : Int → Int → Int → Int → Int → Int → vS → Option (vS)) (x1 : Int) (x2 : Int) (x3 : Int) (x4 : Int) (x5 : Int) (x6 : Int) (z0 : Int) (s : vS) : Option (vS) :=
  gd (inb (w32 ((gI s 87 4) + x6)) (gN s 91)) <|
  stp (sE s 91 (w32 ((gI s 87 4) + x6)) (and32 (shr32 z0 (w32 (24 - (w32 (8 * (m32 x6 4)))))) 255)) fun s2 =>
  vl (w32 (x6 + 1)) fun y4 =>
  rec x1 x2 x3 x4 x5 y4 s2
theorem wj_X14_feed_80 {x1 : Int} {x2 : Int} {x3 : Int} {x4 : Int} {x5 : Int} {x6 : Int} {z0 : Int} {s : vS} {rv : Option vA} {σo : vS} {rec : Int → Int → Int → Int → Int → Int → vS → Option (vS)} {q : vS} (h : j_X14_feed_80 rec x1 x2 x3 x4 x5 x6 z0 s = some q)  (rx1 : rg x1) (rx2 : rg x2) (rx3 : rg x3) (rx4 : rg x4) (rx5 : rg x5) (rx6 : rg x6) (rz0 : rg z0) (hrec : ∀ (y6 : Int) (s : vS) (q : vS), rec x1 x2 x3 x4 x5 y6 s = some q → rg y6 → E_X14_feed_27 rv σo q → VW cX14_feed (RX14, rv, σo, (some .int), 1, 21, 8, []) (P0 []) s 27 [(0, vO 87), (1, vI x1), (2, vI x2), (3, vI x3), (4, vI x4), (5, vI x5), (6, vI y6)] []) (hE : E_X14_feed_27 rv σo q) : VW cX14_feed (RX14, rv, σo, (some .int), 1, 21, 8, []) (P0 []) s 80 [(0, vO 87), (1, vI x1), (2, vI x2), (3, vI x3), (4, vI x4), (5, vI x5), (6, vI x6)] [vI z0] := by
  unfold j_X14_feed_80 at h
  refine v_istore (L1 := [(7, vI z0), (0, vO 87), (1, vI x1), (2, vI x2), (3, vI x3), (4, vI x4), (5, vI x5), (6, vI x6)]) dX14_feed_80 (by decide) rfl ?_
  refine v_aload_n dX14_feed_82 1 rfl rfl ?_
  refine v_getS (f := 5) (t := 91) cf14 oc87 rfl rfl rfl (by decide) q2375 dX14_feed_83 ?_
  refine v_aload_n dX14_feed_86 1 rfl rfl ?_
  refine v_getI (f := 4) cf14 oc87 rfl (by decide) q2374 dX14_feed_87 ?_
  refine v_iload dX14_feed_90 7 rfl ?_
  refine v_iadd dX14_feed_92 ?_
  refine v_iload dX14_feed_93 0 rfl ?_
  refine v_bipush dX14_feed_95 rfl ?_
  refine v_bipush dX14_feed_97 rfl ?_
  refine v_iload dX14_feed_99 7 rfl ?_
  refine v_iconst dX14_feed_101 ?_
  refine v_irem dX14_feed_102 (rgl rfl) (by decide) ?_
  refine v_imul dX14_feed_103 ?_
  refine v_isub dX14_feed_104 ?_
  refine v_ishr dX14_feed_105 ?_
  refine v_sipush dX14_feed_106 rfl ?_
  refine v_iand dX14_feed_109 ?_
  obtain ⟨g1, h⟩ := gd_some h
  obtain ⟨s2, e3, h⟩ := stp_some h
  refine v_iast oc91 (w32_rg _) g1.1 g1.2 dX14_feed_110 ?_
  rw [← e3]
  obtain ⟨y4, e5, h⟩ := vl_some h
  refine v_iinc (L1 := [(6, vI (w32 (x6 + 1))), (7, vI z0), (0, vO 87), (1, vI x1), (2, vI x2), (3, vI x3), (4, vI x4), (5, vI x5)]) dX14_feed_111 7 rfl (by decide) rfl ?_
  rw [← e5]
  have r6 : rg y4 := by rw [e5]; exact w32_rg _
  refine v_goto (tgt := 27) dX14_feed_114 (by decide) ?_
  refine v_sub [2, 3, 4, 5, 6, 7, 0] (L1 := [(0, vO 87), (1, vI x1), (2, vI x2), (3, vI x3), (4, vI x4), (5, vI x5), (6, vI y4)]) rfl ?_
  exact hrec y4 s2 _ h r6 hE

def l_X14_feed_27 : Nat → Int → Int → Int → Int → Int → Int → vS → Option (vS)
  | 0, _, _, _, _, _, _, _ => none
  | n + 1, x1, x2, x3, x4, x5, x6, s =>
    if 20 ≤ x6 then
      some s
    else
      if 4 ≤ x6 then
        if 8 ≤ x6 then
          if 12 ≤ x6 then
            if 16 ≤ x6 then
              j_X14_feed_80 (l_X14_feed_27 n) x1 x2 x3 x4 x5 x6 x5 s
            else
              j_X14_feed_80 (l_X14_feed_27 n) x1 x2 x3 x4 x5 x6 x4 s
          else
            j_X14_feed_80 (l_X14_feed_27 n) x1 x2 x3 x4 x5 x6 x3 s
        else
          j_X14_feed_80 (l_X14_feed_27 n) x1 x2 x3 x4 x5 x6 x2 s
      else
        j_X14_feed_80 (l_X14_feed_27 n) x1 x2 x3 x4 x5 x6 x1 s
theorem wl_X14_feed_27 {x1 : Int} {x2 : Int} {x3 : Int} {x4 : Int} {x5 : Int} {rv : Option vA} {σo : vS}  (rx1 : rg x1) (rx2 : rg x2) (rx3 : rg x3) (rx4 : rg x4) (rx5 : rg x5) : ∀ (n : Nat) (x6 : Int) (s : vS) (q : vS), l_X14_feed_27 n x1 x2 x3 x4 x5 x6 s = some q → rg x6 → E_X14_feed_27 rv σo q → VW cX14_feed (RX14, rv, σo, (some .int), 1, 21, 8, []) (P0 []) s 27 [(0, vO 87), (1, vI x1), (2, vI x2), (3, vI x3), (4, vI x4), (5, vI x5), (6, vI x6)] [] := by
  intro n
  induction n with
  | zero => intro x6 s q h; cases h
  | succ n ih =>
    intro x6 s q h rx6 hE
    unfold l_X14_feed_27 at h
    refine v_iload dX14_feed_27 6 rfl ?_
    refine v_bipush dX14_feed_29 rfl ?_
    refine v_icmp_ge (tgt := 117) dX14_feed_31 rx6 (rgl rfl) (by decide) (fun c1 => ?_) (fun c1 => ?_)
    · rw [if_pos c1] at h
      cases h
      refine v_sub [0] (L1 := [(0, vO 87)]) rfl ?_
      exact hE _ rfl 
    · rw [if_neg c1] at h
      refine v_iload dX14_feed_34 6 rfl ?_
      refine v_iconst dX14_feed_36 ?_
      refine v_icmp_ge (tgt := 44) dX14_feed_37 rx6 (rgl rfl) (by decide) (fun c2 => ?_) (fun c2 => ?_)
      · rw [if_pos c2] at h
        refine v_iload dX14_feed_44 6 rfl ?_
        refine v_bipush dX14_feed_46 rfl ?_
        refine v_icmp_ge (tgt := 55) dX14_feed_48 rx6 (rgl rfl) (by decide) (fun c3 => ?_) (fun c3 => ?_)
        · rw [if_pos c3] at h
          refine v_iload dX14_feed_55 6 rfl ?_
          refine v_bipush dX14_feed_57 rfl ?_
          refine v_icmp_ge (tgt := 66) dX14_feed_59 rx6 (rgl rfl) (by decide) (fun c4 => ?_) (fun c4 => ?_)
          · rw [if_pos c4] at h
            refine v_iload dX14_feed_66 6 rfl ?_
            refine v_bipush dX14_feed_68 rfl ?_
            refine v_icmp_ge (tgt := 78) dX14_feed_70 rx6 (rgl rfl) (by decide) (fun c5 => ?_) (fun c5 => ?_)
            · rw [if_pos c5] at h
              refine v_iload dX14_feed_78 5 rfl ?_
              exact wj_X14_feed_80 h rx1 rx2 rx3 rx4 rx5 rx6 rx5 ih hE
            · rw [if_neg c5] at h
              refine v_iload dX14_feed_73 4 rfl ?_
              refine v_goto (tgt := 80) dX14_feed_75 (by decide) ?_
              exact wj_X14_feed_80 h rx1 rx2 rx3 rx4 rx5 rx6 rx4 ih hE
          · rw [if_neg c4] at h
            refine v_iload_n dX14_feed_62 3 rfl rfl ?_
            refine v_goto (tgt := 80) dX14_feed_63 (by decide) ?_
            exact wj_X14_feed_80 h rx1 rx2 rx3 rx4 rx5 rx6 rx3 ih hE
        · rw [if_neg c3] at h
          refine v_iload_n dX14_feed_51 2 rfl rfl ?_
          refine v_goto (tgt := 80) dX14_feed_52 (by decide) ?_
          exact wj_X14_feed_80 h rx1 rx2 rx3 rx4 rx5 rx6 rx2 ih hE
      · rw [if_neg c2] at h
        refine v_iload_n dX14_feed_40 1 rfl rfl ?_
        refine v_goto (tgt := 80) dX14_feed_41 (by decide) ?_
        exact wj_X14_feed_80 h rx1 rx2 rx3 rx4 rx5 rx6 rx1 ih hE

def f_X14_feed (x1 : Int) (x2 : Int) (x3 : Int) (x4 : Int) (x5 : Int) (s : vS) : Option (Int × vS) :=
  stp (sI s 87 3 0) fun s1 =>
  if (w32 ((gI s1 87 4) + 20)) ≤ 32768 then
    lq_0 (l_X14_feed_27 FU x1 x2 x3 x4 x5 0 s1) fun s4 =>
    stp (sI s4 87 4 (w32 ((gI s4 87 4) + 20))) fun s6 =>
    some (gI s6 87 4, s6)
  else
    bd (f_X14_fail 1 s1) fun r11 s8 =>
    some (r11, s8)
theorem yk_X14_feed : yOk yX14_feed 5 := ⟨by decide, by decide, by decide +kernel⟩
theorem c_X14_feed {x1 : Int} {x2 : Int} {x3 : Int} {x4 : Int} {x5 : Int} {s : vS} {out : Int × vS} (h : f_X14_feed x1 x2 x3 x4 x5 s = some out)  (rx1 : rg x1) (rx2 : rg x2) (rx3 : rg x3) (rx4 : rg x4) (rx5 : rg x5) : VC yX14_feed cX14_feed 8 (some .int) 1 21 [vO 87, vI x1, vI x2, vI x3, vI x4, vI x5] s (some (vI out.1)) out.2 [] := by
  unfold f_X14_feed at h
  refine VC.of RX14 (by decide) rfl (Nat.le_of_ble_eq_true rfl) ?_
  show VW cX14_feed (RX14, (some (vI out.1)), out.2, (some .int), 1, 21, 8, []) (P0 []) s 0 [(0, vO 87), (1, vI x1), (2, vI x2), (3, vI x3), (4, vI x4), (5, vI x5)] []
  refine v_aload_n dX14_feed_0 0 rfl rfl ?_
  refine v_iconst dX14_feed_1 ?_
  obtain ⟨s1, e2, h⟩ := stp_some h
  refine v_putI (f := 3) cf14 oc87 rfl (by decide) q2373 dX14_feed_2 rfl rfl ?_
  rw [← e2]
  refine v_aload_n dX14_feed_5 0 rfl rfl ?_
  refine v_getI (f := 4) cf14 oc87 rfl (by decide) q2374 dX14_feed_6 ?_
  refine v_bipush dX14_feed_9 rfl ?_
  refine v_iadd dX14_feed_11 ?_
  refine v_ldcw (n := 32768) dX14_feed_12 q2869 rfl ?_
  refine v_icmp_le (tgt := 24) dX14_feed_15 (w32_rg _) (rgl rfl) (by decide) (fun c3 => ?_) (fun c3 => ?_)
  · rw [if_pos c3] at h
    refine v_iconst dX14_feed_24 ?_
    refine v_istore (L1 := [(6, vI 0), (0, vO 87), (1, vI x1), (2, vI x2), (3, vI x3), (4, vI x4), (5, vI x5)]) dX14_feed_25 (by decide) rfl ?_
    refine v_sub [1, 2, 3, 4, 5, 6, 0] (L1 := [(0, vO 87), (1, vI x1), (2, vI x2), (3, vI x3), (4, vI x4), (5, vI x5), (6, vI 0)]) rfl ?_
    obtain ⟨s4, e5, h⟩ := lq_0_some h
    refine wl_X14_feed_27 rx1 rx2 rx3 rx4 rx5 FU 0 s1 _ e5 (rgl rfl) ?_
    unfold E_X14_feed_27
    intro s4' z_
    cases z_
    refine v_aload_n dX14_feed_117 0 rfl rfl ?_
    refine v_dupO dX14_feed_118 ?_
    refine v_getI (f := 4) cf14 oc87 rfl (by decide) q2374 dX14_feed_119 ?_
    refine v_bipush dX14_feed_122 rfl ?_
    refine v_iadd dX14_feed_124 ?_
    obtain ⟨s6, e7, h⟩ := stp_some h
    refine v_putI (f := 4) cf14 oc87 rfl (by decide) q2374 dX14_feed_125 rfl rfl ?_
    rw [← e7]
    refine v_aload_n dX14_feed_128 0 rfl rfl ?_
    refine v_getI (f := 4) cf14 oc87 rfl (by decide) q2374 dX14_feed_129 ?_
    cases h
    exact v_iret (gI_rg _ _ _) dX14_feed_132
  · rw [if_neg c3] at h
    refine v_aload_n dX14_feed_18 0 rfl rfl ?_
    refine v_iconst dX14_feed_19 ?_
    obtain ⟨r11, s8, e9, h⟩ := bd_some h
    have k10 := c_X14_fail e9 (rgl rfl)
    have r12 : rg r11 := k10.1.2.2
    refine v_callV (st := []) cf14 oc87 k10 (lw_V q2870 q2872 qs156 q311 q2873) rfl yk_X14_fail ⟨Nat.le_of_ble_eq_true rfl, Nat.le_of_ble_eq_true rfl⟩ trivial ⟨kc87, trivial⟩ (Nat.le_of_ble_eq_true rfl) rfl dX14_feed_20 ?_
    cases h
    exact v_iret r12 dX14_feed_23

def f_X14_end (x1 : Int) (s : vS) : Option (Int × vS) :=
  stp (sI s 87 3 0) fun s1 =>
  bd (f_X14_within x1 0 20 s1) fun r6 s3 =>
  if r6 = 0 then
    bd (f_X14_fail 1 s3) fun r20 s17 =>
    some (r20, s17)
  else
    if 20 ≤ (gI s3 87 4) then
      stp (sI s3 87 4 (w32 ((gI s3 87 4) - (w32 (20 - x1))))) fun s10 =>
      some (gI s10 87 4, s10)
    else
      bd (f_X14_fail 2 s3) fun r15 s12 =>
      some (r15, s12)
theorem yk_X14_end : yOk yX14_end 1 := ⟨by decide, by decide, by decide +kernel⟩
theorem c_X14_end {x1 : Int} {s : vS} {out : Int × vS} (h : f_X14_end x1 s = some out)  (rx1 : rg x1) : VC yX14_end cX14_end 2 (some .int) 1 22 [vO 87, vI x1] s (some (vI out.1)) out.2 [] := by
  unfold f_X14_end at h
  refine VC.of RX14 (by decide) rfl (Nat.le_of_ble_eq_true rfl) ?_
  show VW cX14_end (RX14, (some (vI out.1)), out.2, (some .int), 1, 22, 2, []) (P0 []) s 0 [(0, vO 87), (1, vI x1)] []
  refine v_aload_n dX14_end_0 0 rfl rfl ?_
  refine v_iconst dX14_end_1 ?_
  obtain ⟨s1, e2, h⟩ := stp_some h
  refine v_putI (f := 3) cf14 oc87 rfl (by decide) q2373 dX14_end_2 rfl rfl ?_
  rw [← e2]
  refine v_iload_n dX14_end_5 1 rfl rfl ?_
  refine v_iconst dX14_end_6 ?_
  refine v_bipush dX14_end_7 rfl ?_
  obtain ⟨r6, s3, e4, h⟩ := bd_some h
  have k5 := c_X14_within e4 rx1 (rgl rfl) (rgl rfl)
  have r7 : rg r6 := k5.1.2.2
  refine v_callS (st := []) k5 (lw_S q2878 q2879 q311 q2880) yk_X14_within ⟨Nat.le_of_ble_eq_true rfl, Nat.le_of_ble_eq_true rfl⟩ trivial ⟨kc87, trivial⟩ (Nat.le_of_ble_eq_true rfl) rfl dX14_end_9 ?_
  refine v_if_ne (tgt := 21) dX14_end_12 r7 (by decide) (fun c8 => ?_) (fun c8 => ?_)
  · rw [if_neg c8] at h
    refine v_aload_n dX14_end_21 0 rfl rfl ?_
    refine v_getI (f := 4) cf14 oc87 rfl (by decide) q2374 dX14_end_22 ?_
    refine v_bipush dX14_end_25 rfl ?_
    refine v_icmp_ge (tgt := 36) dX14_end_27 (gI_rg _ _ _) (rgl rfl) (by decide) (fun c9 => ?_) (fun c9 => ?_)
    · rw [if_pos c9] at h
      refine v_aload_n dX14_end_36 0 rfl rfl ?_
      refine v_dupO dX14_end_37 ?_
      refine v_getI (f := 4) cf14 oc87 rfl (by decide) q2374 dX14_end_38 ?_
      refine v_bipush dX14_end_41 rfl ?_
      refine v_iload_n dX14_end_43 1 rfl rfl ?_
      refine v_isub dX14_end_44 ?_
      refine v_isub dX14_end_45 ?_
      obtain ⟨s10, e11, h⟩ := stp_some h
      refine v_putI (f := 4) cf14 oc87 rfl (by decide) q2374 dX14_end_46 rfl rfl ?_
      rw [← e11]
      refine v_aload_n dX14_end_49 0 rfl rfl ?_
      refine v_getI (f := 4) cf14 oc87 rfl (by decide) q2374 dX14_end_50 ?_
      cases h
      exact v_iret (gI_rg _ _ _) dX14_end_53
    · rw [if_neg c9] at h
      refine v_aload_n dX14_end_30 0 rfl rfl ?_
      refine v_iconst dX14_end_31 ?_
      obtain ⟨r15, s12, e13, h⟩ := bd_some h
      have k14 := c_X14_fail e13 (rgl rfl)
      have r16 : rg r15 := k14.1.2.2
      refine v_callV (st := []) cf14 oc87 k14 (lw_V q2870 q2872 qs156 q311 q2873) rfl yk_X14_fail ⟨Nat.le_of_ble_eq_true rfl, Nat.le_of_ble_eq_true rfl⟩ trivial ⟨kc87, trivial⟩ (Nat.le_of_ble_eq_true rfl) rfl dX14_end_32 ?_
      cases h
      exact v_iret r16 dX14_end_35
  · rw [if_pos c8] at h
    refine v_aload_n dX14_end_15 0 rfl rfl ?_
    refine v_iconst dX14_end_16 ?_
    obtain ⟨r20, s17, e18, h⟩ := bd_some h
    have k19 := c_X14_fail e18 (rgl rfl)
    have r21 : rg r20 := k19.1.2.2
    refine v_callV (st := []) cf14 oc87 k19 (lw_V q2870 q2872 qs156 q311 q2873) rfl yk_X14_fail ⟨Nat.le_of_ble_eq_true rfl, Nat.le_of_ble_eq_true rfl⟩ trivial ⟨kc87, trivial⟩ (Nat.le_of_ble_eq_true rfl) rfl dX14_end_17 ?_
    cases h
    exact v_iret r21 dX14_end_20

def f_X14_ch (x1 : Int) (s : vS) : Option (Int × vS) :=
  if (gI s 87 13) ≤ x1 then
    some ((-1), s)
  else
    gd (inb x1 (gN s 93)) <|
    some (gE s 93 x1, s)
theorem yk_X14_ch : yOk yX14_ch 1 := ⟨by decide, by decide, by decide +kernel⟩
theorem c_X14_ch {x1 : Int} {s : vS} {out : Int × vS} (h : f_X14_ch x1 s = some out)  (rx1 : rg x1) : VC yX14_ch cX14_ch 2 (some .int) 0 0 [vO 87, vI x1] s (some (vI out.1)) out.2 [] := by
  unfold f_X14_ch at h
  refine VC.of RX14 (by decide) rfl (Nat.le_of_ble_eq_true rfl) ?_
  show VW cX14_ch (RX14, (some (vI out.1)), out.2, (some .int), 0, 0, 2, []) (P0 []) s 0 [(0, vO 87), (1, vI x1)] []
  refine v_iload_n dX14_ch_0 1 rfl rfl ?_
  refine v_aload_n dX14_ch_1 0 rfl rfl ?_
  refine v_getI (f := 13) cf14 oc87 rfl (by decide) q2383 dX14_ch_2 ?_
  refine v_icmp_ge (tgt := 17) dX14_ch_5 rx1 (gI_rg _ _ _) (by decide) (fun c1 => ?_) (fun c1 => ?_)
  · rw [if_pos c1] at h
    refine v_iconst dX14_ch_17 ?_
    cases h
    exact v_iret (rgl rfl) dX14_ch_18
  · rw [if_neg c1] at h
    refine v_aload_n dX14_ch_8 0 rfl rfl ?_
    refine v_getS (f := 14) (t := 93) cf14 oc87 rfl rfl rfl (by decide) q2384 dX14_ch_9 ?_
    refine v_iload_n dX14_ch_12 1 rfl rfl ?_
    obtain ⟨g2, h⟩ := gd_some h
    refine v_iald oc93 rx1 g2.1 g2.2 dX14_ch_13 ?_
    refine v_goto (tgt := 18) dX14_ch_14 (by decide) ?_
    cases h
    exact v_iret (gE_rg _ _ _) dX14_ch_18

def f_X14_isSmall (x0 : Int) (s : vS) : Option (Int × vS) :=
  bd (f_X14_within x0 97 122 s) fun r4 s1 =>
  gd (r4 = 0 ∨ r4 = 1) <|
  some (r4, s1)
theorem yk_X14_isSmall : yOk yX14_isSmall 1 := ⟨by decide, by decide, by decide +kernel⟩
theorem c_X14_isSmall {x0 : Int} {s : vS} {out : Int × vS} (h : f_X14_isSmall x0 s = some out)  (rx0 : rg x0) : VC yX14_isSmall cX14_isSmall 1 (some .boolean) 1 22 [vI x0] s (some (vI out.1)) out.2 [] := by
  unfold f_X14_isSmall at h
  refine VC.of RX14 (by decide) rfl (Nat.le_of_ble_eq_true rfl) ?_
  show VW cX14_isSmall (RX14, (some (vI out.1)), out.2, (some .boolean), 1, 22, 1, []) (P0 []) s 0 [(0, vI x0)] []
  refine v_iload_n dX14_isSmall_0 0 rfl rfl ?_
  refine v_bipush dX14_isSmall_1 rfl ?_
  refine v_bipush dX14_isSmall_3 rfl ?_
  obtain ⟨r4, s1, e2, h⟩ := bd_some h
  have k3 := c_X14_within e2 rx0 (rgl rfl) (rgl rfl)
  have r5 : rg r4 := k3.1.2.2
  refine v_callS (st := []) k3 (lw_S q2878 q2879 q311 q2880) yk_X14_within ⟨Nat.le_of_ble_eq_true rfl, Nat.le_of_ble_eq_true rfl⟩ trivial trivial (Nat.le_of_ble_eq_true rfl) rfl dX14_isSmall_5 ?_
  obtain ⟨g6, h⟩ := gd_some h
  cases h
  exact v_zret g6 dX14_isSmall_8

def f_X14_isLarge (x0 : Int) (s : vS) : Option (Int × vS) :=
  bd (f_X14_within x0 65 90 s) fun r4 s1 =>
  gd (r4 = 0 ∨ r4 = 1) <|
  some (r4, s1)
theorem yk_X14_isLarge : yOk yX14_isLarge 1 := ⟨by decide, by decide, by decide +kernel⟩
theorem c_X14_isLarge {x0 : Int} {s : vS} {out : Int × vS} (h : f_X14_isLarge x0 s = some out)  (rx0 : rg x0) : VC yX14_isLarge cX14_isLarge 1 (some .boolean) 1 22 [vI x0] s (some (vI out.1)) out.2 [] := by
  unfold f_X14_isLarge at h
  refine VC.of RX14 (by decide) rfl (Nat.le_of_ble_eq_true rfl) ?_
  show VW cX14_isLarge (RX14, (some (vI out.1)), out.2, (some .boolean), 1, 22, 1, []) (P0 []) s 0 [(0, vI x0)] []
  refine v_iload_n dX14_isLarge_0 0 rfl rfl ?_
  refine v_bipush dX14_isLarge_1 rfl ?_
  refine v_bipush dX14_isLarge_3 rfl ?_
  obtain ⟨r4, s1, e2, h⟩ := bd_some h
  have k3 := c_X14_within e2 rx0 (rgl rfl) (rgl rfl)
  have r5 : rg r4 := k3.1.2.2
  refine v_callS (st := []) k3 (lw_S q2878 q2879 q311 q2880) yk_X14_within ⟨Nat.le_of_ble_eq_true rfl, Nat.le_of_ble_eq_true rfl⟩ trivial trivial (Nat.le_of_ble_eq_true rfl) rfl dX14_isLarge_5 ?_
  obtain ⟨g6, h⟩ := gd_some h
  cases h
  exact v_zret g6 dX14_isLarge_8

def f_X14_isDigit (x0 : Int) (s : vS) : Option (Int × vS) :=
  bd (f_X14_within x0 48 57 s) fun r4 s1 =>
  gd (r4 = 0 ∨ r4 = 1) <|
  some (r4, s1)
theorem yk_X14_isDigit : yOk yX14_isDigit 1 := ⟨by decide, by decide, by decide +kernel⟩
theorem c_X14_isDigit {x0 : Int} {s : vS} {out : Int × vS} (h : f_X14_isDigit x0 s = some out)  (rx0 : rg x0) : VC yX14_isDigit cX14_isDigit 1 (some .boolean) 1 22 [vI x0] s (some (vI out.1)) out.2 [] := by
  unfold f_X14_isDigit at h
  refine VC.of RX14 (by decide) rfl (Nat.le_of_ble_eq_true rfl) ?_
  show VW cX14_isDigit (RX14, (some (vI out.1)), out.2, (some .boolean), 1, 22, 1, []) (P0 []) s 0 [(0, vI x0)] []
  refine v_iload_n dX14_isDigit_0 0 rfl rfl ?_
  refine v_bipush dX14_isDigit_1 rfl ?_
  refine v_bipush dX14_isDigit_3 rfl ?_
  obtain ⟨r4, s1, e2, h⟩ := bd_some h
  have k3 := c_X14_within e2 rx0 (rgl rfl) (rgl rfl)
  have r5 : rg r4 := k3.1.2.2
  refine v_callS (st := []) k3 (lw_S q2878 q2879 q311 q2880) yk_X14_within ⟨Nat.le_of_ble_eq_true rfl, Nat.le_of_ble_eq_true rfl⟩ trivial trivial (Nat.le_of_ble_eq_true rfl) rfl dX14_isDigit_5 ?_
  obtain ⟨g6, h⟩ := gd_some h
  cases h
  exact v_zret g6 dX14_isDigit_8

def f_X14_isNameChar (x0 : Int) (s : vS) : Option (Int × vS) :=
  bd (f_X14_isSmall x0 s) fun r4 s1 =>
  if r4 = 0 then
    bd (f_X14_isLarge x0 s1) fun r10 s7 =>
    if r10 = 0 then
      bd (f_X14_isDigit x0 s7) fun r16 s13 =>
      if r16 = 0 then
        some (0, s13)
      else
        some (1, s13)
    else
      some (1, s7)
  else
    some (1, s1)
theorem yk_X14_isNameChar : yOk yX14_isNameChar 1 := ⟨by decide, by decide, by decide +kernel⟩
theorem c_X14_isNameChar {x0 : Int} {s : vS} {out : Int × vS} (h : f_X14_isNameChar x0 s = some out)  (rx0 : rg x0) : VC yX14_isNameChar cX14_isNameChar 1 (some .boolean) 2 42 [vI x0] s (some (vI out.1)) out.2 [] := by
  unfold f_X14_isNameChar at h
  refine VC.of RX14 (by decide) rfl (Nat.le_of_ble_eq_true rfl) ?_
  show VW cX14_isNameChar (RX14, (some (vI out.1)), out.2, (some .boolean), 2, 42, 1, []) (P0 []) s 0 [(0, vI x0)] []
  refine v_iload_n dX14_isNameChar_0 0 rfl rfl ?_
  obtain ⟨r4, s1, e2, h⟩ := bd_some h
  have k3 := c_X14_isSmall e2 rx0
  have r5 : rg r4 := k3.1.2.2
  refine v_callS (st := []) k3 (lw_S q2920 q2921 q311 q2922) yk_X14_isSmall ⟨Nat.le_of_ble_eq_true rfl, Nat.le_of_ble_eq_true rfl⟩ trivial trivial (Nat.le_of_ble_eq_true rfl) rfl dX14_isNameChar_1 ?_
  refine v_if_ne (tgt := 21) dX14_isNameChar_4 r5 (by decide) (fun c6 => ?_) (fun c6 => ?_)
  · rw [if_neg c6] at h
    refine v_iconst dX14_isNameChar_21 ?_
    refine v_goto (tgt := 26) dX14_isNameChar_22 (by decide) ?_
    cases h
    exact v_zret (Or.inr rfl) dX14_isNameChar_26
  · rw [if_pos c6] at h
    refine v_iload_n dX14_isNameChar_7 0 rfl rfl ?_
    obtain ⟨r10, s7, e8, h⟩ := bd_some h
    have k9 := c_X14_isLarge e8 rx0
    have r11 : rg r10 := k9.1.2.2
    refine v_callS (st := []) k9 (lw_S q2923 q2924 q311 q2925) yk_X14_isLarge ⟨Nat.le_of_ble_eq_true rfl, Nat.le_of_ble_eq_true rfl⟩ trivial trivial (Nat.le_of_ble_eq_true rfl) rfl dX14_isNameChar_8 ?_
    refine v_if_ne (tgt := 21) dX14_isNameChar_11 r11 (by decide) (fun c12 => ?_) (fun c12 => ?_)
    · rw [if_neg c12] at h
      refine v_iconst dX14_isNameChar_21 ?_
      refine v_goto (tgt := 26) dX14_isNameChar_22 (by decide) ?_
      cases h
      exact v_zret (Or.inr rfl) dX14_isNameChar_26
    · rw [if_pos c12] at h
      refine v_iload_n dX14_isNameChar_14 0 rfl rfl ?_
      obtain ⟨r16, s13, e14, h⟩ := bd_some h
      have k15 := c_X14_isDigit e14 rx0
      have r17 : rg r16 := k15.1.2.2
      refine v_callS (st := []) k15 (lw_S q2933 q2934 q311 q2935) yk_X14_isDigit ⟨Nat.le_of_ble_eq_true rfl, Nat.le_of_ble_eq_true rfl⟩ trivial trivial (Nat.le_of_ble_eq_true rfl) rfl dX14_isNameChar_15 ?_
      refine v_if_eq (tgt := 25) dX14_isNameChar_18 r17 (by decide) (fun c18 => ?_) (fun c18 => ?_)
      · rw [if_pos c18] at h
        refine v_iconst dX14_isNameChar_25 ?_
        cases h
        exact v_zret (Or.inl rfl) dX14_isNameChar_26
      · rw [if_neg c18] at h
        refine v_iconst dX14_isNameChar_21 ?_
        refine v_goto (tgt := 26) dX14_isNameChar_22 (by decide) ?_
        cases h
        exact v_zret (Or.inr rfl) dX14_isNameChar_26

def f_X14_isWhite (x0 : Int) (s : vS) : Option (Int × vS) :=
  bd (f_X14_within x0 9 13 s) fun r4 s1 =>
  if r4 = 0 then
    if x0 = 32 then
      some (1, s1)
    else
      some (0, s1)
  else
    some (1, s1)
theorem yk_X14_isWhite : yOk yX14_isWhite 1 := ⟨by decide, by decide, by decide +kernel⟩
theorem c_X14_isWhite {x0 : Int} {s : vS} {out : Int × vS} (h : f_X14_isWhite x0 s = some out)  (rx0 : rg x0) : VC yX14_isWhite cX14_isWhite 1 (some .boolean) 1 22 [vI x0] s (some (vI out.1)) out.2 [] := by
  unfold f_X14_isWhite at h
  refine VC.of RX14 (by decide) rfl (Nat.le_of_ble_eq_true rfl) ?_
  show VW cX14_isWhite (RX14, (some (vI out.1)), out.2, (some .boolean), 1, 22, 1, []) (P0 []) s 0 [(0, vI x0)] []
  refine v_iload_n dX14_isWhite_0 0 rfl rfl ?_
  refine v_bipush dX14_isWhite_1 rfl ?_
  refine v_bipush dX14_isWhite_3 rfl ?_
  obtain ⟨r4, s1, e2, h⟩ := bd_some h
  have k3 := c_X14_within e2 rx0 (rgl rfl) (rgl rfl)
  have r5 : rg r4 := k3.1.2.2
  refine v_callS (st := []) k3 (lw_S q2878 q2879 q311 q2880) yk_X14_within ⟨Nat.le_of_ble_eq_true rfl, Nat.le_of_ble_eq_true rfl⟩ trivial trivial (Nat.le_of_ble_eq_true rfl) rfl dX14_isWhite_5 ?_
  refine v_if_ne (tgt := 17) dX14_isWhite_8 r5 (by decide) (fun c6 => ?_) (fun c6 => ?_)
  · rw [if_neg c6] at h
    refine v_iconst dX14_isWhite_17 ?_
    refine v_goto (tgt := 22) dX14_isWhite_18 (by decide) ?_
    cases h
    exact v_zret (Or.inr rfl) dX14_isWhite_22
  · rw [if_pos c6] at h
    refine v_iload_n dX14_isWhite_11 0 rfl rfl ?_
    refine v_bipush dX14_isWhite_12 rfl ?_
    refine v_icmp_ne (tgt := 21) dX14_isWhite_14 rx0 (rgl rfl) (by decide) (fun c7 => ?_) (fun c7 => ?_)
    · rw [if_neg c7] at h
      refine v_iconst dX14_isWhite_21 ?_
      cases h
      exact v_zret (Or.inl rfl) dX14_isWhite_22
    · rw [if_pos c7] at h
      refine v_iconst dX14_isWhite_17 ?_
      refine v_goto (tgt := 22) dX14_isWhite_18 (by decide) ?_
      cases h
      exact v_zret (Or.inr rfl) dX14_isWhite_22

def E_X14_skipLine_2 (rv : Option vA) (σo : vS) (q : Int × vS) : Prop := ∀ (x2' : Int) (s' : vS), q = (x2', s') → rg x2' → VW cX14_skipLine (RX14, rv, σo, (some .int), 1, 22, 3, []) (P0 []) s' 53 [(0, vO 87), (2, vI x2')] []
def l_X14_skipLine_2 : Nat → Int → vS → Option (Int × vS)
  | 0, _, _ => none
  | n + 1, x2, s =>
    if (gI s 87 13) ≤ x2 then
      some (x2, s)
    else
      bd (f_X14_ch x2 s) fun r5 s2 =>
      bd (f_X14_within r5 10 13 s2) fun r10 s7 =>
      if r10 = 0 then
        bd (f_X14_ch x2 s7) fun r16 s13 =>
        if r16 = 45 then
          bd (f_X14_ch (w32 (x2 + 1)) s13) fun r25 s22 =>
          if r25 = 45 then
            some (x2, s22)
          else
            vl (w32 (x2 + 1)) fun y28 =>
            l_X14_skipLine_2 n y28 s22
        else
          vl (w32 (x2 + 1)) fun y19 =>
          l_X14_skipLine_2 n y19 s13
      else
        some (x2, s7)
theorem wl_X14_skipLine_2 {rv : Option vA} {σo : vS}  : ∀ (n : Nat) (x2 : Int) (s : vS) (q : Int × vS), l_X14_skipLine_2 n x2 s = some q → rg x2 → E_X14_skipLine_2 rv σo q → VW cX14_skipLine (RX14, rv, σo, (some .int), 1, 22, 3, []) (P0 []) s 2 [(0, vO 87), (2, vI x2)] [] := by
  intro n
  induction n with
  | zero => intro x2 s q h; cases h
  | succ n ih =>
    intro x2 s q h rx2 hE
    unfold l_X14_skipLine_2 at h
    refine v_iload_n dX14_skipLine_2 1 rfl rfl ?_
    refine v_aload_n dX14_skipLine_3 0 rfl rfl ?_
    refine v_getI (f := 13) cf14 oc87 rfl (by decide) q2383 dX14_skipLine_4 ?_
    refine v_icmp_ge (tgt := 53) dX14_skipLine_7 rx2 (gI_rg _ _ _) (by decide) (fun c1 => ?_) (fun c1 => ?_)
    · rw [if_pos c1] at h
      cases h
      exact hE _ _ rfl rx2
    · rw [if_neg c1] at h
      refine v_aload_n dX14_skipLine_10 0 rfl rfl ?_
      refine v_iload_n dX14_skipLine_11 1 rfl rfl ?_
      obtain ⟨r5, s2, e3, h⟩ := bd_some h
      have k4 := c_X14_ch e3 rx2
      have r6 : rg r5 := k4.1.2.2
      refine v_callV (st := []) cf14 oc87 k4 (lw_V q2901 q2903 qs160 q311 q2904) rfl yk_X14_ch ⟨Nat.le_of_ble_eq_true rfl, Nat.le_of_ble_eq_true rfl⟩ trivial ⟨kc87, trivial⟩ (Nat.le_of_ble_eq_true rfl) rfl dX14_skipLine_12 ?_
      refine v_bipush dX14_skipLine_15 rfl ?_
      refine v_bipush dX14_skipLine_17 rfl ?_
      obtain ⟨r10, s7, e8, h⟩ := bd_some h
      have k9 := c_X14_within e8 r6 (rgl rfl) (rgl rfl)
      have r11 : rg r10 := k9.1.2.2
      refine v_callS (st := []) k9 (lw_S q2878 q2879 q311 q2880) yk_X14_within ⟨Nat.le_of_ble_eq_true rfl, Nat.le_of_ble_eq_true rfl⟩ trivial ⟨kc87, trivial⟩ (Nat.le_of_ble_eq_true rfl) rfl dX14_skipLine_19 ?_
      refine v_if_ne (tgt := 53) dX14_skipLine_22 r11 (by decide) (fun c12 => ?_) (fun c12 => ?_)
      · rw [if_neg c12] at h
        cases h
        exact hE _ _ rfl rx2
      · rw [if_pos c12] at h
        refine v_aload_n dX14_skipLine_25 0 rfl rfl ?_
        refine v_iload_n dX14_skipLine_26 1 rfl rfl ?_
        obtain ⟨r16, s13, e14, h⟩ := bd_some h
        have k15 := c_X14_ch e14 rx2
        have r17 : rg r16 := k15.1.2.2
        refine v_callV (st := []) cf14 oc87 k15 (lw_V q2901 q2903 qs160 q311 q2904) rfl yk_X14_ch ⟨Nat.le_of_ble_eq_true rfl, Nat.le_of_ble_eq_true rfl⟩ trivial ⟨kc87, trivial⟩ (Nat.le_of_ble_eq_true rfl) rfl dX14_skipLine_27 ?_
        refine v_bipush dX14_skipLine_30 rfl ?_
        refine v_icmp_ne (tgt := 47) dX14_skipLine_32 r17 (rgl rfl) (by decide) (fun c18 => ?_) (fun c18 => ?_)
        · rw [if_neg c18] at h
          obtain ⟨y19, e20, h⟩ := vl_some h
          refine v_iinc (L1 := [(2, vI (w32 (x2 + 1))), (0, vO 87)]) dX14_skipLine_47 1 rfl (by decide) rfl ?_
          rw [← e20]
          have r21 : rg y19 := by rw [e20]; exact w32_rg _
          refine v_goto (tgt := 2) dX14_skipLine_50 (by decide) ?_
          refine v_sub [1, 0] (L1 := [(0, vO 87), (2, vI y19)]) rfl ?_
          exact ih y19 s13 _ h r21 hE
        · rw [if_pos c18] at h
          refine v_aload_n dX14_skipLine_35 0 rfl rfl ?_
          refine v_iload_n dX14_skipLine_36 1 rfl rfl ?_
          refine v_iconst dX14_skipLine_37 ?_
          refine v_iadd dX14_skipLine_38 ?_
          obtain ⟨r25, s22, e23, h⟩ := bd_some h
          have k24 := c_X14_ch e23 (w32_rg _)
          have r26 : rg r25 := k24.1.2.2
          refine v_callV (st := []) cf14 oc87 k24 (lw_V q2901 q2903 qs160 q311 q2904) rfl yk_X14_ch ⟨Nat.le_of_ble_eq_true rfl, Nat.le_of_ble_eq_true rfl⟩ trivial ⟨kc87, trivial⟩ (Nat.le_of_ble_eq_true rfl) rfl dX14_skipLine_39 ?_
          refine v_bipush dX14_skipLine_42 rfl ?_
          refine v_icmp_eq (tgt := 53) dX14_skipLine_44 r26 (rgl rfl) (by decide) (fun c27 => ?_) (fun c27 => ?_)
          · rw [if_pos c27] at h
            cases h
            exact hE _ _ rfl rx2
          · rw [if_neg c27] at h
            obtain ⟨y28, e29, h⟩ := vl_some h
            refine v_iinc (L1 := [(2, vI (w32 (x2 + 1))), (0, vO 87)]) dX14_skipLine_47 1 rfl (by decide) rfl ?_
            rw [← e29]
            have r30 : rg y28 := by rw [e29]; exact w32_rg _
            refine v_goto (tgt := 2) dX14_skipLine_50 (by decide) ?_
            refine v_sub [1, 0] (L1 := [(0, vO 87), (2, vI y28)]) rfl ?_
            exact ih y28 s22 _ h r30 hE

def j_X14_skipLine_53 (x2 : Int) (s : vS) : Option (Int × vS) :=
  if (gI s 87 13) ≤ x2 then
    some (x2, s)
  else
    bd (f_X14_ch x2 s) fun r5 s2 =>
    if r5 = 45 then
      some (w32 (x2 + 2), s2)
    else
      some (x2, s2)
theorem wj_X14_skipLine_53 {x2 : Int} {s : vS} {out : Int × vS} (h : j_X14_skipLine_53 x2 s = some out)  (rx2 : rg x2) : VW cX14_skipLine (RX14, (some (vI out.1)), out.2, (some .int), 1, 22, 3, []) (P0 []) s 53 [(0, vO 87), (2, vI x2)] [] := by
  unfold j_X14_skipLine_53 at h
  refine v_iload_n dX14_skipLine_53 1 rfl rfl ?_
  refine v_aload_n dX14_skipLine_54 0 rfl rfl ?_
  refine v_getI (f := 13) cf14 oc87 rfl (by decide) q2383 dX14_skipLine_55 ?_
  refine v_icmp_ge (tgt := 77) dX14_skipLine_58 rx2 (gI_rg _ _ _) (by decide) (fun c1 => ?_) (fun c1 => ?_)
  · rw [if_pos c1] at h
    refine v_iload_n dX14_skipLine_77 1 rfl rfl ?_
    cases h
    exact v_iret rx2 dX14_skipLine_78
  · rw [if_neg c1] at h
    refine v_aload_n dX14_skipLine_61 0 rfl rfl ?_
    refine v_iload_n dX14_skipLine_62 1 rfl rfl ?_
    obtain ⟨r5, s2, e3, h⟩ := bd_some h
    have k4 := c_X14_ch e3 rx2
    have r6 : rg r5 := k4.1.2.2
    refine v_callV (st := []) cf14 oc87 k4 (lw_V q2901 q2903 qs160 q311 q2904) rfl yk_X14_ch ⟨Nat.le_of_ble_eq_true rfl, Nat.le_of_ble_eq_true rfl⟩ trivial ⟨kc87, trivial⟩ (Nat.le_of_ble_eq_true rfl) rfl dX14_skipLine_63 ?_
    refine v_bipush dX14_skipLine_66 rfl ?_
    refine v_icmp_ne (tgt := 77) dX14_skipLine_68 r6 (rgl rfl) (by decide) (fun c7 => ?_) (fun c7 => ?_)
    · rw [if_neg c7] at h
      refine v_iload_n dX14_skipLine_77 1 rfl rfl ?_
      cases h
      exact v_iret rx2 dX14_skipLine_78
    · rw [if_pos c7] at h
      refine v_iload_n dX14_skipLine_71 1 rfl rfl ?_
      refine v_iconst dX14_skipLine_72 ?_
      refine v_iadd dX14_skipLine_73 ?_
      refine v_goto (tgt := 78) dX14_skipLine_74 (by decide) ?_
      cases h
      exact v_iret (w32_rg _) dX14_skipLine_78

def f_X14_skipLine (x1 : Int) (s : vS) : Option (Int × vS) :=
  lq_1 (l_X14_skipLine_2 FU x1 s) fun y1 s2 =>
  j_X14_skipLine_53 y1 s2
theorem yk_X14_skipLine : yOk yX14_skipLine 1 := ⟨by decide, by decide, by decide +kernel⟩
theorem c_X14_skipLine {x1 : Int} {s : vS} {out : Int × vS} (h : f_X14_skipLine x1 s = some out)  (rx1 : rg x1) : VC yX14_skipLine cX14_skipLine 3 (some .int) 1 22 [vO 87, vI x1] s (some (vI out.1)) out.2 [] := by
  unfold f_X14_skipLine at h
  refine VC.of RX14 (by decide) rfl (Nat.le_of_ble_eq_true rfl) ?_
  show VW cX14_skipLine (RX14, (some (vI out.1)), out.2, (some .int), 1, 22, 3, []) (P0 []) s 0 [(0, vO 87), (1, vI x1)] []
  refine v_iload_n dX14_skipLine_0 1 rfl rfl ?_
  refine v_istore_n (L1 := [(2, vI x1), (0, vO 87), (1, vI x1)]) dX14_skipLine_1 rfl (by decide) rfl ?_
  refine v_sub [1, 0] (L1 := [(0, vO 87), (2, vI x1)]) rfl ?_
  obtain ⟨y1, s2, e3, h⟩ := lq_1_some h
  refine wl_X14_skipLine_2  FU x1 s _ e3 rx1 ?_
  unfold E_X14_skipLine_2
  intro y1' s2' z_ r4
  cases z_
  exact wj_X14_skipLine_53 h r4

def E_X14_skipStars_6 (x1 : Int) (rv : Option vA) (σo : vS) (q : Int × Int × vS) : Prop := ∀ (x2' : Int) (x3' : Int) (s' : vS), q = (x2', x3', s') → rg x2' → rg x3' → VW cX14_skipStars (RX14, rv, σo, (some .int), 1, 22, 4, []) (P0 []) s' 86 [(0, vO 87), (1, vI x1), (2, vI x2'), (3, vI x3')] []
def j_X14_skipStars_49 (rec : Int → Int → Int → vS → Option (Int × Int × vS)) (x1 : Int) (x2 : Int) (x3 : Int) (s : vS) : Option (Int × Int × vS) :=
  bd (f_X14_ch x2 s) fun r4 s1 =>
  if r4 = 42 then
    bd (f_X14_ch (w32 (x2 + 1)) s1) fun r13 s10 =>
    if r13 = 47 then
      vl (w32 (x3 + (-1))) fun y19 =>
      vl (w32 (x2 + 2)) fun y22 =>
      rec x1 y22 y19 s10
    else
      vl (w32 (x2 + 1)) fun y16 =>
      rec x1 y16 x3 s10
  else
    vl (w32 (x2 + 1)) fun y7 =>
    rec x1 y7 x3 s1
theorem wj_X14_skipStars_49 {x1 : Int} {x2 : Int} {x3 : Int} {s : vS} {rv : Option vA} {σo : vS} {rec : Int → Int → Int → vS → Option (Int × Int × vS)} {q : Int × Int × vS} (h : j_X14_skipStars_49 rec x1 x2 x3 s = some q)  (rx1 : rg x1) (rx2 : rg x2) (rx3 : rg x3) (hrec : ∀ (y2 : Int) (y3 : Int) (s : vS) (q : Int × Int × vS), rec x1 y2 y3 s = some q → rg y2 → rg y3 → E_X14_skipStars_6 x1 rv σo q → VW cX14_skipStars (RX14, rv, σo, (some .int), 1, 22, 4, []) (P0 []) s 6 [(0, vO 87), (1, vI x1), (2, vI y2), (3, vI y3)] []) (hE : E_X14_skipStars_6 x1 rv σo q) : VW cX14_skipStars (RX14, rv, σo, (some .int), 1, 22, 4, []) (P0 []) s 49 [(0, vO 87), (1, vI x1), (2, vI x2), (3, vI x3)] [] := by
  unfold j_X14_skipStars_49 at h
  refine v_aload_n dX14_skipStars_49 0 rfl rfl ?_
  refine v_iload_n dX14_skipStars_50 2 rfl rfl ?_
  obtain ⟨r4, s1, e2, h⟩ := bd_some h
  have k3 := c_X14_ch e2 rx2
  have r5 : rg r4 := k3.1.2.2
  refine v_callV (st := []) cf14 oc87 k3 (lw_V q2901 q2903 qs160 q311 q2904) rfl yk_X14_ch ⟨Nat.le_of_ble_eq_true rfl, Nat.le_of_ble_eq_true rfl⟩ trivial ⟨kc87, trivial⟩ (Nat.le_of_ble_eq_true rfl) rfl dX14_skipStars_51 ?_
  refine v_bipush dX14_skipStars_54 rfl ?_
  refine v_icmp_ne (tgt := 80) dX14_skipStars_56 r5 (rgl rfl) (by decide) (fun c6 => ?_) (fun c6 => ?_)
  · rw [if_neg c6] at h
    obtain ⟨y7, e8, h⟩ := vl_some h
    refine v_iinc (L1 := [(2, vI (w32 (x2 + 1))), (0, vO 87), (1, vI x1), (3, vI x3)]) dX14_skipStars_80 2 rfl (by decide) rfl ?_
    rw [← e8]
    have r9 : rg y7 := by rw [e8]; exact w32_rg _
    refine v_goto (tgt := 6) dX14_skipStars_83 (by decide) ?_
    refine v_sub [1, 2, 0, 3] (L1 := [(0, vO 87), (1, vI x1), (2, vI y7), (3, vI x3)]) rfl ?_
    exact hrec y7 x3 s1 _ h r9 rx3 hE
  · rw [if_pos c6] at h
    refine v_aload_n dX14_skipStars_59 0 rfl rfl ?_
    refine v_iload_n dX14_skipStars_60 2 rfl rfl ?_
    refine v_iconst dX14_skipStars_61 ?_
    refine v_iadd dX14_skipStars_62 ?_
    obtain ⟨r13, s10, e11, h⟩ := bd_some h
    have k12 := c_X14_ch e11 (w32_rg _)
    have r14 : rg r13 := k12.1.2.2
    refine v_callV (st := []) cf14 oc87 k12 (lw_V q2901 q2903 qs160 q311 q2904) rfl yk_X14_ch ⟨Nat.le_of_ble_eq_true rfl, Nat.le_of_ble_eq_true rfl⟩ trivial ⟨kc87, trivial⟩ (Nat.le_of_ble_eq_true rfl) rfl dX14_skipStars_63 ?_
    refine v_bipush dX14_skipStars_66 rfl ?_
    refine v_icmp_ne (tgt := 80) dX14_skipStars_68 r14 (rgl rfl) (by decide) (fun c15 => ?_) (fun c15 => ?_)
    · rw [if_neg c15] at h
      obtain ⟨y16, e17, h⟩ := vl_some h
      refine v_iinc (L1 := [(2, vI (w32 (x2 + 1))), (0, vO 87), (1, vI x1), (3, vI x3)]) dX14_skipStars_80 2 rfl (by decide) rfl ?_
      rw [← e17]
      have r18 : rg y16 := by rw [e17]; exact w32_rg _
      refine v_goto (tgt := 6) dX14_skipStars_83 (by decide) ?_
      refine v_sub [1, 2, 0, 3] (L1 := [(0, vO 87), (1, vI x1), (2, vI y16), (3, vI x3)]) rfl ?_
      exact hrec y16 x3 s10 _ h r18 rx3 hE
    · rw [if_pos c15] at h
      obtain ⟨y19, e20, h⟩ := vl_some h
      refine v_iinc (L1 := [(3, vI (w32 (x3 + (-1)))), (0, vO 87), (1, vI x1), (2, vI x2)]) dX14_skipStars_71 3 rfl (by decide) rfl ?_
      rw [← e20]
      have r21 : rg y19 := by rw [e20]; exact w32_rg _
      obtain ⟨y22, e23, h⟩ := vl_some h
      refine v_iinc (L1 := [(2, vI (w32 (x2 + 2))), (3, vI y19), (0, vO 87), (1, vI x1)]) dX14_skipStars_74 3 rfl (by decide) rfl ?_
      rw [← e23]
      have r24 : rg y22 := by rw [e23]; exact w32_rg _
      refine v_goto (tgt := 6) dX14_skipStars_77 (by decide) ?_
      refine v_sub [2, 3, 0, 1] (L1 := [(0, vO 87), (1, vI x1), (2, vI y22), (3, vI y19)]) rfl ?_
      exact hrec y22 y19 s10 _ h r24 r21 hE

def l_X14_skipStars_6 : Nat → Int → Int → Int → vS → Option (Int × Int × vS)
  | 0, _, _, _, _ => none
  | n + 1, x1, x2, x3, s =>
    if x3 ≤ 0 then
      some (x2, x3, s)
    else
      if (gI s 87 13) ≤ x2 then
        some (x2, x3, s)
      else
        bd (f_X14_ch x2 s) fun r6 s3 =>
        if r6 = 47 then
          bd (f_X14_ch (w32 (x2 + 1)) s3) fun r12 s9 =>
          if r12 = 42 then
            vl (w32 (x3 + 1)) fun y15 =>
            vl (w32 (x2 + 2)) fun y18 =>
            l_X14_skipStars_6 n x1 y18 y15 s9
          else
            j_X14_skipStars_49 (l_X14_skipStars_6 n) x1 x2 x3 s9
        else
          j_X14_skipStars_49 (l_X14_skipStars_6 n) x1 x2 x3 s3
theorem wl_X14_skipStars_6 {x1 : Int} {rv : Option vA} {σo : vS}  (rx1 : rg x1) : ∀ (n : Nat) (x2 : Int) (x3 : Int) (s : vS) (q : Int × Int × vS), l_X14_skipStars_6 n x1 x2 x3 s = some q → rg x2 → rg x3 → E_X14_skipStars_6 x1 rv σo q → VW cX14_skipStars (RX14, rv, σo, (some .int), 1, 22, 4, []) (P0 []) s 6 [(0, vO 87), (1, vI x1), (2, vI x2), (3, vI x3)] [] := by
  intro n
  induction n with
  | zero => intro x2 x3 s q h; cases h
  | succ n ih =>
    intro x2 x3 s q h rx2 rx3 hE
    unfold l_X14_skipStars_6 at h
    refine v_iload_n dX14_skipStars_6 3 rfl rfl ?_
    refine v_if_le (tgt := 86) dX14_skipStars_7 rx3 (by decide) (fun c1 => ?_) (fun c1 => ?_)
    · rw [if_pos c1] at h
      cases h
      exact hE _ _ _ rfl rx2 rx3
    · rw [if_neg c1] at h
      refine v_iload_n dX14_skipStars_10 2 rfl rfl ?_
      refine v_aload_n dX14_skipStars_11 0 rfl rfl ?_
      refine v_getI (f := 13) cf14 oc87 rfl (by decide) q2383 dX14_skipStars_12 ?_
      refine v_icmp_ge (tgt := 86) dX14_skipStars_15 rx2 (gI_rg _ _ _) (by decide) (fun c2 => ?_) (fun c2 => ?_)
      · rw [if_pos c2] at h
        cases h
        exact hE _ _ _ rfl rx2 rx3
      · rw [if_neg c2] at h
        refine v_aload_n dX14_skipStars_18 0 rfl rfl ?_
        refine v_iload_n dX14_skipStars_19 2 rfl rfl ?_
        obtain ⟨r6, s3, e4, h⟩ := bd_some h
        have k5 := c_X14_ch e4 rx2
        have r7 : rg r6 := k5.1.2.2
        refine v_callV (st := []) cf14 oc87 k5 (lw_V q2901 q2903 qs160 q311 q2904) rfl yk_X14_ch ⟨Nat.le_of_ble_eq_true rfl, Nat.le_of_ble_eq_true rfl⟩ trivial ⟨kc87, trivial⟩ (Nat.le_of_ble_eq_true rfl) rfl dX14_skipStars_20 ?_
        refine v_bipush dX14_skipStars_23 rfl ?_
        refine v_icmp_ne (tgt := 49) dX14_skipStars_25 r7 (rgl rfl) (by decide) (fun c8 => ?_) (fun c8 => ?_)
        · rw [if_neg c8] at h
          exact wj_X14_skipStars_49 h rx1 rx2 rx3 ih hE
        · rw [if_pos c8] at h
          refine v_aload_n dX14_skipStars_28 0 rfl rfl ?_
          refine v_iload_n dX14_skipStars_29 2 rfl rfl ?_
          refine v_iconst dX14_skipStars_30 ?_
          refine v_iadd dX14_skipStars_31 ?_
          obtain ⟨r12, s9, e10, h⟩ := bd_some h
          have k11 := c_X14_ch e10 (w32_rg _)
          have r13 : rg r12 := k11.1.2.2
          refine v_callV (st := []) cf14 oc87 k11 (lw_V q2901 q2903 qs160 q311 q2904) rfl yk_X14_ch ⟨Nat.le_of_ble_eq_true rfl, Nat.le_of_ble_eq_true rfl⟩ trivial ⟨kc87, trivial⟩ (Nat.le_of_ble_eq_true rfl) rfl dX14_skipStars_32 ?_
          refine v_bipush dX14_skipStars_35 rfl ?_
          refine v_icmp_ne (tgt := 49) dX14_skipStars_37 r13 (rgl rfl) (by decide) (fun c14 => ?_) (fun c14 => ?_)
          · rw [if_neg c14] at h
            exact wj_X14_skipStars_49 h rx1 rx2 rx3 ih hE
          · rw [if_pos c14] at h
            obtain ⟨y15, e16, h⟩ := vl_some h
            refine v_iinc (L1 := [(3, vI (w32 (x3 + 1))), (0, vO 87), (1, vI x1), (2, vI x2)]) dX14_skipStars_40 3 rfl (by decide) rfl ?_
            rw [← e16]
            have r17 : rg y15 := by rw [e16]; exact w32_rg _
            obtain ⟨y18, e19, h⟩ := vl_some h
            refine v_iinc (L1 := [(2, vI (w32 (x2 + 2))), (3, vI y15), (0, vO 87), (1, vI x1)]) dX14_skipStars_43 3 rfl (by decide) rfl ?_
            rw [← e19]
            have r20 : rg y18 := by rw [e19]; exact w32_rg _
            refine v_goto (tgt := 6) dX14_skipStars_46 (by decide) ?_
            refine v_sub [2, 3, 0, 1] (L1 := [(0, vO 87), (1, vI x1), (2, vI y18), (3, vI y15)]) rfl ?_
            exact ih y18 y15 s9 _ h r20 r17 hE

def j_X14_skipStars_86 (x1 : Int) (x2 : Int) (x3 : Int) (s : vS) : Option (Int × vS) :=
  if x3 ≤ 0 then
    some (x2, s)
  else
    bdv (f_X14_tell 1 x1 s) fun s2 =>
    some (x2, s2)
theorem wj_X14_skipStars_86 {x1 : Int} {x2 : Int} {x3 : Int} {s : vS} {out : Int × vS} (h : j_X14_skipStars_86 x1 x2 x3 s = some out)  (rx1 : rg x1) (rx2 : rg x2) (rx3 : rg x3) : VW cX14_skipStars (RX14, (some (vI out.1)), out.2, (some .int), 1, 22, 4, []) (P0 []) s 86 [(0, vO 87), (1, vI x1), (2, vI x2), (3, vI x3)] [] := by
  unfold j_X14_skipStars_86 at h
  refine v_iload_n dX14_skipStars_86 3 rfl rfl ?_
  refine v_if_le (tgt := 96) dX14_skipStars_87 rx3 (by decide) (fun c1 => ?_) (fun c1 => ?_)
  · rw [if_pos c1] at h
    refine v_iload_n dX14_skipStars_96 2 rfl rfl ?_
    cases h
    exact v_iret rx2 dX14_skipStars_97
  · rw [if_neg c1] at h
    refine v_aload_n dX14_skipStars_90 0 rfl rfl ?_
    refine v_iconst dX14_skipStars_91 ?_
    refine v_iload_n dX14_skipStars_92 1 rfl rfl ?_
    obtain ⟨s2, e3, h⟩ := bdv_some h
    have k4 := c_X14_tell e3 (rgl rfl) rx1
    refine v_callV (st := []) cf14 oc87 k4 (lw_V q2916 q2918 qs163 q311 q2919) rfl yk_X14_tell ⟨Nat.le_of_ble_eq_true rfl, Nat.le_of_ble_eq_true rfl⟩ trivial ⟨kc87, trivial⟩ (Nat.le_of_ble_eq_true rfl) rfl dX14_skipStars_93 ?_
    refine v_iload_n dX14_skipStars_96 2 rfl rfl ?_
    cases h
    exact v_iret rx2 dX14_skipStars_97

def f_X14_skipStars (x1 : Int) (s : vS) : Option (Int × vS) :=
  vl (w32 (x1 + 2)) fun y1 =>
  lq_2 (l_X14_skipStars_6 FU x1 y1 1 s) fun y4 y5 s6 =>
  j_X14_skipStars_86 x1 y4 y5 s6
theorem yk_X14_skipStars : yOk yX14_skipStars 1 := ⟨by decide, by decide, by decide +kernel⟩
theorem c_X14_skipStars {x1 : Int} {s : vS} {out : Int × vS} (h : f_X14_skipStars x1 s = some out)  (rx1 : rg x1) : VC yX14_skipStars cX14_skipStars 4 (some .int) 1 22 [vO 87, vI x1] s (some (vI out.1)) out.2 [] := by
  unfold f_X14_skipStars at h
  refine VC.of RX14 (by decide) rfl (Nat.le_of_ble_eq_true rfl) ?_
  show VW cX14_skipStars (RX14, (some (vI out.1)), out.2, (some .int), 1, 22, 4, []) (P0 []) s 0 [(0, vO 87), (1, vI x1)] []
  refine v_iload_n dX14_skipStars_0 1 rfl rfl ?_
  refine v_iconst dX14_skipStars_1 ?_
  refine v_iadd dX14_skipStars_2 ?_
  obtain ⟨y1, e2, h⟩ := vl_some h
  rw [← e2]
  have r3 : rg y1 := by rw [e2]; exact w32_rg _
  refine v_istore_n (L1 := [(2, vI y1), (0, vO 87), (1, vI x1)]) dX14_skipStars_3 rfl (by decide) rfl ?_
  refine v_iconst dX14_skipStars_4 ?_
  refine v_istore_n (L1 := [(3, vI 1), (2, vI y1), (0, vO 87), (1, vI x1)]) dX14_skipStars_5 rfl (by decide) rfl ?_
  refine v_sub [2, 3, 1, 0] (L1 := [(0, vO 87), (1, vI x1), (2, vI y1), (3, vI 1)]) rfl ?_
  obtain ⟨y4, y5, s6, e7, h⟩ := lq_2_some h
  refine wl_X14_skipStars_6 rx1 FU y1 1 s _ e7 r3 (rgl rfl) ?_
  unfold E_X14_skipStars_6
  intro y4' y5' s6' z_ r8 r9
  cases z_
  exact wj_X14_skipStars_86 h rx1 r8 r9

def E_X14_skip_4 (rv : Option vA) (σo : vS) (q : Int × vS) : Prop := ∀ (x2' : Int) (s' : vS), q = (x2', s') → rg x2' → VW cX14_skip (RX14, rv, σo, (some .int), 2, 45, 4, []) (P0 []) s' 101 [(2, vI x2')] []
def j_X14_skip_65 (rec : Int → Int → vS → Option (Int × vS)) (x2 : Int) (x3 : Int) (s : vS) : Option (Int × vS) :=
  bd (f_X14_ch x2 s) fun r4 s1 =>
  if r4 = 47 then
    bd (f_X14_ch (w32 (x2 + 1)) s1) fun r10 s7 =>
    if r10 = 42 then
      bd (f_X14_skipStars x2 s7) fun r16 s13 =>
      rec r16 x3 s13
    else
      rec x2 0 s7
  else
    rec x2 0 s1
theorem wj_X14_skip_65 {x2 : Int} {x3 : Int} {s : vS} {rv : Option vA} {σo : vS} {rec : Int → Int → vS → Option (Int × vS)} {q : Int × vS} (h : j_X14_skip_65 rec x2 x3 s = some q)  (rx2 : rg x2) (rx3 : rg x3) (hrec : ∀ (y2 : Int) (y3 : Int) (s : vS) (q : Int × vS), rec y2 y3 s = some q → rg y2 → rg y3 → E_X14_skip_4 rv σo q → VW cX14_skip (RX14, rv, σo, (some .int), 2, 45, 4, []) (P0 []) s 4 [(0, vO 87), (2, vI y2), (3, vI y3)] []) (hE : E_X14_skip_4 rv σo q) : VW cX14_skip (RX14, rv, σo, (some .int), 2, 45, 4, []) (P0 []) s 65 [(0, vO 87), (2, vI x2), (3, vI x3)] [] := by
  unfold j_X14_skip_65 at h
  refine v_aload_n dX14_skip_65 0 rfl rfl ?_
  refine v_iload_n dX14_skip_66 1 rfl rfl ?_
  obtain ⟨r4, s1, e2, h⟩ := bd_some h
  have k3 := c_X14_ch e2 rx2
  have r5 : rg r4 := k3.1.2.2
  refine v_callV (st := []) cf14 oc87 k3 (lw_V q2901 q2903 qs160 q311 q2904) rfl yk_X14_ch ⟨Nat.le_of_ble_eq_true rfl, Nat.le_of_ble_eq_true rfl⟩ trivial ⟨kc87, trivial⟩ (Nat.le_of_ble_eq_true rfl) rfl dX14_skip_67 ?_
  refine v_bipush dX14_skip_70 rfl ?_
  refine v_icmp_ne (tgt := 96) dX14_skip_72 r5 (rgl rfl) (by decide) (fun c6 => ?_) (fun c6 => ?_)
  · rw [if_neg c6] at h
    refine v_iconst dX14_skip_96 ?_
    refine v_istore_n (L1 := [(3, vI 0), (0, vO 87), (2, vI x2)]) dX14_skip_97 rfl (by decide) rfl ?_
    refine v_goto (tgt := 4) dX14_skip_98 (by decide) ?_
    refine v_sub [1, 2, 0] (L1 := [(0, vO 87), (2, vI x2), (3, vI 0)]) rfl ?_
    exact hrec x2 0 s1 _ h rx2 (rgl rfl) hE
  · rw [if_pos c6] at h
    refine v_aload_n dX14_skip_75 0 rfl rfl ?_
    refine v_iload_n dX14_skip_76 1 rfl rfl ?_
    refine v_iconst dX14_skip_77 ?_
    refine v_iadd dX14_skip_78 ?_
    obtain ⟨r10, s7, e8, h⟩ := bd_some h
    have k9 := c_X14_ch e8 (w32_rg _)
    have r11 : rg r10 := k9.1.2.2
    refine v_callV (st := []) cf14 oc87 k9 (lw_V q2901 q2903 qs160 q311 q2904) rfl yk_X14_ch ⟨Nat.le_of_ble_eq_true rfl, Nat.le_of_ble_eq_true rfl⟩ trivial ⟨kc87, trivial⟩ (Nat.le_of_ble_eq_true rfl) rfl dX14_skip_79 ?_
    refine v_bipush dX14_skip_82 rfl ?_
    refine v_icmp_ne (tgt := 96) dX14_skip_84 r11 (rgl rfl) (by decide) (fun c12 => ?_) (fun c12 => ?_)
    · rw [if_neg c12] at h
      refine v_iconst dX14_skip_96 ?_
      refine v_istore_n (L1 := [(3, vI 0), (0, vO 87), (2, vI x2)]) dX14_skip_97 rfl (by decide) rfl ?_
      refine v_goto (tgt := 4) dX14_skip_98 (by decide) ?_
      refine v_sub [1, 2, 0] (L1 := [(0, vO 87), (2, vI x2), (3, vI 0)]) rfl ?_
      exact hrec x2 0 s7 _ h rx2 (rgl rfl) hE
    · rw [if_pos c12] at h
      refine v_aload_n dX14_skip_87 0 rfl rfl ?_
      refine v_iload_n dX14_skip_88 1 rfl rfl ?_
      obtain ⟨r16, s13, e14, h⟩ := bd_some h
      have k15 := c_X14_skipStars e14 rx2
      have r17 : rg r16 := k15.1.2.2
      refine v_callV (st := []) cf14 oc87 k15 (lw_V q2912 q2914 qs162 q311 q2915) rfl yk_X14_skipStars ⟨Nat.le_of_ble_eq_true rfl, Nat.le_of_ble_eq_true rfl⟩ trivial ⟨kc87, trivial⟩ (Nat.le_of_ble_eq_true rfl) rfl dX14_skip_89 ?_
      refine v_istore_n (L1 := [(2, vI r16), (0, vO 87), (3, vI x3)]) dX14_skip_92 rfl (by decide) rfl ?_
      refine v_goto (tgt := 4) dX14_skip_93 (by decide) ?_
      refine v_sub [1, 0, 2] (L1 := [(0, vO 87), (2, vI r16), (3, vI x3)]) rfl ?_
      exact hrec r16 x3 s13 _ h r17 rx3 hE

def l_X14_skip_4 : Nat → Int → Int → vS → Option (Int × vS)
  | 0, _, _, _ => none
  | n + 1, x2, x3, s =>
    if x3 = 0 then
      some (x2, s)
    else
      if (gI s 87 8) = 0 then
        bd (f_X14_ch x2 s) fun r6 s3 =>
        bd (f_X14_isWhite r6 s3) fun r11 s8 =>
        if r11 = 0 then
          bd (f_X14_ch x2 s8) fun r17 s14 =>
          if r17 = 45 then
            bd (f_X14_ch (w32 (x2 + 1)) s14) fun r23 s20 =>
            if r23 = 45 then
              bd (f_X14_skipLine (w32 (x2 + 2)) s20) fun r29 s26 =>
              l_X14_skip_4 n r29 x3 s26
            else
              j_X14_skip_65 (l_X14_skip_4 n) x2 x3 s20
          else
            j_X14_skip_65 (l_X14_skip_4 n) x2 x3 s14
        else
          vl (w32 (x2 + 1)) fun y31 =>
          l_X14_skip_4 n y31 x3 s8
      else
        some (x2, s)
theorem wl_X14_skip_4 {rv : Option vA} {σo : vS}  : ∀ (n : Nat) (x2 : Int) (x3 : Int) (s : vS) (q : Int × vS), l_X14_skip_4 n x2 x3 s = some q → rg x2 → rg x3 → E_X14_skip_4 rv σo q → VW cX14_skip (RX14, rv, σo, (some .int), 2, 45, 4, []) (P0 []) s 4 [(0, vO 87), (2, vI x2), (3, vI x3)] [] := by
  intro n
  induction n with
  | zero => intro x2 x3 s q h; cases h
  | succ n ih =>
    intro x2 x3 s q h rx2 rx3 hE
    unfold l_X14_skip_4 at h
    refine v_iload_n dX14_skip_4 2 rfl rfl ?_
    refine v_if_eq (tgt := 101) dX14_skip_5 rx3 (by decide) (fun c1 => ?_) (fun c1 => ?_)
    · rw [if_pos c1] at h
      cases h
      refine v_sub [1] (L1 := [(2, vI x2)]) rfl ?_
      exact hE _ _ rfl rx2
    · rw [if_neg c1] at h
      refine v_aload_n dX14_skip_8 0 rfl rfl ?_
      refine v_getI (f := 8) cf14 oc87 rfl (by decide) q2378 dX14_skip_9 ?_
      refine v_if_ne (tgt := 101) dX14_skip_12 (gI_rg _ _ _) (by decide) (fun c2 => ?_) (fun c2 => ?_)
      · rw [if_neg c2] at h
        cases h
        refine v_sub [1] (L1 := [(2, vI x2)]) rfl ?_
        exact hE _ _ rfl rx2
      · rw [if_pos c2] at h
        refine v_aload_n dX14_skip_15 0 rfl rfl ?_
        refine v_iload_n dX14_skip_16 1 rfl rfl ?_
        obtain ⟨r6, s3, e4, h⟩ := bd_some h
        have k5 := c_X14_ch e4 rx2
        have r7 : rg r6 := k5.1.2.2
        refine v_callV (st := []) cf14 oc87 k5 (lw_V q2901 q2903 qs160 q311 q2904) rfl yk_X14_ch ⟨Nat.le_of_ble_eq_true rfl, Nat.le_of_ble_eq_true rfl⟩ trivial ⟨kc87, trivial⟩ (Nat.le_of_ble_eq_true rfl) rfl dX14_skip_17 ?_
        obtain ⟨r11, s8, e9, h⟩ := bd_some h
        have k10 := c_X14_isWhite e9 r7
        have r12 : rg r11 := k10.1.2.2
        refine v_callS (st := []) k10 (lw_S q2905 q2906 q311 q2907) yk_X14_isWhite ⟨Nat.le_of_ble_eq_true rfl, Nat.le_of_ble_eq_true rfl⟩ trivial ⟨kc87, trivial⟩ (Nat.le_of_ble_eq_true rfl) rfl dX14_skip_20 ?_
        refine v_if_eq (tgt := 32) dX14_skip_23 r12 (by decide) (fun c13 => ?_) (fun c13 => ?_)
        · rw [if_pos c13] at h
          refine v_aload_n dX14_skip_32 0 rfl rfl ?_
          refine v_iload_n dX14_skip_33 1 rfl rfl ?_
          obtain ⟨r17, s14, e15, h⟩ := bd_some h
          have k16 := c_X14_ch e15 rx2
          have r18 : rg r17 := k16.1.2.2
          refine v_callV (st := []) cf14 oc87 k16 (lw_V q2901 q2903 qs160 q311 q2904) rfl yk_X14_ch ⟨Nat.le_of_ble_eq_true rfl, Nat.le_of_ble_eq_true rfl⟩ trivial ⟨kc87, trivial⟩ (Nat.le_of_ble_eq_true rfl) rfl dX14_skip_34 ?_
          refine v_bipush dX14_skip_37 rfl ?_
          refine v_icmp_ne (tgt := 65) dX14_skip_39 r18 (rgl rfl) (by decide) (fun c19 => ?_) (fun c19 => ?_)
          · rw [if_neg c19] at h
            exact wj_X14_skip_65 h rx2 rx3 ih hE
          · rw [if_pos c19] at h
            refine v_aload_n dX14_skip_42 0 rfl rfl ?_
            refine v_iload_n dX14_skip_43 1 rfl rfl ?_
            refine v_iconst dX14_skip_44 ?_
            refine v_iadd dX14_skip_45 ?_
            obtain ⟨r23, s20, e21, h⟩ := bd_some h
            have k22 := c_X14_ch e21 (w32_rg _)
            have r24 : rg r23 := k22.1.2.2
            refine v_callV (st := []) cf14 oc87 k22 (lw_V q2901 q2903 qs160 q311 q2904) rfl yk_X14_ch ⟨Nat.le_of_ble_eq_true rfl, Nat.le_of_ble_eq_true rfl⟩ trivial ⟨kc87, trivial⟩ (Nat.le_of_ble_eq_true rfl) rfl dX14_skip_46 ?_
            refine v_bipush dX14_skip_49 rfl ?_
            refine v_icmp_ne (tgt := 65) dX14_skip_51 r24 (rgl rfl) (by decide) (fun c25 => ?_) (fun c25 => ?_)
            · rw [if_neg c25] at h
              exact wj_X14_skip_65 h rx2 rx3 ih hE
            · rw [if_pos c25] at h
              refine v_aload_n dX14_skip_54 0 rfl rfl ?_
              refine v_iload_n dX14_skip_55 1 rfl rfl ?_
              refine v_iconst dX14_skip_56 ?_
              refine v_iadd dX14_skip_57 ?_
              obtain ⟨r29, s26, e27, h⟩ := bd_some h
              have k28 := c_X14_skipLine e27 (w32_rg _)
              have r30 : rg r29 := k28.1.2.2
              refine v_callV (st := []) cf14 oc87 k28 (lw_V q2908 q2910 qs161 q311 q2911) rfl yk_X14_skipLine ⟨Nat.le_of_ble_eq_true rfl, Nat.le_of_ble_eq_true rfl⟩ trivial ⟨kc87, trivial⟩ (Nat.le_of_ble_eq_true rfl) rfl dX14_skip_58 ?_
              refine v_istore_n (L1 := [(2, vI r29), (0, vO 87), (3, vI x3)]) dX14_skip_61 rfl (by decide) rfl ?_
              refine v_goto (tgt := 4) dX14_skip_62 (by decide) ?_
              refine v_sub [1, 0, 2] (L1 := [(0, vO 87), (2, vI r29), (3, vI x3)]) rfl ?_
              exact ih r29 x3 s26 _ h r30 rx3 hE
        · rw [if_neg c13] at h
          obtain ⟨y31, e32, h⟩ := vl_some h
          refine v_iinc (L1 := [(2, vI (w32 (x2 + 1))), (0, vO 87), (3, vI x3)]) dX14_skip_26 1 rfl (by decide) rfl ?_
          rw [← e32]
          have r33 : rg y31 := by rw [e32]; exact w32_rg _
          refine v_goto (tgt := 4) dX14_skip_29 (by decide) ?_
          refine v_sub [1, 0, 2] (L1 := [(0, vO 87), (2, vI y31), (3, vI x3)]) rfl ?_
          exact ih y31 x3 s8 _ h r33 rx3 hE

def f_X14_skip (x1 : Int) (s : vS) : Option (Int × vS) :=
  lq_1 (l_X14_skip_4 FU x1 1 s) fun y1 s2 =>
  some (y1, s2)
theorem yk_X14_skip : yOk yX14_skip 1 := ⟨by decide, by decide, by decide +kernel⟩
theorem c_X14_skip {x1 : Int} {s : vS} {out : Int × vS} (h : f_X14_skip x1 s = some out)  (rx1 : rg x1) : VC yX14_skip cX14_skip 4 (some .int) 2 45 [vO 87, vI x1] s (some (vI out.1)) out.2 [] := by
  unfold f_X14_skip at h
  refine VC.of RX14 (by decide) rfl (Nat.le_of_ble_eq_true rfl) ?_
  show VW cX14_skip (RX14, (some (vI out.1)), out.2, (some .int), 2, 45, 4, []) (P0 []) s 0 [(0, vO 87), (1, vI x1)] []
  refine v_iload_n dX14_skip_0 1 rfl rfl ?_
  refine v_istore_n (L1 := [(2, vI x1), (0, vO 87), (1, vI x1)]) dX14_skip_1 rfl (by decide) rfl ?_
  refine v_iconst dX14_skip_2 ?_
  refine v_istore_n (L1 := [(3, vI 1), (2, vI x1), (0, vO 87), (1, vI x1)]) dX14_skip_3 rfl (by decide) rfl ?_
  refine v_sub [2, 1, 0] (L1 := [(0, vO 87), (2, vI x1), (3, vI 1)]) rfl ?_
  obtain ⟨y1, s2, e3, h⟩ := lq_1_some h
  refine wl_X14_skip_4  FU x1 1 s _ e3 rx1 (rgl rfl) ?_
  unfold E_X14_skip_4
  intro y1' s2' z_ r4
  cases z_
  refine v_iload_n dX14_skip_101 0 rfl rfl ?_
  cases h
  exact v_iret r4 dX14_skip_102

def E_X14_wordAt_5 (rv : Option vA) (σo : vS) (q : (vS) ⊕ (Int × vS)) : Prop := (∀ (s' : vS), q = .inl s' → VW cX14_wordAt (RX14, rv, σo, (some .int), 0, 0, 6, []) (P0 []) s' 116 [] []) ∧ (∀ (v : Int) (s' : vS), q = .inr (v, s') → rv = some (vI v) ∧ σo = s')
def E_X14_wordAt_16 (x1 : Int) (x2 : Int) (x3 : Int) (x4 : Int) (rv : Option vA) (σo : vS) (q : Int × vS) : Prop := ∀ (x5' : Int) (s' : vS), q = (x5', s') → rg x5' → VW cX14_wordAt (RX14, rv, σo, (some .int), 0, 0, 6, []) (P0 []) s' 65 [(0, vO 87), (1, vI x1), (2, vI x2), (3, vI x3), (4, vI x4), (5, vI x5')] []
def l_X14_wordAt_16 : Nat → Int → Int → Int → Int → Int → vS → Option (Int × vS)
  | 0, _, _, _, _, _, _ => none
  | n + 1, x1, x2, x3, x4, x5, s =>
    gd (inb (w32 (x4 + x5)) (gN s 88)) <|
    if (gE s 88 (w32 (x4 + x5))) = 0 then
      some (x5, s)
    else
      if x2 ≤ (w32 (x1 + x5)) then
        some (x5, s)
      else
        gd (inb (w32 (x4 + x5)) (gN s 88)) <|
        gd (inb (w32 (x1 + x5)) (gN s 93)) <|
        if (gE s 88 (w32 (x4 + x5))) = (gE s 93 (w32 (x1 + x5))) then
          vl (w32 (x5 + 1)) fun y7 =>
          l_X14_wordAt_16 n x1 x2 x3 x4 y7 s
        else
          some (x5, s)
theorem wl_X14_wordAt_16 {x1 : Int} {x2 : Int} {x3 : Int} {x4 : Int} {rv : Option vA} {σo : vS}  (rx1 : rg x1) (rx2 : rg x2) (rx3 : rg x3) (rx4 : rg x4) : ∀ (n : Nat) (x5 : Int) (s : vS) (q : Int × vS), l_X14_wordAt_16 n x1 x2 x3 x4 x5 s = some q → rg x5 → E_X14_wordAt_16 x1 x2 x3 x4 rv σo q → VW cX14_wordAt (RX14, rv, σo, (some .int), 0, 0, 6, []) (P0 []) s 16 [(0, vO 87), (1, vI x1), (2, vI x2), (3, vI x3), (4, vI x4), (5, vI x5)] [] := by
  intro n
  induction n with
  | zero => intro x5 s q h; cases h
  | succ n ih =>
    intro x5 s q h rx5 hE
    unfold l_X14_wordAt_16 at h
    refine v_aload_n dX14_wordAt_16 0 rfl rfl ?_
    refine v_getS (f := 0) (t := 88) cf14 oc87 rfl rfl rfl (by decide) q2370 dX14_wordAt_17 ?_
    refine v_iload dX14_wordAt_20 4 rfl ?_
    refine v_iload dX14_wordAt_22 5 rfl ?_
    refine v_iadd dX14_wordAt_24 ?_
    obtain ⟨g1, h⟩ := gd_some h
    refine v_iald oc88 (w32_rg _) g1.1 g1.2 dX14_wordAt_25 ?_
    refine v_if_eq (tgt := 65) dX14_wordAt_26 (gE_rg _ _ _) (by decide) (fun c2 => ?_) (fun c2 => ?_)
    · rw [if_pos c2] at h
      cases h
      exact hE _ _ rfl rx5
    · rw [if_neg c2] at h
      refine v_iload_n dX14_wordAt_29 1 rfl rfl ?_
      refine v_iload dX14_wordAt_30 5 rfl ?_
      refine v_iadd dX14_wordAt_32 ?_
      refine v_iload_n dX14_wordAt_33 2 rfl rfl ?_
      refine v_icmp_ge (tgt := 65) dX14_wordAt_34 (w32_rg _) rx2 (by decide) (fun c3 => ?_) (fun c3 => ?_)
      · rw [if_pos c3] at h
        cases h
        exact hE _ _ rfl rx5
      · rw [if_neg c3] at h
        refine v_aload_n dX14_wordAt_37 0 rfl rfl ?_
        refine v_getS (f := 0) (t := 88) cf14 oc87 rfl rfl rfl (by decide) q2370 dX14_wordAt_38 ?_
        refine v_iload dX14_wordAt_41 4 rfl ?_
        refine v_iload dX14_wordAt_43 5 rfl ?_
        refine v_iadd dX14_wordAt_45 ?_
        obtain ⟨g4, h⟩ := gd_some h
        refine v_iald oc88 (w32_rg _) g4.1 g4.2 dX14_wordAt_46 ?_
        refine v_aload_n dX14_wordAt_47 0 rfl rfl ?_
        refine v_getS (f := 14) (t := 93) cf14 oc87 rfl rfl rfl (by decide) q2384 dX14_wordAt_48 ?_
        refine v_iload_n dX14_wordAt_51 1 rfl rfl ?_
        refine v_iload dX14_wordAt_52 5 rfl ?_
        refine v_iadd dX14_wordAt_54 ?_
        obtain ⟨g5, h⟩ := gd_some h
        refine v_iald oc93 (w32_rg _) g5.1 g5.2 dX14_wordAt_55 ?_
        refine v_icmp_ne (tgt := 65) dX14_wordAt_56 (gE_rg _ _ _) (gE_rg _ _ _) (by decide) (fun c6 => ?_) (fun c6 => ?_)
        · rw [if_neg c6] at h
          cases h
          exact hE _ _ rfl rx5
        · rw [if_pos c6] at h
          obtain ⟨y7, e8, h⟩ := vl_some h
          refine v_iinc (L1 := [(5, vI (w32 (x5 + 1))), (0, vO 87), (1, vI x1), (2, vI x2), (3, vI x3), (4, vI x4)]) dX14_wordAt_59 5 rfl (by decide) rfl ?_
          rw [← e8]
          have r9 : rg y7 := by rw [e8]; exact w32_rg _
          refine v_goto (tgt := 16) dX14_wordAt_62 (by decide) ?_
          refine v_sub [1, 2, 3, 4, 5, 0] (L1 := [(0, vO 87), (1, vI x1), (2, vI x2), (3, vI x3), (4, vI x4), (5, vI y7)]) rfl ?_
          exact ih y7 s _ h r9 hE

def E_X14_wordAt_91 (x1 : Int) (x2 : Int) (x3 : Int) (rv : Option vA) (σo : vS) (q : Int × vS) : Prop := ∀ (x4' : Int) (s' : vS), q = (x4', s') → rg x4' → VW cX14_wordAt (RX14, rv, σo, (some .int), 0, 0, 6, []) (P0 []) s' 107 [(0, vO 87), (1, vI x1), (2, vI x2), (3, vI x3), (4, vI x4')] []
def l_X14_wordAt_91 : Nat → Int → Int → Int → Int → vS → Option (Int × vS)
  | 0, _, _, _, _, _ => none
  | n + 1, x1, x2, x3, x4, s =>
    gd (inb x4 (gN s 88)) <|
    if (gE s 88 x4) = 0 then
      some (x4, s)
    else
      vl (w32 (x4 + 1)) fun y3 =>
      l_X14_wordAt_91 n x1 x2 x3 y3 s
theorem wl_X14_wordAt_91 {x1 : Int} {x2 : Int} {x3 : Int} {rv : Option vA} {σo : vS}  (rx1 : rg x1) (rx2 : rg x2) (rx3 : rg x3) : ∀ (n : Nat) (x4 : Int) (s : vS) (q : Int × vS), l_X14_wordAt_91 n x1 x2 x3 x4 s = some q → rg x4 → E_X14_wordAt_91 x1 x2 x3 rv σo q → VW cX14_wordAt (RX14, rv, σo, (some .int), 0, 0, 6, []) (P0 []) s 91 [(0, vO 87), (1, vI x1), (2, vI x2), (3, vI x3), (4, vI x4)] [] := by
  intro n
  induction n with
  | zero => intro x4 s q h; cases h
  | succ n ih =>
    intro x4 s q h rx4 hE
    unfold l_X14_wordAt_91 at h
    refine v_aload_n dX14_wordAt_91 0 rfl rfl ?_
    refine v_getS (f := 0) (t := 88) cf14 oc87 rfl rfl rfl (by decide) q2370 dX14_wordAt_92 ?_
    refine v_iload dX14_wordAt_95 4 rfl ?_
    obtain ⟨g1, h⟩ := gd_some h
    refine v_iald oc88 rx4 g1.1 g1.2 dX14_wordAt_97 ?_
    refine v_if_eq (tgt := 107) dX14_wordAt_98 (gE_rg _ _ _) (by decide) (fun c2 => ?_) (fun c2 => ?_)
    · rw [if_pos c2] at h
      cases h
      exact hE _ _ rfl rx4
    · rw [if_neg c2] at h
      obtain ⟨y3, e4, h⟩ := vl_some h
      refine v_iinc (L1 := [(4, vI (w32 (x4 + 1))), (0, vO 87), (1, vI x1), (2, vI x2), (3, vI x3)]) dX14_wordAt_101 4 rfl (by decide) rfl ?_
      rw [← e4]
      have r5 : rg y3 := by rw [e4]; exact w32_rg _
      refine v_goto (tgt := 91) dX14_wordAt_104 (by decide) ?_
      refine v_sub [1, 2, 3, 4, 0] (L1 := [(0, vO 87), (1, vI x1), (2, vI x2), (3, vI x3), (4, vI y3)]) rfl ?_
      exact ih y3 s _ h r5 hE

def j_X14_wordAt_65 (rec : Int → Int → Int → Int → vS → Option ((vS) ⊕ (Int × vS))) (x1 : Int) (x2 : Int) (x3 : Int) (x4 : Int) (x5 : Int) (s : vS) : Option ((vS) ⊕ (Int × vS)) :=
  gd (inb (w32 (x4 + x5)) (gN s 88)) <|
  if (gE s 88 (w32 (x4 + x5))) = 0 then
    if (w32 (x1 + x5)) = x2 then
      some (.inr (w32 (40 + x3), s))
    else
      lq_1 (l_X14_wordAt_91 FU x1 x2 x3 x4 s) fun y14 s15 =>
      vl (w32 (y14 + 1)) fun y18 =>
      vl (w32 (x3 + 1)) fun y21 =>
      rec x1 x2 y21 y18 s15
  else
    lq_1 (l_X14_wordAt_91 FU x1 x2 x3 x4 s) fun y3 s4 =>
    vl (w32 (y3 + 1)) fun y7 =>
    vl (w32 (x3 + 1)) fun y10 =>
    rec x1 x2 y10 y7 s4
theorem wj_X14_wordAt_65 {x1 : Int} {x2 : Int} {x3 : Int} {x4 : Int} {x5 : Int} {s : vS} {rv : Option vA} {σo : vS} {rec : Int → Int → Int → Int → vS → Option ((vS) ⊕ (Int × vS))} {q : (vS) ⊕ (Int × vS)} (h : j_X14_wordAt_65 rec x1 x2 x3 x4 x5 s = some q)  (rx1 : rg x1) (rx2 : rg x2) (rx3 : rg x3) (rx4 : rg x4) (rx5 : rg x5) (hrec : ∀ (y3 : Int) (y4 : Int) (s : vS) (q : (vS) ⊕ (Int × vS)), rec x1 x2 y3 y4 s = some q → rg y3 → rg y4 → E_X14_wordAt_5 rv σo q → VW cX14_wordAt (RX14, rv, σo, (some .int), 0, 0, 6, []) (P0 []) s 5 [(0, vO 87), (1, vI x1), (2, vI x2), (3, vI y3), (4, vI y4)] []) (hE : E_X14_wordAt_5 rv σo q) : VW cX14_wordAt (RX14, rv, σo, (some .int), 0, 0, 6, []) (P0 []) s 65 [(0, vO 87), (1, vI x1), (2, vI x2), (3, vI x3), (4, vI x4), (5, vI x5)] [] := by
  unfold j_X14_wordAt_65 at h
  refine v_aload_n dX14_wordAt_65 0 rfl rfl ?_
  refine v_getS (f := 0) (t := 88) cf14 oc87 rfl rfl rfl (by decide) q2370 dX14_wordAt_66 ?_
  refine v_iload dX14_wordAt_69 4 rfl ?_
  refine v_iload dX14_wordAt_71 5 rfl ?_
  refine v_iadd dX14_wordAt_73 ?_
  obtain ⟨g1, h⟩ := gd_some h
  refine v_iald oc88 (w32_rg _) g1.1 g1.2 dX14_wordAt_74 ?_
  refine v_if_ne (tgt := 91) dX14_wordAt_75 (gE_rg _ _ _) (by decide) (fun c2 => ?_) (fun c2 => ?_)
  · rw [if_neg c2] at h
    refine v_sub [0, 1, 2, 3, 4] (L1 := [(0, vO 87), (1, vI x1), (2, vI x2), (3, vI x3), (4, vI x4)]) rfl ?_
    obtain ⟨y3, s4, e5, h⟩ := lq_1_some h
    refine wl_X14_wordAt_91 rx1 rx2 rx3 FU x4 s _ e5 rx4 ?_
    unfold E_X14_wordAt_91
    intro y3' s4' z_ r6
    cases z_
    obtain ⟨y7, e8, h⟩ := vl_some h
    refine v_iinc (L1 := [(4, vI (w32 (y3 + 1))), (0, vO 87), (1, vI x1), (2, vI x2), (3, vI x3)]) dX14_wordAt_107 4 rfl (by decide) rfl ?_
    rw [← e8]
    have r9 : rg y7 := by rw [e8]; exact w32_rg _
    obtain ⟨y10, e11, h⟩ := vl_some h
    refine v_iinc (L1 := [(3, vI (w32 (x3 + 1))), (4, vI y7), (0, vO 87), (1, vI x1), (2, vI x2)]) dX14_wordAt_110 4 rfl (by decide) rfl ?_
    rw [← e11]
    have r12 : rg y10 := by rw [e11]; exact w32_rg _
    refine v_goto (tgt := 5) dX14_wordAt_113 (by decide) ?_
    refine v_sub [2, 3, 4, 0, 1] (L1 := [(0, vO 87), (1, vI x1), (2, vI x2), (3, vI y10), (4, vI y7)]) rfl ?_
    exact hrec y10 y7 s4 _ h r12 r9 hE
  · rw [if_pos c2] at h
    refine v_iload_n dX14_wordAt_78 1 rfl rfl ?_
    refine v_iload dX14_wordAt_79 5 rfl ?_
    refine v_iadd dX14_wordAt_81 ?_
    refine v_iload_n dX14_wordAt_82 2 rfl rfl ?_
    refine v_icmp_ne (tgt := 91) dX14_wordAt_83 (w32_rg _) rx2 (by decide) (fun c13 => ?_) (fun c13 => ?_)
    · rw [if_neg c13] at h
      refine v_sub [0, 1, 2, 3, 4] (L1 := [(0, vO 87), (1, vI x1), (2, vI x2), (3, vI x3), (4, vI x4)]) rfl ?_
      obtain ⟨y14, s15, e16, h⟩ := lq_1_some h
      refine wl_X14_wordAt_91 rx1 rx2 rx3 FU x4 s _ e16 rx4 ?_
      unfold E_X14_wordAt_91
      intro y14' s15' z_ r17
      cases z_
      obtain ⟨y18, e19, h⟩ := vl_some h
      refine v_iinc (L1 := [(4, vI (w32 (y14 + 1))), (0, vO 87), (1, vI x1), (2, vI x2), (3, vI x3)]) dX14_wordAt_107 4 rfl (by decide) rfl ?_
      rw [← e19]
      have r20 : rg y18 := by rw [e19]; exact w32_rg _
      obtain ⟨y21, e22, h⟩ := vl_some h
      refine v_iinc (L1 := [(3, vI (w32 (x3 + 1))), (4, vI y18), (0, vO 87), (1, vI x1), (2, vI x2)]) dX14_wordAt_110 4 rfl (by decide) rfl ?_
      rw [← e22]
      have r23 : rg y21 := by rw [e22]; exact w32_rg _
      refine v_goto (tgt := 5) dX14_wordAt_113 (by decide) ?_
      refine v_sub [2, 3, 4, 0, 1] (L1 := [(0, vO 87), (1, vI x1), (2, vI x2), (3, vI y21), (4, vI y18)]) rfl ?_
      exact hrec y21 y18 s15 _ h r23 r20 hE
    · rw [if_pos c13] at h
      refine v_bipush dX14_wordAt_86 rfl ?_
      refine v_iload_n dX14_wordAt_88 3 rfl rfl ?_
      refine v_iadd dX14_wordAt_89 ?_
      cases h
      obtain ⟨z1, z2⟩ := hE.2 _ _ rfl
      subst z1
      subst z2
      exact v_iret (w32_rg _) dX14_wordAt_90

def l_X14_wordAt_5 : Nat → Int → Int → Int → Int → vS → Option ((vS) ⊕ (Int × vS))
  | 0, _, _, _, _, _ => none
  | n + 1, x1, x2, x3, x4, s =>
    if 686 ≤ x4 then
      some (.inl s)
    else
      lq_1 (l_X14_wordAt_16 FU x1 x2 x3 x4 0 s) fun y2 s3 =>
      j_X14_wordAt_65 (l_X14_wordAt_5 n) x1 x2 x3 x4 y2 s3
theorem wl_X14_wordAt_5 {x1 : Int} {x2 : Int} {rv : Option vA} {σo : vS}  (rx1 : rg x1) (rx2 : rg x2) : ∀ (n : Nat) (x3 : Int) (x4 : Int) (s : vS) (q : (vS) ⊕ (Int × vS)), l_X14_wordAt_5 n x1 x2 x3 x4 s = some q → rg x3 → rg x4 → E_X14_wordAt_5 rv σo q → VW cX14_wordAt (RX14, rv, σo, (some .int), 0, 0, 6, []) (P0 []) s 5 [(0, vO 87), (1, vI x1), (2, vI x2), (3, vI x3), (4, vI x4)] [] := by
  intro n
  induction n with
  | zero => intro x3 x4 s q h; cases h
  | succ n ih =>
    intro x3 x4 s q h rx3 rx4 hE
    unfold l_X14_wordAt_5 at h
    refine v_iload dX14_wordAt_5 4 rfl ?_
    refine v_sipush dX14_wordAt_7 rfl ?_
    refine v_icmp_ge (tgt := 116) dX14_wordAt_10 rx4 (rgl rfl) (by decide) (fun c1 => ?_) (fun c1 => ?_)
    · rw [if_pos c1] at h
      cases h
      refine v_sub [] (L1 := []) rfl ?_
      exact hE.1 _ rfl 
    · rw [if_neg c1] at h
      refine v_iconst dX14_wordAt_13 ?_
      refine v_istore (L1 := [(5, vI 0), (0, vO 87), (1, vI x1), (2, vI x2), (3, vI x3), (4, vI x4)]) dX14_wordAt_14 (by decide) rfl ?_
      refine v_sub [1, 2, 3, 4, 5, 0] (L1 := [(0, vO 87), (1, vI x1), (2, vI x2), (3, vI x3), (4, vI x4), (5, vI 0)]) rfl ?_
      obtain ⟨y2, s3, e4, h⟩ := lq_1_some h
      refine wl_X14_wordAt_16 rx1 rx2 rx3 rx4 FU 0 s _ e4 (rgl rfl) ?_
      unfold E_X14_wordAt_16
      intro y2' s3' z_ r5
      cases z_
      exact wj_X14_wordAt_65 h rx1 rx2 rx3 rx4 r5 ih hE

def f_X14_wordAt (x1 : Int) (x2 : Int) (s : vS) : Option (Int × vS) :=
  lqs_0 (l_X14_wordAt_5 FU x1 x2 0 0 s) (fun s1 =>
    some (1, s1))
    (fun q => some q)
theorem yk_X14_wordAt : yOk yX14_wordAt 2 := ⟨by decide, by decide, by decide +kernel⟩
theorem c_X14_wordAt {x1 : Int} {x2 : Int} {s : vS} {out : Int × vS} (h : f_X14_wordAt x1 x2 s = some out)  (rx1 : rg x1) (rx2 : rg x2) : VC yX14_wordAt cX14_wordAt 6 (some .int) 0 0 [vO 87, vI x1, vI x2] s (some (vI out.1)) out.2 [] := by
  unfold f_X14_wordAt at h
  refine VC.of RX14 (by decide) rfl (Nat.le_of_ble_eq_true rfl) ?_
  show VW cX14_wordAt (RX14, (some (vI out.1)), out.2, (some .int), 0, 0, 6, []) (P0 []) s 0 [(0, vO 87), (1, vI x1), (2, vI x2)] []
  refine v_iconst dX14_wordAt_0 ?_
  refine v_istore_n (L1 := [(3, vI 0), (0, vO 87), (1, vI x1), (2, vI x2)]) dX14_wordAt_1 rfl (by decide) rfl ?_
  refine v_iconst dX14_wordAt_2 ?_
  refine v_istore (L1 := [(4, vI 0), (3, vI 0), (0, vO 87), (1, vI x1), (2, vI x2)]) dX14_wordAt_3 (by decide) rfl ?_
  refine v_sub [2, 3, 4, 1, 0] (L1 := [(0, vO 87), (1, vI x1), (2, vI x2), (3, vI 0), (4, vI 0)]) rfl ?_
  rcases lqs_0_some h with ⟨s1, e2, h⟩ | ⟨q9, e2, h⟩
  · refine wl_X14_wordAt_5 rx1 rx2 FU 0 0 s _ e2 (rgl rfl) (rgl rfl) ?_
    unfold E_X14_wordAt_5
    refine ⟨?_, fun v9 s9 z_ => (by cases z_)⟩
    intro s1' z_
    cases z_
    refine v_iconst dX14_wordAt_116 ?_
    cases h
    exact v_iret (rgl rfl) dX14_wordAt_117
  · cases h
    refine wl_X14_wordAt_5 rx1 rx2 FU 0 0 s _ e2 (rgl rfl) (rgl rfl) ?_
    unfold E_X14_wordAt_5
    refine ⟨fun _ z_ => (by cases z_), ?_⟩
    intro v9 s9 z_
    cases z_
    exact ⟨rfl, rfl⟩

def E_X14_nameEnd_2 (rv : Option vA) (σo : vS) (q : Int × vS) : Prop := ∀ (x2' : Int) (s' : vS), q = (x2', s') → rg x2' → VW cX14_nameEnd (RX14, rv, σo, (some .int), 3, 62, 3, []) (P0 []) s' 42 [(2, vI x2')] []
def l_X14_nameEnd_2 : Nat → Int → vS → Option (Int × vS)
  | 0, _, _ => none
  | n + 1, x2, s =>
    bd (f_X14_ch x2 s) fun r4 s1 =>
    bd (f_X14_isNameChar r4 s1) fun r9 s6 =>
    if r9 = 0 then
      bd (f_X14_ch x2 s6) fun r18 s15 =>
      if r18 = 45 then
        bd (f_X14_ch (w32 (x2 + 1)) s15) fun r24 s21 =>
        bd (f_X14_isNameChar r24 s21) fun r29 s26 =>
        if r29 = 0 then
          some (x2, s26)
        else
          vl (w32 (x2 + 1)) fun y32 =>
          l_X14_nameEnd_2 n y32 s26
      else
        some (x2, s15)
    else
      vl (w32 (x2 + 1)) fun y12 =>
      l_X14_nameEnd_2 n y12 s6
theorem wl_X14_nameEnd_2 {rv : Option vA} {σo : vS}  : ∀ (n : Nat) (x2 : Int) (s : vS) (q : Int × vS), l_X14_nameEnd_2 n x2 s = some q → rg x2 → E_X14_nameEnd_2 rv σo q → VW cX14_nameEnd (RX14, rv, σo, (some .int), 3, 62, 3, []) (P0 []) s 2 [(0, vO 87), (2, vI x2)] [] := by
  intro n
  induction n with
  | zero => intro x2 s q h; cases h
  | succ n ih =>
    intro x2 s q h rx2 hE
    unfold l_X14_nameEnd_2 at h
    refine v_aload_n dX14_nameEnd_2 0 rfl rfl ?_
    refine v_iload_n dX14_nameEnd_3 1 rfl rfl ?_
    obtain ⟨r4, s1, e2, h⟩ := bd_some h
    have k3 := c_X14_ch e2 rx2
    have r5 : rg r4 := k3.1.2.2
    refine v_callV (st := []) cf14 oc87 k3 (lw_V q2901 q2903 qs160 q311 q2904) rfl yk_X14_ch ⟨Nat.le_of_ble_eq_true rfl, Nat.le_of_ble_eq_true rfl⟩ trivial ⟨kc87, trivial⟩ (Nat.le_of_ble_eq_true rfl) rfl dX14_nameEnd_4 ?_
    obtain ⟨r9, s6, e7, h⟩ := bd_some h
    have k8 := c_X14_isNameChar e7 r5
    have r10 : rg r9 := k8.1.2.2
    refine v_callS (st := []) k8 (lw_S q2930 q2931 q311 q2932) yk_X14_isNameChar ⟨Nat.le_of_ble_eq_true rfl, Nat.le_of_ble_eq_true rfl⟩ trivial ⟨kc87, trivial⟩ (Nat.le_of_ble_eq_true rfl) rfl dX14_nameEnd_7 ?_
    refine v_if_ne (tgt := 36) dX14_nameEnd_10 r10 (by decide) (fun c11 => ?_) (fun c11 => ?_)
    · rw [if_neg c11] at h
      obtain ⟨y12, e13, h⟩ := vl_some h
      refine v_iinc (L1 := [(2, vI (w32 (x2 + 1))), (0, vO 87)]) dX14_nameEnd_36 1 rfl (by decide) rfl ?_
      rw [← e13]
      have r14 : rg y12 := by rw [e13]; exact w32_rg _
      refine v_goto (tgt := 2) dX14_nameEnd_39 (by decide) ?_
      refine v_sub [1, 0] (L1 := [(0, vO 87), (2, vI y12)]) rfl ?_
      exact ih y12 s6 _ h r14 hE
    · rw [if_pos c11] at h
      refine v_aload_n dX14_nameEnd_13 0 rfl rfl ?_
      refine v_iload_n dX14_nameEnd_14 1 rfl rfl ?_
      obtain ⟨r18, s15, e16, h⟩ := bd_some h
      have k17 := c_X14_ch e16 rx2
      have r19 : rg r18 := k17.1.2.2
      refine v_callV (st := []) cf14 oc87 k17 (lw_V q2901 q2903 qs160 q311 q2904) rfl yk_X14_ch ⟨Nat.le_of_ble_eq_true rfl, Nat.le_of_ble_eq_true rfl⟩ trivial ⟨kc87, trivial⟩ (Nat.le_of_ble_eq_true rfl) rfl dX14_nameEnd_15 ?_
      refine v_bipush dX14_nameEnd_18 rfl ?_
      refine v_icmp_ne (tgt := 42) dX14_nameEnd_20 r19 (rgl rfl) (by decide) (fun c20 => ?_) (fun c20 => ?_)
      · rw [if_neg c20] at h
        cases h
        refine v_sub [1] (L1 := [(2, vI x2)]) rfl ?_
        exact hE _ _ rfl rx2
      · rw [if_pos c20] at h
        refine v_aload_n dX14_nameEnd_23 0 rfl rfl ?_
        refine v_iload_n dX14_nameEnd_24 1 rfl rfl ?_
        refine v_iconst dX14_nameEnd_25 ?_
        refine v_iadd dX14_nameEnd_26 ?_
        obtain ⟨r24, s21, e22, h⟩ := bd_some h
        have k23 := c_X14_ch e22 (w32_rg _)
        have r25 : rg r24 := k23.1.2.2
        refine v_callV (st := []) cf14 oc87 k23 (lw_V q2901 q2903 qs160 q311 q2904) rfl yk_X14_ch ⟨Nat.le_of_ble_eq_true rfl, Nat.le_of_ble_eq_true rfl⟩ trivial ⟨kc87, trivial⟩ (Nat.le_of_ble_eq_true rfl) rfl dX14_nameEnd_27 ?_
        obtain ⟨r29, s26, e27, h⟩ := bd_some h
        have k28 := c_X14_isNameChar e27 r25
        have r30 : rg r29 := k28.1.2.2
        refine v_callS (st := []) k28 (lw_S q2930 q2931 q311 q2932) yk_X14_isNameChar ⟨Nat.le_of_ble_eq_true rfl, Nat.le_of_ble_eq_true rfl⟩ trivial ⟨kc87, trivial⟩ (Nat.le_of_ble_eq_true rfl) rfl dX14_nameEnd_30 ?_
        refine v_if_eq (tgt := 42) dX14_nameEnd_33 r30 (by decide) (fun c31 => ?_) (fun c31 => ?_)
        · rw [if_pos c31] at h
          cases h
          refine v_sub [1] (L1 := [(2, vI x2)]) rfl ?_
          exact hE _ _ rfl rx2
        · rw [if_neg c31] at h
          obtain ⟨y32, e33, h⟩ := vl_some h
          refine v_iinc (L1 := [(2, vI (w32 (x2 + 1))), (0, vO 87)]) dX14_nameEnd_36 1 rfl (by decide) rfl ?_
          rw [← e33]
          have r34 : rg y32 := by rw [e33]; exact w32_rg _
          refine v_goto (tgt := 2) dX14_nameEnd_39 (by decide) ?_
          refine v_sub [1, 0] (L1 := [(0, vO 87), (2, vI y32)]) rfl ?_
          exact ih y32 s26 _ h r34 hE

def f_X14_nameEnd (x1 : Int) (s : vS) : Option (Int × vS) :=
  lq_1 (l_X14_nameEnd_2 FU x1 s) fun y1 s2 =>
  some (y1, s2)
theorem yk_X14_nameEnd : yOk yX14_nameEnd 1 := ⟨by decide, by decide, by decide +kernel⟩
theorem c_X14_nameEnd {x1 : Int} {s : vS} {out : Int × vS} (h : f_X14_nameEnd x1 s = some out)  (rx1 : rg x1) : VC yX14_nameEnd cX14_nameEnd 3 (some .int) 3 62 [vO 87, vI x1] s (some (vI out.1)) out.2 [] := by
  unfold f_X14_nameEnd at h
  refine VC.of RX14 (by decide) rfl (Nat.le_of_ble_eq_true rfl) ?_
  show VW cX14_nameEnd (RX14, (some (vI out.1)), out.2, (some .int), 3, 62, 3, []) (P0 []) s 0 [(0, vO 87), (1, vI x1)] []
  refine v_iload_n dX14_nameEnd_0 1 rfl rfl ?_
  refine v_istore_n (L1 := [(2, vI x1), (0, vO 87), (1, vI x1)]) dX14_nameEnd_1 rfl (by decide) rfl ?_
  refine v_sub [1, 0] (L1 := [(0, vO 87), (2, vI x1)]) rfl ?_
  obtain ⟨y1, s2, e3, h⟩ := lq_1_some h
  refine wl_X14_nameEnd_2  FU x1 s _ e3 rx1 ?_
  unfold E_X14_nameEnd_2
  intro y1' s2' z_ r4
  cases z_
  refine v_iload_n dX14_nameEnd_42 0 rfl rfl ?_
  cases h
  exact v_iret r4 dX14_nameEnd_43

def E_X14_quoted_6 (x1 : Int) (rv : Option vA) (σo : vS) (q : Int × Int × vS) : Prop := ∀ (x2' : Int) (x3' : Int) (s' : vS), q = (x2', x3', s') → rg x2' → rg x3' → VW cX14_quoted (RX14, rv, σo, (some .int), 2, 42, 5, []) (P0 []) s' 85 [(0, vO 87), (1, vI x1), (2, vI x2'), (3, vI x3')] []
def j_X14_quoted_43 (rec : Int → Int → Int → vS → Option (Int × Int × vS)) (x1 : Int) (x2 : Int) (x3 : Int) (s : vS) : Option (Int × Int × vS) :=
  if x3 = 0 then
    vl (w32 (x2 + 1)) fun y2 =>
    rec x1 y2 0 s
  else
    bd (f_X14_ch x2 s) fun r8 s5 =>
    bd (f_X14_isWhite r8 s5) fun r13 s10 =>
    if r13 = 0 then
      bd (f_X14_ch x2 s10) fun r22 s19 =>
      bd (f_X14_within r22 48 49 s19) fun r27 s24 =>
      if r27 = 0 then
        vl (w32 (x2 + 1)) fun y30 =>
        rec x1 y30 0 s24
      else
        vl (w32 (x2 + 1)) fun y33 =>
        rec x1 y33 1 s24
    else
      vl (w32 (x2 + 1)) fun y16 =>
      rec x1 y16 1 s10
theorem wj_X14_quoted_43 {x1 : Int} {x2 : Int} {x3 : Int} {s : vS} {rv : Option vA} {σo : vS} {rec : Int → Int → Int → vS → Option (Int × Int × vS)} {q : Int × Int × vS} (h : j_X14_quoted_43 rec x1 x2 x3 s = some q)  (rx1 : rg x1) (rx2 : rg x2) (rx3 : rg x3) (hrec : ∀ (y2 : Int) (y3 : Int) (s : vS) (q : Int × Int × vS), rec x1 y2 y3 s = some q → rg y2 → rg y3 → E_X14_quoted_6 x1 rv σo q → VW cX14_quoted (RX14, rv, σo, (some .int), 2, 42, 5, []) (P0 []) s 6 [(0, vO 87), (1, vI x1), (2, vI y2), (3, vI y3)] []) (hE : E_X14_quoted_6 x1 rv σo q) : VW cX14_quoted (RX14, rv, σo, (some .int), 2, 42, 5, []) (P0 []) s 43 [(0, vO 87), (1, vI x1), (2, vI x2), (3, vI x3)] [] := by
  unfold j_X14_quoted_43 at h
  refine v_iload_n dX14_quoted_43 3 rfl rfl ?_
  refine v_if_eq (tgt := 77) dX14_quoted_44 rx3 (by decide) (fun c1 => ?_) (fun c1 => ?_)
  · rw [if_pos c1] at h
    refine v_iconst dX14_quoted_77 ?_
    refine v_istore_n (L1 := [(3, vI 0), (0, vO 87), (1, vI x1), (2, vI x2)]) dX14_quoted_78 rfl (by decide) rfl ?_
    obtain ⟨y2, e3, h⟩ := vl_some h
    refine v_iinc (L1 := [(2, vI (w32 (x2 + 1))), (3, vI 0), (0, vO 87), (1, vI x1)]) dX14_quoted_79 3 rfl (by decide) rfl ?_
    rw [← e3]
    have r4 : rg y2 := by rw [e3]; exact w32_rg _
    refine v_goto (tgt := 6) dX14_quoted_82 (by decide) ?_
    refine v_sub [2, 3, 0, 1] (L1 := [(0, vO 87), (1, vI x1), (2, vI y2), (3, vI 0)]) rfl ?_
    exact hrec y2 0 s _ h r4 (rgl rfl) hE
  · rw [if_neg c1] at h
    refine v_aload_n dX14_quoted_47 0 rfl rfl ?_
    refine v_iload_n dX14_quoted_48 2 rfl rfl ?_
    obtain ⟨r8, s5, e6, h⟩ := bd_some h
    have k7 := c_X14_ch e6 rx2
    have r9 : rg r8 := k7.1.2.2
    refine v_callV (st := []) cf14 oc87 k7 (lw_V q2901 q2903 qs160 q311 q2904) rfl yk_X14_ch ⟨Nat.le_of_ble_eq_true rfl, Nat.le_of_ble_eq_true rfl⟩ trivial ⟨kc87, trivial⟩ (Nat.le_of_ble_eq_true rfl) rfl dX14_quoted_49 ?_
    obtain ⟨r13, s10, e11, h⟩ := bd_some h
    have k12 := c_X14_isWhite e11 r9
    have r14 : rg r13 := k12.1.2.2
    refine v_callS (st := []) k12 (lw_S q2905 q2906 q311 q2907) yk_X14_isWhite ⟨Nat.le_of_ble_eq_true rfl, Nat.le_of_ble_eq_true rfl⟩ trivial ⟨kc87, trivial⟩ (Nat.le_of_ble_eq_true rfl) rfl dX14_quoted_52 ?_
    refine v_if_ne (tgt := 73) dX14_quoted_55 r14 (by decide) (fun c15 => ?_) (fun c15 => ?_)
    · rw [if_neg c15] at h
      refine v_iconst dX14_quoted_73 ?_
      refine v_goto (tgt := 78) dX14_quoted_74 (by decide) ?_
      refine v_istore_n (L1 := [(3, vI 1), (0, vO 87), (1, vI x1), (2, vI x2)]) dX14_quoted_78 rfl (by decide) rfl ?_
      obtain ⟨y16, e17, h⟩ := vl_some h
      refine v_iinc (L1 := [(2, vI (w32 (x2 + 1))), (3, vI 1), (0, vO 87), (1, vI x1)]) dX14_quoted_79 3 rfl (by decide) rfl ?_
      rw [← e17]
      have r18 : rg y16 := by rw [e17]; exact w32_rg _
      refine v_goto (tgt := 6) dX14_quoted_82 (by decide) ?_
      refine v_sub [2, 3, 0, 1] (L1 := [(0, vO 87), (1, vI x1), (2, vI y16), (3, vI 1)]) rfl ?_
      exact hrec y16 1 s10 _ h r18 (rgl rfl) hE
    · rw [if_pos c15] at h
      refine v_aload_n dX14_quoted_58 0 rfl rfl ?_
      refine v_iload_n dX14_quoted_59 2 rfl rfl ?_
      obtain ⟨r22, s19, e20, h⟩ := bd_some h
      have k21 := c_X14_ch e20 rx2
      have r23 : rg r22 := k21.1.2.2
      refine v_callV (st := []) cf14 oc87 k21 (lw_V q2901 q2903 qs160 q311 q2904) rfl yk_X14_ch ⟨Nat.le_of_ble_eq_true rfl, Nat.le_of_ble_eq_true rfl⟩ trivial ⟨kc87, trivial⟩ (Nat.le_of_ble_eq_true rfl) rfl dX14_quoted_60 ?_
      refine v_bipush dX14_quoted_63 rfl ?_
      refine v_bipush dX14_quoted_65 rfl ?_
      obtain ⟨r27, s24, e25, h⟩ := bd_some h
      have k26 := c_X14_within e25 r23 (rgl rfl) (rgl rfl)
      have r28 : rg r27 := k26.1.2.2
      refine v_callS (st := []) k26 (lw_S q2878 q2879 q311 q2880) yk_X14_within ⟨Nat.le_of_ble_eq_true rfl, Nat.le_of_ble_eq_true rfl⟩ trivial ⟨kc87, trivial⟩ (Nat.le_of_ble_eq_true rfl) rfl dX14_quoted_67 ?_
      refine v_if_eq (tgt := 77) dX14_quoted_70 r28 (by decide) (fun c29 => ?_) (fun c29 => ?_)
      · rw [if_pos c29] at h
        refine v_iconst dX14_quoted_77 ?_
        refine v_istore_n (L1 := [(3, vI 0), (0, vO 87), (1, vI x1), (2, vI x2)]) dX14_quoted_78 rfl (by decide) rfl ?_
        obtain ⟨y30, e31, h⟩ := vl_some h
        refine v_iinc (L1 := [(2, vI (w32 (x2 + 1))), (3, vI 0), (0, vO 87), (1, vI x1)]) dX14_quoted_79 3 rfl (by decide) rfl ?_
        rw [← e31]
        have r32 : rg y30 := by rw [e31]; exact w32_rg _
        refine v_goto (tgt := 6) dX14_quoted_82 (by decide) ?_
        refine v_sub [2, 3, 0, 1] (L1 := [(0, vO 87), (1, vI x1), (2, vI y30), (3, vI 0)]) rfl ?_
        exact hrec y30 0 s24 _ h r32 (rgl rfl) hE
      · rw [if_neg c29] at h
        refine v_iconst dX14_quoted_73 ?_
        refine v_goto (tgt := 78) dX14_quoted_74 (by decide) ?_
        refine v_istore_n (L1 := [(3, vI 1), (0, vO 87), (1, vI x1), (2, vI x2)]) dX14_quoted_78 rfl (by decide) rfl ?_
        obtain ⟨y33, e34, h⟩ := vl_some h
        refine v_iinc (L1 := [(2, vI (w32 (x2 + 1))), (3, vI 1), (0, vO 87), (1, vI x1)]) dX14_quoted_79 3 rfl (by decide) rfl ?_
        rw [← e34]
        have r35 : rg y33 := by rw [e34]; exact w32_rg _
        refine v_goto (tgt := 6) dX14_quoted_82 (by decide) ?_
        refine v_sub [2, 3, 0, 1] (L1 := [(0, vO 87), (1, vI x1), (2, vI y33), (3, vI 1)]) rfl ?_
        exact hrec y33 1 s24 _ h r35 (rgl rfl) hE

def l_X14_quoted_6 : Nat → Int → Int → Int → vS → Option (Int × Int × vS)
  | 0, _, _, _, _ => none
  | n + 1, x1, x2, x3, s =>
    bd (f_X14_ch x2 s) fun r4 s1 =>
    bd (f_X14_isWhite r4 s1) fun r9 s6 =>
    if r9 = 0 then
      bd (f_X14_ch x2 s6) fun r15 s12 =>
      bd (f_X14_isDigit r15 s12) fun r20 s17 =>
      if r20 = 0 then
        bd (f_X14_ch x2 s17) fun r26 s23 =>
        bd (f_X14_within r26 65 70 s23) fun r31 s28 =>
        if r31 = 0 then
          some (x2, x3, s28)
        else
          j_X14_quoted_43 (l_X14_quoted_6 n) x1 x2 x3 s28
      else
        j_X14_quoted_43 (l_X14_quoted_6 n) x1 x2 x3 s17
    else
      j_X14_quoted_43 (l_X14_quoted_6 n) x1 x2 x3 s6
theorem wl_X14_quoted_6 {x1 : Int} {rv : Option vA} {σo : vS}  (rx1 : rg x1) : ∀ (n : Nat) (x2 : Int) (x3 : Int) (s : vS) (q : Int × Int × vS), l_X14_quoted_6 n x1 x2 x3 s = some q → rg x2 → rg x3 → E_X14_quoted_6 x1 rv σo q → VW cX14_quoted (RX14, rv, σo, (some .int), 2, 42, 5, []) (P0 []) s 6 [(0, vO 87), (1, vI x1), (2, vI x2), (3, vI x3)] [] := by
  intro n
  induction n with
  | zero => intro x2 x3 s q h; cases h
  | succ n ih =>
    intro x2 x3 s q h rx2 rx3 hE
    unfold l_X14_quoted_6 at h
    refine v_aload_n dX14_quoted_6 0 rfl rfl ?_
    refine v_iload_n dX14_quoted_7 2 rfl rfl ?_
    obtain ⟨r4, s1, e2, h⟩ := bd_some h
    have k3 := c_X14_ch e2 rx2
    have r5 : rg r4 := k3.1.2.2
    refine v_callV (st := []) cf14 oc87 k3 (lw_V q2901 q2903 qs160 q311 q2904) rfl yk_X14_ch ⟨Nat.le_of_ble_eq_true rfl, Nat.le_of_ble_eq_true rfl⟩ trivial ⟨kc87, trivial⟩ (Nat.le_of_ble_eq_true rfl) rfl dX14_quoted_8 ?_
    obtain ⟨r9, s6, e7, h⟩ := bd_some h
    have k8 := c_X14_isWhite e7 r5
    have r10 : rg r9 := k8.1.2.2
    refine v_callS (st := []) k8 (lw_S q2905 q2906 q311 q2907) yk_X14_isWhite ⟨Nat.le_of_ble_eq_true rfl, Nat.le_of_ble_eq_true rfl⟩ trivial ⟨kc87, trivial⟩ (Nat.le_of_ble_eq_true rfl) rfl dX14_quoted_11 ?_
    refine v_if_ne (tgt := 43) dX14_quoted_14 r10 (by decide) (fun c11 => ?_) (fun c11 => ?_)
    · rw [if_neg c11] at h
      exact wj_X14_quoted_43 h rx1 rx2 rx3 ih hE
    · rw [if_pos c11] at h
      refine v_aload_n dX14_quoted_17 0 rfl rfl ?_
      refine v_iload_n dX14_quoted_18 2 rfl rfl ?_
      obtain ⟨r15, s12, e13, h⟩ := bd_some h
      have k14 := c_X14_ch e13 rx2
      have r16 : rg r15 := k14.1.2.2
      refine v_callV (st := []) cf14 oc87 k14 (lw_V q2901 q2903 qs160 q311 q2904) rfl yk_X14_ch ⟨Nat.le_of_ble_eq_true rfl, Nat.le_of_ble_eq_true rfl⟩ trivial ⟨kc87, trivial⟩ (Nat.le_of_ble_eq_true rfl) rfl dX14_quoted_19 ?_
      obtain ⟨r20, s17, e18, h⟩ := bd_some h
      have k19 := c_X14_isDigit e18 r16
      have r21 : rg r20 := k19.1.2.2
      refine v_callS (st := []) k19 (lw_S q2933 q2934 q311 q2935) yk_X14_isDigit ⟨Nat.le_of_ble_eq_true rfl, Nat.le_of_ble_eq_true rfl⟩ trivial ⟨kc87, trivial⟩ (Nat.le_of_ble_eq_true rfl) rfl dX14_quoted_22 ?_
      refine v_if_ne (tgt := 43) dX14_quoted_25 r21 (by decide) (fun c22 => ?_) (fun c22 => ?_)
      · rw [if_neg c22] at h
        exact wj_X14_quoted_43 h rx1 rx2 rx3 ih hE
      · rw [if_pos c22] at h
        refine v_aload_n dX14_quoted_28 0 rfl rfl ?_
        refine v_iload_n dX14_quoted_29 2 rfl rfl ?_
        obtain ⟨r26, s23, e24, h⟩ := bd_some h
        have k25 := c_X14_ch e24 rx2
        have r27 : rg r26 := k25.1.2.2
        refine v_callV (st := []) cf14 oc87 k25 (lw_V q2901 q2903 qs160 q311 q2904) rfl yk_X14_ch ⟨Nat.le_of_ble_eq_true rfl, Nat.le_of_ble_eq_true rfl⟩ trivial ⟨kc87, trivial⟩ (Nat.le_of_ble_eq_true rfl) rfl dX14_quoted_30 ?_
        refine v_bipush dX14_quoted_33 rfl ?_
        refine v_bipush dX14_quoted_35 rfl ?_
        obtain ⟨r31, s28, e29, h⟩ := bd_some h
        have k30 := c_X14_within e29 r27 (rgl rfl) (rgl rfl)
        have r32 : rg r31 := k30.1.2.2
        refine v_callS (st := []) k30 (lw_S q2878 q2879 q311 q2880) yk_X14_within ⟨Nat.le_of_ble_eq_true rfl, Nat.le_of_ble_eq_true rfl⟩ trivial ⟨kc87, trivial⟩ (Nat.le_of_ble_eq_true rfl) rfl dX14_quoted_37 ?_
        refine v_if_eq (tgt := 85) dX14_quoted_40 r32 (by decide) (fun c33 => ?_) (fun c33 => ?_)
        · rw [if_pos c33] at h
          cases h
          exact hE _ _ _ rfl rx2 rx3
        · rw [if_neg c33] at h
          exact wj_X14_quoted_43 h rx1 rx2 rx3 ih hE

def j_X14_quoted_141 (x2 : Int) (x4 : Int) (s : vS) : Option (Int × vS) :=
  if x4 = 0 then
    gd (inb (gI s 87 15) (gN s 94)) <|
    stp (sE s 94 (gI s 87 15) 5) fun s3 =>
    some (w32 (x2 + 2), s3)
  else
    bd (f_X14_ch (w32 (x2 + 1)) s) fun r8 s5 =>
    gd (gN s5 94 = gN s 94) <|
    if r8 = 66 then
      gd (inb (gI s 87 15) (gN s5 94)) <|
      stp (sE s5 94 (gI s 87 15) 4) fun s16 =>
      some (w32 (x2 + 2), s16)
    else
      gd (inb (gI s 87 15) (gN s5 94)) <|
      stp (sE s5 94 (gI s 87 15) 5) fun s13 =>
      some (w32 (x2 + 2), s13)
theorem wj_X14_quoted_141 {x2 : Int} {x4 : Int} {s : vS} {out : Int × vS} (h : j_X14_quoted_141 x2 x4 s = some out)  (rx2 : rg x2) (rx4 : rg x4) : VW cX14_quoted (RX14, (some (vI out.1)), out.2, (some .int), 2, 42, 5, []) (P0 []) s 141 [(0, vO 87), (2, vI x2), (4, vI x4)] [] := by
  unfold j_X14_quoted_141 at h
  refine v_aload_n dX14_quoted_141 0 rfl rfl ?_
  refine v_getS (f := 16) (t := 94) cf14 oc87 rfl rfl rfl (by decide) q2386 dX14_quoted_142 ?_
  refine v_aload_n dX14_quoted_145 0 rfl rfl ?_
  refine v_getI (f := 15) cf14 oc87 rfl (by decide) q2385 dX14_quoted_146 ?_
  refine v_iload dX14_quoted_149 2 rfl ?_
  refine v_if_eq (tgt := 170) dX14_quoted_151 rx4 (by decide) (fun c1 => ?_) (fun c1 => ?_)
  · rw [if_pos c1] at h
    refine v_iconst dX14_quoted_170 ?_
    obtain ⟨g2, h⟩ := gd_some h
    obtain ⟨s3, e4, h⟩ := stp_some h
    refine v_iast oc94 (gI_rg _ _ _) g2.1 g2.2 dX14_quoted_171 ?_
    rw [← e4]
    refine v_iload_n dX14_quoted_172 1 rfl rfl ?_
    refine v_iconst dX14_quoted_173 ?_
    refine v_iadd dX14_quoted_174 ?_
    cases h
    exact v_iret (w32_rg _) dX14_quoted_175
  · rw [if_neg c1] at h
    refine v_aload_n dX14_quoted_154 0 rfl rfl ?_
    refine v_iload_n dX14_quoted_155 1 rfl rfl ?_
    refine v_iconst dX14_quoted_156 ?_
    refine v_iadd dX14_quoted_157 ?_
    obtain ⟨r8, s5, e6, h⟩ := bd_some h
    have k7 := c_X14_ch e6 (w32_rg _)
    have r9 : rg r8 := k7.1.2.2
    obtain ⟨g10, h⟩ := gd_some h
    refine v_callV (st := [vI (gI s 87 15), vO 94]) cf14 oc87 k7 (lw_V q2901 q2903 qs160 q311 q2904) rfl yk_X14_ch ⟨Nat.le_of_ble_eq_true rfl, Nat.le_of_ble_eq_true rfl⟩ ⟨(kp_arr (by decide) g10), trivial⟩ ⟨kc87, trivial⟩ (Nat.le_of_ble_eq_true rfl) rfl dX14_quoted_158 ?_
    refine v_bipush dX14_quoted_161 rfl ?_
    refine v_icmp_ne (tgt := 170) dX14_quoted_163 r9 (rgl rfl) (by decide) (fun c11 => ?_) (fun c11 => ?_)
    · rw [if_neg c11] at h
      refine v_iconst dX14_quoted_170 ?_
      obtain ⟨g12, h⟩ := gd_some h
      obtain ⟨s13, e14, h⟩ := stp_some h
      refine v_iast oc94 (gI_rg _ _ _) g12.1 g12.2 dX14_quoted_171 ?_
      rw [← e14]
      refine v_iload_n dX14_quoted_172 1 rfl rfl ?_
      refine v_iconst dX14_quoted_173 ?_
      refine v_iadd dX14_quoted_174 ?_
      cases h
      exact v_iret (w32_rg _) dX14_quoted_175
    · rw [if_pos c11] at h
      refine v_iconst dX14_quoted_166 ?_
      refine v_goto (tgt := 171) dX14_quoted_167 (by decide) ?_
      obtain ⟨g15, h⟩ := gd_some h
      obtain ⟨s16, e17, h⟩ := stp_some h
      refine v_iast oc94 (gI_rg _ _ _) g15.1 g15.2 dX14_quoted_171 ?_
      rw [← e17]
      refine v_iload_n dX14_quoted_172 1 rfl rfl ?_
      refine v_iconst dX14_quoted_173 ?_
      refine v_iadd dX14_quoted_174 ?_
      cases h
      exact v_iret (w32_rg _) dX14_quoted_175

def j_X14_quoted_128 (x1 : Int) (x2 : Int) (z0 : Int) (s : vS) : Option (Int × vS) :=
  if z0 = 0 then
    bdv (f_X14_tell 1 x1 s) fun s2 =>
    j_X14_quoted_141 x2 z0 s2
  else
    j_X14_quoted_141 x2 z0 s
theorem wj_X14_quoted_128 {x1 : Int} {x2 : Int} {z0 : Int} {s : vS} {out : Int × vS} (h : j_X14_quoted_128 x1 x2 z0 s = some out)  (rx1 : rg x1) (rx2 : rg x2) (rz0 : rg z0) : VW cX14_quoted (RX14, (some (vI out.1)), out.2, (some .int), 2, 42, 5, []) (P0 []) s 128 [(0, vO 87), (1, vI x1), (2, vI x2)] [vI z0] := by
  unfold j_X14_quoted_128 at h
  refine v_istore (L1 := [(4, vI z0), (0, vO 87), (1, vI x1), (2, vI x2)]) dX14_quoted_128 (by decide) rfl ?_
  refine v_iload dX14_quoted_130 0 rfl ?_
  refine v_if_ne (tgt := 141) dX14_quoted_132 rz0 (by decide) (fun c1 => ?_) (fun c1 => ?_)
  · rw [if_neg c1] at h
    refine v_sub [1, 3, 0] (L1 := [(0, vO 87), (2, vI x2), (4, vI z0)]) rfl ?_
    exact wj_X14_quoted_141 h rx2 rz0
  · rw [if_pos c1] at h
    refine v_aload_n dX14_quoted_135 1 rfl rfl ?_
    refine v_iconst dX14_quoted_136 ?_
    refine v_iload_n dX14_quoted_137 2 rfl rfl ?_
    obtain ⟨s2, e3, h⟩ := bdv_some h
    have k4 := c_X14_tell e3 (rgl rfl) rx1
    refine v_callV (st := []) cf14 oc87 k4 (lw_V q2916 q2918 qs163 q311 q2919) rfl yk_X14_tell ⟨Nat.le_of_ble_eq_true rfl, Nat.le_of_ble_eq_true rfl⟩ trivial ⟨kc87, trivial⟩ (Nat.le_of_ble_eq_true rfl) rfl dX14_quoted_138 ?_
    refine v_sub [1, 3, 0] (L1 := [(0, vO 87), (2, vI x2), (4, vI z0)]) rfl ?_
    exact wj_X14_quoted_141 h rx2 rz0

def f_X14_quoted (x1 : Int) (s : vS) : Option (Int × vS) :=
  vl (w32 (x1 + 1)) fun y1 =>
  lq_2 (l_X14_quoted_6 FU x1 y1 1 s) fun y4 y5 s6 =>
  bd (f_X14_ch y4 s6) fun r13 s10 =>
  if r13 = 39 then
    bd (f_X14_ch (w32 (y4 + 1)) s10) fun r19 s16 =>
    if r19 = 72 then
      j_X14_quoted_128 x1 y4 1 s16
    else
      bd (f_X14_ch (w32 (y4 + 1)) s16) fun r25 s22 =>
      if r25 = 66 then
        if y5 = 0 then
          j_X14_quoted_128 x1 y4 0 s22
        else
          j_X14_quoted_128 x1 y4 1 s22
      else
        j_X14_quoted_128 x1 y4 0 s22
  else
    j_X14_quoted_128 x1 y4 0 s10
theorem yk_X14_quoted : yOk yX14_quoted 1 := ⟨by decide, by decide, by decide +kernel⟩
theorem c_X14_quoted {x1 : Int} {s : vS} {out : Int × vS} (h : f_X14_quoted x1 s = some out)  (rx1 : rg x1) : VC yX14_quoted cX14_quoted 5 (some .int) 2 42 [vO 87, vI x1] s (some (vI out.1)) out.2 [] := by
  unfold f_X14_quoted at h
  refine VC.of RX14 (by decide) rfl (Nat.le_of_ble_eq_true rfl) ?_
  show VW cX14_quoted (RX14, (some (vI out.1)), out.2, (some .int), 2, 42, 5, []) (P0 []) s 0 [(0, vO 87), (1, vI x1)] []
  refine v_iload_n dX14_quoted_0 1 rfl rfl ?_
  refine v_iconst dX14_quoted_1 ?_
  refine v_iadd dX14_quoted_2 ?_
  obtain ⟨y1, e2, h⟩ := vl_some h
  rw [← e2]
  have r3 : rg y1 := by rw [e2]; exact w32_rg _
  refine v_istore_n (L1 := [(2, vI y1), (0, vO 87), (1, vI x1)]) dX14_quoted_3 rfl (by decide) rfl ?_
  refine v_iconst dX14_quoted_4 ?_
  refine v_istore_n (L1 := [(3, vI 1), (2, vI y1), (0, vO 87), (1, vI x1)]) dX14_quoted_5 rfl (by decide) rfl ?_
  refine v_sub [2, 3, 1, 0] (L1 := [(0, vO 87), (1, vI x1), (2, vI y1), (3, vI 1)]) rfl ?_
  obtain ⟨y4, y5, s6, e7, h⟩ := lq_2_some h
  refine wl_X14_quoted_6 rx1 FU y1 1 s _ e7 r3 (rgl rfl) ?_
  unfold E_X14_quoted_6
  intro y4' y5' s6' z_ r8 r9
  cases z_
  refine v_aload_n dX14_quoted_85 0 rfl rfl ?_
  refine v_iload_n dX14_quoted_86 2 rfl rfl ?_
  obtain ⟨r13, s10, e11, h⟩ := bd_some h
  have k12 := c_X14_ch e11 r8
  have r14 : rg r13 := k12.1.2.2
  refine v_callV (st := []) cf14 oc87 k12 (lw_V q2901 q2903 qs160 q311 q2904) rfl yk_X14_ch ⟨Nat.le_of_ble_eq_true rfl, Nat.le_of_ble_eq_true rfl⟩ trivial ⟨kc87, trivial⟩ (Nat.le_of_ble_eq_true rfl) rfl dX14_quoted_87 ?_
  refine v_bipush dX14_quoted_90 rfl ?_
  refine v_icmp_ne (tgt := 127) dX14_quoted_92 r14 (rgl rfl) (by decide) (fun c15 => ?_) (fun c15 => ?_)
  · rw [if_neg c15] at h
    refine v_iconst dX14_quoted_127 ?_
    refine v_sub [0, 1, 2] (L1 := [(0, vO 87), (1, vI x1), (2, vI y4)]) rfl ?_
    exact wj_X14_quoted_128 h rx1 r8 (rgl rfl)
  · rw [if_pos c15] at h
    refine v_aload_n dX14_quoted_95 0 rfl rfl ?_
    refine v_iload_n dX14_quoted_96 2 rfl rfl ?_
    refine v_iconst dX14_quoted_97 ?_
    refine v_iadd dX14_quoted_98 ?_
    obtain ⟨r19, s16, e17, h⟩ := bd_some h
    have k18 := c_X14_ch e17 (w32_rg _)
    have r20 : rg r19 := k18.1.2.2
    refine v_callV (st := []) cf14 oc87 k18 (lw_V q2901 q2903 qs160 q311 q2904) rfl yk_X14_ch ⟨Nat.le_of_ble_eq_true rfl, Nat.le_of_ble_eq_true rfl⟩ trivial ⟨kc87, trivial⟩ (Nat.le_of_ble_eq_true rfl) rfl dX14_quoted_99 ?_
    refine v_bipush dX14_quoted_102 rfl ?_
    refine v_icmp_eq (tgt := 123) dX14_quoted_104 r20 (rgl rfl) (by decide) (fun c21 => ?_) (fun c21 => ?_)
    · rw [if_pos c21] at h
      refine v_iconst dX14_quoted_123 ?_
      refine v_goto (tgt := 128) dX14_quoted_124 (by decide) ?_
      refine v_sub [0, 1, 2] (L1 := [(0, vO 87), (1, vI x1), (2, vI y4)]) rfl ?_
      exact wj_X14_quoted_128 h rx1 r8 (rgl rfl)
    · rw [if_neg c21] at h
      refine v_aload_n dX14_quoted_107 0 rfl rfl ?_
      refine v_iload_n dX14_quoted_108 2 rfl rfl ?_
      refine v_iconst dX14_quoted_109 ?_
      refine v_iadd dX14_quoted_110 ?_
      obtain ⟨r25, s22, e23, h⟩ := bd_some h
      have k24 := c_X14_ch e23 (w32_rg _)
      have r26 : rg r25 := k24.1.2.2
      refine v_callV (st := []) cf14 oc87 k24 (lw_V q2901 q2903 qs160 q311 q2904) rfl yk_X14_ch ⟨Nat.le_of_ble_eq_true rfl, Nat.le_of_ble_eq_true rfl⟩ trivial ⟨kc87, trivial⟩ (Nat.le_of_ble_eq_true rfl) rfl dX14_quoted_111 ?_
      refine v_bipush dX14_quoted_114 rfl ?_
      refine v_icmp_ne (tgt := 127) dX14_quoted_116 r26 (rgl rfl) (by decide) (fun c27 => ?_) (fun c27 => ?_)
      · rw [if_neg c27] at h
        refine v_iconst dX14_quoted_127 ?_
        refine v_sub [0, 1, 2] (L1 := [(0, vO 87), (1, vI x1), (2, vI y4)]) rfl ?_
        exact wj_X14_quoted_128 h rx1 r8 (rgl rfl)
      · rw [if_pos c27] at h
        refine v_iload_n dX14_quoted_119 3 rfl rfl ?_
        refine v_if_eq (tgt := 127) dX14_quoted_120 r9 (by decide) (fun c28 => ?_) (fun c28 => ?_)
        · rw [if_pos c28] at h
          refine v_iconst dX14_quoted_127 ?_
          refine v_sub [0, 1, 2] (L1 := [(0, vO 87), (1, vI x1), (2, vI y4)]) rfl ?_
          exact wj_X14_quoted_128 h rx1 r8 (rgl rfl)
        · rw [if_neg c28] at h
          refine v_iconst dX14_quoted_123 ?_
          refine v_goto (tgt := 128) dX14_quoted_124 (by decide) ?_
          refine v_sub [0, 1, 2] (L1 := [(0, vO 87), (1, vI x1), (2, vI y4)]) rfl ?_
          exact wj_X14_quoted_128 h rx1 r8 (rgl rfl)

def E_X14_textEnd_4 (x1 : Int) (rv : Option vA) (σo : vS) (q : Int × vS) : Prop := ∀ (x2' : Int) (s' : vS), q = (x2', s') → rg x2' → VW cX14_textEnd (RX14, rv, σo, (some .int), 1, 22, 3, []) (P0 []) s' 62 [(0, vO 87), (1, vI x1), (2, vI x2')] []
def j_X14_textEnd_41 (rec : Int → Int → vS → Option (Int × vS)) (x1 : Int) (x2 : Int) (s : vS) : Option (Int × vS) :=
  bd (f_X14_ch x2 s) fun r4 s1 =>
  if r4 = 34 then
    vl (w32 (x2 + 2)) fun y10 =>
    rec x1 y10 s1
  else
    vl (w32 (x2 + 1)) fun y7 =>
    rec x1 y7 s1
theorem wj_X14_textEnd_41 {x1 : Int} {x2 : Int} {s : vS} {rv : Option vA} {σo : vS} {rec : Int → Int → vS → Option (Int × vS)} {q : Int × vS} (h : j_X14_textEnd_41 rec x1 x2 s = some q)  (rx1 : rg x1) (rx2 : rg x2) (hrec : ∀ (y2 : Int) (s : vS) (q : Int × vS), rec x1 y2 s = some q → rg y2 → E_X14_textEnd_4 x1 rv σo q → VW cX14_textEnd (RX14, rv, σo, (some .int), 1, 22, 3, []) (P0 []) s 4 [(0, vO 87), (1, vI x1), (2, vI y2)] []) (hE : E_X14_textEnd_4 x1 rv σo q) : VW cX14_textEnd (RX14, rv, σo, (some .int), 1, 22, 3, []) (P0 []) s 41 [(0, vO 87), (1, vI x1), (2, vI x2)] [] := by
  unfold j_X14_textEnd_41 at h
  refine v_iload_n dX14_textEnd_41 2 rfl rfl ?_
  refine v_aload_n dX14_textEnd_42 0 rfl rfl ?_
  refine v_iload_n dX14_textEnd_43 2 rfl rfl ?_
  obtain ⟨r4, s1, e2, h⟩ := bd_some h
  have k3 := c_X14_ch e2 rx2
  have r5 : rg r4 := k3.1.2.2
  refine v_callV (st := [vI x2]) cf14 oc87 k3 (lw_V q2901 q2903 qs160 q311 q2904) rfl yk_X14_ch ⟨Nat.le_of_ble_eq_true rfl, Nat.le_of_ble_eq_true rfl⟩ trivial ⟨kc87, trivial⟩ (Nat.le_of_ble_eq_true rfl) rfl dX14_textEnd_44 ?_
  refine v_bipush dX14_textEnd_47 rfl ?_
  refine v_icmp_ne (tgt := 56) dX14_textEnd_49 r5 (rgl rfl) (by decide) (fun c6 => ?_) (fun c6 => ?_)
  · rw [if_neg c6] at h
    refine v_iconst dX14_textEnd_56 ?_
    refine v_iadd dX14_textEnd_57 ?_
    obtain ⟨y7, e8, h⟩ := vl_some h
    rw [← e8]
    have r9 : rg y7 := by rw [e8]; exact w32_rg _
    refine v_istore_n (L1 := [(2, vI y7), (0, vO 87), (1, vI x1)]) dX14_textEnd_58 rfl (by decide) rfl ?_
    refine v_goto (tgt := 4) dX14_textEnd_59 (by decide) ?_
    refine v_sub [1, 2, 0] (L1 := [(0, vO 87), (1, vI x1), (2, vI y7)]) rfl ?_
    exact hrec y7 s1 _ h r9 hE
  · rw [if_pos c6] at h
    refine v_iconst dX14_textEnd_52 ?_
    refine v_goto (tgt := 57) dX14_textEnd_53 (by decide) ?_
    refine v_iadd dX14_textEnd_57 ?_
    obtain ⟨y10, e11, h⟩ := vl_some h
    rw [← e11]
    have r12 : rg y10 := by rw [e11]; exact w32_rg _
    refine v_istore_n (L1 := [(2, vI y10), (0, vO 87), (1, vI x1)]) dX14_textEnd_58 rfl (by decide) rfl ?_
    refine v_goto (tgt := 4) dX14_textEnd_59 (by decide) ?_
    refine v_sub [1, 2, 0] (L1 := [(0, vO 87), (1, vI x1), (2, vI y10)]) rfl ?_
    exact hrec y10 s1 _ h r12 hE

def l_X14_textEnd_4 : Nat → Int → Int → vS → Option (Int × vS)
  | 0, _, _, _ => none
  | n + 1, x1, x2, s =>
    bd (f_X14_ch x2 s) fun r4 s1 =>
    bd (f_X14_within r4 32 126 s1) fun r9 s6 =>
    if r9 = 0 then
      some (x2, s6)
    else
      bd (f_X14_ch x2 s6) fun r15 s12 =>
      if r15 = 34 then
        bd (f_X14_ch (w32 (x2 + 1)) s12) fun r21 s18 =>
        if r21 = 34 then
          j_X14_textEnd_41 (l_X14_textEnd_4 n) x1 x2 s18
        else
          some (x2, s18)
      else
        j_X14_textEnd_41 (l_X14_textEnd_4 n) x1 x2 s12
theorem wl_X14_textEnd_4 {x1 : Int} {rv : Option vA} {σo : vS}  (rx1 : rg x1) : ∀ (n : Nat) (x2 : Int) (s : vS) (q : Int × vS), l_X14_textEnd_4 n x1 x2 s = some q → rg x2 → E_X14_textEnd_4 x1 rv σo q → VW cX14_textEnd (RX14, rv, σo, (some .int), 1, 22, 3, []) (P0 []) s 4 [(0, vO 87), (1, vI x1), (2, vI x2)] [] := by
  intro n
  induction n with
  | zero => intro x2 s q h; cases h
  | succ n ih =>
    intro x2 s q h rx2 hE
    unfold l_X14_textEnd_4 at h
    refine v_aload_n dX14_textEnd_4 0 rfl rfl ?_
    refine v_iload_n dX14_textEnd_5 2 rfl rfl ?_
    obtain ⟨r4, s1, e2, h⟩ := bd_some h
    have k3 := c_X14_ch e2 rx2
    have r5 : rg r4 := k3.1.2.2
    refine v_callV (st := []) cf14 oc87 k3 (lw_V q2901 q2903 qs160 q311 q2904) rfl yk_X14_ch ⟨Nat.le_of_ble_eq_true rfl, Nat.le_of_ble_eq_true rfl⟩ trivial ⟨kc87, trivial⟩ (Nat.le_of_ble_eq_true rfl) rfl dX14_textEnd_6 ?_
    refine v_bipush dX14_textEnd_9 rfl ?_
    refine v_bipush dX14_textEnd_11 rfl ?_
    obtain ⟨r9, s6, e7, h⟩ := bd_some h
    have k8 := c_X14_within e7 r5 (rgl rfl) (rgl rfl)
    have r10 : rg r9 := k8.1.2.2
    refine v_callS (st := []) k8 (lw_S q2878 q2879 q311 q2880) yk_X14_within ⟨Nat.le_of_ble_eq_true rfl, Nat.le_of_ble_eq_true rfl⟩ trivial ⟨kc87, trivial⟩ (Nat.le_of_ble_eq_true rfl) rfl dX14_textEnd_13 ?_
    refine v_if_eq (tgt := 62) dX14_textEnd_16 r10 (by decide) (fun c11 => ?_) (fun c11 => ?_)
    · rw [if_pos c11] at h
      cases h
      exact hE _ _ rfl rx2
    · rw [if_neg c11] at h
      refine v_aload_n dX14_textEnd_19 0 rfl rfl ?_
      refine v_iload_n dX14_textEnd_20 2 rfl rfl ?_
      obtain ⟨r15, s12, e13, h⟩ := bd_some h
      have k14 := c_X14_ch e13 rx2
      have r16 : rg r15 := k14.1.2.2
      refine v_callV (st := []) cf14 oc87 k14 (lw_V q2901 q2903 qs160 q311 q2904) rfl yk_X14_ch ⟨Nat.le_of_ble_eq_true rfl, Nat.le_of_ble_eq_true rfl⟩ trivial ⟨kc87, trivial⟩ (Nat.le_of_ble_eq_true rfl) rfl dX14_textEnd_21 ?_
      refine v_bipush dX14_textEnd_24 rfl ?_
      refine v_icmp_ne (tgt := 41) dX14_textEnd_26 r16 (rgl rfl) (by decide) (fun c17 => ?_) (fun c17 => ?_)
      · rw [if_neg c17] at h
        exact wj_X14_textEnd_41 h rx1 rx2 ih hE
      · rw [if_pos c17] at h
        refine v_aload_n dX14_textEnd_29 0 rfl rfl ?_
        refine v_iload_n dX14_textEnd_30 2 rfl rfl ?_
        refine v_iconst dX14_textEnd_31 ?_
        refine v_iadd dX14_textEnd_32 ?_
        obtain ⟨r21, s18, e19, h⟩ := bd_some h
        have k20 := c_X14_ch e19 (w32_rg _)
        have r22 : rg r21 := k20.1.2.2
        refine v_callV (st := []) cf14 oc87 k20 (lw_V q2901 q2903 qs160 q311 q2904) rfl yk_X14_ch ⟨Nat.le_of_ble_eq_true rfl, Nat.le_of_ble_eq_true rfl⟩ trivial ⟨kc87, trivial⟩ (Nat.le_of_ble_eq_true rfl) rfl dX14_textEnd_33 ?_
        refine v_bipush dX14_textEnd_36 rfl ?_
        refine v_icmp_ne (tgt := 62) dX14_textEnd_38 r22 (rgl rfl) (by decide) (fun c23 => ?_) (fun c23 => ?_)
        · rw [if_neg c23] at h
          cases h
          exact hE _ _ rfl rx2
        · rw [if_pos c23] at h
          exact wj_X14_textEnd_41 h rx1 rx2 ih hE

def j_X14_textEnd_62 (x1 : Int) (x2 : Int) (s : vS) : Option (Int × vS) :=
  bd (f_X14_ch x2 s) fun r4 s1 =>
  if r4 = 34 then
    some (w32 (x2 + 1), s1)
  else
    bdv (f_X14_tell 1 x1 s1) fun s7 =>
    some (w32 (x2 + 1), s7)
theorem wj_X14_textEnd_62 {x1 : Int} {x2 : Int} {s : vS} {out : Int × vS} (h : j_X14_textEnd_62 x1 x2 s = some out)  (rx1 : rg x1) (rx2 : rg x2) : VW cX14_textEnd (RX14, (some (vI out.1)), out.2, (some .int), 1, 22, 3, []) (P0 []) s 62 [(0, vO 87), (1, vI x1), (2, vI x2)] [] := by
  unfold j_X14_textEnd_62 at h
  refine v_aload_n dX14_textEnd_62 0 rfl rfl ?_
  refine v_iload_n dX14_textEnd_63 2 rfl rfl ?_
  obtain ⟨r4, s1, e2, h⟩ := bd_some h
  have k3 := c_X14_ch e2 rx2
  have r5 : rg r4 := k3.1.2.2
  refine v_callV (st := []) cf14 oc87 k3 (lw_V q2901 q2903 qs160 q311 q2904) rfl yk_X14_ch ⟨Nat.le_of_ble_eq_true rfl, Nat.le_of_ble_eq_true rfl⟩ trivial ⟨kc87, trivial⟩ (Nat.le_of_ble_eq_true rfl) rfl dX14_textEnd_64 ?_
  refine v_bipush dX14_textEnd_67 rfl ?_
  refine v_icmp_eq (tgt := 78) dX14_textEnd_69 r5 (rgl rfl) (by decide) (fun c6 => ?_) (fun c6 => ?_)
  · rw [if_pos c6] at h
    refine v_iload_n dX14_textEnd_78 2 rfl rfl ?_
    refine v_iconst dX14_textEnd_79 ?_
    refine v_iadd dX14_textEnd_80 ?_
    cases h
    exact v_iret (w32_rg _) dX14_textEnd_81
  · rw [if_neg c6] at h
    refine v_aload_n dX14_textEnd_72 0 rfl rfl ?_
    refine v_iconst dX14_textEnd_73 ?_
    refine v_iload_n dX14_textEnd_74 1 rfl rfl ?_
    obtain ⟨s7, e8, h⟩ := bdv_some h
    have k9 := c_X14_tell e8 (rgl rfl) rx1
    refine v_callV (st := []) cf14 oc87 k9 (lw_V q2916 q2918 qs163 q311 q2919) rfl yk_X14_tell ⟨Nat.le_of_ble_eq_true rfl, Nat.le_of_ble_eq_true rfl⟩ trivial ⟨kc87, trivial⟩ (Nat.le_of_ble_eq_true rfl) rfl dX14_textEnd_75 ?_
    refine v_iload_n dX14_textEnd_78 2 rfl rfl ?_
    refine v_iconst dX14_textEnd_79 ?_
    refine v_iadd dX14_textEnd_80 ?_
    cases h
    exact v_iret (w32_rg _) dX14_textEnd_81

def f_X14_textEnd (x1 : Int) (s : vS) : Option (Int × vS) :=
  vl (w32 (x1 + 1)) fun y1 =>
  lq_1 (l_X14_textEnd_4 FU x1 y1 s) fun y4 s5 =>
  j_X14_textEnd_62 x1 y4 s5
theorem yk_X14_textEnd : yOk yX14_textEnd 1 := ⟨by decide, by decide, by decide +kernel⟩
theorem c_X14_textEnd {x1 : Int} {s : vS} {out : Int × vS} (h : f_X14_textEnd x1 s = some out)  (rx1 : rg x1) : VC yX14_textEnd cX14_textEnd 3 (some .int) 1 22 [vO 87, vI x1] s (some (vI out.1)) out.2 [] := by
  unfold f_X14_textEnd at h
  refine VC.of RX14 (by decide) rfl (Nat.le_of_ble_eq_true rfl) ?_
  show VW cX14_textEnd (RX14, (some (vI out.1)), out.2, (some .int), 1, 22, 3, []) (P0 []) s 0 [(0, vO 87), (1, vI x1)] []
  refine v_iload_n dX14_textEnd_0 1 rfl rfl ?_
  refine v_iconst dX14_textEnd_1 ?_
  refine v_iadd dX14_textEnd_2 ?_
  obtain ⟨y1, e2, h⟩ := vl_some h
  rw [← e2]
  have r3 : rg y1 := by rw [e2]; exact w32_rg _
  refine v_istore_n (L1 := [(2, vI y1), (0, vO 87), (1, vI x1)]) dX14_textEnd_3 rfl (by decide) rfl ?_
  refine v_sub [1, 2, 0] (L1 := [(0, vO 87), (1, vI x1), (2, vI y1)]) rfl ?_
  obtain ⟨y4, s5, e6, h⟩ := lq_1_some h
  refine wl_X14_textEnd_4 rx1 FU y1 s _ e6 r3 ?_
  unfold E_X14_textEnd_4
  intro y4' s5' z_ r7
  cases z_
  exact wj_X14_textEnd_62 h rx1 r7

def E_X14_numberEnd_2 (x1 : Int) (rv : Option vA) (σo : vS) (q : Int × vS) : Prop := ∀ (x2' : Int) (s' : vS), q = (x2', s') → rg x2' → VW cX14_numberEnd (RX14, rv, σo, (some .int), 2, 42, 3, []) (P0 []) s' 19 [(0, vO 87), (1, vI x1), (2, vI x2')] []
def l_X14_numberEnd_2 : Nat → Int → Int → vS → Option (Int × vS)
  | 0, _, _, _ => none
  | n + 1, x1, x2, s =>
    bd (f_X14_ch x2 s) fun r4 s1 =>
    bd (f_X14_isDigit r4 s1) fun r9 s6 =>
    if r9 = 0 then
      some (x2, s6)
    else
      vl (w32 (x2 + 1)) fun y12 =>
      l_X14_numberEnd_2 n x1 y12 s6
theorem wl_X14_numberEnd_2 {x1 : Int} {rv : Option vA} {σo : vS}  (rx1 : rg x1) : ∀ (n : Nat) (x2 : Int) (s : vS) (q : Int × vS), l_X14_numberEnd_2 n x1 x2 s = some q → rg x2 → E_X14_numberEnd_2 x1 rv σo q → VW cX14_numberEnd (RX14, rv, σo, (some .int), 2, 42, 3, []) (P0 []) s 2 [(0, vO 87), (1, vI x1), (2, vI x2)] [] := by
  intro n
  induction n with
  | zero => intro x2 s q h; cases h
  | succ n ih =>
    intro x2 s q h rx2 hE
    unfold l_X14_numberEnd_2 at h
    refine v_aload_n dX14_numberEnd_2 0 rfl rfl ?_
    refine v_iload_n dX14_numberEnd_3 2 rfl rfl ?_
    obtain ⟨r4, s1, e2, h⟩ := bd_some h
    have k3 := c_X14_ch e2 rx2
    have r5 : rg r4 := k3.1.2.2
    refine v_callV (st := []) cf14 oc87 k3 (lw_V q2901 q2903 qs160 q311 q2904) rfl yk_X14_ch ⟨Nat.le_of_ble_eq_true rfl, Nat.le_of_ble_eq_true rfl⟩ trivial ⟨kc87, trivial⟩ (Nat.le_of_ble_eq_true rfl) rfl dX14_numberEnd_4 ?_
    obtain ⟨r9, s6, e7, h⟩ := bd_some h
    have k8 := c_X14_isDigit e7 r5
    have r10 : rg r9 := k8.1.2.2
    refine v_callS (st := []) k8 (lw_S q2933 q2934 q311 q2935) yk_X14_isDigit ⟨Nat.le_of_ble_eq_true rfl, Nat.le_of_ble_eq_true rfl⟩ trivial ⟨kc87, trivial⟩ (Nat.le_of_ble_eq_true rfl) rfl dX14_numberEnd_7 ?_
    refine v_if_eq (tgt := 19) dX14_numberEnd_10 r10 (by decide) (fun c11 => ?_) (fun c11 => ?_)
    · rw [if_pos c11] at h
      cases h
      exact hE _ _ rfl rx2
    · rw [if_neg c11] at h
      obtain ⟨y12, e13, h⟩ := vl_some h
      refine v_iinc (L1 := [(2, vI (w32 (x2 + 1))), (0, vO 87), (1, vI x1)]) dX14_numberEnd_13 2 rfl (by decide) rfl ?_
      rw [← e13]
      have r14 : rg y12 := by rw [e13]; exact w32_rg _
      refine v_goto (tgt := 2) dX14_numberEnd_16 (by decide) ?_
      refine v_sub [1, 2, 0] (L1 := [(0, vO 87), (1, vI x1), (2, vI y12)]) rfl ?_
      exact ih y12 s6 _ h r14 hE

def f_X14_numberEnd (x1 : Int) (s : vS) : Option (Int × vS) :=
  lq_1 (l_X14_numberEnd_2 FU x1 x1 s) fun y1 s2 =>
  bd (f_X14_ch x1 s2) fun r8 s5 =>
  if r8 = 48 then
    if y1 ≤ (w32 (x1 + 1)) then
      some (y1, s5)
    else
      bdv (f_X14_tell 1 x1 s5) fun s12 =>
      some (y1, s12)
  else
    some (y1, s5)
theorem yk_X14_numberEnd : yOk yX14_numberEnd 1 := ⟨by decide, by decide, by decide +kernel⟩
theorem c_X14_numberEnd {x1 : Int} {s : vS} {out : Int × vS} (h : f_X14_numberEnd x1 s = some out)  (rx1 : rg x1) : VC yX14_numberEnd cX14_numberEnd 3 (some .int) 2 42 [vO 87, vI x1] s (some (vI out.1)) out.2 [] := by
  unfold f_X14_numberEnd at h
  refine VC.of RX14 (by decide) rfl (Nat.le_of_ble_eq_true rfl) ?_
  show VW cX14_numberEnd (RX14, (some (vI out.1)), out.2, (some .int), 2, 42, 3, []) (P0 []) s 0 [(0, vO 87), (1, vI x1)] []
  refine v_iload_n dX14_numberEnd_0 1 rfl rfl ?_
  refine v_istore_n (L1 := [(2, vI x1), (0, vO 87), (1, vI x1)]) dX14_numberEnd_1 rfl (by decide) rfl ?_
  refine v_sub [1, 2, 0] (L1 := [(0, vO 87), (1, vI x1), (2, vI x1)]) rfl ?_
  obtain ⟨y1, s2, e3, h⟩ := lq_1_some h
  refine wl_X14_numberEnd_2 rx1 FU x1 s _ e3 rx1 ?_
  unfold E_X14_numberEnd_2
  intro y1' s2' z_ r4
  cases z_
  refine v_aload_n dX14_numberEnd_19 0 rfl rfl ?_
  refine v_iload_n dX14_numberEnd_20 1 rfl rfl ?_
  obtain ⟨r8, s5, e6, h⟩ := bd_some h
  have k7 := c_X14_ch e6 rx1
  have r9 : rg r8 := k7.1.2.2
  refine v_callV (st := []) cf14 oc87 k7 (lw_V q2901 q2903 qs160 q311 q2904) rfl yk_X14_ch ⟨Nat.le_of_ble_eq_true rfl, Nat.le_of_ble_eq_true rfl⟩ trivial ⟨kc87, trivial⟩ (Nat.le_of_ble_eq_true rfl) rfl dX14_numberEnd_21 ?_
  refine v_bipush dX14_numberEnd_24 rfl ?_
  refine v_icmp_ne (tgt := 42) dX14_numberEnd_26 r9 (rgl rfl) (by decide) (fun c10 => ?_) (fun c10 => ?_)
  · rw [if_neg c10] at h
    refine v_iload_n dX14_numberEnd_42 2 rfl rfl ?_
    cases h
    exact v_iret r4 dX14_numberEnd_43
  · rw [if_pos c10] at h
    refine v_iload_n dX14_numberEnd_29 2 rfl rfl ?_
    refine v_iload_n dX14_numberEnd_30 1 rfl rfl ?_
    refine v_iconst dX14_numberEnd_31 ?_
    refine v_iadd dX14_numberEnd_32 ?_
    refine v_icmp_le (tgt := 42) dX14_numberEnd_33 r4 (w32_rg _) (by decide) (fun c11 => ?_) (fun c11 => ?_)
    · rw [if_pos c11] at h
      refine v_iload_n dX14_numberEnd_42 2 rfl rfl ?_
      cases h
      exact v_iret r4 dX14_numberEnd_43
    · rw [if_neg c11] at h
      refine v_aload_n dX14_numberEnd_36 0 rfl rfl ?_
      refine v_iconst dX14_numberEnd_37 ?_
      refine v_iload_n dX14_numberEnd_38 1 rfl rfl ?_
      obtain ⟨s12, e13, h⟩ := bdv_some h
      have k14 := c_X14_tell e13 (rgl rfl) rx1
      refine v_callV (st := []) cf14 oc87 k14 (lw_V q2916 q2918 qs163 q311 q2919) rfl yk_X14_tell ⟨Nat.le_of_ble_eq_true rfl, Nat.le_of_ble_eq_true rfl⟩ trivial ⟨kc87, trivial⟩ (Nat.le_of_ble_eq_true rfl) rfl dX14_numberEnd_39 ?_
      refine v_iload_n dX14_numberEnd_42 2 rfl rfl ?_
      cases h
      exact v_iret r4 dX14_numberEnd_43

def j_X14_signEnd_341 (x1 : Int) (x4 : Int) (x5 : Int) (z0 : Int) (s : vS) : Option (Int × vS) :=
  if x5 = 22 then
    if z0 = 0 then
      bdv (f_X14_tell 1 x1 s) fun s9 =>
      gd (inb (gI s9 87 15) (gN s9 94)) <|
      stp (sE s9 94 (gI s9 87 15) x5) fun s13 =>
      some (w32 (x1 + x4), s13)
    else
      gd (inb (gI s 87 15) (gN s 94)) <|
      stp (sE s 94 (gI s 87 15) x5) fun s7 =>
      some (w32 (x1 + x4), s7)
  else
    gd (inb (gI s 87 15) (gN s 94)) <|
    stp (sE s 94 (gI s 87 15) x5) fun s3 =>
    some (w32 (x1 + x4), s3)
theorem wj_X14_signEnd_341 {x1 : Int} {x4 : Int} {x5 : Int} {z0 : Int} {s : vS} {out : Int × vS} (h : j_X14_signEnd_341 x1 x4 x5 z0 s = some out)  (rx1 : rg x1) (rx4 : rg x4) (rx5 : rg x5) (rz0 : rg z0) : VW cX14_signEnd (RX14, (some (vI out.1)), out.2, (some .int), 1, 22, 7, []) (P0 []) s 341 [(0, vO 87), (1, vI x1), (4, vI x4), (5, vI x5)] [vI z0] := by
  unfold j_X14_signEnd_341 at h
  refine v_istore (L1 := [(6, vI z0), (0, vO 87), (1, vI x1), (4, vI x4), (5, vI x5)]) dX14_signEnd_341 (by decide) rfl ?_
  refine v_iload dX14_signEnd_343 4 rfl ?_
  refine v_bipush dX14_signEnd_345 rfl ?_
  refine v_icmp_ne (tgt := 361) dX14_signEnd_347 rx5 (rgl rfl) (by decide) (fun c1 => ?_) (fun c1 => ?_)
  · rw [if_neg c1] at h
    refine v_aload_n dX14_signEnd_361 1 rfl rfl ?_
    refine v_getS (f := 16) (t := 94) cf14 oc87 rfl rfl rfl (by decide) q2386 dX14_signEnd_362 ?_
    refine v_aload_n dX14_signEnd_365 1 rfl rfl ?_
    refine v_getI (f := 15) cf14 oc87 rfl (by decide) q2385 dX14_signEnd_366 ?_
    refine v_iload dX14_signEnd_369 4 rfl ?_
    obtain ⟨g2, h⟩ := gd_some h
    obtain ⟨s3, e4, h⟩ := stp_some h
    refine v_iast oc94 (gI_rg _ _ _) g2.1 g2.2 dX14_signEnd_371 ?_
    rw [← e4]
    refine v_iload_n dX14_signEnd_372 2 rfl rfl ?_
    refine v_iload dX14_signEnd_373 3 rfl ?_
    refine v_iadd dX14_signEnd_375 ?_
    cases h
    exact v_iret (w32_rg _) dX14_signEnd_376
  · rw [if_pos c1] at h
    refine v_iload dX14_signEnd_350 0 rfl ?_
    refine v_if_ne (tgt := 361) dX14_signEnd_352 rz0 (by decide) (fun c5 => ?_) (fun c5 => ?_)
    · rw [if_neg c5] at h
      refine v_aload_n dX14_signEnd_361 1 rfl rfl ?_
      refine v_getS (f := 16) (t := 94) cf14 oc87 rfl rfl rfl (by decide) q2386 dX14_signEnd_362 ?_
      refine v_aload_n dX14_signEnd_365 1 rfl rfl ?_
      refine v_getI (f := 15) cf14 oc87 rfl (by decide) q2385 dX14_signEnd_366 ?_
      refine v_iload dX14_signEnd_369 4 rfl ?_
      obtain ⟨g6, h⟩ := gd_some h
      obtain ⟨s7, e8, h⟩ := stp_some h
      refine v_iast oc94 (gI_rg _ _ _) g6.1 g6.2 dX14_signEnd_371 ?_
      rw [← e8]
      refine v_iload_n dX14_signEnd_372 2 rfl rfl ?_
      refine v_iload dX14_signEnd_373 3 rfl ?_
      refine v_iadd dX14_signEnd_375 ?_
      cases h
      exact v_iret (w32_rg _) dX14_signEnd_376
    · rw [if_pos c5] at h
      refine v_aload_n dX14_signEnd_355 1 rfl rfl ?_
      refine v_iconst dX14_signEnd_356 ?_
      refine v_iload_n dX14_signEnd_357 2 rfl rfl ?_
      obtain ⟨s9, e10, h⟩ := bdv_some h
      have k11 := c_X14_tell e10 (rgl rfl) rx1
      refine v_callV (st := []) cf14 oc87 k11 (lw_V q2916 q2918 qs163 q311 q2919) rfl yk_X14_tell ⟨Nat.le_of_ble_eq_true rfl, Nat.le_of_ble_eq_true rfl⟩ trivial ⟨kc87, trivial⟩ (Nat.le_of_ble_eq_true rfl) rfl dX14_signEnd_358 ?_
      refine v_aload_n dX14_signEnd_361 1 rfl rfl ?_
      refine v_getS (f := 16) (t := 94) cf14 oc87 rfl rfl rfl (by decide) q2386 dX14_signEnd_362 ?_
      refine v_aload_n dX14_signEnd_365 1 rfl rfl ?_
      refine v_getI (f := 15) cf14 oc87 rfl (by decide) q2385 dX14_signEnd_366 ?_
      refine v_iload dX14_signEnd_369 4 rfl ?_
      obtain ⟨g12, h⟩ := gd_some h
      obtain ⟨s13, e14, h⟩ := stp_some h
      refine v_iast oc94 (gI_rg _ _ _) g12.1 g12.2 dX14_signEnd_371 ?_
      rw [← e14]
      refine v_iload_n dX14_signEnd_372 2 rfl rfl ?_
      refine v_iload dX14_signEnd_373 3 rfl ?_
      refine v_iadd dX14_signEnd_375 ?_
      cases h
      exact v_iret (w32_rg _) dX14_signEnd_376

def j_X14_signEnd_270 (x1 : Int) (x2 : Int) (x4 : Int) (x5 : Int) (s : vS) : Option (Int × vS) :=
  if x2 = 58 then
    j_X14_signEnd_341 x1 x4 x5 1 s
  else
    if x2 = 59 then
      j_X14_signEnd_341 x1 x4 x5 1 s
    else
      if x2 = 46 then
        j_X14_signEnd_341 x1 x4 x5 1 s
      else
        if x2 = 62 then
          j_X14_signEnd_341 x1 x4 x5 1 s
        else
          if x2 = 61 then
            j_X14_signEnd_341 x1 x4 x5 1 s
          else
            if x2 = 64 then
              j_X14_signEnd_341 x1 x4 x5 1 s
            else
              if x2 = 33 then
                j_X14_signEnd_341 x1 x4 x5 1 s
              else
                if x2 = 94 then
                  j_X14_signEnd_341 x1 x4 x5 1 s
                else
                  if x2 = 42 then
                    j_X14_signEnd_341 x1 x4 x5 1 s
                  else
                    if x2 = 47 then
                      j_X14_signEnd_341 x1 x4 x5 1 s
                    else
                      if x2 = 38 then
                        j_X14_signEnd_341 x1 x4 x5 1 s
                      else
                        j_X14_signEnd_341 x1 x4 x5 0 s
theorem wj_X14_signEnd_270 {x1 : Int} {x2 : Int} {x4 : Int} {x5 : Int} {s : vS} {out : Int × vS} (h : j_X14_signEnd_270 x1 x2 x4 x5 s = some out)  (rx1 : rg x1) (rx2 : rg x2) (rx4 : rg x4) (rx5 : rg x5) : VW cX14_signEnd (RX14, (some (vI out.1)), out.2, (some .int), 1, 22, 7, []) (P0 []) s 270 [(0, vO 87), (1, vI x1), (2, vI x2), (4, vI x4), (5, vI x5)] [] := by
  unfold j_X14_signEnd_270 at h
  refine v_iload_n dX14_signEnd_270 2 rfl rfl ?_
  refine v_bipush dX14_signEnd_271 rfl ?_
  refine v_icmp_eq (tgt := 336) dX14_signEnd_273 rx2 (rgl rfl) (by decide) (fun c1 => ?_) (fun c1 => ?_)
  · rw [if_pos c1] at h
    refine v_iconst dX14_signEnd_336 ?_
    refine v_goto (tgt := 341) dX14_signEnd_337 (by decide) ?_
    refine v_sub [0, 1, 3, 4] (L1 := [(0, vO 87), (1, vI x1), (4, vI x4), (5, vI x5)]) rfl ?_
    exact wj_X14_signEnd_341 h rx1 rx4 rx5 (rgl rfl)
  · rw [if_neg c1] at h
    refine v_iload_n dX14_signEnd_276 2 rfl rfl ?_
    refine v_bipush dX14_signEnd_277 rfl ?_
    refine v_icmp_eq (tgt := 336) dX14_signEnd_279 rx2 (rgl rfl) (by decide) (fun c2 => ?_) (fun c2 => ?_)
    · rw [if_pos c2] at h
      refine v_iconst dX14_signEnd_336 ?_
      refine v_goto (tgt := 341) dX14_signEnd_337 (by decide) ?_
      refine v_sub [0, 1, 3, 4] (L1 := [(0, vO 87), (1, vI x1), (4, vI x4), (5, vI x5)]) rfl ?_
      exact wj_X14_signEnd_341 h rx1 rx4 rx5 (rgl rfl)
    · rw [if_neg c2] at h
      refine v_iload_n dX14_signEnd_282 2 rfl rfl ?_
      refine v_bipush dX14_signEnd_283 rfl ?_
      refine v_icmp_eq (tgt := 336) dX14_signEnd_285 rx2 (rgl rfl) (by decide) (fun c3 => ?_) (fun c3 => ?_)
      · rw [if_pos c3] at h
        refine v_iconst dX14_signEnd_336 ?_
        refine v_goto (tgt := 341) dX14_signEnd_337 (by decide) ?_
        refine v_sub [0, 1, 3, 4] (L1 := [(0, vO 87), (1, vI x1), (4, vI x4), (5, vI x5)]) rfl ?_
        exact wj_X14_signEnd_341 h rx1 rx4 rx5 (rgl rfl)
      · rw [if_neg c3] at h
        refine v_iload_n dX14_signEnd_288 2 rfl rfl ?_
        refine v_bipush dX14_signEnd_289 rfl ?_
        refine v_icmp_eq (tgt := 336) dX14_signEnd_291 rx2 (rgl rfl) (by decide) (fun c4 => ?_) (fun c4 => ?_)
        · rw [if_pos c4] at h
          refine v_iconst dX14_signEnd_336 ?_
          refine v_goto (tgt := 341) dX14_signEnd_337 (by decide) ?_
          refine v_sub [0, 1, 3, 4] (L1 := [(0, vO 87), (1, vI x1), (4, vI x4), (5, vI x5)]) rfl ?_
          exact wj_X14_signEnd_341 h rx1 rx4 rx5 (rgl rfl)
        · rw [if_neg c4] at h
          refine v_iload_n dX14_signEnd_294 2 rfl rfl ?_
          refine v_bipush dX14_signEnd_295 rfl ?_
          refine v_icmp_eq (tgt := 336) dX14_signEnd_297 rx2 (rgl rfl) (by decide) (fun c5 => ?_) (fun c5 => ?_)
          · rw [if_pos c5] at h
            refine v_iconst dX14_signEnd_336 ?_
            refine v_goto (tgt := 341) dX14_signEnd_337 (by decide) ?_
            refine v_sub [0, 1, 3, 4] (L1 := [(0, vO 87), (1, vI x1), (4, vI x4), (5, vI x5)]) rfl ?_
            exact wj_X14_signEnd_341 h rx1 rx4 rx5 (rgl rfl)
          · rw [if_neg c5] at h
            refine v_iload_n dX14_signEnd_300 2 rfl rfl ?_
            refine v_bipush dX14_signEnd_301 rfl ?_
            refine v_icmp_eq (tgt := 336) dX14_signEnd_303 rx2 (rgl rfl) (by decide) (fun c6 => ?_) (fun c6 => ?_)
            · rw [if_pos c6] at h
              refine v_iconst dX14_signEnd_336 ?_
              refine v_goto (tgt := 341) dX14_signEnd_337 (by decide) ?_
              refine v_sub [0, 1, 3, 4] (L1 := [(0, vO 87), (1, vI x1), (4, vI x4), (5, vI x5)]) rfl ?_
              exact wj_X14_signEnd_341 h rx1 rx4 rx5 (rgl rfl)
            · rw [if_neg c6] at h
              refine v_iload_n dX14_signEnd_306 2 rfl rfl ?_
              refine v_bipush dX14_signEnd_307 rfl ?_
              refine v_icmp_eq (tgt := 336) dX14_signEnd_309 rx2 (rgl rfl) (by decide) (fun c7 => ?_) (fun c7 => ?_)
              · rw [if_pos c7] at h
                refine v_iconst dX14_signEnd_336 ?_
                refine v_goto (tgt := 341) dX14_signEnd_337 (by decide) ?_
                refine v_sub [0, 1, 3, 4] (L1 := [(0, vO 87), (1, vI x1), (4, vI x4), (5, vI x5)]) rfl ?_
                exact wj_X14_signEnd_341 h rx1 rx4 rx5 (rgl rfl)
              · rw [if_neg c7] at h
                refine v_iload_n dX14_signEnd_312 2 rfl rfl ?_
                refine v_bipush dX14_signEnd_313 rfl ?_
                refine v_icmp_eq (tgt := 336) dX14_signEnd_315 rx2 (rgl rfl) (by decide) (fun c8 => ?_) (fun c8 => ?_)
                · rw [if_pos c8] at h
                  refine v_iconst dX14_signEnd_336 ?_
                  refine v_goto (tgt := 341) dX14_signEnd_337 (by decide) ?_
                  refine v_sub [0, 1, 3, 4] (L1 := [(0, vO 87), (1, vI x1), (4, vI x4), (5, vI x5)]) rfl ?_
                  exact wj_X14_signEnd_341 h rx1 rx4 rx5 (rgl rfl)
                · rw [if_neg c8] at h
                  refine v_iload_n dX14_signEnd_318 2 rfl rfl ?_
                  refine v_bipush dX14_signEnd_319 rfl ?_
                  refine v_icmp_eq (tgt := 336) dX14_signEnd_321 rx2 (rgl rfl) (by decide) (fun c9 => ?_) (fun c9 => ?_)
                  · rw [if_pos c9] at h
                    refine v_iconst dX14_signEnd_336 ?_
                    refine v_goto (tgt := 341) dX14_signEnd_337 (by decide) ?_
                    refine v_sub [0, 1, 3, 4] (L1 := [(0, vO 87), (1, vI x1), (4, vI x4), (5, vI x5)]) rfl ?_
                    exact wj_X14_signEnd_341 h rx1 rx4 rx5 (rgl rfl)
                  · rw [if_neg c9] at h
                    refine v_iload_n dX14_signEnd_324 2 rfl rfl ?_
                    refine v_bipush dX14_signEnd_325 rfl ?_
                    refine v_icmp_eq (tgt := 336) dX14_signEnd_327 rx2 (rgl rfl) (by decide) (fun c10 => ?_) (fun c10 => ?_)
                    · rw [if_pos c10] at h
                      refine v_iconst dX14_signEnd_336 ?_
                      refine v_goto (tgt := 341) dX14_signEnd_337 (by decide) ?_
                      refine v_sub [0, 1, 3, 4] (L1 := [(0, vO 87), (1, vI x1), (4, vI x4), (5, vI x5)]) rfl ?_
                      exact wj_X14_signEnd_341 h rx1 rx4 rx5 (rgl rfl)
                    · rw [if_neg c10] at h
                      refine v_iload_n dX14_signEnd_330 2 rfl rfl ?_
                      refine v_bipush dX14_signEnd_331 rfl ?_
                      refine v_icmp_ne (tgt := 340) dX14_signEnd_333 rx2 (rgl rfl) (by decide) (fun c11 => ?_) (fun c11 => ?_)
                      · rw [if_neg c11] at h
                        refine v_iconst dX14_signEnd_340 ?_
                        refine v_sub [0, 1, 3, 4] (L1 := [(0, vO 87), (1, vI x1), (4, vI x4), (5, vI x5)]) rfl ?_
                        exact wj_X14_signEnd_341 h rx1 rx4 rx5 (rgl rfl)
                      · rw [if_pos c11] at h
                        refine v_iconst dX14_signEnd_336 ?_
                        refine v_goto (tgt := 341) dX14_signEnd_337 (by decide) ?_
                        refine v_sub [0, 1, 3, 4] (L1 := [(0, vO 87), (1, vI x1), (4, vI x4), (5, vI x5)]) rfl ?_
                        exact wj_X14_signEnd_341 h rx1 rx4 rx5 (rgl rfl)

def j_X14_signEnd_158 (x1 : Int) (x2 : Int) (z0 : Int) (s : vS) : Option (Int × vS) :=
  if z0 = 2 then
    j_X14_signEnd_270 x1 x2 z0 11 s
  else
    j_X14_signEnd_270 x1 x2 z0 15 s
theorem wj_X14_signEnd_158 {x1 : Int} {x2 : Int} {z0 : Int} {s : vS} {out : Int × vS} (h : j_X14_signEnd_158 x1 x2 z0 s = some out)  (rx1 : rg x1) (rx2 : rg x2) (rz0 : rg z0) : VW cX14_signEnd (RX14, (some (vI out.1)), out.2, (some .int), 1, 22, 7, []) (P0 []) s 158 [(0, vO 87), (1, vI x1), (2, vI x2)] [vI z0] := by
  unfold j_X14_signEnd_158 at h
  refine v_istore (L1 := [(4, vI z0), (0, vO 87), (1, vI x1), (2, vI x2)]) dX14_signEnd_158 (by decide) rfl ?_
  refine v_iload dX14_signEnd_160 0 rfl ?_
  refine v_iconst dX14_signEnd_162 ?_
  refine v_icmp_ne (tgt := 171) dX14_signEnd_163 rz0 (rgl rfl) (by decide) (fun c1 => ?_) (fun c1 => ?_)
  · rw [if_neg c1] at h
    refine v_bipush dX14_signEnd_171 rfl ?_
    refine v_istore (L1 := [(5, vI 15), (4, vI z0), (0, vO 87), (1, vI x1), (2, vI x2)]) dX14_signEnd_173 (by decide) rfl ?_
    refine v_goto (tgt := 270) dX14_signEnd_175 (by decide) ?_
    refine v_sub [2, 3, 4, 1, 0] (L1 := [(0, vO 87), (1, vI x1), (2, vI x2), (4, vI z0), (5, vI 15)]) rfl ?_
    exact wj_X14_signEnd_270 h rx1 rx2 rz0 (rgl rfl)
  · rw [if_pos c1] at h
    refine v_bipush dX14_signEnd_166 rfl ?_
    refine v_goto (tgt := 173) dX14_signEnd_168 (by decide) ?_
    refine v_istore (L1 := [(5, vI 11), (4, vI z0), (0, vO 87), (1, vI x1), (2, vI x2)]) dX14_signEnd_173 (by decide) rfl ?_
    refine v_goto (tgt := 270) dX14_signEnd_175 (by decide) ?_
    refine v_sub [2, 3, 4, 1, 0] (L1 := [(0, vO 87), (1, vI x1), (2, vI x2), (4, vI z0), (5, vI 11)]) rfl ?_
    exact wj_X14_signEnd_270 h rx1 rx2 rz0 (rgl rfl)

def j_X14_signEnd_121 (x1 : Int) (x2 : Int) (z0 : Int) (s : vS) : Option (Int × vS) :=
  if z0 = 2 then
    j_X14_signEnd_270 x1 x2 z0 10 s
  else
    j_X14_signEnd_270 x1 x2 z0 14 s
theorem wj_X14_signEnd_121 {x1 : Int} {x2 : Int} {z0 : Int} {s : vS} {out : Int × vS} (h : j_X14_signEnd_121 x1 x2 z0 s = some out)  (rx1 : rg x1) (rx2 : rg x2) (rz0 : rg z0) : VW cX14_signEnd (RX14, (some (vI out.1)), out.2, (some .int), 1, 22, 7, []) (P0 []) s 121 [(0, vO 87), (1, vI x1), (2, vI x2)] [vI z0] := by
  unfold j_X14_signEnd_121 at h
  refine v_istore (L1 := [(4, vI z0), (0, vO 87), (1, vI x1), (2, vI x2)]) dX14_signEnd_121 (by decide) rfl ?_
  refine v_iload dX14_signEnd_123 0 rfl ?_
  refine v_iconst dX14_signEnd_125 ?_
  refine v_icmp_ne (tgt := 134) dX14_signEnd_126 rz0 (rgl rfl) (by decide) (fun c1 => ?_) (fun c1 => ?_)
  · rw [if_neg c1] at h
    refine v_bipush dX14_signEnd_134 rfl ?_
    refine v_istore (L1 := [(5, vI 14), (4, vI z0), (0, vO 87), (1, vI x1), (2, vI x2)]) dX14_signEnd_136 (by decide) rfl ?_
    refine v_goto (tgt := 270) dX14_signEnd_138 (by decide) ?_
    refine v_sub [2, 3, 4, 1, 0] (L1 := [(0, vO 87), (1, vI x1), (2, vI x2), (4, vI z0), (5, vI 14)]) rfl ?_
    exact wj_X14_signEnd_270 h rx1 rx2 rz0 (rgl rfl)
  · rw [if_pos c1] at h
    refine v_bipush dX14_signEnd_129 rfl ?_
    refine v_goto (tgt := 136) dX14_signEnd_131 (by decide) ?_
    refine v_istore (L1 := [(5, vI 10), (4, vI z0), (0, vO 87), (1, vI x1), (2, vI x2)]) dX14_signEnd_136 (by decide) rfl ?_
    refine v_goto (tgt := 270) dX14_signEnd_138 (by decide) ?_
    refine v_sub [2, 3, 4, 1, 0] (L1 := [(0, vO 87), (1, vI x1), (2, vI x2), (4, vI z0), (5, vI 10)]) rfl ?_
    exact wj_X14_signEnd_270 h rx1 rx2 rz0 (rgl rfl)

def j_X14_signEnd_104 (x1 : Int) (x2 : Int) (x3 : Int) (x4 : Int) (s : vS) : Option (Int × vS) :=
  if x2 = 91 then
    if x3 = 91 then
      j_X14_signEnd_121 x1 x2 2 s
    else
      j_X14_signEnd_121 x1 x2 1 s
  else
    if x2 = 93 then
      if x3 = 93 then
        j_X14_signEnd_158 x1 x2 2 s
      else
        j_X14_signEnd_158 x1 x2 1 s
    else
      if x2 = 123 then
        j_X14_signEnd_270 x1 x2 x4 12 s
      else
        if x2 = 125 then
          j_X14_signEnd_270 x1 x2 x4 13 s
        else
          if x2 = 40 then
            j_X14_signEnd_270 x1 x2 x4 16 s
          else
            if x2 = 41 then
              j_X14_signEnd_270 x1 x2 x4 17 s
            else
              if x2 = 44 then
                j_X14_signEnd_270 x1 x2 x4 18 s
              else
                if x2 = 45 then
                  j_X14_signEnd_270 x1 x2 x4 19 s
                else
                  if x2 = 60 then
                    j_X14_signEnd_270 x1 x2 x4 20 s
                  else
                    if x2 = 124 then
                      j_X14_signEnd_270 x1 x2 x4 21 s
                    else
                      j_X14_signEnd_270 x1 x2 x4 22 s
theorem wj_X14_signEnd_104 {x1 : Int} {x2 : Int} {x3 : Int} {x4 : Int} {s : vS} {out : Int × vS} (h : j_X14_signEnd_104 x1 x2 x3 x4 s = some out)  (rx1 : rg x1) (rx2 : rg x2) (rx3 : rg x3) (rx4 : rg x4) : VW cX14_signEnd (RX14, (some (vI out.1)), out.2, (some .int), 1, 22, 7, []) (P0 []) s 104 [(0, vO 87), (1, vI x1), (2, vI x2), (3, vI x3), (4, vI x4)] [] := by
  unfold j_X14_signEnd_104 at h
  refine v_iload_n dX14_signEnd_104 2 rfl rfl ?_
  refine v_bipush dX14_signEnd_105 rfl ?_
  refine v_icmp_ne (tgt := 141) dX14_signEnd_107 rx2 (rgl rfl) (by decide) (fun c1 => ?_) (fun c1 => ?_)
  · rw [if_neg c1] at h
    refine v_iload_n dX14_signEnd_141 2 rfl rfl ?_
    refine v_bipush dX14_signEnd_142 rfl ?_
    refine v_icmp_ne (tgt := 178) dX14_signEnd_144 rx2 (rgl rfl) (by decide) (fun c2 => ?_) (fun c2 => ?_)
    · rw [if_neg c2] at h
      refine v_iload_n dX14_signEnd_178 2 rfl rfl ?_
      refine v_bipush dX14_signEnd_179 rfl ?_
      refine v_icmp_ne (tgt := 189) dX14_signEnd_181 rx2 (rgl rfl) (by decide) (fun c3 => ?_) (fun c3 => ?_)
      · rw [if_neg c3] at h
        refine v_iload_n dX14_signEnd_189 2 rfl rfl ?_
        refine v_bipush dX14_signEnd_190 rfl ?_
        refine v_icmp_ne (tgt := 200) dX14_signEnd_192 rx2 (rgl rfl) (by decide) (fun c4 => ?_) (fun c4 => ?_)
        · rw [if_neg c4] at h
          refine v_iload_n dX14_signEnd_200 2 rfl rfl ?_
          refine v_bipush dX14_signEnd_201 rfl ?_
          refine v_icmp_ne (tgt := 211) dX14_signEnd_203 rx2 (rgl rfl) (by decide) (fun c5 => ?_) (fun c5 => ?_)
          · rw [if_neg c5] at h
            refine v_iload_n dX14_signEnd_211 2 rfl rfl ?_
            refine v_bipush dX14_signEnd_212 rfl ?_
            refine v_icmp_ne (tgt := 222) dX14_signEnd_214 rx2 (rgl rfl) (by decide) (fun c6 => ?_) (fun c6 => ?_)
            · rw [if_neg c6] at h
              refine v_iload_n dX14_signEnd_222 2 rfl rfl ?_
              refine v_bipush dX14_signEnd_223 rfl ?_
              refine v_icmp_ne (tgt := 233) dX14_signEnd_225 rx2 (rgl rfl) (by decide) (fun c7 => ?_) (fun c7 => ?_)
              · rw [if_neg c7] at h
                refine v_iload_n dX14_signEnd_233 2 rfl rfl ?_
                refine v_bipush dX14_signEnd_234 rfl ?_
                refine v_icmp_ne (tgt := 244) dX14_signEnd_236 rx2 (rgl rfl) (by decide) (fun c8 => ?_) (fun c8 => ?_)
                · rw [if_neg c8] at h
                  refine v_iload_n dX14_signEnd_244 2 rfl rfl ?_
                  refine v_bipush dX14_signEnd_245 rfl ?_
                  refine v_icmp_ne (tgt := 255) dX14_signEnd_247 rx2 (rgl rfl) (by decide) (fun c9 => ?_) (fun c9 => ?_)
                  · rw [if_neg c9] at h
                    refine v_iload_n dX14_signEnd_255 2 rfl rfl ?_
                    refine v_bipush dX14_signEnd_256 rfl ?_
                    refine v_icmp_ne (tgt := 266) dX14_signEnd_258 rx2 (rgl rfl) (by decide) (fun c10 => ?_) (fun c10 => ?_)
                    · rw [if_neg c10] at h
                      refine v_bipush dX14_signEnd_266 rfl ?_
                      refine v_istore (L1 := [(5, vI 22), (0, vO 87), (1, vI x1), (2, vI x2), (3, vI x3), (4, vI x4)]) dX14_signEnd_268 (by decide) rfl ?_
                      refine v_sub [1, 2, 3, 5, 0] (L1 := [(0, vO 87), (1, vI x1), (2, vI x2), (4, vI x4), (5, vI 22)]) rfl ?_
                      exact wj_X14_signEnd_270 h rx1 rx2 rx4 (rgl rfl)
                    · rw [if_pos c10] at h
                      refine v_bipush dX14_signEnd_261 rfl ?_
                      refine v_goto (tgt := 268) dX14_signEnd_263 (by decide) ?_
                      refine v_istore (L1 := [(5, vI 21), (0, vO 87), (1, vI x1), (2, vI x2), (3, vI x3), (4, vI x4)]) dX14_signEnd_268 (by decide) rfl ?_
                      refine v_sub [1, 2, 3, 5, 0] (L1 := [(0, vO 87), (1, vI x1), (2, vI x2), (4, vI x4), (5, vI 21)]) rfl ?_
                      exact wj_X14_signEnd_270 h rx1 rx2 rx4 (rgl rfl)
                  · rw [if_pos c9] at h
                    refine v_bipush dX14_signEnd_250 rfl ?_
                    refine v_goto (tgt := 268) dX14_signEnd_252 (by decide) ?_
                    refine v_istore (L1 := [(5, vI 20), (0, vO 87), (1, vI x1), (2, vI x2), (3, vI x3), (4, vI x4)]) dX14_signEnd_268 (by decide) rfl ?_
                    refine v_sub [1, 2, 3, 5, 0] (L1 := [(0, vO 87), (1, vI x1), (2, vI x2), (4, vI x4), (5, vI 20)]) rfl ?_
                    exact wj_X14_signEnd_270 h rx1 rx2 rx4 (rgl rfl)
                · rw [if_pos c8] at h
                  refine v_bipush dX14_signEnd_239 rfl ?_
                  refine v_goto (tgt := 268) dX14_signEnd_241 (by decide) ?_
                  refine v_istore (L1 := [(5, vI 19), (0, vO 87), (1, vI x1), (2, vI x2), (3, vI x3), (4, vI x4)]) dX14_signEnd_268 (by decide) rfl ?_
                  refine v_sub [1, 2, 3, 5, 0] (L1 := [(0, vO 87), (1, vI x1), (2, vI x2), (4, vI x4), (5, vI 19)]) rfl ?_
                  exact wj_X14_signEnd_270 h rx1 rx2 rx4 (rgl rfl)
              · rw [if_pos c7] at h
                refine v_bipush dX14_signEnd_228 rfl ?_
                refine v_goto (tgt := 268) dX14_signEnd_230 (by decide) ?_
                refine v_istore (L1 := [(5, vI 18), (0, vO 87), (1, vI x1), (2, vI x2), (3, vI x3), (4, vI x4)]) dX14_signEnd_268 (by decide) rfl ?_
                refine v_sub [1, 2, 3, 5, 0] (L1 := [(0, vO 87), (1, vI x1), (2, vI x2), (4, vI x4), (5, vI 18)]) rfl ?_
                exact wj_X14_signEnd_270 h rx1 rx2 rx4 (rgl rfl)
            · rw [if_pos c6] at h
              refine v_bipush dX14_signEnd_217 rfl ?_
              refine v_goto (tgt := 268) dX14_signEnd_219 (by decide) ?_
              refine v_istore (L1 := [(5, vI 17), (0, vO 87), (1, vI x1), (2, vI x2), (3, vI x3), (4, vI x4)]) dX14_signEnd_268 (by decide) rfl ?_
              refine v_sub [1, 2, 3, 5, 0] (L1 := [(0, vO 87), (1, vI x1), (2, vI x2), (4, vI x4), (5, vI 17)]) rfl ?_
              exact wj_X14_signEnd_270 h rx1 rx2 rx4 (rgl rfl)
          · rw [if_pos c5] at h
            refine v_bipush dX14_signEnd_206 rfl ?_
            refine v_goto (tgt := 268) dX14_signEnd_208 (by decide) ?_
            refine v_istore (L1 := [(5, vI 16), (0, vO 87), (1, vI x1), (2, vI x2), (3, vI x3), (4, vI x4)]) dX14_signEnd_268 (by decide) rfl ?_
            refine v_sub [1, 2, 3, 5, 0] (L1 := [(0, vO 87), (1, vI x1), (2, vI x2), (4, vI x4), (5, vI 16)]) rfl ?_
            exact wj_X14_signEnd_270 h rx1 rx2 rx4 (rgl rfl)
        · rw [if_pos c4] at h
          refine v_bipush dX14_signEnd_195 rfl ?_
          refine v_goto (tgt := 268) dX14_signEnd_197 (by decide) ?_
          refine v_istore (L1 := [(5, vI 13), (0, vO 87), (1, vI x1), (2, vI x2), (3, vI x3), (4, vI x4)]) dX14_signEnd_268 (by decide) rfl ?_
          refine v_sub [1, 2, 3, 5, 0] (L1 := [(0, vO 87), (1, vI x1), (2, vI x2), (4, vI x4), (5, vI 13)]) rfl ?_
          exact wj_X14_signEnd_270 h rx1 rx2 rx4 (rgl rfl)
      · rw [if_pos c3] at h
        refine v_bipush dX14_signEnd_184 rfl ?_
        refine v_goto (tgt := 268) dX14_signEnd_186 (by decide) ?_
        refine v_istore (L1 := [(5, vI 12), (0, vO 87), (1, vI x1), (2, vI x2), (3, vI x3), (4, vI x4)]) dX14_signEnd_268 (by decide) rfl ?_
        refine v_sub [1, 2, 3, 5, 0] (L1 := [(0, vO 87), (1, vI x1), (2, vI x2), (4, vI x4), (5, vI 12)]) rfl ?_
        exact wj_X14_signEnd_270 h rx1 rx2 rx4 (rgl rfl)
    · rw [if_pos c2] at h
      refine v_iload_n dX14_signEnd_147 3 rfl rfl ?_
      refine v_bipush dX14_signEnd_148 rfl ?_
      refine v_icmp_ne (tgt := 157) dX14_signEnd_150 rx3 (rgl rfl) (by decide) (fun c11 => ?_) (fun c11 => ?_)
      · rw [if_neg c11] at h
        refine v_iconst dX14_signEnd_157 ?_
        refine v_sub [0, 1, 2] (L1 := [(0, vO 87), (1, vI x1), (2, vI x2)]) rfl ?_
        exact wj_X14_signEnd_158 h rx1 rx2 (rgl rfl)
      · rw [if_pos c11] at h
        refine v_iconst dX14_signEnd_153 ?_
        refine v_goto (tgt := 158) dX14_signEnd_154 (by decide) ?_
        refine v_sub [0, 1, 2] (L1 := [(0, vO 87), (1, vI x1), (2, vI x2)]) rfl ?_
        exact wj_X14_signEnd_158 h rx1 rx2 (rgl rfl)
  · rw [if_pos c1] at h
    refine v_iload_n dX14_signEnd_110 3 rfl rfl ?_
    refine v_bipush dX14_signEnd_111 rfl ?_
    refine v_icmp_ne (tgt := 120) dX14_signEnd_113 rx3 (rgl rfl) (by decide) (fun c12 => ?_) (fun c12 => ?_)
    · rw [if_neg c12] at h
      refine v_iconst dX14_signEnd_120 ?_
      refine v_sub [0, 1, 2] (L1 := [(0, vO 87), (1, vI x1), (2, vI x2)]) rfl ?_
      exact wj_X14_signEnd_121 h rx1 rx2 (rgl rfl)
    · rw [if_pos c12] at h
      refine v_iconst dX14_signEnd_116 ?_
      refine v_goto (tgt := 121) dX14_signEnd_117 (by decide) ?_
      refine v_sub [0, 1, 2] (L1 := [(0, vO 87), (1, vI x1), (2, vI x2)]) rfl ?_
      exact wj_X14_signEnd_121 h rx1 rx2 (rgl rfl)

def j_X14_signEnd_84 (x1 : Int) (x2 : Int) (z0 : Int) (s : vS) : Option (Int × vS) :=
  if z0 = 3 then
    j_X14_signEnd_270 x1 x2 z0 8 s
  else
    j_X14_signEnd_270 x1 x2 z0 9 s
theorem wj_X14_signEnd_84 {x1 : Int} {x2 : Int} {z0 : Int} {s : vS} {out : Int × vS} (h : j_X14_signEnd_84 x1 x2 z0 s = some out)  (rx1 : rg x1) (rx2 : rg x2) (rz0 : rg z0) : VW cX14_signEnd (RX14, (some (vI out.1)), out.2, (some .int), 1, 22, 7, []) (P0 []) s 84 [(0, vO 87), (1, vI x1), (2, vI x2)] [vI z0] := by
  unfold j_X14_signEnd_84 at h
  refine v_istore (L1 := [(4, vI z0), (0, vO 87), (1, vI x1), (2, vI x2)]) dX14_signEnd_84 (by decide) rfl ?_
  refine v_iload dX14_signEnd_86 0 rfl ?_
  refine v_iconst dX14_signEnd_88 ?_
  refine v_icmp_ne (tgt := 97) dX14_signEnd_89 rz0 (rgl rfl) (by decide) (fun c1 => ?_) (fun c1 => ?_)
  · rw [if_neg c1] at h
    refine v_bipush dX14_signEnd_97 rfl ?_
    refine v_istore (L1 := [(5, vI 9), (4, vI z0), (0, vO 87), (1, vI x1), (2, vI x2)]) dX14_signEnd_99 (by decide) rfl ?_
    refine v_goto (tgt := 270) dX14_signEnd_101 (by decide) ?_
    refine v_sub [2, 3, 4, 1, 0] (L1 := [(0, vO 87), (1, vI x1), (2, vI x2), (4, vI z0), (5, vI 9)]) rfl ?_
    exact wj_X14_signEnd_270 h rx1 rx2 rz0 (rgl rfl)
  · rw [if_pos c1] at h
    refine v_bipush dX14_signEnd_92 rfl ?_
    refine v_goto (tgt := 99) dX14_signEnd_94 (by decide) ?_
    refine v_istore (L1 := [(5, vI 8), (4, vI z0), (0, vO 87), (1, vI x1), (2, vI x2)]) dX14_signEnd_99 (by decide) rfl ?_
    refine v_goto (tgt := 270) dX14_signEnd_101 (by decide) ?_
    refine v_sub [2, 3, 4, 1, 0] (L1 := [(0, vO 87), (1, vI x1), (2, vI x2), (4, vI z0), (5, vI 8)]) rfl ?_
    exact wj_X14_signEnd_270 h rx1 rx2 rz0 (rgl rfl)

def j_X14_signEnd_55 (x1 : Int) (x2 : Int) (x3 : Int) (x4 : Int) (s : vS) : Option (Int × vS) :=
  if x2 = 46 then
    if x3 = 46 then
      bd (f_X14_ch (w32 (x1 + 2)) s) fun r6 s3 =>
      if r6 = 46 then
        j_X14_signEnd_84 x1 x2 3 s3
      else
        j_X14_signEnd_84 x1 x2 2 s3
    else
      j_X14_signEnd_104 x1 x2 x3 x4 s
  else
    j_X14_signEnd_104 x1 x2 x3 x4 s
theorem wj_X14_signEnd_55 {x1 : Int} {x2 : Int} {x3 : Int} {x4 : Int} {s : vS} {out : Int × vS} (h : j_X14_signEnd_55 x1 x2 x3 x4 s = some out)  (rx1 : rg x1) (rx2 : rg x2) (rx3 : rg x3) (rx4 : rg x4) : VW cX14_signEnd (RX14, (some (vI out.1)), out.2, (some .int), 1, 22, 7, []) (P0 []) s 55 [(0, vO 87), (1, vI x1), (2, vI x2), (3, vI x3), (4, vI x4)] [] := by
  unfold j_X14_signEnd_55 at h
  refine v_iload_n dX14_signEnd_55 2 rfl rfl ?_
  refine v_bipush dX14_signEnd_56 rfl ?_
  refine v_icmp_ne (tgt := 104) dX14_signEnd_58 rx2 (rgl rfl) (by decide) (fun c1 => ?_) (fun c1 => ?_)
  · rw [if_neg c1] at h
    exact wj_X14_signEnd_104 h rx1 rx2 rx3 rx4
  · rw [if_pos c1] at h
    refine v_iload_n dX14_signEnd_61 3 rfl rfl ?_
    refine v_bipush dX14_signEnd_62 rfl ?_
    refine v_icmp_ne (tgt := 104) dX14_signEnd_64 rx3 (rgl rfl) (by decide) (fun c2 => ?_) (fun c2 => ?_)
    · rw [if_neg c2] at h
      exact wj_X14_signEnd_104 h rx1 rx2 rx3 rx4
    · rw [if_pos c2] at h
      refine v_aload_n dX14_signEnd_67 0 rfl rfl ?_
      refine v_iload_n dX14_signEnd_68 1 rfl rfl ?_
      refine v_iconst dX14_signEnd_69 ?_
      refine v_iadd dX14_signEnd_70 ?_
      obtain ⟨r6, s3, e4, h⟩ := bd_some h
      have k5 := c_X14_ch e4 (w32_rg _)
      have r7 : rg r6 := k5.1.2.2
      refine v_callV (st := []) cf14 oc87 k5 (lw_V q2901 q2903 qs160 q311 q2904) rfl yk_X14_ch ⟨Nat.le_of_ble_eq_true rfl, Nat.le_of_ble_eq_true rfl⟩ trivial ⟨kc87, trivial⟩ (Nat.le_of_ble_eq_true rfl) rfl dX14_signEnd_71 ?_
      refine v_bipush dX14_signEnd_74 rfl ?_
      refine v_icmp_ne (tgt := 83) dX14_signEnd_76 r7 (rgl rfl) (by decide) (fun c8 => ?_) (fun c8 => ?_)
      · rw [if_neg c8] at h
        refine v_iconst dX14_signEnd_83 ?_
        refine v_sub [0, 1, 2] (L1 := [(0, vO 87), (1, vI x1), (2, vI x2)]) rfl ?_
        exact wj_X14_signEnd_84 h rx1 rx2 (rgl rfl)
      · rw [if_pos c8] at h
        refine v_iconst dX14_signEnd_79 ?_
        refine v_goto (tgt := 84) dX14_signEnd_80 (by decide) ?_
        refine v_sub [0, 1, 2] (L1 := [(0, vO 87), (1, vI x1), (2, vI x2)]) rfl ?_
        exact wj_X14_signEnd_84 h rx1 rx2 (rgl rfl)

def f_X14_signEnd (x1 : Int) (s : vS) : Option (Int × vS) :=
  bd (f_X14_ch x1 s) fun r4 s1 =>
  bd (f_X14_ch (w32 (x1 + 1)) s1) fun r9 s6 =>
  if r4 = 58 then
    if r9 = 58 then
      bd (f_X14_ch (w32 (x1 + 2)) s6) fun r16 s13 =>
      if r16 = 61 then
        j_X14_signEnd_270 x1 r4 3 7 s13
      else
        j_X14_signEnd_55 x1 r4 r9 1 s13
    else
      j_X14_signEnd_55 x1 r4 r9 1 s6
  else
    j_X14_signEnd_55 x1 r4 r9 1 s6
theorem yk_X14_signEnd : yOk yX14_signEnd 1 := ⟨by decide, by decide, by decide +kernel⟩
theorem c_X14_signEnd {x1 : Int} {s : vS} {out : Int × vS} (h : f_X14_signEnd x1 s = some out)  (rx1 : rg x1) : VC yX14_signEnd cX14_signEnd 7 (some .int) 1 22 [vO 87, vI x1] s (some (vI out.1)) out.2 [] := by
  unfold f_X14_signEnd at h
  refine VC.of RX14 (by decide) rfl (Nat.le_of_ble_eq_true rfl) ?_
  show VW cX14_signEnd (RX14, (some (vI out.1)), out.2, (some .int), 1, 22, 7, []) (P0 []) s 0 [(0, vO 87), (1, vI x1)] []
  refine v_aload_n dX14_signEnd_0 0 rfl rfl ?_
  refine v_iload_n dX14_signEnd_1 1 rfl rfl ?_
  obtain ⟨r4, s1, e2, h⟩ := bd_some h
  have k3 := c_X14_ch e2 rx1
  have r5 : rg r4 := k3.1.2.2
  refine v_callV (st := []) cf14 oc87 k3 (lw_V q2901 q2903 qs160 q311 q2904) rfl yk_X14_ch ⟨Nat.le_of_ble_eq_true rfl, Nat.le_of_ble_eq_true rfl⟩ trivial ⟨kc87, trivial⟩ (Nat.le_of_ble_eq_true rfl) rfl dX14_signEnd_2 ?_
  refine v_istore_n (L1 := [(2, vI r4), (0, vO 87), (1, vI x1)]) dX14_signEnd_5 rfl (by decide) rfl ?_
  refine v_aload_n dX14_signEnd_6 1 rfl rfl ?_
  refine v_iload_n dX14_signEnd_7 2 rfl rfl ?_
  refine v_iconst dX14_signEnd_8 ?_
  refine v_iadd dX14_signEnd_9 ?_
  obtain ⟨r9, s6, e7, h⟩ := bd_some h
  have k8 := c_X14_ch e7 (w32_rg _)
  have r10 : rg r9 := k8.1.2.2
  refine v_callV (st := []) cf14 oc87 k8 (lw_V q2901 q2903 qs160 q311 q2904) rfl yk_X14_ch ⟨Nat.le_of_ble_eq_true rfl, Nat.le_of_ble_eq_true rfl⟩ trivial ⟨kc87, trivial⟩ (Nat.le_of_ble_eq_true rfl) rfl dX14_signEnd_10 ?_
  refine v_istore_n (L1 := [(3, vI r9), (2, vI r4), (0, vO 87), (1, vI x1)]) dX14_signEnd_13 rfl (by decide) rfl ?_
  refine v_iconst dX14_signEnd_14 ?_
  refine v_istore (L1 := [(4, vI 1), (3, vI r9), (2, vI r4), (0, vO 87), (1, vI x1)]) dX14_signEnd_15 (by decide) rfl ?_
  refine v_bipush dX14_signEnd_17 rfl ?_
  refine v_istore (L1 := [(5, vI 22), (4, vI 1), (3, vI r9), (2, vI r4), (0, vO 87), (1, vI x1)]) dX14_signEnd_19 (by decide) rfl ?_
  refine v_iload_n dX14_signEnd_21 3 rfl rfl ?_
  refine v_bipush dX14_signEnd_22 rfl ?_
  refine v_icmp_ne (tgt := 55) dX14_signEnd_24 r5 (rgl rfl) (by decide) (fun c11 => ?_) (fun c11 => ?_)
  · rw [if_neg c11] at h
    refine v_sub [4, 5, 3, 2, 1] (L1 := [(0, vO 87), (1, vI x1), (2, vI r4), (3, vI r9), (4, vI 1)]) rfl ?_
    exact wj_X14_signEnd_55 h rx1 r5 r10 (rgl rfl)
  · rw [if_pos c11] at h
    refine v_iload_n dX14_signEnd_27 2 rfl rfl ?_
    refine v_bipush dX14_signEnd_28 rfl ?_
    refine v_icmp_ne (tgt := 55) dX14_signEnd_30 r10 (rgl rfl) (by decide) (fun c12 => ?_) (fun c12 => ?_)
    · rw [if_neg c12] at h
      refine v_sub [4, 5, 3, 2, 1] (L1 := [(0, vO 87), (1, vI x1), (2, vI r4), (3, vI r9), (4, vI 1)]) rfl ?_
      exact wj_X14_signEnd_55 h rx1 r5 r10 (rgl rfl)
    · rw [if_pos c12] at h
      refine v_aload_n dX14_signEnd_33 4 rfl rfl ?_
      refine v_iload_n dX14_signEnd_34 5 rfl rfl ?_
      refine v_iconst dX14_signEnd_35 ?_
      refine v_iadd dX14_signEnd_36 ?_
      obtain ⟨r16, s13, e14, h⟩ := bd_some h
      have k15 := c_X14_ch e14 (w32_rg _)
      have r17 : rg r16 := k15.1.2.2
      refine v_callV (st := []) cf14 oc87 k15 (lw_V q2901 q2903 qs160 q311 q2904) rfl yk_X14_ch ⟨Nat.le_of_ble_eq_true rfl, Nat.le_of_ble_eq_true rfl⟩ trivial ⟨kc87, trivial⟩ (Nat.le_of_ble_eq_true rfl) rfl dX14_signEnd_37 ?_
      refine v_bipush dX14_signEnd_40 rfl ?_
      refine v_icmp_ne (tgt := 55) dX14_signEnd_42 r17 (rgl rfl) (by decide) (fun c18 => ?_) (fun c18 => ?_)
      · rw [if_neg c18] at h
        refine v_sub [4, 5, 3, 2, 1] (L1 := [(0, vO 87), (1, vI x1), (2, vI r4), (3, vI r9), (4, vI 1)]) rfl ?_
        exact wj_X14_signEnd_55 h rx1 r5 r10 (rgl rfl)
      · rw [if_pos c18] at h
        refine v_bipush dX14_signEnd_45 rfl ?_
        refine v_istore (L1 := [(5, vI 7), (4, vI 1), (3, vI r9), (2, vI r4), (0, vO 87), (1, vI x1)]) dX14_signEnd_47 (by decide) rfl ?_
        refine v_iconst dX14_signEnd_49 ?_
        refine v_istore (L1 := [(4, vI 3), (5, vI 7), (3, vI r9), (2, vI r4), (0, vO 87), (1, vI x1)]) dX14_signEnd_50 (by decide) rfl ?_
        refine v_goto (tgt := 270) dX14_signEnd_52 (by decide) ?_
        refine v_sub [4, 5, 3, 0, 1] (L1 := [(0, vO 87), (1, vI x1), (2, vI r4), (4, vI 3), (5, vI 7)]) rfl ?_
        exact wj_X14_signEnd_270 h rx1 r5 (rgl rfl) (rgl rfl)

def E_X14_cutText_11 (rv : Option vA) (σo : vS) (q : vS) : Prop := ∀ (s' : vS), q = s' → VW cX14_cutText (RX14, rv, σo, none, 4, 84, 4, []) (P0 []) s' 200 [(0, vO 87)] []
def j_X14_cutText_154 (rec : Int → vS → Option (vS)) (x1 : Int) (x3 : Int) (s : vS) : Option (vS) :=
  gd (inb (gI s 87 15) (gN s 95)) <|
  stp (sE s 95 (gI s 87 15) x1) fun s2 =>
  gd (inb (gI s2 87 15) (gN s2 96)) <|
  stp (sE s2 96 (gI s2 87 15) x3) fun s5 =>
  stp (sI s5 87 15 (w32 ((gI s5 87 15) + 1))) fun s7 =>
  if (gI s7 87 8) = 0 then
    bd (f_X14_skip x3 s7) fun r13 s10 =>
    rec r13 s10
  else
    rec x1 s7
theorem wj_X14_cutText_154 {x1 : Int} {x3 : Int} {s : vS} {rv : Option vA} {σo : vS} {rec : Int → vS → Option (vS)} {q : vS} (h : j_X14_cutText_154 rec x1 x3 s = some q)  (rx1 : rg x1) (rx3 : rg x3) (hrec : ∀ (y1 : Int) (s : vS) (q : vS), rec y1 s = some q → rg y1 → E_X14_cutText_11 rv σo q → VW cX14_cutText (RX14, rv, σo, none, 4, 84, 4, []) (P0 []) s 11 [(0, vO 87), (1, vI y1)] []) (hE : E_X14_cutText_11 rv σo q) : VW cX14_cutText (RX14, rv, σo, none, 4, 84, 4, []) (P0 []) s 154 [(0, vO 87), (1, vI x1), (3, vI x3)] [] := by
  unfold j_X14_cutText_154 at h
  refine v_aload_n dX14_cutText_154 0 rfl rfl ?_
  refine v_getS (f := 17) (t := 95) cf14 oc87 rfl rfl rfl (by decide) q2387 dX14_cutText_155 ?_
  refine v_aload_n dX14_cutText_158 0 rfl rfl ?_
  refine v_getI (f := 15) cf14 oc87 rfl (by decide) q2385 dX14_cutText_159 ?_
  refine v_iload_n dX14_cutText_162 1 rfl rfl ?_
  obtain ⟨g1, h⟩ := gd_some h
  obtain ⟨s2, e3, h⟩ := stp_some h
  refine v_iast oc95 (gI_rg _ _ _) g1.1 g1.2 dX14_cutText_163 ?_
  rw [← e3]
  refine v_aload_n dX14_cutText_164 0 rfl rfl ?_
  refine v_getS (f := 18) (t := 96) cf14 oc87 rfl rfl rfl (by decide) q2388 dX14_cutText_165 ?_
  refine v_aload_n dX14_cutText_168 0 rfl rfl ?_
  refine v_getI (f := 15) cf14 oc87 rfl (by decide) q2385 dX14_cutText_169 ?_
  refine v_iload_n dX14_cutText_172 2 rfl rfl ?_
  obtain ⟨g4, h⟩ := gd_some h
  obtain ⟨s5, e6, h⟩ := stp_some h
  refine v_iast oc96 (gI_rg _ _ _) g4.1 g4.2 dX14_cutText_173 ?_
  rw [← e6]
  refine v_aload_n dX14_cutText_174 0 rfl rfl ?_
  refine v_dupO dX14_cutText_175 ?_
  refine v_getI (f := 15) cf14 oc87 rfl (by decide) q2385 dX14_cutText_176 ?_
  refine v_iconst dX14_cutText_179 ?_
  refine v_iadd dX14_cutText_180 ?_
  obtain ⟨s7, e8, h⟩ := stp_some h
  refine v_putI (f := 15) cf14 oc87 rfl (by decide) q2385 dX14_cutText_181 rfl rfl ?_
  rw [← e8]
  refine v_aload_n dX14_cutText_184 0 rfl rfl ?_
  refine v_getI (f := 8) cf14 oc87 rfl (by decide) q2378 dX14_cutText_185 ?_
  refine v_if_ne (tgt := 197) dX14_cutText_188 (gI_rg _ _ _) (by decide) (fun c9 => ?_) (fun c9 => ?_)
  · rw [if_neg c9] at h
    refine v_goto (tgt := 11) dX14_cutText_197 (by decide) ?_
    refine v_sub [0, 1] (L1 := [(0, vO 87), (1, vI x1)]) rfl ?_
    exact hrec x1 s7 _ h rx1 hE
  · rw [if_pos c9] at h
    refine v_aload_n dX14_cutText_191 0 rfl rfl ?_
    refine v_iload_n dX14_cutText_192 2 rfl rfl ?_
    obtain ⟨r13, s10, e11, h⟩ := bd_some h
    have k12 := c_X14_skip e11 rx3
    have r14 : rg r13 := k12.1.2.2
    refine v_callV (st := []) cf14 oc87 k12 (lw_V q2897 q2899 qs159 q311 q2900) rfl yk_X14_skip ⟨Nat.le_of_ble_eq_true rfl, Nat.le_of_ble_eq_true rfl⟩ trivial ⟨kc87, trivial⟩ (Nat.le_of_ble_eq_true rfl) rfl dX14_cutText_193 ?_
    refine v_istore_n (L1 := [(1, vI r13), (0, vO 87), (3, vI x3)]) dX14_cutText_196 rfl (by decide) rfl ?_
    refine v_goto (tgt := 11) dX14_cutText_197 (by decide) ?_
    refine v_sub [1, 0] (L1 := [(0, vO 87), (1, vI r13)]) rfl ?_
    exact hrec r13 s10 _ h r14 hE

def j_X14_cutText_46 (rec : Int → vS → Option (vS)) (x1 : Int) (x2 : Int) (s : vS) : Option (vS) :=
  bd (f_X14_nameEnd x1 s) fun r4 s1 =>
  bd (f_X14_isSmall x2 s1) fun r9 s6 =>
  gd (gN s6 94 = gN s1 94) <|
  if r9 = 0 then
    bd (f_X14_wordAt x1 r4 s6) fun r16 s13 =>
    gd (gN s13 94 = gN s6 94) <|
    gd (inb (gI s1 87 15) (gN s13 94)) <|
    stp (sE s13 94 (gI s1 87 15) r16) fun s20 =>
    j_X14_cutText_154 rec x1 r4 s20
  else
    gd (inb (gI s1 87 15) (gN s6 94)) <|
    stp (sE s6 94 (gI s1 87 15) 2) fun s23 =>
    j_X14_cutText_154 rec x1 r4 s23
theorem wj_X14_cutText_46 {x1 : Int} {x2 : Int} {s : vS} {rv : Option vA} {σo : vS} {rec : Int → vS → Option (vS)} {q : vS} (h : j_X14_cutText_46 rec x1 x2 s = some q)  (rx1 : rg x1) (rx2 : rg x2) (hrec : ∀ (y1 : Int) (s : vS) (q : vS), rec y1 s = some q → rg y1 → E_X14_cutText_11 rv σo q → VW cX14_cutText (RX14, rv, σo, none, 4, 84, 4, []) (P0 []) s 11 [(0, vO 87), (1, vI y1)] []) (hE : E_X14_cutText_11 rv σo q) : VW cX14_cutText (RX14, rv, σo, none, 4, 84, 4, []) (P0 []) s 46 [(0, vO 87), (1, vI x1), (2, vI x2)] [] := by
  unfold j_X14_cutText_46 at h
  refine v_aload_n dX14_cutText_46 0 rfl rfl ?_
  refine v_iload_n dX14_cutText_47 1 rfl rfl ?_
  obtain ⟨r4, s1, e2, h⟩ := bd_some h
  have k3 := c_X14_nameEnd e2 rx1
  have r5 : rg r4 := k3.1.2.2
  refine v_callV (st := []) cf14 oc87 k3 (lw_V q2926 q2928 qs164 q311 q2929) rfl yk_X14_nameEnd ⟨Nat.le_of_ble_eq_true rfl, Nat.le_of_ble_eq_true rfl⟩ trivial ⟨kc87, trivial⟩ (Nat.le_of_ble_eq_true rfl) rfl dX14_cutText_48 ?_
  refine v_istore_n (L1 := [(3, vI r4), (0, vO 87), (1, vI x1), (2, vI x2)]) dX14_cutText_51 rfl (by decide) rfl ?_
  refine v_aload_n dX14_cutText_52 1 rfl rfl ?_
  refine v_getS (f := 16) (t := 94) cf14 oc87 rfl rfl rfl (by decide) q2386 dX14_cutText_53 ?_
  refine v_aload_n dX14_cutText_56 1 rfl rfl ?_
  refine v_getI (f := 15) cf14 oc87 rfl (by decide) q2385 dX14_cutText_57 ?_
  refine v_iload_n dX14_cutText_60 3 rfl rfl ?_
  obtain ⟨r9, s6, e7, h⟩ := bd_some h
  have k8 := c_X14_isSmall e7 rx2
  have r10 : rg r9 := k8.1.2.2
  obtain ⟨g11, h⟩ := gd_some h
  refine v_callS (st := [vI (gI s1 87 15), vO 94]) k8 (lw_S q2920 q2921 q311 q2922) yk_X14_isSmall ⟨Nat.le_of_ble_eq_true rfl, Nat.le_of_ble_eq_true rfl⟩ ⟨(kp_arr (by decide) g11), trivial⟩ ⟨kc87, trivial⟩ (Nat.le_of_ble_eq_true rfl) rfl dX14_cutText_61 ?_
  refine v_if_eq (tgt := 71) dX14_cutText_64 r10 (by decide) (fun c12 => ?_) (fun c12 => ?_)
  · rw [if_pos c12] at h
    refine v_aload_n dX14_cutText_71 1 rfl rfl ?_
    refine v_iload_n dX14_cutText_72 2 rfl rfl ?_
    refine v_iload_n dX14_cutText_73 0 rfl rfl ?_
    obtain ⟨r16, s13, e14, h⟩ := bd_some h
    have k15 := c_X14_wordAt e14 rx1 r5
    have r17 : rg r16 := k15.1.2.2
    obtain ⟨g18, h⟩ := gd_some h
    refine v_callV (st := [vI (gI s1 87 15), vO 94]) cf14 oc87 k15 (lw_V q2936 q2938 qs165 q311 q2939) rfl yk_X14_wordAt ⟨Nat.le_of_ble_eq_true rfl, Nat.le_of_ble_eq_true rfl⟩ ⟨(kp_arr (by decide) g18), trivial⟩ ⟨kc87, trivial⟩ (Nat.le_of_ble_eq_true rfl) rfl dX14_cutText_74 ?_
    obtain ⟨g19, h⟩ := gd_some h
    obtain ⟨s20, e21, h⟩ := stp_some h
    refine v_iast oc94 (gI_rg _ _ _) g19.1 g19.2 dX14_cutText_77 ?_
    rw [← e21]
    refine v_goto (tgt := 154) dX14_cutText_78 (by decide) ?_
    refine v_sub [1, 2, 0] (L1 := [(0, vO 87), (1, vI x1), (3, vI r4)]) rfl ?_
    exact wj_X14_cutText_154 h rx1 r5 hrec hE
  · rw [if_neg c12] at h
    refine v_iconst dX14_cutText_67 ?_
    refine v_goto (tgt := 77) dX14_cutText_68 (by decide) ?_
    obtain ⟨g22, h⟩ := gd_some h
    obtain ⟨s23, e24, h⟩ := stp_some h
    refine v_iast oc94 (gI_rg _ _ _) g22.1 g22.2 dX14_cutText_77 ?_
    rw [← e24]
    refine v_goto (tgt := 154) dX14_cutText_78 (by decide) ?_
    refine v_sub [1, 2, 0] (L1 := [(0, vO 87), (1, vI x1), (3, vI r4)]) rfl ?_
    exact wj_X14_cutText_154 h rx1 r5 hrec hE

def l_X14_cutText_11 : Nat → Int → vS → Option (vS)
  | 0, _, _ => none
  | n + 1, x1, s =>
    if (gI s 87 8) = 0 then
      if (gI s 87 13) ≤ x1 then
        some s
      else
        bd (f_X14_ch x1 s) fun r6 s3 =>
        bd (f_X14_isSmall r6 s3) fun r11 s8 =>
        if r11 = 0 then
          bd (f_X14_isLarge r6 s8) fun r17 s14 =>
          if r17 = 0 then
            bd (f_X14_isDigit r6 s14) fun r23 s20 =>
            if r23 = 0 then
              if r6 = 39 then
                bd (f_X14_quoted x1 s20) fun r44 s41 =>
                j_X14_cutText_154 (l_X14_cutText_11 n) x1 r44 s41
              else
                if r6 = 34 then
                  bd (f_X14_textEnd x1 s20) fun r36 s33 =>
                  gd (inb (gI s33 87 15) (gN s33 94)) <|
                  stp (sE s33 94 (gI s33 87 15) 6) fun s39 =>
                  j_X14_cutText_154 (l_X14_cutText_11 n) x1 r36 s39
                else
                  bd (f_X14_signEnd x1 s20) fun r31 s28 =>
                  j_X14_cutText_154 (l_X14_cutText_11 n) x1 r31 s28
            else
              bd (f_X14_numberEnd x1 s20) fun r49 s46 =>
              gd (inb (gI s46 87 15) (gN s46 94)) <|
              stp (sE s46 94 (gI s46 87 15) 3) fun s52 =>
              j_X14_cutText_154 (l_X14_cutText_11 n) x1 r49 s52
          else
            j_X14_cutText_46 (l_X14_cutText_11 n) x1 r6 s14
        else
          j_X14_cutText_46 (l_X14_cutText_11 n) x1 r6 s8
    else
      some s
theorem wl_X14_cutText_11 {rv : Option vA} {σo : vS}  : ∀ (n : Nat) (x1 : Int) (s : vS) (q : vS), l_X14_cutText_11 n x1 s = some q → rg x1 → E_X14_cutText_11 rv σo q → VW cX14_cutText (RX14, rv, σo, none, 4, 84, 4, []) (P0 []) s 11 [(0, vO 87), (1, vI x1)] [] := by
  intro n
  induction n with
  | zero => intro x1 s q h; cases h
  | succ n ih =>
    intro x1 s q h rx1 hE
    unfold l_X14_cutText_11 at h
    refine v_aload_n dX14_cutText_11 0 rfl rfl ?_
    refine v_getI (f := 8) cf14 oc87 rfl (by decide) q2378 dX14_cutText_12 ?_
    refine v_if_ne (tgt := 200) dX14_cutText_15 (gI_rg _ _ _) (by decide) (fun c1 => ?_) (fun c1 => ?_)
    · rw [if_neg c1] at h
      cases h
      refine v_sub [0] (L1 := [(0, vO 87)]) rfl ?_
      exact hE _ rfl 
    · rw [if_pos c1] at h
      refine v_iload_n dX14_cutText_18 1 rfl rfl ?_
      refine v_aload_n dX14_cutText_19 0 rfl rfl ?_
      refine v_getI (f := 13) cf14 oc87 rfl (by decide) q2383 dX14_cutText_20 ?_
      refine v_icmp_ge (tgt := 200) dX14_cutText_23 rx1 (gI_rg _ _ _) (by decide) (fun c2 => ?_) (fun c2 => ?_)
      · rw [if_pos c2] at h
        cases h
        refine v_sub [0] (L1 := [(0, vO 87)]) rfl ?_
        exact hE _ rfl 
      · rw [if_neg c2] at h
        refine v_aload_n dX14_cutText_26 0 rfl rfl ?_
        refine v_iload_n dX14_cutText_27 1 rfl rfl ?_
        obtain ⟨r6, s3, e4, h⟩ := bd_some h
        have k5 := c_X14_ch e4 rx1
        have r7 : rg r6 := k5.1.2.2
        refine v_callV (st := []) cf14 oc87 k5 (lw_V q2901 q2903 qs160 q311 q2904) rfl yk_X14_ch ⟨Nat.le_of_ble_eq_true rfl, Nat.le_of_ble_eq_true rfl⟩ trivial ⟨kc87, trivial⟩ (Nat.le_of_ble_eq_true rfl) rfl dX14_cutText_28 ?_
        refine v_istore_n (L1 := [(2, vI r6), (0, vO 87), (1, vI x1)]) dX14_cutText_31 rfl (by decide) rfl ?_
        refine v_iload_n dX14_cutText_32 0 rfl rfl ?_
        obtain ⟨r11, s8, e9, h⟩ := bd_some h
        have k10 := c_X14_isSmall e9 r7
        have r12 : rg r11 := k10.1.2.2
        refine v_callS (st := []) k10 (lw_S q2920 q2921 q311 q2922) yk_X14_isSmall ⟨Nat.le_of_ble_eq_true rfl, Nat.le_of_ble_eq_true rfl⟩ trivial ⟨kc87, trivial⟩ (Nat.le_of_ble_eq_true rfl) rfl dX14_cutText_33 ?_
        refine v_if_ne (tgt := 46) dX14_cutText_36 r12 (by decide) (fun c13 => ?_) (fun c13 => ?_)
        · rw [if_neg c13] at h
          refine v_sub [1, 2, 0] (L1 := [(0, vO 87), (1, vI x1), (2, vI r6)]) rfl ?_
          exact wj_X14_cutText_46 h rx1 r7 ih hE
        · rw [if_pos c13] at h
          refine v_iload_n dX14_cutText_39 0 rfl rfl ?_
          obtain ⟨r17, s14, e15, h⟩ := bd_some h
          have k16 := c_X14_isLarge e15 r7
          have r18 : rg r17 := k16.1.2.2
          refine v_callS (st := []) k16 (lw_S q2923 q2924 q311 q2925) yk_X14_isLarge ⟨Nat.le_of_ble_eq_true rfl, Nat.le_of_ble_eq_true rfl⟩ trivial ⟨kc87, trivial⟩ (Nat.le_of_ble_eq_true rfl) rfl dX14_cutText_40 ?_
          refine v_if_eq (tgt := 81) dX14_cutText_43 r18 (by decide) (fun c19 => ?_) (fun c19 => ?_)
          · rw [if_pos c19] at h
            refine v_iload_n dX14_cutText_81 0 rfl rfl ?_
            obtain ⟨r23, s20, e21, h⟩ := bd_some h
            have k22 := c_X14_isDigit e21 r7
            have r24 : rg r23 := k22.1.2.2
            refine v_callS (st := []) k22 (lw_S q2933 q2934 q311 q2935) yk_X14_isDigit ⟨Nat.le_of_ble_eq_true rfl, Nat.le_of_ble_eq_true rfl⟩ trivial ⟨kc87, trivial⟩ (Nat.le_of_ble_eq_true rfl) rfl dX14_cutText_82 ?_
            refine v_if_eq (tgt := 107) dX14_cutText_85 r24 (by decide) (fun c25 => ?_) (fun c25 => ?_)
            · rw [if_pos c25] at h
              refine v_iload_n dX14_cutText_107 0 rfl rfl ?_
              refine v_bipush dX14_cutText_108 rfl ?_
              refine v_icmp_ne (tgt := 122) dX14_cutText_110 r7 (rgl rfl) (by decide) (fun c26 => ?_) (fun c26 => ?_)
              · rw [if_neg c26] at h
                refine v_iload_n dX14_cutText_122 0 rfl rfl ?_
                refine v_bipush dX14_cutText_123 rfl ?_
                refine v_icmp_ne (tgt := 148) dX14_cutText_125 r7 (rgl rfl) (by decide) (fun c27 => ?_) (fun c27 => ?_)
                · rw [if_neg c27] at h
                  refine v_aload_n dX14_cutText_148 1 rfl rfl ?_
                  refine v_iload_n dX14_cutText_149 2 rfl rfl ?_
                  obtain ⟨r31, s28, e29, h⟩ := bd_some h
                  have k30 := c_X14_signEnd e29 rx1
                  have r32 : rg r31 := k30.1.2.2
                  refine v_callV (st := []) cf14 oc87 k30 (lw_V q2952 q2954 qs169 q311 q2955) rfl yk_X14_signEnd ⟨Nat.le_of_ble_eq_true rfl, Nat.le_of_ble_eq_true rfl⟩ trivial ⟨kc87, trivial⟩ (Nat.le_of_ble_eq_true rfl) rfl dX14_cutText_150 ?_
                  refine v_istore_n (L1 := [(3, vI r31), (2, vI r6), (0, vO 87), (1, vI x1)]) dX14_cutText_153 rfl (by decide) rfl ?_
                  refine v_sub [2, 3, 0] (L1 := [(0, vO 87), (1, vI x1), (3, vI r31)]) rfl ?_
                  exact wj_X14_cutText_154 h rx1 r32 ih hE
                · rw [if_pos c27] at h
                  refine v_aload_n dX14_cutText_128 1 rfl rfl ?_
                  refine v_iload_n dX14_cutText_129 2 rfl rfl ?_
                  obtain ⟨r36, s33, e34, h⟩ := bd_some h
                  have k35 := c_X14_textEnd e34 rx1
                  have r37 : rg r36 := k35.1.2.2
                  refine v_callV (st := []) cf14 oc87 k35 (lw_V q2948 q2950 qs168 q311 q2951) rfl yk_X14_textEnd ⟨Nat.le_of_ble_eq_true rfl, Nat.le_of_ble_eq_true rfl⟩ trivial ⟨kc87, trivial⟩ (Nat.le_of_ble_eq_true rfl) rfl dX14_cutText_130 ?_
                  refine v_istore_n (L1 := [(3, vI r36), (2, vI r6), (0, vO 87), (1, vI x1)]) dX14_cutText_133 rfl (by decide) rfl ?_
                  refine v_aload_n dX14_cutText_134 2 rfl rfl ?_
                  refine v_getS (f := 16) (t := 94) cf14 oc87 rfl rfl rfl (by decide) q2386 dX14_cutText_135 ?_
                  refine v_aload_n dX14_cutText_138 2 rfl rfl ?_
                  refine v_getI (f := 15) cf14 oc87 rfl (by decide) q2385 dX14_cutText_139 ?_
                  refine v_bipush dX14_cutText_142 rfl ?_
                  obtain ⟨g38, h⟩ := gd_some h
                  obtain ⟨s39, e40, h⟩ := stp_some h
                  refine v_iast oc94 (gI_rg _ _ _) g38.1 g38.2 dX14_cutText_144 ?_
                  rw [← e40]
                  refine v_goto (tgt := 154) dX14_cutText_145 (by decide) ?_
                  refine v_sub [2, 3, 0] (L1 := [(0, vO 87), (1, vI x1), (3, vI r36)]) rfl ?_
                  exact wj_X14_cutText_154 h rx1 r37 ih hE
              · rw [if_pos c26] at h
                refine v_aload_n dX14_cutText_113 1 rfl rfl ?_
                refine v_iload_n dX14_cutText_114 2 rfl rfl ?_
                obtain ⟨r44, s41, e42, h⟩ := bd_some h
                have k43 := c_X14_quoted e42 rx1
                have r45 : rg r44 := k43.1.2.2
                refine v_callV (st := []) cf14 oc87 k43 (lw_V q2944 q2946 qs167 q311 q2947) rfl yk_X14_quoted ⟨Nat.le_of_ble_eq_true rfl, Nat.le_of_ble_eq_true rfl⟩ trivial ⟨kc87, trivial⟩ (Nat.le_of_ble_eq_true rfl) rfl dX14_cutText_115 ?_
                refine v_istore_n (L1 := [(3, vI r44), (2, vI r6), (0, vO 87), (1, vI x1)]) dX14_cutText_118 rfl (by decide) rfl ?_
                refine v_goto (tgt := 154) dX14_cutText_119 (by decide) ?_
                refine v_sub [2, 3, 0] (L1 := [(0, vO 87), (1, vI x1), (3, vI r44)]) rfl ?_
                exact wj_X14_cutText_154 h rx1 r45 ih hE
            · rw [if_neg c25] at h
              refine v_aload_n dX14_cutText_88 1 rfl rfl ?_
              refine v_iload_n dX14_cutText_89 2 rfl rfl ?_
              obtain ⟨r49, s46, e47, h⟩ := bd_some h
              have k48 := c_X14_numberEnd e47 rx1
              have r50 : rg r49 := k48.1.2.2
              refine v_callV (st := []) cf14 oc87 k48 (lw_V q2940 q2942 qs166 q311 q2943) rfl yk_X14_numberEnd ⟨Nat.le_of_ble_eq_true rfl, Nat.le_of_ble_eq_true rfl⟩ trivial ⟨kc87, trivial⟩ (Nat.le_of_ble_eq_true rfl) rfl dX14_cutText_90 ?_
              refine v_istore_n (L1 := [(3, vI r49), (2, vI r6), (0, vO 87), (1, vI x1)]) dX14_cutText_93 rfl (by decide) rfl ?_
              refine v_aload_n dX14_cutText_94 2 rfl rfl ?_
              refine v_getS (f := 16) (t := 94) cf14 oc87 rfl rfl rfl (by decide) q2386 dX14_cutText_95 ?_
              refine v_aload_n dX14_cutText_98 2 rfl rfl ?_
              refine v_getI (f := 15) cf14 oc87 rfl (by decide) q2385 dX14_cutText_99 ?_
              refine v_iconst dX14_cutText_102 ?_
              obtain ⟨g51, h⟩ := gd_some h
              obtain ⟨s52, e53, h⟩ := stp_some h
              refine v_iast oc94 (gI_rg _ _ _) g51.1 g51.2 dX14_cutText_103 ?_
              rw [← e53]
              refine v_goto (tgt := 154) dX14_cutText_104 (by decide) ?_
              refine v_sub [2, 3, 0] (L1 := [(0, vO 87), (1, vI x1), (3, vI r49)]) rfl ?_
              exact wj_X14_cutText_154 h rx1 r50 ih hE
          · rw [if_neg c19] at h
            refine v_sub [1, 2, 0] (L1 := [(0, vO 87), (1, vI x1), (2, vI r6)]) rfl ?_
            exact wj_X14_cutText_46 h rx1 r7 ih hE

def j_X14_cutText_200 (s : vS) : Option (vS) :=
  gd (inb (gI s 87 15) (gN s 94)) <|
  stp (sE s 94 (gI s 87 15) 0) fun s2 =>
  gd (inb (gI s2 87 15) (gN s2 95)) <|
  stp (sE s2 95 (gI s2 87 15) (gI s2 87 13)) fun s5 =>
  gd (inb (gI s5 87 15) (gN s5 96)) <|
  stp (sE s5 96 (gI s5 87 15) (gI s5 87 13)) fun s8 =>
  some s8
theorem wj_X14_cutText_200 {s : vS} {out : vS} (h : j_X14_cutText_200 s = some out)  : VW cX14_cutText (RX14, none, out, none, 4, 84, 4, []) (P0 []) s 200 [(0, vO 87)] [] := by
  unfold j_X14_cutText_200 at h
  refine v_aload_n dX14_cutText_200 0 rfl rfl ?_
  refine v_getS (f := 16) (t := 94) cf14 oc87 rfl rfl rfl (by decide) q2386 dX14_cutText_201 ?_
  refine v_aload_n dX14_cutText_204 0 rfl rfl ?_
  refine v_getI (f := 15) cf14 oc87 rfl (by decide) q2385 dX14_cutText_205 ?_
  refine v_iconst dX14_cutText_208 ?_
  obtain ⟨g1, h⟩ := gd_some h
  obtain ⟨s2, e3, h⟩ := stp_some h
  refine v_iast oc94 (gI_rg _ _ _) g1.1 g1.2 dX14_cutText_209 ?_
  rw [← e3]
  refine v_aload_n dX14_cutText_210 0 rfl rfl ?_
  refine v_getS (f := 17) (t := 95) cf14 oc87 rfl rfl rfl (by decide) q2387 dX14_cutText_211 ?_
  refine v_aload_n dX14_cutText_214 0 rfl rfl ?_
  refine v_getI (f := 15) cf14 oc87 rfl (by decide) q2385 dX14_cutText_215 ?_
  refine v_aload_n dX14_cutText_218 0 rfl rfl ?_
  refine v_getI (f := 13) cf14 oc87 rfl (by decide) q2383 dX14_cutText_219 ?_
  obtain ⟨g4, h⟩ := gd_some h
  obtain ⟨s5, e6, h⟩ := stp_some h
  refine v_iast oc95 (gI_rg _ _ _) g4.1 g4.2 dX14_cutText_222 ?_
  rw [← e6]
  refine v_aload_n dX14_cutText_223 0 rfl rfl ?_
  refine v_getS (f := 18) (t := 96) cf14 oc87 rfl rfl rfl (by decide) q2388 dX14_cutText_224 ?_
  refine v_aload_n dX14_cutText_227 0 rfl rfl ?_
  refine v_getI (f := 15) cf14 oc87 rfl (by decide) q2385 dX14_cutText_228 ?_
  refine v_aload_n dX14_cutText_231 0 rfl rfl ?_
  refine v_getI (f := 13) cf14 oc87 rfl (by decide) q2383 dX14_cutText_232 ?_
  obtain ⟨g7, h⟩ := gd_some h
  obtain ⟨s8, e9, h⟩ := stp_some h
  refine v_iast oc96 (gI_rg _ _ _) g7.1 g7.2 dX14_cutText_235 ?_
  rw [← e9]
  cases h
  exact v_vret dX14_cutText_236

def f_X14_cutText (s : vS) : Option (vS) :=
  stp (sI s 87 15 0) fun s1 =>
  bd (f_X14_skip 0 s1) fun r6 s3 =>
  lq_0 (l_X14_cutText_11 FU r6 s3) fun s8 =>
  j_X14_cutText_200 s8
theorem yk_X14_cutText : yOk yX14_cutText 0 := ⟨by decide, by decide, by decide +kernel⟩
theorem c_X14_cutText {s : vS} {out : vS} (h : f_X14_cutText s = some out)   : VC yX14_cutText cX14_cutText 4 none 4 84 [vO 87] s none out [] := by
  unfold f_X14_cutText at h
  refine VC.of RX14 (by decide) rfl (Nat.le_of_ble_eq_true rfl) ?_
  show VW cX14_cutText (RX14, none, out, none, 4, 84, 4, []) (P0 []) s 0 [(0, vO 87)] []
  refine v_aload_n dX14_cutText_0 0 rfl rfl ?_
  refine v_iconst dX14_cutText_1 ?_
  obtain ⟨s1, e2, h⟩ := stp_some h
  refine v_putI (f := 15) cf14 oc87 rfl (by decide) q2385 dX14_cutText_2 rfl rfl ?_
  rw [← e2]
  refine v_aload_n dX14_cutText_5 0 rfl rfl ?_
  refine v_iconst dX14_cutText_6 ?_
  obtain ⟨r6, s3, e4, h⟩ := bd_some h
  have k5 := c_X14_skip e4 (rgl rfl)
  have r7 : rg r6 := k5.1.2.2
  refine v_callV (st := []) cf14 oc87 k5 (lw_V q2897 q2899 qs159 q311 q2900) rfl yk_X14_skip ⟨Nat.le_of_ble_eq_true rfl, Nat.le_of_ble_eq_true rfl⟩ trivial ⟨kc87, trivial⟩ (Nat.le_of_ble_eq_true rfl) rfl dX14_cutText_7 ?_
  refine v_istore_n (L1 := [(1, vI r6), (0, vO 87)]) dX14_cutText_10 rfl (by decide) rfl ?_
  refine v_sub [1, 0] (L1 := [(0, vO 87), (1, vI r6)]) rfl ?_
  obtain ⟨s8, e9, h⟩ := lq_0_some h
  refine wl_X14_cutText_11  FU r6 s3 _ e9 r7 ?_
  unfold E_X14_cutText_11
  intro s8' z_
  cases z_
  exact wj_X14_cutText_200 h 

def f_X14_is (x1 : Int) (s : vS) : Option (Int × vS) :=
  gd (inb (gI s 87 19) (gN s 94)) <|
  if (gE s 94 (gI s 87 19)) = x1 then
    some (1, s)
  else
    some (0, s)
theorem yk_X14_is : yOk yX14_is 1 := ⟨by decide, by decide, by decide +kernel⟩
theorem c_X14_is {x1 : Int} {s : vS} {out : Int × vS} (h : f_X14_is x1 s = some out)  (rx1 : rg x1) : VC yX14_is cX14_is 2 (some .boolean) 0 0 [vO 87, vI x1] s (some (vI out.1)) out.2 [] := by
  unfold f_X14_is at h
  refine VC.of RX14 (by decide) rfl (Nat.le_of_ble_eq_true rfl) ?_
  show VW cX14_is (RX14, (some (vI out.1)), out.2, (some .boolean), 0, 0, 2, []) (P0 []) s 0 [(0, vO 87), (1, vI x1)] []
  refine v_aload_n dX14_is_0 0 rfl rfl ?_
  refine v_getS (f := 16) (t := 94) cf14 oc87 rfl rfl rfl (by decide) q2386 dX14_is_1 ?_
  refine v_aload_n dX14_is_4 0 rfl rfl ?_
  refine v_getI (f := 19) cf14 oc87 rfl (by decide) q2389 dX14_is_5 ?_
  obtain ⟨g1, h⟩ := gd_some h
  refine v_iald oc94 (gI_rg _ _ _) g1.1 g1.2 dX14_is_8 ?_
  refine v_iload_n dX14_is_9 1 rfl rfl ?_
  refine v_icmp_ne (tgt := 17) dX14_is_10 (gE_rg _ _ _) rx1 (by decide) (fun c2 => ?_) (fun c2 => ?_)
  · rw [if_neg c2] at h
    refine v_iconst dX14_is_17 ?_
    cases h
    exact v_zret (Or.inl rfl) dX14_is_18
  · rw [if_pos c2] at h
    refine v_iconst dX14_is_13 ?_
    refine v_goto (tgt := 18) dX14_is_14 (by decide) ?_
    cases h
    exact v_zret (Or.inr rfl) dX14_is_18

def E_X14_misfit_43 (x1 : Int) (x2 : Int) (rv : Option vA) (σo : vS) (q : Int × vS) : Prop := ∀ (x3' : Int) (s' : vS), q = (x3', s') → rg x3' → VW cX14_misfit (RX14, rv, σo, none, 1, 22, 5, []) (P0 []) s' 77 [(0, vO 87), (1, vI x1), (2, vI x2), (3, vI x3')] []
def l_X14_misfit_43 : Nat → Int → Int → Int → Int → vS → Option (Int × vS)
  | 0, _, _, _, _, _ => none
  | n + 1, x1, x2, x3, x4, s =>
    if 30 ≤ x4 then
      some (x3, s)
    else
      if x3 = 0 then
        gd (inb x4 (gN s 89)) <|
        if (gE s 89 x4) = x2 then
          vl (w32 (x4 + 1)) fun y11 =>
          l_X14_misfit_43 n x1 x2 1 y11 s
        else
          vl (w32 (x4 + 1)) fun y8 =>
          l_X14_misfit_43 n x1 x2 0 y8 s
      else
        vl (w32 (x4 + 1)) fun y3 =>
        l_X14_misfit_43 n x1 x2 1 y3 s
theorem wl_X14_misfit_43 {x1 : Int} {x2 : Int} {rv : Option vA} {σo : vS}  (rx1 : rg x1) (rx2 : rg x2) : ∀ (n : Nat) (x3 : Int) (x4 : Int) (s : vS) (q : Int × vS), l_X14_misfit_43 n x1 x2 x3 x4 s = some q → rg x3 → rg x4 → E_X14_misfit_43 x1 x2 rv σo q → VW cX14_misfit (RX14, rv, σo, none, 1, 22, 5, []) (P0 []) s 43 [(0, vO 87), (1, vI x1), (2, vI x2), (3, vI x3), (4, vI x4)] [] := by
  intro n
  induction n with
  | zero => intro x3 x4 s q h; cases h
  | succ n ih =>
    intro x3 x4 s q h rx3 rx4 hE
    unfold l_X14_misfit_43 at h
    refine v_iload dX14_misfit_43 4 rfl ?_
    refine v_bipush dX14_misfit_45 rfl ?_
    refine v_icmp_ge (tgt := 77) dX14_misfit_47 rx4 (rgl rfl) (by decide) (fun c1 => ?_) (fun c1 => ?_)
    · rw [if_pos c1] at h
      cases h
      refine v_sub [0, 1, 2, 3] (L1 := [(0, vO 87), (1, vI x1), (2, vI x2), (3, vI x3)]) rfl ?_
      exact hE _ _ rfl rx3
    · rw [if_neg c1] at h
      refine v_iload_n dX14_misfit_50 3 rfl rfl ?_
      refine v_if_ne (tgt := 65) dX14_misfit_51 rx3 (by decide) (fun c2 => ?_) (fun c2 => ?_)
      · rw [if_neg c2] at h
        refine v_iconst dX14_misfit_65 ?_
        refine v_goto (tgt := 70) dX14_misfit_66 (by decide) ?_
        refine v_istore_n (L1 := [(3, vI 1), (0, vO 87), (1, vI x1), (2, vI x2), (4, vI x4)]) dX14_misfit_70 rfl (by decide) rfl ?_
        obtain ⟨y3, e4, h⟩ := vl_some h
        refine v_iinc (L1 := [(4, vI (w32 (x4 + 1))), (3, vI 1), (0, vO 87), (1, vI x1), (2, vI x2)]) dX14_misfit_71 4 rfl (by decide) rfl ?_
        rw [← e4]
        have r5 : rg y3 := by rw [e4]; exact w32_rg _
        refine v_goto (tgt := 43) dX14_misfit_74 (by decide) ?_
        refine v_sub [2, 3, 4, 1, 0] (L1 := [(0, vO 87), (1, vI x1), (2, vI x2), (3, vI 1), (4, vI y3)]) rfl ?_
        exact ih 1 y3 s _ h (rgl rfl) r5 hE
      · rw [if_pos c2] at h
        refine v_aload_n dX14_misfit_54 0 rfl rfl ?_
        refine v_getS (f := 1) (t := 89) cf14 oc87 rfl rfl rfl (by decide) q2371 dX14_misfit_55 ?_
        refine v_iload dX14_misfit_58 4 rfl ?_
        obtain ⟨g6, h⟩ := gd_some h
        refine v_iald oc89 rx4 g6.1 g6.2 dX14_misfit_60 ?_
        refine v_iload_n dX14_misfit_61 2 rfl rfl ?_
        refine v_icmp_ne (tgt := 69) dX14_misfit_62 (gE_rg _ _ _) rx2 (by decide) (fun c7 => ?_) (fun c7 => ?_)
        · rw [if_neg c7] at h
          refine v_iconst dX14_misfit_69 ?_
          refine v_istore_n (L1 := [(3, vI 0), (0, vO 87), (1, vI x1), (2, vI x2), (4, vI x4)]) dX14_misfit_70 rfl (by decide) rfl ?_
          obtain ⟨y8, e9, h⟩ := vl_some h
          refine v_iinc (L1 := [(4, vI (w32 (x4 + 1))), (3, vI 0), (0, vO 87), (1, vI x1), (2, vI x2)]) dX14_misfit_71 4 rfl (by decide) rfl ?_
          rw [← e9]
          have r10 : rg y8 := by rw [e9]; exact w32_rg _
          refine v_goto (tgt := 43) dX14_misfit_74 (by decide) ?_
          refine v_sub [2, 3, 4, 1, 0] (L1 := [(0, vO 87), (1, vI x1), (2, vI x2), (3, vI 0), (4, vI y8)]) rfl ?_
          exact ih 0 y8 s _ h (rgl rfl) r10 hE
        · rw [if_pos c7] at h
          refine v_iconst dX14_misfit_65 ?_
          refine v_goto (tgt := 70) dX14_misfit_66 (by decide) ?_
          refine v_istore_n (L1 := [(3, vI 1), (0, vO 87), (1, vI x1), (2, vI x2), (4, vI x4)]) dX14_misfit_70 rfl (by decide) rfl ?_
          obtain ⟨y11, e12, h⟩ := vl_some h
          refine v_iinc (L1 := [(4, vI (w32 (x4 + 1))), (3, vI 1), (0, vO 87), (1, vI x1), (2, vI x2)]) dX14_misfit_71 4 rfl (by decide) rfl ?_
          rw [← e12]
          have r13 : rg y11 := by rw [e12]; exact w32_rg _
          refine v_goto (tgt := 43) dX14_misfit_74 (by decide) ?_
          refine v_sub [2, 3, 4, 1, 0] (L1 := [(0, vO 87), (1, vI x1), (2, vI x2), (3, vI 1), (4, vI y11)]) rfl ?_
          exact ih 1 y11 s _ h (rgl rfl) r13 hE

def j_X14_misfit_129 (z1 : Int) (s : vS) : Option (vS) :=
  gd (inb (gI s 87 19) (gN s 95)) <|
  bdv (f_X14_tell z1 (gE s 95 (gI s 87 19)) s) fun s2 =>
  some s2
theorem wj_X14_misfit_129 {z1 : Int} {s : vS} {out : vS} (h : j_X14_misfit_129 z1 s = some out)  (rz1 : rg z1) : VW cX14_misfit (RX14, none, out, none, 1, 22, 5, []) (P0 []) s 129 [(0, vO 87)] [vI z1, vO 87] := by
  unfold j_X14_misfit_129 at h
  refine v_aload_n dX14_misfit_129 0 rfl rfl ?_
  refine v_getS (f := 17) (t := 95) cf14 oc87 rfl rfl rfl (by decide) q2387 dX14_misfit_130 ?_
  refine v_aload_n dX14_misfit_133 0 rfl rfl ?_
  refine v_getI (f := 19) cf14 oc87 rfl (by decide) q2389 dX14_misfit_134 ?_
  obtain ⟨g1, h⟩ := gd_some h
  refine v_iald oc95 (gI_rg _ _ _) g1.1 g1.2 dX14_misfit_137 ?_
  obtain ⟨s2, e3, h⟩ := bdv_some h
  have k4 := c_X14_tell e3 rz1 (gE_rg _ _ _)
  refine v_callV (st := []) cf14 oc87 k4 (lw_V q2916 q2918 qs163 q311 q2919) rfl yk_X14_tell ⟨Nat.le_of_ble_eq_true rfl, Nat.le_of_ble_eq_true rfl⟩ trivial ⟨kc87, trivial⟩ (Nat.le_of_ble_eq_true rfl) rfl dX14_misfit_138 ?_
  cases h
  exact v_vret dX14_misfit_141

def j_X14_misfit_118 (z0 : Int) (s : vS) : Option (vS) :=
  if z0 = 0 then
    j_X14_misfit_129 2 s
  else
    j_X14_misfit_129 3 s
theorem wj_X14_misfit_118 {z0 : Int} {s : vS} {out : vS} (h : j_X14_misfit_118 z0 s = some out)  (rz0 : rg z0) : VW cX14_misfit (RX14, none, out, none, 1, 22, 5, []) (P0 []) s 118 [(0, vO 87)] [vI z0] := by
  unfold j_X14_misfit_118 at h
  refine v_istore_n (L1 := [(3, vI z0), (0, vO 87)]) dX14_misfit_118 rfl (by decide) rfl ?_
  refine v_aload_n dX14_misfit_119 1 rfl rfl ?_
  refine v_iload_n dX14_misfit_120 0 rfl rfl ?_
  refine v_if_eq (tgt := 128) dX14_misfit_121 rz0 (by decide) (fun c1 => ?_) (fun c1 => ?_)
  · rw [if_pos c1] at h
    refine v_iconst dX14_misfit_128 ?_
    refine v_sub [1] (L1 := [(0, vO 87)]) rfl ?_
    exact wj_X14_misfit_129 h (rgl rfl)
  · rw [if_neg c1] at h
    refine v_iconst dX14_misfit_124 ?_
    refine v_goto (tgt := 129) dX14_misfit_125 (by decide) ?_
    refine v_sub [1] (L1 := [(0, vO 87)]) rfl ?_
    exact wj_X14_misfit_129 h (rgl rfl)

def f_X14_misfit (x1 : Int) (s : vS) : Option (vS) :=
  gd (inb (gI s 87 19) (gN s 94)) <|
  vl (gE s 94 (gI s 87 19)) fun y2 =>
  if y2 = 8 then
    lq_1 (l_X14_misfit_43 FU x1 y2 1 0 s) fun y6 s7 =>
    if y6 = 0 then
      if x1 = 0 then
        j_X14_misfit_118 0 s7
      else
        if y2 = 12 then
          if (gI s7 87 19) ≤ 0 then
            j_X14_misfit_118 0 s7
          else
            gd (inb (w32 ((gI s7 87 19) - 1)) (gN s7 94)) <|
            if (gE s7 94 (w32 ((gI s7 87 19) - 1))) = 1 then
              j_X14_misfit_118 1 s7
            else
              j_X14_misfit_118 0 s7
        else
          j_X14_misfit_118 0 s7
    else
      j_X14_misfit_118 1 s7
  else
    if y2 = 10 then
      lq_1 (l_X14_misfit_43 FU x1 y2 1 0 s) fun y17 s18 =>
      if y17 = 0 then
        if x1 = 0 then
          j_X14_misfit_118 0 s18
        else
          if y2 = 12 then
            if (gI s18 87 19) ≤ 0 then
              j_X14_misfit_118 0 s18
            else
              gd (inb (w32 ((gI s18 87 19) - 1)) (gN s18 94)) <|
              if (gE s18 94 (w32 ((gI s18 87 19) - 1))) = 1 then
                j_X14_misfit_118 1 s18
              else
                j_X14_misfit_118 0 s18
          else
            j_X14_misfit_118 0 s18
      else
        j_X14_misfit_118 1 s18
    else
      if y2 = 11 then
        lq_1 (l_X14_misfit_43 FU x1 y2 1 0 s) fun y28 s29 =>
        if y28 = 0 then
          if x1 = 0 then
            j_X14_misfit_118 0 s29
          else
            if y2 = 12 then
              if (gI s29 87 19) ≤ 0 then
                j_X14_misfit_118 0 s29
              else
                gd (inb (w32 ((gI s29 87 19) - 1)) (gN s29 94)) <|
                if (gE s29 94 (w32 ((gI s29 87 19) - 1))) = 1 then
                  j_X14_misfit_118 1 s29
                else
                  j_X14_misfit_118 0 s29
            else
              j_X14_misfit_118 0 s29
        else
          j_X14_misfit_118 1 s29
      else
        if y2 = 20 then
          lq_1 (l_X14_misfit_43 FU x1 y2 1 0 s) fun y49 s50 =>
          if y49 = 0 then
            if x1 = 0 then
              j_X14_misfit_118 0 s50
            else
              if y2 = 12 then
                if (gI s50 87 19) ≤ 0 then
                  j_X14_misfit_118 0 s50
                else
                  gd (inb (w32 ((gI s50 87 19) - 1)) (gN s50 94)) <|
                  if (gE s50 94 (w32 ((gI s50 87 19) - 1))) = 1 then
                    j_X14_misfit_118 1 s50
                  else
                    j_X14_misfit_118 0 s50
              else
                j_X14_misfit_118 0 s50
          else
            j_X14_misfit_118 1 s50
        else
          lq_1 (l_X14_misfit_43 FU x1 y2 0 0 s) fun y39 s40 =>
          if y39 = 0 then
            if x1 = 0 then
              j_X14_misfit_118 0 s40
            else
              if y2 = 12 then
                if (gI s40 87 19) ≤ 0 then
                  j_X14_misfit_118 0 s40
                else
                  gd (inb (w32 ((gI s40 87 19) - 1)) (gN s40 94)) <|
                  if (gE s40 94 (w32 ((gI s40 87 19) - 1))) = 1 then
                    j_X14_misfit_118 1 s40
                  else
                    j_X14_misfit_118 0 s40
              else
                j_X14_misfit_118 0 s40
          else
            j_X14_misfit_118 1 s40
theorem yk_X14_misfit : yOk yX14_misfit 1 := ⟨by decide, by decide, by decide +kernel⟩
theorem c_X14_misfit {x1 : Int} {s : vS} {out : vS} (h : f_X14_misfit x1 s = some out)  (rx1 : rg x1) : VC yX14_misfit cX14_misfit 5 none 1 22 [vO 87, vI x1] s none out [] := by
  unfold f_X14_misfit at h
  refine VC.of RX14 (by decide) rfl (Nat.le_of_ble_eq_true rfl) ?_
  show VW cX14_misfit (RX14, none, out, none, 1, 22, 5, []) (P0 []) s 0 [(0, vO 87), (1, vI x1)] []
  refine v_aload_n dX14_misfit_0 0 rfl rfl ?_
  refine v_getS (f := 16) (t := 94) cf14 oc87 rfl rfl rfl (by decide) q2386 dX14_misfit_1 ?_
  refine v_aload_n dX14_misfit_4 0 rfl rfl ?_
  refine v_getI (f := 19) cf14 oc87 rfl (by decide) q2389 dX14_misfit_5 ?_
  obtain ⟨g1, h⟩ := gd_some h
  refine v_iald oc94 (gI_rg _ _ _) g1.1 g1.2 dX14_misfit_8 ?_
  obtain ⟨y2, e3, h⟩ := vl_some h
  rw [← e3]
  have r4 : rg y2 := by rw [e3]; exact gE_rg _ _ _
  refine v_istore_n (L1 := [(2, vI y2), (0, vO 87), (1, vI x1)]) dX14_misfit_9 rfl (by decide) rfl ?_
  refine v_iload_n dX14_misfit_10 0 rfl rfl ?_
  refine v_bipush dX14_misfit_11 rfl ?_
  refine v_icmp_eq (tgt := 34) dX14_misfit_13 r4 (rgl rfl) (by decide) (fun c5 => ?_) (fun c5 => ?_)
  · rw [if_pos c5] at h
    refine v_iconst dX14_misfit_34 ?_
    refine v_goto (tgt := 39) dX14_misfit_35 (by decide) ?_
    refine v_istore_n (L1 := [(3, vI 1), (2, vI y2), (0, vO 87), (1, vI x1)]) dX14_misfit_39 rfl (by decide) rfl ?_
    refine v_iconst dX14_misfit_40 ?_
    refine v_istore (L1 := [(4, vI 0), (3, vI 1), (2, vI y2), (0, vO 87), (1, vI x1)]) dX14_misfit_41 (by decide) rfl ?_
    refine v_sub [3, 4, 2, 1, 0] (L1 := [(0, vO 87), (1, vI x1), (2, vI y2), (3, vI 1), (4, vI 0)]) rfl ?_
    obtain ⟨y6, s7, e8, h⟩ := lq_1_some h
    refine wl_X14_misfit_43 rx1 r4 FU 1 0 s _ e8 (rgl rfl) (rgl rfl) ?_
    unfold E_X14_misfit_43
    intro y6' s7' z_ r9
    cases z_
    refine v_iload_n dX14_misfit_77 3 rfl rfl ?_
    refine v_if_ne (tgt := 113) dX14_misfit_78 r9 (by decide) (fun c10 => ?_) (fun c10 => ?_)
    · rw [if_neg c10] at h
      refine v_iconst dX14_misfit_113 ?_
      refine v_goto (tgt := 118) dX14_misfit_114 (by decide) ?_
      refine v_sub [0] (L1 := [(0, vO 87)]) rfl ?_
      exact wj_X14_misfit_118 h (rgl rfl)
    · rw [if_pos c10] at h
      refine v_iload_n dX14_misfit_81 1 rfl rfl ?_
      refine v_if_eq (tgt := 117) dX14_misfit_82 rx1 (by decide) (fun c11 => ?_) (fun c11 => ?_)
      · rw [if_pos c11] at h
        refine v_iconst dX14_misfit_117 ?_
        refine v_sub [0] (L1 := [(0, vO 87)]) rfl ?_
        exact wj_X14_misfit_118 h (rgl rfl)
      · rw [if_neg c11] at h
        refine v_iload_n dX14_misfit_85 2 rfl rfl ?_
        refine v_bipush dX14_misfit_86 rfl ?_
        refine v_icmp_ne (tgt := 117) dX14_misfit_88 r4 (rgl rfl) (by decide) (fun c12 => ?_) (fun c12 => ?_)
        · rw [if_neg c12] at h
          refine v_iconst dX14_misfit_117 ?_
          refine v_sub [0] (L1 := [(0, vO 87)]) rfl ?_
          exact wj_X14_misfit_118 h (rgl rfl)
        · rw [if_pos c12] at h
          refine v_aload_n dX14_misfit_91 0 rfl rfl ?_
          refine v_getI (f := 19) cf14 oc87 rfl (by decide) q2389 dX14_misfit_92 ?_
          refine v_if_le (tgt := 117) dX14_misfit_95 (gI_rg _ _ _) (by decide) (fun c13 => ?_) (fun c13 => ?_)
          · rw [if_pos c13] at h
            refine v_iconst dX14_misfit_117 ?_
            refine v_sub [0] (L1 := [(0, vO 87)]) rfl ?_
            exact wj_X14_misfit_118 h (rgl rfl)
          · rw [if_neg c13] at h
            refine v_aload_n dX14_misfit_98 0 rfl rfl ?_
            refine v_getS (f := 16) (t := 94) cf14 oc87 rfl rfl rfl (by decide) q2386 dX14_misfit_99 ?_
            refine v_aload_n dX14_misfit_102 0 rfl rfl ?_
            refine v_getI (f := 19) cf14 oc87 rfl (by decide) q2389 dX14_misfit_103 ?_
            refine v_iconst dX14_misfit_106 ?_
            refine v_isub dX14_misfit_107 ?_
            obtain ⟨g14, h⟩ := gd_some h
            refine v_iald oc94 (w32_rg _) g14.1 g14.2 dX14_misfit_108 ?_
            refine v_iconst dX14_misfit_109 ?_
            refine v_icmp_ne (tgt := 117) dX14_misfit_110 (gE_rg _ _ _) (rgl rfl) (by decide) (fun c15 => ?_) (fun c15 => ?_)
            · rw [if_neg c15] at h
              refine v_iconst dX14_misfit_117 ?_
              refine v_sub [0] (L1 := [(0, vO 87)]) rfl ?_
              exact wj_X14_misfit_118 h (rgl rfl)
            · rw [if_pos c15] at h
              refine v_iconst dX14_misfit_113 ?_
              refine v_goto (tgt := 118) dX14_misfit_114 (by decide) ?_
              refine v_sub [0] (L1 := [(0, vO 87)]) rfl ?_
              exact wj_X14_misfit_118 h (rgl rfl)
  · rw [if_neg c5] at h
    refine v_iload_n dX14_misfit_16 0 rfl rfl ?_
    refine v_bipush dX14_misfit_17 rfl ?_
    refine v_icmp_eq (tgt := 34) dX14_misfit_19 r4 (rgl rfl) (by decide) (fun c16 => ?_) (fun c16 => ?_)
    · rw [if_pos c16] at h
      refine v_iconst dX14_misfit_34 ?_
      refine v_goto (tgt := 39) dX14_misfit_35 (by decide) ?_
      refine v_istore_n (L1 := [(3, vI 1), (2, vI y2), (0, vO 87), (1, vI x1)]) dX14_misfit_39 rfl (by decide) rfl ?_
      refine v_iconst dX14_misfit_40 ?_
      refine v_istore (L1 := [(4, vI 0), (3, vI 1), (2, vI y2), (0, vO 87), (1, vI x1)]) dX14_misfit_41 (by decide) rfl ?_
      refine v_sub [3, 4, 2, 1, 0] (L1 := [(0, vO 87), (1, vI x1), (2, vI y2), (3, vI 1), (4, vI 0)]) rfl ?_
      obtain ⟨y17, s18, e19, h⟩ := lq_1_some h
      refine wl_X14_misfit_43 rx1 r4 FU 1 0 s _ e19 (rgl rfl) (rgl rfl) ?_
      unfold E_X14_misfit_43
      intro y17' s18' z_ r20
      cases z_
      refine v_iload_n dX14_misfit_77 3 rfl rfl ?_
      refine v_if_ne (tgt := 113) dX14_misfit_78 r20 (by decide) (fun c21 => ?_) (fun c21 => ?_)
      · rw [if_neg c21] at h
        refine v_iconst dX14_misfit_113 ?_
        refine v_goto (tgt := 118) dX14_misfit_114 (by decide) ?_
        refine v_sub [0] (L1 := [(0, vO 87)]) rfl ?_
        exact wj_X14_misfit_118 h (rgl rfl)
      · rw [if_pos c21] at h
        refine v_iload_n dX14_misfit_81 1 rfl rfl ?_
        refine v_if_eq (tgt := 117) dX14_misfit_82 rx1 (by decide) (fun c22 => ?_) (fun c22 => ?_)
        · rw [if_pos c22] at h
          refine v_iconst dX14_misfit_117 ?_
          refine v_sub [0] (L1 := [(0, vO 87)]) rfl ?_
          exact wj_X14_misfit_118 h (rgl rfl)
        · rw [if_neg c22] at h
          refine v_iload_n dX14_misfit_85 2 rfl rfl ?_
          refine v_bipush dX14_misfit_86 rfl ?_
          refine v_icmp_ne (tgt := 117) dX14_misfit_88 r4 (rgl rfl) (by decide) (fun c23 => ?_) (fun c23 => ?_)
          · rw [if_neg c23] at h
            refine v_iconst dX14_misfit_117 ?_
            refine v_sub [0] (L1 := [(0, vO 87)]) rfl ?_
            exact wj_X14_misfit_118 h (rgl rfl)
          · rw [if_pos c23] at h
            refine v_aload_n dX14_misfit_91 0 rfl rfl ?_
            refine v_getI (f := 19) cf14 oc87 rfl (by decide) q2389 dX14_misfit_92 ?_
            refine v_if_le (tgt := 117) dX14_misfit_95 (gI_rg _ _ _) (by decide) (fun c24 => ?_) (fun c24 => ?_)
            · rw [if_pos c24] at h
              refine v_iconst dX14_misfit_117 ?_
              refine v_sub [0] (L1 := [(0, vO 87)]) rfl ?_
              exact wj_X14_misfit_118 h (rgl rfl)
            · rw [if_neg c24] at h
              refine v_aload_n dX14_misfit_98 0 rfl rfl ?_
              refine v_getS (f := 16) (t := 94) cf14 oc87 rfl rfl rfl (by decide) q2386 dX14_misfit_99 ?_
              refine v_aload_n dX14_misfit_102 0 rfl rfl ?_
              refine v_getI (f := 19) cf14 oc87 rfl (by decide) q2389 dX14_misfit_103 ?_
              refine v_iconst dX14_misfit_106 ?_
              refine v_isub dX14_misfit_107 ?_
              obtain ⟨g25, h⟩ := gd_some h
              refine v_iald oc94 (w32_rg _) g25.1 g25.2 dX14_misfit_108 ?_
              refine v_iconst dX14_misfit_109 ?_
              refine v_icmp_ne (tgt := 117) dX14_misfit_110 (gE_rg _ _ _) (rgl rfl) (by decide) (fun c26 => ?_) (fun c26 => ?_)
              · rw [if_neg c26] at h
                refine v_iconst dX14_misfit_117 ?_
                refine v_sub [0] (L1 := [(0, vO 87)]) rfl ?_
                exact wj_X14_misfit_118 h (rgl rfl)
              · rw [if_pos c26] at h
                refine v_iconst dX14_misfit_113 ?_
                refine v_goto (tgt := 118) dX14_misfit_114 (by decide) ?_
                refine v_sub [0] (L1 := [(0, vO 87)]) rfl ?_
                exact wj_X14_misfit_118 h (rgl rfl)
    · rw [if_neg c16] at h
      refine v_iload_n dX14_misfit_22 0 rfl rfl ?_
      refine v_bipush dX14_misfit_23 rfl ?_
      refine v_icmp_eq (tgt := 34) dX14_misfit_25 r4 (rgl rfl) (by decide) (fun c27 => ?_) (fun c27 => ?_)
      · rw [if_pos c27] at h
        refine v_iconst dX14_misfit_34 ?_
        refine v_goto (tgt := 39) dX14_misfit_35 (by decide) ?_
        refine v_istore_n (L1 := [(3, vI 1), (2, vI y2), (0, vO 87), (1, vI x1)]) dX14_misfit_39 rfl (by decide) rfl ?_
        refine v_iconst dX14_misfit_40 ?_
        refine v_istore (L1 := [(4, vI 0), (3, vI 1), (2, vI y2), (0, vO 87), (1, vI x1)]) dX14_misfit_41 (by decide) rfl ?_
        refine v_sub [3, 4, 2, 1, 0] (L1 := [(0, vO 87), (1, vI x1), (2, vI y2), (3, vI 1), (4, vI 0)]) rfl ?_
        obtain ⟨y28, s29, e30, h⟩ := lq_1_some h
        refine wl_X14_misfit_43 rx1 r4 FU 1 0 s _ e30 (rgl rfl) (rgl rfl) ?_
        unfold E_X14_misfit_43
        intro y28' s29' z_ r31
        cases z_
        refine v_iload_n dX14_misfit_77 3 rfl rfl ?_
        refine v_if_ne (tgt := 113) dX14_misfit_78 r31 (by decide) (fun c32 => ?_) (fun c32 => ?_)
        · rw [if_neg c32] at h
          refine v_iconst dX14_misfit_113 ?_
          refine v_goto (tgt := 118) dX14_misfit_114 (by decide) ?_
          refine v_sub [0] (L1 := [(0, vO 87)]) rfl ?_
          exact wj_X14_misfit_118 h (rgl rfl)
        · rw [if_pos c32] at h
          refine v_iload_n dX14_misfit_81 1 rfl rfl ?_
          refine v_if_eq (tgt := 117) dX14_misfit_82 rx1 (by decide) (fun c33 => ?_) (fun c33 => ?_)
          · rw [if_pos c33] at h
            refine v_iconst dX14_misfit_117 ?_
            refine v_sub [0] (L1 := [(0, vO 87)]) rfl ?_
            exact wj_X14_misfit_118 h (rgl rfl)
          · rw [if_neg c33] at h
            refine v_iload_n dX14_misfit_85 2 rfl rfl ?_
            refine v_bipush dX14_misfit_86 rfl ?_
            refine v_icmp_ne (tgt := 117) dX14_misfit_88 r4 (rgl rfl) (by decide) (fun c34 => ?_) (fun c34 => ?_)
            · rw [if_neg c34] at h
              refine v_iconst dX14_misfit_117 ?_
              refine v_sub [0] (L1 := [(0, vO 87)]) rfl ?_
              exact wj_X14_misfit_118 h (rgl rfl)
            · rw [if_pos c34] at h
              refine v_aload_n dX14_misfit_91 0 rfl rfl ?_
              refine v_getI (f := 19) cf14 oc87 rfl (by decide) q2389 dX14_misfit_92 ?_
              refine v_if_le (tgt := 117) dX14_misfit_95 (gI_rg _ _ _) (by decide) (fun c35 => ?_) (fun c35 => ?_)
              · rw [if_pos c35] at h
                refine v_iconst dX14_misfit_117 ?_
                refine v_sub [0] (L1 := [(0, vO 87)]) rfl ?_
                exact wj_X14_misfit_118 h (rgl rfl)
              · rw [if_neg c35] at h
                refine v_aload_n dX14_misfit_98 0 rfl rfl ?_
                refine v_getS (f := 16) (t := 94) cf14 oc87 rfl rfl rfl (by decide) q2386 dX14_misfit_99 ?_
                refine v_aload_n dX14_misfit_102 0 rfl rfl ?_
                refine v_getI (f := 19) cf14 oc87 rfl (by decide) q2389 dX14_misfit_103 ?_
                refine v_iconst dX14_misfit_106 ?_
                refine v_isub dX14_misfit_107 ?_
                obtain ⟨g36, h⟩ := gd_some h
                refine v_iald oc94 (w32_rg _) g36.1 g36.2 dX14_misfit_108 ?_
                refine v_iconst dX14_misfit_109 ?_
                refine v_icmp_ne (tgt := 117) dX14_misfit_110 (gE_rg _ _ _) (rgl rfl) (by decide) (fun c37 => ?_) (fun c37 => ?_)
                · rw [if_neg c37] at h
                  refine v_iconst dX14_misfit_117 ?_
                  refine v_sub [0] (L1 := [(0, vO 87)]) rfl ?_
                  exact wj_X14_misfit_118 h (rgl rfl)
                · rw [if_pos c37] at h
                  refine v_iconst dX14_misfit_113 ?_
                  refine v_goto (tgt := 118) dX14_misfit_114 (by decide) ?_
                  refine v_sub [0] (L1 := [(0, vO 87)]) rfl ?_
                  exact wj_X14_misfit_118 h (rgl rfl)
      · rw [if_neg c27] at h
        refine v_iload_n dX14_misfit_28 0 rfl rfl ?_
        refine v_bipush dX14_misfit_29 rfl ?_
        refine v_icmp_ne (tgt := 38) dX14_misfit_31 r4 (rgl rfl) (by decide) (fun c38 => ?_) (fun c38 => ?_)
        · rw [if_neg c38] at h
          refine v_iconst dX14_misfit_38 ?_
          refine v_istore_n (L1 := [(3, vI 0), (2, vI y2), (0, vO 87), (1, vI x1)]) dX14_misfit_39 rfl (by decide) rfl ?_
          refine v_iconst dX14_misfit_40 ?_
          refine v_istore (L1 := [(4, vI 0), (3, vI 0), (2, vI y2), (0, vO 87), (1, vI x1)]) dX14_misfit_41 (by decide) rfl ?_
          refine v_sub [3, 4, 2, 1, 0] (L1 := [(0, vO 87), (1, vI x1), (2, vI y2), (3, vI 0), (4, vI 0)]) rfl ?_
          obtain ⟨y39, s40, e41, h⟩ := lq_1_some h
          refine wl_X14_misfit_43 rx1 r4 FU 0 0 s _ e41 (rgl rfl) (rgl rfl) ?_
          unfold E_X14_misfit_43
          intro y39' s40' z_ r42
          cases z_
          refine v_iload_n dX14_misfit_77 3 rfl rfl ?_
          refine v_if_ne (tgt := 113) dX14_misfit_78 r42 (by decide) (fun c43 => ?_) (fun c43 => ?_)
          · rw [if_neg c43] at h
            refine v_iconst dX14_misfit_113 ?_
            refine v_goto (tgt := 118) dX14_misfit_114 (by decide) ?_
            refine v_sub [0] (L1 := [(0, vO 87)]) rfl ?_
            exact wj_X14_misfit_118 h (rgl rfl)
          · rw [if_pos c43] at h
            refine v_iload_n dX14_misfit_81 1 rfl rfl ?_
            refine v_if_eq (tgt := 117) dX14_misfit_82 rx1 (by decide) (fun c44 => ?_) (fun c44 => ?_)
            · rw [if_pos c44] at h
              refine v_iconst dX14_misfit_117 ?_
              refine v_sub [0] (L1 := [(0, vO 87)]) rfl ?_
              exact wj_X14_misfit_118 h (rgl rfl)
            · rw [if_neg c44] at h
              refine v_iload_n dX14_misfit_85 2 rfl rfl ?_
              refine v_bipush dX14_misfit_86 rfl ?_
              refine v_icmp_ne (tgt := 117) dX14_misfit_88 r4 (rgl rfl) (by decide) (fun c45 => ?_) (fun c45 => ?_)
              · rw [if_neg c45] at h
                refine v_iconst dX14_misfit_117 ?_
                refine v_sub [0] (L1 := [(0, vO 87)]) rfl ?_
                exact wj_X14_misfit_118 h (rgl rfl)
              · rw [if_pos c45] at h
                refine v_aload_n dX14_misfit_91 0 rfl rfl ?_
                refine v_getI (f := 19) cf14 oc87 rfl (by decide) q2389 dX14_misfit_92 ?_
                refine v_if_le (tgt := 117) dX14_misfit_95 (gI_rg _ _ _) (by decide) (fun c46 => ?_) (fun c46 => ?_)
                · rw [if_pos c46] at h
                  refine v_iconst dX14_misfit_117 ?_
                  refine v_sub [0] (L1 := [(0, vO 87)]) rfl ?_
                  exact wj_X14_misfit_118 h (rgl rfl)
                · rw [if_neg c46] at h
                  refine v_aload_n dX14_misfit_98 0 rfl rfl ?_
                  refine v_getS (f := 16) (t := 94) cf14 oc87 rfl rfl rfl (by decide) q2386 dX14_misfit_99 ?_
                  refine v_aload_n dX14_misfit_102 0 rfl rfl ?_
                  refine v_getI (f := 19) cf14 oc87 rfl (by decide) q2389 dX14_misfit_103 ?_
                  refine v_iconst dX14_misfit_106 ?_
                  refine v_isub dX14_misfit_107 ?_
                  obtain ⟨g47, h⟩ := gd_some h
                  refine v_iald oc94 (w32_rg _) g47.1 g47.2 dX14_misfit_108 ?_
                  refine v_iconst dX14_misfit_109 ?_
                  refine v_icmp_ne (tgt := 117) dX14_misfit_110 (gE_rg _ _ _) (rgl rfl) (by decide) (fun c48 => ?_) (fun c48 => ?_)
                  · rw [if_neg c48] at h
                    refine v_iconst dX14_misfit_117 ?_
                    refine v_sub [0] (L1 := [(0, vO 87)]) rfl ?_
                    exact wj_X14_misfit_118 h (rgl rfl)
                  · rw [if_pos c48] at h
                    refine v_iconst dX14_misfit_113 ?_
                    refine v_goto (tgt := 118) dX14_misfit_114 (by decide) ?_
                    refine v_sub [0] (L1 := [(0, vO 87)]) rfl ?_
                    exact wj_X14_misfit_118 h (rgl rfl)
        · rw [if_pos c38] at h
          refine v_iconst dX14_misfit_34 ?_
          refine v_goto (tgt := 39) dX14_misfit_35 (by decide) ?_
          refine v_istore_n (L1 := [(3, vI 1), (2, vI y2), (0, vO 87), (1, vI x1)]) dX14_misfit_39 rfl (by decide) rfl ?_
          refine v_iconst dX14_misfit_40 ?_
          refine v_istore (L1 := [(4, vI 0), (3, vI 1), (2, vI y2), (0, vO 87), (1, vI x1)]) dX14_misfit_41 (by decide) rfl ?_
          refine v_sub [3, 4, 2, 1, 0] (L1 := [(0, vO 87), (1, vI x1), (2, vI y2), (3, vI 1), (4, vI 0)]) rfl ?_
          obtain ⟨y49, s50, e51, h⟩ := lq_1_some h
          refine wl_X14_misfit_43 rx1 r4 FU 1 0 s _ e51 (rgl rfl) (rgl rfl) ?_
          unfold E_X14_misfit_43
          intro y49' s50' z_ r52
          cases z_
          refine v_iload_n dX14_misfit_77 3 rfl rfl ?_
          refine v_if_ne (tgt := 113) dX14_misfit_78 r52 (by decide) (fun c53 => ?_) (fun c53 => ?_)
          · rw [if_neg c53] at h
            refine v_iconst dX14_misfit_113 ?_
            refine v_goto (tgt := 118) dX14_misfit_114 (by decide) ?_
            refine v_sub [0] (L1 := [(0, vO 87)]) rfl ?_
            exact wj_X14_misfit_118 h (rgl rfl)
          · rw [if_pos c53] at h
            refine v_iload_n dX14_misfit_81 1 rfl rfl ?_
            refine v_if_eq (tgt := 117) dX14_misfit_82 rx1 (by decide) (fun c54 => ?_) (fun c54 => ?_)
            · rw [if_pos c54] at h
              refine v_iconst dX14_misfit_117 ?_
              refine v_sub [0] (L1 := [(0, vO 87)]) rfl ?_
              exact wj_X14_misfit_118 h (rgl rfl)
            · rw [if_neg c54] at h
              refine v_iload_n dX14_misfit_85 2 rfl rfl ?_
              refine v_bipush dX14_misfit_86 rfl ?_
              refine v_icmp_ne (tgt := 117) dX14_misfit_88 r4 (rgl rfl) (by decide) (fun c55 => ?_) (fun c55 => ?_)
              · rw [if_neg c55] at h
                refine v_iconst dX14_misfit_117 ?_
                refine v_sub [0] (L1 := [(0, vO 87)]) rfl ?_
                exact wj_X14_misfit_118 h (rgl rfl)
              · rw [if_pos c55] at h
                refine v_aload_n dX14_misfit_91 0 rfl rfl ?_
                refine v_getI (f := 19) cf14 oc87 rfl (by decide) q2389 dX14_misfit_92 ?_
                refine v_if_le (tgt := 117) dX14_misfit_95 (gI_rg _ _ _) (by decide) (fun c56 => ?_) (fun c56 => ?_)
                · rw [if_pos c56] at h
                  refine v_iconst dX14_misfit_117 ?_
                  refine v_sub [0] (L1 := [(0, vO 87)]) rfl ?_
                  exact wj_X14_misfit_118 h (rgl rfl)
                · rw [if_neg c56] at h
                  refine v_aload_n dX14_misfit_98 0 rfl rfl ?_
                  refine v_getS (f := 16) (t := 94) cf14 oc87 rfl rfl rfl (by decide) q2386 dX14_misfit_99 ?_
                  refine v_aload_n dX14_misfit_102 0 rfl rfl ?_
                  refine v_getI (f := 19) cf14 oc87 rfl (by decide) q2389 dX14_misfit_103 ?_
                  refine v_iconst dX14_misfit_106 ?_
                  refine v_isub dX14_misfit_107 ?_
                  obtain ⟨g57, h⟩ := gd_some h
                  refine v_iald oc94 (w32_rg _) g57.1 g57.2 dX14_misfit_108 ?_
                  refine v_iconst dX14_misfit_109 ?_
                  refine v_icmp_ne (tgt := 117) dX14_misfit_110 (gE_rg _ _ _) (rgl rfl) (by decide) (fun c58 => ?_) (fun c58 => ?_)
                  · rw [if_neg c58] at h
                    refine v_iconst dX14_misfit_117 ?_
                    refine v_sub [0] (L1 := [(0, vO 87)]) rfl ?_
                    exact wj_X14_misfit_118 h (rgl rfl)
                  · rw [if_pos c58] at h
                    refine v_iconst dX14_misfit_113 ?_
                    refine v_goto (tgt := 118) dX14_misfit_114 (by decide) ?_
                    refine v_sub [0] (L1 := [(0, vO 87)]) rfl ?_
                    exact wj_X14_misfit_118 h (rgl rfl)

def f_X14_take (x1 : Int) (s : vS) : Option (Int × vS) :=
  if (gI s 87 8) ≤ 0 then
    bd (f_X14_is x1 s) fun r5 s2 =>
    if r5 = 0 then
      bdv (f_X14_misfit 1 s2) fun s10 =>
      some (0, s10)
    else
      stp (sI s2 87 19 (w32 ((gI s2 87 19) + 1))) fun s8 =>
      some (w32 ((gI s8 87 19) - 1), s8)
  else
    some (0, s)
theorem yk_X14_take : yOk yX14_take 1 := ⟨by decide, by decide, by decide +kernel⟩
theorem c_X14_take {x1 : Int} {s : vS} {out : Int × vS} (h : f_X14_take x1 s = some out)  (rx1 : rg x1) : VC yX14_take cX14_take 2 (some .int) 2 46 [vO 87, vI x1] s (some (vI out.1)) out.2 [] := by
  unfold f_X14_take at h
  refine VC.of RX14 (by decide) rfl (Nat.le_of_ble_eq_true rfl) ?_
  show VW cX14_take (RX14, (some (vI out.1)), out.2, (some .int), 2, 46, 2, []) (P0 []) s 0 [(0, vO 87), (1, vI x1)] []
  refine v_aload_n dX14_take_0 0 rfl rfl ?_
  refine v_getI (f := 8) cf14 oc87 rfl (by decide) q2378 dX14_take_1 ?_
  refine v_if_le (tgt := 9) dX14_take_4 (gI_rg _ _ _) (by decide) (fun c1 => ?_) (fun c1 => ?_)
  · rw [if_pos c1] at h
    refine v_aload_n dX14_take_9 0 rfl rfl ?_
    refine v_iload_n dX14_take_10 1 rfl rfl ?_
    obtain ⟨r5, s2, e3, h⟩ := bd_some h
    have k4 := c_X14_is e3 rx1
    have r6 : rg r5 := k4.1.2.2
    refine v_callV (st := []) cf14 oc87 k4 (lw_V q2968 q2970 qs173 q311 q2971) rfl yk_X14_is ⟨Nat.le_of_ble_eq_true rfl, Nat.le_of_ble_eq_true rfl⟩ trivial ⟨kc87, trivial⟩ (Nat.le_of_ble_eq_true rfl) rfl dX14_take_11 ?_
    refine v_if_ne (tgt := 24) dX14_take_14 r6 (by decide) (fun c7 => ?_) (fun c7 => ?_)
    · rw [if_neg c7] at h
      refine v_aload_n dX14_take_24 0 rfl rfl ?_
      refine v_dupO dX14_take_25 ?_
      refine v_getI (f := 19) cf14 oc87 rfl (by decide) q2389 dX14_take_26 ?_
      refine v_iconst dX14_take_29 ?_
      refine v_iadd dX14_take_30 ?_
      obtain ⟨s8, e9, h⟩ := stp_some h
      refine v_putI (f := 19) cf14 oc87 rfl (by decide) q2389 dX14_take_31 rfl rfl ?_
      rw [← e9]
      refine v_aload_n dX14_take_34 0 rfl rfl ?_
      refine v_getI (f := 19) cf14 oc87 rfl (by decide) q2389 dX14_take_35 ?_
      refine v_iconst dX14_take_38 ?_
      refine v_isub dX14_take_39 ?_
      cases h
      exact v_iret (w32_rg _) dX14_take_40
    · rw [if_pos c7] at h
      refine v_aload_n dX14_take_17 0 rfl rfl ?_
      refine v_iconst dX14_take_18 ?_
      obtain ⟨s10, e11, h⟩ := bdv_some h
      have k12 := c_X14_misfit e11 (rgl rfl)
      refine v_callV (st := []) cf14 oc87 k12 (lw_V q2972 q2974 qs174 q311 q2975) rfl yk_X14_misfit ⟨Nat.le_of_ble_eq_true rfl, Nat.le_of_ble_eq_true rfl⟩ trivial ⟨kc87, trivial⟩ (Nat.le_of_ble_eq_true rfl) rfl dX14_take_19 ?_
      refine v_iconst dX14_take_22 ?_
      cases h
      exact v_iret (rgl rfl) dX14_take_23
  · rw [if_neg c1] at h
    refine v_iconst dX14_take_7 ?_
    cases h
    exact v_iret (rgl rfl) dX14_take_8

def f_X14_eat (x1 : Int) (s : vS) : Option (Int × vS) :=
  if 0 < (gI s 87 8) then
    some (0, s)
  else
    bd (f_X14_is x1 s) fun r5 s2 =>
    if r5 = 0 then
      some (0, s2)
    else
      stp (sI s2 87 19 (w32 ((gI s2 87 19) + 1))) fun s8 =>
      some (1, s8)
theorem yk_X14_eat : yOk yX14_eat 1 := ⟨by decide, by decide, by decide +kernel⟩
theorem c_X14_eat {x1 : Int} {s : vS} {out : Int × vS} (h : f_X14_eat x1 s = some out)  (rx1 : rg x1) : VC yX14_eat cX14_eat 2 (some .boolean) 1 21 [vO 87, vI x1] s (some (vI out.1)) out.2 [] := by
  unfold f_X14_eat at h
  refine VC.of RX14 (by decide) rfl (Nat.le_of_ble_eq_true rfl) ?_
  show VW cX14_eat (RX14, (some (vI out.1)), out.2, (some .boolean), 1, 21, 2, []) (P0 []) s 0 [(0, vO 87), (1, vI x1)] []
  refine v_aload_n dX14_eat_0 0 rfl rfl ?_
  refine v_getI (f := 8) cf14 oc87 rfl (by decide) q2378 dX14_eat_1 ?_
  refine v_if_gt (tgt := 15) dX14_eat_4 (gI_rg _ _ _) (by decide) (fun c1 => ?_) (fun c1 => ?_)
  · rw [if_pos c1] at h
    refine v_iconst dX14_eat_15 ?_
    cases h
    exact v_zret (Or.inl rfl) dX14_eat_16
  · rw [if_neg c1] at h
    refine v_aload_n dX14_eat_7 0 rfl rfl ?_
    refine v_iload_n dX14_eat_8 1 rfl rfl ?_
    obtain ⟨r5, s2, e3, h⟩ := bd_some h
    have k4 := c_X14_is e3 rx1
    have r6 : rg r5 := k4.1.2.2
    refine v_callV (st := []) cf14 oc87 k4 (lw_V q2968 q2970 qs173 q311 q2971) rfl yk_X14_is ⟨Nat.le_of_ble_eq_true rfl, Nat.le_of_ble_eq_true rfl⟩ trivial ⟨kc87, trivial⟩ (Nat.le_of_ble_eq_true rfl) rfl dX14_eat_9 ?_
    refine v_if_ne (tgt := 17) dX14_eat_12 r6 (by decide) (fun c7 => ?_) (fun c7 => ?_)
    · rw [if_neg c7] at h
      refine v_aload_n dX14_eat_17 0 rfl rfl ?_
      refine v_dupO dX14_eat_18 ?_
      refine v_getI (f := 19) cf14 oc87 rfl (by decide) q2389 dX14_eat_19 ?_
      refine v_iconst dX14_eat_22 ?_
      refine v_iadd dX14_eat_23 ?_
      obtain ⟨s8, e9, h⟩ := stp_some h
      refine v_putI (f := 19) cf14 oc87 rfl (by decide) q2389 dX14_eat_24 rfl rfl ?_
      rw [← e9]
      refine v_iconst dX14_eat_27 ?_
      cases h
      exact v_zret (Or.inr rfl) dX14_eat_28
    · rw [if_pos c7] at h
      refine v_iconst dX14_eat_15 ?_
      cases h
      exact v_zret (Or.inl rfl) dX14_eat_16

def E_X14_roomForBytes_21 (rv : Option vA) (σo : vS) (q : Int × vS) : Prop := ∀ (x2' : Int) (s' : vS), q = (x2', s') → rg x2' → VW cX14_roomForBytes (RX14, rv, σo, none, 1, 23, 3, []) (P0 []) s' 38 [(0, vO 87), (2, vI x2')] []
def l_X14_roomForBytes_21 : Nat → Int → Int → vS → Option (Int × vS)
  | 0, _, _, _ => none
  | n + 1, x1, x2, s =>
    if (w32 ((gI s 87 85) + x1)) ≤ x2 then
      some (x2, s)
    else
      vl (w32 (2 * x2)) fun y2 =>
      l_X14_roomForBytes_21 n x1 y2 s
theorem wl_X14_roomForBytes_21 {x1 : Int} {rv : Option vA} {σo : vS}  (rx1 : rg x1) : ∀ (n : Nat) (x2 : Int) (s : vS) (q : Int × vS), l_X14_roomForBytes_21 n x1 x2 s = some q → rg x2 → E_X14_roomForBytes_21 rv σo q → VW cX14_roomForBytes (RX14, rv, σo, none, 1, 23, 3, []) (P0 []) s 21 [(0, vO 87), (1, vI x1), (2, vI x2)] [] := by
  intro n
  induction n with
  | zero => intro x2 s q h; cases h
  | succ n ih =>
    intro x2 s q h rx2 hE
    unfold l_X14_roomForBytes_21 at h
    refine v_iload_n dX14_roomForBytes_21 2 rfl rfl ?_
    refine v_aload_n dX14_roomForBytes_22 0 rfl rfl ?_
    refine v_getI (f := 85) cf14 oc87 rfl (by decide) q2455 dX14_roomForBytes_23 ?_
    refine v_iload_n dX14_roomForBytes_26 1 rfl rfl ?_
    refine v_iadd dX14_roomForBytes_27 ?_
    refine v_icmp_ge (tgt := 38) dX14_roomForBytes_28 rx2 (w32_rg _) (by decide) (fun c1 => ?_) (fun c1 => ?_)
    · rw [if_pos c1] at h
      cases h
      refine v_sub [0, 2] (L1 := [(0, vO 87), (2, vI x2)]) rfl ?_
      exact hE _ _ rfl rx2
    · rw [if_neg c1] at h
      refine v_iconst dX14_roomForBytes_31 ?_
      refine v_iload_n dX14_roomForBytes_32 2 rfl rfl ?_
      refine v_imul dX14_roomForBytes_33 ?_
      obtain ⟨y2, e3, h⟩ := vl_some h
      rw [← e3]
      have r4 : rg y2 := by rw [e3]; exact w32_rg _
      refine v_istore_n (L1 := [(2, vI y2), (0, vO 87), (1, vI x1)]) dX14_roomForBytes_34 rfl (by decide) rfl ?_
      refine v_goto (tgt := 21) dX14_roomForBytes_35 (by decide) ?_
      refine v_sub [1, 2, 0] (L1 := [(0, vO 87), (1, vI x1), (2, vI y2)]) rfl ?_
      exact ih y2 s _ h r4 hE

def f_X14_roomForBytes (x1 : Int) (s : vS) : Option (vS) :=
  if (w32 (gN s 149 : Int)) < (w32 ((gI s 87 85) + x1)) then
    vl (w32 (gN s 149 : Int)) fun y2 =>
    lq_1 (l_X14_roomForBytes_21 FU x1 y2 s) fun y5 s6 =>
    bdv (f_X14_longer 149 y5 s6) fun s9 =>
    gd (2 * gN s9 149 ≤ gN s9 199 ∧ 2 ≤ gN s9 199) <|
    stp (sw2 s9 149 199) fun s13 =>
    stp (rs s13) fun s15 =>
    some s15
  else
    some s
theorem yk_X14_roomForBytes : yOk yX14_roomForBytes 1 := ⟨by decide, by decide, by decide +kernel⟩
theorem c_X14_roomForBytes {x1 : Int} {s : vS} {out : vS} (h : f_X14_roomForBytes x1 s = some out)  (rx1 : rg x1) : VC yX14_roomForBytes cX14_roomForBytes 3 none 1 23 [vO 87, vI x1] s none out [] := by
  unfold f_X14_roomForBytes at h
  refine VC.of RX14 (by decide) rfl (Nat.le_of_ble_eq_true rfl) ?_
  show VW cX14_roomForBytes (RX14, none, out, none, 1, 23, 3, []) (P0 []) s 0 [(0, vO 87), (1, vI x1)] []
  refine v_aload_n dX14_roomForBytes_0 0 rfl rfl ?_
  refine v_getI (f := 85) cf14 oc87 rfl (by decide) q2455 dX14_roomForBytes_1 ?_
  refine v_iload_n dX14_roomForBytes_4 1 rfl rfl ?_
  refine v_iadd dX14_roomForBytes_5 ?_
  refine v_aload_n dX14_roomForBytes_6 0 rfl rfl ?_
  refine v_getS (f := 88) (t := 149) cf14 oc87 rfl rfl rfl (by decide) q2458 dX14_roomForBytes_7 ?_
  refine v_alen24 oc149 dX14_roomForBytes_10 ?_
  refine v_icmp_gt (tgt := 15) dX14_roomForBytes_11 (w32_rg _) (w32_rg _) (by decide) (fun c1 => ?_) (fun c1 => ?_)
  · rw [if_pos c1] at h
    refine v_aload_n dX14_roomForBytes_15 0 rfl rfl ?_
    refine v_getS (f := 88) (t := 149) cf14 oc87 rfl rfl rfl (by decide) q2458 dX14_roomForBytes_16 ?_
    refine v_alen24 oc149 dX14_roomForBytes_19 ?_
    obtain ⟨y2, e3, h⟩ := vl_some h
    rw [← e3]
    have r4 : rg y2 := by rw [e3]; exact w32_rg _
    refine v_istore_n (L1 := [(2, vI y2), (0, vO 87), (1, vI x1)]) dX14_roomForBytes_20 rfl (by decide) rfl ?_
    refine v_sub [1, 2, 0] (L1 := [(0, vO 87), (1, vI x1), (2, vI y2)]) rfl ?_
    obtain ⟨y5, s6, e7, h⟩ := lq_1_some h
    refine wl_X14_roomForBytes_21 rx1 FU y2 s _ e7 r4 ?_
    unfold E_X14_roomForBytes_21
    intro y5' s6' z_ r8
    cases z_
    refine v_aload_n dX14_roomForBytes_38 0 rfl rfl ?_
    refine v_aload_n dX14_roomForBytes_39 0 rfl rfl ?_
    refine v_getS (f := 88) (t := 149) cf14 oc87 rfl rfl rfl (by decide) q2458 dX14_roomForBytes_40 ?_
    refine v_iload_n dX14_roomForBytes_43 1 rfl rfl ?_
    obtain ⟨s9, e10, h⟩ := bdv_some h
    have k11 := c_X14_longer e10 (⟨by decide, rfl⟩ : okB 149 24) r8
    refine v_callS (st := [vO 87]) k11 (lw_S q3012 q3013 q311 q3014) yk_X14_longer ⟨Nat.le_of_ble_eq_true rfl, Nat.le_of_ble_eq_true rfl⟩ ⟨kc87, trivial⟩ ⟨kc87, trivial⟩ (Nat.le_of_ble_eq_true rfl) rfl dX14_roomForBytes_44 ?_
    obtain ⟨g12, h⟩ := gd_some h
    obtain ⟨s13, e14, h⟩ := stp_some h
    refine v_pa (i := 0) (K := 199) (t0 := 149) (f := 88) (tk1 := [(24, 0)]) (L1 := [(0, vO 87), (2, vI y5)]) (st1 := []) rfl rfl (by decide) cf14 (⟨by decide, rfl⟩ : okB 87 13) rfl (by decide) rfl rfl (by decide) rfl g12 q2458 dX14_roomForBytes_47 rfl rfl rfl rfl ?_
    rw [← e14]
    refine v_sub [] (L1 := []) rfl ?_
    obtain ⟨s15, e16, h⟩ := stp_some h
    refine v_dr (by decide) (by decide) trivial trivial ?_
    rw [← e16]
    cases h
    exact v_vret dX14_roomForBytes_50
  · rw [if_neg c1] at h
    cases h
    exact v_vret dX14_roomForBytes_14

def f_X14_roomForDigits (x1 : Int) (s : vS) : Option (vS) :=
  if (w32 (gN s 152 : Int)) < x1 then
    gd (naG (w32 (2 * x1))) <|
    stp (sA s 199 (Int.toNat (w32 (2 * x1)), fun _ => 0)) fun s3 =>
    gd (2 * gN s3 152 ≤ gN s3 199 ∧ 2 ≤ gN s3 199) <|
    stp (sw2 s3 152 199) fun s6 =>
    stp (rs s6) fun s8 =>
    some s8
  else
    some s
theorem yk_X14_roomForDigits : yOk yX14_roomForDigits 1 := ⟨by decide, by decide, by decide +kernel⟩
theorem c_X14_roomForDigits {x1 : Int} {s : vS} {out : vS} (h : f_X14_roomForDigits x1 s = some out)  (rx1 : rg x1) : VC yX14_roomForDigits cX14_roomForDigits 2 none 0 0 [vO 87, vI x1] s none out [] := by
  unfold f_X14_roomForDigits at h
  refine VC.of RX14 (by decide) rfl (Nat.le_of_ble_eq_true rfl) ?_
  show VW cX14_roomForDigits (RX14, none, out, none, 0, 0, 2, []) (P0 []) s 0 [(0, vO 87), (1, vI x1)] []
  refine v_iload_n dX14_roomForDigits_0 1 rfl rfl ?_
  refine v_aload_n dX14_roomForDigits_1 0 rfl rfl ?_
  refine v_getS (f := 91) (t := 152) cf14 oc87 rfl rfl rfl (by decide) q2461 dX14_roomForDigits_2 ?_
  refine v_alen24 oc152 dX14_roomForDigits_5 ?_
  refine v_icmp_gt (tgt := 10) dX14_roomForDigits_6 rx1 (w32_rg _) (by decide) (fun c1 => ?_) (fun c1 => ?_)
  · rw [if_pos c1] at h
    refine v_aload_n dX14_roomForDigits_10 0 rfl rfl ?_
    refine v_iconst dX14_roomForDigits_11 ?_
    refine v_iload_n dX14_roomForDigits_12 1 rfl rfl ?_
    refine v_imul dX14_roomForDigits_13 ?_
    obtain ⟨g2, h⟩ := gd_some h
    obtain ⟨s3, e4, h⟩ := stp_some h
    refine v_na24 (K := 199) (tk1 := [(24, 1)]) rfl rfl (by decide) (w32_rg _) g2 ⟨(by decide), trivial⟩ ⟨(by decide), trivial⟩ q459 dX14_roomForDigits_14 ?_
    rw [← e4]
    obtain ⟨g5, h⟩ := gd_some h
    obtain ⟨s6, e7, h⟩ := stp_some h
    refine v_pa (i := 0) (K := 199) (t0 := 152) (f := 91) (tk1 := [(24, 0)]) (L1 := [(0, vO 87), (1, vI x1)]) (st1 := []) rfl rfl (by decide) cf14 (⟨by decide, rfl⟩ : okB 87 13) rfl (by decide) rfl rfl (by decide) rfl g5 q2461 dX14_roomForDigits_16 rfl rfl rfl rfl ?_
    rw [← e7]
    refine v_sub [] (L1 := []) rfl ?_
    obtain ⟨s8, e9, h⟩ := stp_some h
    refine v_dr (by decide) (by decide) trivial trivial ?_
    rw [← e9]
    cases h
    exact v_vret dX14_roomForDigits_19
  · rw [if_neg c1] at h
    cases h
    exact v_vret dX14_roomForDigits_9

def E_X14_keepNumber_4 (x1 : Int) (rv : Option vA) (σo : vS) (q : Int × vS) : Prop := ∀ (x2' : Int) (s' : vS), q = (x2', s') → rg x2' → VW cX14_keepNumber (RX14, rv, σo, (some .int), 1, 23, 6, []) (P0 []) s' 86 [(0, vO 87), (1, vI x1), (2, vI x2')] []
def j_X14_keepNumber_75 (rec : Int → Int → Int → vS → Option (Int × vS)) (x1 : Int) (x2 : Int) (z0 : Int) (s : vS) : Option (Int × vS) :=
  if z0 = 0 then
    rec x1 x2 z0 s
  else
    vl (w32 (x2 + 1)) fun y2 =>
    rec x1 y2 z0 s
theorem wj_X14_keepNumber_75 {x1 : Int} {x2 : Int} {z0 : Int} {s : vS} {rv : Option vA} {σo : vS} {rec : Int → Int → Int → vS → Option (Int × vS)} {q : Int × vS} (h : j_X14_keepNumber_75 rec x1 x2 z0 s = some q)  (rx1 : rg x1) (rx2 : rg x2) (rz0 : rg z0) (hrec : ∀ (y2 : Int) (y3 : Int) (s : vS) (q : Int × vS), rec x1 y2 y3 s = some q → rg y2 → rg y3 → E_X14_keepNumber_4 x1 rv σo q → VW cX14_keepNumber (RX14, rv, σo, (some .int), 1, 23, 6, []) (P0 []) s 4 [(0, vO 87), (1, vI x1), (2, vI y2), (3, vI y3)] []) (hE : E_X14_keepNumber_4 x1 rv σo q) : VW cX14_keepNumber (RX14, rv, σo, (some .int), 1, 23, 6, []) (P0 []) s 75 [(0, vO 87), (1, vI x1), (2, vI x2)] [vI z0] := by
  unfold j_X14_keepNumber_75 at h
  refine v_istore_n (L1 := [(3, vI z0), (0, vO 87), (1, vI x1), (2, vI x2)]) dX14_keepNumber_75 rfl (by decide) rfl ?_
  refine v_iload_n dX14_keepNumber_76 0 rfl rfl ?_
  refine v_if_eq (tgt := 83) dX14_keepNumber_77 rz0 (by decide) (fun c1 => ?_) (fun c1 => ?_)
  · rw [if_pos c1] at h
    refine v_goto (tgt := 4) dX14_keepNumber_83 (by decide) ?_
    refine v_sub [1, 2, 3, 0] (L1 := [(0, vO 87), (1, vI x1), (2, vI x2), (3, vI z0)]) rfl ?_
    exact hrec x2 z0 s _ h rx2 rz0 hE
  · rw [if_neg c1] at h
    obtain ⟨y2, e3, h⟩ := vl_some h
    refine v_iinc (L1 := [(2, vI (w32 (x2 + 1))), (3, vI z0), (0, vO 87), (1, vI x1)]) dX14_keepNumber_80 3 rfl (by decide) rfl ?_
    rw [← e3]
    have r4 : rg y2 := by rw [e3]; exact w32_rg _
    refine v_goto (tgt := 4) dX14_keepNumber_83 (by decide) ?_
    refine v_sub [2, 3, 0, 1] (L1 := [(0, vO 87), (1, vI x1), (2, vI y2), (3, vI z0)]) rfl ?_
    exact hrec y2 z0 s _ h r4 rz0 hE

def j_X14_keepNumber_55 (rec : Int → Int → Int → vS → Option (Int × vS)) (x1 : Int) (x2 : Int) (x4 : Int) (x5 : Int) (s : vS) : Option (Int × vS) :=
  if x4 = 255 then
    if x5 ≤ 127 then
      j_X14_keepNumber_75 rec x1 x2 0 s
    else
      j_X14_keepNumber_75 rec x1 x2 1 s
  else
    j_X14_keepNumber_75 rec x1 x2 0 s
theorem wj_X14_keepNumber_55 {x1 : Int} {x2 : Int} {x4 : Int} {x5 : Int} {s : vS} {rv : Option vA} {σo : vS} {rec : Int → Int → Int → vS → Option (Int × vS)} {q : Int × vS} (h : j_X14_keepNumber_55 rec x1 x2 x4 x5 s = some q)  (rx1 : rg x1) (rx2 : rg x2) (rx4 : rg x4) (rx5 : rg x5) (hrec : ∀ (y2 : Int) (y3 : Int) (s : vS) (q : Int × vS), rec x1 y2 y3 s = some q → rg y2 → rg y3 → E_X14_keepNumber_4 x1 rv σo q → VW cX14_keepNumber (RX14, rv, σo, (some .int), 1, 23, 6, []) (P0 []) s 4 [(0, vO 87), (1, vI x1), (2, vI y2), (3, vI y3)] []) (hE : E_X14_keepNumber_4 x1 rv σo q) : VW cX14_keepNumber (RX14, rv, σo, (some .int), 1, 23, 6, []) (P0 []) s 55 [(0, vO 87), (1, vI x1), (2, vI x2), (4, vI x4), (5, vI x5)] [] := by
  unfold j_X14_keepNumber_55 at h
  refine v_iload dX14_keepNumber_55 3 rfl ?_
  refine v_sipush dX14_keepNumber_57 rfl ?_
  refine v_icmp_ne (tgt := 74) dX14_keepNumber_60 rx4 (rgl rfl) (by decide) (fun c1 => ?_) (fun c1 => ?_)
  · rw [if_neg c1] at h
    refine v_iconst dX14_keepNumber_74 ?_
    refine v_sub [0, 1, 2] (L1 := [(0, vO 87), (1, vI x1), (2, vI x2)]) rfl ?_
    exact wj_X14_keepNumber_75 h rx1 rx2 (rgl rfl) hrec hE
  · rw [if_pos c1] at h
    refine v_iload dX14_keepNumber_63 4 rfl ?_
    refine v_bipush dX14_keepNumber_65 rfl ?_
    refine v_icmp_le (tgt := 74) dX14_keepNumber_67 rx5 (rgl rfl) (by decide) (fun c2 => ?_) (fun c2 => ?_)
    · rw [if_pos c2] at h
      refine v_iconst dX14_keepNumber_74 ?_
      refine v_sub [0, 1, 2] (L1 := [(0, vO 87), (1, vI x1), (2, vI x2)]) rfl ?_
      exact wj_X14_keepNumber_75 h rx1 rx2 (rgl rfl) hrec hE
    · rw [if_neg c2] at h
      refine v_iconst dX14_keepNumber_70 ?_
      refine v_goto (tgt := 75) dX14_keepNumber_71 (by decide) ?_
      refine v_sub [0, 1, 2] (L1 := [(0, vO 87), (1, vI x1), (2, vI x2)]) rfl ?_
      exact wj_X14_keepNumber_75 h rx1 rx2 (rgl rfl) hrec hE

def l_X14_keepNumber_4 : Nat → Int → Int → Int → vS → Option (Int × vS)
  | 0, _, _, _, _ => none
  | n + 1, x1, x2, x3, s =>
    if x3 = 0 then
      some (x2, s)
    else
      if (gI s 87 85) ≤ (w32 ((w32 (x1 + x2)) + 1)) then
        some (x2, s)
      else
        gd (inb (w32 (x1 + x2)) (gN s 149)) <|
        vl (gE s 149 (w32 (x1 + x2))) fun y4 =>
        gd (inb (w32 ((w32 (x1 + x2)) + 1)) (gN s 149)) <|
        vl (gE s 149 (w32 ((w32 (x1 + x2)) + 1))) fun y8 =>
        if y4 = 0 then
          if y8 < 128 then
            j_X14_keepNumber_75 (l_X14_keepNumber_4 n) x1 x2 1 s
          else
            j_X14_keepNumber_55 (l_X14_keepNumber_4 n) x1 x2 y4 y8 s
        else
          j_X14_keepNumber_55 (l_X14_keepNumber_4 n) x1 x2 y4 y8 s
theorem wl_X14_keepNumber_4 {x1 : Int} {rv : Option vA} {σo : vS}  (rx1 : rg x1) : ∀ (n : Nat) (x2 : Int) (x3 : Int) (s : vS) (q : Int × vS), l_X14_keepNumber_4 n x1 x2 x3 s = some q → rg x2 → rg x3 → E_X14_keepNumber_4 x1 rv σo q → VW cX14_keepNumber (RX14, rv, σo, (some .int), 1, 23, 6, []) (P0 []) s 4 [(0, vO 87), (1, vI x1), (2, vI x2), (3, vI x3)] [] := by
  intro n
  induction n with
  | zero => intro x2 x3 s q h; cases h
  | succ n ih =>
    intro x2 x3 s q h rx2 rx3 hE
    unfold l_X14_keepNumber_4 at h
    refine v_iload_n dX14_keepNumber_4 3 rfl rfl ?_
    refine v_if_eq (tgt := 86) dX14_keepNumber_5 rx3 (by decide) (fun c1 => ?_) (fun c1 => ?_)
    · rw [if_pos c1] at h
      cases h
      refine v_sub [0, 1, 2] (L1 := [(0, vO 87), (1, vI x1), (2, vI x2)]) rfl ?_
      exact hE _ _ rfl rx2
    · rw [if_neg c1] at h
      refine v_iload_n dX14_keepNumber_8 1 rfl rfl ?_
      refine v_iload_n dX14_keepNumber_9 2 rfl rfl ?_
      refine v_iadd dX14_keepNumber_10 ?_
      refine v_iconst dX14_keepNumber_11 ?_
      refine v_iadd dX14_keepNumber_12 ?_
      refine v_aload_n dX14_keepNumber_13 0 rfl rfl ?_
      refine v_getI (f := 85) cf14 oc87 rfl (by decide) q2455 dX14_keepNumber_14 ?_
      refine v_icmp_ge (tgt := 86) dX14_keepNumber_17 (w32_rg _) (gI_rg _ _ _) (by decide) (fun c2 => ?_) (fun c2 => ?_)
      · rw [if_pos c2] at h
        cases h
        refine v_sub [0, 1, 2] (L1 := [(0, vO 87), (1, vI x1), (2, vI x2)]) rfl ?_
        exact hE _ _ rfl rx2
      · rw [if_neg c2] at h
        refine v_aload_n dX14_keepNumber_20 0 rfl rfl ?_
        refine v_getS (f := 88) (t := 149) cf14 oc87 rfl rfl rfl (by decide) q2458 dX14_keepNumber_21 ?_
        refine v_iload_n dX14_keepNumber_24 1 rfl rfl ?_
        refine v_iload_n dX14_keepNumber_25 2 rfl rfl ?_
        refine v_iadd dX14_keepNumber_26 ?_
        obtain ⟨g3, h⟩ := gd_some h
        refine v_iald oc149 (w32_rg _) g3.1 g3.2 dX14_keepNumber_27 ?_
        obtain ⟨y4, e5, h⟩ := vl_some h
        rw [← e5]
        have r6 : rg y4 := by rw [e5]; exact gE_rg _ _ _
        refine v_istore (L1 := [(4, vI y4), (0, vO 87), (1, vI x1), (2, vI x2), (3, vI x3)]) dX14_keepNumber_28 (by decide) rfl ?_
        refine v_aload_n dX14_keepNumber_30 1 rfl rfl ?_
        refine v_getS (f := 88) (t := 149) cf14 oc87 rfl rfl rfl (by decide) q2458 dX14_keepNumber_31 ?_
        refine v_iload_n dX14_keepNumber_34 2 rfl rfl ?_
        refine v_iload_n dX14_keepNumber_35 3 rfl rfl ?_
        refine v_iadd dX14_keepNumber_36 ?_
        refine v_iconst dX14_keepNumber_37 ?_
        refine v_iadd dX14_keepNumber_38 ?_
        obtain ⟨g7, h⟩ := gd_some h
        refine v_iald oc149 (w32_rg _) g7.1 g7.2 dX14_keepNumber_39 ?_
        obtain ⟨y8, e9, h⟩ := vl_some h
        rw [← e9]
        have r10 : rg y8 := by rw [e9]; exact gE_rg _ _ _
        refine v_istore (L1 := [(5, vI y8), (4, vI y4), (0, vO 87), (1, vI x1), (2, vI x2), (3, vI x3)]) dX14_keepNumber_40 (by decide) rfl ?_
        refine v_iload dX14_keepNumber_42 1 rfl ?_
        refine v_if_ne (tgt := 55) dX14_keepNumber_44 r6 (by decide) (fun c11 => ?_) (fun c11 => ?_)
        · rw [if_neg c11] at h
          refine v_sub [2, 3, 4, 1, 0] (L1 := [(0, vO 87), (1, vI x1), (2, vI x2), (4, vI y4), (5, vI y8)]) rfl ?_
          exact wj_X14_keepNumber_55 h rx1 rx2 r6 r10 ih hE
        · rw [if_pos c11] at h
          refine v_iload dX14_keepNumber_47 0 rfl ?_
          refine v_sipush dX14_keepNumber_49 rfl ?_
          refine v_icmp_lt (tgt := 70) dX14_keepNumber_52 r10 (rgl rfl) (by decide) (fun c12 => ?_) (fun c12 => ?_)
          · rw [if_pos c12] at h
            refine v_iconst dX14_keepNumber_70 ?_
            refine v_goto (tgt := 75) dX14_keepNumber_71 (by decide) ?_
            refine v_sub [2, 3, 4] (L1 := [(0, vO 87), (1, vI x1), (2, vI x2)]) rfl ?_
            exact wj_X14_keepNumber_75 h rx1 rx2 (rgl rfl) ih hE
          · rw [if_neg c12] at h
            refine v_sub [2, 3, 4, 1, 0] (L1 := [(0, vO 87), (1, vI x1), (2, vI x2), (4, vI y4), (5, vI y8)]) rfl ?_
            exact wj_X14_keepNumber_55 h rx1 rx2 r6 r10 ih hE

def j_X14_keepNumber_132 (x1 : Int) (x2 : Int) (s : vS) : Option (Int × vS) :=
  gd (inb (gI s 87 84) (gN s 147)) <|
  stp (sE s 147 (gI s 87 84) (w32 (x1 + x2))) fun s2 =>
  gd (inb (gI s2 87 84) (gN s2 148)) <|
  stp (sE s2 148 (gI s2 87 84) (w32 ((w32 ((gI s2 87 85) - x1)) - x2))) fun s5 =>
  stp (sI s5 87 84 (w32 ((gI s5 87 84) + 1))) fun s7 =>
  some (w32 ((gI s7 87 84) - 1), s7)
theorem wj_X14_keepNumber_132 {x1 : Int} {x2 : Int} {s : vS} {out : Int × vS} (h : j_X14_keepNumber_132 x1 x2 s = some out)  (rx1 : rg x1) (rx2 : rg x2) : VW cX14_keepNumber (RX14, (some (vI out.1)), out.2, (some .int), 1, 23, 6, []) (P0 []) s 132 [(0, vO 87), (1, vI x1), (2, vI x2)] [] := by
  unfold j_X14_keepNumber_132 at h
  refine v_aload_n dX14_keepNumber_132 0 rfl rfl ?_
  refine v_getS (f := 86) (t := 147) cf14 oc87 rfl rfl rfl (by decide) q2456 dX14_keepNumber_133 ?_
  refine v_aload_n dX14_keepNumber_136 0 rfl rfl ?_
  refine v_getI (f := 84) cf14 oc87 rfl (by decide) q2454 dX14_keepNumber_137 ?_
  refine v_iload_n dX14_keepNumber_140 1 rfl rfl ?_
  refine v_iload_n dX14_keepNumber_141 2 rfl rfl ?_
  refine v_iadd dX14_keepNumber_142 ?_
  obtain ⟨g1, h⟩ := gd_some h
  obtain ⟨s2, e3, h⟩ := stp_some h
  refine v_iast oc147 (gI_rg _ _ _) g1.1 g1.2 dX14_keepNumber_143 ?_
  rw [← e3]
  refine v_aload_n dX14_keepNumber_144 0 rfl rfl ?_
  refine v_getS (f := 87) (t := 148) cf14 oc87 rfl rfl rfl (by decide) q2457 dX14_keepNumber_145 ?_
  refine v_aload_n dX14_keepNumber_148 0 rfl rfl ?_
  refine v_getI (f := 84) cf14 oc87 rfl (by decide) q2454 dX14_keepNumber_149 ?_
  refine v_aload_n dX14_keepNumber_152 0 rfl rfl ?_
  refine v_getI (f := 85) cf14 oc87 rfl (by decide) q2455 dX14_keepNumber_153 ?_
  refine v_iload_n dX14_keepNumber_156 1 rfl rfl ?_
  refine v_isub dX14_keepNumber_157 ?_
  refine v_iload_n dX14_keepNumber_158 2 rfl rfl ?_
  refine v_isub dX14_keepNumber_159 ?_
  obtain ⟨g4, h⟩ := gd_some h
  obtain ⟨s5, e6, h⟩ := stp_some h
  refine v_iast oc148 (gI_rg _ _ _) g4.1 g4.2 dX14_keepNumber_160 ?_
  rw [← e6]
  refine v_aload_n dX14_keepNumber_161 0 rfl rfl ?_
  refine v_dupO dX14_keepNumber_162 ?_
  refine v_getI (f := 84) cf14 oc87 rfl (by decide) q2454 dX14_keepNumber_163 ?_
  refine v_iconst dX14_keepNumber_166 ?_
  refine v_iadd dX14_keepNumber_167 ?_
  obtain ⟨s7, e8, h⟩ := stp_some h
  refine v_putI (f := 84) cf14 oc87 rfl (by decide) q2454 dX14_keepNumber_168 rfl rfl ?_
  rw [← e8]
  refine v_aload_n dX14_keepNumber_171 0 rfl rfl ?_
  refine v_getI (f := 84) cf14 oc87 rfl (by decide) q2454 dX14_keepNumber_172 ?_
  refine v_iconst dX14_keepNumber_175 ?_
  refine v_isub dX14_keepNumber_176 ?_
  cases h
  exact v_iret (w32_rg _) dX14_keepNumber_177

def j_X14_keepNumber_86 (x1 : Int) (x2 : Int) (s : vS) : Option (Int × vS) :=
  if (gI s 87 84) = (w32 (gN s 147 : Int)) then
    bdv (f_X14_longer 147 (w32 (2 * (gI s 87 84))) s) fun s2 =>
    gd (2 * gN s2 147 ≤ gN s2 199 ∧ 2 ≤ gN s2 199) <|
    stp (sw2 s2 147 199) fun s6 =>
    stp (rs s6) fun s8 =>
    bdv (f_X14_longer 148 (w32 (2 * (gI s8 87 84))) s8) fun s10 =>
    gd (2 * gN s10 148 ≤ gN s10 199 ∧ 2 ≤ gN s10 199) <|
    stp (sw2 s10 148 199) fun s14 =>
    stp (rs s14) fun s16 =>
    j_X14_keepNumber_132 x1 x2 s16
  else
    j_X14_keepNumber_132 x1 x2 s
theorem wj_X14_keepNumber_86 {x1 : Int} {x2 : Int} {s : vS} {out : Int × vS} (h : j_X14_keepNumber_86 x1 x2 s = some out)  (rx1 : rg x1) (rx2 : rg x2) : VW cX14_keepNumber (RX14, (some (vI out.1)), out.2, (some .int), 1, 23, 6, []) (P0 []) s 86 [(0, vO 87), (1, vI x1), (2, vI x2)] [] := by
  unfold j_X14_keepNumber_86 at h
  refine v_aload_n dX14_keepNumber_86 0 rfl rfl ?_
  refine v_getI (f := 84) cf14 oc87 rfl (by decide) q2454 dX14_keepNumber_87 ?_
  refine v_aload_n dX14_keepNumber_90 0 rfl rfl ?_
  refine v_getS (f := 86) (t := 147) cf14 oc87 rfl rfl rfl (by decide) q2456 dX14_keepNumber_91 ?_
  refine v_alen24 oc147 dX14_keepNumber_94 ?_
  refine v_icmp_ne (tgt := 132) dX14_keepNumber_95 (gI_rg _ _ _) (w32_rg _) (by decide) (fun c1 => ?_) (fun c1 => ?_)
  · rw [if_neg c1] at h
    exact wj_X14_keepNumber_132 h rx1 rx2
  · rw [if_pos c1] at h
    refine v_aload_n dX14_keepNumber_98 0 rfl rfl ?_
    refine v_aload_n dX14_keepNumber_99 0 rfl rfl ?_
    refine v_getS (f := 86) (t := 147) cf14 oc87 rfl rfl rfl (by decide) q2456 dX14_keepNumber_100 ?_
    refine v_iconst dX14_keepNumber_103 ?_
    refine v_aload_n dX14_keepNumber_104 0 rfl rfl ?_
    refine v_getI (f := 84) cf14 oc87 rfl (by decide) q2454 dX14_keepNumber_105 ?_
    refine v_imul dX14_keepNumber_108 ?_
    obtain ⟨s2, e3, h⟩ := bdv_some h
    have k4 := c_X14_longer e3 (⟨by decide, rfl⟩ : okB 147 24) (w32_rg _)
    refine v_callS (st := [vO 87]) k4 (lw_S q3012 q3013 q311 q3014) yk_X14_longer ⟨Nat.le_of_ble_eq_true rfl, Nat.le_of_ble_eq_true rfl⟩ ⟨kc87, trivial⟩ ⟨kc87, trivial⟩ (Nat.le_of_ble_eq_true rfl) rfl dX14_keepNumber_109 ?_
    obtain ⟨g5, h⟩ := gd_some h
    obtain ⟨s6, e7, h⟩ := stp_some h
    refine v_pa (i := 0) (K := 199) (t0 := 147) (f := 86) (tk1 := [(24, 0)]) (L1 := [(0, vO 87), (1, vI x1), (2, vI x2)]) (st1 := []) rfl rfl (by decide) cf14 (⟨by decide, rfl⟩ : okB 87 13) rfl (by decide) rfl rfl (by decide) rfl g5 q2456 dX14_keepNumber_112 rfl rfl rfl rfl ?_
    rw [← e7]
    obtain ⟨s8, e9, h⟩ := stp_some h
    refine v_dr (by decide) (by decide) ⟨(by decide), trivial⟩ trivial ?_
    rw [← e9]
    refine v_aload_n dX14_keepNumber_115 0 rfl rfl ?_
    refine v_aload_n dX14_keepNumber_116 0 rfl rfl ?_
    refine v_getS (f := 87) (t := 148) cf14 oc87 rfl rfl rfl (by decide) q2457 dX14_keepNumber_117 ?_
    refine v_iconst dX14_keepNumber_120 ?_
    refine v_aload_n dX14_keepNumber_121 0 rfl rfl ?_
    refine v_getI (f := 84) cf14 oc87 rfl (by decide) q2454 dX14_keepNumber_122 ?_
    refine v_imul dX14_keepNumber_125 ?_
    obtain ⟨s10, e11, h⟩ := bdv_some h
    have k12 := c_X14_longer e11 (⟨by decide, rfl⟩ : okB 148 24) (w32_rg _)
    refine v_callS (st := [vO 87]) k12 (lw_S q3012 q3013 q311 q3014) yk_X14_longer ⟨Nat.le_of_ble_eq_true rfl, Nat.le_of_ble_eq_true rfl⟩ ⟨kc87, trivial⟩ ⟨kc87, trivial⟩ (Nat.le_of_ble_eq_true rfl) rfl dX14_keepNumber_126 ?_
    obtain ⟨g13, h⟩ := gd_some h
    obtain ⟨s14, e15, h⟩ := stp_some h
    refine v_pa (i := 0) (K := 199) (t0 := 148) (f := 87) (tk1 := [(24, 0)]) (L1 := [(0, vO 87), (1, vI x1), (2, vI x2)]) (st1 := []) rfl rfl (by decide) cf14 (⟨by decide, rfl⟩ : okB 87 13) rfl (by decide) rfl rfl (by decide) rfl g13 q2457 dX14_keepNumber_129 rfl rfl rfl rfl ?_
    rw [← e15]
    obtain ⟨s16, e17, h⟩ := stp_some h
    refine v_dr (by decide) (by decide) ⟨(by decide), trivial⟩ trivial ?_
    rw [← e17]
    exact wj_X14_keepNumber_132 h rx1 rx2

def f_X14_keepNumber (x1 : Int) (s : vS) : Option (Int × vS) :=
  lq_1 (l_X14_keepNumber_4 FU x1 0 1 s) fun y1 s2 =>
  j_X14_keepNumber_86 x1 y1 s2
theorem yk_X14_keepNumber : yOk yX14_keepNumber 1 := ⟨by decide, by decide, by decide +kernel⟩
theorem c_X14_keepNumber {x1 : Int} {s : vS} {out : Int × vS} (h : f_X14_keepNumber x1 s = some out)  (rx1 : rg x1) : VC yX14_keepNumber cX14_keepNumber 6 (some .int) 1 23 [vO 87, vI x1] s (some (vI out.1)) out.2 [] := by
  unfold f_X14_keepNumber at h
  refine VC.of RX14 (by decide) rfl (Nat.le_of_ble_eq_true rfl) ?_
  show VW cX14_keepNumber (RX14, (some (vI out.1)), out.2, (some .int), 1, 23, 6, []) (P0 []) s 0 [(0, vO 87), (1, vI x1)] []
  refine v_iconst dX14_keepNumber_0 ?_
  refine v_istore_n (L1 := [(2, vI 0), (0, vO 87), (1, vI x1)]) dX14_keepNumber_1 rfl (by decide) rfl ?_
  refine v_iconst dX14_keepNumber_2 ?_
  refine v_istore_n (L1 := [(3, vI 1), (2, vI 0), (0, vO 87), (1, vI x1)]) dX14_keepNumber_3 rfl (by decide) rfl ?_
  refine v_sub [2, 3, 1, 0] (L1 := [(0, vO 87), (1, vI x1), (2, vI 0), (3, vI 1)]) rfl ?_
  obtain ⟨y1, s2, e3, h⟩ := lq_1_some h
  refine wl_X14_keepNumber_4 rx1 FU 0 1 s _ e3 (rgl rfl) (rgl rfl) ?_
  unfold E_X14_keepNumber_4
  intro y1' s2' z_ r4
  cases z_
  exact wj_X14_keepNumber_86 h rx1 r4

def E_X14_makeNumber_39 (x2 : Int) (rv : Option vA) (σo : vS) (q : Int × vS) : Prop := ∀ (x4' : Int) (s' : vS), q = (x4', s') → rg x4' → VW cX14_makeNumber (RX14, rv, σo, (some .int), 2, 48, 9, []) (P0 []) s' 136 [(0, vO 87), (2, vI x2), (4, vI x4')] []
def E_X14_makeNumber_65 (x1 : Int) (x2 : Int) (x4 : Int) (x5 : Int) (rv : Option vA) (σo : vS) (q : Int × vS) : Prop := ∀ (x6' : Int) (s' : vS), q = (x6', s') → rg x6' → VW cX14_makeNumber (RX14, rv, σo, (some .int), 2, 48, 9, []) (P0 []) s' 113 [(0, vO 87), (1, vI x1), (2, vI x2), (4, vI x4), (5, vI x5), (6, vI x6')] []
def l_X14_makeNumber_65 : Nat → Int → Int → Int → Int → Int → Int → vS → Option (Int × vS)
  | 0, _, _, _, _, _, _, _ => none
  | n + 1, x1, x2, x4, x5, x6, x7, s =>
    if x4 ≤ x7 then
      some (x6, s)
    else
      gd (inb x7 (gN s 152)) <|
      vl (w32 ((w32 (10 * (gE s 152 x7))) + x6)) fun y3 =>
      gd (inb x7 (gN s 152)) <|
      stp (sE s 152 x7 (and32 y3 255)) fun s7 =>
      vl (shr32 y3 8) fun y9 =>
      vl (w32 (x7 + 1)) fun y12 =>
      l_X14_makeNumber_65 n x1 x2 x4 x5 y9 y12 s7
theorem wl_X14_makeNumber_65 {x1 : Int} {x2 : Int} {x4 : Int} {x5 : Int} {rv : Option vA} {σo : vS}  (rx1 : rg x1) (rx2 : rg x2) (rx4 : rg x4) (rx5 : rg x5) : ∀ (n : Nat) (x6 : Int) (x7 : Int) (s : vS) (q : Int × vS), l_X14_makeNumber_65 n x1 x2 x4 x5 x6 x7 s = some q → rg x6 → rg x7 → E_X14_makeNumber_65 x1 x2 x4 x5 rv σo q → VW cX14_makeNumber (RX14, rv, σo, (some .int), 2, 48, 9, []) (P0 []) s 65 [(0, vO 87), (1, vI x1), (2, vI x2), (4, vI x4), (5, vI x5), (6, vI x6), (7, vI x7)] [] := by
  intro n
  induction n with
  | zero => intro x6 x7 s q h; cases h
  | succ n ih =>
    intro x6 x7 s q h rx6 rx7 hE
    unfold l_X14_makeNumber_65 at h
    refine v_iload dX14_makeNumber_65 6 rfl ?_
    refine v_iload dX14_makeNumber_67 3 rfl ?_
    refine v_icmp_ge (tgt := 113) dX14_makeNumber_69 rx7 rx4 (by decide) (fun c1 => ?_) (fun c1 => ?_)
    · rw [if_pos c1] at h
      cases h
      refine v_sub [0, 1, 2, 3, 4, 5] (L1 := [(0, vO 87), (1, vI x1), (2, vI x2), (4, vI x4), (5, vI x5), (6, vI x6)]) rfl ?_
      exact hE _ _ rfl rx6
    · rw [if_neg c1] at h
      refine v_bipush dX14_makeNumber_72 rfl ?_
      refine v_aload_n dX14_makeNumber_74 0 rfl rfl ?_
      refine v_getS (f := 91) (t := 152) cf14 oc87 rfl rfl rfl (by decide) q2461 dX14_makeNumber_75 ?_
      refine v_iload dX14_makeNumber_78 6 rfl ?_
      obtain ⟨g2, h⟩ := gd_some h
      refine v_iald oc152 rx7 g2.1 g2.2 dX14_makeNumber_80 ?_
      refine v_imul dX14_makeNumber_81 ?_
      refine v_iload dX14_makeNumber_82 5 rfl ?_
      refine v_iadd dX14_makeNumber_84 ?_
      obtain ⟨y3, e4, h⟩ := vl_some h
      rw [← e4]
      have r5 : rg y3 := by rw [e4]; exact w32_rg _
      refine v_istore (L1 := [(8, vI y3), (0, vO 87), (1, vI x1), (2, vI x2), (4, vI x4), (5, vI x5), (6, vI x6), (7, vI x7)]) dX14_makeNumber_85 (by decide) rfl ?_
      refine v_aload_n dX14_makeNumber_87 1 rfl rfl ?_
      refine v_getS (f := 91) (t := 152) cf14 oc87 rfl rfl rfl (by decide) q2461 dX14_makeNumber_88 ?_
      refine v_iload dX14_makeNumber_91 7 rfl ?_
      refine v_iload dX14_makeNumber_93 0 rfl ?_
      refine v_sipush dX14_makeNumber_95 rfl ?_
      refine v_iand dX14_makeNumber_98 ?_
      obtain ⟨g6, h⟩ := gd_some h
      obtain ⟨s7, e8, h⟩ := stp_some h
      refine v_iast oc152 rx7 g6.1 g6.2 dX14_makeNumber_99 ?_
      rw [← e8]
      refine v_iload dX14_makeNumber_100 0 rfl ?_
      refine v_bipush dX14_makeNumber_102 rfl ?_
      refine v_ishr dX14_makeNumber_104 ?_
      obtain ⟨y9, e10, h⟩ := vl_some h
      rw [← e10]
      have r11 : rg y9 := by rw [e10]; exact shr32_rg _ _
      refine v_istore (L1 := [(6, vI y9), (8, vI y3), (0, vO 87), (1, vI x1), (2, vI x2), (4, vI x4), (5, vI x5), (7, vI x7)]) dX14_makeNumber_105 (by decide) rfl ?_
      obtain ⟨y12, e13, h⟩ := vl_some h
      refine v_iinc (L1 := [(7, vI (w32 (x7 + 1))), (6, vI y9), (8, vI y3), (0, vO 87), (1, vI x1), (2, vI x2), (4, vI x4), (5, vI x5)]) dX14_makeNumber_107 7 rfl (by decide) rfl ?_
      rw [← e13]
      have r14 : rg y12 := by rw [e13]; exact w32_rg _
      refine v_goto (tgt := 65) dX14_makeNumber_110 (by decide) ?_
      refine v_sub [3, 4, 5, 6, 7, 1, 0] (L1 := [(0, vO 87), (1, vI x1), (2, vI x2), (4, vI x4), (5, vI x5), (6, vI y9), (7, vI y12)]) rfl ?_
      exact ih y9 y12 s7 _ h r11 r14 hE

def l_X14_makeNumber_39 : Nat → Int → Int → Int → Int → vS → Option (Int × vS)
  | 0, _, _, _, _, _ => none
  | n + 1, x1, x2, x4, x5, s =>
    gd (inb x1 (gN s 96)) <|
    if (gE s 96 x1) ≤ x5 then
      some (x4, s)
    else
      gd (inb x5 (gN s 93)) <|
      vl (w32 ((gE s 93 x5) - 48)) fun y4 =>
      lq_1 (l_X14_makeNumber_65 FU x1 x2 x4 x5 y4 0 s) fun y7 s8 =>
      if y7 ≤ 0 then
        vl (w32 (x5 + 1)) fun y12 =>
        l_X14_makeNumber_39 n x1 x2 x4 y12 s8
      else
        gd (inb x4 (gN s8 152)) <|
        stp (sE s8 152 x4 y7) fun s16 =>
        vl (w32 (x4 + 1)) fun y18 =>
        vl (w32 (x5 + 1)) fun y21 =>
        l_X14_makeNumber_39 n x1 x2 y18 y21 s16
theorem wl_X14_makeNumber_39 {x1 : Int} {x2 : Int} {rv : Option vA} {σo : vS}  (rx1 : rg x1) (rx2 : rg x2) : ∀ (n : Nat) (x4 : Int) (x5 : Int) (s : vS) (q : Int × vS), l_X14_makeNumber_39 n x1 x2 x4 x5 s = some q → rg x4 → rg x5 → E_X14_makeNumber_39 x2 rv σo q → VW cX14_makeNumber (RX14, rv, σo, (some .int), 2, 48, 9, []) (P0 []) s 39 [(0, vO 87), (1, vI x1), (2, vI x2), (4, vI x4), (5, vI x5)] [] := by
  intro n
  induction n with
  | zero => intro x4 x5 s q h; cases h
  | succ n ih =>
    intro x4 x5 s q h rx4 rx5 hE
    unfold l_X14_makeNumber_39 at h
    refine v_iload dX14_makeNumber_39 4 rfl ?_
    refine v_aload_n dX14_makeNumber_41 0 rfl rfl ?_
    refine v_getS (f := 18) (t := 96) cf14 oc87 rfl rfl rfl (by decide) q2388 dX14_makeNumber_42 ?_
    refine v_iload_n dX14_makeNumber_45 1 rfl rfl ?_
    obtain ⟨g1, h⟩ := gd_some h
    refine v_iald oc96 rx1 g1.1 g1.2 dX14_makeNumber_46 ?_
    refine v_icmp_ge (tgt := 136) dX14_makeNumber_47 rx5 (gE_rg _ _ _) (by decide) (fun c2 => ?_) (fun c2 => ?_)
    · rw [if_pos c2] at h
      cases h
      refine v_sub [0, 2, 3] (L1 := [(0, vO 87), (2, vI x2), (4, vI x4)]) rfl ?_
      exact hE _ _ rfl rx4
    · rw [if_neg c2] at h
      refine v_aload_n dX14_makeNumber_50 0 rfl rfl ?_
      refine v_getS (f := 14) (t := 93) cf14 oc87 rfl rfl rfl (by decide) q2384 dX14_makeNumber_51 ?_
      refine v_iload dX14_makeNumber_54 4 rfl ?_
      obtain ⟨g3, h⟩ := gd_some h
      refine v_iald oc93 rx5 g3.1 g3.2 dX14_makeNumber_56 ?_
      refine v_bipush dX14_makeNumber_57 rfl ?_
      refine v_isub dX14_makeNumber_59 ?_
      obtain ⟨y4, e5, h⟩ := vl_some h
      rw [← e5]
      have r6 : rg y4 := by rw [e5]; exact w32_rg _
      refine v_istore (L1 := [(6, vI y4), (0, vO 87), (1, vI x1), (2, vI x2), (4, vI x4), (5, vI x5)]) dX14_makeNumber_60 (by decide) rfl ?_
      refine v_iconst dX14_makeNumber_62 ?_
      refine v_istore (L1 := [(7, vI 0), (6, vI y4), (0, vO 87), (1, vI x1), (2, vI x2), (4, vI x4), (5, vI x5)]) dX14_makeNumber_63 (by decide) rfl ?_
      refine v_sub [2, 3, 4, 5, 6, 1, 0] (L1 := [(0, vO 87), (1, vI x1), (2, vI x2), (4, vI x4), (5, vI x5), (6, vI y4), (7, vI 0)]) rfl ?_
      obtain ⟨y7, s8, e9, h⟩ := lq_1_some h
      refine wl_X14_makeNumber_65 rx1 rx2 rx4 rx5 FU y4 0 s _ e9 r6 (rgl rfl) ?_
      unfold E_X14_makeNumber_65
      intro y7' s8' z_ r10
      cases z_
      refine v_iload dX14_makeNumber_113 5 rfl ?_
      refine v_if_le (tgt := 130) dX14_makeNumber_115 r10 (by decide) (fun c11 => ?_) (fun c11 => ?_)
      · rw [if_pos c11] at h
        obtain ⟨y12, e13, h⟩ := vl_some h
        refine v_iinc (L1 := [(5, vI (w32 (x5 + 1))), (0, vO 87), (1, vI x1), (2, vI x2), (4, vI x4), (6, vI y7)]) dX14_makeNumber_130 4 rfl (by decide) rfl ?_
        rw [← e13]
        have r14 : rg y12 := by rw [e13]; exact w32_rg _
        refine v_goto (tgt := 39) dX14_makeNumber_133 (by decide) ?_
        refine v_sub [1, 2, 3, 4, 0] (L1 := [(0, vO 87), (1, vI x1), (2, vI x2), (4, vI x4), (5, vI y12)]) rfl ?_
        exact ih x4 y12 s8 _ h rx4 r14 hE
      · rw [if_neg c11] at h
        refine v_aload_n dX14_makeNumber_118 0 rfl rfl ?_
        refine v_getS (f := 91) (t := 152) cf14 oc87 rfl rfl rfl (by decide) q2461 dX14_makeNumber_119 ?_
        refine v_iload dX14_makeNumber_122 3 rfl ?_
        refine v_iload dX14_makeNumber_124 5 rfl ?_
        obtain ⟨g15, h⟩ := gd_some h
        obtain ⟨s16, e17, h⟩ := stp_some h
        refine v_iast oc152 rx4 g15.1 g15.2 dX14_makeNumber_126 ?_
        rw [← e17]
        obtain ⟨y18, e19, h⟩ := vl_some h
        refine v_iinc (L1 := [(4, vI (w32 (x4 + 1))), (0, vO 87), (1, vI x1), (2, vI x2), (5, vI x5), (6, vI y7)]) dX14_makeNumber_127 3 rfl (by decide) rfl ?_
        rw [← e19]
        have r20 : rg y18 := by rw [e19]; exact w32_rg _
        obtain ⟨y21, e22, h⟩ := vl_some h
        refine v_iinc (L1 := [(5, vI (w32 (x5 + 1))), (4, vI y18), (0, vO 87), (1, vI x1), (2, vI x2), (6, vI y7)]) dX14_makeNumber_130 4 rfl (by decide) rfl ?_
        rw [← e22]
        have r23 : rg y21 := by rw [e22]; exact w32_rg _
        refine v_goto (tgt := 39) dX14_makeNumber_133 (by decide) ?_
        refine v_sub [2, 3, 4, 1, 0] (L1 := [(0, vO 87), (1, vI x1), (2, vI x2), (4, vI y18), (5, vI y21)]) rfl ?_
        exact ih y18 y21 s16 _ h r20 r23 hE

def E_X14_makeNumber_224 (x5 : Int) (rv : Option vA) (σo : vS) (q : vS) : Prop := ∀ (s' : vS), q = s' → VW cX14_makeNumber (RX14, rv, σo, (some .int), 2, 48, 9, []) (P0 []) s' 261 [(0, vO 87), (5, vI x5)] []
def l_X14_makeNumber_224 : Nat → Int → Int → vS → Option (vS)
  | 0, _, _, _ => none
  | n + 1, x5, x6, s =>
    if x6 < 0 then
      some s
    else
      gd (inb x6 (gN s 152)) <|
      gd (inb (gI s 87 85) (gN s 149)) <|
      stp (sE s 149 (gI s 87 85) (gE s 152 x6)) fun s4 =>
      stp (sI s4 87 85 (w32 ((gI s4 87 85) + 1))) fun s6 =>
      vl (w32 (x6 + (-1))) fun y8 =>
      l_X14_makeNumber_224 n x5 y8 s6
theorem wl_X14_makeNumber_224 {x5 : Int} {rv : Option vA} {σo : vS}  (rx5 : rg x5) : ∀ (n : Nat) (x6 : Int) (s : vS) (q : vS), l_X14_makeNumber_224 n x5 x6 s = some q → rg x6 → E_X14_makeNumber_224 x5 rv σo q → VW cX14_makeNumber (RX14, rv, σo, (some .int), 2, 48, 9, []) (P0 []) s 224 [(0, vO 87), (5, vI x5), (6, vI x6)] [] := by
  intro n
  induction n with
  | zero => intro x6 s q h; cases h
  | succ n ih =>
    intro x6 s q h rx6 hE
    unfold l_X14_makeNumber_224 at h
    refine v_iload dX14_makeNumber_224 2 rfl ?_
    refine v_if_lt (tgt := 261) dX14_makeNumber_226 rx6 (by decide) (fun c1 => ?_) (fun c1 => ?_)
    · rw [if_pos c1] at h
      cases h
      refine v_sub [0, 1] (L1 := [(0, vO 87), (5, vI x5)]) rfl ?_
      exact hE _ rfl 
    · rw [if_neg c1] at h
      refine v_aload_n dX14_makeNumber_229 0 rfl rfl ?_
      refine v_getS (f := 88) (t := 149) cf14 oc87 rfl rfl rfl (by decide) q2458 dX14_makeNumber_230 ?_
      refine v_aload_n dX14_makeNumber_233 0 rfl rfl ?_
      refine v_getI (f := 85) cf14 oc87 rfl (by decide) q2455 dX14_makeNumber_234 ?_
      refine v_aload_n dX14_makeNumber_237 0 rfl rfl ?_
      refine v_getS (f := 91) (t := 152) cf14 oc87 rfl rfl rfl (by decide) q2461 dX14_makeNumber_238 ?_
      refine v_iload dX14_makeNumber_241 2 rfl ?_
      obtain ⟨g2, h⟩ := gd_some h
      refine v_iald oc152 rx6 g2.1 g2.2 dX14_makeNumber_243 ?_
      obtain ⟨g3, h⟩ := gd_some h
      obtain ⟨s4, e5, h⟩ := stp_some h
      refine v_iast oc149 (gI_rg _ _ _) g3.1 g3.2 dX14_makeNumber_244 ?_
      rw [← e5]
      refine v_aload_n dX14_makeNumber_245 0 rfl rfl ?_
      refine v_dupO dX14_makeNumber_246 ?_
      refine v_getI (f := 85) cf14 oc87 rfl (by decide) q2455 dX14_makeNumber_247 ?_
      refine v_iconst dX14_makeNumber_250 ?_
      refine v_iadd dX14_makeNumber_251 ?_
      obtain ⟨s6, e7, h⟩ := stp_some h
      refine v_putI (f := 85) cf14 oc87 rfl (by decide) q2455 dX14_makeNumber_252 rfl rfl ?_
      rw [← e7]
      obtain ⟨y8, e9, h⟩ := vl_some h
      refine v_iinc (L1 := [(6, vI (w32 (x6 + (-1)))), (0, vO 87), (5, vI x5)]) dX14_makeNumber_255 2 rfl (by decide) rfl ?_
      rw [← e9]
      have r10 : rg y8 := by rw [e9]; exact w32_rg _
      refine v_goto (tgt := 224) dX14_makeNumber_258 (by decide) ?_
      refine v_sub [1, 2, 0] (L1 := [(0, vO 87), (5, vI x5), (6, vI y8)]) rfl ?_
      exact ih y8 s6 _ h r10 hE

def j_X14_makeNumber_206 (x4 : Int) (s : vS) : Option (Int × vS) :=
  bdv (f_X14_roomForBytes x4 s) fun s1 =>
  vl (gI s1 87 85) fun y4 =>
  vl (w32 (x4 - 1)) fun y7 =>
  lq_0 (l_X14_makeNumber_224 FU y4 y7 s1) fun s10 =>
  bd (f_X14_keepNumber y4 s10) fun r15 s12 =>
  some (r15, s12)
theorem wj_X14_makeNumber_206 {x4 : Int} {s : vS} {out : Int × vS} (h : j_X14_makeNumber_206 x4 s = some out)  (rx4 : rg x4) : VW cX14_makeNumber (RX14, (some (vI out.1)), out.2, (some .int), 2, 48, 9, []) (P0 []) s 206 [(0, vO 87), (4, vI x4)] [] := by
  unfold j_X14_makeNumber_206 at h
  refine v_aload_n dX14_makeNumber_206 0 rfl rfl ?_
  refine v_iload dX14_makeNumber_207 1 rfl ?_
  obtain ⟨s1, e2, h⟩ := bdv_some h
  have k3 := c_X14_roomForBytes e2 rx4
  refine v_callV (st := []) cf14 oc87 k3 (lw_V q3008 q3010 qs183 q311 q3011) rfl yk_X14_roomForBytes ⟨Nat.le_of_ble_eq_true rfl, Nat.le_of_ble_eq_true rfl⟩ trivial ⟨kc87, trivial⟩ (Nat.le_of_ble_eq_true rfl) rfl dX14_makeNumber_209 ?_
  refine v_aload_n dX14_makeNumber_212 0 rfl rfl ?_
  refine v_getI (f := 85) cf14 oc87 rfl (by decide) q2455 dX14_makeNumber_213 ?_
  obtain ⟨y4, e5, h⟩ := vl_some h
  rw [← e5]
  have r6 : rg y4 := by rw [e5]; exact gI_rg _ _ _
  refine v_istore (L1 := [(5, vI y4), (0, vO 87), (4, vI x4)]) dX14_makeNumber_216 (by decide) rfl ?_
  refine v_iload dX14_makeNumber_218 2 rfl ?_
  refine v_iconst dX14_makeNumber_220 ?_
  refine v_isub dX14_makeNumber_221 ?_
  obtain ⟨y7, e8, h⟩ := vl_some h
  rw [← e8]
  have r9 : rg y7 := by rw [e8]; exact w32_rg _
  refine v_istore (L1 := [(6, vI y7), (5, vI y4), (0, vO 87), (4, vI x4)]) dX14_makeNumber_222 (by decide) rfl ?_
  refine v_sub [2, 1, 0] (L1 := [(0, vO 87), (5, vI y4), (6, vI y7)]) rfl ?_
  obtain ⟨s10, e11, h⟩ := lq_0_some h
  refine wl_X14_makeNumber_224 r6 FU y7 s1 _ e11 r9 ?_
  unfold E_X14_makeNumber_224
  intro s10' z_
  cases z_
  refine v_aload_n dX14_makeNumber_261 0 rfl rfl ?_
  refine v_iload dX14_makeNumber_262 1 rfl ?_
  obtain ⟨r15, s12, e13, h⟩ := bd_some h
  have k14 := c_X14_keepNumber e13 r6
  have r16 : rg r15 := k14.1.2.2
  refine v_callV (st := []) cf14 oc87 k14 (lw_V q3015 q3017 qs184 q311 q3018) rfl yk_X14_keepNumber ⟨Nat.le_of_ble_eq_true rfl, Nat.le_of_ble_eq_true rfl⟩ trivial ⟨kc87, trivial⟩ (Nat.le_of_ble_eq_true rfl) rfl dX14_makeNumber_264 ?_
  cases h
  exact v_iret r16 dX14_makeNumber_267

def E_X14_makeNumber_157 (x4 : Int) (rv : Option vA) (σo : vS) (q : vS) : Prop := ∀ (s' : vS), q = s' → VW cX14_makeNumber (RX14, rv, σo, (some .int), 2, 48, 9, []) (P0 []) s' 206 [(0, vO 87), (4, vI x4)] []
def l_X14_makeNumber_157 : Nat → Int → Int → Int → vS → Option (vS)
  | 0, _, _, _, _ => none
  | n + 1, x4, x5, x6, s =>
    if x4 ≤ x6 then
      some s
    else
      gd (inb x6 (gN s 152)) <|
      vl (w32 ((w32 (255 - (gE s 152 x6))) + x5)) fun y3 =>
      gd (inb x6 (gN s 152)) <|
      stp (sE s 152 x6 (and32 y3 255)) fun s7 =>
      vl (shr32 y3 8) fun y9 =>
      vl (w32 (x6 + 1)) fun y12 =>
      l_X14_makeNumber_157 n x4 y9 y12 s7
theorem wl_X14_makeNumber_157 {x4 : Int} {rv : Option vA} {σo : vS}  (rx4 : rg x4) : ∀ (n : Nat) (x5 : Int) (x6 : Int) (s : vS) (q : vS), l_X14_makeNumber_157 n x4 x5 x6 s = some q → rg x5 → rg x6 → E_X14_makeNumber_157 x4 rv σo q → VW cX14_makeNumber (RX14, rv, σo, (some .int), 2, 48, 9, []) (P0 []) s 157 [(0, vO 87), (4, vI x4), (5, vI x5), (6, vI x6)] [] := by
  intro n
  induction n with
  | zero => intro x5 x6 s q h; cases h
  | succ n ih =>
    intro x5 x6 s q h rx5 rx6 hE
    unfold l_X14_makeNumber_157 at h
    refine v_iload dX14_makeNumber_157 3 rfl ?_
    refine v_iload dX14_makeNumber_159 1 rfl ?_
    refine v_icmp_ge (tgt := 206) dX14_makeNumber_161 rx6 rx4 (by decide) (fun c1 => ?_) (fun c1 => ?_)
    · rw [if_pos c1] at h
      cases h
      refine v_sub [0, 1] (L1 := [(0, vO 87), (4, vI x4)]) rfl ?_
      exact hE _ rfl 
    · rw [if_neg c1] at h
      refine v_sipush dX14_makeNumber_164 rfl ?_
      refine v_aload_n dX14_makeNumber_167 0 rfl rfl ?_
      refine v_getS (f := 91) (t := 152) cf14 oc87 rfl rfl rfl (by decide) q2461 dX14_makeNumber_168 ?_
      refine v_iload dX14_makeNumber_171 3 rfl ?_
      obtain ⟨g2, h⟩ := gd_some h
      refine v_iald oc152 rx6 g2.1 g2.2 dX14_makeNumber_173 ?_
      refine v_isub dX14_makeNumber_174 ?_
      refine v_iload dX14_makeNumber_175 2 rfl ?_
      refine v_iadd dX14_makeNumber_177 ?_
      obtain ⟨y3, e4, h⟩ := vl_some h
      rw [← e4]
      have r5 : rg y3 := by rw [e4]; exact w32_rg _
      refine v_istore (L1 := [(7, vI y3), (0, vO 87), (4, vI x4), (5, vI x5), (6, vI x6)]) dX14_makeNumber_178 (by decide) rfl ?_
      refine v_aload_n dX14_makeNumber_180 1 rfl rfl ?_
      refine v_getS (f := 91) (t := 152) cf14 oc87 rfl rfl rfl (by decide) q2461 dX14_makeNumber_181 ?_
      refine v_iload dX14_makeNumber_184 4 rfl ?_
      refine v_iload dX14_makeNumber_186 0 rfl ?_
      refine v_sipush dX14_makeNumber_188 rfl ?_
      refine v_iand dX14_makeNumber_191 ?_
      obtain ⟨g6, h⟩ := gd_some h
      obtain ⟨s7, e8, h⟩ := stp_some h
      refine v_iast oc152 rx6 g6.1 g6.2 dX14_makeNumber_192 ?_
      rw [← e8]
      refine v_iload dX14_makeNumber_193 0 rfl ?_
      refine v_bipush dX14_makeNumber_195 rfl ?_
      refine v_ishr dX14_makeNumber_197 ?_
      obtain ⟨y9, e10, h⟩ := vl_some h
      rw [← e10]
      have r11 : rg y9 := by rw [e10]; exact shr32_rg _ _
      refine v_istore (L1 := [(5, vI y9), (7, vI y3), (0, vO 87), (4, vI x4), (6, vI x6)]) dX14_makeNumber_198 (by decide) rfl ?_
      obtain ⟨y12, e13, h⟩ := vl_some h
      refine v_iinc (L1 := [(6, vI (w32 (x6 + 1))), (5, vI y9), (7, vI y3), (0, vO 87), (4, vI x4)]) dX14_makeNumber_200 4 rfl (by decide) rfl ?_
      rw [← e13]
      have r14 : rg y12 := by rw [e13]; exact w32_rg _
      refine v_goto (tgt := 157) dX14_makeNumber_203 (by decide) ?_
      refine v_sub [3, 4, 1, 0] (L1 := [(0, vO 87), (4, vI x4), (5, vI y9), (6, vI y12)]) rfl ?_
      exact ih y9 y12 s7 _ h r11 r14 hE

def f_X14_makeNumber (x1 : Int) (x2 : Int) (s : vS) : Option (Int × vS) :=
  gd (inb x1 (gN s 96)) <|
  gd (inb x1 (gN s 95)) <|
  vl (w32 ((gE s 96 x1) - (gE s 95 x1))) fun y3 =>
  bdv (f_X14_roomForDigits (w32 (y3 + 2)) s) fun s6 =>
  gd (inb 0 (gN s6 152)) <|
  stp (sE s6 152 0 0) fun s10 =>
  gd (inb x1 (gN s10 95)) <|
  vl (gE s10 95 x1) fun y13 =>
  lq_1 (l_X14_makeNumber_39 FU x1 x2 1 y13 s10) fun y16 s17 =>
  gd (inb y16 (gN s17 152)) <|
  stp (sE s17 152 y16 0) fun s21 =>
  vl (w32 (y16 + 1)) fun y23 =>
  if x2 = 0 then
    j_X14_makeNumber_206 y23 s21
  else
    lq_0 (l_X14_makeNumber_157 FU y23 1 0 s21) fun s27 =>
    j_X14_makeNumber_206 y23 s27
theorem yk_X14_makeNumber : yOk yX14_makeNumber 2 := ⟨by decide, by decide, by decide +kernel⟩
theorem c_X14_makeNumber {x1 : Int} {x2 : Int} {s : vS} {out : Int × vS} (h : f_X14_makeNumber x1 x2 s = some out)  (rx1 : rg x1) (rx2 : rg x2) : VC yX14_makeNumber cX14_makeNumber 9 (some .int) 2 48 [vO 87, vI x1, vI x2] s (some (vI out.1)) out.2 [] := by
  unfold f_X14_makeNumber at h
  refine VC.of RX14 (by decide) rfl (Nat.le_of_ble_eq_true rfl) ?_
  show VW cX14_makeNumber (RX14, (some (vI out.1)), out.2, (some .int), 2, 48, 9, []) (P0 []) s 0 [(0, vO 87), (1, vI x1), (2, vI x2)] []
  refine v_aload_n dX14_makeNumber_0 0 rfl rfl ?_
  refine v_getS (f := 18) (t := 96) cf14 oc87 rfl rfl rfl (by decide) q2388 dX14_makeNumber_1 ?_
  refine v_iload_n dX14_makeNumber_4 1 rfl rfl ?_
  obtain ⟨g1, h⟩ := gd_some h
  refine v_iald oc96 rx1 g1.1 g1.2 dX14_makeNumber_5 ?_
  refine v_aload_n dX14_makeNumber_6 0 rfl rfl ?_
  refine v_getS (f := 17) (t := 95) cf14 oc87 rfl rfl rfl (by decide) q2387 dX14_makeNumber_7 ?_
  refine v_iload_n dX14_makeNumber_10 1 rfl rfl ?_
  obtain ⟨g2, h⟩ := gd_some h
  refine v_iald oc95 rx1 g2.1 g2.2 dX14_makeNumber_11 ?_
  refine v_isub dX14_makeNumber_12 ?_
  obtain ⟨y3, e4, h⟩ := vl_some h
  rw [← e4]
  have r5 : rg y3 := by rw [e4]; exact w32_rg _
  refine v_istore_n (L1 := [(3, vI y3), (0, vO 87), (1, vI x1), (2, vI x2)]) dX14_makeNumber_13 rfl (by decide) rfl ?_
  refine v_aload_n dX14_makeNumber_14 1 rfl rfl ?_
  refine v_iload_n dX14_makeNumber_15 0 rfl rfl ?_
  refine v_iconst dX14_makeNumber_16 ?_
  refine v_iadd dX14_makeNumber_17 ?_
  obtain ⟨s6, e7, h⟩ := bdv_some h
  have k8 := c_X14_roomForDigits e7 (w32_rg _)
  refine v_callV (st := []) cf14 oc87 k8 (lw_V q3004 q3006 qs182 q311 q3007) rfl yk_X14_roomForDigits ⟨Nat.le_of_ble_eq_true rfl, Nat.le_of_ble_eq_true rfl⟩ trivial ⟨kc87, trivial⟩ (Nat.le_of_ble_eq_true rfl) rfl dX14_makeNumber_18 ?_
  refine v_iconst dX14_makeNumber_21 ?_
  refine v_istore (L1 := [(4, vI 1), (3, vI y3), (0, vO 87), (1, vI x1), (2, vI x2)]) dX14_makeNumber_22 (by decide) rfl ?_
  refine v_aload_n dX14_makeNumber_24 2 rfl rfl ?_
  refine v_getS (f := 91) (t := 152) cf14 oc87 rfl rfl rfl (by decide) q2461 dX14_makeNumber_25 ?_
  refine v_iconst dX14_makeNumber_28 ?_
  refine v_iconst dX14_makeNumber_29 ?_
  obtain ⟨g9, h⟩ := gd_some h
  obtain ⟨s10, e11, h⟩ := stp_some h
  refine v_iast oc152 (rgl rfl) g9.1 g9.2 dX14_makeNumber_30 ?_
  rw [← e11]
  refine v_aload_n dX14_makeNumber_31 2 rfl rfl ?_
  refine v_getS (f := 17) (t := 95) cf14 oc87 rfl rfl rfl (by decide) q2387 dX14_makeNumber_32 ?_
  refine v_iload_n dX14_makeNumber_35 3 rfl rfl ?_
  obtain ⟨g12, h⟩ := gd_some h
  refine v_iald oc95 rx1 g12.1 g12.2 dX14_makeNumber_36 ?_
  obtain ⟨y13, e14, h⟩ := vl_some h
  rw [← e14]
  have r15 : rg y13 := by rw [e14]; exact gE_rg _ _ _
  refine v_istore (L1 := [(5, vI y13), (4, vI 1), (3, vI y3), (0, vO 87), (1, vI x1), (2, vI x2)]) dX14_makeNumber_37 (by decide) rfl ?_
  refine v_sub [3, 4, 5, 1, 0] (L1 := [(0, vO 87), (1, vI x1), (2, vI x2), (4, vI 1), (5, vI y13)]) rfl ?_
  obtain ⟨y16, s17, e18, h⟩ := lq_1_some h
  refine wl_X14_makeNumber_39 rx1 rx2 FU 1 y13 s10 _ e18 (rgl rfl) r15 ?_
  unfold E_X14_makeNumber_39
  intro y16' s17' z_ r19
  cases z_
  refine v_aload_n dX14_makeNumber_136 0 rfl rfl ?_
  refine v_getS (f := 91) (t := 152) cf14 oc87 rfl rfl rfl (by decide) q2461 dX14_makeNumber_137 ?_
  refine v_iload dX14_makeNumber_140 2 rfl ?_
  refine v_iconst dX14_makeNumber_142 ?_
  obtain ⟨g20, h⟩ := gd_some h
  obtain ⟨s21, e22, h⟩ := stp_some h
  refine v_iast oc152 r19 g20.1 g20.2 dX14_makeNumber_143 ?_
  rw [← e22]
  obtain ⟨y23, e24, h⟩ := vl_some h
  refine v_iinc (L1 := [(4, vI (w32 (y16 + 1))), (0, vO 87), (2, vI x2)]) dX14_makeNumber_144 2 rfl (by decide) rfl ?_
  rw [← e24]
  have r25 : rg y23 := by rw [e24]; exact w32_rg _
  refine v_iload_n dX14_makeNumber_147 2 rfl rfl ?_
  refine v_if_eq (tgt := 206) dX14_makeNumber_148 rx2 (by decide) (fun c26 => ?_) (fun c26 => ?_)
  · rw [if_pos c26] at h
    refine v_sub [1, 0] (L1 := [(0, vO 87), (4, vI y23)]) rfl ?_
    exact wj_X14_makeNumber_206 h r25
  · rw [if_neg c26] at h
    refine v_iconst dX14_makeNumber_151 ?_
    refine v_istore (L1 := [(5, vI 1), (4, vI y23), (0, vO 87), (2, vI x2)]) dX14_makeNumber_152 (by decide) rfl ?_
    refine v_iconst dX14_makeNumber_154 ?_
    refine v_istore (L1 := [(6, vI 0), (5, vI 1), (4, vI y23), (0, vO 87), (2, vI x2)]) dX14_makeNumber_155 (by decide) rfl ?_
    refine v_sub [3, 2, 1, 0] (L1 := [(0, vO 87), (4, vI y23), (5, vI 1), (6, vI 0)]) rfl ?_
    obtain ⟨s27, e28, h⟩ := lq_0_some h
    refine wl_X14_makeNumber_157 r25 FU 1 0 s21 _ e28 (rgl rfl) (rgl rfl) ?_
    unfold E_X14_makeNumber_157
    intro s27' z_
    cases z_
    exact wj_X14_makeNumber_206 h r25
