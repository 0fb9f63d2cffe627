set_option maxRecDepth 100000
set_option maxHeartbeats 1000000
def f_X14_hasTag (x1 : Int) (x2 : Int) (s : vS) : Option (Int × vS) :=
  gd (inb x1 (gN s 173)) <|
  gd (inb x1 (gN s 175)) <|
  bd (f_X14_tagOf (gE s 173 x1) (gE s 175 x1) s) fun r6 s3 =>
  if (cmp64 r6 x2) = 0 then
    some (1, s3)
  else
    some (0, s3)
theorem yk_X14_hasTag : yOk yX14_hasTag 2 := ⟨by decide, by decide, by decide +kernel⟩
theorem c_X14_hasTag {x1 : Int} {x2 : Int} {s : vS} {out : Int × vS} (h : f_X14_hasTag x1 x2 s = some out)  (rx1 : rg x1) (rx2 : rgL x2) : VC yX14_hasTag cX14_hasTag 4 (some .boolean) 1 21 [vO 87, vI x1, vL x2] s (some (vI out.1)) out.2 [] := by
  unfold f_X14_hasTag at h
  refine VC.of RX14 (by decide) rfl (Nat.le_of_ble_eq_true rfl) ?_
  show VW cX14_hasTag (RX14, (some (vI out.1)), out.2, (some .boolean), 1, 21, 4, []) (P0 []) s 0 [(0, vO 87), (1, vI x1), (2, vL x2)] []
  refine v_aload_n dX14_hasTag_0 0 rfl rfl ?_
  refine v_getS (f := 131) (t := 173) cf14 oc87 rfl rfl rfl (by decide) q2501 dX14_hasTag_1 ?_
  refine v_iload_n dX14_hasTag_4 1 rfl rfl ?_
  obtain ⟨g1, h⟩ := gd_some h
  refine v_iald oc173 rx1 g1.1 g1.2 dX14_hasTag_5 ?_
  refine v_aload_n dX14_hasTag_6 0 rfl rfl ?_
  refine v_getS (f := 133) (t := 175) cf14 oc87 rfl rfl rfl (by decide) q2503 dX14_hasTag_7 ?_
  refine v_iload_n dX14_hasTag_10 1 rfl rfl ?_
  obtain ⟨g2, h⟩ := gd_some h
  refine v_iald oc175 rx1 g2.1 g2.2 dX14_hasTag_11 ?_
  obtain ⟨r6, s3, e4, h⟩ := bd_some h
  have k5 := c_X14_tagOf e4 (gE_rg _ _ _) (gE_rg _ _ _)
  have r7 : rgL r6 := k5.1.2.2
  refine v_callS (st := []) k5 (lw_S q3157 q3158 q311 q3159) yk_X14_tagOf ⟨Nat.le_of_ble_eq_true rfl, Nat.le_of_ble_eq_true rfl⟩ trivial ⟨kc87, trivial⟩ (Nat.le_of_ble_eq_true rfl) rfl dX14_hasTag_12 ?_
  refine v_lload_n dX14_hasTag_15 2 rfl rfl ?_
  refine v_lcmp dX14_hasTag_16 r7 rx2 ?_
  refine v_if_ne (tgt := 24) dX14_hasTag_17 (cmp64_rg _ _) (by decide) (fun c8 => ?_) (fun c8 => ?_)
  · rw [if_neg c8] at h
    refine v_iconst dX14_hasTag_24 ?_
    cases h
    exact v_zret (Or.inl rfl) dX14_hasTag_25
  · rw [if_pos c8] at h
    refine v_iconst dX14_hasTag_20 ?_
    refine v_goto (tgt := 25) dX14_hasTag_21 (by decide) ?_
    cases h
    exact v_zret (Or.inr rfl) dX14_hasTag_25

def E_X14_mayBe_15 (rv : Option vA) (σo : vS) (q : Int × vS) : Prop := ∀ (x3' : Int) (s' : vS), q = (x3', s') → rg x3' → VW cX14_mayBe (RX14, rv, σo, (some .boolean), 2, 46, 5, []) (P0 []) s' 55 [(3, vI x3')] []
def l_X14_mayBe_15 : Nat → Int → Int → Int → vS → Option (Int × vS)
  | 0, _, _, _, _ => none
  | n + 1, x1, x3, x4, s =>
    if (gI s 87 99) ≤ x4 then
      some (x3, s)
    else
      if x3 = 0 then
        gd (inb x4 (gN s 158)) <|
        bd (f_X14_hasTag x1 (gEL s 158 x4) s) fun r10 s7 =>
        if r10 = 0 then
          vl (w32 (x4 + 1)) fun y13 =>
          l_X14_mayBe_15 n x1 0 y13 s7
        else
          vl (w32 (x4 + 1)) fun y16 =>
          l_X14_mayBe_15 n x1 1 y16 s7
      else
        vl (w32 (x4 + 1)) fun y3 =>
        l_X14_mayBe_15 n x1 1 y3 s
theorem wl_X14_mayBe_15 {x1 : Int} {rv : Option vA} {σo : vS}  (rx1 : rg x1) : ∀ (n : Nat) (x3 : Int) (x4 : Int) (s : vS) (q : Int × vS), l_X14_mayBe_15 n x1 x3 x4 s = some q → rg x3 → rg x4 → E_X14_mayBe_15 rv σo q → VW cX14_mayBe (RX14, rv, σo, (some .boolean), 2, 46, 5, []) (P0 []) s 15 [(0, vO 87), (1, vI x1), (3, vI x3), (4, vI x4)] [] := by
  intro n
  induction n with
  | zero => intro x3 x4 s q h; cases h
  | succ n ih =>
    intro x3 x4 s q h rx3 rx4 hE
    unfold l_X14_mayBe_15 at h
    refine v_iload dX14_mayBe_15 3 rfl ?_
    refine v_aload_n dX14_mayBe_17 0 rfl rfl ?_
    refine v_getI (f := 99) cf14 oc87 rfl (by decide) q2469 dX14_mayBe_18 ?_
    refine v_icmp_ge (tgt := 55) dX14_mayBe_21 rx4 (gI_rg _ _ _) (by decide) (fun c1 => ?_) (fun c1 => ?_)
    · rw [if_pos c1] at h
      cases h
      refine v_sub [2] (L1 := [(3, vI x3)]) rfl ?_
      exact hE _ _ rfl rx3
    · rw [if_neg c1] at h
      refine v_iload_n dX14_mayBe_24 2 rfl rfl ?_
      refine v_if_ne (tgt := 43) dX14_mayBe_25 rx3 (by decide) (fun c2 => ?_) (fun c2 => ?_)
      · rw [if_neg c2] at h
        refine v_iconst dX14_mayBe_43 ?_
        refine v_goto (tgt := 48) dX14_mayBe_44 (by decide) ?_
        refine v_istore_n (L1 := [(3, vI 1), (0, vO 87), (1, vI x1), (4, vI x4)]) dX14_mayBe_48 rfl (by decide) rfl ?_
        obtain ⟨y3, e4, h⟩ := vl_some h
        refine v_iinc (L1 := [(4, vI (w32 (x4 + 1))), (3, vI 1), (0, vO 87), (1, vI x1)]) dX14_mayBe_49 3 rfl (by decide) rfl ?_
        rw [← e4]
        have r5 : rg y3 := by rw [e4]; exact w32_rg _
        refine v_goto (tgt := 15) dX14_mayBe_52 (by decide) ?_
        refine v_sub [2, 3, 1, 0] (L1 := [(0, vO 87), (1, vI x1), (3, vI 1), (4, vI y3)]) rfl ?_
        exact ih 1 y3 s _ h (rgl rfl) r5 hE
      · rw [if_pos c2] at h
        refine v_aload_n dX14_mayBe_28 0 rfl rfl ?_
        refine v_iload_n dX14_mayBe_29 1 rfl rfl ?_
        refine v_aload_n dX14_mayBe_30 0 rfl rfl ?_
        refine v_getS (f := 100) (t := 158) cf14 oc87 rfl rfl rfl (by decide) q2470 dX14_mayBe_31 ?_
        refine v_iload dX14_mayBe_34 3 rfl ?_
        obtain ⟨g6, h⟩ := gd_some h
        refine v_lald oc158 rx4 g6.1 g6.2 dX14_mayBe_36 ?_
        obtain ⟨r10, s7, e8, h⟩ := bd_some h
        have k9 := c_X14_hasTag e8 rx1 (gEL_rg _ _ _)
        have r11 : rg r10 := k9.1.2.2
        refine v_callV (st := []) cf14 oc87 k9 (lw_V q3401 q3403 qs270 q311 q3404) rfl yk_X14_hasTag ⟨Nat.le_of_ble_eq_true rfl, Nat.le_of_ble_eq_true rfl⟩ trivial ⟨kc87, trivial⟩ (Nat.le_of_ble_eq_true rfl) rfl dX14_mayBe_37 ?_
        refine v_if_eq (tgt := 47) dX14_mayBe_40 r11 (by decide) (fun c12 => ?_) (fun c12 => ?_)
        · rw [if_pos c12] at h
          refine v_iconst dX14_mayBe_47 ?_
          refine v_istore_n (L1 := [(3, vI 0), (0, vO 87), (1, vI x1), (4, vI x4)]) dX14_mayBe_48 rfl (by decide) rfl ?_
          obtain ⟨y13, e14, h⟩ := vl_some h
          refine v_iinc (L1 := [(4, vI (w32 (x4 + 1))), (3, vI 0), (0, vO 87), (1, vI x1)]) dX14_mayBe_49 3 rfl (by decide) rfl ?_
          rw [← e14]
          have r15 : rg y13 := by rw [e14]; exact w32_rg _
          refine v_goto (tgt := 15) dX14_mayBe_52 (by decide) ?_
          refine v_sub [2, 3, 1, 0] (L1 := [(0, vO 87), (1, vI x1), (3, vI 0), (4, vI y13)]) rfl ?_
          exact ih 0 y13 s7 _ h (rgl rfl) r15 hE
        · rw [if_neg c12] at h
          refine v_iconst dX14_mayBe_43 ?_
          refine v_goto (tgt := 48) dX14_mayBe_44 (by decide) ?_
          refine v_istore_n (L1 := [(3, vI 1), (0, vO 87), (1, vI x1), (4, vI x4)]) dX14_mayBe_48 rfl (by decide) rfl ?_
          obtain ⟨y16, e17, h⟩ := vl_some h
          refine v_iinc (L1 := [(4, vI (w32 (x4 + 1))), (3, vI 1), (0, vO 87), (1, vI x1)]) dX14_mayBe_49 3 rfl (by decide) rfl ?_
          rw [← e17]
          have r18 : rg y16 := by rw [e17]; exact w32_rg _
          refine v_goto (tgt := 15) dX14_mayBe_52 (by decide) ?_
          refine v_sub [2, 3, 1, 0] (L1 := [(0, vO 87), (1, vI x1), (3, vI 1), (4, vI y16)]) rfl ?_
          exact ih 1 y16 s7 _ h (rgl rfl) r18 hE

def f_X14_mayBe (x1 : Int) (x2 : Int) (s : vS) : Option (Int × vS) :=
  stp (sI s 87 99 0) fun s1 =>
  bdv (f_X14_gatherTags x2 s1) fun s3 =>
  lq_1 (l_X14_mayBe_15 FU x1 0 0 s3) fun y6 s7 =>
  gd (y6 = 0 ∨ y6 = 1) <|
  some (y6, s7)
theorem yk_X14_mayBe : yOk yX14_mayBe 2 := ⟨by decide, by decide, by decide +kernel⟩
theorem c_X14_mayBe {x1 : Int} {x2 : Int} {s : vS} {out : Int × vS} (h : f_X14_mayBe x1 x2 s = some out)  (rx1 : rg x1) (rx2 : rg x2) : VC yX14_mayBe cX14_mayBe 5 (some .boolean) 2 46 [vO 87, vI x1, vI x2] s (some (vI out.1)) out.2 [] := by
  unfold f_X14_mayBe at h
  refine VC.of RX14 (by decide) rfl (Nat.le_of_ble_eq_true rfl) ?_
  show VW cX14_mayBe (RX14, (some (vI out.1)), out.2, (some .boolean), 2, 46, 5, []) (P0 []) s 0 [(0, vO 87), (1, vI x1), (2, vI x2)] []
  refine v_aload_n dX14_mayBe_0 0 rfl rfl ?_
  refine v_iconst dX14_mayBe_1 ?_
  obtain ⟨s1, e2, h⟩ := stp_some h
  refine v_putI (f := 99) cf14 oc87 rfl (by decide) q2469 dX14_mayBe_2 rfl rfl ?_
  rw [← e2]
  refine v_aload_n dX14_mayBe_5 0 rfl rfl ?_
  refine v_iload_n dX14_mayBe_6 2 rfl rfl ?_
  obtain ⟨s3, e4, h⟩ := bdv_some h
  have k5 := c_X14_gatherTags e4 rx2
  refine v_callV (st := []) cf14 oc87 k5 (lw_V q3164 q3166 qs220 q311 q3167) rfl yk_X14_gatherTags ⟨Nat.le_of_ble_eq_true rfl, Nat.le_of_ble_eq_true rfl⟩ trivial ⟨kc87, trivial⟩ (Nat.le_of_ble_eq_true rfl) rfl dX14_mayBe_7 ?_
  refine v_iconst dX14_mayBe_10 ?_
  refine v_istore_n (L1 := [(3, vI 0), (0, vO 87), (1, vI x1), (2, vI x2)]) dX14_mayBe_11 rfl (by decide) rfl ?_
  refine v_iconst dX14_mayBe_12 ?_
  refine v_istore (L1 := [(4, vI 0), (3, vI 0), (0, vO 87), (1, vI x1), (2, vI x2)]) dX14_mayBe_13 (by decide) rfl ?_
  refine v_sub [2, 3, 1, 0] (L1 := [(0, vO 87), (1, vI x1), (3, vI 0), (4, vI 0)]) rfl ?_
  obtain ⟨y6, s7, e8, h⟩ := lq_1_some h
  refine wl_X14_mayBe_15 rx1 FU 0 0 s3 _ e8 (rgl rfl) (rgl rfl) ?_
  unfold E_X14_mayBe_15
  intro y6' s7' z_ r9
  cases z_
  refine v_iload_n dX14_mayBe_55 0 rfl rfl ?_
  obtain ⟨g10, h⟩ := gd_some h
  cases h
  exact v_zret g10 dX14_mayBe_56

def E_X14_gatherBits_15 (rv : Option vA) (σo : vS) (q : Int × vS) : Prop := ∀ (x3' : Int) (s' : vS), q = (x3', s') → rg x3' → VW cX14_gatherBits (RX14, rv, σo, (some .boolean), 2, 44, 9, []) (P0 []) s' 272 [(3, vI x3')] []
def E_X14_gatherBits_227 (x1 : Int) (x3 : Int) (x4 : Int) (x5 : Int) (rv : Option vA) (σo : vS) (q : Int × vS) : Prop := ∀ (x2' : Int) (s' : vS), q = (x2', s') → rg x2' → VW cX14_gatherBits (RX14, rv, σo, (some .boolean), 2, 44, 9, []) (P0 []) s' 251 [(0, vO 87), (1, vI x1), (2, vI x2'), (3, vI x3), (4, vI x4), (5, vI x5)] []
def l_X14_gatherBits_227 : Nat → Int → Int → Int → Int → Int → vS → Option (Int × vS)
  | 0, _, _, _, _, _, _ => none
  | n + 1, x1, x2, x3, x4, x5, s =>
    if x2 = x1 then
      some (x2, s)
    else
      gd (inb x2 (gN s 182)) <|
      if 0 ≤ (gE s 182 x2) then
        some (x2, s)
      else
        gd (inb x2 (gN s 179)) <|
        vl (gE s 179 x2) fun y5 =>
        l_X14_gatherBits_227 n x1 y5 x3 x4 x5 s
theorem wl_X14_gatherBits_227 {x1 : Int} {x3 : Int} {x4 : Int} {x5 : Int} {rv : Option vA} {σo : vS}  (rx1 : rg x1) (rx3 : rg x3) (rx4 : rg x4) (rx5 : rg x5) : ∀ (n : Nat) (x2 : Int) (s : vS) (q : Int × vS), l_X14_gatherBits_227 n x1 x2 x3 x4 x5 s = some q → rg x2 → E_X14_gatherBits_227 x1 x3 x4 x5 rv σo q → VW cX14_gatherBits (RX14, rv, σo, (some .boolean), 2, 44, 9, []) (P0 []) s 227 [(0, vO 87), (1, vI x1), (2, vI x2), (3, vI x3), (4, vI x4), (5, vI x5)] [] := by
  intro n
  induction n with
  | zero => intro x2 s q h; cases h
  | succ n ih =>
    intro x2 s q h rx2 hE
    unfold l_X14_gatherBits_227 at h
    refine v_iload_n dX14_gatherBits_227 2 rfl rfl ?_
    refine v_iload_n dX14_gatherBits_228 1 rfl rfl ?_
    refine v_icmp_eq (tgt := 251) dX14_gatherBits_229 rx2 rx1 (by decide) (fun c1 => ?_) (fun c1 => ?_)
    · rw [if_pos c1] at h
      cases h
      exact hE _ _ rfl rx2
    · rw [if_neg c1] at h
      refine v_aload_n dX14_gatherBits_232 0 rfl rfl ?_
      refine v_getS (f := 140) (t := 182) cf14 oc87 rfl rfl rfl (by decide) q2510 dX14_gatherBits_233 ?_
      refine v_iload_n dX14_gatherBits_236 2 rfl rfl ?_
      obtain ⟨g2, h⟩ := gd_some h
      refine v_iald oc182 rx2 g2.1 g2.2 dX14_gatherBits_237 ?_
      refine v_if_ge (tgt := 251) dX14_gatherBits_238 (gE_rg _ _ _) (by decide) (fun c3 => ?_) (fun c3 => ?_)
      · rw [if_pos c3] at h
        cases h
        exact hE _ _ rfl rx2
      · rw [if_neg c3] at h
        refine v_aload_n dX14_gatherBits_241 0 rfl rfl ?_
        refine v_getS (f := 137) (t := 179) cf14 oc87 rfl rfl rfl (by decide) q2507 dX14_gatherBits_242 ?_
        refine v_iload_n dX14_gatherBits_245 2 rfl rfl ?_
        obtain ⟨g4, h⟩ := gd_some h
        refine v_iald oc179 rx2 g4.1 g4.2 dX14_gatherBits_246 ?_
        obtain ⟨y5, e6, h⟩ := vl_some h
        rw [← e6]
        have r7 : rg y5 := by rw [e6]; exact gE_rg _ _ _
        refine v_istore_n (L1 := [(2, vI y5), (0, vO 87), (1, vI x1), (3, vI x3), (4, vI x4), (5, vI x5)]) dX14_gatherBits_247 rfl (by decide) rfl ?_
        refine v_goto (tgt := 227) dX14_gatherBits_248 (by decide) ?_
        refine v_sub [1, 2, 0, 3, 4, 5] (L1 := [(0, vO 87), (1, vI x1), (2, vI y5), (3, vI x3), (4, vI x4), (5, vI x5)]) rfl ?_
        exact ih y5 s _ h r7 hE

def j_X14_gatherBits_251 (rec : Int → Int → Int → Int → Int → vS → Option (Int × vS)) (x1 : Int) (x2 : Int) (x3 : Int) (x4 : Int) (x5 : Int) (s : vS) : Option (Int × vS) :=
  if x2 = x1 then
    rec x1 x2 x3 1 x5 s
  else
    gd (inb x2 (gN s 182)) <|
    vl (gE s 182 x2) fun y3 =>
    rec x1 y3 x3 x4 x5 s
theorem wj_X14_gatherBits_251 {x1 : Int} {x2 : Int} {x3 : Int} {x4 : Int} {x5 : Int} {s : vS} {rv : Option vA} {σo : vS} {rec : Int → Int → Int → Int → Int → vS → Option (Int × vS)} {q : Int × vS} (h : j_X14_gatherBits_251 rec x1 x2 x3 x4 x5 s = some q)  (rx1 : rg x1) (rx2 : rg x2) (rx3 : rg x3) (rx4 : rg x4) (rx5 : rg x5) (hrec : ∀ (y2 : Int) (y3 : Int) (y4 : Int) (y5 : Int) (s : vS) (q : Int × vS), rec x1 y2 y3 y4 y5 s = some q → rg y2 → rg y3 → rg y4 → rg y5 → E_X14_gatherBits_15 rv σo q → VW cX14_gatherBits (RX14, rv, σo, (some .boolean), 2, 44, 9, []) (P0 []) s 15 [(0, vO 87), (1, vI x1), (2, vI y2), (3, vI y3), (4, vI y4), (5, vI y5)] []) (hE : E_X14_gatherBits_15 rv σo q) : VW cX14_gatherBits (RX14, rv, σo, (some .boolean), 2, 44, 9, []) (P0 []) s 251 [(0, vO 87), (1, vI x1), (2, vI x2), (3, vI x3), (4, vI x4), (5, vI x5)] [] := by
  unfold j_X14_gatherBits_251 at h
  refine v_iload_n dX14_gatherBits_251 2 rfl rfl ?_
  refine v_iload_n dX14_gatherBits_252 1 rfl rfl ?_
  refine v_icmp_ne (tgt := 262) dX14_gatherBits_253 rx2 rx1 (by decide) (fun c1 => ?_) (fun c1 => ?_)
  · rw [if_neg c1] at h
    refine v_aload_n dX14_gatherBits_262 0 rfl rfl ?_
    refine v_getS (f := 140) (t := 182) cf14 oc87 rfl rfl rfl (by decide) q2510 dX14_gatherBits_263 ?_
    refine v_iload_n dX14_gatherBits_266 2 rfl rfl ?_
    obtain ⟨g2, h⟩ := gd_some h
    refine v_iald oc182 rx2 g2.1 g2.2 dX14_gatherBits_267 ?_
    obtain ⟨y3, e4, h⟩ := vl_some h
    rw [← e4]
    have r5 : rg y3 := by rw [e4]; exact gE_rg _ _ _
    refine v_istore_n (L1 := [(2, vI y3), (0, vO 87), (1, vI x1), (3, vI x3), (4, vI x4), (5, vI x5)]) dX14_gatherBits_268 rfl (by decide) rfl ?_
    refine v_goto (tgt := 15) dX14_gatherBits_269 (by decide) ?_
    refine v_sub [1, 2, 0, 3, 4, 5] (L1 := [(0, vO 87), (1, vI x1), (2, vI y3), (3, vI x3), (4, vI x4), (5, vI x5)]) rfl ?_
    exact hrec y3 x3 x4 x5 s _ h r5 rx3 rx4 rx5 hE
  · rw [if_pos c1] at h
    refine v_iconst dX14_gatherBits_256 ?_
    refine v_istore (L1 := [(4, vI 1), (0, vO 87), (1, vI x1), (2, vI x2), (3, vI x3), (5, vI x5)]) dX14_gatherBits_257 (by decide) rfl ?_
    refine v_goto (tgt := 15) dX14_gatherBits_259 (by decide) ?_
    refine v_sub [1, 2, 3, 4, 0, 5] (L1 := [(0, vO 87), (1, vI x1), (2, vI x2), (3, vI x3), (4, vI 1), (5, vI x5)]) rfl ?_
    exact hrec x2 x3 1 x5 s _ h rx2 rx3 (rgl rfl) rx5 hE

def j_X14_gatherBits_208 (rec : Int → Int → Int → Int → Int → vS → Option (Int × vS)) (x1 : Int) (x2 : Int) (x3 : Int) (x4 : Int) (x5 : Int) (s : vS) : Option (Int × vS) :=
  gd (inb x2 (gN s 180)) <|
  if (gE s 180 x2) < 0 then
    lq_1 (l_X14_gatherBits_227 FU x1 x2 x3 x4 x5 s) fun y3 s4 =>
    j_X14_gatherBits_251 rec x1 y3 x3 x4 x5 s4
  else
    gd (inb x2 (gN s 180)) <|
    vl (gE s 180 x2) fun y8 =>
    rec x1 y8 x3 x4 x5 s
theorem wj_X14_gatherBits_208 {x1 : Int} {x2 : Int} {x3 : Int} {x4 : Int} {x5 : Int} {s : vS} {rv : Option vA} {σo : vS} {rec : Int → Int → Int → Int → Int → vS → Option (Int × vS)} {q : Int × vS} (h : j_X14_gatherBits_208 rec x1 x2 x3 x4 x5 s = some q)  (rx1 : rg x1) (rx2 : rg x2) (rx3 : rg x3) (rx4 : rg x4) (rx5 : rg x5) (hrec : ∀ (y2 : Int) (y3 : Int) (y4 : Int) (y5 : Int) (s : vS) (q : Int × vS), rec x1 y2 y3 y4 y5 s = some q → rg y2 → rg y3 → rg y4 → rg y5 → E_X14_gatherBits_15 rv σo q → VW cX14_gatherBits (RX14, rv, σo, (some .boolean), 2, 44, 9, []) (P0 []) s 15 [(0, vO 87), (1, vI x1), (2, vI y2), (3, vI y3), (4, vI y4), (5, vI y5)] []) (hE : E_X14_gatherBits_15 rv σo q) : VW cX14_gatherBits (RX14, rv, σo, (some .boolean), 2, 44, 9, []) (P0 []) s 208 [(0, vO 87), (1, vI x1), (2, vI x2), (3, vI x3), (4, vI x4), (5, vI x5)] [] := by
  unfold j_X14_gatherBits_208 at h
  refine v_aload_n dX14_gatherBits_208 0 rfl rfl ?_
  refine v_getS (f := 138) (t := 180) cf14 oc87 rfl rfl rfl (by decide) q2508 dX14_gatherBits_209 ?_
  refine v_iload_n dX14_gatherBits_212 2 rfl rfl ?_
  obtain ⟨g1, h⟩ := gd_some h
  refine v_iald oc180 rx2 g1.1 g1.2 dX14_gatherBits_213 ?_
  refine v_if_lt (tgt := 227) dX14_gatherBits_214 (gE_rg _ _ _) (by decide) (fun c2 => ?_) (fun c2 => ?_)
  · rw [if_pos c2] at h
    obtain ⟨y3, s4, e5, h⟩ := lq_1_some h
    refine wl_X14_gatherBits_227 rx1 rx3 rx4 rx5 FU x2 s _ e5 rx2 ?_
    unfold E_X14_gatherBits_227
    intro y3' s4' z_ r6
    cases z_
    exact wj_X14_gatherBits_251 h rx1 r6 rx3 rx4 rx5 hrec hE
  · rw [if_neg c2] at h
    refine v_aload_n dX14_gatherBits_217 0 rfl rfl ?_
    refine v_getS (f := 138) (t := 180) cf14 oc87 rfl rfl rfl (by decide) q2508 dX14_gatherBits_218 ?_
    refine v_iload_n dX14_gatherBits_221 2 rfl rfl ?_
    obtain ⟨g7, h⟩ := gd_some h
    refine v_iald oc180 rx2 g7.1 g7.2 dX14_gatherBits_222 ?_
    obtain ⟨y8, e9, h⟩ := vl_some h
    rw [← e9]
    have r10 : rg y8 := by rw [e9]; exact gE_rg _ _ _
    refine v_istore_n (L1 := [(2, vI y8), (0, vO 87), (1, vI x1), (3, vI x3), (4, vI x4), (5, vI x5)]) dX14_gatherBits_223 rfl (by decide) rfl ?_
    refine v_goto (tgt := 15) dX14_gatherBits_224 (by decide) ?_
    refine v_sub [1, 2, 0, 3, 4, 5] (L1 := [(0, vO 87), (1, vI x1), (2, vI y8), (3, vI x3), (4, vI x4), (5, vI x5)]) rfl ?_
    exact hrec y8 x3 x4 x5 s _ h r10 rx3 rx4 rx5 hE

def E_X14_gatherBits_149 (x1 : Int) (x2 : Int) (x3 : Int) (x4 : Int) (x5 : Int) (rv : Option vA) (σo : vS) (q : vS) : Prop := ∀ (s' : vS), q = s' → VW cX14_gatherBits (RX14, rv, σo, (some .boolean), 2, 44, 9, []) (P0 []) s' 208 [(0, vO 87), (1, vI x1), (2, vI x2), (3, vI x3), (4, vI x4), (5, vI x5)] []
def l_X14_gatherBits_149 : Nat → Int → Int → Int → Int → Int → Int → Int → Int → vS → Option (vS)
  | 0, _, _, _, _, _, _, _, _, _ => none
  | n + 1, x1, x2, x3, x4, x5, x6, x7, x8, s =>
    if x3 = 0 then
      some s
    else
      if (w32 ((w32 (8 * (w32 (x6 - 1)))) - x7)) ≤ x8 then
        some s
      else
        gd (inb x2 (gN s 176)) <|
        gd (inb (w32 ((w32 ((gE s 176 x2) + 1)) + (d32 x8 8))) (gN s 171)) <|
        bdv (f_X14_sayBit (and32 (shr32 (gE s 171 (w32 ((w32 ((gE s 176 x2) + 1)) + (d32 x8 8)))) (w32 (7 - (m32 x8 8)))) 1) s) fun s5 =>
        vl (w32 (x8 + 1)) fun y8 =>
        l_X14_gatherBits_149 n x1 x2 x3 x4 x5 x6 x7 y8 s5
theorem wl_X14_gatherBits_149 {x1 : Int} {x2 : Int} {x3 : Int} {x4 : Int} {x5 : Int} {x6 : Int} {x7 : Int} {rv : Option vA} {σo : vS}  (rx1 : rg x1) (rx2 : rg x2) (rx3 : rg x3) (rx4 : rg x4) (rx5 : rg x5) (rx6 : rg x6) (rx7 : rg x7) : ∀ (n : Nat) (x8 : Int) (s : vS) (q : vS), l_X14_gatherBits_149 n x1 x2 x3 x4 x5 x6 x7 x8 s = some q → rg x8 → E_X14_gatherBits_149 x1 x2 x3 x4 x5 rv σo q → VW cX14_gatherBits (RX14, rv, σo, (some .boolean), 2, 44, 9, []) (P0 []) s 149 [(0, vO 87), (1, vI x1), (2, vI x2), (3, vI x3), (4, vI x4), (5, vI x5), (6, vI x6), (7, vI x7), (8, vI x8)] [] := by
  intro n
  induction n with
  | zero => intro x8 s q h; cases h
  | succ n ih =>
    intro x8 s q h rx8 hE
    unfold l_X14_gatherBits_149 at h
    refine v_iload_n dX14_gatherBits_149 3 rfl rfl ?_
    refine v_if_eq (tgt := 208) dX14_gatherBits_150 rx3 (by decide) (fun c1 => ?_) (fun c1 => ?_)
    · rw [if_pos c1] at h
      cases h
      refine v_sub [0, 1, 2, 3, 4, 5] (L1 := [(0, vO 87), (1, vI x1), (2, vI x2), (3, vI x3), (4, vI x4), (5, vI x5)]) rfl ?_
      exact hE _ rfl 
    · rw [if_neg c1] at h
      refine v_iload dX14_gatherBits_153 8 rfl ?_
      refine v_bipush dX14_gatherBits_155 rfl ?_
      refine v_iload dX14_gatherBits_157 6 rfl ?_
      refine v_iconst dX14_gatherBits_159 ?_
      refine v_isub dX14_gatherBits_160 ?_
      refine v_imul dX14_gatherBits_161 ?_
      refine v_iload dX14_gatherBits_162 7 rfl ?_
      refine v_isub dX14_gatherBits_164 ?_
      refine v_icmp_ge (tgt := 208) dX14_gatherBits_165 rx8 (w32_rg _) (by decide) (fun c2 => ?_) (fun c2 => ?_)
      · rw [if_pos c2] at h
        cases h
        refine v_sub [0, 1, 2, 3, 4, 5] (L1 := [(0, vO 87), (1, vI x1), (2, vI x2), (3, vI x3), (4, vI x4), (5, vI x5)]) rfl ?_
        exact hE _ rfl 
      · rw [if_neg c2] at h
        refine v_aload_n dX14_gatherBits_168 0 rfl rfl ?_
        refine v_aload_n dX14_gatherBits_169 0 rfl rfl ?_
        refine v_getS (f := 128) (t := 171) cf14 oc87 rfl rfl rfl (by decide) q2498 dX14_gatherBits_170 ?_
        refine v_aload_n dX14_gatherBits_173 0 rfl rfl ?_
        refine v_getS (f := 134) (t := 176) cf14 oc87 rfl rfl rfl (by decide) q2504 dX14_gatherBits_174 ?_
        refine v_iload_n dX14_gatherBits_177 2 rfl rfl ?_
        obtain ⟨g3, h⟩ := gd_some h
        refine v_iald oc176 rx2 g3.1 g3.2 dX14_gatherBits_178 ?_
        refine v_iconst dX14_gatherBits_179 ?_
        refine v_iadd dX14_gatherBits_180 ?_
        refine v_iload dX14_gatherBits_181 8 rfl ?_
        refine v_bipush dX14_gatherBits_183 rfl ?_
        refine v_idiv dX14_gatherBits_185 (rgl rfl) (by decide) ?_
        refine v_iadd dX14_gatherBits_186 ?_
        obtain ⟨g4, h⟩ := gd_some h
        refine v_iald oc171 (w32_rg _) g4.1 g4.2 dX14_gatherBits_187 ?_
        refine v_bipush dX14_gatherBits_188 rfl ?_
        refine v_iload dX14_gatherBits_190 8 rfl ?_
        refine v_bipush dX14_gatherBits_192 rfl ?_
        refine v_irem dX14_gatherBits_194 (rgl rfl) (by decide) ?_
        refine v_isub dX14_gatherBits_195 ?_
        refine v_ishr dX14_gatherBits_196 ?_
        refine v_iconst dX14_gatherBits_197 ?_
        refine v_iand dX14_gatherBits_198 ?_
        obtain ⟨s5, e6, h⟩ := bdv_some h
        have k7 := c_X14_sayBit e6 (and32_rg _ _)
        refine v_callV (st := []) cf14 oc87 k7 (lw_V q3227 q3229 qs235 q311 q3230) rfl yk_X14_sayBit ⟨Nat.le_of_ble_eq_true rfl, Nat.le_of_ble_eq_true rfl⟩ trivial ⟨kc87, trivial⟩ (Nat.le_of_ble_eq_true rfl) rfl dX14_gatherBits_199 ?_
        obtain ⟨y8, e9, h⟩ := vl_some h
        refine v_iinc (L1 := [(8, vI (w32 (x8 + 1))), (0, vO 87), (1, vI x1), (2, vI x2), (3, vI x3), (4, vI x4), (5, vI x5), (6, vI x6), (7, vI x7)]) dX14_gatherBits_202 8 rfl (by decide) rfl ?_
        rw [← e9]
        have r10 : rg y8 := by rw [e9]; exact w32_rg _
        refine v_goto (tgt := 149) dX14_gatherBits_205 (by decide) ?_
        refine v_sub [1, 2, 3, 4, 5, 6, 7, 8, 0] (L1 := [(0, vO 87), (1, vI x1), (2, vI x2), (3, vI x3), (4, vI x4), (5, vI x5), (6, vI x6), (7, vI x7), (8, vI y8)]) rfl ?_
        exact ih y8 s5 _ h r10 hE

def j_X14_gatherBits_133 (rec : Int → Int → Int → Int → Int → vS → Option (Int × vS)) (x1 : Int) (x2 : Int) (x4 : Int) (x6 : Int) (x7 : Int) (z0 : Int) (s : vS) : Option (Int × vS) :=
  if x7 ≤ 0 then
    lq_0 (l_X14_gatherBits_149 FU x1 x2 z0 x4 0 x6 x7 0 s) fun s2 =>
    j_X14_gatherBits_208 rec x1 x2 z0 x4 0 s2
  else
    lq_0 (l_X14_gatherBits_149 FU x1 x2 z0 x4 1 x6 x7 0 s) fun s4 =>
    j_X14_gatherBits_208 rec x1 x2 z0 x4 1 s4
theorem wj_X14_gatherBits_133 {x1 : Int} {x2 : Int} {x4 : Int} {x6 : Int} {x7 : Int} {z0 : Int} {s : vS} {rv : Option vA} {σo : vS} {rec : Int → Int → Int → Int → Int → vS → Option (Int × vS)} {q : Int × vS} (h : j_X14_gatherBits_133 rec x1 x2 x4 x6 x7 z0 s = some q)  (rx1 : rg x1) (rx2 : rg x2) (rx4 : rg x4) (rx6 : rg x6) (rx7 : rg x7) (rz0 : rg z0) (hrec : ∀ (y2 : Int) (y3 : Int) (y4 : Int) (y5 : Int) (s : vS) (q : Int × vS), rec x1 y2 y3 y4 y5 s = some q → rg y2 → rg y3 → rg y4 → rg y5 → E_X14_gatherBits_15 rv σo q → VW cX14_gatherBits (RX14, rv, σo, (some .boolean), 2, 44, 9, []) (P0 []) s 15 [(0, vO 87), (1, vI x1), (2, vI y2), (3, vI y3), (4, vI y4), (5, vI y5)] []) (hE : E_X14_gatherBits_15 rv σo q) : VW cX14_gatherBits (RX14, rv, σo, (some .boolean), 2, 44, 9, []) (P0 []) s 133 [(0, vO 87), (1, vI x1), (2, vI x2), (4, vI x4), (6, vI x6), (7, vI x7)] [vI z0] := by
  unfold j_X14_gatherBits_133 at h
  refine v_istore_n (L1 := [(3, vI z0), (0, vO 87), (1, vI x1), (2, vI x2), (4, vI x4), (6, vI x6), (7, vI x7)]) dX14_gatherBits_133 rfl (by decide) rfl ?_
  refine v_iload dX14_gatherBits_134 6 rfl ?_
  refine v_if_le (tgt := 143) dX14_gatherBits_136 rx7 (by decide) (fun c1 => ?_) (fun c1 => ?_)
  · rw [if_pos c1] at h
    refine v_iconst dX14_gatherBits_143 ?_
    refine v_istore (L1 := [(5, vI 0), (3, vI z0), (0, vO 87), (1, vI x1), (2, vI x2), (4, vI x4), (6, vI x6), (7, vI x7)]) dX14_gatherBits_144 (by decide) rfl ?_
    refine v_iconst dX14_gatherBits_146 ?_
    refine v_istore (L1 := [(8, vI 0), (5, vI 0), (3, vI z0), (0, vO 87), (1, vI x1), (2, vI x2), (4, vI x4), (6, vI x6), (7, vI x7)]) dX14_gatherBits_147 (by decide) rfl ?_
    refine v_sub [3, 4, 5, 2, 6, 1, 7, 8, 0] (L1 := [(0, vO 87), (1, vI x1), (2, vI x2), (3, vI z0), (4, vI x4), (5, vI 0), (6, vI x6), (7, vI x7), (8, vI 0)]) rfl ?_
    obtain ⟨s2, e3, h⟩ := lq_0_some h
    refine wl_X14_gatherBits_149 rx1 rx2 rz0 rx4 (rgl rfl) rx6 rx7 FU 0 s _ e3 (rgl rfl) ?_
    unfold E_X14_gatherBits_149
    intro s2' z_
    cases z_
    exact wj_X14_gatherBits_208 h rx1 rx2 rz0 rx4 (rgl rfl) hrec hE
  · rw [if_neg c1] at h
    refine v_iconst dX14_gatherBits_139 ?_
    refine v_goto (tgt := 144) dX14_gatherBits_140 (by decide) ?_
    refine v_istore (L1 := [(5, vI 1), (3, vI z0), (0, vO 87), (1, vI x1), (2, vI x2), (4, vI x4), (6, vI x6), (7, vI x7)]) dX14_gatherBits_144 (by decide) rfl ?_
    refine v_iconst dX14_gatherBits_146 ?_
    refine v_istore (L1 := [(8, vI 0), (5, vI 1), (3, vI z0), (0, vO 87), (1, vI x1), (2, vI x2), (4, vI x4), (6, vI x6), (7, vI x7)]) dX14_gatherBits_147 (by decide) rfl ?_
    refine v_sub [3, 4, 5, 2, 6, 1, 7, 8, 0] (L1 := [(0, vO 87), (1, vI x1), (2, vI x2), (3, vI z0), (4, vI x4), (5, vI 1), (6, vI x6), (7, vI x7), (8, vI 0)]) rfl ?_
    obtain ⟨s4, e5, h⟩ := lq_0_some h
    refine wl_X14_gatherBits_149 rx1 rx2 rz0 rx4 (rgl rfl) rx6 rx7 FU 0 s _ e5 (rgl rfl) ?_
    unfold E_X14_gatherBits_149
    intro s4' z_
    cases z_
    exact wj_X14_gatherBits_208 h rx1 rx2 rz0 rx4 (rgl rfl) hrec hE

def j_X14_gatherBits_103 (rec : Int → Int → Int → Int → Int → vS → Option (Int × vS)) (x1 : Int) (x2 : Int) (x4 : Int) (x5 : Int) (x6 : Int) (z0 : Int) (s : vS) : Option (Int × vS) :=
  if x5 = 0 then
    if 8 ≤ z0 then
      j_X14_gatherBits_133 rec x1 x2 x4 x6 z0 0 s
    else
      if z0 = 0 then
        j_X14_gatherBits_133 rec x1 x2 x4 x6 z0 1 s
      else
        if x6 ≤ 1 then
          j_X14_gatherBits_133 rec x1 x2 x4 x6 z0 0 s
        else
          j_X14_gatherBits_133 rec x1 x2 x4 x6 z0 1 s
  else
    j_X14_gatherBits_133 rec x1 x2 x4 x6 z0 0 s
theorem wj_X14_gatherBits_103 {x1 : Int} {x2 : Int} {x4 : Int} {x5 : Int} {x6 : Int} {z0 : Int} {s : vS} {rv : Option vA} {σo : vS} {rec : Int → Int → Int → Int → Int → vS → Option (Int × vS)} {q : Int × vS} (h : j_X14_gatherBits_103 rec x1 x2 x4 x5 x6 z0 s = some q)  (rx1 : rg x1) (rx2 : rg x2) (rx4 : rg x4) (rx5 : rg x5) (rx6 : rg x6) (rz0 : rg z0) (hrec : ∀ (y2 : Int) (y3 : Int) (y4 : Int) (y5 : Int) (s : vS) (q : Int × vS), rec x1 y2 y3 y4 y5 s = some q → rg y2 → rg y3 → rg y4 → rg y5 → E_X14_gatherBits_15 rv σo q → VW cX14_gatherBits (RX14, rv, σo, (some .boolean), 2, 44, 9, []) (P0 []) s 15 [(0, vO 87), (1, vI x1), (2, vI y2), (3, vI y3), (4, vI y4), (5, vI y5)] []) (hE : E_X14_gatherBits_15 rv σo q) : VW cX14_gatherBits (RX14, rv, σo, (some .boolean), 2, 44, 9, []) (P0 []) s 103 [(0, vO 87), (1, vI x1), (2, vI x2), (4, vI x4), (5, vI x5), (6, vI x6)] [vI z0] := by
  unfold j_X14_gatherBits_103 at h
  refine v_istore (L1 := [(7, vI z0), (0, vO 87), (1, vI x1), (2, vI x2), (4, vI x4), (5, vI x5), (6, vI x6)]) dX14_gatherBits_103 (by decide) rfl ?_
  refine v_iload dX14_gatherBits_105 5 rfl ?_
  refine v_if_ne (tgt := 132) dX14_gatherBits_107 rx5 (by decide) (fun c1 => ?_) (fun c1 => ?_)
  · rw [if_neg c1] at h
    refine v_iconst dX14_gatherBits_132 ?_
    refine v_sub [1, 2, 3, 4, 6, 0] (L1 := [(0, vO 87), (1, vI x1), (2, vI x2), (4, vI x4), (6, vI x6), (7, vI z0)]) rfl ?_
    exact wj_X14_gatherBits_133 h rx1 rx2 rx4 rx6 rz0 (rgl rfl) hrec hE
  · rw [if_pos c1] at h
    refine v_iload dX14_gatherBits_110 0 rfl ?_
    refine v_bipush dX14_gatherBits_112 rfl ?_
    refine v_icmp_ge (tgt := 132) dX14_gatherBits_114 rz0 (rgl rfl) (by decide) (fun c2 => ?_) (fun c2 => ?_)
    · rw [if_pos c2] at h
      refine v_iconst dX14_gatherBits_132 ?_
      refine v_sub [1, 2, 3, 4, 6, 0] (L1 := [(0, vO 87), (1, vI x1), (2, vI x2), (4, vI x4), (6, vI x6), (7, vI z0)]) rfl ?_
      exact wj_X14_gatherBits_133 h rx1 rx2 rx4 rx6 rz0 (rgl rfl) hrec hE
    · rw [if_neg c2] at h
      refine v_iload dX14_gatherBits_117 0 rfl ?_
      refine v_if_eq (tgt := 128) dX14_gatherBits_119 rz0 (by decide) (fun c3 => ?_) (fun c3 => ?_)
      · rw [if_pos c3] at h
        refine v_iconst dX14_gatherBits_128 ?_
        refine v_goto (tgt := 133) dX14_gatherBits_129 (by decide) ?_
        refine v_sub [1, 2, 3, 4, 6, 0] (L1 := [(0, vO 87), (1, vI x1), (2, vI x2), (4, vI x4), (6, vI x6), (7, vI z0)]) rfl ?_
        exact wj_X14_gatherBits_133 h rx1 rx2 rx4 rx6 rz0 (rgl rfl) hrec hE
      · rw [if_neg c3] at h
        refine v_iload dX14_gatherBits_122 6 rfl ?_
        refine v_iconst dX14_gatherBits_124 ?_
        refine v_icmp_le (tgt := 132) dX14_gatherBits_125 rx6 (rgl rfl) (by decide) (fun c4 => ?_) (fun c4 => ?_)
        · rw [if_pos c4] at h
          refine v_iconst dX14_gatherBits_132 ?_
          refine v_sub [1, 2, 3, 4, 6, 0] (L1 := [(0, vO 87), (1, vI x1), (2, vI x2), (4, vI x4), (6, vI x6), (7, vI z0)]) rfl ?_
          exact wj_X14_gatherBits_133 h rx1 rx2 rx4 rx6 rz0 (rgl rfl) hrec hE
        · rw [if_neg c4] at h
          refine v_iconst dX14_gatherBits_128 ?_
          refine v_goto (tgt := 133) dX14_gatherBits_129 (by decide) ?_
          refine v_sub [1, 2, 3, 4, 6, 0] (L1 := [(0, vO 87), (1, vI x1), (2, vI x2), (4, vI x4), (6, vI x6), (7, vI z0)]) rfl ?_
          exact wj_X14_gatherBits_133 h rx1 rx2 rx4 rx6 rz0 (rgl rfl) hrec hE

def j_X14_gatherBits_54 (rec : Int → Int → Int → Int → Int → vS → Option (Int × vS)) (x1 : Int) (x2 : Int) (x3 : Int) (x4 : Int) (x5 : Int) (s : vS) : Option (Int × vS) :=
  if x3 = 0 then
    j_X14_gatherBits_208 rec x1 x2 x3 x4 x5 s
  else
    gd (inb x2 (gN s 174)) <|
    if (gZ s 174 x2) = 0 then
      gd (inb x2 (gN s 177)) <|
      gd (inb x2 (gN s 176)) <|
      vl (w32 ((gE s 177 x2) - (gE s 176 x2))) fun y6 =>
      if y6 ≤ 0 then
        j_X14_gatherBits_103 rec x1 x2 x4 x5 y6 8 s
      else
        gd (inb x2 (gN s 176)) <|
        gd (inb (gE s 176 x2) (gN s 171)) <|
        j_X14_gatherBits_103 rec x1 x2 x4 x5 y6 (gE s 171 (gE s 176 x2)) s
    else
      j_X14_gatherBits_208 rec x1 x2 x3 x4 x5 s
theorem wj_X14_gatherBits_54 {x1 : Int} {x2 : Int} {x3 : Int} {x4 : Int} {x5 : Int} {s : vS} {rv : Option vA} {σo : vS} {rec : Int → Int → Int → Int → Int → vS → Option (Int × vS)} {q : Int × vS} (h : j_X14_gatherBits_54 rec x1 x2 x3 x4 x5 s = some q)  (rx1 : rg x1) (rx2 : rg x2) (rx3 : rg x3) (rx4 : rg x4) (rx5 : rg x5) (hrec : ∀ (y2 : Int) (y3 : Int) (y4 : Int) (y5 : Int) (s : vS) (q : Int × vS), rec x1 y2 y3 y4 y5 s = some q → rg y2 → rg y3 → rg y4 → rg y5 → E_X14_gatherBits_15 rv σo q → VW cX14_gatherBits (RX14, rv, σo, (some .boolean), 2, 44, 9, []) (P0 []) s 15 [(0, vO 87), (1, vI x1), (2, vI y2), (3, vI y3), (4, vI y4), (5, vI y5)] []) (hE : E_X14_gatherBits_15 rv σo q) : VW cX14_gatherBits (RX14, rv, σo, (some .boolean), 2, 44, 9, []) (P0 []) s 54 [(0, vO 87), (1, vI x1), (2, vI x2), (3, vI x3), (4, vI x4), (5, vI x5)] [] := by
  unfold j_X14_gatherBits_54 at h
  refine v_iload_n dX14_gatherBits_54 3 rfl rfl ?_
  refine v_if_eq (tgt := 208) dX14_gatherBits_55 rx3 (by decide) (fun c1 => ?_) (fun c1 => ?_)
  · rw [if_pos c1] at h
    exact wj_X14_gatherBits_208 h rx1 rx2 rx3 rx4 rx5 hrec hE
  · rw [if_neg c1] at h
    refine v_aload_n dX14_gatherBits_58 0 rfl rfl ?_
    refine v_getS (f := 132) (t := 174) cf14 oc87 rfl rfl rfl (by decide) q2502 dX14_gatherBits_59 ?_
    refine v_iload_n dX14_gatherBits_62 2 rfl rfl ?_
    obtain ⟨g2, h⟩ := gd_some h
    refine v_zald oc174 rx2 g2.1 g2.2 dX14_gatherBits_63 ?_
    refine v_if_ne (tgt := 208) dX14_gatherBits_64 (gZ_rg _ _ _) (by decide) (fun c3 => ?_) (fun c3 => ?_)
    · rw [if_neg c3] at h
      exact wj_X14_gatherBits_208 h rx1 rx2 rx3 rx4 rx5 hrec hE
    · rw [if_pos c3] at h
      refine v_aload_n dX14_gatherBits_67 0 rfl rfl ?_
      refine v_getS (f := 135) (t := 177) cf14 oc87 rfl rfl rfl (by decide) q2505 dX14_gatherBits_68 ?_
      refine v_iload_n dX14_gatherBits_71 2 rfl rfl ?_
      obtain ⟨g4, h⟩ := gd_some h
      refine v_iald oc177 rx2 g4.1 g4.2 dX14_gatherBits_72 ?_
      refine v_aload_n dX14_gatherBits_73 0 rfl rfl ?_
      refine v_getS (f := 134) (t := 176) cf14 oc87 rfl rfl rfl (by decide) q2504 dX14_gatherBits_74 ?_
      refine v_iload_n dX14_gatherBits_77 2 rfl rfl ?_
      obtain ⟨g5, h⟩ := gd_some h
      refine v_iald oc176 rx2 g5.1 g5.2 dX14_gatherBits_78 ?_
      refine v_isub dX14_gatherBits_79 ?_
      obtain ⟨y6, e7, h⟩ := vl_some h
      rw [← e7]
      have r8 : rg y6 := by rw [e7]; exact w32_rg _
      refine v_istore (L1 := [(6, vI y6), (0, vO 87), (1, vI x1), (2, vI x2), (3, vI x3), (4, vI x4), (5, vI x5)]) dX14_gatherBits_80 (by decide) rfl ?_
      refine v_iload dX14_gatherBits_82 0 rfl ?_
      refine v_if_le (tgt := 101) dX14_gatherBits_84 r8 (by decide) (fun c9 => ?_) (fun c9 => ?_)
      · rw [if_pos c9] at h
        refine v_bipush dX14_gatherBits_101 rfl ?_
        refine v_sub [1, 2, 3, 5, 6, 0] (L1 := [(0, vO 87), (1, vI x1), (2, vI x2), (4, vI x4), (5, vI x5), (6, vI y6)]) rfl ?_
        exact wj_X14_gatherBits_103 h rx1 rx2 rx4 rx5 r8 (rgl rfl) hrec hE
      · rw [if_neg c9] at h
        refine v_aload_n dX14_gatherBits_87 1 rfl rfl ?_
        refine v_getS (f := 128) (t := 171) cf14 oc87 rfl rfl rfl (by decide) q2498 dX14_gatherBits_88 ?_
        refine v_aload_n dX14_gatherBits_91 1 rfl rfl ?_
        refine v_getS (f := 134) (t := 176) cf14 oc87 rfl rfl rfl (by decide) q2504 dX14_gatherBits_92 ?_
        refine v_iload_n dX14_gatherBits_95 3 rfl rfl ?_
        obtain ⟨g10, h⟩ := gd_some h
        refine v_iald oc176 rx2 g10.1 g10.2 dX14_gatherBits_96 ?_
        obtain ⟨g11, h⟩ := gd_some h
        refine v_iald oc171 (gE_rg _ _ _) g11.1 g11.2 dX14_gatherBits_97 ?_
        refine v_goto (tgt := 103) dX14_gatherBits_98 (by decide) ?_
        refine v_sub [1, 2, 3, 5, 6, 0] (L1 := [(0, vO 87), (1, vI x1), (2, vI x2), (4, vI x4), (5, vI x5), (6, vI y6)]) rfl ?_
        exact wj_X14_gatherBits_103 h rx1 rx2 rx4 rx5 r8 (gE_rg _ _ _) hrec hE

def l_X14_gatherBits_15 : Nat → Int → Int → Int → Int → Int → vS → Option (Int × vS)
  | 0, _, _, _, _, _, _ => none
  | n + 1, x1, x2, x3, x4, x5, s =>
    if x4 = 0 then
      if x3 = 0 then
        some (x3, s)
      else
        if x2 = x1 then
          j_X14_gatherBits_54 (l_X14_gatherBits_15 n) x1 x2 x3 x4 x5 s
        else
          gd (inb x2 (gN s 173)) <|
          if (gE s 173 x2) = 0 then
            gd (inb x2 (gN s 175)) <|
            if (gE s 175 x2) = 3 then
              j_X14_gatherBits_54 (l_X14_gatherBits_15 n) x1 x2 1 x4 x5 s
            else
              j_X14_gatherBits_54 (l_X14_gatherBits_15 n) x1 x2 0 x4 x5 s
          else
            j_X14_gatherBits_54 (l_X14_gatherBits_15 n) x1 x2 0 x4 x5 s
    else
      some (x3, s)
theorem wl_X14_gatherBits_15 {x1 : Int} {rv : Option vA} {σo : vS}  (rx1 : rg x1) : ∀ (n : Nat) (x2 : Int) (x3 : Int) (x4 : Int) (x5 : Int) (s : vS) (q : Int × vS), l_X14_gatherBits_15 n x1 x2 x3 x4 x5 s = some q → rg x2 → rg x3 → rg x4 → rg x5 → E_X14_gatherBits_15 rv σo q → VW cX14_gatherBits (RX14, rv, σo, (some .boolean), 2, 44, 9, []) (P0 []) s 15 [(0, vO 87), (1, vI x1), (2, vI x2), (3, vI x3), (4, vI x4), (5, vI x5)] [] := by
  intro n
  induction n with
  | zero => intro x2 x3 x4 x5 s q h; cases h
  | succ n ih =>
    intro x2 x3 x4 x5 s q h rx2 rx3 rx4 rx5 hE
    unfold l_X14_gatherBits_15 at h
    refine v_iload dX14_gatherBits_15 4 rfl ?_
    refine v_if_ne (tgt := 272) dX14_gatherBits_17 rx4 (by decide) (fun c1 => ?_) (fun c1 => ?_)
    · rw [if_neg c1] at h
      cases h
      refine v_sub [3] (L1 := [(3, vI x3)]) rfl ?_
      exact hE _ _ rfl rx3
    · rw [if_pos c1] at h
      refine v_iload_n dX14_gatherBits_20 3 rfl rfl ?_
      refine v_if_eq (tgt := 272) dX14_gatherBits_21 rx3 (by decide) (fun c2 => ?_) (fun c2 => ?_)
      · rw [if_pos c2] at h
        cases h
        refine v_sub [3] (L1 := [(3, vI x3)]) rfl ?_
        exact hE _ _ rfl rx3
      · rw [if_neg c2] at h
        refine v_iload_n dX14_gatherBits_24 2 rfl rfl ?_
        refine v_iload_n dX14_gatherBits_25 1 rfl rfl ?_
        refine v_icmp_eq (tgt := 54) dX14_gatherBits_26 rx2 rx1 (by decide) (fun c3 => ?_) (fun c3 => ?_)
        · rw [if_pos c3] at h
          exact wj_X14_gatherBits_54 h rx1 rx2 rx3 rx4 rx5 ih hE
        · rw [if_neg c3] at h
          refine v_aload_n dX14_gatherBits_29 0 rfl rfl ?_
          refine v_getS (f := 131) (t := 173) cf14 oc87 rfl rfl rfl (by decide) q2501 dX14_gatherBits_30 ?_
          refine v_iload_n dX14_gatherBits_33 2 rfl rfl ?_
          obtain ⟨g4, h⟩ := gd_some h
          refine v_iald oc173 rx2 g4.1 g4.2 dX14_gatherBits_34 ?_
          refine v_if_ne (tgt := 52) dX14_gatherBits_35 (gE_rg _ _ _) (by decide) (fun c5 => ?_) (fun c5 => ?_)
          · rw [if_neg c5] at h
            refine v_iconst dX14_gatherBits_52 ?_
            refine v_istore_n (L1 := [(3, vI 0), (0, vO 87), (1, vI x1), (2, vI x2), (4, vI x4), (5, vI x5)]) dX14_gatherBits_53 rfl (by decide) rfl ?_
            refine v_sub [1, 2, 3, 0, 4, 5] (L1 := [(0, vO 87), (1, vI x1), (2, vI x2), (3, vI 0), (4, vI x4), (5, vI x5)]) rfl ?_
            exact wj_X14_gatherBits_54 h rx1 rx2 (rgl rfl) rx4 rx5 ih hE
          · rw [if_pos c5] at h
            refine v_aload_n dX14_gatherBits_38 0 rfl rfl ?_
            refine v_getS (f := 133) (t := 175) cf14 oc87 rfl rfl rfl (by decide) q2503 dX14_gatherBits_39 ?_
            refine v_iload_n dX14_gatherBits_42 2 rfl rfl ?_
            obtain ⟨g6, h⟩ := gd_some h
            refine v_iald oc175 rx2 g6.1 g6.2 dX14_gatherBits_43 ?_
            refine v_iconst dX14_gatherBits_44 ?_
            refine v_icmp_ne (tgt := 52) dX14_gatherBits_45 (gE_rg _ _ _) (rgl rfl) (by decide) (fun c7 => ?_) (fun c7 => ?_)
            · rw [if_neg c7] at h
              refine v_iconst dX14_gatherBits_52 ?_
              refine v_istore_n (L1 := [(3, vI 0), (0, vO 87), (1, vI x1), (2, vI x2), (4, vI x4), (5, vI x5)]) dX14_gatherBits_53 rfl (by decide) rfl ?_
              refine v_sub [1, 2, 3, 0, 4, 5] (L1 := [(0, vO 87), (1, vI x1), (2, vI x2), (3, vI 0), (4, vI x4), (5, vI x5)]) rfl ?_
              exact wj_X14_gatherBits_54 h rx1 rx2 (rgl rfl) rx4 rx5 ih hE
            · rw [if_pos c7] at h
              refine v_iconst dX14_gatherBits_48 ?_
              refine v_goto (tgt := 53) dX14_gatherBits_49 (by decide) ?_
              refine v_istore_n (L1 := [(3, vI 1), (0, vO 87), (1, vI x1), (2, vI x2), (4, vI x4), (5, vI x5)]) dX14_gatherBits_53 rfl (by decide) rfl ?_
              refine v_sub [1, 2, 3, 0, 4, 5] (L1 := [(0, vO 87), (1, vI x1), (2, vI x2), (3, vI 1), (4, vI x4), (5, vI x5)]) rfl ?_
              exact wj_X14_gatherBits_54 h rx1 rx2 (rgl rfl) rx4 rx5 ih hE

def f_X14_gatherBits (x1 : Int) (s : vS) : Option (Int × vS) :=
  stp (sI s 87 107 0) fun s1 =>
  lq_1 (l_X14_gatherBits_15 FU x1 x1 1 0 0 s1) fun y3 s4 =>
  gd (y3 = 0 ∨ y3 = 1) <|
  some (y3, s4)
theorem yk_X14_gatherBits : yOk yX14_gatherBits 1 := ⟨by decide, by decide, by decide +kernel⟩
theorem c_X14_gatherBits {x1 : Int} {s : vS} {out : Int × vS} (h : f_X14_gatherBits x1 s = some out)  (rx1 : rg x1) : VC yX14_gatherBits cX14_gatherBits 9 (some .boolean) 2 44 [vO 87, vI x1] s (some (vI out.1)) out.2 [] := by
  unfold f_X14_gatherBits at h
  refine VC.of RX14 (by decide) rfl (Nat.le_of_ble_eq_true rfl) ?_
  show VW cX14_gatherBits (RX14, (some (vI out.1)), out.2, (some .boolean), 2, 44, 9, []) (P0 []) s 0 [(0, vO 87), (1, vI x1)] []
  refine v_aload_n dX14_gatherBits_0 0 rfl rfl ?_
  refine v_iconst dX14_gatherBits_1 ?_
  obtain ⟨s1, e2, h⟩ := stp_some h
  refine v_putI (f := 107) cf14 oc87 rfl (by decide) q2477 dX14_gatherBits_2 rfl rfl ?_
  rw [← e2]
  refine v_iload_n dX14_gatherBits_5 1 rfl rfl ?_
  refine v_istore_n (L1 := [(2, vI x1), (0, vO 87), (1, vI x1)]) dX14_gatherBits_6 rfl (by decide) rfl ?_
  refine v_iconst dX14_gatherBits_7 ?_
  refine v_istore_n (L1 := [(3, vI 1), (2, vI x1), (0, vO 87), (1, vI x1)]) dX14_gatherBits_8 rfl (by decide) rfl ?_
  refine v_iconst dX14_gatherBits_9 ?_
  refine v_istore (L1 := [(4, vI 0), (3, vI 1), (2, vI x1), (0, vO 87), (1, vI x1)]) dX14_gatherBits_10 (by decide) rfl ?_
  refine v_iconst dX14_gatherBits_12 ?_
  refine v_istore (L1 := [(5, vI 0), (4, vI 0), (3, vI 1), (2, vI x1), (0, vO 87), (1, vI x1)]) dX14_gatherBits_13 (by decide) rfl ?_
  refine v_sub [4, 5, 3, 2, 1, 0] (L1 := [(0, vO 87), (1, vI x1), (2, vI x1), (3, vI 1), (4, vI 0), (5, vI 0)]) rfl ?_
  obtain ⟨y3, s4, e5, h⟩ := lq_1_some h
  refine wl_X14_gatherBits_15 rx1 FU x1 1 0 0 s1 _ e5 rx1 (rgl rfl) (rgl rfl) (rgl rfl) ?_
  unfold E_X14_gatherBits_15
  intro y3' s4' z_ r6
  cases z_
  refine v_iload_n dX14_gatherBits_272 0 rfl rfl ?_
  obtain ⟨g7, h⟩ := gd_some h
  cases h
  exact v_zret g7 dX14_gatherBits_273

def E_X14_gatherParts_13 (rv : Option vA) (σo : vS) (q : Int × vS) : Prop := ∀ (x4' : Int) (s' : vS), q = (x4', s') → rg x4' → VW cX14_gatherParts (RX14, rv, σo, (some .boolean), 2, 44, 7, []) (P0 []) s' 168 [(4, vI x4')] []
def E_X14_gatherParts_123 (x1 : Int) (x2 : Int) (x4 : Int) (x5 : Int) (rv : Option vA) (σo : vS) (q : Int × vS) : Prop := ∀ (x3' : Int) (s' : vS), q = (x3', s') → rg x3' → VW cX14_gatherParts (RX14, rv, σo, (some .boolean), 2, 44, 7, []) (P0 []) s' 147 [(0, vO 87), (1, vI x1), (2, vI x2), (3, vI x3'), (4, vI x4), (5, vI x5)] []
def l_X14_gatherParts_123 : Nat → Int → Int → Int → Int → Int → vS → Option (Int × vS)
  | 0, _, _, _, _, _, _ => none
  | n + 1, x1, x2, x3, x4, x5, s =>
    if x3 = x1 then
      some (x3, s)
    else
      gd (inb x3 (gN s 182)) <|
      if 0 ≤ (gE s 182 x3) then
        some (x3, s)
      else
        gd (inb x3 (gN s 179)) <|
        vl (gE s 179 x3) fun y5 =>
        l_X14_gatherParts_123 n x1 x2 y5 x4 x5 s
theorem wl_X14_gatherParts_123 {x1 : Int} {x2 : Int} {x4 : Int} {x5 : Int} {rv : Option vA} {σo : vS}  (rx1 : rg x1) (rx2 : rg x2) (rx4 : rg x4) (rx5 : rg x5) : ∀ (n : Nat) (x3 : Int) (s : vS) (q : Int × vS), l_X14_gatherParts_123 n x1 x2 x3 x4 x5 s = some q → rg x3 → E_X14_gatherParts_123 x1 x2 x4 x5 rv σo q → VW cX14_gatherParts (RX14, rv, σo, (some .boolean), 2, 44, 7, []) (P0 []) s 123 [(0, vO 87), (1, vI x1), (2, vI x2), (3, vI x3), (4, vI x4), (5, vI x5)] [] := by
  intro n
  induction n with
  | zero => intro x3 s q h; cases h
  | succ n ih =>
    intro x3 s q h rx3 hE
    unfold l_X14_gatherParts_123 at h
    refine v_iload_n dX14_gatherParts_123 3 rfl rfl ?_
    refine v_iload_n dX14_gatherParts_124 1 rfl rfl ?_
    refine v_icmp_eq (tgt := 147) dX14_gatherParts_125 rx3 rx1 (by decide) (fun c1 => ?_) (fun c1 => ?_)
    · rw [if_pos c1] at h
      cases h
      exact hE _ _ rfl rx3
    · rw [if_neg c1] at h
      refine v_aload_n dX14_gatherParts_128 0 rfl rfl ?_
      refine v_getS (f := 140) (t := 182) cf14 oc87 rfl rfl rfl (by decide) q2510 dX14_gatherParts_129 ?_
      refine v_iload_n dX14_gatherParts_132 3 rfl rfl ?_
      obtain ⟨g2, h⟩ := gd_some h
      refine v_iald oc182 rx3 g2.1 g2.2 dX14_gatherParts_133 ?_
      refine v_if_ge (tgt := 147) dX14_gatherParts_134 (gE_rg _ _ _) (by decide) (fun c3 => ?_) (fun c3 => ?_)
      · rw [if_pos c3] at h
        cases h
        exact hE _ _ rfl rx3
      · rw [if_neg c3] at h
        refine v_aload_n dX14_gatherParts_137 0 rfl rfl ?_
        refine v_getS (f := 137) (t := 179) cf14 oc87 rfl rfl rfl (by decide) q2507 dX14_gatherParts_138 ?_
        refine v_iload_n dX14_gatherParts_141 3 rfl rfl ?_
        obtain ⟨g4, h⟩ := gd_some h
        refine v_iald oc179 rx3 g4.1 g4.2 dX14_gatherParts_142 ?_
        obtain ⟨y5, e6, h⟩ := vl_some h
        rw [← e6]
        have r7 : rg y5 := by rw [e6]; exact gE_rg _ _ _
        refine v_istore_n (L1 := [(3, vI y5), (0, vO 87), (1, vI x1), (2, vI x2), (4, vI x4), (5, vI x5)]) dX14_gatherParts_143 rfl (by decide) rfl ?_
        refine v_goto (tgt := 123) dX14_gatherParts_144 (by decide) ?_
        refine v_sub [1, 2, 3, 0, 4, 5] (L1 := [(0, vO 87), (1, vI x1), (2, vI x2), (3, vI y5), (4, vI x4), (5, vI x5)]) rfl ?_
        exact ih y5 s _ h r7 hE

def j_X14_gatherParts_147 (rec : Int → Int → Int → Int → Int → vS → Option (Int × vS)) (x1 : Int) (x2 : Int) (x3 : Int) (x4 : Int) (x5 : Int) (s : vS) : Option (Int × vS) :=
  if x3 = x1 then
    rec x1 x2 x3 x4 1 s
  else
    gd (inb x3 (gN s 182)) <|
    vl (gE s 182 x3) fun y3 =>
    rec x1 x2 y3 x4 x5 s
theorem wj_X14_gatherParts_147 {x1 : Int} {x2 : Int} {x3 : Int} {x4 : Int} {x5 : Int} {s : vS} {rv : Option vA} {σo : vS} {rec : Int → Int → Int → Int → Int → vS → Option (Int × vS)} {q : Int × vS} (h : j_X14_gatherParts_147 rec x1 x2 x3 x4 x5 s = some q)  (rx1 : rg x1) (rx2 : rg x2) (rx3 : rg x3) (rx4 : rg x4) (rx5 : rg x5) (hrec : ∀ (y3 : Int) (y4 : Int) (y5 : Int) (s : vS) (q : Int × vS), rec x1 x2 y3 y4 y5 s = some q → rg y3 → rg y4 → rg y5 → E_X14_gatherParts_13 rv σo q → VW cX14_gatherParts (RX14, rv, σo, (some .boolean), 2, 44, 7, []) (P0 []) s 13 [(0, vO 87), (1, vI x1), (2, vI x2), (3, vI y3), (4, vI y4), (5, vI y5)] []) (hE : E_X14_gatherParts_13 rv σo q) : VW cX14_gatherParts (RX14, rv, σo, (some .boolean), 2, 44, 7, []) (P0 []) s 147 [(0, vO 87), (1, vI x1), (2, vI x2), (3, vI x3), (4, vI x4), (5, vI x5)] [] := by
  unfold j_X14_gatherParts_147 at h
  refine v_iload_n dX14_gatherParts_147 3 rfl rfl ?_
  refine v_iload_n dX14_gatherParts_148 1 rfl rfl ?_
  refine v_icmp_ne (tgt := 158) dX14_gatherParts_149 rx3 rx1 (by decide) (fun c1 => ?_) (fun c1 => ?_)
  · rw [if_neg c1] at h
    refine v_aload_n dX14_gatherParts_158 0 rfl rfl ?_
    refine v_getS (f := 140) (t := 182) cf14 oc87 rfl rfl rfl (by decide) q2510 dX14_gatherParts_159 ?_
    refine v_iload_n dX14_gatherParts_162 3 rfl rfl ?_
    obtain ⟨g2, h⟩ := gd_some h
    refine v_iald oc182 rx3 g2.1 g2.2 dX14_gatherParts_163 ?_
    obtain ⟨y3, e4, h⟩ := vl_some h
    rw [← e4]
    have r5 : rg y3 := by rw [e4]; exact gE_rg _ _ _
    refine v_istore_n (L1 := [(3, vI y3), (0, vO 87), (1, vI x1), (2, vI x2), (4, vI x4), (5, vI x5)]) dX14_gatherParts_164 rfl (by decide) rfl ?_
    refine v_goto (tgt := 13) dX14_gatherParts_165 (by decide) ?_
    refine v_sub [1, 2, 3, 0, 4, 5] (L1 := [(0, vO 87), (1, vI x1), (2, vI x2), (3, vI y3), (4, vI x4), (5, vI x5)]) rfl ?_
    exact hrec y3 x4 x5 s _ h r5 rx4 rx5 hE
  · rw [if_pos c1] at h
    refine v_iconst dX14_gatherParts_152 ?_
    refine v_istore (L1 := [(5, vI 1), (0, vO 87), (1, vI x1), (2, vI x2), (3, vI x3), (4, vI x4)]) dX14_gatherParts_153 (by decide) rfl ?_
    refine v_goto (tgt := 13) dX14_gatherParts_155 (by decide) ?_
    refine v_sub [1, 2, 3, 4, 5, 0] (L1 := [(0, vO 87), (1, vI x1), (2, vI x2), (3, vI x3), (4, vI x4), (5, vI 1)]) rfl ?_
    exact hrec x3 x4 1 s _ h rx3 rx4 (rgl rfl) hE

def j_X14_gatherParts_104 (rec : Int → Int → Int → Int → Int → vS → Option (Int × vS)) (x1 : Int) (x2 : Int) (x3 : Int) (x4 : Int) (x5 : Int) (s : vS) : Option (Int × vS) :=
  gd (inb x3 (gN s 180)) <|
  if (gE s 180 x3) < 0 then
    lq_1 (l_X14_gatherParts_123 FU x1 x2 x3 x4 x5 s) fun y3 s4 =>
    j_X14_gatherParts_147 rec x1 x2 y3 x4 x5 s4
  else
    gd (inb x3 (gN s 180)) <|
    vl (gE s 180 x3) fun y8 =>
    rec x1 x2 y8 x4 x5 s
theorem wj_X14_gatherParts_104 {x1 : Int} {x2 : Int} {x3 : Int} {x4 : Int} {x5 : Int} {s : vS} {rv : Option vA} {σo : vS} {rec : Int → Int → Int → Int → Int → vS → Option (Int × vS)} {q : Int × vS} (h : j_X14_gatherParts_104 rec x1 x2 x3 x4 x5 s = some q)  (rx1 : rg x1) (rx2 : rg x2) (rx3 : rg x3) (rx4 : rg x4) (rx5 : rg x5) (hrec : ∀ (y3 : Int) (y4 : Int) (y5 : Int) (s : vS) (q : Int × vS), rec x1 x2 y3 y4 y5 s = some q → rg y3 → rg y4 → rg y5 → E_X14_gatherParts_13 rv σo q → VW cX14_gatherParts (RX14, rv, σo, (some .boolean), 2, 44, 7, []) (P0 []) s 13 [(0, vO 87), (1, vI x1), (2, vI x2), (3, vI y3), (4, vI y4), (5, vI y5)] []) (hE : E_X14_gatherParts_13 rv σo q) : VW cX14_gatherParts (RX14, rv, σo, (some .boolean), 2, 44, 7, []) (P0 []) s 104 [(0, vO 87), (1, vI x1), (2, vI x2), (3, vI x3), (4, vI x4), (5, vI x5)] [] := by
  unfold j_X14_gatherParts_104 at h
  refine v_aload_n dX14_gatherParts_104 0 rfl rfl ?_
  refine v_getS (f := 138) (t := 180) cf14 oc87 rfl rfl rfl (by decide) q2508 dX14_gatherParts_105 ?_
  refine v_iload_n dX14_gatherParts_108 3 rfl rfl ?_
  obtain ⟨g1, h⟩ := gd_some h
  refine v_iald oc180 rx3 g1.1 g1.2 dX14_gatherParts_109 ?_
  refine v_if_lt (tgt := 123) dX14_gatherParts_110 (gE_rg _ _ _) (by decide) (fun c2 => ?_) (fun c2 => ?_)
  · rw [if_pos c2] at h
    obtain ⟨y3, s4, e5, h⟩ := lq_1_some h
    refine wl_X14_gatherParts_123 rx1 rx2 rx4 rx5 FU x3 s _ e5 rx3 ?_
    unfold E_X14_gatherParts_123
    intro y3' s4' z_ r6
    cases z_
    exact wj_X14_gatherParts_147 h rx1 rx2 r6 rx4 rx5 hrec hE
  · rw [if_neg c2] at h
    refine v_aload_n dX14_gatherParts_113 0 rfl rfl ?_
    refine v_getS (f := 138) (t := 180) cf14 oc87 rfl rfl rfl (by decide) q2508 dX14_gatherParts_114 ?_
    refine v_iload_n dX14_gatherParts_117 3 rfl rfl ?_
    obtain ⟨g7, h⟩ := gd_some h
    refine v_iald oc180 rx3 g7.1 g7.2 dX14_gatherParts_118 ?_
    obtain ⟨y8, e9, h⟩ := vl_some h
    rw [← e9]
    have r10 : rg y8 := by rw [e9]; exact gE_rg _ _ _
    refine v_istore_n (L1 := [(3, vI y8), (0, vO 87), (1, vI x1), (2, vI x2), (4, vI x4), (5, vI x5)]) dX14_gatherParts_119 rfl (by decide) rfl ?_
    refine v_goto (tgt := 13) dX14_gatherParts_120 (by decide) ?_
    refine v_sub [1, 2, 3, 0, 4, 5] (L1 := [(0, vO 87), (1, vI x1), (2, vI x2), (3, vI y8), (4, vI x4), (5, vI x5)]) rfl ?_
    exact hrec y8 x4 x5 s _ h r10 rx4 rx5 hE

def E_X14_gatherParts_76 (x1 : Int) (x2 : Int) (x3 : Int) (x4 : Int) (x5 : Int) (rv : Option vA) (σo : vS) (q : vS) : Prop := ∀ (s' : vS), q = s' → VW cX14_gatherParts (RX14, rv, σo, (some .boolean), 2, 44, 7, []) (P0 []) s' 104 [(0, vO 87), (1, vI x1), (2, vI x2), (3, vI x3), (4, vI x4), (5, vI x5)] []
def l_X14_gatherParts_76 : Nat → Int → Int → Int → Int → Int → Int → vS → Option (vS)
  | 0, _, _, _, _, _, _, _ => none
  | n + 1, x1, x2, x3, x4, x5, x6, s =>
    gd (inb x3 (gN s 177)) <|
    if (gE s 177 x3) ≤ x6 then
      some s
    else
      gd (inb x6 (gN s 171)) <|
      bdv (f_X14_say (gE s 171 x6) s) fun s4 =>
      vl (w32 (x6 + 1)) fun y7 =>
      l_X14_gatherParts_76 n x1 x2 x3 x4 x5 y7 s4
theorem wl_X14_gatherParts_76 {x1 : Int} {x2 : Int} {x3 : Int} {x4 : Int} {x5 : Int} {rv : Option vA} {σo : vS}  (rx1 : rg x1) (rx2 : rg x2) (rx3 : rg x3) (rx4 : rg x4) (rx5 : rg x5) : ∀ (n : Nat) (x6 : Int) (s : vS) (q : vS), l_X14_gatherParts_76 n x1 x2 x3 x4 x5 x6 s = some q → rg x6 → E_X14_gatherParts_76 x1 x2 x3 x4 x5 rv σo q → VW cX14_gatherParts (RX14, rv, σo, (some .boolean), 2, 44, 7, []) (P0 []) s 76 [(0, vO 87), (1, vI x1), (2, vI x2), (3, vI x3), (4, vI x4), (5, vI x5), (6, vI x6)] [] := by
  intro n
  induction n with
  | zero => intro x6 s q h; cases h
  | succ n ih =>
    intro x6 s q h rx6 hE
    unfold l_X14_gatherParts_76 at h
    refine v_iload dX14_gatherParts_76 6 rfl ?_
    refine v_aload_n dX14_gatherParts_78 0 rfl rfl ?_
    refine v_getS (f := 135) (t := 177) cf14 oc87 rfl rfl rfl (by decide) q2505 dX14_gatherParts_79 ?_
    refine v_iload_n dX14_gatherParts_82 3 rfl rfl ?_
    obtain ⟨g1, h⟩ := gd_some h
    refine v_iald oc177 rx3 g1.1 g1.2 dX14_gatherParts_83 ?_
    refine v_icmp_ge (tgt := 104) dX14_gatherParts_84 rx6 (gE_rg _ _ _) (by decide) (fun c2 => ?_) (fun c2 => ?_)
    · rw [if_pos c2] at h
      cases h
      refine v_sub [0, 1, 2, 3, 4, 5] (L1 := [(0, vO 87), (1, vI x1), (2, vI x2), (3, vI x3), (4, vI x4), (5, vI x5)]) rfl ?_
      exact hE _ rfl 
    · rw [if_neg c2] at h
      refine v_aload_n dX14_gatherParts_87 0 rfl rfl ?_
      refine v_aload_n dX14_gatherParts_88 0 rfl rfl ?_
      refine v_getS (f := 128) (t := 171) cf14 oc87 rfl rfl rfl (by decide) q2498 dX14_gatherParts_89 ?_
      refine v_iload dX14_gatherParts_92 6 rfl ?_
      obtain ⟨g3, h⟩ := gd_some h
      refine v_iald oc171 rx6 g3.1 g3.2 dX14_gatherParts_94 ?_
      obtain ⟨s4, e5, h⟩ := bdv_some h
      have k6 := c_X14_say e5 (gE_rg _ _ _)
      refine v_callV (st := []) cf14 oc87 k6 (lw_V q3207 q3209 qs230 q311 q3210) rfl yk_X14_say ⟨Nat.le_of_ble_eq_true rfl, Nat.le_of_ble_eq_true rfl⟩ trivial ⟨kc87, trivial⟩ (Nat.le_of_ble_eq_true rfl) rfl dX14_gatherParts_95 ?_
      obtain ⟨y7, e8, h⟩ := vl_some h
      refine v_iinc (L1 := [(6, vI (w32 (x6 + 1))), (0, vO 87), (1, vI x1), (2, vI x2), (3, vI x3), (4, vI x4), (5, vI x5)]) dX14_gatherParts_98 6 rfl (by decide) rfl ?_
      rw [← e8]
      have r9 : rg y7 := by rw [e8]; exact w32_rg _
      refine v_goto (tgt := 76) dX14_gatherParts_101 (by decide) ?_
      refine v_sub [1, 2, 3, 4, 5, 6, 0] (L1 := [(0, vO 87), (1, vI x1), (2, vI x2), (3, vI x3), (4, vI x4), (5, vI x5), (6, vI y7)]) rfl ?_
      exact ih y7 s4 _ h r9 hE

def j_X14_gatherParts_54 (rec : Int → Int → Int → Int → Int → vS → Option (Int × vS)) (x1 : Int) (x2 : Int) (x3 : Int) (x4 : Int) (x5 : Int) (s : vS) : Option (Int × vS) :=
  if x4 = 0 then
    j_X14_gatherParts_104 rec x1 x2 x3 x4 x5 s
  else
    gd (inb x3 (gN s 174)) <|
    if (gZ s 174 x3) = 0 then
      gd (inb x3 (gN s 176)) <|
      vl (gE s 176 x3) fun y5 =>
      lq_0 (l_X14_gatherParts_76 FU x1 x2 x3 x4 x5 y5 s) fun s8 =>
      j_X14_gatherParts_104 rec x1 x2 x3 x4 x5 s8
    else
      j_X14_gatherParts_104 rec x1 x2 x3 x4 x5 s
theorem wj_X14_gatherParts_54 {x1 : Int} {x2 : Int} {x3 : Int} {x4 : Int} {x5 : Int} {s : vS} {rv : Option vA} {σo : vS} {rec : Int → Int → Int → Int → Int → vS → Option (Int × vS)} {q : Int × vS} (h : j_X14_gatherParts_54 rec x1 x2 x3 x4 x5 s = some q)  (rx1 : rg x1) (rx2 : rg x2) (rx3 : rg x3) (rx4 : rg x4) (rx5 : rg x5) (hrec : ∀ (y3 : Int) (y4 : Int) (y5 : Int) (s : vS) (q : Int × vS), rec x1 x2 y3 y4 y5 s = some q → rg y3 → rg y4 → rg y5 → E_X14_gatherParts_13 rv σo q → VW cX14_gatherParts (RX14, rv, σo, (some .boolean), 2, 44, 7, []) (P0 []) s 13 [(0, vO 87), (1, vI x1), (2, vI x2), (3, vI y3), (4, vI y4), (5, vI y5)] []) (hE : E_X14_gatherParts_13 rv σo q) : VW cX14_gatherParts (RX14, rv, σo, (some .boolean), 2, 44, 7, []) (P0 []) s 54 [(0, vO 87), (1, vI x1), (2, vI x2), (3, vI x3), (4, vI x4), (5, vI x5)] [] := by
  unfold j_X14_gatherParts_54 at h
  refine v_iload dX14_gatherParts_54 4 rfl ?_
  refine v_if_eq (tgt := 104) dX14_gatherParts_56 rx4 (by decide) (fun c1 => ?_) (fun c1 => ?_)
  · rw [if_pos c1] at h
    exact wj_X14_gatherParts_104 h rx1 rx2 rx3 rx4 rx5 hrec hE
  · rw [if_neg c1] at h
    refine v_aload_n dX14_gatherParts_59 0 rfl rfl ?_
    refine v_getS (f := 132) (t := 174) cf14 oc87 rfl rfl rfl (by decide) q2502 dX14_gatherParts_60 ?_
    refine v_iload_n dX14_gatherParts_63 3 rfl rfl ?_
    obtain ⟨g2, h⟩ := gd_some h
    refine v_zald oc174 rx3 g2.1 g2.2 dX14_gatherParts_64 ?_
    refine v_if_ne (tgt := 104) dX14_gatherParts_65 (gZ_rg _ _ _) (by decide) (fun c3 => ?_) (fun c3 => ?_)
    · rw [if_neg c3] at h
      exact wj_X14_gatherParts_104 h rx1 rx2 rx3 rx4 rx5 hrec hE
    · rw [if_pos c3] at h
      refine v_aload_n dX14_gatherParts_68 0 rfl rfl ?_
      refine v_getS (f := 134) (t := 176) cf14 oc87 rfl rfl rfl (by decide) q2504 dX14_gatherParts_69 ?_
      refine v_iload_n dX14_gatherParts_72 3 rfl rfl ?_
      obtain ⟨g4, h⟩ := gd_some h
      refine v_iald oc176 rx3 g4.1 g4.2 dX14_gatherParts_73 ?_
      obtain ⟨y5, e6, h⟩ := vl_some h
      rw [← e6]
      have r7 : rg y5 := by rw [e6]; exact gE_rg _ _ _
      refine v_istore (L1 := [(6, vI y5), (0, vO 87), (1, vI x1), (2, vI x2), (3, vI x3), (4, vI x4), (5, vI x5)]) dX14_gatherParts_74 (by decide) rfl ?_
      refine v_sub [1, 2, 3, 4, 5, 6, 0] (L1 := [(0, vO 87), (1, vI x1), (2, vI x2), (3, vI x3), (4, vI x4), (5, vI x5), (6, vI y5)]) rfl ?_
      obtain ⟨s8, e9, h⟩ := lq_0_some h
      refine wl_X14_gatherParts_76 rx1 rx2 rx3 rx4 rx5 FU y5 s _ e9 r7 ?_
      unfold E_X14_gatherParts_76
      intro s8' z_
      cases z_
      exact wj_X14_gatherParts_104 h rx1 rx2 rx3 rx4 rx5 hrec hE

def l_X14_gatherParts_13 : Nat → Int → Int → Int → Int → Int → vS → Option (Int × vS)
  | 0, _, _, _, _, _, _ => none
  | n + 1, x1, x2, x3, x4, x5, s =>
    if x5 = 0 then
      if x4 = 0 then
        some (x4, s)
      else
        if x3 = x1 then
          j_X14_gatherParts_54 (l_X14_gatherParts_13 n) x1 x2 x3 x4 x5 s
        else
          gd (inb x3 (gN s 173)) <|
          if (gE s 173 x3) = 0 then
            gd (inb x3 (gN s 175)) <|
            if (gE s 175 x3) = x2 then
              j_X14_gatherParts_54 (l_X14_gatherParts_13 n) x1 x2 x3 1 x5 s
            else
              j_X14_gatherParts_54 (l_X14_gatherParts_13 n) x1 x2 x3 0 x5 s
          else
            j_X14_gatherParts_54 (l_X14_gatherParts_13 n) x1 x2 x3 0 x5 s
    else
      some (x4, s)
theorem wl_X14_gatherParts_13 {x1 : Int} {x2 : Int} {rv : Option vA} {σo : vS}  (rx1 : rg x1) (rx2 : rg x2) : ∀ (n : Nat) (x3 : Int) (x4 : Int) (x5 : Int) (s : vS) (q : Int × vS), l_X14_gatherParts_13 n x1 x2 x3 x4 x5 s = some q → rg x3 → rg x4 → rg x5 → E_X14_gatherParts_13 rv σo q → VW cX14_gatherParts (RX14, rv, σo, (some .boolean), 2, 44, 7, []) (P0 []) s 13 [(0, vO 87), (1, vI x1), (2, vI x2), (3, vI x3), (4, vI x4), (5, vI x5)] [] := by
  intro n
  induction n with
  | zero => intro x3 x4 x5 s q h; cases h
  | succ n ih =>
    intro x3 x4 x5 s q h rx3 rx4 rx5 hE
    unfold l_X14_gatherParts_13 at h
    refine v_iload dX14_gatherParts_13 5 rfl ?_
    refine v_if_ne (tgt := 168) dX14_gatherParts_15 rx5 (by decide) (fun c1 => ?_) (fun c1 => ?_)
    · rw [if_neg c1] at h
      cases h
      refine v_sub [4] (L1 := [(4, vI x4)]) rfl ?_
      exact hE _ _ rfl rx4
    · rw [if_pos c1] at h
      refine v_iload dX14_gatherParts_18 4 rfl ?_
      refine v_if_eq (tgt := 168) dX14_gatherParts_20 rx4 (by decide) (fun c2 => ?_) (fun c2 => ?_)
      · rw [if_pos c2] at h
        cases h
        refine v_sub [4] (L1 := [(4, vI x4)]) rfl ?_
        exact hE _ _ rfl rx4
      · rw [if_neg c2] at h
        refine v_iload_n dX14_gatherParts_23 3 rfl rfl ?_
        refine v_iload_n dX14_gatherParts_24 1 rfl rfl ?_
        refine v_icmp_eq (tgt := 54) dX14_gatherParts_25 rx3 rx1 (by decide) (fun c3 => ?_) (fun c3 => ?_)
        · rw [if_pos c3] at h
          exact wj_X14_gatherParts_54 h rx1 rx2 rx3 rx4 rx5 ih hE
        · rw [if_neg c3] at h
          refine v_aload_n dX14_gatherParts_28 0 rfl rfl ?_
          refine v_getS (f := 131) (t := 173) cf14 oc87 rfl rfl rfl (by decide) q2501 dX14_gatherParts_29 ?_
          refine v_iload_n dX14_gatherParts_32 3 rfl rfl ?_
          obtain ⟨g4, h⟩ := gd_some h
          refine v_iald oc173 rx3 g4.1 g4.2 dX14_gatherParts_33 ?_
          refine v_if_ne (tgt := 51) dX14_gatherParts_34 (gE_rg _ _ _) (by decide) (fun c5 => ?_) (fun c5 => ?_)
          · rw [if_neg c5] at h
            refine v_iconst dX14_gatherParts_51 ?_
            refine v_istore (L1 := [(4, vI 0), (0, vO 87), (1, vI x1), (2, vI x2), (3, vI x3), (5, vI x5)]) dX14_gatherParts_52 (by decide) rfl ?_
            refine v_sub [1, 2, 3, 4, 0, 5] (L1 := [(0, vO 87), (1, vI x1), (2, vI x2), (3, vI x3), (4, vI 0), (5, vI x5)]) rfl ?_
            exact wj_X14_gatherParts_54 h rx1 rx2 rx3 (rgl rfl) rx5 ih hE
          · rw [if_pos c5] at h
            refine v_aload_n dX14_gatherParts_37 0 rfl rfl ?_
            refine v_getS (f := 133) (t := 175) cf14 oc87 rfl rfl rfl (by decide) q2503 dX14_gatherParts_38 ?_
            refine v_iload_n dX14_gatherParts_41 3 rfl rfl ?_
            obtain ⟨g6, h⟩ := gd_some h
            refine v_iald oc175 rx3 g6.1 g6.2 dX14_gatherParts_42 ?_
            refine v_iload_n dX14_gatherParts_43 2 rfl rfl ?_
            refine v_icmp_ne (tgt := 51) dX14_gatherParts_44 (gE_rg _ _ _) rx2 (by decide) (fun c7 => ?_) (fun c7 => ?_)
            · rw [if_neg c7] at h
              refine v_iconst dX14_gatherParts_51 ?_
              refine v_istore (L1 := [(4, vI 0), (0, vO 87), (1, vI x1), (2, vI x2), (3, vI x3), (5, vI x5)]) dX14_gatherParts_52 (by decide) rfl ?_
              refine v_sub [1, 2, 3, 4, 0, 5] (L1 := [(0, vO 87), (1, vI x1), (2, vI x2), (3, vI x3), (4, vI 0), (5, vI x5)]) rfl ?_
              exact wj_X14_gatherParts_54 h rx1 rx2 rx3 (rgl rfl) rx5 ih hE
            · rw [if_pos c7] at h
              refine v_iconst dX14_gatherParts_47 ?_
              refine v_goto (tgt := 52) dX14_gatherParts_48 (by decide) ?_
              refine v_istore (L1 := [(4, vI 1), (0, vO 87), (1, vI x1), (2, vI x2), (3, vI x3), (5, vI x5)]) dX14_gatherParts_52 (by decide) rfl ?_
              refine v_sub [1, 2, 3, 4, 0, 5] (L1 := [(0, vO 87), (1, vI x1), (2, vI x2), (3, vI x3), (4, vI 1), (5, vI x5)]) rfl ?_
              exact wj_X14_gatherParts_54 h rx1 rx2 rx3 (rgl rfl) rx5 ih hE

def f_X14_gatherParts (x1 : Int) (x2 : Int) (s : vS) : Option (Int × vS) :=
  stp (sI s 87 105 0) fun s1 =>
  lq_1 (l_X14_gatherParts_13 FU x1 x2 x1 1 0 s1) fun y3 s4 =>
  gd (y3 = 0 ∨ y3 = 1) <|
  some (y3, s4)
theorem yk_X14_gatherParts : yOk yX14_gatherParts 2 := ⟨by decide, by decide, by decide +kernel⟩
theorem c_X14_gatherParts {x1 : Int} {x2 : Int} {s : vS} {out : Int × vS} (h : f_X14_gatherParts x1 x2 s = some out)  (rx1 : rg x1) (rx2 : rg x2) : VC yX14_gatherParts cX14_gatherParts 7 (some .boolean) 2 44 [vO 87, vI x1, vI x2] s (some (vI out.1)) out.2 [] := by
  unfold f_X14_gatherParts at h
  refine VC.of RX14 (by decide) rfl (Nat.le_of_ble_eq_true rfl) ?_
  show VW cX14_gatherParts (RX14, (some (vI out.1)), out.2, (some .boolean), 2, 44, 7, []) (P0 []) s 0 [(0, vO 87), (1, vI x1), (2, vI x2)] []
  refine v_aload_n dX14_gatherParts_0 0 rfl rfl ?_
  refine v_iconst dX14_gatherParts_1 ?_
  obtain ⟨s1, e2, h⟩ := stp_some h
  refine v_putI (f := 105) cf14 oc87 rfl (by decide) q2475 dX14_gatherParts_2 rfl rfl ?_
  rw [← e2]
  refine v_iload_n dX14_gatherParts_5 1 rfl rfl ?_
  refine v_istore_n (L1 := [(3, vI x1), (0, vO 87), (1, vI x1), (2, vI x2)]) dX14_gatherParts_6 rfl (by decide) rfl ?_
  refine v_iconst dX14_gatherParts_7 ?_
  refine v_istore (L1 := [(4, vI 1), (3, vI x1), (0, vO 87), (1, vI x1), (2, vI x2)]) dX14_gatherParts_8 (by decide) rfl ?_
  refine v_iconst dX14_gatherParts_10 ?_
  refine v_istore (L1 := [(5, vI 0), (4, vI 1), (3, vI x1), (0, vO 87), (1, vI x1), (2, vI x2)]) dX14_gatherParts_11 (by decide) rfl ?_
  refine v_sub [3, 4, 5, 2, 1, 0] (L1 := [(0, vO 87), (1, vI x1), (2, vI x2), (3, vI x1), (4, vI 1), (5, vI 0)]) rfl ?_
  obtain ⟨y3, s4, e5, h⟩ := lq_1_some h
  refine wl_X14_gatherParts_13 rx1 rx2 FU x1 1 0 s1 _ e5 rx1 (rgl rfl) (rgl rfl) ?_
  unfold E_X14_gatherParts_13
  intro y3' s4' z_ r6
  cases z_
  refine v_iload dX14_gatherParts_168 0 rfl ?_
  obtain ⟨g7, h⟩ := gd_some h
  cases h
  exact v_zret g7 dX14_gatherParts_170

def j_X14_isShortest_37 (s : vS) : Option (Int × vS) :=
  gd (inb 0 (gN s 161)) <|
  if (gE s 161 0) = 255 then
    gd (inb 1 (gN s 161)) <|
    if 127 < (gE s 161 1) then
      some (0, s)
    else
      some (1, s)
  else
    some (1, s)
theorem wj_X14_isShortest_37 {s : vS} {out : Int × vS} (h : j_X14_isShortest_37 s = some out)  : VW cX14_isShortest (RX14, (some (vI out.1)), out.2, (some .boolean), 0, 0, 1, []) (P0 []) s 37 [(0, vO 87)] [] := by
  unfold j_X14_isShortest_37 at h
  refine v_aload_n dX14_isShortest_37 0 rfl rfl ?_
  refine v_getS (f := 106) (t := 161) cf14 oc87 rfl rfl rfl (by decide) q2476 dX14_isShortest_38 ?_
  refine v_iconst dX14_isShortest_41 ?_
  obtain ⟨g1, h⟩ := gd_some h
  refine v_iald oc161 (rgl rfl) g1.1 g1.2 dX14_isShortest_42 ?_
  refine v_sipush dX14_isShortest_43 rfl ?_
  refine v_icmp_ne (tgt := 60) dX14_isShortest_46 (gE_rg _ _ _) (rgl rfl) (by decide) (fun c2 => ?_) (fun c2 => ?_)
  · rw [if_neg c2] at h
    refine v_iconst dX14_isShortest_60 ?_
    refine v_goto (tgt := 65) dX14_isShortest_61 (by decide) ?_
    cases h
    exact v_zret (Or.inr rfl) dX14_isShortest_65
  · rw [if_pos c2] at h
    refine v_aload_n dX14_isShortest_49 0 rfl rfl ?_
    refine v_getS (f := 106) (t := 161) cf14 oc87 rfl rfl rfl (by decide) q2476 dX14_isShortest_50 ?_
    refine v_iconst dX14_isShortest_53 ?_
    obtain ⟨g3, h⟩ := gd_some h
    refine v_iald oc161 (rgl rfl) g3.1 g3.2 dX14_isShortest_54 ?_
    refine v_bipush dX14_isShortest_55 rfl ?_
    refine v_icmp_gt (tgt := 64) dX14_isShortest_57 (gE_rg _ _ _) (rgl rfl) (by decide) (fun c4 => ?_) (fun c4 => ?_)
    · rw [if_pos c4] at h
      refine v_iconst dX14_isShortest_64 ?_
      cases h
      exact v_zret (Or.inl rfl) dX14_isShortest_65
    · rw [if_neg c4] at h
      refine v_iconst dX14_isShortest_60 ?_
      refine v_goto (tgt := 65) dX14_isShortest_61 (by decide) ?_
      cases h
      exact v_zret (Or.inr rfl) dX14_isShortest_65

def f_X14_isShortest (s : vS) : Option (Int × vS) :=
  if (gI s 87 105) = 1 then
    some (1, s)
  else
    if (gI s 87 105) ≤ 1 then
      some (0, s)
    else
      gd (inb 0 (gN s 161)) <|
      if (gE s 161 0) = 0 then
        gd (inb 1 (gN s 161)) <|
        if (gE s 161 1) < 128 then
          some (0, s)
        else
          j_X14_isShortest_37 s
      else
        j_X14_isShortest_37 s
theorem yk_X14_isShortest : yOk yX14_isShortest 0 := ⟨by decide, by decide, by decide +kernel⟩
theorem c_X14_isShortest {s : vS} {out : Int × vS} (h : f_X14_isShortest s = some out)   : VC yX14_isShortest cX14_isShortest 1 (some .boolean) 0 0 [vO 87] s (some (vI out.1)) out.2 [] := by
  unfold f_X14_isShortest at h
  refine VC.of RX14 (by decide) rfl (Nat.le_of_ble_eq_true rfl) ?_
  show VW cX14_isShortest (RX14, (some (vI out.1)), out.2, (some .boolean), 0, 0, 1, []) (P0 []) s 0 [(0, vO 87)] []
  refine v_aload_n dX14_isShortest_0 0 rfl rfl ?_
  refine v_getI (f := 105) cf14 oc87 rfl (by decide) q2475 dX14_isShortest_1 ?_
  refine v_iconst dX14_isShortest_4 ?_
  refine v_icmp_eq (tgt := 60) dX14_isShortest_5 (gI_rg _ _ _) (rgl rfl) (by decide) (fun c1 => ?_) (fun c1 => ?_)
  · rw [if_pos c1] at h
    refine v_iconst dX14_isShortest_60 ?_
    refine v_goto (tgt := 65) dX14_isShortest_61 (by decide) ?_
    cases h
    exact v_zret (Or.inr rfl) dX14_isShortest_65
  · rw [if_neg c1] at h
    refine v_aload_n dX14_isShortest_8 0 rfl rfl ?_
    refine v_getI (f := 105) cf14 oc87 rfl (by decide) q2475 dX14_isShortest_9 ?_
    refine v_iconst dX14_isShortest_12 ?_
    refine v_icmp_le (tgt := 64) dX14_isShortest_13 (gI_rg _ _ _) (rgl rfl) (by decide) (fun c2 => ?_) (fun c2 => ?_)
    · rw [if_pos c2] at h
      refine v_iconst dX14_isShortest_64 ?_
      cases h
      exact v_zret (Or.inl rfl) dX14_isShortest_65
    · rw [if_neg c2] at h
      refine v_aload_n dX14_isShortest_16 0 rfl rfl ?_
      refine v_getS (f := 106) (t := 161) cf14 oc87 rfl rfl rfl (by decide) q2476 dX14_isShortest_17 ?_
      refine v_iconst dX14_isShortest_20 ?_
      obtain ⟨g3, h⟩ := gd_some h
      refine v_iald oc161 (rgl rfl) g3.1 g3.2 dX14_isShortest_21 ?_
      refine v_if_ne (tgt := 37) dX14_isShortest_22 (gE_rg _ _ _) (by decide) (fun c4 => ?_) (fun c4 => ?_)
      · rw [if_neg c4] at h
        exact wj_X14_isShortest_37 h 
      · rw [if_pos c4] at h
        refine v_aload_n dX14_isShortest_25 0 rfl rfl ?_
        refine v_getS (f := 106) (t := 161) cf14 oc87 rfl rfl rfl (by decide) q2476 dX14_isShortest_26 ?_
        refine v_iconst dX14_isShortest_29 ?_
        obtain ⟨g5, h⟩ := gd_some h
        refine v_iald oc161 (rgl rfl) g5.1 g5.2 dX14_isShortest_30 ?_
        refine v_sipush dX14_isShortest_31 rfl ?_
        refine v_icmp_lt (tgt := 64) dX14_isShortest_34 (gE_rg _ _ _) (rgl rfl) (by decide) (fun c6 => ?_) (fun c6 => ?_)
        · rw [if_pos c6] at h
          refine v_iconst dX14_isShortest_64 ?_
          cases h
          exact v_zret (Or.inl rfl) dX14_isShortest_65
        · rw [if_neg c6] at h
          exact wj_X14_isShortest_37 h 

def j_X14_number_48 (x1 : Int) (x2 : Int) (x3 : Int) (x4 : Int) (x5 : Int) (x6 : Int) (s : vS) : Option (vS) :=
  gd (inb x2 (gN s 97)) <|
  if (gE s 97 x2) = 2 then
    bd (f_X14_holds x1 x6 0 s) fun r10 s7 =>
    if r10 = 0 then
      bdv (f_X14_tell 21 x3 s7) fun s17 =>
      stp (sI s17 87 84 x5) fun s20 =>
      stp (sI s20 87 85 x4) fun s22 =>
      some s22
    else
      stp (sI s7 87 84 x5) fun s13 =>
      stp (sI s13 87 85 x4) fun s15 =>
      some s15
  else
    stp (sI s 87 84 x5) fun s3 =>
    stp (sI s3 87 85 x4) fun s5 =>
    some s5
theorem wj_X14_number_48 {x1 : Int} {x2 : Int} {x3 : Int} {x4 : Int} {x5 : Int} {x6 : Int} {s : vS} {out : vS} (h : j_X14_number_48 x1 x2 x3 x4 x5 x6 s = some out)  (rx1 : rg x1) (rx2 : rg x2) (rx3 : rg x3) (rx4 : rg x4) (rx5 : rg x5) (rx6 : rg x6) : VW cX14_number (RX14, none, out, none, 3, 77, 7, []) (P0 []) s 48 [(0, vO 87), (1, vI x1), (2, vI x2), (3, vI x3), (4, vI x4), (5, vI x5), (6, vI x6)] [] := by
  unfold j_X14_number_48 at h
  refine v_aload_n dX14_number_48 0 rfl rfl ?_
  refine v_getS (f := 21) (t := 97) cf14 oc87 rfl rfl rfl (by decide) q2391 dX14_number_49 ?_
  refine v_iload_n dX14_number_52 2 rfl rfl ?_
  obtain ⟨g1, h⟩ := gd_some h
  refine v_iald oc97 rx2 g1.1 g1.2 dX14_number_53 ?_
  refine v_iconst dX14_number_54 ?_
  refine v_icmp_ne (tgt := 76) dX14_number_55 (gE_rg _ _ _) (rgl rfl) (by decide) (fun c2 => ?_) (fun c2 => ?_)
  · rw [if_neg c2] at h
    refine v_aload_n dX14_number_76 0 rfl rfl ?_
    refine v_iload dX14_number_77 5 rfl ?_
    obtain ⟨s3, e4, h⟩ := stp_some h
    refine v_putI (f := 84) cf14 oc87 rfl (by decide) q2454 dX14_number_79 rfl rfl ?_
    rw [← e4]
    refine v_aload_n dX14_number_82 0 rfl rfl ?_
    refine v_iload dX14_number_83 4 rfl ?_
    obtain ⟨s5, e6, h⟩ := stp_some h
    refine v_putI (f := 85) cf14 oc87 rfl (by decide) q2455 dX14_number_85 rfl rfl ?_
    rw [← e6]
    cases h
    exact v_vret dX14_number_88
  · rw [if_pos c2] at h
    refine v_aload_n dX14_number_58 0 rfl rfl ?_
    refine v_iload_n dX14_number_59 1 rfl rfl ?_
    refine v_iload dX14_number_60 6 rfl ?_
    refine v_iconst dX14_number_62 ?_
    obtain ⟨r10, s7, e8, h⟩ := bd_some h
    have k9 := c_X14_holds e8 rx1 rx6 (rgl rfl)
    have r11 : rg r10 := k9.1.2.2
    refine v_callV (st := []) cf14 oc87 k9 (lw_V q3215 q3217 qs232 q311 q3218) rfl yk_X14_holds ⟨Nat.le_of_ble_eq_true rfl, Nat.le_of_ble_eq_true rfl⟩ trivial ⟨kc87, trivial⟩ (Nat.le_of_ble_eq_true rfl) rfl dX14_number_63 ?_
    refine v_if_ne (tgt := 76) dX14_number_66 r11 (by decide) (fun c12 => ?_) (fun c12 => ?_)
    · rw [if_neg c12] at h
      refine v_aload_n dX14_number_76 0 rfl rfl ?_
      refine v_iload dX14_number_77 5 rfl ?_
      obtain ⟨s13, e14, h⟩ := stp_some h
      refine v_putI (f := 84) cf14 oc87 rfl (by decide) q2454 dX14_number_79 rfl rfl ?_
      rw [← e14]
      refine v_aload_n dX14_number_82 0 rfl rfl ?_
      refine v_iload dX14_number_83 4 rfl ?_
      obtain ⟨s15, e16, h⟩ := stp_some h
      refine v_putI (f := 85) cf14 oc87 rfl (by decide) q2455 dX14_number_85 rfl rfl ?_
      rw [← e16]
      cases h
      exact v_vret dX14_number_88
    · rw [if_pos c12] at h
      refine v_aload_n dX14_number_69 0 rfl rfl ?_
      refine v_bipush dX14_number_70 rfl ?_
      refine v_iload_n dX14_number_72 3 rfl rfl ?_
      obtain ⟨s17, e18, h⟩ := bdv_some h
      have k19 := c_X14_tell e18 (rgl rfl) rx3
      refine v_callV (st := []) cf14 oc87 k19 (lw_V q2916 q2918 qs163 q311 q2919) rfl yk_X14_tell ⟨Nat.le_of_ble_eq_true rfl, Nat.le_of_ble_eq_true rfl⟩ trivial ⟨kc87, trivial⟩ (Nat.le_of_ble_eq_true rfl) rfl dX14_number_73 ?_
      refine v_aload_n dX14_number_76 0 rfl rfl ?_
      refine v_iload dX14_number_77 5 rfl ?_
      obtain ⟨s20, e21, h⟩ := stp_some h
      refine v_putI (f := 84) cf14 oc87 rfl (by decide) q2454 dX14_number_79 rfl rfl ?_
      rw [← e21]
      refine v_aload_n dX14_number_82 0 rfl rfl ?_
      refine v_iload dX14_number_83 4 rfl ?_
      obtain ⟨s22, e23, h⟩ := stp_some h
      refine v_putI (f := 85) cf14 oc87 rfl (by decide) q2455 dX14_number_85 rfl rfl ?_
      rw [← e23]
      cases h
      exact v_vret dX14_number_88

def f_X14_number (x1 : Int) (x2 : Int) (x3 : Int) (s : vS) : Option (vS) :=
  vl (gI s 87 85) fun y1 =>
  vl (gI s 87 84) fun y4 =>
  bd (f_X14_pieceNumber s) fun r10 s7 =>
  gd (inb x2 (gN s7 97)) <|
  if (gE s7 97 x2) = 3 then
    bd (f_X14_hasNumber x2 r10 s7) fun r17 s14 =>
    if r17 = 0 then
      bdv (f_X14_tell 23 x3 s14) fun s20 =>
      stp (sI s20 87 84 y4) fun s23 =>
      stp (sI s23 87 85 y1) fun s25 =>
      some s25
    else
      j_X14_number_48 x1 x2 x3 y1 y4 r10 s14
  else
    j_X14_number_48 x1 x2 x3 y1 y4 r10 s7
theorem yk_X14_number : yOk yX14_number 3 := ⟨by decide, by decide, by decide +kernel⟩
theorem c_X14_number {x1 : Int} {x2 : Int} {x3 : Int} {s : vS} {out : vS} (h : f_X14_number x1 x2 x3 s = some out)  (rx1 : rg x1) (rx2 : rg x2) (rx3 : rg x3) : VC yX14_number cX14_number 7 none 3 77 [vO 87, vI x1, vI x2, vI x3] s none out [] := by
  unfold f_X14_number at h
  refine VC.of RX14 (by decide) rfl (Nat.le_of_ble_eq_true rfl) ?_
  show VW cX14_number (RX14, none, out, none, 3, 77, 7, []) (P0 []) s 0 [(0, vO 87), (1, vI x1), (2, vI x2), (3, vI x3)] []
  refine v_aload_n dX14_number_0 0 rfl rfl ?_
  refine v_getI (f := 85) cf14 oc87 rfl (by decide) q2455 dX14_number_1 ?_
  obtain ⟨y1, e2, h⟩ := vl_some h
  rw [← e2]
  have r3 : rg y1 := by rw [e2]; exact gI_rg _ _ _
  refine v_istore (L1 := [(4, vI y1), (0, vO 87), (1, vI x1), (2, vI x2), (3, vI x3)]) dX14_number_4 (by decide) rfl ?_
  refine v_aload_n dX14_number_6 1 rfl rfl ?_
  refine v_getI (f := 84) cf14 oc87 rfl (by decide) q2454 dX14_number_7 ?_
  obtain ⟨y4, e5, h⟩ := vl_some h
  rw [← e5]
  have r6 : rg y4 := by rw [e5]; exact gI_rg _ _ _
  refine v_istore (L1 := [(5, vI y4), (4, vI y1), (0, vO 87), (1, vI x1), (2, vI x2), (3, vI x3)]) dX14_number_10 (by decide) rfl ?_
  refine v_aload_n dX14_number_12 2 rfl rfl ?_
  obtain ⟨r10, s7, e8, h⟩ := bd_some h
  have k9 := c_X14_pieceNumber e8
  have r11 : rg r10 := k9.1.2.2
  refine v_callV (st := []) cf14 oc87 k9 (lw_V q3342 q3344 qs262 q311 q3345) rfl yk_X14_pieceNumber ⟨Nat.le_of_ble_eq_true rfl, Nat.le_of_ble_eq_true rfl⟩ trivial ⟨kc87, trivial⟩ (Nat.le_of_ble_eq_true rfl) rfl dX14_number_13 ?_
  refine v_istore (L1 := [(6, vI r10), (5, vI y4), (4, vI y1), (0, vO 87), (1, vI x1), (2, vI x2), (3, vI x3)]) dX14_number_16 (by decide) rfl ?_
  refine v_aload_n dX14_number_18 3 rfl rfl ?_
  refine v_getS (f := 21) (t := 97) cf14 oc87 rfl rfl rfl (by decide) q2391 dX14_number_19 ?_
  refine v_iload_n dX14_number_22 5 rfl rfl ?_
  obtain ⟨g12, h⟩ := gd_some h
  refine v_iald oc97 rx2 g12.1 g12.2 dX14_number_23 ?_
  refine v_iconst dX14_number_24 ?_
  refine v_icmp_ne (tgt := 48) dX14_number_25 (gE_rg _ _ _) (rgl rfl) (by decide) (fun c13 => ?_) (fun c13 => ?_)
  · rw [if_neg c13] at h
    refine v_sub [3, 4, 5, 6, 2, 1, 0] (L1 := [(0, vO 87), (1, vI x1), (2, vI x2), (3, vI x3), (4, vI y1), (5, vI y4), (6, vI r10)]) rfl ?_
    exact wj_X14_number_48 h rx1 rx2 rx3 r3 r6 r11
  · rw [if_pos c13] at h
    refine v_aload_n dX14_number_28 3 rfl rfl ?_
    refine v_iload_n dX14_number_29 5 rfl rfl ?_
    refine v_iload dX14_number_30 0 rfl ?_
    obtain ⟨r17, s14, e15, h⟩ := bd_some h
    have k16 := c_X14_hasNumber e15 rx2 r11
    have r18 : rg r17 := k16.1.2.2
    refine v_callV (st := []) cf14 oc87 k16 (lw_V q3113 q3115 qs208 q311 q3116) rfl yk_X14_hasNumber ⟨Nat.le_of_ble_eq_true rfl, Nat.le_of_ble_eq_true rfl⟩ trivial ⟨kc87, trivial⟩ (Nat.le_of_ble_eq_true rfl) rfl dX14_number_32 ?_
    refine v_if_ne (tgt := 48) dX14_number_35 r18 (by decide) (fun c19 => ?_) (fun c19 => ?_)
    · rw [if_neg c19] at h
      refine v_sub [3, 4, 5, 6, 2, 1, 0] (L1 := [(0, vO 87), (1, vI x1), (2, vI x2), (3, vI x3), (4, vI y1), (5, vI y4), (6, vI r10)]) rfl ?_
      exact wj_X14_number_48 h rx1 rx2 rx3 r3 r6 r11
    · rw [if_pos c19] at h
      refine v_aload_n dX14_number_38 3 rfl rfl ?_
      refine v_bipush dX14_number_39 rfl ?_
      refine v_iload_n dX14_number_41 6 rfl rfl ?_
      obtain ⟨s20, e21, h⟩ := bdv_some h
      have k22 := c_X14_tell e21 (rgl rfl) rx3
      refine v_callV (st := []) cf14 oc87 k22 (lw_V q2916 q2918 qs163 q311 q2919) rfl yk_X14_tell ⟨Nat.le_of_ble_eq_true rfl, Nat.le_of_ble_eq_true rfl⟩ trivial ⟨kc87, trivial⟩ (Nat.le_of_ble_eq_true rfl) rfl dX14_number_42 ?_
      refine v_goto (tgt := 76) dX14_number_45 (by decide) ?_
      refine v_aload_n dX14_number_76 3 rfl rfl ?_
      refine v_iload dX14_number_77 1 rfl ?_
      obtain ⟨s23, e24, h⟩ := stp_some h
      refine v_putI (f := 84) cf14 oc87 rfl (by decide) q2454 dX14_number_79 rfl rfl ?_
      rw [← e24]
      refine v_aload_n dX14_number_82 3 rfl rfl ?_
      refine v_iload dX14_number_83 2 rfl ?_
      obtain ⟨s25, e26, h⟩ := stp_some h
      refine v_putI (f := 85) cf14 oc87 rfl (by decide) q2455 dX14_number_85 rfl rfl ?_
      rw [← e26]
      cases h
      exact v_vret dX14_number_88

def E_X14_isObject_4 (rv : Option vA) (σo : vS) (q : (Int × vS) ⊕ (Int × vS)) : Prop := (∀ (x1' : Int) (s' : vS), q = .inl (x1', s') → rg x1' → VW cX14_isObject (RX14, rv, σo, (some .boolean), 0, 0, 3, []) (P0 []) s' 54 [(0, vO 87), (1, vI x1')] []) ∧ (∀ (v : Int) (s' : vS), q = .inr (v, s') → rv = some (vI v) ∧ σo = s')
def j_X14_isObject_30 (rec : Int → Int → vS → Option ((Int × vS) ⊕ (Int × vS))) (x2 : Int) (s : vS) : Option ((Int × vS) ⊕ (Int × vS)) :=
  gd (inb x2 (gN s 161)) <|
  if 128 ≤ (gE s 161 x2) then
    vl (w32 (x2 + 1)) fun y3 =>
    rec 0 y3 s
  else
    vl (w32 (x2 + 1)) fun y6 =>
    rec 1 y6 s
theorem wj_X14_isObject_30 {x2 : Int} {s : vS} {rv : Option vA} {σo : vS} {rec : Int → Int → vS → Option ((Int × vS) ⊕ (Int × vS))} {q : (Int × vS) ⊕ (Int × vS)} (h : j_X14_isObject_30 rec x2 s = some q)  (rx2 : rg x2) (hrec : ∀ (y1 : Int) (y2 : Int) (s : vS) (q : (Int × vS) ⊕ (Int × vS)), rec y1 y2 s = some q → rg y1 → rg y2 → E_X14_isObject_4 rv σo q → VW cX14_isObject (RX14, rv, σo, (some .boolean), 0, 0, 3, []) (P0 []) s 4 [(0, vO 87), (1, vI y1), (2, vI y2)] []) (hE : E_X14_isObject_4 rv σo q) : VW cX14_isObject (RX14, rv, σo, (some .boolean), 0, 0, 3, []) (P0 []) s 30 [(0, vO 87), (2, vI x2)] [] := by
  unfold j_X14_isObject_30 at h
  refine v_aload_n dX14_isObject_30 0 rfl rfl ?_
  refine v_getS (f := 106) (t := 161) cf14 oc87 rfl rfl rfl (by decide) q2476 dX14_isObject_31 ?_
  refine v_iload_n dX14_isObject_34 1 rfl rfl ?_
  obtain ⟨g1, h⟩ := gd_some h
  refine v_iald oc161 rx2 g1.1 g1.2 dX14_isObject_35 ?_
  refine v_sipush dX14_isObject_36 rfl ?_
  refine v_icmp_ge (tgt := 46) dX14_isObject_39 (gE_rg _ _ _) (rgl rfl) (by decide) (fun c2 => ?_) (fun c2 => ?_)
  · rw [if_pos c2] at h
    refine v_iconst dX14_isObject_46 ?_
    refine v_istore_n (L1 := [(1, vI 0), (0, vO 87), (2, vI x2)]) dX14_isObject_47 rfl (by decide) rfl ?_
    obtain ⟨y3, e4, h⟩ := vl_some h
    refine v_iinc (L1 := [(2, vI (w32 (x2 + 1))), (1, vI 0), (0, vO 87)]) dX14_isObject_48 2 rfl (by decide) rfl ?_
    rw [← e4]
    have r5 : rg y3 := by rw [e4]; exact w32_rg _
    refine v_goto (tgt := 4) dX14_isObject_51 (by decide) ?_
    refine v_sub [2, 1, 0] (L1 := [(0, vO 87), (1, vI 0), (2, vI y3)]) rfl ?_
    exact hrec 0 y3 s _ h (rgl rfl) r5 hE
  · rw [if_neg c2] at h
    refine v_iconst dX14_isObject_42 ?_
    refine v_goto (tgt := 47) dX14_isObject_43 (by decide) ?_
    refine v_istore_n (L1 := [(1, vI 1), (0, vO 87), (2, vI x2)]) dX14_isObject_47 rfl (by decide) rfl ?_
    obtain ⟨y6, e7, h⟩ := vl_some h
    refine v_iinc (L1 := [(2, vI (w32 (x2 + 1))), (1, vI 1), (0, vO 87)]) dX14_isObject_48 2 rfl (by decide) rfl ?_
    rw [← e7]
    have r8 : rg y6 := by rw [e7]; exact w32_rg _
    refine v_goto (tgt := 4) dX14_isObject_51 (by decide) ?_
    refine v_sub [2, 1, 0] (L1 := [(0, vO 87), (1, vI 1), (2, vI y6)]) rfl ?_
    exact hrec 1 y6 s _ h (rgl rfl) r8 hE

def l_X14_isObject_4 : Nat → Int → Int → vS → Option ((Int × vS) ⊕ (Int × vS))
  | 0, _, _, _ => none
  | n + 1, x1, x2, s =>
    if (gI s 87 105) ≤ x2 then
      some (.inl (x1, s))
    else
      if x1 = 0 then
        j_X14_isObject_30 (l_X14_isObject_4 n) x2 s
      else
        gd (inb x2 (gN s 161)) <|
        if (gE s 161 x2) = 128 then
          some (.inr (0, s))
        else
          j_X14_isObject_30 (l_X14_isObject_4 n) x2 s
theorem wl_X14_isObject_4 {rv : Option vA} {σo : vS}  : ∀ (n : Nat) (x1 : Int) (x2 : Int) (s : vS) (q : (Int × vS) ⊕ (Int × vS)), l_X14_isObject_4 n x1 x2 s = some q → rg x1 → rg x2 → E_X14_isObject_4 rv σo q → VW cX14_isObject (RX14, rv, σo, (some .boolean), 0, 0, 3, []) (P0 []) s 4 [(0, vO 87), (1, vI x1), (2, vI x2)] [] := by
  intro n
  induction n with
  | zero => intro x1 x2 s q h; cases h
  | succ n ih =>
    intro x1 x2 s q h rx1 rx2 hE
    unfold l_X14_isObject_4 at h
    refine v_iload_n dX14_isObject_4 2 rfl rfl ?_
    refine v_aload_n dX14_isObject_5 0 rfl rfl ?_
    refine v_getI (f := 105) cf14 oc87 rfl (by decide) q2475 dX14_isObject_6 ?_
    refine v_icmp_ge (tgt := 54) dX14_isObject_9 rx2 (gI_rg _ _ _) (by decide) (fun c1 => ?_) (fun c1 => ?_)
    · rw [if_pos c1] at h
      cases h
      refine v_sub [0, 1] (L1 := [(0, vO 87), (1, vI x1)]) rfl ?_
      exact hE.1 _ _ rfl rx1
    · rw [if_neg c1] at h
      refine v_iload_n dX14_isObject_12 1 rfl rfl ?_
      refine v_if_eq (tgt := 30) dX14_isObject_13 rx1 (by decide) (fun c2 => ?_) (fun c2 => ?_)
      · rw [if_pos c2] at h
        refine v_sub [0, 2] (L1 := [(0, vO 87), (2, vI x2)]) rfl ?_
        exact wj_X14_isObject_30 h rx2 ih hE
      · rw [if_neg c2] at h
        refine v_aload_n dX14_isObject_16 0 rfl rfl ?_
        refine v_getS (f := 106) (t := 161) cf14 oc87 rfl rfl rfl (by decide) q2476 dX14_isObject_17 ?_
        refine v_iload_n dX14_isObject_20 2 rfl rfl ?_
        obtain ⟨g3, h⟩ := gd_some h
        refine v_iald oc161 rx2 g3.1 g3.2 dX14_isObject_21 ?_
        refine v_sipush dX14_isObject_22 rfl ?_
        refine v_icmp_ne (tgt := 30) dX14_isObject_25 (gE_rg _ _ _) (rgl rfl) (by decide) (fun c4 => ?_) (fun c4 => ?_)
        · rw [if_neg c4] at h
          refine v_sub [0, 2] (L1 := [(0, vO 87), (2, vI x2)]) rfl ?_
          exact wj_X14_isObject_30 h rx2 ih hE
        · rw [if_pos c4] at h
          refine v_iconst dX14_isObject_28 ?_
          cases h
          obtain ⟨z1, z2⟩ := hE.2 _ _ rfl
          subst z1
          subst z2
          exact v_zret (Or.inl rfl) dX14_isObject_29

def f_X14_isObject (s : vS) : Option (Int × vS) :=
  lqs_1 (l_X14_isObject_4 FU 1 0 s) (fun y1 s2 =>
    if (gI s2 87 105) ≤ 0 then
      some (0, s2)
    else
      if y1 = 0 then
        some (0, s2)
      else
        some (1, s2))
    (fun q => some q)
theorem yk_X14_isObject : yOk yX14_isObject 0 := ⟨by decide, by decide, by decide +kernel⟩
theorem c_X14_isObject {s : vS} {out : Int × vS} (h : f_X14_isObject s = some out)   : VC yX14_isObject cX14_isObject 3 (some .boolean) 0 0 [vO 87] s (some (vI out.1)) out.2 [] := by
  unfold f_X14_isObject at h
  refine VC.of RX14 (by decide) rfl (Nat.le_of_ble_eq_true rfl) ?_
  show VW cX14_isObject (RX14, (some (vI out.1)), out.2, (some .boolean), 0, 0, 3, []) (P0 []) s 0 [(0, vO 87)] []
  refine v_iconst dX14_isObject_0 ?_
  refine v_istore_n (L1 := [(1, vI 1), (0, vO 87)]) dX14_isObject_1 rfl (by decide) rfl ?_
  refine v_iconst dX14_isObject_2 ?_
  refine v_istore_n (L1 := [(2, vI 0), (1, vI 1), (0, vO 87)]) dX14_isObject_3 rfl (by decide) rfl ?_
  refine v_sub [2, 1, 0] (L1 := [(0, vO 87), (1, vI 1), (2, vI 0)]) rfl ?_
  rcases lqs_1_some h with ⟨y1, s2, e3, h⟩ | ⟨q9, e3, h⟩
  · refine wl_X14_isObject_4  FU 1 0 s _ e3 (rgl rfl) (rgl rfl) ?_
    unfold E_X14_isObject_4
    refine ⟨?_, fun v9 s9 z_ => (by cases z_)⟩
    intro y1' s2' z_ r4
    cases z_
    refine v_aload_n dX14_isObject_54 0 rfl rfl ?_
    refine v_getI (f := 105) cf14 oc87 rfl (by decide) q2475 dX14_isObject_55 ?_
    refine v_if_le (tgt := 69) dX14_isObject_58 (gI_rg _ _ _) (by decide) (fun c5 => ?_) (fun c5 => ?_)
    · rw [if_pos c5] at h
      refine v_iconst dX14_isObject_69 ?_
      cases h
      exact v_zret (Or.inl rfl) dX14_isObject_70
    · rw [if_neg c5] at h
      refine v_iload_n dX14_isObject_61 1 rfl rfl ?_
      refine v_if_eq (tgt := 69) dX14_isObject_62 r4 (by decide) (fun c6 => ?_) (fun c6 => ?_)
      · rw [if_pos c6] at h
        refine v_iconst dX14_isObject_69 ?_
        cases h
        exact v_zret (Or.inl rfl) dX14_isObject_70
      · rw [if_neg c6] at h
        refine v_iconst dX14_isObject_65 ?_
        refine v_goto (tgt := 70) dX14_isObject_66 (by decide) ?_
        cases h
        exact v_zret (Or.inr rfl) dX14_isObject_70
  · cases h
    refine wl_X14_isObject_4  FU 1 0 s _ e3 (rgl rfl) (rgl rfl) ?_
    unfold E_X14_isObject_4
    refine ⟨fun _ _ z_ => (by cases z_), ?_⟩
    intro v9 s9 z_
    cases z_
    exact ⟨rfl, rfl⟩

def E_X14_countCharacters_4 (rv : Option vA) (σo : vS) (q : (Int × vS) ⊕ (Int × vS)) : Prop := (∀ (x1' : Int) (s' : vS), q = .inl (x1', s') → rg x1' → VW cX14_countCharacters (RX14, rv, σo, (some .int), 1, 22, 7, []) (P0 []) s' 252 [(1, vI x1')] []) ∧ (∀ (v : Int) (s' : vS), q = .inr (v, s') → rv = some (vI v) ∧ σo = s')
def E_X14_countCharacters_116 (x1 : Int) (x2 : Int) (x4 : Int) (rv : Option vA) (σo : vS) (q : (Int × vS) ⊕ (Int × vS)) : Prop := (∀ (x5' : Int) (s' : vS), q = .inl (x5', s') → rg x5' → VW cX14_countCharacters (RX14, rv, σo, (some .int), 1, 22, 7, []) (P0 []) s' 170 [(0, vO 87), (1, vI x1), (2, vI x2), (4, vI x4), (5, vI x5')] []) ∧ (∀ (v : Int) (s' : vS), q = .inr (v, s') → rv = some (vI v) ∧ σo = s')
def l_X14_countCharacters_116 : Nat → Int → Int → Int → Int → Int → vS → Option ((Int × vS) ⊕ (Int × vS))
  | 0, _, _, _, _, _, _ => none
  | n + 1, x1, x2, x4, x5, x6, s =>
    if x4 < x6 then
      some (.inl (x5, s))
    else
      gd (inb (w32 (x2 + x6)) (gN s 161)) <|
      if (and32 (gE s 161 (w32 (x2 + x6))) 192) = 128 then
        gd (inb (w32 (x2 + x6)) (gN s 161)) <|
        vl (or32 (shl32 x5 6) (and32 (gE s 161 (w32 (x2 + x6))) 63)) fun y5 =>
        vl (w32 (x6 + 1)) fun y8 =>
        l_X14_countCharacters_116 n x1 x2 x4 y5 y8 s
      else
        some (.inr ((-1), s))
theorem wl_X14_countCharacters_116 {x1 : Int} {x2 : Int} {x4 : Int} {rv : Option vA} {σo : vS}  (rx1 : rg x1) (rx2 : rg x2) (rx4 : rg x4) : ∀ (n : Nat) (x5 : Int) (x6 : Int) (s : vS) (q : (Int × vS) ⊕ (Int × vS)), l_X14_countCharacters_116 n x1 x2 x4 x5 x6 s = some q → rg x5 → rg x6 → E_X14_countCharacters_116 x1 x2 x4 rv σo q → VW cX14_countCharacters (RX14, rv, σo, (some .int), 1, 22, 7, []) (P0 []) s 116 [(0, vO 87), (1, vI x1), (2, vI x2), (4, vI x4), (5, vI x5), (6, vI x6)] [] := by
  intro n
  induction n with
  | zero => intro x5 x6 s q h; cases h
  | succ n ih =>
    intro x5 x6 s q h rx5 rx6 hE
    unfold l_X14_countCharacters_116 at h
    refine v_iload dX14_countCharacters_116 5 rfl ?_
    refine v_iload dX14_countCharacters_118 3 rfl ?_
    refine v_icmp_gt (tgt := 170) dX14_countCharacters_120 rx6 rx4 (by decide) (fun c1 => ?_) (fun c1 => ?_)
    · rw [if_pos c1] at h
      cases h
      refine v_sub [0, 1, 2, 3, 4] (L1 := [(0, vO 87), (1, vI x1), (2, vI x2), (4, vI x4), (5, vI x5)]) rfl ?_
      exact hE.1 _ _ rfl rx5
    · rw [if_neg c1] at h
      refine v_aload_n dX14_countCharacters_123 0 rfl rfl ?_
      refine v_getS (f := 106) (t := 161) cf14 oc87 rfl rfl rfl (by decide) q2476 dX14_countCharacters_124 ?_
      refine v_iload_n dX14_countCharacters_127 2 rfl rfl ?_
      refine v_iload dX14_countCharacters_128 5 rfl ?_
      refine v_iadd dX14_countCharacters_130 ?_
      obtain ⟨g2, h⟩ := gd_some h
      refine v_iald oc161 (w32_rg _) g2.1 g2.2 dX14_countCharacters_131 ?_
      refine v_sipush dX14_countCharacters_132 rfl ?_
      refine v_iand dX14_countCharacters_135 ?_
      refine v_sipush dX14_countCharacters_136 rfl ?_
      refine v_icmp_eq (tgt := 144) dX14_countCharacters_139 (and32_rg _ _) (rgl rfl) (by decide) (fun c3 => ?_) (fun c3 => ?_)
      · rw [if_pos c3] at h
        refine v_iload dX14_countCharacters_144 4 rfl ?_
        refine v_bipush dX14_countCharacters_146 rfl ?_
        refine v_ishl dX14_countCharacters_148 ?_
        refine v_aload_n dX14_countCharacters_149 0 rfl rfl ?_
        refine v_getS (f := 106) (t := 161) cf14 oc87 rfl rfl rfl (by decide) q2476 dX14_countCharacters_150 ?_
        refine v_iload_n dX14_countCharacters_153 2 rfl rfl ?_
        refine v_iload dX14_countCharacters_154 5 rfl ?_
        refine v_iadd dX14_countCharacters_156 ?_
        obtain ⟨g4, h⟩ := gd_some h
        refine v_iald oc161 (w32_rg _) g4.1 g4.2 dX14_countCharacters_157 ?_
        refine v_bipush dX14_countCharacters_158 rfl ?_
        refine v_iand dX14_countCharacters_160 ?_
        refine v_ior dX14_countCharacters_161 ?_
        obtain ⟨y5, e6, h⟩ := vl_some h
        rw [← e6]
        have r7 : rg y5 := by rw [e6]; exact or32_rg _ _
        refine v_istore (L1 := [(5, vI y5), (0, vO 87), (1, vI x1), (2, vI x2), (4, vI x4), (6, vI x6)]) dX14_countCharacters_162 (by decide) rfl ?_
        obtain ⟨y8, e9, h⟩ := vl_some h
        refine v_iinc (L1 := [(6, vI (w32 (x6 + 1))), (5, vI y5), (0, vO 87), (1, vI x1), (2, vI x2), (4, vI x4)]) dX14_countCharacters_164 5 rfl (by decide) rfl ?_
        rw [← e9]
        have r10 : rg y8 := by rw [e9]; exact w32_rg _
        refine v_goto (tgt := 116) dX14_countCharacters_167 (by decide) ?_
        refine v_sub [2, 3, 4, 5, 1, 0] (L1 := [(0, vO 87), (1, vI x1), (2, vI x2), (4, vI x4), (5, vI y5), (6, vI y8)]) rfl ?_
        exact ih y5 y8 s _ h r7 r10 hE
      · rw [if_neg c3] at h
        refine v_iconst dX14_countCharacters_142 ?_
        cases h
        obtain ⟨z1, z2⟩ := hE.2 _ _ rfl
        subst z1
        subst z2
        exact v_iret (rgl rfl) dX14_countCharacters_143

def j_X14_countCharacters_206 (rec : Int → Int → vS → Option ((Int × vS) ⊕ (Int × vS))) (x1 : Int) (x2 : Int) (x4 : Int) (x5 : Int) (z0 : Int) (s : vS) : Option ((Int × vS) ⊕ (Int × vS)) :=
  if x5 < z0 then
    some (.inr ((-1), s))
  else
    bd (f_X14_within x5 55296 57343 s) fun r5 s2 =>
    if r5 = 0 then
      if x5 ≤ 1114111 then
        vl (w32 (x2 + (w32 (x4 + 1)))) fun y9 =>
        vl (w32 (x1 + 1)) fun y12 =>
        rec y12 y9 s2
      else
        some (.inr ((-1), s2))
    else
      some (.inr ((-1), s2))
theorem wj_X14_countCharacters_206 {x1 : Int} {x2 : Int} {x4 : Int} {x5 : Int} {z0 : Int} {s : vS} {rv : Option vA} {σo : vS} {rec : Int → Int → vS → Option ((Int × vS) ⊕ (Int × vS))} {q : (Int × vS) ⊕ (Int × vS)} (h : j_X14_countCharacters_206 rec x1 x2 x4 x5 z0 s = some q)  (rx1 : rg x1) (rx2 : rg x2) (rx4 : rg x4) (rx5 : rg x5) (rz0 : rg z0) (hrec : ∀ (y1 : Int) (y2 : Int) (s : vS) (q : (Int × vS) ⊕ (Int × vS)), rec y1 y2 s = some q → rg y1 → rg y2 → E_X14_countCharacters_4 rv σo q → VW cX14_countCharacters (RX14, rv, σo, (some .int), 1, 22, 7, []) (P0 []) s 4 [(0, vO 87), (1, vI y1), (2, vI y2)] []) (hE : E_X14_countCharacters_4 rv σo q) : VW cX14_countCharacters (RX14, rv, σo, (some .int), 1, 22, 7, []) (P0 []) s 206 [(0, vO 87), (1, vI x1), (2, vI x2), (4, vI x4), (5, vI x5)] [vI z0] := by
  unfold j_X14_countCharacters_206 at h
  refine v_istore (L1 := [(6, vI z0), (0, vO 87), (1, vI x1), (2, vI x2), (4, vI x4), (5, vI x5)]) dX14_countCharacters_206 (by decide) rfl ?_
  refine v_iload dX14_countCharacters_208 5 rfl ?_
  refine v_iload dX14_countCharacters_210 0 rfl ?_
  refine v_icmp_lt (tgt := 237) dX14_countCharacters_212 rx5 rz0 (by decide) (fun c1 => ?_) (fun c1 => ?_)
  · rw [if_pos c1] at h
    refine v_iconst dX14_countCharacters_237 ?_
    cases h
    obtain ⟨z1, z2⟩ := hE.2 _ _ rfl
    subst z1
    subst z2
    exact v_iret (rgl rfl) dX14_countCharacters_238
  · rw [if_neg c1] at h
    refine v_iload dX14_countCharacters_215 5 rfl ?_
    refine v_ldcw (n := 55296) dX14_countCharacters_217 q3442 rfl ?_
    refine v_ldcw (n := 57343) dX14_countCharacters_220 q3443 rfl ?_
    obtain ⟨r5, s2, e3, h⟩ := bd_some h
    have k4 := c_X14_within e3 rx5 (rgl rfl) (rgl rfl)
    have r6 : rg r5 := k4.1.2.2
    refine v_callS (st := []) k4 (lw_S q2878 q2879 q311 q2880) yk_X14_within ⟨Nat.le_of_ble_eq_true rfl, Nat.le_of_ble_eq_true rfl⟩ trivial ⟨kc87, trivial⟩ (Nat.le_of_ble_eq_true rfl) rfl dX14_countCharacters_223 ?_
    refine v_if_ne (tgt := 237) dX14_countCharacters_226 r6 (by decide) (fun c7 => ?_) (fun c7 => ?_)
    · rw [if_neg c7] at h
      refine v_iconst dX14_countCharacters_237 ?_
      cases h
      obtain ⟨z1, z2⟩ := hE.2 _ _ rfl
      subst z1
      subst z2
      exact v_iret (rgl rfl) dX14_countCharacters_238
    · rw [if_pos c7] at h
      refine v_iload dX14_countCharacters_229 5 rfl ?_
      refine v_ldcw (n := 1114111) dX14_countCharacters_231 q3444 rfl ?_
      refine v_icmp_le (tgt := 239) dX14_countCharacters_234 rx5 (rgl rfl) (by decide) (fun c8 => ?_) (fun c8 => ?_)
      · rw [if_pos c8] at h
        refine v_iload_n dX14_countCharacters_239 3 rfl rfl ?_
        refine v_iload dX14_countCharacters_240 4 rfl ?_
        refine v_iconst dX14_countCharacters_242 ?_
        refine v_iadd dX14_countCharacters_243 ?_
        refine v_iadd dX14_countCharacters_244 ?_
        obtain ⟨y9, e10, h⟩ := vl_some h
        rw [← e10]
        have r11 : rg y9 := by rw [e10]; exact w32_rg _
        refine v_istore_n (L1 := [(2, vI y9), (6, vI z0), (0, vO 87), (1, vI x1), (4, vI x4), (5, vI x5)]) dX14_countCharacters_245 rfl (by decide) rfl ?_
        obtain ⟨y12, e13, h⟩ := vl_some h
        refine v_iinc (L1 := [(1, vI (w32 (x1 + 1))), (2, vI y9), (6, vI z0), (0, vO 87), (4, vI x4), (5, vI x5)]) dX14_countCharacters_246 3 rfl (by decide) rfl ?_
        rw [← e13]
        have r14 : rg y12 := by rw [e13]; exact w32_rg _
        refine v_goto (tgt := 4) dX14_countCharacters_249 (by decide) ?_
        refine v_sub [3, 0, 1] (L1 := [(0, vO 87), (1, vI y12), (2, vI y9)]) rfl ?_
        exact hrec y12 y9 s2 _ h r14 r11 hE
      · rw [if_neg c8] at h
        refine v_iconst dX14_countCharacters_237 ?_
        cases h
        obtain ⟨z1, z2⟩ := hE.2 _ _ rfl
        subst z1
        subst z2
        exact v_iret (rgl rfl) dX14_countCharacters_238

def j_X14_countCharacters_75 (rec : Int → Int → vS → Option ((Int × vS) ⊕ (Int × vS))) (x1 : Int) (x2 : Int) (x3 : Int) (z0 : Int) (s : vS) : Option ((Int × vS) ⊕ (Int × vS)) :=
  if z0 < 0 then
    some (.inr ((-1), s))
  else
    if (w32 (x2 + z0)) < (gI s 87 105) then
      if z0 = 0 then
        lqs_1 (l_X14_countCharacters_116 FU x1 x2 z0 x3 1 s) (fun y14 s15 =>
          if z0 = 0 then
            j_X14_countCharacters_206 rec x1 x2 z0 y14 0 s15
          else
            if z0 = 1 then
              j_X14_countCharacters_206 rec x1 x2 z0 y14 128 s15
            else
              if z0 = 2 then
                j_X14_countCharacters_206 rec x1 x2 z0 y14 2048 s15
              else
                j_X14_countCharacters_206 rec x1 x2 z0 y14 65536 s15)
          (fun q => some (.inr q))
      else
        vl (and32 x3 (shr32 63 z0)) fun y4 =>
        lqs_1 (l_X14_countCharacters_116 FU x1 x2 z0 y4 1 s) (fun y7 s8 =>
          if z0 = 0 then
            j_X14_countCharacters_206 rec x1 x2 z0 y7 0 s8
          else
            if z0 = 1 then
              j_X14_countCharacters_206 rec x1 x2 z0 y7 128 s8
            else
              if z0 = 2 then
                j_X14_countCharacters_206 rec x1 x2 z0 y7 2048 s8
              else
                j_X14_countCharacters_206 rec x1 x2 z0 y7 65536 s8)
          (fun q => some (.inr q))
    else
      some (.inr ((-1), s))
theorem wj_X14_countCharacters_75 {x1 : Int} {x2 : Int} {x3 : Int} {z0 : Int} {s : vS} {rv : Option vA} {σo : vS} {rec : Int → Int → vS → Option ((Int × vS) ⊕ (Int × vS))} {q : (Int × vS) ⊕ (Int × vS)} (h : j_X14_countCharacters_75 rec x1 x2 x3 z0 s = some q)  (rx1 : rg x1) (rx2 : rg x2) (rx3 : rg x3) (rz0 : rg z0) (hrec : ∀ (y1 : Int) (y2 : Int) (s : vS) (q : (Int × vS) ⊕ (Int × vS)), rec y1 y2 s = some q → rg y1 → rg y2 → E_X14_countCharacters_4 rv σo q → VW cX14_countCharacters (RX14, rv, σo, (some .int), 1, 22, 7, []) (P0 []) s 4 [(0, vO 87), (1, vI y1), (2, vI y2)] []) (hE : E_X14_countCharacters_4 rv σo q) : VW cX14_countCharacters (RX14, rv, σo, (some .int), 1, 22, 7, []) (P0 []) s 75 [(0, vO 87), (1, vI x1), (2, vI x2), (3, vI x3)] [vI z0] := by
  unfold j_X14_countCharacters_75 at h
  refine v_istore (L1 := [(4, vI z0), (0, vO 87), (1, vI x1), (2, vI x2), (3, vI x3)]) dX14_countCharacters_75 (by decide) rfl ?_
  refine v_iload dX14_countCharacters_77 0 rfl ?_
  refine v_if_lt (tgt := 93) dX14_countCharacters_79 rz0 (by decide) (fun c1 => ?_) (fun c1 => ?_)
  · rw [if_pos c1] at h
    refine v_iconst dX14_countCharacters_93 ?_
    cases h
    obtain ⟨z1, z2⟩ := hE.2 _ _ rfl
    subst z1
    subst z2
    exact v_iret (rgl rfl) dX14_countCharacters_94
  · rw [if_neg c1] at h
    refine v_iload_n dX14_countCharacters_82 3 rfl rfl ?_
    refine v_iload dX14_countCharacters_83 0 rfl ?_
    refine v_iadd dX14_countCharacters_85 ?_
    refine v_aload_n dX14_countCharacters_86 1 rfl rfl ?_
    refine v_getI (f := 105) cf14 oc87 rfl (by decide) q2475 dX14_countCharacters_87 ?_
    refine v_icmp_lt (tgt := 95) dX14_countCharacters_90 (w32_rg _) (gI_rg _ _ _) (by decide) (fun c2 => ?_) (fun c2 => ?_)
    · rw [if_pos c2] at h
      refine v_iload dX14_countCharacters_95 0 rfl ?_
      refine v_if_ne (tgt := 104) dX14_countCharacters_97 rz0 (by decide) (fun c3 => ?_) (fun c3 => ?_)
      · rw [if_neg c3] at h
        refine v_iload_n dX14_countCharacters_104 4 rfl rfl ?_
        refine v_bipush dX14_countCharacters_105 rfl ?_
        refine v_iload dX14_countCharacters_107 0 rfl ?_
        refine v_ishr dX14_countCharacters_109 ?_
        refine v_iand dX14_countCharacters_110 ?_
        obtain ⟨y4, e5, h⟩ := vl_some h
        rw [← e5]
        have r6 : rg y4 := by rw [e5]; exact and32_rg _ _
        refine v_istore (L1 := [(5, vI y4), (4, vI z0), (0, vO 87), (1, vI x1), (2, vI x2), (3, vI x3)]) dX14_countCharacters_111 (by decide) rfl ?_
        refine v_iconst dX14_countCharacters_113 ?_
        refine v_istore (L1 := [(6, vI 1), (5, vI y4), (4, vI z0), (0, vO 87), (1, vI x1), (2, vI x2), (3, vI x3)]) dX14_countCharacters_114 (by decide) rfl ?_
        refine v_sub [3, 4, 5, 2, 1, 0] (L1 := [(0, vO 87), (1, vI x1), (2, vI x2), (4, vI z0), (5, vI y4), (6, vI 1)]) rfl ?_
        rcases lqs_1_some h with ⟨y7, s8, e9, h⟩ | ⟨q9, e9, h⟩
        · refine wl_X14_countCharacters_116 rx1 rx2 rz0 FU y4 1 s _ e9 r6 (rgl rfl) ?_
          unfold E_X14_countCharacters_116
          refine ⟨?_, fun v9 s9 z_ => (by cases z_)⟩
          intro y7' s8' z_ r10
          cases z_
          refine v_iload dX14_countCharacters_170 3 rfl ?_
          refine v_if_ne (tgt := 179) dX14_countCharacters_172 rz0 (by decide) (fun c11 => ?_) (fun c11 => ?_)
          · rw [if_neg c11] at h
            refine v_iload dX14_countCharacters_179 3 rfl ?_
            refine v_iconst dX14_countCharacters_181 ?_
            refine v_icmp_ne (tgt := 191) dX14_countCharacters_182 rz0 (rgl rfl) (by decide) (fun c12 => ?_) (fun c12 => ?_)
            · rw [if_neg c12] at h
              refine v_iload dX14_countCharacters_191 3 rfl ?_
              refine v_iconst dX14_countCharacters_193 ?_
              refine v_icmp_ne (tgt := 203) dX14_countCharacters_194 rz0 (rgl rfl) (by decide) (fun c13 => ?_) (fun c13 => ?_)
              · rw [if_neg c13] at h
                refine v_ldcw (n := 65536) dX14_countCharacters_203 q3441 rfl ?_
                exact wj_X14_countCharacters_206 h rx1 rx2 rz0 r10 (rgl rfl) hrec hE
              · rw [if_pos c13] at h
                refine v_sipush dX14_countCharacters_197 rfl ?_
                refine v_goto (tgt := 206) dX14_countCharacters_200 (by decide) ?_
                exact wj_X14_countCharacters_206 h rx1 rx2 rz0 r10 (rgl rfl) hrec hE
            · rw [if_pos c12] at h
              refine v_sipush dX14_countCharacters_185 rfl ?_
              refine v_goto (tgt := 206) dX14_countCharacters_188 (by decide) ?_
              exact wj_X14_countCharacters_206 h rx1 rx2 rz0 r10 (rgl rfl) hrec hE
          · rw [if_pos c11] at h
            refine v_iconst dX14_countCharacters_175 ?_
            refine v_goto (tgt := 206) dX14_countCharacters_176 (by decide) ?_
            exact wj_X14_countCharacters_206 h rx1 rx2 rz0 r10 (rgl rfl) hrec hE
        · cases h
          refine wl_X14_countCharacters_116 rx1 rx2 rz0 FU y4 1 s _ e9 r6 (rgl rfl) ?_
          unfold E_X14_countCharacters_116
          refine ⟨fun _ _ z_ => (by cases z_), ?_⟩
          intro v9 s9 z_
          cases z_
          exact hE.2 _ _ rfl
      · rw [if_pos c3] at h
        refine v_iload_n dX14_countCharacters_100 4 rfl rfl ?_
        refine v_goto (tgt := 111) dX14_countCharacters_101 (by decide) ?_
        refine v_istore (L1 := [(5, vI x3), (4, vI z0), (0, vO 87), (1, vI x1), (2, vI x2), (3, vI x3)]) dX14_countCharacters_111 (by decide) rfl ?_
        refine v_iconst dX14_countCharacters_113 ?_
        refine v_istore (L1 := [(6, vI 1), (5, vI x3), (4, vI z0), (0, vO 87), (1, vI x1), (2, vI x2), (3, vI x3)]) dX14_countCharacters_114 (by decide) rfl ?_
        refine v_sub [3, 4, 5, 2, 1, 0] (L1 := [(0, vO 87), (1, vI x1), (2, vI x2), (4, vI z0), (5, vI x3), (6, vI 1)]) rfl ?_
        rcases lqs_1_some h with ⟨y14, s15, e16, h⟩ | ⟨q9, e16, h⟩
        · refine wl_X14_countCharacters_116 rx1 rx2 rz0 FU x3 1 s _ e16 rx3 (rgl rfl) ?_
          unfold E_X14_countCharacters_116
          refine ⟨?_, fun v9 s9 z_ => (by cases z_)⟩
          intro y14' s15' z_ r17
          cases z_
          refine v_iload dX14_countCharacters_170 3 rfl ?_
          refine v_if_ne (tgt := 179) dX14_countCharacters_172 rz0 (by decide) (fun c18 => ?_) (fun c18 => ?_)
          · rw [if_neg c18] at h
            refine v_iload dX14_countCharacters_179 3 rfl ?_
            refine v_iconst dX14_countCharacters_181 ?_
            refine v_icmp_ne (tgt := 191) dX14_countCharacters_182 rz0 (rgl rfl) (by decide) (fun c19 => ?_) (fun c19 => ?_)
            · rw [if_neg c19] at h
              refine v_iload dX14_countCharacters_191 3 rfl ?_
              refine v_iconst dX14_countCharacters_193 ?_
              refine v_icmp_ne (tgt := 203) dX14_countCharacters_194 rz0 (rgl rfl) (by decide) (fun c20 => ?_) (fun c20 => ?_)
              · rw [if_neg c20] at h
                refine v_ldcw (n := 65536) dX14_countCharacters_203 q3441 rfl ?_
                exact wj_X14_countCharacters_206 h rx1 rx2 rz0 r17 (rgl rfl) hrec hE
              · rw [if_pos c20] at h
                refine v_sipush dX14_countCharacters_197 rfl ?_
                refine v_goto (tgt := 206) dX14_countCharacters_200 (by decide) ?_
                exact wj_X14_countCharacters_206 h rx1 rx2 rz0 r17 (rgl rfl) hrec hE
            · rw [if_pos c19] at h
              refine v_sipush dX14_countCharacters_185 rfl ?_
              refine v_goto (tgt := 206) dX14_countCharacters_188 (by decide) ?_
              exact wj_X14_countCharacters_206 h rx1 rx2 rz0 r17 (rgl rfl) hrec hE
          · rw [if_pos c18] at h
            refine v_iconst dX14_countCharacters_175 ?_
            refine v_goto (tgt := 206) dX14_countCharacters_176 (by decide) ?_
            exact wj_X14_countCharacters_206 h rx1 rx2 rz0 r17 (rgl rfl) hrec hE
        · cases h
          refine wl_X14_countCharacters_116 rx1 rx2 rz0 FU x3 1 s _ e16 rx3 (rgl rfl) ?_
          unfold E_X14_countCharacters_116
          refine ⟨fun _ _ z_ => (by cases z_), ?_⟩
          intro v9 s9 z_
          cases z_
          exact hE.2 _ _ rfl
    · rw [if_neg c2] at h
      refine v_iconst dX14_countCharacters_93 ?_
      cases h
      obtain ⟨z1, z2⟩ := hE.2 _ _ rfl
      subst z1
      subst z2
      exact v_iret (rgl rfl) dX14_countCharacters_94

def l_X14_countCharacters_4 : Nat → Int → Int → vS → Option ((Int × vS) ⊕ (Int × vS))
  | 0, _, _, _ => none
  | n + 1, x1, x2, s =>
    if (gI s 87 105) ≤ x2 then
      some (.inl (x1, s))
    else
      gd (inb x2 (gN s 161)) <|
      vl (gE s 161 x2) fun y3 =>
      if 128 ≤ y3 then
        if 192 ≤ y3 then
          if 224 ≤ y3 then
            if 240 ≤ y3 then
              if 248 ≤ y3 then
                j_X14_countCharacters_75 (l_X14_countCharacters_4 n) x1 x2 y3 (-1) s
              else
                j_X14_countCharacters_75 (l_X14_countCharacters_4 n) x1 x2 y3 3 s
            else
              j_X14_countCharacters_75 (l_X14_countCharacters_4 n) x1 x2 y3 2 s
          else
            j_X14_countCharacters_75 (l_X14_countCharacters_4 n) x1 x2 y3 1 s
        else
          j_X14_countCharacters_75 (l_X14_countCharacters_4 n) x1 x2 y3 (-1) s
      else
        j_X14_countCharacters_75 (l_X14_countCharacters_4 n) x1 x2 y3 0 s
theorem wl_X14_countCharacters_4 {rv : Option vA} {σo : vS}  : ∀ (n : Nat) (x1 : Int) (x2 : Int) (s : vS) (q : (Int × vS) ⊕ (Int × vS)), l_X14_countCharacters_4 n x1 x2 s = some q → rg x1 → rg x2 → E_X14_countCharacters_4 rv σo q → VW cX14_countCharacters (RX14, rv, σo, (some .int), 1, 22, 7, []) (P0 []) s 4 [(0, vO 87), (1, vI x1), (2, vI x2)] [] := by
  intro n
  induction n with
  | zero => intro x1 x2 s q h; cases h
  | succ n ih =>
    intro x1 x2 s q h rx1 rx2 hE
    unfold l_X14_countCharacters_4 at h
    refine v_iload_n dX14_countCharacters_4 2 rfl rfl ?_
    refine v_aload_n dX14_countCharacters_5 0 rfl rfl ?_
    refine v_getI (f := 105) cf14 oc87 rfl (by decide) q2475 dX14_countCharacters_6 ?_
    refine v_icmp_ge (tgt := 252) dX14_countCharacters_9 rx2 (gI_rg _ _ _) (by decide) (fun c1 => ?_) (fun c1 => ?_)
    · rw [if_pos c1] at h
      cases h
      refine v_sub [1] (L1 := [(1, vI x1)]) rfl ?_
      exact hE.1 _ _ rfl rx1
    · rw [if_neg c1] at h
      refine v_aload_n dX14_countCharacters_12 0 rfl rfl ?_
      refine v_getS (f := 106) (t := 161) cf14 oc87 rfl rfl rfl (by decide) q2476 dX14_countCharacters_13 ?_
      refine v_iload_n dX14_countCharacters_16 2 rfl rfl ?_
      obtain ⟨g2, h⟩ := gd_some h
      refine v_iald oc161 rx2 g2.1 g2.2 dX14_countCharacters_17 ?_
      obtain ⟨y3, e4, h⟩ := vl_some h
      rw [← e4]
      have r5 : rg y3 := by rw [e4]; exact gE_rg _ _ _
      refine v_istore_n (L1 := [(3, vI y3), (0, vO 87), (1, vI x1), (2, vI x2)]) dX14_countCharacters_18 rfl (by decide) rfl ?_
      refine v_iload_n dX14_countCharacters_19 0 rfl rfl ?_
      refine v_sipush dX14_countCharacters_20 rfl ?_
      refine v_icmp_ge (tgt := 30) dX14_countCharacters_23 r5 (rgl rfl) (by decide) (fun c6 => ?_) (fun c6 => ?_)
      · rw [if_pos c6] at h
        refine v_iload_n dX14_countCharacters_30 0 rfl rfl ?_
        refine v_sipush dX14_countCharacters_31 rfl ?_
        refine v_icmp_ge (tgt := 41) dX14_countCharacters_34 r5 (rgl rfl) (by decide) (fun c7 => ?_) (fun c7 => ?_)
        · rw [if_pos c7] at h
          refine v_iload_n dX14_countCharacters_41 0 rfl rfl ?_
          refine v_sipush dX14_countCharacters_42 rfl ?_
          refine v_icmp_ge (tgt := 52) dX14_countCharacters_45 r5 (rgl rfl) (by decide) (fun c8 => ?_) (fun c8 => ?_)
          · rw [if_pos c8] at h
            refine v_iload_n dX14_countCharacters_52 0 rfl rfl ?_
            refine v_sipush dX14_countCharacters_53 rfl ?_
            refine v_icmp_ge (tgt := 63) dX14_countCharacters_56 r5 (rgl rfl) (by decide) (fun c9 => ?_) (fun c9 => ?_)
            · rw [if_pos c9] at h
              refine v_iload_n dX14_countCharacters_63 0 rfl rfl ?_
              refine v_sipush dX14_countCharacters_64 rfl ?_
              refine v_icmp_ge (tgt := 74) dX14_countCharacters_67 r5 (rgl rfl) (by decide) (fun c10 => ?_) (fun c10 => ?_)
              · rw [if_pos c10] at h
                refine v_iconst dX14_countCharacters_74 ?_
                refine v_sub [1, 2, 3, 0] (L1 := [(0, vO 87), (1, vI x1), (2, vI x2), (3, vI y3)]) rfl ?_
                exact wj_X14_countCharacters_75 h rx1 rx2 r5 (rgl rfl) ih hE
              · rw [if_neg c10] at h
                refine v_iconst dX14_countCharacters_70 ?_
                refine v_goto (tgt := 75) dX14_countCharacters_71 (by decide) ?_
                refine v_sub [1, 2, 3, 0] (L1 := [(0, vO 87), (1, vI x1), (2, vI x2), (3, vI y3)]) rfl ?_
                exact wj_X14_countCharacters_75 h rx1 rx2 r5 (rgl rfl) ih hE
            · rw [if_neg c9] at h
              refine v_iconst dX14_countCharacters_59 ?_
              refine v_goto (tgt := 75) dX14_countCharacters_60 (by decide) ?_
              refine v_sub [1, 2, 3, 0] (L1 := [(0, vO 87), (1, vI x1), (2, vI x2), (3, vI y3)]) rfl ?_
              exact wj_X14_countCharacters_75 h rx1 rx2 r5 (rgl rfl) ih hE
          · rw [if_neg c8] at h
            refine v_iconst dX14_countCharacters_48 ?_
            refine v_goto (tgt := 75) dX14_countCharacters_49 (by decide) ?_
            refine v_sub [1, 2, 3, 0] (L1 := [(0, vO 87), (1, vI x1), (2, vI x2), (3, vI y3)]) rfl ?_
            exact wj_X14_countCharacters_75 h rx1 rx2 r5 (rgl rfl) ih hE
        · rw [if_neg c7] at h
          refine v_iconst dX14_countCharacters_37 ?_
          refine v_goto (tgt := 75) dX14_countCharacters_38 (by decide) ?_
          refine v_sub [1, 2, 3, 0] (L1 := [(0, vO 87), (1, vI x1), (2, vI x2), (3, vI y3)]) rfl ?_
          exact wj_X14_countCharacters_75 h rx1 rx2 r5 (rgl rfl) ih hE
      · rw [if_neg c6] at h
        refine v_iconst dX14_countCharacters_26 ?_
        refine v_goto (tgt := 75) dX14_countCharacters_27 (by decide) ?_
        refine v_sub [1, 2, 3, 0] (L1 := [(0, vO 87), (1, vI x1), (2, vI x2), (3, vI y3)]) rfl ?_
        exact wj_X14_countCharacters_75 h rx1 rx2 r5 (rgl rfl) ih hE

def f_X14_countCharacters (s : vS) : Option (Int × vS) :=
  lqs_1 (l_X14_countCharacters_4 FU 0 0 s) (fun y1 s2 =>
    some (y1, s2))
    (fun q => some q)
theorem yk_X14_countCharacters : yOk yX14_countCharacters 0 := ⟨by decide, by decide, by decide +kernel⟩
theorem c_X14_countCharacters {s : vS} {out : Int × vS} (h : f_X14_countCharacters s = some out)   : VC yX14_countCharacters cX14_countCharacters 7 (some .int) 1 22 [vO 87] s (some (vI out.1)) out.2 [] := by
  unfold f_X14_countCharacters at h
  refine VC.of RX14 (by decide) rfl (Nat.le_of_ble_eq_true rfl) ?_
  show VW cX14_countCharacters (RX14, (some (vI out.1)), out.2, (some .int), 1, 22, 7, []) (P0 []) s 0 [(0, vO 87)] []
  refine v_iconst dX14_countCharacters_0 ?_
  refine v_istore_n (L1 := [(1, vI 0), (0, vO 87)]) dX14_countCharacters_1 rfl (by decide) rfl ?_
  refine v_iconst dX14_countCharacters_2 ?_
  refine v_istore_n (L1 := [(2, vI 0), (1, vI 0), (0, vO 87)]) dX14_countCharacters_3 rfl (by decide) rfl ?_
  refine v_sub [2, 1, 0] (L1 := [(0, vO 87), (1, vI 0), (2, vI 0)]) rfl ?_
  rcases lqs_1_some h with ⟨y1, s2, e3, h⟩ | ⟨q9, e3, h⟩
  · refine wl_X14_countCharacters_4  FU 0 0 s _ e3 (rgl rfl) (rgl rfl) ?_
    unfold E_X14_countCharacters_4
    refine ⟨?_, fun v9 s9 z_ => (by cases z_)⟩
    intro y1' s2' z_ r4
    cases z_
    refine v_iload_n dX14_countCharacters_252 0 rfl rfl ?_
    cases h
    exact v_iret r4 dX14_countCharacters_253
  · cases h
    refine wl_X14_countCharacters_4  FU 0 0 s _ e3 (rgl rfl) (rgl rfl) ?_
    unfold E_X14_countCharacters_4
    refine ⟨fun _ _ z_ => (by cases z_), ?_⟩
    intro v9 s9 z_
    cases z_
    exact ⟨rfl, rfl⟩

def j_X14_string_29 (x3 : Int) (z0 : Int) (s : vS) : Option (vS) :=
  if z0 ≤ 0 then
    some s
  else
    bdv (f_X14_tell z0 x3 s) fun s2 =>
    some s2
theorem wj_X14_string_29 {x3 : Int} {z0 : Int} {s : vS} {out : vS} (h : j_X14_string_29 x3 z0 s = some out)  (rx3 : rg x3) (rz0 : rg z0) : VW cX14_string (RX14, none, out, none, 5, 114, 7, []) (P0 []) s 29 [(0, vO 87), (3, vI x3)] [vI z0] := by
  unfold j_X14_string_29 at h
  refine v_istore (L1 := [(4, vI z0), (0, vO 87), (3, vI x3)]) dX14_string_29 (by decide) rfl ?_
  refine v_iload dX14_string_31 0 rfl ?_
  refine v_if_le (tgt := 43) dX14_string_33 rz0 (by decide) (fun c1 => ?_) (fun c1 => ?_)
  · rw [if_pos c1] at h
    cases h
    exact v_vret dX14_string_43
  · rw [if_neg c1] at h
    refine v_aload_n dX14_string_36 1 rfl rfl ?_
    refine v_iload dX14_string_37 0 rfl ?_
    refine v_iload_n dX14_string_39 2 rfl rfl ?_
    obtain ⟨s2, e3, h⟩ := bdv_some h
    have k4 := c_X14_tell e3 rz0 rx3
    refine v_callV (st := []) cf14 oc87 k4 (lw_V q2916 q2918 qs163 q311 q2919) rfl yk_X14_tell ⟨Nat.le_of_ble_eq_true rfl, Nat.le_of_ble_eq_true rfl⟩ trivial ⟨kc87, trivial⟩ (Nat.le_of_ble_eq_true rfl) rfl dX14_string_40 ?_
    cases h
    exact v_vret dX14_string_43

def j_X14_string_12 (x2 : Int) (x3 : Int) (s : vS) : Option (vS) :=
  if x2 = 10 then
    bd (f_X14_utcTime s) fun r10 s7 =>
    j_X14_string_29 x3 r10 s7
  else
    bd (f_X14_generalTime s) fun r5 s2 =>
    j_X14_string_29 x3 r5 s2
theorem wj_X14_string_12 {x2 : Int} {x3 : Int} {s : vS} {out : vS} (h : j_X14_string_12 x2 x3 s = some out)  (rx2 : rg x2) (rx3 : rg x3) : VW cX14_string (RX14, none, out, none, 5, 114, 7, []) (P0 []) s 12 [(0, vO 87), (2, vI x2), (3, vI x3)] [] := by
  unfold j_X14_string_12 at h
  refine v_iload_n dX14_string_12 1 rfl rfl ?_
  refine v_bipush dX14_string_13 rfl ?_
  refine v_icmp_ne (tgt := 25) dX14_string_15 rx2 (rgl rfl) (by decide) (fun c1 => ?_) (fun c1 => ?_)
  · rw [if_neg c1] at h
    refine v_aload_n dX14_string_25 0 rfl rfl ?_
    obtain ⟨r5, s2, e3, h⟩ := bd_some h
    have k4 := c_X14_generalTime e3
    have r6 : rg r5 := k4.1.2.2
    refine v_callV (st := []) cf14 oc87 k4 (lw_V q3315 q3317 qs256 q311 q3318) rfl yk_X14_generalTime ⟨Nat.le_of_ble_eq_true rfl, Nat.le_of_ble_eq_true rfl⟩ trivial ⟨kc87, trivial⟩ (Nat.le_of_ble_eq_true rfl) rfl dX14_string_26 ?_
    refine v_sub [0, 2] (L1 := [(0, vO 87), (3, vI x3)]) rfl ?_
    exact wj_X14_string_29 h rx3 r6
  · rw [if_pos c1] at h
    refine v_aload_n dX14_string_18 0 rfl rfl ?_
    obtain ⟨r10, s7, e8, h⟩ := bd_some h
    have k9 := c_X14_utcTime e8
    have r11 : rg r10 := k9.1.2.2
    refine v_callV (st := []) cf14 oc87 k9 (lw_V q3279 q3281 qs248 q311 q3282) rfl yk_X14_utcTime ⟨Nat.le_of_ble_eq_true rfl, Nat.le_of_ble_eq_true rfl⟩ trivial ⟨kc87, trivial⟩ (Nat.le_of_ble_eq_true rfl) rfl dX14_string_19 ?_
    refine v_goto (tgt := 29) dX14_string_22 (by decide) ?_
    refine v_sub [0, 2] (L1 := [(0, vO 87), (3, vI x3)]) rfl ?_
    exact wj_X14_string_29 h rx3 r11

def E_X14_string_80 (x1 : Int) (x3 : Int) (x4 : Int) (rv : Option vA) (σo : vS) (q : Int × vS) : Prop := ∀ (x5' : Int) (s' : vS), q = (x5', s') → rg x5' → VW cX14_string (RX14, rv, σo, none, 5, 114, 7, []) (P0 []) s' 145 [(0, vO 87), (1, vI x1), (3, vI x3), (4, vI x4), (5, vI x5')] []
def j_X14_string_113 (rec : Int → Int → Int → Int → Int → Int → vS → Option (Int × vS)) (x1 : Int) (x2 : Int) (x3 : Int) (x4 : Int) (x6 : Int) (s : vS) : Option (Int × vS) :=
  if x2 = 9 then
    gd (inb x6 (gN s 161)) <|
    if 128 ≤ (gE s 161 x6) then
      vl (w32 (x6 + 1)) fun y7 =>
      rec x1 x2 x3 x4 0 y7 s
    else
      vl (w32 (x6 + 1)) fun y10 =>
      rec x1 x2 x3 x4 1 y10 s
  else
    vl (w32 (x6 + 1)) fun y2 =>
    rec x1 x2 x3 x4 1 y2 s
theorem wj_X14_string_113 {x1 : Int} {x2 : Int} {x3 : Int} {x4 : Int} {x6 : Int} {s : vS} {rv : Option vA} {σo : vS} {rec : Int → Int → Int → Int → Int → Int → vS → Option (Int × vS)} {q : Int × vS} (h : j_X14_string_113 rec x1 x2 x3 x4 x6 s = some q)  (rx1 : rg x1) (rx2 : rg x2) (rx3 : rg x3) (rx4 : rg x4) (rx6 : rg x6) (hrec : ∀ (y5 : Int) (y6 : Int) (s : vS) (q : Int × vS), rec x1 x2 x3 x4 y5 y6 s = some q → rg y5 → rg y6 → E_X14_string_80 x1 x3 x4 rv σo q → VW cX14_string (RX14, rv, σo, none, 5, 114, 7, []) (P0 []) s 80 [(0, vO 87), (1, vI x1), (2, vI x2), (3, vI x3), (4, vI x4), (5, vI y5), (6, vI y6)] []) (hE : E_X14_string_80 x1 x3 x4 rv σo q) : VW cX14_string (RX14, rv, σo, none, 5, 114, 7, []) (P0 []) s 113 [(0, vO 87), (1, vI x1), (2, vI x2), (3, vI x3), (4, vI x4), (6, vI x6)] [] := by
  unfold j_X14_string_113 at h
  refine v_iload_n dX14_string_113 2 rfl rfl ?_
  refine v_bipush dX14_string_114 rfl ?_
  refine v_icmp_ne (tgt := 132) dX14_string_116 rx2 (rgl rfl) (by decide) (fun c1 => ?_) (fun c1 => ?_)
  · rw [if_neg c1] at h
    refine v_iconst dX14_string_132 ?_
    refine v_goto (tgt := 137) dX14_string_133 (by decide) ?_
    refine v_istore (L1 := [(5, vI 1), (0, vO 87), (1, vI x1), (2, vI x2), (3, vI x3), (4, vI x4), (6, vI x6)]) dX14_string_137 (by decide) rfl ?_
    obtain ⟨y2, e3, h⟩ := vl_some h
    refine v_iinc (L1 := [(6, vI (w32 (x6 + 1))), (5, vI 1), (0, vO 87), (1, vI x1), (2, vI x2), (3, vI x3), (4, vI x4)]) dX14_string_139 6 rfl (by decide) rfl ?_
    rw [← e3]
    have r4 : rg y2 := by rw [e3]; exact w32_rg _
    refine v_goto (tgt := 80) dX14_string_142 (by decide) ?_
    refine v_sub [2, 3, 4, 5, 6, 1, 0] (L1 := [(0, vO 87), (1, vI x1), (2, vI x2), (3, vI x3), (4, vI x4), (5, vI 1), (6, vI y2)]) rfl ?_
    exact hrec 1 y2 s _ h (rgl rfl) r4 hE
  · rw [if_pos c1] at h
    refine v_aload_n dX14_string_119 0 rfl rfl ?_
    refine v_getS (f := 106) (t := 161) cf14 oc87 rfl rfl rfl (by decide) q2476 dX14_string_120 ?_
    refine v_iload dX14_string_123 5 rfl ?_
    obtain ⟨g5, h⟩ := gd_some h
    refine v_iald oc161 rx6 g5.1 g5.2 dX14_string_125 ?_
    refine v_sipush dX14_string_126 rfl ?_
    refine v_icmp_ge (tgt := 136) dX14_string_129 (gE_rg _ _ _) (rgl rfl) (by decide) (fun c6 => ?_) (fun c6 => ?_)
    · rw [if_pos c6] at h
      refine v_iconst dX14_string_136 ?_
      refine v_istore (L1 := [(5, vI 0), (0, vO 87), (1, vI x1), (2, vI x2), (3, vI x3), (4, vI x4), (6, vI x6)]) dX14_string_137 (by decide) rfl ?_
      obtain ⟨y7, e8, h⟩ := vl_some h
      refine v_iinc (L1 := [(6, vI (w32 (x6 + 1))), (5, vI 0), (0, vO 87), (1, vI x1), (2, vI x2), (3, vI x3), (4, vI x4)]) dX14_string_139 6 rfl (by decide) rfl ?_
      rw [← e8]
      have r9 : rg y7 := by rw [e8]; exact w32_rg _
      refine v_goto (tgt := 80) dX14_string_142 (by decide) ?_
      refine v_sub [2, 3, 4, 5, 6, 1, 0] (L1 := [(0, vO 87), (1, vI x1), (2, vI x2), (3, vI x3), (4, vI x4), (5, vI 0), (6, vI y7)]) rfl ?_
      exact hrec 0 y7 s _ h (rgl rfl) r9 hE
    · rw [if_neg c6] at h
      refine v_iconst dX14_string_132 ?_
      refine v_goto (tgt := 137) dX14_string_133 (by decide) ?_
      refine v_istore (L1 := [(5, vI 1), (0, vO 87), (1, vI x1), (2, vI x2), (3, vI x3), (4, vI x4), (6, vI x6)]) dX14_string_137 (by decide) rfl ?_
      obtain ⟨y10, e11, h⟩ := vl_some h
      refine v_iinc (L1 := [(6, vI (w32 (x6 + 1))), (5, vI 1), (0, vO 87), (1, vI x1), (2, vI x2), (3, vI x3), (4, vI x4)]) dX14_string_139 6 rfl (by decide) rfl ?_
      rw [← e11]
      have r12 : rg y10 := by rw [e11]; exact w32_rg _
      refine v_goto (tgt := 80) dX14_string_142 (by decide) ?_
      refine v_sub [2, 3, 4, 5, 6, 1, 0] (L1 := [(0, vO 87), (1, vI x1), (2, vI x2), (3, vI x3), (4, vI x4), (5, vI 1), (6, vI y10)]) rfl ?_
      exact hrec 1 y10 s _ h (rgl rfl) r12 hE

def l_X14_string_80 : Nat → Int → Int → Int → Int → Int → Int → vS → Option (Int × vS)
  | 0, _, _, _, _, _, _, _ => none
  | n + 1, x1, x2, x3, x4, x5, x6, s =>
    if (gI s 87 105) ≤ x6 then
      some (x5, s)
    else
      if x5 = 0 then
        vl (w32 (x6 + 1)) fun y3 =>
        l_X14_string_80 n x1 x2 x3 x4 0 y3 s
      else
        if x2 = 8 then
          gd (inb x6 (gN s 161)) <|
          bd (f_X14_isPrintable (gE s 161 x6) s) fun r11 s8 =>
          if r11 = 0 then
            vl (w32 (x6 + 1)) fun y14 =>
            l_X14_string_80 n x1 x2 x3 x4 0 y14 s8
          else
            j_X14_string_113 (l_X14_string_80 n) x1 x2 x3 x4 x6 s8
        else
          j_X14_string_113 (l_X14_string_80 n) x1 x2 x3 x4 x6 s
theorem wl_X14_string_80 {x1 : Int} {x2 : Int} {x3 : Int} {x4 : Int} {rv : Option vA} {σo : vS}  (rx1 : rg x1) (rx2 : rg x2) (rx3 : rg x3) (rx4 : rg x4) : ∀ (n : Nat) (x5 : Int) (x6 : Int) (s : vS) (q : Int × vS), l_X14_string_80 n x1 x2 x3 x4 x5 x6 s = some q → rg x5 → rg x6 → E_X14_string_80 x1 x3 x4 rv σo q → VW cX14_string (RX14, rv, σo, none, 5, 114, 7, []) (P0 []) s 80 [(0, vO 87), (1, vI x1), (2, vI x2), (3, vI x3), (4, vI x4), (5, vI x5), (6, vI x6)] [] := by
  intro n
  induction n with
  | zero => intro x5 x6 s q h; cases h
  | succ n ih =>
    intro x5 x6 s q h rx5 rx6 hE
    unfold l_X14_string_80 at h
    refine v_iload dX14_string_80 6 rfl ?_
    refine v_aload_n dX14_string_82 0 rfl rfl ?_
    refine v_getI (f := 105) cf14 oc87 rfl (by decide) q2475 dX14_string_83 ?_
    refine v_icmp_ge (tgt := 145) dX14_string_86 rx6 (gI_rg _ _ _) (by decide) (fun c1 => ?_) (fun c1 => ?_)
    · rw [if_pos c1] at h
      cases h
      refine v_sub [0, 1, 3, 4, 5] (L1 := [(0, vO 87), (1, vI x1), (3, vI x3), (4, vI x4), (5, vI x5)]) rfl ?_
      exact hE _ _ rfl rx5
    · rw [if_neg c1] at h
      refine v_iload dX14_string_89 5 rfl ?_
      refine v_if_eq (tgt := 136) dX14_string_91 rx5 (by decide) (fun c2 => ?_) (fun c2 => ?_)
      · rw [if_pos c2] at h
        refine v_iconst dX14_string_136 ?_
        refine v_istore (L1 := [(5, vI 0), (0, vO 87), (1, vI x1), (2, vI x2), (3, vI x3), (4, vI x4), (6, vI x6)]) dX14_string_137 (by decide) rfl ?_
        obtain ⟨y3, e4, h⟩ := vl_some h
        refine v_iinc (L1 := [(6, vI (w32 (x6 + 1))), (5, vI 0), (0, vO 87), (1, vI x1), (2, vI x2), (3, vI x3), (4, vI x4)]) dX14_string_139 6 rfl (by decide) rfl ?_
        rw [← e4]
        have r5 : rg y3 := by rw [e4]; exact w32_rg _
        refine v_goto (tgt := 80) dX14_string_142 (by decide) ?_
        refine v_sub [2, 3, 4, 5, 6, 1, 0] (L1 := [(0, vO 87), (1, vI x1), (2, vI x2), (3, vI x3), (4, vI x4), (5, vI 0), (6, vI y3)]) rfl ?_
        exact ih 0 y3 s _ h (rgl rfl) r5 hE
      · rw [if_neg c2] at h
        refine v_iload_n dX14_string_94 2 rfl rfl ?_
        refine v_bipush dX14_string_95 rfl ?_
        refine v_icmp_ne (tgt := 113) dX14_string_97 rx2 (rgl rfl) (by decide) (fun c6 => ?_) (fun c6 => ?_)
        · rw [if_neg c6] at h
          refine v_sub [0, 1, 2, 3, 4, 6] (L1 := [(0, vO 87), (1, vI x1), (2, vI x2), (3, vI x3), (4, vI x4), (6, vI x6)]) rfl ?_
          exact wj_X14_string_113 h rx1 rx2 rx3 rx4 rx6 ih hE
        · rw [if_pos c6] at h
          refine v_aload_n dX14_string_100 0 rfl rfl ?_
          refine v_getS (f := 106) (t := 161) cf14 oc87 rfl rfl rfl (by decide) q2476 dX14_string_101 ?_
          refine v_iload dX14_string_104 6 rfl ?_
          obtain ⟨g7, h⟩ := gd_some h
          refine v_iald oc161 rx6 g7.1 g7.2 dX14_string_106 ?_
          obtain ⟨r11, s8, e9, h⟩ := bd_some h
          have k10 := c_X14_isPrintable e9 (gE_rg _ _ _)
          have r12 : rg r11 := k10.1.2.2
          refine v_callS (st := []) k10 (lw_S q3323 q3324 q311 q3325) yk_X14_isPrintable ⟨Nat.le_of_ble_eq_true rfl, Nat.le_of_ble_eq_true rfl⟩ trivial ⟨kc87, trivial⟩ (Nat.le_of_ble_eq_true rfl) rfl dX14_string_107 ?_
          refine v_if_eq (tgt := 136) dX14_string_110 r12 (by decide) (fun c13 => ?_) (fun c13 => ?_)
          · rw [if_pos c13] at h
            refine v_iconst dX14_string_136 ?_
            refine v_istore (L1 := [(5, vI 0), (0, vO 87), (1, vI x1), (2, vI x2), (3, vI x3), (4, vI x4), (6, vI x6)]) dX14_string_137 (by decide) rfl ?_
            obtain ⟨y14, e15, h⟩ := vl_some h
            refine v_iinc (L1 := [(6, vI (w32 (x6 + 1))), (5, vI 0), (0, vO 87), (1, vI x1), (2, vI x2), (3, vI x3), (4, vI x4)]) dX14_string_139 6 rfl (by decide) rfl ?_
            rw [← e15]
            have r16 : rg y14 := by rw [e15]; exact w32_rg _
            refine v_goto (tgt := 80) dX14_string_142 (by decide) ?_
            refine v_sub [2, 3, 4, 5, 6, 1, 0] (L1 := [(0, vO 87), (1, vI x1), (2, vI x2), (3, vI x3), (4, vI x4), (5, vI 0), (6, vI y14)]) rfl ?_
            exact ih 0 y14 s8 _ h (rgl rfl) r16 hE
          · rw [if_neg c13] at h
            refine v_sub [0, 1, 2, 3, 4, 6] (L1 := [(0, vO 87), (1, vI x1), (2, vI x2), (3, vI x3), (4, vI x4), (6, vI x6)]) rfl ?_
            exact wj_X14_string_113 h rx1 rx2 rx3 rx4 rx6 ih hE

def f_X14_string (x1 : Int) (x2 : Int) (x3 : Int) (s : vS) : Option (vS) :=
  if x2 = 10 then
    j_X14_string_12 x2 x3 s
  else
    if x2 = 11 then
      j_X14_string_12 x2 x3 s
    else
      vl (gI s 87 105) fun y3 =>
      if x2 = 7 then
        bd (f_X14_countCharacters s) fun r27 s24 =>
        if r27 < 0 then
          lq_1 (l_X14_string_80 FU x1 x2 x3 r27 0 0 s24) fun y30 s31 =>
          if y30 = 0 then
            bdv (f_X14_tell 17 x3 s31) fun s44 =>
            some s44
          else
            bd (f_X14_holdsSize x1 r27 s31) fun r38 s35 =>
            if r38 = 0 then
              bdv (f_X14_tell 22 x3 s35) fun s41 =>
              some s41
            else
              some s35
        else
          lq_1 (l_X14_string_80 FU x1 x2 x3 r27 1 0 s24) fun y47 s48 =>
          if y47 = 0 then
            bdv (f_X14_tell 17 x3 s48) fun s61 =>
            some s61
          else
            bd (f_X14_holdsSize x1 r27 s48) fun r55 s52 =>
            if r55 = 0 then
              bdv (f_X14_tell 22 x3 s52) fun s58 =>
              some s58
            else
              some s52
      else
        lq_1 (l_X14_string_80 FU x1 x2 x3 y3 1 0 s) fun y7 s8 =>
        if y7 = 0 then
          bdv (f_X14_tell 17 x3 s8) fun s21 =>
          some s21
        else
          bd (f_X14_holdsSize x1 y3 s8) fun r15 s12 =>
          if r15 = 0 then
            bdv (f_X14_tell 22 x3 s12) fun s18 =>
            some s18
          else
            some s12
theorem yk_X14_string : yOk yX14_string 3 := ⟨by decide, by decide, by decide +kernel⟩
theorem c_X14_string {x1 : Int} {x2 : Int} {x3 : Int} {s : vS} {out : vS} (h : f_X14_string x1 x2 x3 s = some out)  (rx1 : rg x1) (rx2 : rg x2) (rx3 : rg x3) : VC yX14_string cX14_string 7 none 5 114 [vO 87, vI x1, vI x2, vI x3] s none out [] := by
  unfold f_X14_string at h
  refine VC.of RX14 (by decide) rfl (Nat.le_of_ble_eq_true rfl) ?_
  show VW cX14_string (RX14, none, out, none, 5, 114, 7, []) (P0 []) s 0 [(0, vO 87), (1, vI x1), (2, vI x2), (3, vI x3)] []
  refine v_iload_n dX14_string_0 2 rfl rfl ?_
  refine v_bipush dX14_string_1 rfl ?_
  refine v_icmp_eq (tgt := 12) dX14_string_3 rx2 (rgl rfl) (by decide) (fun c1 => ?_) (fun c1 => ?_)
  · rw [if_pos c1] at h
    refine v_sub [0, 2, 3] (L1 := [(0, vO 87), (2, vI x2), (3, vI x3)]) rfl ?_
    exact wj_X14_string_12 h rx2 rx3
  · rw [if_neg c1] at h
    refine v_iload_n dX14_string_6 2 rfl rfl ?_
    refine v_bipush dX14_string_7 rfl ?_
    refine v_icmp_ne (tgt := 44) dX14_string_9 rx2 (rgl rfl) (by decide) (fun c2 => ?_) (fun c2 => ?_)
    · rw [if_neg c2] at h
      refine v_aload_n dX14_string_44 0 rfl rfl ?_
      refine v_getI (f := 105) cf14 oc87 rfl (by decide) q2475 dX14_string_45 ?_
      obtain ⟨y3, e4, h⟩ := vl_some h
      rw [← e4]
      have r5 : rg y3 := by rw [e4]; exact gI_rg _ _ _
      refine v_istore (L1 := [(4, vI y3), (0, vO 87), (1, vI x1), (2, vI x2), (3, vI x3)]) dX14_string_48 (by decide) rfl ?_
      refine v_iconst dX14_string_50 ?_
      refine v_istore (L1 := [(5, vI 1), (4, vI y3), (0, vO 87), (1, vI x1), (2, vI x2), (3, vI x3)]) dX14_string_51 (by decide) rfl ?_
      refine v_iload_n dX14_string_53 4 rfl rfl ?_
      refine v_bipush dX14_string_54 rfl ?_
      refine v_icmp_ne (tgt := 77) dX14_string_56 rx2 (rgl rfl) (by decide) (fun c6 => ?_) (fun c6 => ?_)
      · rw [if_neg c6] at h
        refine v_iconst dX14_string_77 ?_
        refine v_istore (L1 := [(6, vI 0), (5, vI 1), (4, vI y3), (0, vO 87), (1, vI x1), (2, vI x2), (3, vI x3)]) dX14_string_78 (by decide) rfl ?_
        refine v_sub [3, 4, 5, 6, 2, 1, 0] (L1 := [(0, vO 87), (1, vI x1), (2, vI x2), (3, vI x3), (4, vI y3), (5, vI 1), (6, vI 0)]) rfl ?_
        obtain ⟨y7, s8, e9, h⟩ := lq_1_some h
        refine wl_X14_string_80 rx1 rx2 rx3 r5 FU 1 0 s _ e9 (rgl rfl) (rgl rfl) ?_
        unfold E_X14_string_80
        intro y7' s8' z_ r10
        cases z_
        refine v_iload dX14_string_145 4 rfl ?_
        refine v_if_ne (tgt := 160) dX14_string_147 r10 (by decide) (fun c11 => ?_) (fun c11 => ?_)
        · rw [if_neg c11] at h
          refine v_aload_n dX14_string_160 0 rfl rfl ?_
          refine v_iload_n dX14_string_161 1 rfl rfl ?_
          refine v_iload dX14_string_162 3 rfl ?_
          obtain ⟨r15, s12, e13, h⟩ := bd_some h
          have k14 := c_X14_holdsSize e13 rx1 r5
          have r16 : rg r15 := k14.1.2.2
          refine v_callV (st := []) cf14 oc87 k14 (lw_V q3247 q3249 qs240 q311 q3250) rfl yk_X14_holdsSize ⟨Nat.le_of_ble_eq_true rfl, Nat.le_of_ble_eq_true rfl⟩ trivial ⟨kc87, trivial⟩ (Nat.le_of_ble_eq_true rfl) rfl dX14_string_164 ?_
          refine v_if_ne (tgt := 177) dX14_string_167 r16 (by decide) (fun c17 => ?_) (fun c17 => ?_)
          · rw [if_neg c17] at h
            cases h
            exact v_vret dX14_string_177
          · rw [if_pos c17] at h
            refine v_aload_n dX14_string_170 0 rfl rfl ?_
            refine v_bipush dX14_string_171 rfl ?_
            refine v_iload_n dX14_string_173 2 rfl rfl ?_
            obtain ⟨s18, e19, h⟩ := bdv_some h
            have k20 := c_X14_tell e19 (rgl rfl) rx3
            refine v_callV (st := []) cf14 oc87 k20 (lw_V q2916 q2918 qs163 q311 q2919) rfl yk_X14_tell ⟨Nat.le_of_ble_eq_true rfl, Nat.le_of_ble_eq_true rfl⟩ trivial ⟨kc87, trivial⟩ (Nat.le_of_ble_eq_true rfl) rfl dX14_string_174 ?_
            cases h
            exact v_vret dX14_string_177
        · rw [if_pos c11] at h
          refine v_aload_n dX14_string_150 0 rfl rfl ?_
          refine v_bipush dX14_string_151 rfl ?_
          refine v_iload_n dX14_string_153 2 rfl rfl ?_
          obtain ⟨s21, e22, h⟩ := bdv_some h
          have k23 := c_X14_tell e22 (rgl rfl) rx3
          refine v_callV (st := []) cf14 oc87 k23 (lw_V q2916 q2918 qs163 q311 q2919) rfl yk_X14_tell ⟨Nat.le_of_ble_eq_true rfl, Nat.le_of_ble_eq_true rfl⟩ trivial ⟨kc87, trivial⟩ (Nat.le_of_ble_eq_true rfl) rfl dX14_string_154 ?_
          refine v_goto (tgt := 177) dX14_string_157 (by decide) ?_
          cases h
          exact v_vret dX14_string_177
      · rw [if_pos c6] at h
        refine v_aload_n dX14_string_59 2 rfl rfl ?_
        obtain ⟨r27, s24, e25, h⟩ := bd_some h
        have k26 := c_X14_countCharacters e25
        have r28 : rg r27 := k26.1.2.2
        refine v_callV (st := []) cf14 oc87 k26 (lw_V q3437 q3439 qs279 q311 q3440) rfl yk_X14_countCharacters ⟨Nat.le_of_ble_eq_true rfl, Nat.le_of_ble_eq_true rfl⟩ trivial ⟨kc87, trivial⟩ (Nat.le_of_ble_eq_true rfl) rfl dX14_string_60 ?_
        refine v_istore (L1 := [(4, vI r27), (5, vI 1), (0, vO 87), (1, vI x1), (2, vI x2), (3, vI x3)]) dX14_string_63 (by decide) rfl ?_
        refine v_iload dX14_string_65 0 rfl ?_
        refine v_if_lt (tgt := 74) dX14_string_67 r28 (by decide) (fun c29 => ?_) (fun c29 => ?_)
        · rw [if_pos c29] at h
          refine v_iconst dX14_string_74 ?_
          refine v_istore (L1 := [(5, vI 0), (4, vI r27), (0, vO 87), (1, vI x1), (2, vI x2), (3, vI x3)]) dX14_string_75 (by decide) rfl ?_
          refine v_iconst dX14_string_77 ?_
          refine v_istore (L1 := [(6, vI 0), (5, vI 0), (4, vI r27), (0, vO 87), (1, vI x1), (2, vI x2), (3, vI x3)]) dX14_string_78 (by decide) rfl ?_
          refine v_sub [3, 4, 5, 6, 2, 1, 0] (L1 := [(0, vO 87), (1, vI x1), (2, vI x2), (3, vI x3), (4, vI r27), (5, vI 0), (6, vI 0)]) rfl ?_
          obtain ⟨y30, s31, e32, h⟩ := lq_1_some h
          refine wl_X14_string_80 rx1 rx2 rx3 r28 FU 0 0 s24 _ e32 (rgl rfl) (rgl rfl) ?_
          unfold E_X14_string_80
          intro y30' s31' z_ r33
          cases z_
          refine v_iload dX14_string_145 4 rfl ?_
          refine v_if_ne (tgt := 160) dX14_string_147 r33 (by decide) (fun c34 => ?_) (fun c34 => ?_)
          · rw [if_neg c34] at h
            refine v_aload_n dX14_string_160 0 rfl rfl ?_
            refine v_iload_n dX14_string_161 1 rfl rfl ?_
            refine v_iload dX14_string_162 3 rfl ?_
            obtain ⟨r38, s35, e36, h⟩ := bd_some h
            have k37 := c_X14_holdsSize e36 rx1 r28
            have r39 : rg r38 := k37.1.2.2
            refine v_callV (st := []) cf14 oc87 k37 (lw_V q3247 q3249 qs240 q311 q3250) rfl yk_X14_holdsSize ⟨Nat.le_of_ble_eq_true rfl, Nat.le_of_ble_eq_true rfl⟩ trivial ⟨kc87, trivial⟩ (Nat.le_of_ble_eq_true rfl) rfl dX14_string_164 ?_
            refine v_if_ne (tgt := 177) dX14_string_167 r39 (by decide) (fun c40 => ?_) (fun c40 => ?_)
            · rw [if_neg c40] at h
              cases h
              exact v_vret dX14_string_177
            · rw [if_pos c40] at h
              refine v_aload_n dX14_string_170 0 rfl rfl ?_
              refine v_bipush dX14_string_171 rfl ?_
              refine v_iload_n dX14_string_173 2 rfl rfl ?_
              obtain ⟨s41, e42, h⟩ := bdv_some h
              have k43 := c_X14_tell e42 (rgl rfl) rx3
              refine v_callV (st := []) cf14 oc87 k43 (lw_V q2916 q2918 qs163 q311 q2919) rfl yk_X14_tell ⟨Nat.le_of_ble_eq_true rfl, Nat.le_of_ble_eq_true rfl⟩ trivial ⟨kc87, trivial⟩ (Nat.le_of_ble_eq_true rfl) rfl dX14_string_174 ?_
              cases h
              exact v_vret dX14_string_177
          · rw [if_pos c34] at h
            refine v_aload_n dX14_string_150 0 rfl rfl ?_
            refine v_bipush dX14_string_151 rfl ?_
            refine v_iload_n dX14_string_153 2 rfl rfl ?_
            obtain ⟨s44, e45, h⟩ := bdv_some h
            have k46 := c_X14_tell e45 (rgl rfl) rx3
            refine v_callV (st := []) cf14 oc87 k46 (lw_V q2916 q2918 qs163 q311 q2919) rfl yk_X14_tell ⟨Nat.le_of_ble_eq_true rfl, Nat.le_of_ble_eq_true rfl⟩ trivial ⟨kc87, trivial⟩ (Nat.le_of_ble_eq_true rfl) rfl dX14_string_154 ?_
            refine v_goto (tgt := 177) dX14_string_157 (by decide) ?_
            cases h
            exact v_vret dX14_string_177
        · rw [if_neg c29] at h
          refine v_iconst dX14_string_70 ?_
          refine v_goto (tgt := 75) dX14_string_71 (by decide) ?_
          refine v_istore (L1 := [(5, vI 1), (4, vI r27), (0, vO 87), (1, vI x1), (2, vI x2), (3, vI x3)]) dX14_string_75 (by decide) rfl ?_
          refine v_iconst dX14_string_77 ?_
          refine v_istore (L1 := [(6, vI 0), (5, vI 1), (4, vI r27), (0, vO 87), (1, vI x1), (2, vI x2), (3, vI x3)]) dX14_string_78 (by decide) rfl ?_
          refine v_sub [3, 4, 5, 6, 2, 1, 0] (L1 := [(0, vO 87), (1, vI x1), (2, vI x2), (3, vI x3), (4, vI r27), (5, vI 1), (6, vI 0)]) rfl ?_
          obtain ⟨y47, s48, e49, h⟩ := lq_1_some h
          refine wl_X14_string_80 rx1 rx2 rx3 r28 FU 1 0 s24 _ e49 (rgl rfl) (rgl rfl) ?_
          unfold E_X14_string_80
          intro y47' s48' z_ r50
          cases z_
          refine v_iload dX14_string_145 4 rfl ?_
          refine v_if_ne (tgt := 160) dX14_string_147 r50 (by decide) (fun c51 => ?_) (fun c51 => ?_)
          · rw [if_neg c51] at h
            refine v_aload_n dX14_string_160 0 rfl rfl ?_
            refine v_iload_n dX14_string_161 1 rfl rfl ?_
            refine v_iload dX14_string_162 3 rfl ?_
            obtain ⟨r55, s52, e53, h⟩ := bd_some h
            have k54 := c_X14_holdsSize e53 rx1 r28
            have r56 : rg r55 := k54.1.2.2
            refine v_callV (st := []) cf14 oc87 k54 (lw_V q3247 q3249 qs240 q311 q3250) rfl yk_X14_holdsSize ⟨Nat.le_of_ble_eq_true rfl, Nat.le_of_ble_eq_true rfl⟩ trivial ⟨kc87, trivial⟩ (Nat.le_of_ble_eq_true rfl) rfl dX14_string_164 ?_
            refine v_if_ne (tgt := 177) dX14_string_167 r56 (by decide) (fun c57 => ?_) (fun c57 => ?_)
            · rw [if_neg c57] at h
              cases h
              exact v_vret dX14_string_177
            · rw [if_pos c57] at h
              refine v_aload_n dX14_string_170 0 rfl rfl ?_
              refine v_bipush dX14_string_171 rfl ?_
              refine v_iload_n dX14_string_173 2 rfl rfl ?_
              obtain ⟨s58, e59, h⟩ := bdv_some h
              have k60 := c_X14_tell e59 (rgl rfl) rx3
              refine v_callV (st := []) cf14 oc87 k60 (lw_V q2916 q2918 qs163 q311 q2919) rfl yk_X14_tell ⟨Nat.le_of_ble_eq_true rfl, Nat.le_of_ble_eq_true rfl⟩ trivial ⟨kc87, trivial⟩ (Nat.le_of_ble_eq_true rfl) rfl dX14_string_174 ?_
              cases h
              exact v_vret dX14_string_177
          · rw [if_pos c51] at h
            refine v_aload_n dX14_string_150 0 rfl rfl ?_
            refine v_bipush dX14_string_151 rfl ?_
            refine v_iload_n dX14_string_153 2 rfl rfl ?_
            obtain ⟨s61, e62, h⟩ := bdv_some h
            have k63 := c_X14_tell e62 (rgl rfl) rx3
            refine v_callV (st := []) cf14 oc87 k63 (lw_V q2916 q2918 qs163 q311 q2919) rfl yk_X14_tell ⟨Nat.le_of_ble_eq_true rfl, Nat.le_of_ble_eq_true rfl⟩ trivial ⟨kc87, trivial⟩ (Nat.le_of_ble_eq_true rfl) rfl dX14_string_154 ?_
            refine v_goto (tgt := 177) dX14_string_157 (by decide) ?_
            cases h
            exact v_vret dX14_string_177
    · rw [if_pos c2] at h
      refine v_sub [0, 2, 3] (L1 := [(0, vO 87), (2, vI x2), (3, vI x3)]) rfl ?_
      exact wj_X14_string_12 h rx2 rx3

def E_X14_writePiece_2 (rv : Option vA) (σo : vS) (q : vS) : Prop := ∀ (s' : vS), q = s' → VW cX14_writePiece (RX14, rv, σo, none, 3, 66, 2, []) (P0 []) s' 26 [] []
def l_X14_writePiece_2 : Nat → Int → vS → Option (vS)
  | 0, _, _ => none
  | n + 1, x1, s =>
    if (gI s 87 105) ≤ x1 then
      some s
    else
      gd (inb x1 (gN s 161)) <|
      bdv (f_X14_write (gE s 161 x1) s) fun s3 =>
      vl (w32 (x1 + 1)) fun y6 =>
      l_X14_writePiece_2 n y6 s3
theorem wl_X14_writePiece_2 {rv : Option vA} {σo : vS}  : ∀ (n : Nat) (x1 : Int) (s : vS) (q : vS), l_X14_writePiece_2 n x1 s = some q → rg x1 → E_X14_writePiece_2 rv σo q → VW cX14_writePiece (RX14, rv, σo, none, 3, 66, 2, []) (P0 []) s 2 [(0, vO 87), (1, vI x1)] [] := by
  intro n
  induction n with
  | zero => intro x1 s q h; cases h
  | succ n ih =>
    intro x1 s q h rx1 hE
    unfold l_X14_writePiece_2 at h
    refine v_iload_n dX14_writePiece_2 1 rfl rfl ?_
    refine v_aload_n dX14_writePiece_3 0 rfl rfl ?_
    refine v_getI (f := 105) cf14 oc87 rfl (by decide) q2475 dX14_writePiece_4 ?_
    refine v_icmp_ge (tgt := 26) dX14_writePiece_7 rx1 (gI_rg _ _ _) (by decide) (fun c1 => ?_) (fun c1 => ?_)
    · rw [if_pos c1] at h
      cases h
      refine v_sub [] (L1 := []) rfl ?_
      exact hE _ rfl 
    · rw [if_neg c1] at h
      refine v_aload_n dX14_writePiece_10 0 rfl rfl ?_
      refine v_aload_n dX14_writePiece_11 0 rfl rfl ?_
      refine v_getS (f := 106) (t := 161) cf14 oc87 rfl rfl rfl (by decide) q2476 dX14_writePiece_12 ?_
      refine v_iload_n dX14_writePiece_15 1 rfl rfl ?_
      obtain ⟨g2, h⟩ := gd_some h
      refine v_iald oc161 rx1 g2.1 g2.2 dX14_writePiece_16 ?_
      obtain ⟨s3, e4, h⟩ := bdv_some h
      have k5 := c_X14_write e4 (gE_rg _ _ _)
      refine v_callV (st := []) cf14 oc87 k5 (lw_V q3449 q3451 qs281 q311 q3452) rfl yk_X14_write ⟨Nat.le_of_ble_eq_true rfl, Nat.le_of_ble_eq_true rfl⟩ trivial ⟨kc87, trivial⟩ (Nat.le_of_ble_eq_true rfl) rfl dX14_writePiece_17 ?_
      obtain ⟨y6, e7, h⟩ := vl_some h
      refine v_iinc (L1 := [(1, vI (w32 (x1 + 1))), (0, vO 87)]) dX14_writePiece_20 1 rfl (by decide) rfl ?_
      rw [← e7]
      have r8 : rg y6 := by rw [e7]; exact w32_rg _
      refine v_goto (tgt := 2) dX14_writePiece_23 (by decide) ?_
      refine v_sub [1, 0] (L1 := [(0, vO 87), (1, vI y6)]) rfl ?_
      exact ih y6 s3 _ h r8 hE

def f_X14_writePiece (s : vS) : Option (vS) :=
  lq_0 (l_X14_writePiece_2 FU 0 s) fun s1 =>
  some s1
theorem yk_X14_writePiece : yOk yX14_writePiece 0 := ⟨by decide, by decide, by decide +kernel⟩
theorem c_X14_writePiece {s : vS} {out : vS} (h : f_X14_writePiece s = some out)   : VC yX14_writePiece cX14_writePiece 2 none 3 66 [vO 87] s none out [] := by
  unfold f_X14_writePiece at h
  refine VC.of RX14 (by decide) rfl (Nat.le_of_ble_eq_true rfl) ?_
  show VW cX14_writePiece (RX14, none, out, none, 3, 66, 2, []) (P0 []) s 0 [(0, vO 87)] []
  refine v_iconst dX14_writePiece_0 ?_
  refine v_istore_n (L1 := [(1, vI 0), (0, vO 87)]) dX14_writePiece_1 rfl (by decide) rfl ?_
  refine v_sub [1, 0] (L1 := [(0, vO 87), (1, vI 0)]) rfl ?_
  obtain ⟨s1, e2, h⟩ := lq_0_some h
  refine wl_X14_writePiece_2  FU 0 s _ e2 (rgl rfl) ?_
  unfold E_X14_writePiece_2
  intro s1' z_
  cases z_
  cases h
  exact v_vret dX14_writePiece_26

def j_X14_leaf_280 (s : vS) : Option (vS) :=
  if (gI s 87 8) = 0 then
    bdv (f_X14_writePiece s) fun s2 =>
    some s2
  else
    some s
theorem wj_X14_leaf_280 {s : vS} {out : vS} (h : j_X14_leaf_280 s = some out)  : VW cX14_leaf (RX14, none, out, none, 6, 151, 7, []) (P0 []) s 280 [(0, vO 87)] [] := by
  unfold j_X14_leaf_280 at h
  refine v_aload_n dX14_leaf_280 0 rfl rfl ?_
  refine v_getI (f := 8) cf14 oc87 rfl (by decide) q2378 dX14_leaf_281 ?_
  refine v_if_ne (tgt := 291) dX14_leaf_284 (gI_rg _ _ _) (by decide) (fun c1 => ?_) (fun c1 => ?_)
  · rw [if_neg c1] at h
    cases h
    exact v_vret dX14_leaf_291
  · rw [if_pos c1] at h
    refine v_aload_n dX14_leaf_287 0 rfl rfl ?_
    obtain ⟨s2, e3, h⟩ := bdv_some h
    have k4 := c_X14_writePiece e3
    refine v_callV (st := []) cf14 oc87 k4 (lw_V q3445 q3447 qs280 q311 q3448) rfl yk_X14_writePiece ⟨Nat.le_of_ble_eq_true rfl, Nat.le_of_ble_eq_true rfl⟩ trivial ⟨kc87, trivial⟩ (Nat.le_of_ble_eq_true rfl) rfl dX14_leaf_288 ?_
    cases h
    exact v_vret dX14_leaf_291

def j_X14_leaf_161 (x4 : Int) (x5 : Int) (z0 : Int) (z1 : Int) (s : vS) : Option (vS) :=
  if z0 = z1 then
    if x4 = 0 then
      gd (inb 0 (gN s 161)) <|
      if (gE s 161 0) = 0 then
        gd (inb 0 (gN s 161)) <|
        stp (sE s 161 0 0) fun s9 =>
        j_X14_leaf_280 s9
      else
        gd (inb 0 (gN s 161)) <|
        stp (sE s 161 0 255) fun s6 =>
        j_X14_leaf_280 s6
    else
      j_X14_leaf_280 s
  else
    bdv (f_X14_tell 16 x5 s) fun s11 =>
    j_X14_leaf_280 s11
theorem wj_X14_leaf_161 {x4 : Int} {x5 : Int} {z0 : Int} {z1 : Int} {s : vS} {out : vS} (h : j_X14_leaf_161 x4 x5 z0 z1 s = some out)  (rx4 : rg x4) (rx5 : rg x5) (rz0 : rg z0) (rz1 : rg z1) : VW cX14_leaf (RX14, none, out, none, 6, 151, 7, []) (P0 []) s 161 [(0, vO 87), (4, vI x4), (5, vI x5)] [vI z1, vI z0] := by
  unfold j_X14_leaf_161 at h
  refine v_icmp_eq (tgt := 175) dX14_leaf_161 rz0 rz1 (by decide) (fun c1 => ?_) (fun c1 => ?_)
  · rw [if_pos c1] at h
    refine v_iload dX14_leaf_175 1 rfl ?_
    refine v_if_ne (tgt := 280) dX14_leaf_177 rx4 (by decide) (fun c2 => ?_) (fun c2 => ?_)
    · rw [if_neg c2] at h
      refine v_sub [0] (L1 := [(0, vO 87)]) rfl ?_
      exact wj_X14_leaf_280 h 
    · rw [if_pos c2] at h
      refine v_aload_n dX14_leaf_180 0 rfl rfl ?_
      refine v_getS (f := 106) (t := 161) cf14 oc87 rfl rfl rfl (by decide) q2476 dX14_leaf_181 ?_
      refine v_iconst dX14_leaf_184 ?_
      refine v_aload_n dX14_leaf_185 0 rfl rfl ?_
      refine v_getS (f := 106) (t := 161) cf14 oc87 rfl rfl rfl (by decide) q2476 dX14_leaf_186 ?_
      refine v_iconst dX14_leaf_189 ?_
      obtain ⟨g3, h⟩ := gd_some h
      refine v_iald oc161 (rgl rfl) g3.1 g3.2 dX14_leaf_190 ?_
      refine v_if_ne (tgt := 198) dX14_leaf_191 (gE_rg _ _ _) (by decide) (fun c4 => ?_) (fun c4 => ?_)
      · rw [if_neg c4] at h
        refine v_sipush dX14_leaf_198 rfl ?_
        obtain ⟨g5, h⟩ := gd_some h
        obtain ⟨s6, e7, h⟩ := stp_some h
        refine v_iast oc161 (rgl rfl) g5.1 g5.2 dX14_leaf_201 ?_
        rw [← e7]
        refine v_goto (tgt := 280) dX14_leaf_202 (by decide) ?_
        refine v_sub [0] (L1 := [(0, vO 87)]) rfl ?_
        exact wj_X14_leaf_280 h 
      · rw [if_pos c4] at h
        refine v_iconst dX14_leaf_194 ?_
        refine v_goto (tgt := 201) dX14_leaf_195 (by decide) ?_
        obtain ⟨g8, h⟩ := gd_some h
        obtain ⟨s9, e10, h⟩ := stp_some h
        refine v_iast oc161 (rgl rfl) g8.1 g8.2 dX14_leaf_201 ?_
        rw [← e10]
        refine v_goto (tgt := 280) dX14_leaf_202 (by decide) ?_
        refine v_sub [0] (L1 := [(0, vO 87)]) rfl ?_
        exact wj_X14_leaf_280 h 
  · rw [if_neg c1] at h
    refine v_aload_n dX14_leaf_164 0 rfl rfl ?_
    refine v_bipush dX14_leaf_165 rfl ?_
    refine v_iload dX14_leaf_167 2 rfl ?_
    obtain ⟨s11, e12, h⟩ := bdv_some h
    have k13 := c_X14_tell e12 (rgl rfl) rx5
    refine v_callV (st := []) cf14 oc87 k13 (lw_V q2916 q2918 qs163 q311 q2919) rfl yk_X14_tell ⟨Nat.le_of_ble_eq_true rfl, Nat.le_of_ble_eq_true rfl⟩ trivial ⟨kc87, trivial⟩ (Nat.le_of_ble_eq_true rfl) rfl dX14_leaf_169 ?_
    refine v_goto (tgt := 280) dX14_leaf_172 (by decide) ?_
    refine v_sub [0] (L1 := [(0, vO 87)]) rfl ?_
    exact wj_X14_leaf_280 h 

def j_X14_leaf_147 (x4 : Int) (x5 : Int) (s : vS) : Option (vS) :=
  if x4 = 0 then
    j_X14_leaf_161 x4 x5 (gI s 87 105) 1 s
  else
    j_X14_leaf_161 x4 x5 (gI s 87 105) 0 s
theorem wj_X14_leaf_147 {x4 : Int} {x5 : Int} {s : vS} {out : vS} (h : j_X14_leaf_147 x4 x5 s = some out)  (rx4 : rg x4) (rx5 : rg x5) : VW cX14_leaf (RX14, none, out, none, 6, 151, 7, []) (P0 []) s 147 [(0, vO 87), (4, vI x4), (5, vI x5)] [] := by
  unfold j_X14_leaf_147 at h
  refine v_aload_n dX14_leaf_147 0 rfl rfl ?_
  refine v_getI (f := 105) cf14 oc87 rfl (by decide) q2475 dX14_leaf_148 ?_
  refine v_iload dX14_leaf_151 1 rfl ?_
  refine v_if_ne (tgt := 160) dX14_leaf_153 rx4 (by decide) (fun c1 => ?_) (fun c1 => ?_)
  · rw [if_neg c1] at h
    refine v_iconst dX14_leaf_160 ?_
    exact wj_X14_leaf_161 h rx4 rx5 (gI_rg _ _ _) (rgl rfl)
  · rw [if_pos c1] at h
    refine v_iconst dX14_leaf_156 ?_
    refine v_goto (tgt := 161) dX14_leaf_157 (by decide) ?_
    exact wj_X14_leaf_161 h rx4 rx5 (gI_rg _ _ _) (rgl rfl)

def j_X14_leaf_217 (x1 : Int) (x2 : Int) (x5 : Int) (s : vS) : Option (vS) :=
  bd (f_X14_isShortest s) fun r4 s1 =>
  if r4 = 0 then
    bdv (f_X14_tell 16 x5 s1) fun s10 =>
    j_X14_leaf_280 s10
  else
    bdv (f_X14_number x1 x2 x5 s1) fun s7 =>
    j_X14_leaf_280 s7
theorem wj_X14_leaf_217 {x1 : Int} {x2 : Int} {x5 : Int} {s : vS} {out : vS} (h : j_X14_leaf_217 x1 x2 x5 s = some out)  (rx1 : rg x1) (rx2 : rg x2) (rx5 : rg x5) : VW cX14_leaf (RX14, none, out, none, 6, 151, 7, []) (P0 []) s 217 [(0, vO 87), (1, vI x1), (2, vI x2), (5, vI x5)] [] := by
  unfold j_X14_leaf_217 at h
  refine v_aload_n dX14_leaf_217 0 rfl rfl ?_
  obtain ⟨r4, s1, e2, h⟩ := bd_some h
  have k3 := c_X14_isShortest e2
  have r5 : rg r4 := k3.1.2.2
  refine v_callV (st := []) cf14 oc87 k3 (lw_V q3421 q3423 qs275 q311 q3424) rfl yk_X14_isShortest ⟨Nat.le_of_ble_eq_true rfl, Nat.le_of_ble_eq_true rfl⟩ trivial ⟨kc87, trivial⟩ (Nat.le_of_ble_eq_true rfl) rfl dX14_leaf_218 ?_
  refine v_if_ne (tgt := 235) dX14_leaf_221 r5 (by decide) (fun c6 => ?_) (fun c6 => ?_)
  · rw [if_neg c6] at h
    refine v_aload_n dX14_leaf_235 0 rfl rfl ?_
    refine v_iload_n dX14_leaf_236 1 rfl rfl ?_
    refine v_iload_n dX14_leaf_237 2 rfl rfl ?_
    refine v_iload dX14_leaf_238 3 rfl ?_
    obtain ⟨s7, e8, h⟩ := bdv_some h
    have k9 := c_X14_number e8 rx1 rx2 rx5
    refine v_callV (st := []) cf14 oc87 k9 (lw_V q3425 q3427 qs276 q311 q3428) rfl yk_X14_number ⟨Nat.le_of_ble_eq_true rfl, Nat.le_of_ble_eq_true rfl⟩ trivial ⟨kc87, trivial⟩ (Nat.le_of_ble_eq_true rfl) rfl dX14_leaf_240 ?_
    refine v_goto (tgt := 280) dX14_leaf_243 (by decide) ?_
    refine v_sub [0] (L1 := [(0, vO 87)]) rfl ?_
    exact wj_X14_leaf_280 h 
  · rw [if_pos c6] at h
    refine v_aload_n dX14_leaf_224 0 rfl rfl ?_
    refine v_bipush dX14_leaf_225 rfl ?_
    refine v_iload dX14_leaf_227 3 rfl ?_
    obtain ⟨s10, e11, h⟩ := bdv_some h
    have k12 := c_X14_tell e11 (rgl rfl) rx5
    refine v_callV (st := []) cf14 oc87 k12 (lw_V q2916 q2918 qs163 q311 q2919) rfl yk_X14_tell ⟨Nat.le_of_ble_eq_true rfl, Nat.le_of_ble_eq_true rfl⟩ trivial ⟨kc87, trivial⟩ (Nat.le_of_ble_eq_true rfl) rfl dX14_leaf_229 ?_
    refine v_goto (tgt := 280) dX14_leaf_232 (by decide) ?_
    refine v_sub [0] (L1 := [(0, vO 87)]) rfl ?_
    exact wj_X14_leaf_280 h 

def j_X14_leaf_72 (x1 : Int) (x2 : Int) (x3 : Int) (x4 : Int) (x5 : Int) (s : vS) : Option (vS) :=
  if x4 = 4 then
    bd (f_X14_gatherBits x3 s) fun r31 s28 =>
    if r31 = 0 then
      bdv (f_X14_tell 16 x5 s28) fun s43 =>
      j_X14_leaf_280 s43
    else
      bd (f_X14_writeBits x1 s28) fun r37 s34 =>
      if r37 = 0 then
        bdv (f_X14_tell 22 x5 s34) fun s40 =>
        j_X14_leaf_280 s40
      else
        j_X14_leaf_280 s34
  else
    bd (f_X14_gatherParts x3 4 s) fun r5 s2 =>
    if r5 = 0 then
      bdv (f_X14_tell 16 x5 s2) fun s25 =>
      j_X14_leaf_280 s25
    else
      if x4 = 0 then
        j_X14_leaf_147 x4 x5 s2
      else
        if x4 = 1 then
          j_X14_leaf_147 x4 x5 s2
        else
          if x4 = 2 then
            j_X14_leaf_217 x1 x2 x5 s2
          else
            if x4 = 3 then
              j_X14_leaf_217 x1 x2 x5 s2
            else
              if x4 = 6 then
                bd (f_X14_isObject s2) fun r19 s16 =>
                if r19 = 0 then
                  bdv (f_X14_tell 16 x5 s16) fun s22 =>
                  j_X14_leaf_280 s22
                else
                  j_X14_leaf_280 s16
              else
                bdv (f_X14_string x1 x4 x5 s2) fun s13 =>
                j_X14_leaf_280 s13
theorem wj_X14_leaf_72 {x1 : Int} {x2 : Int} {x3 : Int} {x4 : Int} {x5 : Int} {s : vS} {out : vS} (h : j_X14_leaf_72 x1 x2 x3 x4 x5 s = some out)  (rx1 : rg x1) (rx2 : rg x2) (rx3 : rg x3) (rx4 : rg x4) (rx5 : rg x5) : VW cX14_leaf (RX14, none, out, none, 6, 151, 7, []) (P0 []) s 72 [(0, vO 87), (1, vI x1), (2, vI x2), (3, vI x3), (4, vI x4), (5, vI x5)] [] := by
  unfold j_X14_leaf_72 at h
  refine v_iload dX14_leaf_72 4 rfl ?_
  refine v_iconst dX14_leaf_74 ?_
  refine v_icmp_ne (tgt := 116) dX14_leaf_75 rx4 (rgl rfl) (by decide) (fun c1 => ?_) (fun c1 => ?_)
  · rw [if_neg c1] at h
    refine v_aload_n dX14_leaf_116 0 rfl rfl ?_
    refine v_iload_n dX14_leaf_117 3 rfl rfl ?_
    refine v_iconst dX14_leaf_118 ?_
    obtain ⟨r5, s2, e3, h⟩ := bd_some h
    have k4 := c_X14_gatherParts e3 rx3 (rgl rfl)
    have r6 : rg r5 := k4.1.2.2
    refine v_callV (st := []) cf14 oc87 k4 (lw_V q3417 q3419 qs274 q311 q3420) rfl yk_X14_gatherParts ⟨Nat.le_of_ble_eq_true rfl, Nat.le_of_ble_eq_true rfl⟩ trivial ⟨kc87, trivial⟩ (Nat.le_of_ble_eq_true rfl) rfl dX14_leaf_119 ?_
    refine v_if_ne (tgt := 136) dX14_leaf_122 r6 (by decide) (fun c7 => ?_) (fun c7 => ?_)
    · rw [if_neg c7] at h
      refine v_iload dX14_leaf_136 4 rfl ?_
      refine v_if_eq (tgt := 147) dX14_leaf_138 rx4 (by decide) (fun c8 => ?_) (fun c8 => ?_)
      · rw [if_pos c8] at h
        refine v_sub [0, 4, 5] (L1 := [(0, vO 87), (4, vI x4), (5, vI x5)]) rfl ?_
        exact wj_X14_leaf_147 h rx4 rx5
      · rw [if_neg c8] at h
        refine v_iload dX14_leaf_141 4 rfl ?_
        refine v_iconst dX14_leaf_143 ?_
        refine v_icmp_ne (tgt := 205) dX14_leaf_144 rx4 (rgl rfl) (by decide) (fun c9 => ?_) (fun c9 => ?_)
        · rw [if_neg c9] at h
          refine v_iload dX14_leaf_205 4 rfl ?_
          refine v_iconst dX14_leaf_207 ?_
          refine v_icmp_eq (tgt := 217) dX14_leaf_208 rx4 (rgl rfl) (by decide) (fun c10 => ?_) (fun c10 => ?_)
          · rw [if_pos c10] at h
            refine v_sub [0, 1, 2, 5] (L1 := [(0, vO 87), (1, vI x1), (2, vI x2), (5, vI x5)]) rfl ?_
            exact wj_X14_leaf_217 h rx1 rx2 rx5
          · rw [if_neg c10] at h
            refine v_iload dX14_leaf_211 4 rfl ?_
            refine v_iconst dX14_leaf_213 ?_
            refine v_icmp_ne (tgt := 246) dX14_leaf_214 rx4 (rgl rfl) (by decide) (fun c11 => ?_) (fun c11 => ?_)
            · rw [if_neg c11] at h
              refine v_iload dX14_leaf_246 4 rfl ?_
              refine v_bipush dX14_leaf_248 rfl ?_
              refine v_icmp_ne (tgt := 271) dX14_leaf_250 rx4 (rgl rfl) (by decide) (fun c12 => ?_) (fun c12 => ?_)
              · rw [if_neg c12] at h
                refine v_aload_n dX14_leaf_271 0 rfl rfl ?_
                refine v_iload_n dX14_leaf_272 1 rfl rfl ?_
                refine v_iload dX14_leaf_273 4 rfl ?_
                refine v_iload dX14_leaf_275 5 rfl ?_
                obtain ⟨s13, e14, h⟩ := bdv_some h
                have k15 := c_X14_string e14 rx1 rx4 rx5
                refine v_callV (st := []) cf14 oc87 k15 (lw_V q3433 q3435 qs278 q311 q3436) rfl yk_X14_string ⟨Nat.le_of_ble_eq_true rfl, Nat.le_of_ble_eq_true rfl⟩ trivial ⟨kc87, trivial⟩ (Nat.le_of_ble_eq_true rfl) rfl dX14_leaf_277 ?_
                refine v_sub [0] (L1 := [(0, vO 87)]) rfl ?_
                exact wj_X14_leaf_280 h 
              · rw [if_pos c12] at h
                refine v_aload_n dX14_leaf_253 0 rfl rfl ?_
                obtain ⟨r19, s16, e17, h⟩ := bd_some h
                have k18 := c_X14_isObject e17
                have r20 : rg r19 := k18.1.2.2
                refine v_callV (st := []) cf14 oc87 k18 (lw_V q3429 q3431 qs277 q311 q3432) rfl yk_X14_isObject ⟨Nat.le_of_ble_eq_true rfl, Nat.le_of_ble_eq_true rfl⟩ trivial ⟨kc87, trivial⟩ (Nat.le_of_ble_eq_true rfl) rfl dX14_leaf_254 ?_
                refine v_if_ne (tgt := 280) dX14_leaf_257 r20 (by decide) (fun c21 => ?_) (fun c21 => ?_)
                · rw [if_neg c21] at h
                  refine v_sub [0] (L1 := [(0, vO 87)]) rfl ?_
                  exact wj_X14_leaf_280 h 
                · rw [if_pos c21] at h
                  refine v_aload_n dX14_leaf_260 0 rfl rfl ?_
                  refine v_bipush dX14_leaf_261 rfl ?_
                  refine v_iload dX14_leaf_263 5 rfl ?_
                  obtain ⟨s22, e23, h⟩ := bdv_some h
                  have k24 := c_X14_tell e23 (rgl rfl) rx5
                  refine v_callV (st := []) cf14 oc87 k24 (lw_V q2916 q2918 qs163 q311 q2919) rfl yk_X14_tell ⟨Nat.le_of_ble_eq_true rfl, Nat.le_of_ble_eq_true rfl⟩ trivial ⟨kc87, trivial⟩ (Nat.le_of_ble_eq_true rfl) rfl dX14_leaf_265 ?_
                  refine v_goto (tgt := 280) dX14_leaf_268 (by decide) ?_
                  refine v_sub [0] (L1 := [(0, vO 87)]) rfl ?_
                  exact wj_X14_leaf_280 h 
            · rw [if_pos c11] at h
              refine v_sub [0, 1, 2, 5] (L1 := [(0, vO 87), (1, vI x1), (2, vI x2), (5, vI x5)]) rfl ?_
              exact wj_X14_leaf_217 h rx1 rx2 rx5
        · rw [if_pos c9] at h
          refine v_sub [0, 4, 5] (L1 := [(0, vO 87), (4, vI x4), (5, vI x5)]) rfl ?_
          exact wj_X14_leaf_147 h rx4 rx5
    · rw [if_pos c7] at h
      refine v_aload_n dX14_leaf_125 0 rfl rfl ?_
      refine v_bipush dX14_leaf_126 rfl ?_
      refine v_iload dX14_leaf_128 5 rfl ?_
      obtain ⟨s25, e26, h⟩ := bdv_some h
      have k27 := c_X14_tell e26 (rgl rfl) rx5
      refine v_callV (st := []) cf14 oc87 k27 (lw_V q2916 q2918 qs163 q311 q2919) rfl yk_X14_tell ⟨Nat.le_of_ble_eq_true rfl, Nat.le_of_ble_eq_true rfl⟩ trivial ⟨kc87, trivial⟩ (Nat.le_of_ble_eq_true rfl) rfl dX14_leaf_130 ?_
      refine v_goto (tgt := 280) dX14_leaf_133 (by decide) ?_
      refine v_sub [0] (L1 := [(0, vO 87)]) rfl ?_
      exact wj_X14_leaf_280 h 
  · rw [if_pos c1] at h
    refine v_aload_n dX14_leaf_78 0 rfl rfl ?_
    refine v_iload_n dX14_leaf_79 3 rfl rfl ?_
    obtain ⟨r31, s28, e29, h⟩ := bd_some h
    have k30 := c_X14_gatherBits e29 rx3
    have r32 : rg r31 := k30.1.2.2
    refine v_callV (st := []) cf14 oc87 k30 (lw_V q3413 q3415 qs273 q311 q3416) rfl yk_X14_gatherBits ⟨Nat.le_of_ble_eq_true rfl, Nat.le_of_ble_eq_true rfl⟩ trivial ⟨kc87, trivial⟩ (Nat.le_of_ble_eq_true rfl) rfl dX14_leaf_80 ?_
    refine v_if_ne (tgt := 97) dX14_leaf_83 r32 (by decide) (fun c33 => ?_) (fun c33 => ?_)
    · rw [if_neg c33] at h
      refine v_aload_n dX14_leaf_97 0 rfl rfl ?_
      refine v_iload_n dX14_leaf_98 1 rfl rfl ?_
      obtain ⟨r37, s34, e35, h⟩ := bd_some h
      have k36 := c_X14_writeBits e35 rx1
      have r38 : rg r37 := k36.1.2.2
      refine v_callV (st := []) cf14 oc87 k36 (lw_V q3235 q3237 qs237 q311 q3238) rfl yk_X14_writeBits ⟨Nat.le_of_ble_eq_true rfl, Nat.le_of_ble_eq_true rfl⟩ trivial ⟨kc87, trivial⟩ (Nat.le_of_ble_eq_true rfl) rfl dX14_leaf_99 ?_
      refine v_if_ne (tgt := 280) dX14_leaf_102 r38 (by decide) (fun c39 => ?_) (fun c39 => ?_)
      · rw [if_neg c39] at h
        refine v_sub [0] (L1 := [(0, vO 87)]) rfl ?_
        exact wj_X14_leaf_280 h 
      · rw [if_pos c39] at h
        refine v_aload_n dX14_leaf_105 0 rfl rfl ?_
        refine v_bipush dX14_leaf_106 rfl ?_
        refine v_iload dX14_leaf_108 5 rfl ?_
        obtain ⟨s40, e41, h⟩ := bdv_some h
        have k42 := c_X14_tell e41 (rgl rfl) rx5
        refine v_callV (st := []) cf14 oc87 k42 (lw_V q2916 q2918 qs163 q311 q2919) rfl yk_X14_tell ⟨Nat.le_of_ble_eq_true rfl, Nat.le_of_ble_eq_true rfl⟩ trivial ⟨kc87, trivial⟩ (Nat.le_of_ble_eq_true rfl) rfl dX14_leaf_110 ?_
        refine v_goto (tgt := 280) dX14_leaf_113 (by decide) ?_
        refine v_sub [0] (L1 := [(0, vO 87)]) rfl ?_
        exact wj_X14_leaf_280 h 
    · rw [if_pos c33] at h
      refine v_aload_n dX14_leaf_86 0 rfl rfl ?_
      refine v_bipush dX14_leaf_87 rfl ?_
      refine v_iload dX14_leaf_89 5 rfl ?_
      obtain ⟨s43, e44, h⟩ := bdv_some h
      have k45 := c_X14_tell e44 (rgl rfl) rx5
      refine v_callV (st := []) cf14 oc87 k45 (lw_V q2916 q2918 qs163 q311 q2919) rfl yk_X14_tell ⟨Nat.le_of_ble_eq_true rfl, Nat.le_of_ble_eq_true rfl⟩ trivial ⟨kc87, trivial⟩ (Nat.le_of_ble_eq_true rfl) rfl dX14_leaf_91 ?_
      refine v_goto (tgt := 280) dX14_leaf_94 (by decide) ?_
      refine v_sub [0] (L1 := [(0, vO 87)]) rfl ?_
      exact wj_X14_leaf_280 h 

def j_X14_leaf_47 (x1 : Int) (x2 : Int) (x3 : Int) (x4 : Int) (x5 : Int) (z0 : Int) (s : vS) : Option (vS) :=
  gd (inb x3 (gN s 174)) <|
  if (gZ s 174 x3) = 0 then
    j_X14_leaf_72 x1 x2 x3 x4 x5 s
  else
    if z0 = 0 then
      bdv (f_X14_tell 14 x5 s) fun s4 =>
      some s4
    else
      j_X14_leaf_72 x1 x2 x3 x4 x5 s
theorem wj_X14_leaf_47 {x1 : Int} {x2 : Int} {x3 : Int} {x4 : Int} {x5 : Int} {z0 : Int} {s : vS} {out : vS} (h : j_X14_leaf_47 x1 x2 x3 x4 x5 z0 s = some out)  (rx1 : rg x1) (rx2 : rg x2) (rx3 : rg x3) (rx4 : rg x4) (rx5 : rg x5) (rz0 : rg z0) : VW cX14_leaf (RX14, none, out, none, 6, 151, 7, []) (P0 []) s 47 [(0, vO 87), (1, vI x1), (2, vI x2), (3, vI x3), (4, vI x4), (5, vI x5)] [vI z0] := by
  unfold j_X14_leaf_47 at h
  refine v_istore (L1 := [(6, vI z0), (0, vO 87), (1, vI x1), (2, vI x2), (3, vI x3), (4, vI x4), (5, vI x5)]) dX14_leaf_47 (by decide) rfl ?_
  refine v_aload_n dX14_leaf_49 1 rfl rfl ?_
  refine v_getS (f := 132) (t := 174) cf14 oc87 rfl rfl rfl (by decide) q2502 dX14_leaf_50 ?_
  refine v_iload_n dX14_leaf_53 4 rfl rfl ?_
  obtain ⟨g1, h⟩ := gd_some h
  refine v_zald oc174 rx3 g1.1 g1.2 dX14_leaf_54 ?_
  refine v_if_eq (tgt := 72) dX14_leaf_55 (gZ_rg _ _ _) (by decide) (fun c2 => ?_) (fun c2 => ?_)
  · rw [if_pos c2] at h
    refine v_sub [1, 2, 3, 4, 5, 6] (L1 := [(0, vO 87), (1, vI x1), (2, vI x2), (3, vI x3), (4, vI x4), (5, vI x5)]) rfl ?_
    exact wj_X14_leaf_72 h rx1 rx2 rx3 rx4 rx5
  · rw [if_neg c2] at h
    refine v_iload dX14_leaf_58 0 rfl ?_
    refine v_if_ne (tgt := 72) dX14_leaf_60 rz0 (by decide) (fun c3 => ?_) (fun c3 => ?_)
    · rw [if_neg c3] at h
      refine v_sub [1, 2, 3, 4, 5, 6] (L1 := [(0, vO 87), (1, vI x1), (2, vI x2), (3, vI x3), (4, vI x4), (5, vI x5)]) rfl ?_
      exact wj_X14_leaf_72 h rx1 rx2 rx3 rx4 rx5
    · rw [if_pos c3] at h
      refine v_aload_n dX14_leaf_63 1 rfl rfl ?_
      refine v_bipush dX14_leaf_64 rfl ?_
      refine v_iload dX14_leaf_66 6 rfl ?_
      obtain ⟨s4, e5, h⟩ := bdv_some h
      have k6 := c_X14_tell e5 (rgl rfl) rx5
      refine v_callV (st := []) cf14 oc87 k6 (lw_V q2916 q2918 qs163 q311 q2919) rfl yk_X14_tell ⟨Nat.le_of_ble_eq_true rfl, Nat.le_of_ble_eq_true rfl⟩ trivial ⟨kc87, trivial⟩ (Nat.le_of_ble_eq_true rfl) rfl dX14_leaf_68 ?_
      cases h
      exact v_vret dX14_leaf_71

def f_X14_leaf (x1 : Int) (x2 : Int) (x3 : Int) (s : vS) : Option (vS) :=
  gd (inb x2 (gN s 97)) <|
  vl (gE s 97 x2) fun y2 =>
  gd (inb x3 (gN s 172)) <|
  vl (gE s 172 x3) fun y6 =>
  if y2 = 4 then
    j_X14_leaf_47 x1 x2 x3 y2 y6 1 s
  else
    if y2 = 5 then
      j_X14_leaf_47 x1 x2 x3 y2 y6 1 s
    else
      if y2 < 7 then
        j_X14_leaf_47 x1 x2 x3 y2 y6 0 s
      else
        if 11 < y2 then
          j_X14_leaf_47 x1 x2 x3 y2 y6 0 s
        else
          j_X14_leaf_47 x1 x2 x3 y2 y6 1 s
theorem yk_X14_leaf : yOk yX14_leaf 3 := ⟨by decide, by decide, by decide +kernel⟩
theorem c_X14_leaf {x1 : Int} {x2 : Int} {x3 : Int} {s : vS} {out : vS} (h : f_X14_leaf x1 x2 x3 s = some out)  (rx1 : rg x1) (rx2 : rg x2) (rx3 : rg x3) : VC yX14_leaf cX14_leaf 7 none 6 151 [vO 87, vI x1, vI x2, vI x3] s none out [] := by
  unfold f_X14_leaf at h
  refine VC.of RX14 (by decide) rfl (Nat.le_of_ble_eq_true rfl) ?_
  show VW cX14_leaf (RX14, none, out, none, 6, 151, 7, []) (P0 []) s 0 [(0, vO 87), (1, vI x1), (2, vI x2), (3, vI x3)] []
  refine v_aload_n dX14_leaf_0 0 rfl rfl ?_
  refine v_getS (f := 21) (t := 97) cf14 oc87 rfl rfl rfl (by decide) q2391 dX14_leaf_1 ?_
  refine v_iload_n dX14_leaf_4 2 rfl rfl ?_
  obtain ⟨g1, h⟩ := gd_some h
  refine v_iald oc97 rx2 g1.1 g1.2 dX14_leaf_5 ?_
  obtain ⟨y2, e3, h⟩ := vl_some h
  rw [← e3]
  have r4 : rg y2 := by rw [e3]; exact gE_rg _ _ _
  refine v_istore (L1 := [(4, vI y2), (0, vO 87), (1, vI x1), (2, vI x2), (3, vI x3)]) dX14_leaf_6 (by decide) rfl ?_
  refine v_aload_n dX14_leaf_8 1 rfl rfl ?_
  refine v_getS (f := 130) (t := 172) cf14 oc87 rfl rfl rfl (by decide) q2500 dX14_leaf_9 ?_
  refine v_iload_n dX14_leaf_12 4 rfl rfl ?_
  obtain ⟨g5, h⟩ := gd_some h
  refine v_iald oc172 rx3 g5.1 g5.2 dX14_leaf_13 ?_
  obtain ⟨y6, e7, h⟩ := vl_some h
  rw [← e7]
  have r8 : rg y6 := by rw [e7]; exact gE_rg _ _ _
  refine v_istore (L1 := [(5, vI y6), (4, vI y2), (0, vO 87), (1, vI x1), (2, vI x2), (3, vI x3)]) dX14_leaf_14 (by decide) rfl ?_
  refine v_iload dX14_leaf_16 1 rfl ?_
  refine v_iconst dX14_leaf_18 ?_
  refine v_icmp_eq (tgt := 42) dX14_leaf_19 r4 (rgl rfl) (by decide) (fun c9 => ?_) (fun c9 => ?_)
  · rw [if_pos c9] at h
    refine v_iconst dX14_leaf_42 ?_
    refine v_goto (tgt := 47) dX14_leaf_43 (by decide) ?_
    refine v_sub [2, 3, 4, 5, 1, 0] (L1 := [(0, vO 87), (1, vI x1), (2, vI x2), (3, vI x3), (4, vI y2), (5, vI y6)]) rfl ?_
    exact wj_X14_leaf_47 h rx1 rx2 rx3 r4 r8 (rgl rfl)
  · rw [if_neg c9] at h
    refine v_iload dX14_leaf_22 1 rfl ?_
    refine v_iconst dX14_leaf_24 ?_
    refine v_icmp_eq (tgt := 42) dX14_leaf_25 r4 (rgl rfl) (by decide) (fun c10 => ?_) (fun c10 => ?_)
    · rw [if_pos c10] at h
      refine v_iconst dX14_leaf_42 ?_
      refine v_goto (tgt := 47) dX14_leaf_43 (by decide) ?_
      refine v_sub [2, 3, 4, 5, 1, 0] (L1 := [(0, vO 87), (1, vI x1), (2, vI x2), (3, vI x3), (4, vI y2), (5, vI y6)]) rfl ?_
      exact wj_X14_leaf_47 h rx1 rx2 rx3 r4 r8 (rgl rfl)
    · rw [if_neg c10] at h
      refine v_iload dX14_leaf_28 1 rfl ?_
      refine v_bipush dX14_leaf_30 rfl ?_
      refine v_icmp_lt (tgt := 46) dX14_leaf_32 r4 (rgl rfl) (by decide) (fun c11 => ?_) (fun c11 => ?_)
      · rw [if_pos c11] at h
        refine v_iconst dX14_leaf_46 ?_
        refine v_sub [2, 3, 4, 5, 1, 0] (L1 := [(0, vO 87), (1, vI x1), (2, vI x2), (3, vI x3), (4, vI y2), (5, vI y6)]) rfl ?_
        exact wj_X14_leaf_47 h rx1 rx2 rx3 r4 r8 (rgl rfl)
      · rw [if_neg c11] at h
        refine v_iload dX14_leaf_35 1 rfl ?_
        refine v_bipush dX14_leaf_37 rfl ?_
        refine v_icmp_gt (tgt := 46) dX14_leaf_39 r4 (rgl rfl) (by decide) (fun c12 => ?_) (fun c12 => ?_)
        · rw [if_pos c12] at h
          refine v_iconst dX14_leaf_46 ?_
          refine v_sub [2, 3, 4, 5, 1, 0] (L1 := [(0, vO 87), (1, vI x1), (2, vI x2), (3, vI x3), (4, vI y2), (5, vI y6)]) rfl ?_
          exact wj_X14_leaf_47 h rx1 rx2 rx3 r4 r8 (rgl rfl)
        · rw [if_neg c12] at h
          refine v_iconst dX14_leaf_42 ?_
          refine v_goto (tgt := 47) dX14_leaf_43 (by decide) ?_
          refine v_sub [2, 3, 4, 5, 1, 0] (L1 := [(0, vO 87), (1, vI x1), (2, vI x2), (3, vI x3), (4, vI y2), (5, vI y6)]) rfl ?_
          exact wj_X14_leaf_47 h rx1 rx2 rx3 r4 r8 (rgl rfl)

def E_X14_isDefault_24 (rv : Option vA) (σo : vS) (q : Int × vS) : Prop := ∀ (x3' : Int) (s' : vS), q = (x3', s') → rg x3' → VW cX14_isDefault (RX14, rv, σo, (some .boolean), 0, 0, 5, []) (P0 []) s' 77 [(3, vI x3')] []
def l_X14_isDefault_24 : Nat → Int → Int → Int → Int → vS → Option (Int × vS)
  | 0, _, _, _, _, _ => none
  | n + 1, x1, x2, x3, x4, s =>
    gd (inb x2 (gN s 167)) <|
    if (gE s 167 x2) ≤ x4 then
      some (x3, s)
    else
      if x3 = 0 then
        some (x3, s)
      else
        gd (inb (w32 (x1 + x4)) (gN s 183)) <|
        gd (inb x2 (gN s 166)) <|
        gd (inb (w32 ((gE s 166 x2) + x4)) (gN s 165)) <|
        if (gE s 183 (w32 (x1 + x4))) = (gE s 165 (w32 ((gE s 166 x2) + x4))) then
          vl (w32 (x4 + 1)) fun y11 =>
          l_X14_isDefault_24 n x1 x2 1 y11 s
        else
          vl (w32 (x4 + 1)) fun y8 =>
          l_X14_isDefault_24 n x1 x2 0 y8 s
theorem wl_X14_isDefault_24 {x1 : Int} {x2 : Int} {rv : Option vA} {σo : vS}  (rx1 : rg x1) (rx2 : rg x2) : ∀ (n : Nat) (x3 : Int) (x4 : Int) (s : vS) (q : Int × vS), l_X14_isDefault_24 n x1 x2 x3 x4 s = some q → rg x3 → rg x4 → E_X14_isDefault_24 rv σo q → VW cX14_isDefault (RX14, rv, σo, (some .boolean), 0, 0, 5, []) (P0 []) s 24 [(0, vO 87), (1, vI x1), (2, vI x2), (3, vI x3), (4, vI x4)] [] := by
  intro n
  induction n with
  | zero => intro x3 x4 s q h; cases h
  | succ n ih =>
    intro x3 x4 s q h rx3 rx4 hE
    unfold l_X14_isDefault_24 at h
    refine v_iload dX14_isDefault_24 4 rfl ?_
    refine v_aload_n dX14_isDefault_26 0 rfl rfl ?_
    refine v_getS (f := 114) (t := 167) cf14 oc87 rfl rfl rfl (by decide) q2484 dX14_isDefault_27 ?_
    refine v_iload_n dX14_isDefault_30 2 rfl rfl ?_
    obtain ⟨g1, h⟩ := gd_some h
    refine v_iald oc167 rx2 g1.1 g1.2 dX14_isDefault_31 ?_
    refine v_icmp_ge (tgt := 77) dX14_isDefault_32 rx4 (gE_rg _ _ _) (by decide) (fun c2 => ?_) (fun c2 => ?_)
    · rw [if_pos c2] at h
      cases h
      refine v_sub [3] (L1 := [(3, vI x3)]) rfl ?_
      exact hE _ _ rfl rx3
    · rw [if_neg c2] at h
      refine v_iload_n dX14_isDefault_35 3 rfl rfl ?_
      refine v_if_eq (tgt := 77) dX14_isDefault_36 rx3 (by decide) (fun c3 => ?_) (fun c3 => ?_)
      · rw [if_pos c3] at h
        cases h
        refine v_sub [3] (L1 := [(3, vI x3)]) rfl ?_
        exact hE _ _ rfl rx3
      · rw [if_neg c3] at h
        refine v_aload_n dX14_isDefault_39 0 rfl rfl ?_
        refine v_getS (f := 145) (t := 183) cf14 oc87 rfl rfl rfl (by decide) q2515 dX14_isDefault_40 ?_
        refine v_iload_n dX14_isDefault_43 1 rfl rfl ?_
        refine v_iload dX14_isDefault_44 4 rfl ?_
        refine v_iadd dX14_isDefault_46 ?_
        obtain ⟨g4, h⟩ := gd_some h
        refine v_iald oc183 (w32_rg _) g4.1 g4.2 dX14_isDefault_47 ?_
        refine v_aload_n dX14_isDefault_48 0 rfl rfl ?_
        refine v_getS (f := 112) (t := 165) cf14 oc87 rfl rfl rfl (by decide) q2482 dX14_isDefault_49 ?_
        refine v_aload_n dX14_isDefault_52 0 rfl rfl ?_
        refine v_getS (f := 113) (t := 166) cf14 oc87 rfl rfl rfl (by decide) q2483 dX14_isDefault_53 ?_
        refine v_iload_n dX14_isDefault_56 2 rfl rfl ?_
        obtain ⟨g5, h⟩ := gd_some h
        refine v_iald oc166 rx2 g5.1 g5.2 dX14_isDefault_57 ?_
        refine v_iload dX14_isDefault_58 4 rfl ?_
        refine v_iadd dX14_isDefault_60 ?_
        obtain ⟨g6, h⟩ := gd_some h
        refine v_iald oc165 (w32_rg _) g6.1 g6.2 dX14_isDefault_61 ?_
        refine v_icmp_ne (tgt := 69) dX14_isDefault_62 (gE_rg _ _ _) (gE_rg _ _ _) (by decide) (fun c7 => ?_) (fun c7 => ?_)
        · rw [if_neg c7] at h
          refine v_iconst dX14_isDefault_69 ?_
          refine v_istore_n (L1 := [(3, vI 0), (0, vO 87), (1, vI x1), (2, vI x2), (4, vI x4)]) dX14_isDefault_70 rfl (by decide) rfl ?_
          obtain ⟨y8, e9, h⟩ := vl_some h
          refine v_iinc (L1 := [(4, vI (w32 (x4 + 1))), (3, vI 0), (0, vO 87), (1, vI x1), (2, vI x2)]) dX14_isDefault_71 4 rfl (by decide) rfl ?_
          rw [← e9]
          have r10 : rg y8 := by rw [e9]; exact w32_rg _
          refine v_goto (tgt := 24) dX14_isDefault_74 (by decide) ?_
          refine v_sub [2, 3, 4, 1, 0] (L1 := [(0, vO 87), (1, vI x1), (2, vI x2), (3, vI 0), (4, vI y8)]) rfl ?_
          exact ih 0 y8 s _ h (rgl rfl) r10 hE
        · rw [if_pos c7] at h
          refine v_iconst dX14_isDefault_65 ?_
          refine v_goto (tgt := 70) dX14_isDefault_66 (by decide) ?_
          refine v_istore_n (L1 := [(3, vI 1), (0, vO 87), (1, vI x1), (2, vI x2), (4, vI x4)]) dX14_isDefault_70 rfl (by decide) rfl ?_
          obtain ⟨y11, e12, h⟩ := vl_some h
          refine v_iinc (L1 := [(4, vI (w32 (x4 + 1))), (3, vI 1), (0, vO 87), (1, vI x1), (2, vI x2)]) dX14_isDefault_71 4 rfl (by decide) rfl ?_
          rw [← e12]
          have r13 : rg y11 := by rw [e12]; exact w32_rg _
          refine v_goto (tgt := 24) dX14_isDefault_74 (by decide) ?_
          refine v_sub [2, 3, 4, 1, 0] (L1 := [(0, vO 87), (1, vI x1), (2, vI x2), (3, vI 1), (4, vI y11)]) rfl ?_
          exact ih 1 y11 s _ h (rgl rfl) r13 hE

def f_X14_isDefault (x1 : Int) (x2 : Int) (s : vS) : Option (Int × vS) :=
  gd (inb x2 (gN s 167)) <|
  if (w32 ((gI s 87 144) - x1)) = (gE s 167 x2) then
    lq_1 (l_X14_isDefault_24 FU x1 x2 1 0 s) fun y8 s9 =>
    gd (y8 = 0 ∨ y8 = 1) <|
    some (y8, s9)
  else
    lq_1 (l_X14_isDefault_24 FU x1 x2 0 0 s) fun y3 s4 =>
    gd (y3 = 0 ∨ y3 = 1) <|
    some (y3, s4)
theorem yk_X14_isDefault : yOk yX14_isDefault 2 := ⟨by decide, by decide, by decide +kernel⟩
theorem c_X14_isDefault {x1 : Int} {x2 : Int} {s : vS} {out : Int × vS} (h : f_X14_isDefault x1 x2 s = some out)  (rx1 : rg x1) (rx2 : rg x2) : VC yX14_isDefault cX14_isDefault 5 (some .boolean) 0 0 [vO 87, vI x1, vI x2] s (some (vI out.1)) out.2 [] := by
  unfold f_X14_isDefault at h
  refine VC.of RX14 (by decide) rfl (Nat.le_of_ble_eq_true rfl) ?_
  show VW cX14_isDefault (RX14, (some (vI out.1)), out.2, (some .boolean), 0, 0, 5, []) (P0 []) s 0 [(0, vO 87), (1, vI x1), (2, vI x2)] []
  refine v_aload_n dX14_isDefault_0 0 rfl rfl ?_
  refine v_getI (f := 144) cf14 oc87 rfl (by decide) q2514 dX14_isDefault_1 ?_
  refine v_iload_n dX14_isDefault_4 1 rfl rfl ?_
  refine v_isub dX14_isDefault_5 ?_
  refine v_aload_n dX14_isDefault_6 0 rfl rfl ?_
  refine v_getS (f := 114) (t := 167) cf14 oc87 rfl rfl rfl (by decide) q2484 dX14_isDefault_7 ?_
  refine v_iload_n dX14_isDefault_10 2 rfl rfl ?_
  obtain ⟨g1, h⟩ := gd_some h
  refine v_iald oc167 rx2 g1.1 g1.2 dX14_isDefault_11 ?_
  refine v_icmp_ne (tgt := 19) dX14_isDefault_12 (w32_rg _) (gE_rg _ _ _) (by decide) (fun c2 => ?_) (fun c2 => ?_)
  · rw [if_neg c2] at h
    refine v_iconst dX14_isDefault_19 ?_
    refine v_istore_n (L1 := [(3, vI 0), (0, vO 87), (1, vI x1), (2, vI x2)]) dX14_isDefault_20 rfl (by decide) rfl ?_
    refine v_iconst dX14_isDefault_21 ?_
    refine v_istore (L1 := [(4, vI 0), (3, vI 0), (0, vO 87), (1, vI x1), (2, vI x2)]) dX14_isDefault_22 (by decide) rfl ?_
    refine v_sub [2, 3, 4, 1, 0] (L1 := [(0, vO 87), (1, vI x1), (2, vI x2), (3, vI 0), (4, vI 0)]) rfl ?_
    obtain ⟨y3, s4, e5, h⟩ := lq_1_some h
    refine wl_X14_isDefault_24 rx1 rx2 FU 0 0 s _ e5 (rgl rfl) (rgl rfl) ?_
    unfold E_X14_isDefault_24
    intro y3' s4' z_ r6
    cases z_
    refine v_iload_n dX14_isDefault_77 0 rfl rfl ?_
    obtain ⟨g7, h⟩ := gd_some h
    cases h
    exact v_zret g7 dX14_isDefault_78
  · rw [if_pos c2] at h
    refine v_iconst dX14_isDefault_15 ?_
    refine v_goto (tgt := 20) dX14_isDefault_16 (by decide) ?_
    refine v_istore_n (L1 := [(3, vI 1), (0, vO 87), (1, vI x1), (2, vI x2)]) dX14_isDefault_20 rfl (by decide) rfl ?_
    refine v_iconst dX14_isDefault_21 ?_
    refine v_istore (L1 := [(4, vI 0), (3, vI 1), (0, vO 87), (1, vI x1), (2, vI x2)]) dX14_isDefault_22 (by decide) rfl ?_
    refine v_sub [2, 3, 4, 1, 0] (L1 := [(0, vO 87), (1, vI x1), (2, vI x2), (3, vI 1), (4, vI 0)]) rfl ?_
    obtain ⟨y8, s9, e10, h⟩ := lq_1_some h
    refine wl_X14_isDefault_24 rx1 rx2 FU 1 0 s _ e10 (rgl rfl) (rgl rfl) ?_
    unfold E_X14_isDefault_24
    intro y8' s9' z_ r11
    cases z_
    refine v_iload_n dX14_isDefault_77 0 rfl rfl ?_
    obtain ⟨g12, h⟩ := gd_some h
    cases h
    exact v_zret g12 dX14_isDefault_78

def E_X14_leave_90 (x1 : Int) (x2 : Int) (x3 : Int) (x5 : Int) (rv : Option vA) (σo : vS) (q : vS) : Prop := ∀ (s' : vS), q = s' → VW cX14_leave (RX14, rv, σo, none, 3, 74, 8, []) (P0 []) s' 151 [(0, vO 87), (1, vI x1), (2, vI x2), (3, vI x3), (5, vI x5)] []
def l_X14_leave_90 : Nat → Int → Int → Int → Int → Int → Int → vS → Option (vS)
  | 0, _, _, _, _, _, _, _ => none
  | n + 1, x1, x2, x3, x5, x6, x7, s =>
    gd (inb x1 (gN s 188)) <|
    if (gE s 188 x1) ≤ x7 then
      some s
    else
      if (gI s 87 8) = 0 then
        gd (inb x6 (gN s 182)) <|
        if (gE s 182 x6) < 0 then
          gd (inb x6 (gN s 179)) <|
          vl (gE s 179 x6) fun y7 =>
          vl (w32 (x7 + 1)) fun y10 =>
          l_X14_leave_90 n x1 x2 x3 x5 y7 y10 s
        else
          gd (inb x6 (gN s 179)) <|
          gd (inb (gE s 179 x6) (gN s 172)) <|
          bdv (f_X14_tell 15 (gE s 172 (gE s 179 x6)) s) fun s15 =>
          gd (inb x6 (gN s15 179)) <|
          vl (gE s15 179 x6) fun y19 =>
          vl (w32 (x7 + 1)) fun y22 =>
          l_X14_leave_90 n x1 x2 x3 x5 y19 y22 s15
      else
        some s
theorem wl_X14_leave_90 {x1 : Int} {x2 : Int} {x3 : Int} {x5 : Int} {rv : Option vA} {σo : vS}  (rx1 : rg x1) (rx2 : rg x2) (rx3 : rg x3) (rx5 : rg x5) : ∀ (n : Nat) (x6 : Int) (x7 : Int) (s : vS) (q : vS), l_X14_leave_90 n x1 x2 x3 x5 x6 x7 s = some q → rg x6 → rg x7 → E_X14_leave_90 x1 x2 x3 x5 rv σo q → VW cX14_leave (RX14, rv, σo, none, 3, 74, 8, []) (P0 []) s 90 [(0, vO 87), (1, vI x1), (2, vI x2), (3, vI x3), (5, vI x5), (6, vI x6), (7, vI x7)] [] := by
  intro n
  induction n with
  | zero => intro x6 x7 s q h; cases h
  | succ n ih =>
    intro x6 x7 s q h rx6 rx7 hE
    unfold l_X14_leave_90 at h
    refine v_iload dX14_leave_90 6 rfl ?_
    refine v_aload_n dX14_leave_92 0 rfl rfl ?_
    refine v_getS (f := 152) (t := 188) cf14 oc87 rfl rfl rfl (by decide) q2522 dX14_leave_93 ?_
    refine v_iload_n dX14_leave_96 1 rfl rfl ?_
    obtain ⟨g1, h⟩ := gd_some h
    refine v_iald oc188 rx1 g1.1 g1.2 dX14_leave_97 ?_
    refine v_icmp_ge (tgt := 151) dX14_leave_98 rx7 (gE_rg _ _ _) (by decide) (fun c2 => ?_) (fun c2 => ?_)
    · rw [if_pos c2] at h
      cases h
      refine v_sub [0, 1, 2, 3, 4] (L1 := [(0, vO 87), (1, vI x1), (2, vI x2), (3, vI x3), (5, vI x5)]) rfl ?_
      exact hE _ rfl 
    · rw [if_neg c2] at h
      refine v_aload_n dX14_leave_101 0 rfl rfl ?_
      refine v_getI (f := 8) cf14 oc87 rfl (by decide) q2378 dX14_leave_102 ?_
      refine v_if_ne (tgt := 151) dX14_leave_105 (gI_rg _ _ _) (by decide) (fun c3 => ?_) (fun c3 => ?_)
      · rw [if_neg c3] at h
        cases h
        refine v_sub [0, 1, 2, 3, 4] (L1 := [(0, vO 87), (1, vI x1), (2, vI x2), (3, vI x3), (5, vI x5)]) rfl ?_
        exact hE _ rfl 
      · rw [if_pos c3] at h
        refine v_aload_n dX14_leave_108 0 rfl rfl ?_
        refine v_getS (f := 140) (t := 182) cf14 oc87 rfl rfl rfl (by decide) q2510 dX14_leave_109 ?_
        refine v_iload dX14_leave_112 5 rfl ?_
        obtain ⟨g4, h⟩ := gd_some h
        refine v_iald oc182 rx6 g4.1 g4.2 dX14_leave_114 ?_
        refine v_if_lt (tgt := 136) dX14_leave_115 (gE_rg _ _ _) (by decide) (fun c5 => ?_) (fun c5 => ?_)
        · rw [if_pos c5] at h
          refine v_aload_n dX14_leave_136 0 rfl rfl ?_
          refine v_getS (f := 137) (t := 179) cf14 oc87 rfl rfl rfl (by decide) q2507 dX14_leave_137 ?_
          refine v_iload dX14_leave_140 5 rfl ?_
          obtain ⟨g6, h⟩ := gd_some h
          refine v_iald oc179 rx6 g6.1 g6.2 dX14_leave_142 ?_
          obtain ⟨y7, e8, h⟩ := vl_some h
          rw [← e8]
          have r9 : rg y7 := by rw [e8]; exact gE_rg _ _ _
          refine v_istore (L1 := [(6, vI y7), (0, vO 87), (1, vI x1), (2, vI x2), (3, vI x3), (5, vI x5), (7, vI x7)]) dX14_leave_143 (by decide) rfl ?_
          obtain ⟨y10, e11, h⟩ := vl_some h
          refine v_iinc (L1 := [(7, vI (w32 (x7 + 1))), (6, vI y7), (0, vO 87), (1, vI x1), (2, vI x2), (3, vI x3), (5, vI x5)]) dX14_leave_145 6 rfl (by decide) rfl ?_
          rw [← e11]
          have r12 : rg y10 := by rw [e11]; exact w32_rg _
          refine v_goto (tgt := 90) dX14_leave_148 (by decide) ?_
          refine v_sub [2, 3, 4, 5, 6, 1, 0] (L1 := [(0, vO 87), (1, vI x1), (2, vI x2), (3, vI x3), (5, vI x5), (6, vI y7), (7, vI y10)]) rfl ?_
          exact ih y7 y10 s _ h r9 r12 hE
        · rw [if_neg c5] at h
          refine v_aload_n dX14_leave_118 0 rfl rfl ?_
          refine v_bipush dX14_leave_119 rfl ?_
          refine v_aload_n dX14_leave_121 0 rfl rfl ?_
          refine v_getS (f := 130) (t := 172) cf14 oc87 rfl rfl rfl (by decide) q2500 dX14_leave_122 ?_
          refine v_aload_n dX14_leave_125 0 rfl rfl ?_
          refine v_getS (f := 137) (t := 179) cf14 oc87 rfl rfl rfl (by decide) q2507 dX14_leave_126 ?_
          refine v_iload dX14_leave_129 5 rfl ?_
          obtain ⟨g13, h⟩ := gd_some h
          refine v_iald oc179 rx6 g13.1 g13.2 dX14_leave_131 ?_
          obtain ⟨g14, h⟩ := gd_some h
          refine v_iald oc172 (gE_rg _ _ _) g14.1 g14.2 dX14_leave_132 ?_
          obtain ⟨s15, e16, h⟩ := bdv_some h
          have k17 := c_X14_tell e16 (rgl rfl) (gE_rg _ _ _)
          refine v_callV (st := []) cf14 oc87 k17 (lw_V q2916 q2918 qs163 q311 q2919) rfl yk_X14_tell ⟨Nat.le_of_ble_eq_true rfl, Nat.le_of_ble_eq_true rfl⟩ trivial ⟨kc87, trivial⟩ (Nat.le_of_ble_eq_true rfl) rfl dX14_leave_133 ?_
          refine v_aload_n dX14_leave_136 0 rfl rfl ?_
          refine v_getS (f := 137) (t := 179) cf14 oc87 rfl rfl rfl (by decide) q2507 dX14_leave_137 ?_
          refine v_iload dX14_leave_140 5 rfl ?_
          obtain ⟨g18, h⟩ := gd_some h
          refine v_iald oc179 rx6 g18.1 g18.2 dX14_leave_142 ?_
          obtain ⟨y19, e20, h⟩ := vl_some h
          rw [← e20]
          have r21 : rg y19 := by rw [e20]; exact gE_rg _ _ _
          refine v_istore (L1 := [(6, vI y19), (0, vO 87), (1, vI x1), (2, vI x2), (3, vI x3), (5, vI x5), (7, vI x7)]) dX14_leave_143 (by decide) rfl ?_
          obtain ⟨y22, e23, h⟩ := vl_some h
          refine v_iinc (L1 := [(7, vI (w32 (x7 + 1))), (6, vI y19), (0, vO 87), (1, vI x1), (2, vI x2), (3, vI x3), (5, vI x5)]) dX14_leave_145 6 rfl (by decide) rfl ?_
          rw [← e23]
          have r24 : rg y22 := by rw [e23]; exact w32_rg _
          refine v_goto (tgt := 90) dX14_leave_148 (by decide) ?_
          refine v_sub [2, 3, 4, 5, 6, 1, 0] (L1 := [(0, vO 87), (1, vI x1), (2, vI x2), (3, vI x3), (5, vI x5), (6, vI y19), (7, vI y22)]) rfl ?_
          exact ih y19 y22 s15 _ h r21 r24 hE

def E_X14_leave_177 (rv : Option vA) (σo : vS) (q : vS) : Prop := ∀ (s' : vS), q = s' → VW cX14_leave (RX14, rv, σo, none, 3, 74, 8, []) (P0 []) s' 241 [] []
def j_X14_leave_232 (rec : Int → Int → Int → vS → Option (vS)) (x1 : Int) (x3 : Int) (x7 : Int) (z1 : Int) (z2 : Int) (z3 : Int) (s : vS) : Option (vS) :=
  bdv (f_X14_wrap z1 z2 z3 s) fun s1 =>
  vl (w32 (x7 + 1)) fun y4 =>
  rec x1 x3 y4 s1
theorem wj_X14_leave_232 {x1 : Int} {x3 : Int} {x7 : Int} {z1 : Int} {z2 : Int} {z3 : Int} {s : vS} {rv : Option vA} {σo : vS} {rec : Int → Int → Int → vS → Option (vS)} {q : vS} (h : j_X14_leave_232 rec x1 x3 x7 z1 z2 z3 s = some q)  (rx1 : rg x1) (rx3 : rg x3) (rx7 : rg x7) (rz1 : rg z1) (rz2 : rgL z2) (rz3 : rg z3) (hrec : ∀ (y7 : Int) (s : vS) (q : vS), rec x1 x3 y7 s = some q → rg y7 → E_X14_leave_177 rv σo q → VW cX14_leave (RX14, rv, σo, none, 3, 74, 8, []) (P0 []) s 177 [(0, vO 87), (1, vI x1), (3, vI x3), (7, vI y7)] []) (hE : E_X14_leave_177 rv σo q) : VW cX14_leave (RX14, rv, σo, none, 3, 74, 8, []) (P0 []) s 232 [(0, vO 87), (1, vI x1), (3, vI x3), (7, vI x7)] [vI z3, vL z2, vI z1, vO 87] := by
  unfold j_X14_leave_232 at h
  obtain ⟨s1, e2, h⟩ := bdv_some h
  have k3 := c_X14_wrap e2 rz1 rz2 rz3
  refine v_callV (st := []) cf14 oc87 k3 (lw_V q3466 q3468 qs285 q311 q3469) rfl yk_X14_wrap ⟨Nat.le_of_ble_eq_true rfl, Nat.le_of_ble_eq_true rfl⟩ trivial ⟨kc87, trivial⟩ (Nat.le_of_ble_eq_true rfl) rfl dX14_leave_232 ?_
  obtain ⟨y4, e5, h⟩ := vl_some h
  refine v_iinc (L1 := [(7, vI (w32 (x7 + 1))), (0, vO 87), (1, vI x1), (3, vI x3)]) dX14_leave_235 3 rfl (by decide) rfl ?_
  rw [← e5]
  have r6 : rg y4 := by rw [e5]; exact w32_rg _
  refine v_goto (tgt := 177) dX14_leave_238 (by decide) ?_
  refine v_sub [1, 2, 3, 0] (L1 := [(0, vO 87), (1, vI x1), (3, vI x3), (7, vI y4)]) rfl ?_
  exact hrec y4 s1 _ h r6 hE

def l_X14_leave_177 : Nat → Int → Int → Int → vS → Option (vS)
  | 0, _, _, _, _ => none
  | n + 1, x1, x3, x7, s =>
    if (gI s 87 101) ≤ x7 then
      some s
    else
      gd (inb x1 (gN s 189)) <|
      gd (inb x7 (gN s 159)) <|
      gd (inb x3 (gN s 97)) <|
      if (gE s 97 x3) = 16 then
        j_X14_leave_232 (l_X14_leave_177 n) x1 x3 x7 (gE s 189 x1) (gEL s 159 x7) 1 s
      else
        if 0 < x7 then
          j_X14_leave_232 (l_X14_leave_177 n) x1 x3 x7 (gE s 189 x1) (gEL s 159 x7) 1 s
        else
          gd (inb x3 (gN s 97)) <|
          if (gE s 97 x3) < 12 then
            j_X14_leave_232 (l_X14_leave_177 n) x1 x3 x7 (gE s 189 x1) (gEL s 159 x7) 0 s
          else
            j_X14_leave_232 (l_X14_leave_177 n) x1 x3 x7 (gE s 189 x1) (gEL s 159 x7) 1 s
theorem wl_X14_leave_177 {x1 : Int} {x3 : Int} {rv : Option vA} {σo : vS}  (rx1 : rg x1) (rx3 : rg x3) : ∀ (n : Nat) (x7 : Int) (s : vS) (q : vS), l_X14_leave_177 n x1 x3 x7 s = some q → rg x7 → E_X14_leave_177 rv σo q → VW cX14_leave (RX14, rv, σo, none, 3, 74, 8, []) (P0 []) s 177 [(0, vO 87), (1, vI x1), (3, vI x3), (7, vI x7)] [] := by
  intro n
  induction n with
  | zero => intro x7 s q h; cases h
  | succ n ih =>
    intro x7 s q h rx7 hE
    unfold l_X14_leave_177 at h
    refine v_iload dX14_leave_177 3 rfl ?_
    refine v_aload_n dX14_leave_179 0 rfl rfl ?_
    refine v_getI (f := 101) cf14 oc87 rfl (by decide) q2471 dX14_leave_180 ?_
    refine v_icmp_ge (tgt := 241) dX14_leave_183 rx7 (gI_rg _ _ _) (by decide) (fun c1 => ?_) (fun c1 => ?_)
    · rw [if_pos c1] at h
      cases h
      refine v_sub [] (L1 := []) rfl ?_
      exact hE _ rfl 
    · rw [if_neg c1] at h
      refine v_aload_n dX14_leave_186 0 rfl rfl ?_
      refine v_aload_n dX14_leave_187 0 rfl rfl ?_
      refine v_getS (f := 153) (t := 189) cf14 oc87 rfl rfl rfl (by decide) q2523 dX14_leave_188 ?_
      refine v_iload_n dX14_leave_191 1 rfl rfl ?_
      obtain ⟨g2, h⟩ := gd_some h
      refine v_iald oc189 rx1 g2.1 g2.2 dX14_leave_192 ?_
      refine v_aload_n dX14_leave_193 0 rfl rfl ?_
      refine v_getS (f := 102) (t := 159) cf14 oc87 rfl rfl rfl (by decide) q2472 dX14_leave_194 ?_
      refine v_iload dX14_leave_197 3 rfl ?_
      obtain ⟨g3, h⟩ := gd_some h
      refine v_lald oc159 rx7 g3.1 g3.2 dX14_leave_199 ?_
      refine v_aload_n dX14_leave_200 0 rfl rfl ?_
      refine v_getS (f := 21) (t := 97) cf14 oc87 rfl rfl rfl (by decide) q2391 dX14_leave_201 ?_
      refine v_iload_n dX14_leave_204 2 rfl rfl ?_
      obtain ⟨g4, h⟩ := gd_some h
      refine v_iald oc97 rx3 g4.1 g4.2 dX14_leave_205 ?_
      refine v_bipush dX14_leave_206 rfl ?_
      refine v_icmp_eq (tgt := 227) dX14_leave_208 (gE_rg _ _ _) (rgl rfl) (by decide) (fun c5 => ?_) (fun c5 => ?_)
      · rw [if_pos c5] at h
        refine v_iconst dX14_leave_227 ?_
        refine v_goto (tgt := 232) dX14_leave_228 (by decide) ?_
        exact wj_X14_leave_232 h rx1 rx3 rx7 (gE_rg _ _ _) (gEL_rg _ _ _) (rgl rfl) ih hE
      · rw [if_neg c5] at h
        refine v_iload dX14_leave_211 3 rfl ?_
        refine v_if_gt (tgt := 227) dX14_leave_213 rx7 (by decide) (fun c6 => ?_) (fun c6 => ?_)
        · rw [if_pos c6] at h
          refine v_iconst dX14_leave_227 ?_
          refine v_goto (tgt := 232) dX14_leave_228 (by decide) ?_
          exact wj_X14_leave_232 h rx1 rx3 rx7 (gE_rg _ _ _) (gEL_rg _ _ _) (rgl rfl) ih hE
        · rw [if_neg c6] at h
          refine v_aload_n dX14_leave_216 0 rfl rfl ?_
          refine v_getS (f := 21) (t := 97) cf14 oc87 rfl rfl rfl (by decide) q2391 dX14_leave_217 ?_
          refine v_iload_n dX14_leave_220 2 rfl rfl ?_
          obtain ⟨g7, h⟩ := gd_some h
          refine v_iald oc97 rx3 g7.1 g7.2 dX14_leave_221 ?_
          refine v_bipush dX14_leave_222 rfl ?_
          refine v_icmp_lt (tgt := 231) dX14_leave_224 (gE_rg _ _ _) (rgl rfl) (by decide) (fun c8 => ?_) (fun c8 => ?_)
          · rw [if_pos c8] at h
            refine v_iconst dX14_leave_231 ?_
            exact wj_X14_leave_232 h rx1 rx3 rx7 (gE_rg _ _ _) (gEL_rg _ _ _) (rgl rfl) ih hE
          · rw [if_neg c8] at h
            refine v_iconst dX14_leave_227 ?_
            refine v_goto (tgt := 232) dX14_leave_228 (by decide) ?_
            exact wj_X14_leave_232 h rx1 rx3 rx7 (gE_rg _ _ _) (gEL_rg _ _ _) (rgl rfl) ih hE

def j_X14_leave_151 (x1 : Int) (x2 : Int) (x3 : Int) (x5 : Int) (s : vS) : Option (vS) :=
  if x5 = 0 then
    bdv (f_X14_findLayers x2 s) fun s2 =>
    lq_0 (l_X14_leave_177 FU x1 x3 0 s2) fun s5 =>
    some s5
  else
    gd (inb x1 (gN s 189)) <|
    stp (sI s 87 144 (gE s 189 x1)) fun s8 =>
    some s8
theorem wj_X14_leave_151 {x1 : Int} {x2 : Int} {x3 : Int} {x5 : Int} {s : vS} {out : vS} (h : j_X14_leave_151 x1 x2 x3 x5 s = some out)  (rx1 : rg x1) (rx2 : rg x2) (rx3 : rg x3) (rx5 : rg x5) : VW cX14_leave (RX14, none, out, none, 3, 74, 8, []) (P0 []) s 151 [(0, vO 87), (1, vI x1), (2, vI x2), (3, vI x3), (5, vI x5)] [] := by
  unfold j_X14_leave_151 at h
  refine v_iload dX14_leave_151 4 rfl ?_
  refine v_if_eq (tgt := 169) dX14_leave_153 rx5 (by decide) (fun c1 => ?_) (fun c1 => ?_)
  · rw [if_pos c1] at h
    refine v_aload_n dX14_leave_169 0 rfl rfl ?_
    refine v_iload_n dX14_leave_170 2 rfl rfl ?_
    obtain ⟨s2, e3, h⟩ := bdv_some h
    have k4 := c_X14_findLayers e3 rx2
    refine v_callV (st := []) cf14 oc87 k4 (lw_V q3153 q3155 qs218 q311 q3156) rfl yk_X14_findLayers ⟨Nat.le_of_ble_eq_true rfl, Nat.le_of_ble_eq_true rfl⟩ trivial ⟨kc87, trivial⟩ (Nat.le_of_ble_eq_true rfl) rfl dX14_leave_171 ?_
    refine v_iconst dX14_leave_174 ?_
    refine v_istore (L1 := [(7, vI 0), (0, vO 87), (1, vI x1), (2, vI x2), (3, vI x3), (5, vI x5)]) dX14_leave_175 (by decide) rfl ?_
    refine v_sub [1, 2, 4, 0] (L1 := [(0, vO 87), (1, vI x1), (3, vI x3), (7, vI 0)]) rfl ?_
    obtain ⟨s5, e6, h⟩ := lq_0_some h
    refine wl_X14_leave_177 rx1 rx3 FU 0 s2 _ e6 (rgl rfl) ?_
    unfold E_X14_leave_177
    intro s5' z_
    cases z_
    cases h
    exact v_vret dX14_leave_241
  · rw [if_neg c1] at h
    refine v_aload_n dX14_leave_156 0 rfl rfl ?_
    refine v_aload_n dX14_leave_157 0 rfl rfl ?_
    refine v_getS (f := 153) (t := 189) cf14 oc87 rfl rfl rfl (by decide) q2523 dX14_leave_158 ?_
    refine v_iload_n dX14_leave_161 1 rfl rfl ?_
    obtain ⟨g7, h⟩ := gd_some h
    refine v_iald oc189 rx1 g7.1 g7.2 dX14_leave_162 ?_
    obtain ⟨s8, e9, h⟩ := stp_some h
    refine v_putI (f := 144) cf14 oc87 rfl (by decide) q2514 dX14_leave_163 rfl rfl ?_
    rw [← e9]
    refine v_goto (tgt := 241) dX14_leave_166 (by decide) ?_
    cases h
    exact v_vret dX14_leave_241

def j_X14_leave_77 (x1 : Int) (x2 : Int) (x3 : Int) (z0 : Int) (s : vS) : Option (vS) :=
  gd (inb x1 (gN s 187)) <|
  vl (gE s 187 x1) fun y2 =>
  lq_0 (l_X14_leave_90 FU x1 x2 x3 z0 y2 0 s) fun s5 =>
  j_X14_leave_151 x1 x2 x3 z0 s5
theorem wj_X14_leave_77 {x1 : Int} {x2 : Int} {x3 : Int} {z0 : Int} {s : vS} {out : vS} (h : j_X14_leave_77 x1 x2 x3 z0 s = some out)  (rx1 : rg x1) (rx2 : rg x2) (rx3 : rg x3) (rz0 : rg z0) : VW cX14_leave (RX14, none, out, none, 3, 74, 8, []) (P0 []) s 77 [(0, vO 87), (1, vI x1), (2, vI x2), (3, vI x3)] [vI z0] := by
  unfold j_X14_leave_77 at h
  refine v_istore (L1 := [(5, vI z0), (0, vO 87), (1, vI x1), (2, vI x2), (3, vI x3)]) dX14_leave_77 (by decide) rfl ?_
  refine v_aload_n dX14_leave_79 1 rfl rfl ?_
  refine v_getS (f := 151) (t := 187) cf14 oc87 rfl rfl rfl (by decide) q2521 dX14_leave_80 ?_
  refine v_iload_n dX14_leave_83 2 rfl rfl ?_
  obtain ⟨g1, h⟩ := gd_some h
  refine v_iald oc187 rx1 g1.1 g1.2 dX14_leave_84 ?_
  obtain ⟨y2, e3, h⟩ := vl_some h
  rw [← e3]
  have r4 : rg y2 := by rw [e3]; exact gE_rg _ _ _
  refine v_istore (L1 := [(6, vI y2), (5, vI z0), (0, vO 87), (1, vI x1), (2, vI x2), (3, vI x3)]) dX14_leave_85 (by decide) rfl ?_
  refine v_iconst dX14_leave_87 ?_
  refine v_istore (L1 := [(7, vI 0), (6, vI y2), (5, vI z0), (0, vO 87), (1, vI x1), (2, vI x2), (3, vI x3)]) dX14_leave_88 (by decide) rfl ?_
  refine v_sub [3, 4, 5, 6, 2, 1, 0] (L1 := [(0, vO 87), (1, vI x1), (2, vI x2), (3, vI x3), (5, vI z0), (6, vI y2), (7, vI 0)]) rfl ?_
  obtain ⟨s5, e6, h⟩ := lq_0_some h
  refine wl_X14_leave_90 rx1 rx2 rx3 rz0 FU y2 0 s _ e6 r4 (rgl rfl) ?_
  unfold E_X14_leave_90
  intro s5' z_
  cases z_
  exact wj_X14_leave_151 h rx1 rx2 rx3 rz0

def f_X14_leave (s : vS) : Option (vS) :=
  stp (sI s 87 149 (w32 ((gI s 87 149) - 1))) fun s1 =>
  vl (gI s1 87 149) fun y3 =>
  gd (inb y3 (gN s1 186)) <|
  vl (gE s1 186 y3) fun y7 =>
  bd (f_X14_root y7 s1) fun r13 s10 =>
  gd (inb y3 (gN s10 190)) <|
  vl (gE s10 190 y3) fun y16 =>
  if y16 < 0 then
    j_X14_leave_77 y3 y7 r13 0 s10
  else
    gd (inb y16 (gN s10 118)) <|
    if (gE s10 118 y16) = 2 then
      gd (inb y3 (gN s10 189)) <|
      gd (inb y16 (gN s10 119)) <|
      bd (f_X14_isDefault (gE s10 189 y3) (gE s10 119 y16) s10) fun r27 s24 =>
      if r27 = 0 then
        j_X14_leave_77 y3 y7 r13 0 s24
      else
        j_X14_leave_77 y3 y7 r13 1 s24
    else
      j_X14_leave_77 y3 y7 r13 0 s10
theorem yk_X14_leave : yOk yX14_leave 0 := ⟨by decide, by decide, by decide +kernel⟩
theorem c_X14_leave {s : vS} {out : vS} (h : f_X14_leave s = some out)   : VC yX14_leave cX14_leave 8 none 3 74 [vO 87] s none out [] := by
  unfold f_X14_leave at h
  refine VC.of RX14 (by decide) rfl (Nat.le_of_ble_eq_true rfl) ?_
  show VW cX14_leave (RX14, none, out, none, 3, 74, 8, []) (P0 []) s 0 [(0, vO 87)] []
  refine v_aload_n dX14_leave_0 0 rfl rfl ?_
  refine v_dupO dX14_leave_1 ?_
  refine v_getI (f := 149) cf14 oc87 rfl (by decide) q2519 dX14_leave_2 ?_
  refine v_iconst dX14_leave_5 ?_
  refine v_isub dX14_leave_6 ?_
  obtain ⟨s1, e2, h⟩ := stp_some h
  refine v_putI (f := 149) cf14 oc87 rfl (by decide) q2519 dX14_leave_7 rfl rfl ?_
  rw [← e2]
  refine v_aload_n dX14_leave_10 0 rfl rfl ?_
  refine v_getI (f := 149) cf14 oc87 rfl (by decide) q2519 dX14_leave_11 ?_
  obtain ⟨y3, e4, h⟩ := vl_some h
  rw [← e4]
  have r5 : rg y3 := by rw [e4]; exact gI_rg _ _ _
  refine v_istore_n (L1 := [(1, vI y3), (0, vO 87)]) dX14_leave_14 rfl (by decide) rfl ?_
  refine v_aload_n dX14_leave_15 1 rfl rfl ?_
  refine v_getS (f := 150) (t := 186) cf14 oc87 rfl rfl rfl (by decide) q2520 dX14_leave_16 ?_
  refine v_iload_n dX14_leave_19 0 rfl rfl ?_
  obtain ⟨g6, h⟩ := gd_some h
  refine v_iald oc186 r5 g6.1 g6.2 dX14_leave_20 ?_
  obtain ⟨y7, e8, h⟩ := vl_some h
  rw [← e8]
  have r9 : rg y7 := by rw [e8]; exact gE_rg _ _ _
  refine v_istore_n (L1 := [(2, vI y7), (1, vI y3), (0, vO 87)]) dX14_leave_21 rfl (by decide) rfl ?_
  refine v_aload_n dX14_leave_22 2 rfl rfl ?_
  refine v_iload_n dX14_leave_23 0 rfl rfl ?_
  obtain ⟨r13, s10, e11, h⟩ := bd_some h
  have k12 := c_X14_root e11 r9
  have r14 : rg r13 := k12.1.2.2
  refine v_callV (st := []) cf14 oc87 k12 (lw_V q3129 q3131 qs212 q311 q3132) rfl yk_X14_root ⟨Nat.le_of_ble_eq_true rfl, Nat.le_of_ble_eq_true rfl⟩ trivial ⟨kc87, trivial⟩ (Nat.le_of_ble_eq_true rfl) rfl dX14_leave_24 ?_
  refine v_istore_n (L1 := [(3, vI r13), (2, vI y7), (1, vI y3), (0, vO 87)]) dX14_leave_27 rfl (by decide) rfl ?_
  refine v_aload_n dX14_leave_28 3 rfl rfl ?_
  refine v_getS (f := 154) (t := 190) cf14 oc87 rfl rfl rfl (by decide) q2524 dX14_leave_29 ?_
  refine v_iload_n dX14_leave_32 2 rfl rfl ?_
  obtain ⟨g15, h⟩ := gd_some h
  refine v_iald oc190 r5 g15.1 g15.2 dX14_leave_33 ?_
  obtain ⟨y16, e17, h⟩ := vl_some h
  rw [← e17]
  have r18 : rg y16 := by rw [e17]; exact gE_rg _ _ _
  refine v_istore (L1 := [(4, vI y16), (3, vI r13), (2, vI y7), (1, vI y3), (0, vO 87)]) dX14_leave_34 (by decide) rfl ?_
  refine v_iload dX14_leave_36 0 rfl ?_
  refine v_if_lt (tgt := 76) dX14_leave_38 r18 (by decide) (fun c19 => ?_) (fun c19 => ?_)
  · rw [if_pos c19] at h
    refine v_iconst dX14_leave_76 ?_
    refine v_sub [4, 3, 2, 1] (L1 := [(0, vO 87), (1, vI y3), (2, vI y7), (3, vI r13)]) rfl ?_
    exact wj_X14_leave_77 h r5 r9 r14 (rgl rfl)
  · rw [if_neg c19] at h
    refine v_aload_n dX14_leave_41 4 rfl rfl ?_
    refine v_getS (f := 45) (t := 118) cf14 oc87 rfl rfl rfl (by decide) q2415 dX14_leave_42 ?_
    refine v_iload dX14_leave_45 0 rfl ?_
    obtain ⟨g20, h⟩ := gd_some h
    refine v_iald oc118 r18 g20.1 g20.2 dX14_leave_47 ?_
    refine v_iconst dX14_leave_48 ?_
    refine v_icmp_ne (tgt := 76) dX14_leave_49 (gE_rg _ _ _) (rgl rfl) (by decide) (fun c21 => ?_) (fun c21 => ?_)
    · rw [if_neg c21] at h
      refine v_iconst dX14_leave_76 ?_
      refine v_sub [4, 3, 2, 1] (L1 := [(0, vO 87), (1, vI y3), (2, vI y7), (3, vI r13)]) rfl ?_
      exact wj_X14_leave_77 h r5 r9 r14 (rgl rfl)
    · rw [if_pos c21] at h
      refine v_aload_n dX14_leave_52 4 rfl rfl ?_
      refine v_aload_n dX14_leave_53 4 rfl rfl ?_
      refine v_getS (f := 153) (t := 189) cf14 oc87 rfl rfl rfl (by decide) q2523 dX14_leave_54 ?_
      refine v_iload_n dX14_leave_57 3 rfl rfl ?_
      obtain ⟨g22, h⟩ := gd_some h
      refine v_iald oc189 r5 g22.1 g22.2 dX14_leave_58 ?_
      refine v_aload_n dX14_leave_59 4 rfl rfl ?_
      refine v_getS (f := 46) (t := 119) cf14 oc87 rfl rfl rfl (by decide) q2416 dX14_leave_60 ?_
      refine v_iload dX14_leave_63 0 rfl ?_
      obtain ⟨g23, h⟩ := gd_some h
      refine v_iald oc119 r18 g23.1 g23.2 dX14_leave_65 ?_
      obtain ⟨r27, s24, e25, h⟩ := bd_some h
      have k26 := c_X14_isDefault e25 (gE_rg _ _ _) (gE_rg _ _ _)
      have r28 : rg r27 := k26.1.2.2
      refine v_callV (st := []) cf14 oc87 k26 (lw_V q3462 q3464 qs284 q311 q3465) rfl yk_X14_isDefault ⟨Nat.le_of_ble_eq_true rfl, Nat.le_of_ble_eq_true rfl⟩ trivial ⟨kc87, trivial⟩ (Nat.le_of_ble_eq_true rfl) rfl dX14_leave_66 ?_
      refine v_if_eq (tgt := 76) dX14_leave_69 r28 (by decide) (fun c29 => ?_) (fun c29 => ?_)
      · rw [if_pos c29] at h
        refine v_iconst dX14_leave_76 ?_
        refine v_sub [4, 3, 2, 1] (L1 := [(0, vO 87), (1, vI y3), (2, vI y7), (3, vI r13)]) rfl ?_
        exact wj_X14_leave_77 h r5 r9 r14 (rgl rfl)
      · rw [if_neg c29] at h
        refine v_iconst dX14_leave_72 ?_
        refine v_goto (tgt := 77) dX14_leave_73 (by decide) ?_
        refine v_sub [4, 3, 2, 1] (L1 := [(0, vO 87), (1, vI y3), (2, vI y7), (3, vI r13)]) rfl ?_
        exact wj_X14_leave_77 h r5 r9 r14 (rgl rfl)

def E_X14_enter_51 (x1 : Int) (x3 : Int) (x4 : Int) (x6 : Int) (x7 : Int) (rv : Option vA) (σo : vS) (q : Int × vS) : Prop := ∀ (x5' : Int) (s' : vS), q = (x5', s') → rg x5' → VW cX14_enter (RX14, rv, σo, none, 7, 177, 9, []) (P0 []) s' 164 [(0, vO 87), (1, vI x1), (3, vI x3), (4, vI x4), (5, vI x5'), (6, vI x6), (7, vI x7)] []
def l_X14_enter_51 : Nat → Int → Int → Int → Int → Int → Int → Int → vS → Option (Int × vS)
  | 0, _, _, _, _, _, _, _, _ => none
  | n + 1, x1, x3, x4, x5, x6, x7, x8, s =>
    if x8 < x6 then
      some (x5, s)
    else
      if (gI s 87 8) = 0 then
        gd (inb x8 (gN s 159)) <|
        bd (f_X14_hasTag x5 (gEL s 159 x8) s) fun r7 s4 =>
        if r7 = 0 then
          gd (inb x5 (gN s4 172)) <|
          bdv (f_X14_tell 11 (gE s4 172 x5) s4) fun s36 =>
          vl (w32 (x8 + (-1))) fun y39 =>
          l_X14_enter_51 n x1 x3 x4 x5 x6 x7 y39 s36
        else
          gd (inb x5 (gN s4 174)) <|
          if (gZ s4 174 x5) = 0 then
            gd (inb x5 (gN s4 172)) <|
            bdv (f_X14_tell 14 (gE s4 172 x5) s4) fun s29 =>
            vl (w32 (x8 + (-1))) fun y32 =>
            l_X14_enter_51 n x1 x3 x4 x5 x6 x7 y32 s29
          else
            gd (inb x5 (gN s4 180)) <|
            if 0 ≤ (gE s4 180 x5) then
              gd (inb x5 (gN s4 180)) <|
              vl (gE s4 180 x5) fun y15 =>
              vl (w32 (x8 + (-1))) fun y18 =>
              l_X14_enter_51 n x1 x3 x4 y15 x6 x7 y18 s4
            else
              gd (inb x5 (gN s4 172)) <|
              bdv (f_X14_tell 15 (gE s4 172 x5) s4) fun s22 =>
              vl (w32 (x8 + (-1))) fun y25 =>
              l_X14_enter_51 n x1 x3 x4 x5 x6 x7 y25 s22
      else
        some (x5, s)
theorem wl_X14_enter_51 {x1 : Int} {x3 : Int} {x4 : Int} {x6 : Int} {x7 : Int} {rv : Option vA} {σo : vS}  (rx1 : rg x1) (rx3 : rg x3) (rx4 : rg x4) (rx6 : rg x6) (rx7 : rg x7) : ∀ (n : Nat) (x5 : Int) (x8 : Int) (s : vS) (q : Int × vS), l_X14_enter_51 n x1 x3 x4 x5 x6 x7 x8 s = some q → rg x5 → rg x8 → E_X14_enter_51 x1 x3 x4 x6 x7 rv σo q → VW cX14_enter (RX14, rv, σo, none, 7, 177, 9, []) (P0 []) s 51 [(0, vO 87), (1, vI x1), (3, vI x3), (4, vI x4), (5, vI x5), (6, vI x6), (7, vI x7), (8, vI x8)] [] := by
  intro n
  induction n with
  | zero => intro x5 x8 s q h; cases h
  | succ n ih =>
    intro x5 x8 s q h rx5 rx8 hE
    unfold l_X14_enter_51 at h
    refine v_iload dX14_enter_51 7 rfl ?_
    refine v_iload dX14_enter_53 5 rfl ?_
    refine v_icmp_lt (tgt := 164) dX14_enter_55 rx8 rx6 (by decide) (fun c1 => ?_) (fun c1 => ?_)
    · rw [if_pos c1] at h
      cases h
      refine v_sub [0, 1, 2, 3, 4, 5, 6] (L1 := [(0, vO 87), (1, vI x1), (3, vI x3), (4, vI x4), (5, vI x5), (6, vI x6), (7, vI x7)]) rfl ?_
      exact hE _ _ rfl rx5
    · rw [if_neg c1] at h
      refine v_aload_n dX14_enter_58 0 rfl rfl ?_
      refine v_getI (f := 8) cf14 oc87 rfl (by decide) q2378 dX14_enter_59 ?_
      refine v_if_ne (tgt := 164) dX14_enter_62 (gI_rg _ _ _) (by decide) (fun c2 => ?_) (fun c2 => ?_)
      · rw [if_neg c2] at h
        cases h
        refine v_sub [0, 1, 2, 3, 4, 5, 6] (L1 := [(0, vO 87), (1, vI x1), (3, vI x3), (4, vI x4), (5, vI x5), (6, vI x6), (7, vI x7)]) rfl ?_
        exact hE _ _ rfl rx5
      · rw [if_pos c2] at h
        refine v_aload_n dX14_enter_65 0 rfl rfl ?_
        refine v_iload dX14_enter_66 4 rfl ?_
        refine v_aload_n dX14_enter_68 0 rfl rfl ?_
        refine v_getS (f := 102) (t := 159) cf14 oc87 rfl rfl rfl (by decide) q2472 dX14_enter_69 ?_
        refine v_iload dX14_enter_72 7 rfl ?_
        obtain ⟨g3, h⟩ := gd_some h
        refine v_lald oc159 rx8 g3.1 g3.2 dX14_enter_74 ?_
        obtain ⟨r7, s4, e5, h⟩ := bd_some h
        have k6 := c_X14_hasTag e5 rx5 (gEL_rg _ _ _)
        have r8 : rg r7 := k6.1.2.2
        refine v_callV (st := []) cf14 oc87 k6 (lw_V q3401 q3403 qs270 q311 q3404) rfl yk_X14_hasTag ⟨Nat.le_of_ble_eq_true rfl, Nat.le_of_ble_eq_true rfl⟩ trivial ⟨kc87, trivial⟩ (Nat.le_of_ble_eq_true rfl) rfl dX14_enter_75 ?_
        refine v_if_ne (tgt := 97) dX14_enter_78 r8 (by decide) (fun c9 => ?_) (fun c9 => ?_)
        · rw [if_neg c9] at h
          refine v_aload_n dX14_enter_97 0 rfl rfl ?_
          refine v_getS (f := 132) (t := 174) cf14 oc87 rfl rfl rfl (by decide) q2502 dX14_enter_98 ?_
          refine v_iload dX14_enter_101 4 rfl ?_
          obtain ⟨g10, h⟩ := gd_some h
          refine v_zald oc174 rx5 g10.1 g10.2 dX14_enter_103 ?_
          refine v_if_ne (tgt := 123) dX14_enter_104 (gZ_rg _ _ _) (by decide) (fun c11 => ?_) (fun c11 => ?_)
          · rw [if_neg c11] at h
            refine v_aload_n dX14_enter_123 0 rfl rfl ?_
            refine v_getS (f := 138) (t := 180) cf14 oc87 rfl rfl rfl (by decide) q2508 dX14_enter_124 ?_
            refine v_iload dX14_enter_127 4 rfl ?_
            obtain ⟨g12, h⟩ := gd_some h
            refine v_iald oc180 rx5 g12.1 g12.2 dX14_enter_129 ?_
            refine v_if_ge (tgt := 149) dX14_enter_130 (gE_rg _ _ _) (by decide) (fun c13 => ?_) (fun c13 => ?_)
            · rw [if_pos c13] at h
              refine v_aload_n dX14_enter_149 0 rfl rfl ?_
              refine v_getS (f := 138) (t := 180) cf14 oc87 rfl rfl rfl (by decide) q2508 dX14_enter_150 ?_
              refine v_iload dX14_enter_153 4 rfl ?_
              obtain ⟨g14, h⟩ := gd_some h
              refine v_iald oc180 rx5 g14.1 g14.2 dX14_enter_155 ?_
              obtain ⟨y15, e16, h⟩ := vl_some h
              rw [← e16]
              have r17 : rg y15 := by rw [e16]; exact gE_rg _ _ _
              refine v_istore (L1 := [(5, vI y15), (0, vO 87), (1, vI x1), (3, vI x3), (4, vI x4), (6, vI x6), (7, vI x7), (8, vI x8)]) dX14_enter_156 (by decide) rfl ?_
              obtain ⟨y18, e19, h⟩ := vl_some h
              refine v_iinc (L1 := [(8, vI (w32 (x8 + (-1)))), (5, vI y15), (0, vO 87), (1, vI x1), (3, vI x3), (4, vI x4), (6, vI x6), (7, vI x7)]) dX14_enter_158 7 rfl (by decide) rfl ?_
              rw [← e19]
              have r20 : rg y18 := by rw [e19]; exact w32_rg _
              refine v_goto (tgt := 51) dX14_enter_161 (by decide) ?_
              refine v_sub [2, 3, 4, 5, 1, 6, 7, 0] (L1 := [(0, vO 87), (1, vI x1), (3, vI x3), (4, vI x4), (5, vI y15), (6, vI x6), (7, vI x7), (8, vI y18)]) rfl ?_
              exact ih y15 y18 s4 _ h r17 r20 hE
            · rw [if_neg c13] at h
              refine v_aload_n dX14_enter_133 0 rfl rfl ?_
              refine v_bipush dX14_enter_134 rfl ?_
              refine v_aload_n dX14_enter_136 0 rfl rfl ?_
              refine v_getS (f := 130) (t := 172) cf14 oc87 rfl rfl rfl (by decide) q2500 dX14_enter_137 ?_
              refine v_iload dX14_enter_140 4 rfl ?_
              obtain ⟨g21, h⟩ := gd_some h
              refine v_iald oc172 rx5 g21.1 g21.2 dX14_enter_142 ?_
              obtain ⟨s22, e23, h⟩ := bdv_some h
              have k24 := c_X14_tell e23 (rgl rfl) (gE_rg _ _ _)
              refine v_callV (st := []) cf14 oc87 k24 (lw_V q2916 q2918 qs163 q311 q2919) rfl yk_X14_tell ⟨Nat.le_of_ble_eq_true rfl, Nat.le_of_ble_eq_true rfl⟩ trivial ⟨kc87, trivial⟩ (Nat.le_of_ble_eq_true rfl) rfl dX14_enter_143 ?_
              refine v_goto (tgt := 158) dX14_enter_146 (by decide) ?_
              obtain ⟨y25, e26, h⟩ := vl_some h
              refine v_iinc (L1 := [(8, vI (w32 (x8 + (-1)))), (0, vO 87), (1, vI x1), (3, vI x3), (4, vI x4), (5, vI x5), (6, vI x6), (7, vI x7)]) dX14_enter_158 7 rfl (by decide) rfl ?_
              rw [← e26]
              have r27 : rg y25 := by rw [e26]; exact w32_rg _
              refine v_goto (tgt := 51) dX14_enter_161 (by decide) ?_
              refine v_sub [1, 2, 3, 4, 5, 6, 7, 0] (L1 := [(0, vO 87), (1, vI x1), (3, vI x3), (4, vI x4), (5, vI x5), (6, vI x6), (7, vI x7), (8, vI y25)]) rfl ?_
              exact ih x5 y25 s22 _ h rx5 r27 hE
          · rw [if_pos c11] at h
            refine v_aload_n dX14_enter_107 0 rfl rfl ?_
            refine v_bipush dX14_enter_108 rfl ?_
            refine v_aload_n dX14_enter_110 0 rfl rfl ?_
            refine v_getS (f := 130) (t := 172) cf14 oc87 rfl rfl rfl (by decide) q2500 dX14_enter_111 ?_
            refine v_iload dX14_enter_114 4 rfl ?_
            obtain ⟨g28, h⟩ := gd_some h
            refine v_iald oc172 rx5 g28.1 g28.2 dX14_enter_116 ?_
            obtain ⟨s29, e30, h⟩ := bdv_some h
            have k31 := c_X14_tell e30 (rgl rfl) (gE_rg _ _ _)
            refine v_callV (st := []) cf14 oc87 k31 (lw_V q2916 q2918 qs163 q311 q2919) rfl yk_X14_tell ⟨Nat.le_of_ble_eq_true rfl, Nat.le_of_ble_eq_true rfl⟩ trivial ⟨kc87, trivial⟩ (Nat.le_of_ble_eq_true rfl) rfl dX14_enter_117 ?_
            refine v_goto (tgt := 158) dX14_enter_120 (by decide) ?_
            obtain ⟨y32, e33, h⟩ := vl_some h
            refine v_iinc (L1 := [(8, vI (w32 (x8 + (-1)))), (0, vO 87), (1, vI x1), (3, vI x3), (4, vI x4), (5, vI x5), (6, vI x6), (7, vI x7)]) dX14_enter_158 7 rfl (by decide) rfl ?_
            rw [← e33]
            have r34 : rg y32 := by rw [e33]; exact w32_rg _
            refine v_goto (tgt := 51) dX14_enter_161 (by decide) ?_
            refine v_sub [1, 2, 3, 4, 5, 6, 7, 0] (L1 := [(0, vO 87), (1, vI x1), (3, vI x3), (4, vI x4), (5, vI x5), (6, vI x6), (7, vI x7), (8, vI y32)]) rfl ?_
            exact ih x5 y32 s29 _ h rx5 r34 hE
        · rw [if_pos c9] at h
          refine v_aload_n dX14_enter_81 0 rfl rfl ?_
          refine v_bipush dX14_enter_82 rfl ?_
          refine v_aload_n dX14_enter_84 0 rfl rfl ?_
          refine v_getS (f := 130) (t := 172) cf14 oc87 rfl rfl rfl (by decide) q2500 dX14_enter_85 ?_
          refine v_iload dX14_enter_88 4 rfl ?_
          obtain ⟨g35, h⟩ := gd_some h
          refine v_iald oc172 rx5 g35.1 g35.2 dX14_enter_90 ?_
          obtain ⟨s36, e37, h⟩ := bdv_some h
          have k38 := c_X14_tell e37 (rgl rfl) (gE_rg _ _ _)
          refine v_callV (st := []) cf14 oc87 k38 (lw_V q2916 q2918 qs163 q311 q2919) rfl yk_X14_tell ⟨Nat.le_of_ble_eq_true rfl, Nat.le_of_ble_eq_true rfl⟩ trivial ⟨kc87, trivial⟩ (Nat.le_of_ble_eq_true rfl) rfl dX14_enter_91 ?_
          refine v_goto (tgt := 158) dX14_enter_94 (by decide) ?_
          obtain ⟨y39, e40, h⟩ := vl_some h
          refine v_iinc (L1 := [(8, vI (w32 (x8 + (-1)))), (0, vO 87), (1, vI x1), (3, vI x3), (4, vI x4), (5, vI x5), (6, vI x6), (7, vI x7)]) dX14_enter_158 7 rfl (by decide) rfl ?_
          rw [← e40]
          have r41 : rg y39 := by rw [e40]; exact w32_rg _
          refine v_goto (tgt := 51) dX14_enter_161 (by decide) ?_
          refine v_sub [1, 2, 3, 4, 5, 6, 7, 0] (L1 := [(0, vO 87), (1, vI x1), (3, vI x3), (4, vI x4), (5, vI x5), (6, vI x6), (7, vI x7), (8, vI y39)]) rfl ?_
          exact ih x5 y39 s36 _ h rx5 r41 hE

def j_X14_enter_364 (x4 : Int) (x5 : Int) (x8 : Int) (s : vS) : Option (vS) :=
  gd (inb x5 (gN s 180)) <|
  gd (inb x8 (gN s 191)) <|
  stp (sE s 191 x8 (gE s 180 x5)) fun s3 =>
  gd (inb x4 (gN s3 104)) <|
  gd (inb x8 (gN s3 192)) <|
  stp (sE s3 192 x8 (gE s3 104 x4)) fun s7 =>
  some s7
theorem wj_X14_enter_364 {x4 : Int} {x5 : Int} {x8 : Int} {s : vS} {out : vS} (h : j_X14_enter_364 x4 x5 x8 s = some out)  (rx4 : rg x4) (rx5 : rg x5) (rx8 : rg x8) : VW cX14_enter (RX14, none, out, none, 7, 177, 9, []) (P0 []) s 364 [(0, vO 87), (4, vI x4), (5, vI x5), (8, vI x8)] [] := by
  unfold j_X14_enter_364 at h
  refine v_aload_n dX14_enter_364 0 rfl rfl ?_
  refine v_getS (f := 155) (t := 191) cf14 oc87 rfl rfl rfl (by decide) q2525 dX14_enter_365 ?_
  refine v_iload dX14_enter_368 3 rfl ?_
  refine v_aload_n dX14_enter_370 0 rfl rfl ?_
  refine v_getS (f := 138) (t := 180) cf14 oc87 rfl rfl rfl (by decide) q2508 dX14_enter_371 ?_
  refine v_iload dX14_enter_374 2 rfl ?_
  obtain ⟨g1, h⟩ := gd_some h
  refine v_iald oc180 rx5 g1.1 g1.2 dX14_enter_376 ?_
  obtain ⟨g2, h⟩ := gd_some h
  obtain ⟨s3, e4, h⟩ := stp_some h
  refine v_iast oc191 rx8 g2.1 g2.2 dX14_enter_377 ?_
  rw [← e4]
  refine v_aload_n dX14_enter_378 0 rfl rfl ?_
  refine v_getS (f := 156) (t := 192) cf14 oc87 rfl rfl rfl (by decide) q2526 dX14_enter_379 ?_
  refine v_iload dX14_enter_382 3 rfl ?_
  refine v_aload_n dX14_enter_384 0 rfl rfl ?_
  refine v_getS (f := 28) (t := 104) cf14 oc87 rfl rfl rfl (by decide) q2398 dX14_enter_385 ?_
  refine v_iload dX14_enter_388 1 rfl ?_
  obtain ⟨g5, h⟩ := gd_some h
  refine v_iald oc104 rx4 g5.1 g5.2 dX14_enter_390 ?_
  obtain ⟨g6, h⟩ := gd_some h
  obtain ⟨s7, e8, h⟩ := stp_some h
  refine v_iast oc192 rx8 g6.1 g6.2 dX14_enter_391 ?_
  rw [← e8]
  refine v_goto (tgt := 415) dX14_enter_392 (by decide) ?_
  cases h
  exact v_vret dX14_enter_415

def j_X14_enter_205 (x1 : Int) (x3 : Int) (x4 : Int) (x5 : Int) (x7 : Int) (s : vS) : Option (vS) :=
  if (gI s 87 8) ≤ 0 then
    bdv (f_X14_roomForFrames s) fun s2 =>
    vl (gI s2 87 149) fun y5 =>
    stp (sI s2 87 149 (w32 ((gI s2 87 149) + 1))) fun s8 =>
    gd (inb y5 (gN s8 186)) <|
    stp (sE s8 186 y5 x1) fun s11 =>
    gd (inb y5 (gN s11 187)) <|
    stp (sE s11 187 y5 x5) fun s14 =>
    gd (inb y5 (gN s14 188)) <|
    stp (sE s14 188 y5 x7) fun s17 =>
    gd (inb y5 (gN s17 189)) <|
    stp (sE s17 189 y5 (gI s17 87 144)) fun s20 =>
    gd (inb y5 (gN s20 190)) <|
    stp (sE s20 190 y5 x3) fun s23 =>
    gd (inb y5 (gN s23 193)) <|
    stp (sE s23 193 y5 (gI s23 87 158)) fun s26 =>
    gd (inb y5 (gN s26 191)) <|
    stp (sE s26 191 y5 (-1)) fun s29 =>
    gd (inb y5 (gN s29 192)) <|
    stp (sE s29 192 y5 (-1)) fun s32 =>
    gd (inb x4 (gN s32 97)) <|
    if (gE s32 97 x4) = 16 then
      gd (inb y5 (gN s32 191)) <|
      stp (sE s32 191 y5 x5) fun s52 =>
      some s52
    else
      gd (inb x4 (gN s32 97)) <|
      if (gE s32 97 x4) < 12 then
        bdv (f_X14_leaf x1 x4 x5 s32) fun s38 =>
        if (gI s38 87 8) = 0 then
          bdv (f_X14_leave s38) fun s42 =>
          some s42
        else
          some s38
      else
        gd (inb x5 (gN s32 174)) <|
        if (gZ s32 174 x5) = 0 then
          gd (inb x5 (gN s32 172)) <|
          bdv (f_X14_tell 14 (gE s32 172 x5) s32) fun s48 =>
          j_X14_enter_364 x4 x5 y5 s48
        else
          j_X14_enter_364 x4 x5 y5 s32
  else
    some s
theorem wj_X14_enter_205 {x1 : Int} {x3 : Int} {x4 : Int} {x5 : Int} {x7 : Int} {s : vS} {out : vS} (h : j_X14_enter_205 x1 x3 x4 x5 x7 s = some out)  (rx1 : rg x1) (rx3 : rg x3) (rx4 : rg x4) (rx5 : rg x5) (rx7 : rg x7) : VW cX14_enter (RX14, none, out, none, 7, 177, 9, []) (P0 []) s 205 [(0, vO 87), (1, vI x1), (3, vI x3), (4, vI x4), (5, vI x5), (7, vI x7)] [] := by
  unfold j_X14_enter_205 at h
  refine v_aload_n dX14_enter_205 0 rfl rfl ?_
  refine v_getI (f := 8) cf14 oc87 rfl (by decide) q2378 dX14_enter_206 ?_
  refine v_if_le (tgt := 213) dX14_enter_209 (gI_rg _ _ _) (by decide) (fun c1 => ?_) (fun c1 => ?_)
  · rw [if_pos c1] at h
    refine v_aload_n dX14_enter_213 0 rfl rfl ?_
    obtain ⟨s2, e3, h⟩ := bdv_some h
    have k4 := c_X14_roomForFrames e3
    refine v_callV (st := []) cf14 oc87 k4 (lw_V q3405 q3407 qs271 q311 q3408) rfl yk_X14_roomForFrames ⟨Nat.le_of_ble_eq_true rfl, Nat.le_of_ble_eq_true rfl⟩ trivial ⟨kc87, trivial⟩ (Nat.le_of_ble_eq_true rfl) rfl dX14_enter_214 ?_
    refine v_aload_n dX14_enter_217 0 rfl rfl ?_
    refine v_getI (f := 149) cf14 oc87 rfl (by decide) q2519 dX14_enter_218 ?_
    obtain ⟨y5, e6, h⟩ := vl_some h
    rw [← e6]
    have r7 : rg y5 := by rw [e6]; exact gI_rg _ _ _
    refine v_istore (L1 := [(8, vI y5), (0, vO 87), (1, vI x1), (3, vI x3), (4, vI x4), (5, vI x5), (7, vI x7)]) dX14_enter_221 (by decide) rfl ?_
    refine v_aload_n dX14_enter_223 1 rfl rfl ?_
    refine v_dupO dX14_enter_224 ?_
    refine v_getI (f := 149) cf14 oc87 rfl (by decide) q2519 dX14_enter_225 ?_
    refine v_iconst dX14_enter_228 ?_
    refine v_iadd dX14_enter_229 ?_
    obtain ⟨s8, e9, h⟩ := stp_some h
    refine v_putI (f := 149) cf14 oc87 rfl (by decide) q2519 dX14_enter_230 rfl rfl ?_
    rw [← e9]
    refine v_aload_n dX14_enter_233 1 rfl rfl ?_
    refine v_getS (f := 150) (t := 186) cf14 oc87 rfl rfl rfl (by decide) q2520 dX14_enter_234 ?_
    refine v_iload dX14_enter_237 0 rfl ?_
    refine v_iload_n dX14_enter_239 2 rfl rfl ?_
    obtain ⟨g10, h⟩ := gd_some h
    obtain ⟨s11, e12, h⟩ := stp_some h
    refine v_iast oc186 r7 g10.1 g10.2 dX14_enter_240 ?_
    rw [← e12]
    refine v_aload_n dX14_enter_241 1 rfl rfl ?_
    refine v_getS (f := 151) (t := 187) cf14 oc87 rfl rfl rfl (by decide) q2521 dX14_enter_242 ?_
    refine v_iload dX14_enter_245 0 rfl ?_
    refine v_iload dX14_enter_247 5 rfl ?_
    obtain ⟨g13, h⟩ := gd_some h
    obtain ⟨s14, e15, h⟩ := stp_some h
    refine v_iast oc187 r7 g13.1 g13.2 dX14_enter_249 ?_
    rw [← e15]
    refine v_aload_n dX14_enter_250 1 rfl rfl ?_
    refine v_getS (f := 152) (t := 188) cf14 oc87 rfl rfl rfl (by decide) q2522 dX14_enter_251 ?_
    refine v_iload dX14_enter_254 0 rfl ?_
    refine v_iload dX14_enter_256 6 rfl ?_
    obtain ⟨g16, h⟩ := gd_some h
    obtain ⟨s17, e18, h⟩ := stp_some h
    refine v_iast oc188 r7 g16.1 g16.2 dX14_enter_258 ?_
    rw [← e18]
    refine v_aload_n dX14_enter_259 1 rfl rfl ?_
    refine v_getS (f := 153) (t := 189) cf14 oc87 rfl rfl rfl (by decide) q2523 dX14_enter_260 ?_
    refine v_iload dX14_enter_263 0 rfl ?_
    refine v_aload_n dX14_enter_265 1 rfl rfl ?_
    refine v_getI (f := 144) cf14 oc87 rfl (by decide) q2514 dX14_enter_266 ?_
    obtain ⟨g19, h⟩ := gd_some h
    obtain ⟨s20, e21, h⟩ := stp_some h
    refine v_iast oc189 r7 g19.1 g19.2 dX14_enter_269 ?_
    rw [← e21]
    refine v_aload_n dX14_enter_270 1 rfl rfl ?_
    refine v_getS (f := 154) (t := 190) cf14 oc87 rfl rfl rfl (by decide) q2524 dX14_enter_271 ?_
    refine v_iload dX14_enter_274 0 rfl ?_
    refine v_iload_n dX14_enter_276 3 rfl rfl ?_
    obtain ⟨g22, h⟩ := gd_some h
    obtain ⟨s23, e24, h⟩ := stp_some h
    refine v_iast oc190 r7 g22.1 g22.2 dX14_enter_277 ?_
    rw [← e24]
    refine v_aload_n dX14_enter_278 1 rfl rfl ?_
    refine v_getS (f := 157) (t := 193) cf14 oc87 rfl rfl rfl (by decide) q2527 dX14_enter_279 ?_
    refine v_iload dX14_enter_282 0 rfl ?_
    refine v_aload_n dX14_enter_284 1 rfl rfl ?_
    refine v_getI (f := 158) cf14 oc87 rfl (by decide) q2528 dX14_enter_285 ?_
    obtain ⟨g25, h⟩ := gd_some h
    obtain ⟨s26, e27, h⟩ := stp_some h
    refine v_iast oc193 r7 g25.1 g25.2 dX14_enter_288 ?_
    rw [← e27]
    refine v_aload_n dX14_enter_289 1 rfl rfl ?_
    refine v_getS (f := 155) (t := 191) cf14 oc87 rfl rfl rfl (by decide) q2525 dX14_enter_290 ?_
    refine v_iload dX14_enter_293 0 rfl ?_
    refine v_iconst dX14_enter_295 ?_
    obtain ⟨g28, h⟩ := gd_some h
    obtain ⟨s29, e30, h⟩ := stp_some h
    refine v_iast oc191 r7 g28.1 g28.2 dX14_enter_296 ?_
    rw [← e30]
    refine v_aload_n dX14_enter_297 1 rfl rfl ?_
    refine v_getS (f := 156) (t := 192) cf14 oc87 rfl rfl rfl (by decide) q2526 dX14_enter_298 ?_
    refine v_iload dX14_enter_301 0 rfl ?_
    refine v_iconst dX14_enter_303 ?_
    obtain ⟨g31, h⟩ := gd_some h
    obtain ⟨s32, e33, h⟩ := stp_some h
    refine v_iast oc192 r7 g31.1 g31.2 dX14_enter_304 ?_
    rw [← e33]
    refine v_aload_n dX14_enter_305 1 rfl rfl ?_
    refine v_getS (f := 21) (t := 97) cf14 oc87 rfl rfl rfl (by decide) q2391 dX14_enter_306 ?_
    refine v_iload dX14_enter_309 4 rfl ?_
    obtain ⟨g34, h⟩ := gd_some h
    refine v_iald oc97 rx4 g34.1 g34.2 dX14_enter_311 ?_
    refine v_bipush dX14_enter_312 rfl ?_
    refine v_icmp_ne (tgt := 329) dX14_enter_314 (gE_rg _ _ _) (rgl rfl) (by decide) (fun c35 => ?_) (fun c35 => ?_)
    · rw [if_neg c35] at h
      refine v_aload_n dX14_enter_329 1 rfl rfl ?_
      refine v_getS (f := 21) (t := 97) cf14 oc87 rfl rfl rfl (by decide) q2391 dX14_enter_330 ?_
      refine v_iload dX14_enter_333 4 rfl ?_
      obtain ⟨g36, h⟩ := gd_some h
      refine v_iald oc97 rx4 g36.1 g36.2 dX14_enter_335 ?_
      refine v_bipush dX14_enter_336 rfl ?_
      refine v_icmp_lt (tgt := 395) dX14_enter_338 (gE_rg _ _ _) (rgl rfl) (by decide) (fun c37 => ?_) (fun c37 => ?_)
      · rw [if_pos c37] at h
        refine v_aload_n dX14_enter_395 1 rfl rfl ?_
        refine v_iload_n dX14_enter_396 2 rfl rfl ?_
        refine v_iload dX14_enter_397 4 rfl ?_
        refine v_iload dX14_enter_399 5 rfl ?_
        obtain ⟨s38, e39, h⟩ := bdv_some h
        have k40 := c_X14_leaf e39 rx1 rx4 rx5
        refine v_callV (st := []) cf14 oc87 k40 (lw_V q3409 q3411 qs272 q311 q3412) rfl yk_X14_leaf ⟨Nat.le_of_ble_eq_true rfl, Nat.le_of_ble_eq_true rfl⟩ trivial ⟨kc87, trivial⟩ (Nat.le_of_ble_eq_true rfl) rfl dX14_enter_401 ?_
        refine v_aload_n dX14_enter_404 1 rfl rfl ?_
        refine v_getI (f := 8) cf14 oc87 rfl (by decide) q2378 dX14_enter_405 ?_
        refine v_if_ne (tgt := 415) dX14_enter_408 (gI_rg _ _ _) (by decide) (fun c41 => ?_) (fun c41 => ?_)
        · rw [if_neg c41] at h
          cases h
          exact v_vret dX14_enter_415
        · rw [if_pos c41] at h
          refine v_aload_n dX14_enter_411 1 rfl rfl ?_
          obtain ⟨s42, e43, h⟩ := bdv_some h
          have k44 := c_X14_leave e43
          refine v_callV (st := []) cf14 oc87 k44 (lw_V q3458 q3460 qs283 q311 q3461) rfl yk_X14_leave ⟨Nat.le_of_ble_eq_true rfl, Nat.le_of_ble_eq_true rfl⟩ trivial ⟨kc87, trivial⟩ (Nat.le_of_ble_eq_true rfl) rfl dX14_enter_412 ?_
          cases h
          exact v_vret dX14_enter_415
      · rw [if_neg c37] at h
        refine v_aload_n dX14_enter_341 1 rfl rfl ?_
        refine v_getS (f := 132) (t := 174) cf14 oc87 rfl rfl rfl (by decide) q2502 dX14_enter_342 ?_
        refine v_iload dX14_enter_345 5 rfl ?_
        obtain ⟨g45, h⟩ := gd_some h
        refine v_zald oc174 rx5 g45.1 g45.2 dX14_enter_347 ?_
        refine v_if_ne (tgt := 364) dX14_enter_348 (gZ_rg _ _ _) (by decide) (fun c46 => ?_) (fun c46 => ?_)
        · rw [if_neg c46] at h
          refine v_sub [1, 4, 5, 0] (L1 := [(0, vO 87), (4, vI x4), (5, vI x5), (8, vI y5)]) rfl ?_
          exact wj_X14_enter_364 h rx4 rx5 r7
        · rw [if_pos c46] at h
          refine v_aload_n dX14_enter_351 1 rfl rfl ?_
          refine v_bipush dX14_enter_352 rfl ?_
          refine v_aload_n dX14_enter_354 1 rfl rfl ?_
          refine v_getS (f := 130) (t := 172) cf14 oc87 rfl rfl rfl (by decide) q2500 dX14_enter_355 ?_
          refine v_iload dX14_enter_358 5 rfl ?_
          obtain ⟨g47, h⟩ := gd_some h
          refine v_iald oc172 rx5 g47.1 g47.2 dX14_enter_360 ?_
          obtain ⟨s48, e49, h⟩ := bdv_some h
          have k50 := c_X14_tell e49 (rgl rfl) (gE_rg _ _ _)
          refine v_callV (st := []) cf14 oc87 k50 (lw_V q2916 q2918 qs163 q311 q2919) rfl yk_X14_tell ⟨Nat.le_of_ble_eq_true rfl, Nat.le_of_ble_eq_true rfl⟩ trivial ⟨kc87, trivial⟩ (Nat.le_of_ble_eq_true rfl) rfl dX14_enter_361 ?_
          refine v_sub [1, 4, 5, 0] (L1 := [(0, vO 87), (4, vI x4), (5, vI x5), (8, vI y5)]) rfl ?_
          exact wj_X14_enter_364 h rx4 rx5 r7
    · rw [if_pos c35] at h
      refine v_aload_n dX14_enter_317 1 rfl rfl ?_
      refine v_getS (f := 155) (t := 191) cf14 oc87 rfl rfl rfl (by decide) q2525 dX14_enter_318 ?_
      refine v_iload dX14_enter_321 0 rfl ?_
      refine v_iload dX14_enter_323 5 rfl ?_
      obtain ⟨g51, h⟩ := gd_some h
      obtain ⟨s52, e53, h⟩ := stp_some h
      refine v_iast oc191 r7 g51.1 g51.2 dX14_enter_325 ?_
      rw [← e53]
      refine v_goto (tgt := 415) dX14_enter_326 (by decide) ?_
      cases h
      exact v_vret dX14_enter_415
  · rw [if_neg c1] at h
    cases h
    exact v_vret dX14_enter_212

def j_X14_enter_164 (x1 : Int) (x3 : Int) (x4 : Int) (x5 : Int) (x6 : Int) (x7 : Int) (s : vS) : Option (vS) :=
  if (gI s 87 8) = 0 then
    if x6 = 1 then
      gd (inb 0 (gN s 159)) <|
      bd (f_X14_hasTag x5 (gEL s 159 0) s) fun r7 s4 =>
      if r7 = 0 then
        gd (inb x5 (gN s4 172)) <|
        bdv (f_X14_tell 11 (gE s4 172 x5) s4) fun s11 =>
        j_X14_enter_205 x1 x3 x4 x5 x7 s11
      else
        j_X14_enter_205 x1 x3 x4 x5 x7 s4
    else
      j_X14_enter_205 x1 x3 x4 x5 x7 s
  else
    j_X14_enter_205 x1 x3 x4 x5 x7 s
theorem wj_X14_enter_164 {x1 : Int} {x3 : Int} {x4 : Int} {x5 : Int} {x6 : Int} {x7 : Int} {s : vS} {out : vS} (h : j_X14_enter_164 x1 x3 x4 x5 x6 x7 s = some out)  (rx1 : rg x1) (rx3 : rg x3) (rx4 : rg x4) (rx5 : rg x5) (rx6 : rg x6) (rx7 : rg x7) : VW cX14_enter (RX14, none, out, none, 7, 177, 9, []) (P0 []) s 164 [(0, vO 87), (1, vI x1), (3, vI x3), (4, vI x4), (5, vI x5), (6, vI x6), (7, vI x7)] [] := by
  unfold j_X14_enter_164 at h
  refine v_aload_n dX14_enter_164 0 rfl rfl ?_
  refine v_getI (f := 8) cf14 oc87 rfl (by decide) q2378 dX14_enter_165 ?_
  refine v_if_ne (tgt := 205) dX14_enter_168 (gI_rg _ _ _) (by decide) (fun c1 => ?_) (fun c1 => ?_)
  · rw [if_neg c1] at h
    refine v_sub [0, 1, 2, 3, 4, 6] (L1 := [(0, vO 87), (1, vI x1), (3, vI x3), (4, vI x4), (5, vI x5), (7, vI x7)]) rfl ?_
    exact wj_X14_enter_205 h rx1 rx3 rx4 rx5 rx7
  · rw [if_pos c1] at h
    refine v_iload dX14_enter_171 5 rfl ?_
    refine v_iconst dX14_enter_173 ?_
    refine v_icmp_ne (tgt := 205) dX14_enter_174 rx6 (rgl rfl) (by decide) (fun c2 => ?_) (fun c2 => ?_)
    · rw [if_neg c2] at h
      refine v_sub [0, 1, 2, 3, 4, 6] (L1 := [(0, vO 87), (1, vI x1), (3, vI x3), (4, vI x4), (5, vI x5), (7, vI x7)]) rfl ?_
      exact wj_X14_enter_205 h rx1 rx3 rx4 rx5 rx7
    · rw [if_pos c2] at h
      refine v_aload_n dX14_enter_177 0 rfl rfl ?_
      refine v_iload dX14_enter_178 4 rfl ?_
      refine v_aload_n dX14_enter_180 0 rfl rfl ?_
      refine v_getS (f := 102) (t := 159) cf14 oc87 rfl rfl rfl (by decide) q2472 dX14_enter_181 ?_
      refine v_iconst dX14_enter_184 ?_
      obtain ⟨g3, h⟩ := gd_some h
      refine v_lald oc159 (rgl rfl) g3.1 g3.2 dX14_enter_185 ?_
      obtain ⟨r7, s4, e5, h⟩ := bd_some h
      have k6 := c_X14_hasTag e5 rx5 (gEL_rg _ _ _)
      have r8 : rg r7 := k6.1.2.2
      refine v_callV (st := []) cf14 oc87 k6 (lw_V q3401 q3403 qs270 q311 q3404) rfl yk_X14_hasTag ⟨Nat.le_of_ble_eq_true rfl, Nat.le_of_ble_eq_true rfl⟩ trivial ⟨kc87, trivial⟩ (Nat.le_of_ble_eq_true rfl) rfl dX14_enter_186 ?_
      refine v_if_ne (tgt := 205) dX14_enter_189 r8 (by decide) (fun c9 => ?_) (fun c9 => ?_)
      · rw [if_neg c9] at h
        refine v_sub [0, 1, 2, 3, 4, 6] (L1 := [(0, vO 87), (1, vI x1), (3, vI x3), (4, vI x4), (5, vI x5), (7, vI x7)]) rfl ?_
        exact wj_X14_enter_205 h rx1 rx3 rx4 rx5 rx7
      · rw [if_pos c9] at h
        refine v_aload_n dX14_enter_192 0 rfl rfl ?_
        refine v_bipush dX14_enter_193 rfl ?_
        refine v_aload_n dX14_enter_195 0 rfl rfl ?_
        refine v_getS (f := 130) (t := 172) cf14 oc87 rfl rfl rfl (by decide) q2500 dX14_enter_196 ?_
        refine v_iload dX14_enter_199 4 rfl ?_
        obtain ⟨g10, h⟩ := gd_some h
        refine v_iald oc172 rx5 g10.1 g10.2 dX14_enter_201 ?_
        obtain ⟨s11, e12, h⟩ := bdv_some h
        have k13 := c_X14_tell e12 (rgl rfl) (gE_rg _ _ _)
        refine v_callV (st := []) cf14 oc87 k13 (lw_V q2916 q2918 qs163 q311 q2919) rfl yk_X14_tell ⟨Nat.le_of_ble_eq_true rfl, Nat.le_of_ble_eq_true rfl⟩ trivial ⟨kc87, trivial⟩ (Nat.le_of_ble_eq_true rfl) rfl dX14_enter_202 ?_
        refine v_sub [0, 1, 2, 3, 4, 6] (L1 := [(0, vO 87), (1, vI x1), (3, vI x3), (4, vI x4), (5, vI x5), (7, vI x7)]) rfl ?_
        exact wj_X14_enter_205 h rx1 rx3 rx4 rx5 rx7

def j_X14_enter_32 (x1 : Int) (x3 : Int) (x4 : Int) (x5 : Int) (z0 : Int) (s : vS) : Option (vS) :=
  vl (w32 ((gI s 87 101) - z0)) fun y1 =>
  vl (w32 ((gI s 87 101) - 1)) fun y4 =>
  lq_1 (l_X14_enter_51 FU x1 x3 x4 x5 z0 y1 y4 s) fun y7 s8 =>
  j_X14_enter_164 x1 x3 x4 y7 z0 y1 s8
theorem wj_X14_enter_32 {x1 : Int} {x3 : Int} {x4 : Int} {x5 : Int} {z0 : Int} {s : vS} {out : vS} (h : j_X14_enter_32 x1 x3 x4 x5 z0 s = some out)  (rx1 : rg x1) (rx3 : rg x3) (rx4 : rg x4) (rx5 : rg x5) (rz0 : rg z0) : VW cX14_enter (RX14, none, out, none, 7, 177, 9, []) (P0 []) s 32 [(0, vO 87), (1, vI x1), (3, vI x3), (4, vI x4), (5, vI x5)] [vI z0] := by
  unfold j_X14_enter_32 at h
  refine v_istore (L1 := [(6, vI z0), (0, vO 87), (1, vI x1), (3, vI x3), (4, vI x4), (5, vI x5)]) dX14_enter_32 (by decide) rfl ?_
  refine v_aload_n dX14_enter_34 1 rfl rfl ?_
  refine v_getI (f := 101) cf14 oc87 rfl (by decide) q2471 dX14_enter_35 ?_
  refine v_iload dX14_enter_38 0 rfl ?_
  refine v_isub dX14_enter_40 ?_
  obtain ⟨y1, e2, h⟩ := vl_some h
  rw [← e2]
  have r3 : rg y1 := by rw [e2]; exact w32_rg _
  refine v_istore (L1 := [(7, vI y1), (6, vI z0), (0, vO 87), (1, vI x1), (3, vI x3), (4, vI x4), (5, vI x5)]) dX14_enter_41 (by decide) rfl ?_
  refine v_aload_n dX14_enter_43 2 rfl rfl ?_
  refine v_getI (f := 101) cf14 oc87 rfl (by decide) q2471 dX14_enter_44 ?_
  refine v_iconst dX14_enter_47 ?_
  refine v_isub dX14_enter_48 ?_
  obtain ⟨y4, e5, h⟩ := vl_some h
  rw [← e5]
  have r6 : rg y4 := by rw [e5]; exact w32_rg _
  refine v_istore (L1 := [(8, vI y4), (7, vI y1), (6, vI z0), (0, vO 87), (1, vI x1), (3, vI x3), (4, vI x4), (5, vI x5)]) dX14_enter_49 (by decide) rfl ?_
  refine v_sub [3, 4, 5, 6, 7, 2, 1, 0] (L1 := [(0, vO 87), (1, vI x1), (3, vI x3), (4, vI x4), (5, vI x5), (6, vI z0), (7, vI y1), (8, vI y4)]) rfl ?_
  obtain ⟨y7, s8, e9, h⟩ := lq_1_some h
  refine wl_X14_enter_51 rx1 rx3 rx4 rz0 r3 FU x5 y4 s _ e9 rx5 r6 ?_
  unfold E_X14_enter_51
  intro y7' s8' z_ r10
  cases z_
  exact wj_X14_enter_164 h rx1 rx3 rx4 r10 rz0 r3

def f_X14_enter (x1 : Int) (x2 : Int) (x3 : Int) (s : vS) : Option (vS) :=
  bdv (f_X14_findLayers x1 s) fun s1 =>
  bd (f_X14_root x1 s1) fun r7 s4 =>
  gd (inb r7 (gN s4 97)) <|
  if (gE s4 97 r7) = 16 then
    j_X14_enter_32 x1 x3 r7 x2 0 s4
  else
    j_X14_enter_32 x1 x3 r7 x2 1 s4
theorem yk_X14_enter : yOk yX14_enter 3 := ⟨by decide, by decide, by decide +kernel⟩
theorem c_X14_enter {x1 : Int} {x2 : Int} {x3 : Int} {s : vS} {out : vS} (h : f_X14_enter x1 x2 x3 s = some out)  (rx1 : rg x1) (rx2 : rg x2) (rx3 : rg x3) : VC yX14_enter cX14_enter 9 none 7 177 [vO 87, vI x1, vI x2, vI x3] s none out [] := by
  unfold f_X14_enter at h
  refine VC.of RX14 (by decide) rfl (Nat.le_of_ble_eq_true rfl) ?_
  show VW cX14_enter (RX14, none, out, none, 7, 177, 9, []) (P0 []) s 0 [(0, vO 87), (1, vI x1), (2, vI x2), (3, vI x3)] []
  refine v_aload_n dX14_enter_0 0 rfl rfl ?_
  refine v_iload_n dX14_enter_1 1 rfl rfl ?_
  obtain ⟨s1, e2, h⟩ := bdv_some h
  have k3 := c_X14_findLayers e2 rx1
  refine v_callV (st := []) cf14 oc87 k3 (lw_V q3153 q3155 qs218 q311 q3156) rfl yk_X14_findLayers ⟨Nat.le_of_ble_eq_true rfl, Nat.le_of_ble_eq_true rfl⟩ trivial ⟨kc87, trivial⟩ (Nat.le_of_ble_eq_true rfl) rfl dX14_enter_2 ?_
  refine v_aload_n dX14_enter_5 0 rfl rfl ?_
  refine v_iload_n dX14_enter_6 1 rfl rfl ?_
  obtain ⟨r7, s4, e5, h⟩ := bd_some h
  have k6 := c_X14_root e5 rx1
  have r8 : rg r7 := k6.1.2.2
  refine v_callV (st := []) cf14 oc87 k6 (lw_V q3129 q3131 qs212 q311 q3132) rfl yk_X14_root ⟨Nat.le_of_ble_eq_true rfl, Nat.le_of_ble_eq_true rfl⟩ trivial ⟨kc87, trivial⟩ (Nat.le_of_ble_eq_true rfl) rfl dX14_enter_7 ?_
  refine v_istore (L1 := [(4, vI r7), (0, vO 87), (1, vI x1), (2, vI x2), (3, vI x3)]) dX14_enter_10 (by decide) rfl ?_
  refine v_iload_n dX14_enter_12 3 rfl rfl ?_
  refine v_istore (L1 := [(5, vI x2), (4, vI r7), (0, vO 87), (1, vI x1), (2, vI x2), (3, vI x3)]) dX14_enter_13 (by decide) rfl ?_
  refine v_aload_n dX14_enter_15 2 rfl rfl ?_
  refine v_getS (f := 21) (t := 97) cf14 oc87 rfl rfl rfl (by decide) q2391 dX14_enter_16 ?_
  refine v_iload dX14_enter_19 1 rfl ?_
  obtain ⟨g9, h⟩ := gd_some h
  refine v_iald oc97 r8 g9.1 g9.2 dX14_enter_21 ?_
  refine v_bipush dX14_enter_22 rfl ?_
  refine v_icmp_ne (tgt := 31) dX14_enter_24 (gE_rg _ _ _) (rgl rfl) (by decide) (fun c10 => ?_) (fun c10 => ?_)
  · rw [if_neg c10] at h
    refine v_iconst dX14_enter_31 ?_
    refine v_sub [2, 3, 5, 1, 0] (L1 := [(0, vO 87), (1, vI x1), (3, vI x3), (4, vI r7), (5, vI x2)]) rfl ?_
    exact wj_X14_enter_32 h rx1 rx3 r8 rx2 (rgl rfl)
  · rw [if_pos c10] at h
    refine v_iconst dX14_enter_27 ?_
    refine v_goto (tgt := 32) dX14_enter_28 (by decide) ?_
    refine v_sub [2, 3, 5, 1, 0] (L1 := [(0, vO 87), (1, vI x1), (3, vI x3), (4, vI r7), (5, vI x2)]) rfl ?_
    exact wj_X14_enter_32 h rx1 rx3 r8 rx2 (rgl rfl)

def E_X14_choose_17 (x1 : Int) (x3 : Int) (rv : Option vA) (σo : vS) (q : Int × vS) : Prop := ∀ (x4' : Int) (s' : vS), q = (x4', s') → rg x4' → VW cX14_choose (RX14, rv, σo, none, 8, 205, 5, []) (P0 []) s' 49 [(0, vO 87), (1, vI x1), (3, vI x3), (4, vI x4')] []
def l_X14_choose_17 : Nat → Int → Int → Int → vS → Option (Int × vS)
  | 0, _, _, _, _ => none
  | n + 1, x1, x3, x4, s =>
    if x4 < 0 then
      some (x4, s)
    else
      gd (inb x4 (gN s 117)) <|
      bd (f_X14_mayBe x3 (gE s 117 x4) s) fun r6 s3 =>
      if r6 = 0 then
        gd (inb x4 (gN s3 120)) <|
        vl (gE s3 120 x4) fun y10 =>
        l_X14_choose_17 n x1 x3 y10 s3
      else
        some (x4, s3)
theorem wl_X14_choose_17 {x1 : Int} {x3 : Int} {rv : Option vA} {σo : vS}  (rx1 : rg x1) (rx3 : rg x3) : ∀ (n : Nat) (x4 : Int) (s : vS) (q : Int × vS), l_X14_choose_17 n x1 x3 x4 s = some q → rg x4 → E_X14_choose_17 x1 x3 rv σo q → VW cX14_choose (RX14, rv, σo, none, 8, 205, 5, []) (P0 []) s 17 [(0, vO 87), (1, vI x1), (3, vI x3), (4, vI x4)] [] := by
  intro n
  induction n with
  | zero => intro x4 s q h; cases h
  | succ n ih =>
    intro x4 s q h rx4 hE
    unfold l_X14_choose_17 at h
    refine v_iload dX14_choose_17 3 rfl ?_
    refine v_if_lt (tgt := 49) dX14_choose_19 rx4 (by decide) (fun c1 => ?_) (fun c1 => ?_)
    · rw [if_pos c1] at h
      cases h
      exact hE _ _ rfl rx4
    · rw [if_neg c1] at h
      refine v_aload_n dX14_choose_22 0 rfl rfl ?_
      refine v_iload_n dX14_choose_23 2 rfl rfl ?_
      refine v_aload_n dX14_choose_24 0 rfl rfl ?_
      refine v_getS (f := 44) (t := 117) cf14 oc87 rfl rfl rfl (by decide) q2414 dX14_choose_25 ?_
      refine v_iload dX14_choose_28 3 rfl ?_
      obtain ⟨g2, h⟩ := gd_some h
      refine v_iald oc117 rx4 g2.1 g2.2 dX14_choose_30 ?_
      obtain ⟨r6, s3, e4, h⟩ := bd_some h
      have k5 := c_X14_mayBe e4 rx3 (gE_rg _ _ _)
      have r7 : rg r6 := k5.1.2.2
      refine v_callV (st := []) cf14 oc87 k5 (lw_V q3482 q3484 qs289 q311 q3485) rfl yk_X14_mayBe ⟨Nat.le_of_ble_eq_true rfl, Nat.le_of_ble_eq_true rfl⟩ trivial ⟨kc87, trivial⟩ (Nat.le_of_ble_eq_true rfl) rfl dX14_choose_31 ?_
      refine v_if_ne (tgt := 49) dX14_choose_34 r7 (by decide) (fun c8 => ?_) (fun c8 => ?_)
      · rw [if_neg c8] at h
        cases h
        exact hE _ _ rfl rx4
      · rw [if_pos c8] at h
        refine v_aload_n dX14_choose_37 0 rfl rfl ?_
        refine v_getS (f := 47) (t := 120) cf14 oc87 rfl rfl rfl (by decide) q2417 dX14_choose_38 ?_
        refine v_iload dX14_choose_41 3 rfl ?_
        obtain ⟨g9, h⟩ := gd_some h
        refine v_iald oc120 rx4 g9.1 g9.2 dX14_choose_43 ?_
        obtain ⟨y10, e11, h⟩ := vl_some h
        rw [← e11]
        have r12 : rg y10 := by rw [e11]; exact gE_rg _ _ _
        refine v_istore (L1 := [(4, vI y10), (0, vO 87), (1, vI x1), (3, vI x3)]) dX14_choose_44 (by decide) rfl ?_
        refine v_goto (tgt := 17) dX14_choose_46 (by decide) ?_
        refine v_sub [1, 2, 3, 0] (L1 := [(0, vO 87), (1, vI x1), (3, vI x3), (4, vI y10)]) rfl ?_
        exact ih y10 s3 _ h r12 hE

def j_X14_choose_49 (x1 : Int) (x3 : Int) (x4 : Int) (s : vS) : Option (vS) :=
  gd (inb x1 (gN s 191)) <|
  stp (sE s 191 x1 (-1)) fun s2 =>
  if 0 ≤ x4 then
    gd (inb x4 (gN s2 117)) <|
    bdv (f_X14_enter (gE s2 117 x4) x3 (-1) s2) fun s6 =>
    some s6
  else
    gd (inb x3 (gN s2 172)) <|
    bdv (f_X14_tell 11 (gE s2 172 x3) s2) fun s10 =>
    some s10
theorem wj_X14_choose_49 {x1 : Int} {x3 : Int} {x4 : Int} {s : vS} {out : vS} (h : j_X14_choose_49 x1 x3 x4 s = some out)  (rx1 : rg x1) (rx3 : rg x3) (rx4 : rg x4) : VW cX14_choose (RX14, none, out, none, 8, 205, 5, []) (P0 []) s 49 [(0, vO 87), (1, vI x1), (3, vI x3), (4, vI x4)] [] := by
  unfold j_X14_choose_49 at h
  refine v_aload_n dX14_choose_49 0 rfl rfl ?_
  refine v_getS (f := 155) (t := 191) cf14 oc87 rfl rfl rfl (by decide) q2525 dX14_choose_50 ?_
  refine v_iload_n dX14_choose_53 1 rfl rfl ?_
  refine v_iconst dX14_choose_54 ?_
  obtain ⟨g1, h⟩ := gd_some h
  obtain ⟨s2, e3, h⟩ := stp_some h
  refine v_iast oc191 rx1 g1.1 g1.2 dX14_choose_55 ?_
  rw [← e3]
  refine v_iload dX14_choose_56 3 rfl ?_
  refine v_if_ge (tgt := 76) dX14_choose_58 rx4 (by decide) (fun c4 => ?_) (fun c4 => ?_)
  · rw [if_pos c4] at h
    refine v_aload_n dX14_choose_76 0 rfl rfl ?_
    refine v_aload_n dX14_choose_77 0 rfl rfl ?_
    refine v_getS (f := 44) (t := 117) cf14 oc87 rfl rfl rfl (by decide) q2414 dX14_choose_78 ?_
    refine v_iload dX14_choose_81 3 rfl ?_
    obtain ⟨g5, h⟩ := gd_some h
    refine v_iald oc117 rx4 g5.1 g5.2 dX14_choose_83 ?_
    refine v_iload_n dX14_choose_84 2 rfl rfl ?_
    refine v_iconst dX14_choose_85 ?_
    obtain ⟨s6, e7, h⟩ := bdv_some h
    have k8 := c_X14_enter e7 (gE_rg _ _ _) rx3 (rgl rfl)
    refine v_callV (st := []) cf14 oc87 k8 (lw_V q3397 q3399 qs269 q311 q3400) rfl yk_X14_enter ⟨Nat.le_of_ble_eq_true rfl, Nat.le_of_ble_eq_true rfl⟩ trivial ⟨kc87, trivial⟩ (Nat.le_of_ble_eq_true rfl) rfl dX14_choose_86 ?_
    cases h
    exact v_vret dX14_choose_89
  · rw [if_neg c4] at h
    refine v_aload_n dX14_choose_61 0 rfl rfl ?_
    refine v_bipush dX14_choose_62 rfl ?_
    refine v_aload_n dX14_choose_64 0 rfl rfl ?_
    refine v_getS (f := 130) (t := 172) cf14 oc87 rfl rfl rfl (by decide) q2500 dX14_choose_65 ?_
    refine v_iload_n dX14_choose_68 2 rfl rfl ?_
    obtain ⟨g9, h⟩ := gd_some h
    refine v_iald oc172 rx3 g9.1 g9.2 dX14_choose_69 ?_
    obtain ⟨s10, e11, h⟩ := bdv_some h
    have k12 := c_X14_tell e11 (rgl rfl) (gE_rg _ _ _)
    refine v_callV (st := []) cf14 oc87 k12 (lw_V q2916 q2918 qs163 q311 q2919) rfl yk_X14_tell ⟨Nat.le_of_ble_eq_true rfl, Nat.le_of_ble_eq_true rfl⟩ trivial ⟨kc87, trivial⟩ (Nat.le_of_ble_eq_true rfl) rfl dX14_choose_70 ?_
    refine v_goto (tgt := 89) dX14_choose_73 (by decide) ?_
    cases h
    exact v_vret dX14_choose_89

def f_X14_choose (x1 : Int) (x2 : Int) (x3 : Int) (s : vS) : Option (vS) :=
  if 0 ≤ x3 then
    gd (inb x2 (gN s 104)) <|
    vl (gE s 104 x2) fun y3 =>
    lq_1 (l_X14_choose_17 FU x1 x3 y3 s) fun y6 s7 =>
    j_X14_choose_49 x1 x3 y6 s7
  else
    bdv (f_X14_leave s) fun s10 =>
    some s10
theorem yk_X14_choose : yOk yX14_choose 3 := ⟨by decide, by decide, by decide +kernel⟩
theorem c_X14_choose {x1 : Int} {x2 : Int} {x3 : Int} {s : vS} {out : vS} (h : f_X14_choose x1 x2 x3 s = some out)  (rx1 : rg x1) (rx2 : rg x2) (rx3 : rg x3) : VC yX14_choose cX14_choose 5 none 8 205 [vO 87, vI x1, vI x2, vI x3] s none out [] := by
  unfold f_X14_choose at h
  refine VC.of RX14 (by decide) rfl (Nat.le_of_ble_eq_true rfl) ?_
  show VW cX14_choose (RX14, none, out, none, 8, 205, 5, []) (P0 []) s 0 [(0, vO 87), (1, vI x1), (2, vI x2), (3, vI x3)] []
  refine v_iload_n dX14_choose_0 3 rfl rfl ?_
  refine v_if_ge (tgt := 9) dX14_choose_1 rx3 (by decide) (fun c1 => ?_) (fun c1 => ?_)
  · rw [if_pos c1] at h
    refine v_aload_n dX14_choose_9 0 rfl rfl ?_
    refine v_getS (f := 28) (t := 104) cf14 oc87 rfl rfl rfl (by decide) q2398 dX14_choose_10 ?_
    refine v_iload_n dX14_choose_13 2 rfl rfl ?_
    obtain ⟨g2, h⟩ := gd_some h
    refine v_iald oc104 rx2 g2.1 g2.2 dX14_choose_14 ?_
    obtain ⟨y3, e4, h⟩ := vl_some h
    rw [← e4]
    have r5 : rg y3 := by rw [e4]; exact gE_rg _ _ _
    refine v_istore (L1 := [(4, vI y3), (0, vO 87), (1, vI x1), (2, vI x2), (3, vI x3)]) dX14_choose_15 (by decide) rfl ?_
    refine v_sub [1, 2, 4, 0] (L1 := [(0, vO 87), (1, vI x1), (3, vI x3), (4, vI y3)]) rfl ?_
    obtain ⟨y6, s7, e8, h⟩ := lq_1_some h
    refine wl_X14_choose_17 rx1 rx3 FU y3 s _ e8 r5 ?_
    unfold E_X14_choose_17
    intro y6' s7' z_ r9
    cases z_
    exact wj_X14_choose_49 h rx1 rx3 r9
  · rw [if_neg c1] at h
    refine v_aload_n dX14_choose_4 0 rfl rfl ?_
    obtain ⟨s10, e11, h⟩ := bdv_some h
    have k12 := c_X14_leave e11
    refine v_callV (st := []) cf14 oc87 k12 (lw_V q3458 q3460 qs283 q311 q3461) rfl yk_X14_leave ⟨Nat.le_of_ble_eq_true rfl, Nat.le_of_ble_eq_true rfl⟩ trivial ⟨kc87, trivial⟩ (Nat.le_of_ble_eq_true rfl) rfl dX14_choose_5 ?_
    cases h
    exact v_vret dX14_choose_8

def f_X14_segmentEnd (x1 : Int) (s : vS) : Option (Int × vS) :=
  if (gI s 87 158) ≤ (w32 (x1 + 1)) then
    some (gI s 87 144, s)
  else
    gd (inb (w32 (x1 + 1)) (gN s 194)) <|
    some (gE s 194 (w32 (x1 + 1)), s)
theorem yk_X14_segmentEnd : yOk yX14_segmentEnd 1 := ⟨by decide, by decide, by decide +kernel⟩
theorem c_X14_segmentEnd {x1 : Int} {s : vS} {out : Int × vS} (h : f_X14_segmentEnd x1 s = some out)  (rx1 : rg x1) : VC yX14_segmentEnd cX14_segmentEnd 2 (some .int) 0 0 [vO 87, vI x1] s (some (vI out.1)) out.2 [] := by
  unfold f_X14_segmentEnd at h
  refine VC.of RX14 (by decide) rfl (Nat.le_of_ble_eq_true rfl) ?_
  show VW cX14_segmentEnd (RX14, (some (vI out.1)), out.2, (some .int), 0, 0, 2, []) (P0 []) s 0 [(0, vO 87), (1, vI x1)] []
  refine v_iload_n dX14_segmentEnd_0 1 rfl rfl ?_
  refine v_iconst dX14_segmentEnd_1 ?_
  refine v_iadd dX14_segmentEnd_2 ?_
  refine v_aload_n dX14_segmentEnd_3 0 rfl rfl ?_
  refine v_getI (f := 158) cf14 oc87 rfl (by decide) q2528 dX14_segmentEnd_4 ?_
  refine v_icmp_ge (tgt := 21) dX14_segmentEnd_7 (w32_rg _) (gI_rg _ _ _) (by decide) (fun c1 => ?_) (fun c1 => ?_)
  · rw [if_pos c1] at h
    refine v_aload_n dX14_segmentEnd_21 0 rfl rfl ?_
    refine v_getI (f := 144) cf14 oc87 rfl (by decide) q2514 dX14_segmentEnd_22 ?_
    cases h
    exact v_iret (gI_rg _ _ _) dX14_segmentEnd_25
  · rw [if_neg c1] at h
    refine v_aload_n dX14_segmentEnd_10 0 rfl rfl ?_
    refine v_getS (f := 159) (t := 194) cf14 oc87 rfl rfl rfl (by decide) q2529 dX14_segmentEnd_11 ?_
    refine v_iload_n dX14_segmentEnd_14 1 rfl rfl ?_
    refine v_iconst dX14_segmentEnd_15 ?_
    refine v_iadd dX14_segmentEnd_16 ?_
    obtain ⟨g2, h⟩ := gd_some h
    refine v_iald oc194 (w32_rg _) g2.1 g2.2 dX14_segmentEnd_17 ?_
    refine v_goto (tgt := 25) dX14_segmentEnd_18 (by decide) ?_
    cases h
    exact v_iret (gE_rg _ _ _) dX14_segmentEnd_25

def E_X14_tagAt_35 (x2 : Int) (rv : Option vA) (σo : vS) (q : Int × Int × vS) : Prop := ∀ (x3' : Int) (x4' : Int) (s' : vS), q = (x3', x4', s') → rg x3' → rg x4' → VW cX14_tagAt (RX14, rv, σo, (some .long), 1, 21, 5, []) (P0 []) s' 69 [(0, vO 87), (2, vI x2), (3, vI x3'), (4, vI x4')] []
def l_X14_tagAt_35 : Nat → Int → Int → Int → vS → Option (Int × Int × vS)
  | 0, _, _, _, _ => none
  | n + 1, x2, x3, x4, s =>
    gd (inb x4 (gN s 183)) <|
    if (gE s 183 x4) ≤ 127 then
      some (x3, x4, s)
    else
      gd (inb x4 (gN s 183)) <|
      vl (or32 (shl32 x3 7) (and32 (gE s 183 x4) 127)) fun y4 =>
      vl (w32 (x4 + 1)) fun y7 =>
      l_X14_tagAt_35 n x2 y4 y7 s
theorem wl_X14_tagAt_35 {x2 : Int} {rv : Option vA} {σo : vS}  (rx2 : rg x2) : ∀ (n : Nat) (x3 : Int) (x4 : Int) (s : vS) (q : Int × Int × vS), l_X14_tagAt_35 n x2 x3 x4 s = some q → rg x3 → rg x4 → E_X14_tagAt_35 x2 rv σo q → VW cX14_tagAt (RX14, rv, σo, (some .long), 1, 21, 5, []) (P0 []) s 35 [(0, vO 87), (2, vI x2), (3, vI x3), (4, vI x4)] [] := by
  intro n
  induction n with
  | zero => intro x3 x4 s q h; cases h
  | succ n ih =>
    intro x3 x4 s q h rx3 rx4 hE
    unfold l_X14_tagAt_35 at h
    refine v_aload_n dX14_tagAt_35 0 rfl rfl ?_
    refine v_getS (f := 145) (t := 183) cf14 oc87 rfl rfl rfl (by decide) q2515 dX14_tagAt_36 ?_
    refine v_iload dX14_tagAt_39 3 rfl ?_
    obtain ⟨g1, h⟩ := gd_some h
    refine v_iald oc183 rx4 g1.1 g1.2 dX14_tagAt_41 ?_
    refine v_bipush dX14_tagAt_42 rfl ?_
    refine v_icmp_le (tgt := 69) dX14_tagAt_44 (gE_rg _ _ _) (rgl rfl) (by decide) (fun c2 => ?_) (fun c2 => ?_)
    · rw [if_pos c2] at h
      cases h
      exact hE _ _ _ rfl rx3 rx4
    · rw [if_neg c2] at h
      refine v_iload_n dX14_tagAt_47 2 rfl rfl ?_
      refine v_bipush dX14_tagAt_48 rfl ?_
      refine v_ishl dX14_tagAt_50 ?_
      refine v_aload_n dX14_tagAt_51 0 rfl rfl ?_
      refine v_getS (f := 145) (t := 183) cf14 oc87 rfl rfl rfl (by decide) q2515 dX14_tagAt_52 ?_
      refine v_iload dX14_tagAt_55 3 rfl ?_
      obtain ⟨g3, h⟩ := gd_some h
      refine v_iald oc183 rx4 g3.1 g3.2 dX14_tagAt_57 ?_
      refine v_bipush dX14_tagAt_58 rfl ?_
      refine v_iand dX14_tagAt_60 ?_
      refine v_ior dX14_tagAt_61 ?_
      obtain ⟨y4, e5, h⟩ := vl_some h
      rw [← e5]
      have r6 : rg y4 := by rw [e5]; exact or32_rg _ _
      refine v_istore_n (L1 := [(3, vI y4), (0, vO 87), (2, vI x2), (4, vI x4)]) dX14_tagAt_62 rfl (by decide) rfl ?_
      obtain ⟨y7, e8, h⟩ := vl_some h
      refine v_iinc (L1 := [(4, vI (w32 (x4 + 1))), (3, vI y4), (0, vO 87), (2, vI x2)]) dX14_tagAt_63 3 rfl (by decide) rfl ?_
      rw [← e8]
      have r9 : rg y7 := by rw [e8]; exact w32_rg _
      refine v_goto (tgt := 35) dX14_tagAt_66 (by decide) ?_
      refine v_sub [2, 3, 1, 0] (L1 := [(0, vO 87), (2, vI x2), (3, vI y4), (4, vI y7)]) rfl ?_
      exact ih y4 y7 s _ h r6 r9 hE

def f_X14_tagAt (x1 : Int) (s : vS) : Option (Int × vS) :=
  gd (inb x1 (gN s 183)) <|
  vl (gE s 183 x1) fun y2 =>
  if 31 ≤ (and32 y2 31) then
    vl (w32 (x1 + 1)) fun y6 =>
    lq_2 (l_X14_tagAt_35 FU y2 0 y6 s) fun y9 y10 s11 =>
    gd (inb y10 (gN s11 183)) <|
    bd (f_X14_tagOf (shr32 y2 6) (or32 (shl32 y9 7) (gE s11 183 y10)) s11) fun r19 s16 =>
    some (r19, s16)
  else
    bd (f_X14_tagOf (shr32 y2 6) (and32 y2 31) s) fun r24 s21 =>
    some (r24, s21)
theorem yk_X14_tagAt : yOk yX14_tagAt 1 := ⟨by decide, by decide, by decide +kernel⟩
theorem c_X14_tagAt {x1 : Int} {s : vS} {out : Int × vS} (h : f_X14_tagAt x1 s = some out)  (rx1 : rg x1) : VC yX14_tagAt cX14_tagAt 5 (some .long) 1 21 [vO 87, vI x1] s (some (vL out.1)) out.2 [] := by
  unfold f_X14_tagAt at h
  refine VC.of RX14 (by decide) rfl (Nat.le_of_ble_eq_true rfl) ?_
  show VW cX14_tagAt (RX14, (some (vL out.1)), out.2, (some .long), 1, 21, 5, []) (P0 []) s 0 [(0, vO 87), (1, vI x1)] []
  refine v_aload_n dX14_tagAt_0 0 rfl rfl ?_
  refine v_getS (f := 145) (t := 183) cf14 oc87 rfl rfl rfl (by decide) q2515 dX14_tagAt_1 ?_
  refine v_iload_n dX14_tagAt_4 1 rfl rfl ?_
  obtain ⟨g1, h⟩ := gd_some h
  refine v_iald oc183 rx1 g1.1 g1.2 dX14_tagAt_5 ?_
  obtain ⟨y2, e3, h⟩ := vl_some h
  rw [← e3]
  have r4 : rg y2 := by rw [e3]; exact gE_rg _ _ _
  refine v_istore_n (L1 := [(2, vI y2), (0, vO 87), (1, vI x1)]) dX14_tagAt_6 rfl (by decide) rfl ?_
  refine v_iload_n dX14_tagAt_7 0 rfl rfl ?_
  refine v_bipush dX14_tagAt_8 rfl ?_
  refine v_iand dX14_tagAt_10 ?_
  refine v_bipush dX14_tagAt_11 rfl ?_
  refine v_icmp_ge (tgt := 28) dX14_tagAt_13 (and32_rg _ _) (rgl rfl) (by decide) (fun c5 => ?_) (fun c5 => ?_)
  · rw [if_pos c5] at h
    refine v_iconst dX14_tagAt_28 ?_
    refine v_istore_n (L1 := [(3, vI 0), (2, vI y2), (0, vO 87), (1, vI x1)]) dX14_tagAt_29 rfl (by decide) rfl ?_
    refine v_iload_n dX14_tagAt_30 3 rfl rfl ?_
    refine v_iconst dX14_tagAt_31 ?_
    refine v_iadd dX14_tagAt_32 ?_
    obtain ⟨y6, e7, h⟩ := vl_some h
    rw [← e7]
    have r8 : rg y6 := by rw [e7]; exact w32_rg _
    refine v_istore (L1 := [(4, vI y6), (3, vI 0), (2, vI y2), (0, vO 87), (1, vI x1)]) dX14_tagAt_33 (by decide) rfl ?_
    refine v_sub [3, 2, 1, 0] (L1 := [(0, vO 87), (2, vI y2), (3, vI 0), (4, vI y6)]) rfl ?_
    obtain ⟨y9, y10, s11, e12, h⟩ := lq_2_some h
    refine wl_X14_tagAt_35 r4 FU 0 y6 s _ e12 (rgl rfl) r8 ?_
    unfold E_X14_tagAt_35
    intro y9' y10' s11' z_ r13 r14
    cases z_
    refine v_iload_n dX14_tagAt_69 1 rfl rfl ?_
    refine v_bipush dX14_tagAt_70 rfl ?_
    refine v_ishr dX14_tagAt_72 ?_
    refine v_iload_n dX14_tagAt_73 2 rfl rfl ?_
    refine v_bipush dX14_tagAt_74 rfl ?_
    refine v_ishl dX14_tagAt_76 ?_
    refine v_aload_n dX14_tagAt_77 0 rfl rfl ?_
    refine v_getS (f := 145) (t := 183) cf14 oc87 rfl rfl rfl (by decide) q2515 dX14_tagAt_78 ?_
    refine v_iload dX14_tagAt_81 3 rfl ?_
    obtain ⟨g15, h⟩ := gd_some h
    refine v_iald oc183 r14 g15.1 g15.2 dX14_tagAt_83 ?_
    refine v_ior dX14_tagAt_84 ?_
    obtain ⟨r19, s16, e17, h⟩ := bd_some h
    have k18 := c_X14_tagOf e17 (shr32_rg _ _) (or32_rg _ _)
    have r20 : rgL r19 := k18.1.2.2
    refine v_callS (st := []) k18 (lw_S q3157 q3158 q311 q3159) yk_X14_tagOf ⟨Nat.le_of_ble_eq_true rfl, Nat.le_of_ble_eq_true rfl⟩ trivial ⟨kc87, trivial⟩ (Nat.le_of_ble_eq_true rfl) rfl dX14_tagAt_85 ?_
    cases h
    exact v_lret r20 dX14_tagAt_88
  · rw [if_neg c5] at h
    refine v_iload_n dX14_tagAt_16 0 rfl rfl ?_
    refine v_bipush dX14_tagAt_17 rfl ?_
    refine v_ishr dX14_tagAt_19 ?_
    refine v_iload_n dX14_tagAt_20 0 rfl rfl ?_
    refine v_bipush dX14_tagAt_21 rfl ?_
    refine v_iand dX14_tagAt_23 ?_
    obtain ⟨r24, s21, e22, h⟩ := bd_some h
    have k23 := c_X14_tagOf e22 (shr32_rg _ _) (and32_rg _ _)
    have r25 : rgL r24 := k23.1.2.2
    refine v_callS (st := []) k23 (lw_S q3157 q3158 q311 q3159) yk_X14_tagOf ⟨Nat.le_of_ble_eq_true rfl, Nat.le_of_ble_eq_true rfl⟩ trivial ⟨kc87, trivial⟩ (Nat.le_of_ble_eq_true rfl) rfl dX14_tagAt_24 ?_
    cases h
    exact v_lret r25 dX14_tagAt_27

def j_X14_isAfter_44 (x4 : Int) (x5 : Int) (x6 : Int) (x7 : Int) (s : vS) : Option (Int × vS) :=
  if x5 = x7 then
    if x6 ≤ x4 then
      some (0, s)
    else
      some (1, s)
  else
    some (0, s)
theorem wj_X14_isAfter_44 {x4 : Int} {x5 : Int} {x6 : Int} {x7 : Int} {s : vS} {out : Int × vS} (h : j_X14_isAfter_44 x4 x5 x6 x7 s = some out)  (rx4 : rg x4) (rx5 : rg x5) (rx6 : rg x6) (rx7 : rg x7) : VW cX14_isAfter (RX14, (some (vI out.1)), out.2, (some .boolean), 2, 45, 8, []) (P0 []) s 44 [(4, vI x4), (5, vI x5), (6, vI x6), (7, vI x7)] [] := by
  unfold j_X14_isAfter_44 at h
  refine v_iload dX14_isAfter_44 1 rfl ?_
  refine v_iload dX14_isAfter_46 3 rfl ?_
  refine v_icmp_ne (tgt := 62) dX14_isAfter_48 rx5 rx7 (by decide) (fun c1 => ?_) (fun c1 => ?_)
  · rw [if_neg c1] at h
    refine v_iconst dX14_isAfter_62 ?_
    cases h
    exact v_zret (Or.inl rfl) dX14_isAfter_63
  · rw [if_pos c1] at h
    refine v_iload dX14_isAfter_51 0 rfl ?_
    refine v_iload dX14_isAfter_53 2 rfl ?_
    refine v_icmp_ge (tgt := 62) dX14_isAfter_55 rx4 rx6 (by decide) (fun c2 => ?_) (fun c2 => ?_)
    · rw [if_pos c2] at h
      refine v_iconst dX14_isAfter_62 ?_
      cases h
      exact v_zret (Or.inl rfl) dX14_isAfter_63
    · rw [if_neg c2] at h
      refine v_iconst dX14_isAfter_58 ?_
      refine v_goto (tgt := 63) dX14_isAfter_59 (by decide) ?_
      cases h
      exact v_zret (Or.inr rfl) dX14_isAfter_63

def E_X14_isAfter_90 (x6 : Int) (x7 : Int) (rv : Option vA) (σo : vS) (q : Int × Int × vS) : Prop := ∀ (x4' : Int) (x5' : Int) (s' : vS), q = (x4', x5', s') → rg x4' → rg x5' → VW cX14_isAfter (RX14, rv, σo, (some .boolean), 2, 45, 8, []) (P0 []) s' 130 [(0, vO 87), (4, vI x4'), (5, vI x5'), (6, vI x6), (7, vI x7)] []
def l_X14_isAfter_90 : Nat → Int → Int → Int → Int → vS → Option (Int × Int × vS)
  | 0, _, _, _, _, _ => none
  | n + 1, x4, x5, x6, x7, s =>
    if x6 ≤ x4 then
      some (x4, x5, s)
    else
      if x7 ≤ x5 then
        some (x4, x5, s)
      else
        gd (inb x4 (gN s 183)) <|
        gd (inb x5 (gN s 183)) <|
        if (gE s 183 x4) = (gE s 183 x5) then
          vl (w32 (x4 + 1)) fun y6 =>
          vl (w32 (x5 + 1)) fun y9 =>
          l_X14_isAfter_90 n y6 y9 x6 x7 s
        else
          some (x4, x5, s)
theorem wl_X14_isAfter_90 {x6 : Int} {x7 : Int} {rv : Option vA} {σo : vS}  (rx6 : rg x6) (rx7 : rg x7) : ∀ (n : Nat) (x4 : Int) (x5 : Int) (s : vS) (q : Int × Int × vS), l_X14_isAfter_90 n x4 x5 x6 x7 s = some q → rg x4 → rg x5 → E_X14_isAfter_90 x6 x7 rv σo q → VW cX14_isAfter (RX14, rv, σo, (some .boolean), 2, 45, 8, []) (P0 []) s 90 [(0, vO 87), (4, vI x4), (5, vI x5), (6, vI x6), (7, vI x7)] [] := by
  intro n
  induction n with
  | zero => intro x4 x5 s q h; cases h
  | succ n ih =>
    intro x4 x5 s q h rx4 rx5 hE
    unfold l_X14_isAfter_90 at h
    refine v_iload dX14_isAfter_90 1 rfl ?_
    refine v_iload dX14_isAfter_92 3 rfl ?_
    refine v_icmp_ge (tgt := 130) dX14_isAfter_94 rx4 rx6 (by decide) (fun c1 => ?_) (fun c1 => ?_)
    · rw [if_pos c1] at h
      cases h
      exact hE _ _ _ rfl rx4 rx5
    · rw [if_neg c1] at h
      refine v_iload dX14_isAfter_97 2 rfl ?_
      refine v_iload dX14_isAfter_99 4 rfl ?_
      refine v_icmp_ge (tgt := 130) dX14_isAfter_101 rx5 rx7 (by decide) (fun c2 => ?_) (fun c2 => ?_)
      · rw [if_pos c2] at h
        cases h
        exact hE _ _ _ rfl rx4 rx5
      · rw [if_neg c2] at h
        refine v_aload_n dX14_isAfter_104 0 rfl rfl ?_
        refine v_getS (f := 145) (t := 183) cf14 oc87 rfl rfl rfl (by decide) q2515 dX14_isAfter_105 ?_
        refine v_iload dX14_isAfter_108 1 rfl ?_
        obtain ⟨g3, h⟩ := gd_some h
        refine v_iald oc183 rx4 g3.1 g3.2 dX14_isAfter_110 ?_
        refine v_aload_n dX14_isAfter_111 0 rfl rfl ?_
        refine v_getS (f := 145) (t := 183) cf14 oc87 rfl rfl rfl (by decide) q2515 dX14_isAfter_112 ?_
        refine v_iload dX14_isAfter_115 2 rfl ?_
        obtain ⟨g4, h⟩ := gd_some h
        refine v_iald oc183 rx5 g4.1 g4.2 dX14_isAfter_117 ?_
        refine v_icmp_ne (tgt := 130) dX14_isAfter_118 (gE_rg _ _ _) (gE_rg _ _ _) (by decide) (fun c5 => ?_) (fun c5 => ?_)
        · rw [if_neg c5] at h
          cases h
          exact hE _ _ _ rfl rx4 rx5
        · rw [if_pos c5] at h
          obtain ⟨y6, e7, h⟩ := vl_some h
          refine v_iinc (L1 := [(4, vI (w32 (x4 + 1))), (0, vO 87), (5, vI x5), (6, vI x6), (7, vI x7)]) dX14_isAfter_121 1 rfl (by decide) rfl ?_
          rw [← e7]
          have r8 : rg y6 := by rw [e7]; exact w32_rg _
          obtain ⟨y9, e10, h⟩ := vl_some h
          refine v_iinc (L1 := [(5, vI (w32 (x5 + 1))), (4, vI y6), (0, vO 87), (6, vI x6), (7, vI x7)]) dX14_isAfter_124 2 rfl (by decide) rfl ?_
          rw [← e10]
          have r11 : rg y9 := by rw [e10]; exact w32_rg _
          refine v_goto (tgt := 90) dX14_isAfter_127 (by decide) ?_
          refine v_sub [2, 1, 0, 3, 4] (L1 := [(0, vO 87), (4, vI y6), (5, vI y9), (6, vI x6), (7, vI x7)]) rfl ?_
          exact ih y6 y9 s _ h r8 r11 hE

def j_X14_isAfter_130 (x4 : Int) (x5 : Int) (x6 : Int) (x7 : Int) (s : vS) : Option (Int × vS) :=
  if x5 = x7 then
    if x6 ≤ x4 then
      some (0, s)
    else
      some (1, s)
  else
    if x6 ≤ x4 then
      some (0, s)
    else
      gd (inb x4 (gN s 183)) <|
      gd (inb x5 (gN s 183)) <|
      if (gE s 183 x4) ≤ (gE s 183 x5) then
        some (0, s)
      else
        some (1, s)
theorem wj_X14_isAfter_130 {x4 : Int} {x5 : Int} {x6 : Int} {x7 : Int} {s : vS} {out : Int × vS} (h : j_X14_isAfter_130 x4 x5 x6 x7 s = some out)  (rx4 : rg x4) (rx5 : rg x5) (rx6 : rg x6) (rx7 : rg x7) : VW cX14_isAfter (RX14, (some (vI out.1)), out.2, (some .boolean), 2, 45, 8, []) (P0 []) s 130 [(0, vO 87), (4, vI x4), (5, vI x5), (6, vI x6), (7, vI x7)] [] := by
  unfold j_X14_isAfter_130 at h
  refine v_iload dX14_isAfter_130 2 rfl ?_
  refine v_iload dX14_isAfter_132 4 rfl ?_
  refine v_icmp_ne (tgt := 152) dX14_isAfter_134 rx5 rx7 (by decide) (fun c1 => ?_) (fun c1 => ?_)
  · rw [if_neg c1] at h
    refine v_iload dX14_isAfter_152 1 rfl ?_
    refine v_iload dX14_isAfter_154 3 rfl ?_
    refine v_icmp_ge (tgt := 180) dX14_isAfter_156 rx4 rx6 (by decide) (fun c2 => ?_) (fun c2 => ?_)
    · rw [if_pos c2] at h
      refine v_iconst dX14_isAfter_180 ?_
      cases h
      exact v_zret (Or.inl rfl) dX14_isAfter_181
    · rw [if_neg c2] at h
      refine v_aload_n dX14_isAfter_159 0 rfl rfl ?_
      refine v_getS (f := 145) (t := 183) cf14 oc87 rfl rfl rfl (by decide) q2515 dX14_isAfter_160 ?_
      refine v_iload dX14_isAfter_163 1 rfl ?_
      obtain ⟨g3, h⟩ := gd_some h
      refine v_iald oc183 rx4 g3.1 g3.2 dX14_isAfter_165 ?_
      refine v_aload_n dX14_isAfter_166 0 rfl rfl ?_
      refine v_getS (f := 145) (t := 183) cf14 oc87 rfl rfl rfl (by decide) q2515 dX14_isAfter_167 ?_
      refine v_iload dX14_isAfter_170 2 rfl ?_
      obtain ⟨g4, h⟩ := gd_some h
      refine v_iald oc183 rx5 g4.1 g4.2 dX14_isAfter_172 ?_
      refine v_icmp_le (tgt := 180) dX14_isAfter_173 (gE_rg _ _ _) (gE_rg _ _ _) (by decide) (fun c5 => ?_) (fun c5 => ?_)
      · rw [if_pos c5] at h
        refine v_iconst dX14_isAfter_180 ?_
        cases h
        exact v_zret (Or.inl rfl) dX14_isAfter_181
      · rw [if_neg c5] at h
        refine v_iconst dX14_isAfter_176 ?_
        refine v_goto (tgt := 181) dX14_isAfter_177 (by decide) ?_
        cases h
        exact v_zret (Or.inr rfl) dX14_isAfter_181
  · rw [if_pos c1] at h
    refine v_iload dX14_isAfter_137 1 rfl ?_
    refine v_iload dX14_isAfter_139 3 rfl ?_
    refine v_icmp_ge (tgt := 148) dX14_isAfter_141 rx4 rx6 (by decide) (fun c6 => ?_) (fun c6 => ?_)
    · rw [if_pos c6] at h
      refine v_iconst dX14_isAfter_148 ?_
      refine v_goto (tgt := 181) dX14_isAfter_149 (by decide) ?_
      cases h
      exact v_zret (Or.inl rfl) dX14_isAfter_181
    · rw [if_neg c6] at h
      refine v_iconst dX14_isAfter_144 ?_
      refine v_goto (tgt := 181) dX14_isAfter_145 (by decide) ?_
      cases h
      exact v_zret (Or.inr rfl) dX14_isAfter_181

def f_X14_isAfter (x1 : Int) (x2 : Int) (x3 : Int) (s : vS) : Option (Int × vS) :=
  gd (inb x1 (gN s 194)) <|
  vl (gE s 194 x1) fun y2 =>
  gd (inb x2 (gN s 194)) <|
  vl (gE s 194 x2) fun y6 =>
  bd (f_X14_segmentEnd x1 s) fun r12 s9 =>
  bd (f_X14_segmentEnd x2 s9) fun r17 s14 =>
  if y2 = r12 then
    j_X14_isAfter_44 y2 y6 r12 r17 s14
  else
    if y6 = r17 then
      j_X14_isAfter_44 y2 y6 r12 r17 s14
    else
      if x3 = 0 then
        lq_2 (l_X14_isAfter_90 FU y2 y6 r12 r17 s14) fun y22 y23 s24 =>
        j_X14_isAfter_130 y22 y23 r12 r17 s24
      else
        bd (f_X14_tagAt y2 s14) fun r31 s28 =>
        bd (f_X14_tagAt y6 s28) fun r36 s33 =>
        if (cmp64 r31 r36) ≤ 0 then
          some (0, s33)
        else
          some (1, s33)
theorem yk_X14_isAfter : yOk yX14_isAfter 3 := ⟨by decide, by decide, by decide +kernel⟩
theorem c_X14_isAfter {x1 : Int} {x2 : Int} {x3 : Int} {s : vS} {out : Int × vS} (h : f_X14_isAfter x1 x2 x3 s = some out)  (rx1 : rg x1) (rx2 : rg x2) (rx3 : rg x3) : VC yX14_isAfter cX14_isAfter 8 (some .boolean) 2 45 [vO 87, vI x1, vI x2, vI x3] s (some (vI out.1)) out.2 [] := by
  unfold f_X14_isAfter at h
  refine VC.of RX14 (by decide) rfl (Nat.le_of_ble_eq_true rfl) ?_
  show VW cX14_isAfter (RX14, (some (vI out.1)), out.2, (some .boolean), 2, 45, 8, []) (P0 []) s 0 [(0, vO 87), (1, vI x1), (2, vI x2), (3, vI x3)] []
  refine v_aload_n dX14_isAfter_0 0 rfl rfl ?_
  refine v_getS (f := 159) (t := 194) cf14 oc87 rfl rfl rfl (by decide) q2529 dX14_isAfter_1 ?_
  refine v_iload_n dX14_isAfter_4 1 rfl rfl ?_
  obtain ⟨g1, h⟩ := gd_some h
  refine v_iald oc194 rx1 g1.1 g1.2 dX14_isAfter_5 ?_
  obtain ⟨y2, e3, h⟩ := vl_some h
  rw [← e3]
  have r4 : rg y2 := by rw [e3]; exact gE_rg _ _ _
  refine v_istore (L1 := [(4, vI y2), (0, vO 87), (1, vI x1), (2, vI x2), (3, vI x3)]) dX14_isAfter_6 (by decide) rfl ?_
  refine v_aload_n dX14_isAfter_8 1 rfl rfl ?_
  refine v_getS (f := 159) (t := 194) cf14 oc87 rfl rfl rfl (by decide) q2529 dX14_isAfter_9 ?_
  refine v_iload_n dX14_isAfter_12 3 rfl rfl ?_
  obtain ⟨g5, h⟩ := gd_some h
  refine v_iald oc194 rx2 g5.1 g5.2 dX14_isAfter_13 ?_
  obtain ⟨y6, e7, h⟩ := vl_some h
  rw [← e7]
  have r8 : rg y6 := by rw [e7]; exact gE_rg _ _ _
  refine v_istore (L1 := [(5, vI y6), (4, vI y2), (0, vO 87), (1, vI x1), (2, vI x2), (3, vI x3)]) dX14_isAfter_14 (by decide) rfl ?_
  refine v_aload_n dX14_isAfter_16 2 rfl rfl ?_
  refine v_iload_n dX14_isAfter_17 3 rfl rfl ?_
  obtain ⟨r12, s9, e10, h⟩ := bd_some h
  have k11 := c_X14_segmentEnd e10 rx1
  have r13 : rg r12 := k11.1.2.2
  refine v_callV (st := []) cf14 oc87 k11 (lw_V q3498 q3500 qs293 q311 q3501) rfl yk_X14_segmentEnd ⟨Nat.le_of_ble_eq_true rfl, Nat.le_of_ble_eq_true rfl⟩ trivial ⟨kc87, trivial⟩ (Nat.le_of_ble_eq_true rfl) rfl dX14_isAfter_18 ?_
  refine v_istore (L1 := [(6, vI r12), (5, vI y6), (4, vI y2), (0, vO 87), (1, vI x1), (2, vI x2), (3, vI x3)]) dX14_isAfter_21 (by decide) rfl ?_
  refine v_aload_n dX14_isAfter_23 3 rfl rfl ?_
  refine v_iload_n dX14_isAfter_24 5 rfl rfl ?_
  obtain ⟨r17, s14, e15, h⟩ := bd_some h
  have k16 := c_X14_segmentEnd e15 rx2
  have r18 : rg r17 := k16.1.2.2
  refine v_callV (st := []) cf14 oc87 k16 (lw_V q3498 q3500 qs293 q311 q3501) rfl yk_X14_segmentEnd ⟨Nat.le_of_ble_eq_true rfl, Nat.le_of_ble_eq_true rfl⟩ trivial ⟨kc87, trivial⟩ (Nat.le_of_ble_eq_true rfl) rfl dX14_isAfter_25 ?_
  refine v_istore (L1 := [(7, vI r17), (6, vI r12), (5, vI y6), (4, vI y2), (0, vO 87), (1, vI x1), (2, vI x2), (3, vI x3)]) dX14_isAfter_28 (by decide) rfl ?_
  refine v_iload dX14_isAfter_30 3 rfl ?_
  refine v_iload dX14_isAfter_32 1 rfl ?_
  refine v_icmp_eq (tgt := 44) dX14_isAfter_34 r4 r13 (by decide) (fun c19 => ?_) (fun c19 => ?_)
  · rw [if_pos c19] at h
    refine v_sub [3, 2, 1, 0] (L1 := [(4, vI y2), (5, vI y6), (6, vI r12), (7, vI r17)]) rfl ?_
    exact wj_X14_isAfter_44 h r4 r8 r13 r18
  · rw [if_neg c19] at h
    refine v_iload dX14_isAfter_37 2 rfl ?_
    refine v_iload dX14_isAfter_39 0 rfl ?_
    refine v_icmp_ne (tgt := 64) dX14_isAfter_41 r8 r18 (by decide) (fun c20 => ?_) (fun c20 => ?_)
    · rw [if_neg c20] at h
      refine v_iload_n dX14_isAfter_64 7 rfl rfl ?_
      refine v_if_eq (tgt := 90) dX14_isAfter_65 rx3 (by decide) (fun c21 => ?_) (fun c21 => ?_)
      · rw [if_pos c21] at h
        refine v_sub [4, 3, 2, 1, 0] (L1 := [(0, vO 87), (4, vI y2), (5, vI y6), (6, vI r12), (7, vI r17)]) rfl ?_
        obtain ⟨y22, y23, s24, e25, h⟩ := lq_2_some h
        refine wl_X14_isAfter_90 r13 r18 FU y2 y6 s14 _ e25 r4 r8 ?_
        unfold E_X14_isAfter_90
        intro y22' y23' s24' z_ r26 r27
        cases z_
        exact wj_X14_isAfter_130 h r26 r27 r13 r18
      · rw [if_neg c21] at h
        refine v_aload_n dX14_isAfter_68 4 rfl rfl ?_
        refine v_iload dX14_isAfter_69 3 rfl ?_
        obtain ⟨r31, s28, e29, h⟩ := bd_some h
        have k30 := c_X14_tagAt e29 r4
        have r32 : rgL r31 := k30.1.2.2
        refine v_callV (st := []) cf14 oc87 k30 (lw_V q3502 q3504 qs294 q311 q3505) rfl yk_X14_tagAt ⟨Nat.le_of_ble_eq_true rfl, Nat.le_of_ble_eq_true rfl⟩ trivial ⟨kc87, trivial⟩ (Nat.le_of_ble_eq_true rfl) rfl dX14_isAfter_71 ?_
        refine v_aload_n dX14_isAfter_74 4 rfl rfl ?_
        refine v_iload dX14_isAfter_75 2 rfl ?_
        obtain ⟨r36, s33, e34, h⟩ := bd_some h
        have k35 := c_X14_tagAt e34 r8
        have r37 : rgL r36 := k35.1.2.2
        refine v_callV (st := [vL r31]) cf14 oc87 k35 (lw_V q3502 q3504 qs294 q311 q3505) rfl yk_X14_tagAt ⟨Nat.le_of_ble_eq_true rfl, Nat.le_of_ble_eq_true rfl⟩ trivial ⟨kc87, trivial⟩ (Nat.le_of_ble_eq_true rfl) rfl dX14_isAfter_77 ?_
        refine v_lcmp dX14_isAfter_80 r32 r37 ?_
        refine v_if_le (tgt := 88) dX14_isAfter_81 (cmp64_rg _ _) (by decide) (fun c38 => ?_) (fun c38 => ?_)
        · rw [if_pos c38] at h
          refine v_iconst dX14_isAfter_88 ?_
          cases h
          exact v_zret (Or.inl rfl) dX14_isAfter_89
        · rw [if_neg c38] at h
          refine v_iconst dX14_isAfter_84 ?_
          refine v_goto (tgt := 89) dX14_isAfter_85 (by decide) ?_
          cases h
          exact v_zret (Or.inr rfl) dX14_isAfter_89
    · rw [if_pos c20] at h
      refine v_sub [3, 2, 1, 0] (L1 := [(4, vI y2), (5, vI y6), (6, vI r12), (7, vI r17)]) rfl ?_
      exact wj_X14_isAfter_44 h r4 r8 r13 r18

def E_X14_sort_2 (x1 : Int) (x2 : Int) (rv : Option vA) (σo : vS) (q : vS) : Prop := ∀ (s' : vS), q = s' → VW cX14_sort (RX14, rv, σo, none, 3, 72, 11, []) (P0 []) s' 23 [(0, vO 87), (1, vI x1), (2, vI x2)] []
def l_X14_sort_2 : Nat → Int → Int → Int → vS → Option (vS)
  | 0, _, _, _, _ => none
  | n + 1, x1, x2, x3, s =>
    if (gI s 87 158) ≤ x3 then
      some s
    else
      gd (inb x3 (gN s 196)) <|
      stp (sE s 196 x3 x3) fun s3 =>
      vl (w32 (x3 + 1)) fun y5 =>
      l_X14_sort_2 n x1 x2 y5 s3
theorem wl_X14_sort_2 {x1 : Int} {x2 : Int} {rv : Option vA} {σo : vS}  (rx1 : rg x1) (rx2 : rg x2) : ∀ (n : Nat) (x3 : Int) (s : vS) (q : vS), l_X14_sort_2 n x1 x2 x3 s = some q → rg x3 → E_X14_sort_2 x1 x2 rv σo q → VW cX14_sort (RX14, rv, σo, none, 3, 72, 11, []) (P0 []) s 2 [(0, vO 87), (1, vI x1), (2, vI x2), (3, vI x3)] [] := by
  intro n
  induction n with
  | zero => intro x3 s q h; cases h
  | succ n ih =>
    intro x3 s q h rx3 hE
    unfold l_X14_sort_2 at h
    refine v_iload_n dX14_sort_2 3 rfl rfl ?_
    refine v_aload_n dX14_sort_3 0 rfl rfl ?_
    refine v_getI (f := 158) cf14 oc87 rfl (by decide) q2528 dX14_sort_4 ?_
    refine v_icmp_ge (tgt := 23) dX14_sort_7 rx3 (gI_rg _ _ _) (by decide) (fun c1 => ?_) (fun c1 => ?_)
    · rw [if_pos c1] at h
      cases h
      refine v_sub [0, 1, 2] (L1 := [(0, vO 87), (1, vI x1), (2, vI x2)]) rfl ?_
      exact hE _ rfl 
    · rw [if_neg c1] at h
      refine v_aload_n dX14_sort_10 0 rfl rfl ?_
      refine v_getS (f := 161) (t := 196) cf14 oc87 rfl rfl rfl (by decide) q2531 dX14_sort_11 ?_
      refine v_iload_n dX14_sort_14 3 rfl rfl ?_
      refine v_iload_n dX14_sort_15 3 rfl rfl ?_
      obtain ⟨g2, h⟩ := gd_some h
      obtain ⟨s3, e4, h⟩ := stp_some h
      refine v_iast oc196 rx3 g2.1 g2.2 dX14_sort_16 ?_
      rw [← e4]
      obtain ⟨y5, e6, h⟩ := vl_some h
      refine v_iinc (L1 := [(3, vI (w32 (x3 + 1))), (0, vO 87), (1, vI x1), (2, vI x2)]) dX14_sort_17 3 rfl (by decide) rfl ?_
      rw [← e6]
      have r7 : rg y5 := by rw [e6]; exact w32_rg _
      refine v_goto (tgt := 2) dX14_sort_20 (by decide) ?_
      refine v_sub [1, 2, 3, 0] (L1 := [(0, vO 87), (1, vI x1), (2, vI x2), (3, vI y5)]) rfl ?_
      exact ih y5 s3 _ h r7 hE

def E_X14_sort_25 (x1 : Int) (rv : Option vA) (σo : vS) (q : vS) : Prop := ∀ (s' : vS), q = s' → VW cX14_sort (RX14, rv, σo, none, 3, 72, 11, []) (P0 []) s' 260 [(0, vO 87), (1, vI x1)] []
def E_X14_sort_38 (x1 : Int) (x2 : Int) (x3 : Int) (rv : Option vA) (σo : vS) (q : vS) : Prop := ∀ (s' : vS), q = s' → VW cX14_sort (RX14, rv, σo, none, 3, 72, 11, []) (P0 []) s' 221 [(0, vO 87), (1, vI x1), (2, vI x2), (3, vI x3)] []
def E_X14_sort_111 (x1 : Int) (x2 : Int) (x3 : Int) (x4 : Int) (rv : Option vA) (σo : vS) (q : vS) : Prop := ∀ (s' : vS), q = s' → VW cX14_sort (RX14, rv, σo, none, 3, 72, 11, []) (P0 []) s' 210 [(0, vO 87), (1, vI x1), (2, vI x2), (3, vI x3), (4, vI x4)] []
def j_X14_sort_189 (rec : Int → Int → Int → Int → Int → Int → Int → Int → Int → vS → Option (vS)) (x1 : Int) (x2 : Int) (x3 : Int) (x4 : Int) (x5 : Int) (x6 : Int) (x7 : Int) (x8 : Int) (x9 : Int) (x10 : Int) (z1 : Int) (z2 : Int) (s : vS) : Option (vS) :=
  gd (inb z1 (gN s 197)) <|
  stp (sE s 197 z1 z2) fun s2 =>
  if x10 = 0 then
    vl (w32 (x7 + 1)) fun y5 =>
    vl (w32 (x9 + 1)) fun y8 =>
    rec x1 x2 x3 x4 x5 x6 y5 x8 y8 s2
  else
    vl (w32 (x8 + 1)) fun y11 =>
    vl (w32 (x9 + 1)) fun y14 =>
    rec x1 x2 x3 x4 x5 x6 x7 y11 y14 s2
theorem wj_X14_sort_189 {x1 : Int} {x2 : Int} {x3 : Int} {x4 : Int} {x5 : Int} {x6 : Int} {x7 : Int} {x8 : Int} {x9 : Int} {x10 : Int} {z1 : Int} {z2 : Int} {s : vS} {rv : Option vA} {σo : vS} {rec : Int → Int → Int → Int → Int → Int → Int → Int → Int → vS → Option (vS)} {q : vS} (h : j_X14_sort_189 rec x1 x2 x3 x4 x5 x6 x7 x8 x9 x10 z1 z2 s = some q)  (rx1 : rg x1) (rx2 : rg x2) (rx3 : rg x3) (rx4 : rg x4) (rx5 : rg x5) (rx6 : rg x6) (rx7 : rg x7) (rx8 : rg x8) (rx9 : rg x9) (rx10 : rg x10) (rz1 : rg z1) (rz2 : rg z2) (hrec : ∀ (y7 : Int) (y8 : Int) (y9 : Int) (s : vS) (q : vS), rec x1 x2 x3 x4 x5 x6 y7 y8 y9 s = some q → rg y7 → rg y8 → rg y9 → E_X14_sort_111 x1 x2 x3 x4 rv σo q → VW cX14_sort (RX14, rv, σo, none, 3, 72, 11, []) (P0 []) s 111 [(0, vO 87), (1, vI x1), (2, vI x2), (3, vI x3), (4, vI x4), (5, vI x5), (6, vI x6), (7, vI y7), (8, vI y8), (9, vI y9)] []) (hE : E_X14_sort_111 x1 x2 x3 x4 rv σo q) : VW cX14_sort (RX14, rv, σo, none, 3, 72, 11, []) (P0 []) s 189 [(0, vO 87), (1, vI x1), (2, vI x2), (3, vI x3), (4, vI x4), (5, vI x5), (6, vI x6), (7, vI x7), (8, vI x8), (9, vI x9), (10, vI x10)] [vI z2, vI z1, vO 197] := by
  unfold j_X14_sort_189 at h
  obtain ⟨g1, h⟩ := gd_some h
  obtain ⟨s2, e3, h⟩ := stp_some h
  refine v_iast oc197 rz1 g1.1 g1.2 dX14_sort_189 ?_
  rw [← e3]
  refine v_iload dX14_sort_190 10 rfl ?_
  refine v_if_eq (tgt := 201) dX14_sort_192 rx10 (by decide) (fun c4 => ?_) (fun c4 => ?_)
  · rw [if_pos c4] at h
    obtain ⟨y5, e6, h⟩ := vl_some h
    refine v_iinc (L1 := [(7, vI (w32 (x7 + 1))), (0, vO 87), (1, vI x1), (2, vI x2), (3, vI x3), (4, vI x4), (5, vI x5), (6, vI x6), (8, vI x8), (9, vI x9), (10, vI x10)]) dX14_sort_201 7 rfl (by decide) rfl ?_
    rw [← e6]
    have r7 : rg y5 := by rw [e6]; exact w32_rg _
    obtain ⟨y8, e9, h⟩ := vl_some h
    refine v_iinc (L1 := [(9, vI (w32 (x9 + 1))), (7, vI y5), (0, vO 87), (1, vI x1), (2, vI x2), (3, vI x3), (4, vI x4), (5, vI x5), (6, vI x6), (8, vI x8), (10, vI x10)]) dX14_sort_204 9 rfl (by decide) rfl ?_
    rw [← e9]
    have r10 : rg y8 := by rw [e9]; exact w32_rg _
    refine v_goto (tgt := 111) dX14_sort_207 (by decide) ?_
    refine v_sub [2, 3, 4, 5, 6, 7, 8, 1, 9, 0] (L1 := [(0, vO 87), (1, vI x1), (2, vI x2), (3, vI x3), (4, vI x4), (5, vI x5), (6, vI x6), (7, vI y5), (8, vI x8), (9, vI y8)]) rfl ?_
    exact hrec y5 x8 y8 s2 _ h r7 rx8 r10 hE
  · rw [if_neg c4] at h
    obtain ⟨y11, e12, h⟩ := vl_some h
    refine v_iinc (L1 := [(8, vI (w32 (x8 + 1))), (0, vO 87), (1, vI x1), (2, vI x2), (3, vI x3), (4, vI x4), (5, vI x5), (6, vI x6), (7, vI x7), (9, vI x9), (10, vI x10)]) dX14_sort_195 8 rfl (by decide) rfl ?_
    rw [← e12]
    have r13 : rg y11 := by rw [e12]; exact w32_rg _
    refine v_goto (tgt := 204) dX14_sort_198 (by decide) ?_
    obtain ⟨y14, e15, h⟩ := vl_some h
    refine v_iinc (L1 := [(9, vI (w32 (x9 + 1))), (8, vI y11), (0, vO 87), (1, vI x1), (2, vI x2), (3, vI x3), (4, vI x4), (5, vI x5), (6, vI x6), (7, vI x7), (10, vI x10)]) dX14_sort_204 9 rfl (by decide) rfl ?_
    rw [← e15]
    have r16 : rg y14 := by rw [e15]; exact w32_rg _
    refine v_goto (tgt := 111) dX14_sort_207 (by decide) ?_
    refine v_sub [2, 3, 4, 5, 6, 7, 8, 9, 1, 0] (L1 := [(0, vO 87), (1, vI x1), (2, vI x2), (3, vI x3), (4, vI x4), (5, vI x5), (6, vI x6), (7, vI x7), (8, vI y11), (9, vI y14)]) rfl ?_
    exact hrec x7 y11 y14 s2 _ h rx7 r13 r16 hE

def j_X14_sort_159 (rec : Int → Int → Int → Int → Int → Int → Int → Int → Int → vS → Option (vS)) (x1 : Int) (x2 : Int) (x3 : Int) (x4 : Int) (x5 : Int) (x6 : Int) (x7 : Int) (x8 : Int) (x9 : Int) (z0 : Int) (s : vS) : Option (vS) :=
  if z0 = 0 then
    gd (inb x7 (gN s 196)) <|
    j_X14_sort_189 rec x1 x2 x3 x4 x5 x6 x7 x8 x9 z0 x9 (gE s 196 x7) s
  else
    gd (inb x8 (gN s 196)) <|
    j_X14_sort_189 rec x1 x2 x3 x4 x5 x6 x7 x8 x9 z0 x9 (gE s 196 x8) s
theorem wj_X14_sort_159 {x1 : Int} {x2 : Int} {x3 : Int} {x4 : Int} {x5 : Int} {x6 : Int} {x7 : Int} {x8 : Int} {x9 : Int} {z0 : Int} {s : vS} {rv : Option vA} {σo : vS} {rec : Int → Int → Int → Int → Int → Int → Int → Int → Int → vS → Option (vS)} {q : vS} (h : j_X14_sort_159 rec x1 x2 x3 x4 x5 x6 x7 x8 x9 z0 s = some q)  (rx1 : rg x1) (rx2 : rg x2) (rx3 : rg x3) (rx4 : rg x4) (rx5 : rg x5) (rx6 : rg x6) (rx7 : rg x7) (rx8 : rg x8) (rx9 : rg x9) (rz0 : rg z0) (hrec : ∀ (y7 : Int) (y8 : Int) (y9 : Int) (s : vS) (q : vS), rec x1 x2 x3 x4 x5 x6 y7 y8 y9 s = some q → rg y7 → rg y8 → rg y9 → E_X14_sort_111 x1 x2 x3 x4 rv σo q → VW cX14_sort (RX14, rv, σo, none, 3, 72, 11, []) (P0 []) s 111 [(0, vO 87), (1, vI x1), (2, vI x2), (3, vI x3), (4, vI x4), (5, vI x5), (6, vI x6), (7, vI y7), (8, vI y8), (9, vI y9)] []) (hE : E_X14_sort_111 x1 x2 x3 x4 rv σo q) : VW cX14_sort (RX14, rv, σo, none, 3, 72, 11, []) (P0 []) s 159 [(0, vO 87), (1, vI x1), (2, vI x2), (3, vI x3), (4, vI x4), (5, vI x5), (6, vI x6), (7, vI x7), (8, vI x8), (9, vI x9)] [vI z0] := by
  unfold j_X14_sort_159 at h
  refine v_istore (L1 := [(10, vI z0), (0, vO 87), (1, vI x1), (2, vI x2), (3, vI x3), (4, vI x4), (5, vI x5), (6, vI x6), (7, vI x7), (8, vI x8), (9, vI x9)]) dX14_sort_159 (by decide) rfl ?_
  refine v_aload_n dX14_sort_161 1 rfl rfl ?_
  refine v_getS (f := 162) (t := 197) cf14 oc87 rfl rfl rfl (by decide) q2532 dX14_sort_162 ?_
  refine v_iload dX14_sort_165 10 rfl ?_
  refine v_iload dX14_sort_167 0 rfl ?_
  refine v_if_eq (tgt := 182) dX14_sort_169 rz0 (by decide) (fun c1 => ?_) (fun c1 => ?_)
  · rw [if_pos c1] at h
    refine v_aload_n dX14_sort_182 1 rfl rfl ?_
    refine v_getS (f := 161) (t := 196) cf14 oc87 rfl rfl rfl (by decide) q2531 dX14_sort_183 ?_
    refine v_iload dX14_sort_186 8 rfl ?_
    obtain ⟨g2, h⟩ := gd_some h
    refine v_iald oc196 rx7 g2.1 g2.2 dX14_sort_188 ?_
    refine v_sub [1, 2, 3, 4, 5, 6, 7, 8, 9, 10, 0] (L1 := [(0, vO 87), (1, vI x1), (2, vI x2), (3, vI x3), (4, vI x4), (5, vI x5), (6, vI x6), (7, vI x7), (8, vI x8), (9, vI x9), (10, vI z0)]) rfl ?_
    exact wj_X14_sort_189 h rx1 rx2 rx3 rx4 rx5 rx6 rx7 rx8 rx9 rz0 rx9 (gE_rg _ _ _) hrec hE
  · rw [if_neg c1] at h
    refine v_aload_n dX14_sort_172 1 rfl rfl ?_
    refine v_getS (f := 161) (t := 196) cf14 oc87 rfl rfl rfl (by decide) q2531 dX14_sort_173 ?_
    refine v_iload dX14_sort_176 9 rfl ?_
    obtain ⟨g3, h⟩ := gd_some h
    refine v_iald oc196 rx8 g3.1 g3.2 dX14_sort_178 ?_
    refine v_goto (tgt := 189) dX14_sort_179 (by decide) ?_
    refine v_sub [1, 2, 3, 4, 5, 6, 7, 8, 9, 10, 0] (L1 := [(0, vO 87), (1, vI x1), (2, vI x2), (3, vI x3), (4, vI x4), (5, vI x5), (6, vI x6), (7, vI x7), (8, vI x8), (9, vI x9), (10, vI z0)]) rfl ?_
    exact wj_X14_sort_189 h rx1 rx2 rx3 rx4 rx5 rx6 rx7 rx8 rx9 rz0 rx9 (gE_rg _ _ _) hrec hE

def l_X14_sort_111 : Nat → Int → Int → Int → Int → Int → Int → Int → Int → Int → vS → Option (vS)
  | 0, _, _, _, _, _, _, _, _, _, _ => none
  | n + 1, x1, x2, x3, x4, x5, x6, x7, x8, x9, s =>
    if x6 ≤ x9 then
      some s
    else
      if x7 = x5 then
        j_X14_sort_159 (l_X14_sort_111 n) x1 x2 x3 x4 x5 x6 x7 x8 x9 1 s
      else
        if x6 ≤ x8 then
          j_X14_sort_159 (l_X14_sort_111 n) x1 x2 x3 x4 x5 x6 x7 x8 x9 0 s
        else
          gd (inb x7 (gN s 196)) <|
          gd (inb x8 (gN s 196)) <|
          bd (f_X14_isAfter (gE s 196 x7) (gE s 196 x8) x2 s) fun r9 s6 =>
          if r9 = 0 then
            j_X14_sort_159 (l_X14_sort_111 n) x1 x2 x3 x4 x5 x6 x7 x8 x9 0 s6
          else
            j_X14_sort_159 (l_X14_sort_111 n) x1 x2 x3 x4 x5 x6 x7 x8 x9 1 s6
theorem wl_X14_sort_111 {x1 : Int} {x2 : Int} {x3 : Int} {x4 : Int} {x5 : Int} {x6 : Int} {rv : Option vA} {σo : vS}  (rx1 : rg x1) (rx2 : rg x2) (rx3 : rg x3) (rx4 : rg x4) (rx5 : rg x5) (rx6 : rg x6) : ∀ (n : Nat) (x7 : Int) (x8 : Int) (x9 : Int) (s : vS) (q : vS), l_X14_sort_111 n x1 x2 x3 x4 x5 x6 x7 x8 x9 s = some q → rg x7 → rg x8 → rg x9 → E_X14_sort_111 x1 x2 x3 x4 rv σo q → VW cX14_sort (RX14, rv, σo, none, 3, 72, 11, []) (P0 []) s 111 [(0, vO 87), (1, vI x1), (2, vI x2), (3, vI x3), (4, vI x4), (5, vI x5), (6, vI x6), (7, vI x7), (8, vI x8), (9, vI x9)] [] := by
  intro n
  induction n with
  | zero => intro x7 x8 x9 s q h; cases h
  | succ n ih =>
    intro x7 x8 x9 s q h rx7 rx8 rx9 hE
    unfold l_X14_sort_111 at h
    refine v_iload dX14_sort_111 9 rfl ?_
    refine v_iload dX14_sort_113 6 rfl ?_
    refine v_icmp_ge (tgt := 210) dX14_sort_115 rx9 rx6 (by decide) (fun c1 => ?_) (fun c1 => ?_)
    · rw [if_pos c1] at h
      cases h
      refine v_sub [0, 1, 2, 3, 4] (L1 := [(0, vO 87), (1, vI x1), (2, vI x2), (3, vI x3), (4, vI x4)]) rfl ?_
      exact hE _ rfl 
    · rw [if_neg c1] at h
      refine v_iload dX14_sort_118 7 rfl ?_
      refine v_iload dX14_sort_120 5 rfl ?_
      refine v_icmp_eq (tgt := 154) dX14_sort_122 rx7 rx5 (by decide) (fun c2 => ?_) (fun c2 => ?_)
      · rw [if_pos c2] at h
        refine v_iconst dX14_sort_154 ?_
        refine v_goto (tgt := 159) dX14_sort_155 (by decide) ?_
        exact wj_X14_sort_159 h rx1 rx2 rx3 rx4 rx5 rx6 rx7 rx8 rx9 (rgl rfl) ih hE
      · rw [if_neg c2] at h
        refine v_iload dX14_sort_125 8 rfl ?_
        refine v_iload dX14_sort_127 6 rfl ?_
        refine v_icmp_ge (tgt := 158) dX14_sort_129 rx8 rx6 (by decide) (fun c3 => ?_) (fun c3 => ?_)
        · rw [if_pos c3] at h
          refine v_iconst dX14_sort_158 ?_
          exact wj_X14_sort_159 h rx1 rx2 rx3 rx4 rx5 rx6 rx7 rx8 rx9 (rgl rfl) ih hE
        · rw [if_neg c3] at h
          refine v_aload_n dX14_sort_132 0 rfl rfl ?_
          refine v_aload_n dX14_sort_133 0 rfl rfl ?_
          refine v_getS (f := 161) (t := 196) cf14 oc87 rfl rfl rfl (by decide) q2531 dX14_sort_134 ?_
          refine v_iload dX14_sort_137 7 rfl ?_
          obtain ⟨g4, h⟩ := gd_some h
          refine v_iald oc196 rx7 g4.1 g4.2 dX14_sort_139 ?_
          refine v_aload_n dX14_sort_140 0 rfl rfl ?_
          refine v_getS (f := 161) (t := 196) cf14 oc87 rfl rfl rfl (by decide) q2531 dX14_sort_141 ?_
          refine v_iload dX14_sort_144 8 rfl ?_
          obtain ⟨g5, h⟩ := gd_some h
          refine v_iald oc196 rx8 g5.1 g5.2 dX14_sort_146 ?_
          refine v_iload_n dX14_sort_147 2 rfl rfl ?_
          obtain ⟨r9, s6, e7, h⟩ := bd_some h
          have k8 := c_X14_isAfter e7 (gE_rg _ _ _) (gE_rg _ _ _) rx2
          have r10 : rg r9 := k8.1.2.2
          refine v_callV (st := []) cf14 oc87 k8 (lw_V q3494 q3496 qs292 q311 q3497) rfl yk_X14_isAfter ⟨Nat.le_of_ble_eq_true rfl, Nat.le_of_ble_eq_true rfl⟩ trivial ⟨kc87, trivial⟩ (Nat.le_of_ble_eq_true rfl) rfl dX14_sort_148 ?_
          refine v_if_eq (tgt := 158) dX14_sort_151 r10 (by decide) (fun c11 => ?_) (fun c11 => ?_)
          · rw [if_pos c11] at h
            refine v_iconst dX14_sort_158 ?_
            exact wj_X14_sort_159 h rx1 rx2 rx3 rx4 rx5 rx6 rx7 rx8 rx9 (rgl rfl) ih hE
          · rw [if_neg c11] at h
            refine v_iconst dX14_sort_154 ?_
            refine v_goto (tgt := 159) dX14_sort_155 (by decide) ?_
            exact wj_X14_sort_159 h rx1 rx2 rx3 rx4 rx5 rx6 rx7 rx8 rx9 (rgl rfl) ih hE

def j_X14_sort_97 (rec : Int → Int → Int → Int → vS → Option (vS)) (x1 : Int) (x2 : Int) (x3 : Int) (x4 : Int) (x5 : Int) (z0 : Int) (s : vS) : Option (vS) :=
  lq_0 (l_X14_sort_111 FU x1 x2 x3 x4 x5 z0 x4 x5 x4 s) fun s1 =>
  vl (w32 (x4 + (w32 (2 * x3)))) fun y3 =>
  rec x1 x2 x3 y3 s1
theorem wj_X14_sort_97 {x1 : Int} {x2 : Int} {x3 : Int} {x4 : Int} {x5 : Int} {z0 : Int} {s : vS} {rv : Option vA} {σo : vS} {rec : Int → Int → Int → Int → vS → Option (vS)} {q : vS} (h : j_X14_sort_97 rec x1 x2 x3 x4 x5 z0 s = some q)  (rx1 : rg x1) (rx2 : rg x2) (rx3 : rg x3) (rx4 : rg x4) (rx5 : rg x5) (rz0 : rg z0) (hrec : ∀ (y4 : Int) (s : vS) (q : vS), rec x1 x2 x3 y4 s = some q → rg y4 → E_X14_sort_38 x1 x2 x3 rv σo q → VW cX14_sort (RX14, rv, σo, none, 3, 72, 11, []) (P0 []) s 38 [(0, vO 87), (1, vI x1), (2, vI x2), (3, vI x3), (4, vI y4)] []) (hE : E_X14_sort_38 x1 x2 x3 rv σo q) : VW cX14_sort (RX14, rv, σo, none, 3, 72, 11, []) (P0 []) s 97 [(0, vO 87), (1, vI x1), (2, vI x2), (3, vI x3), (4, vI x4), (5, vI x5)] [vI z0] := by
  unfold j_X14_sort_97 at h
  refine v_istore (L1 := [(6, vI z0), (0, vO 87), (1, vI x1), (2, vI x2), (3, vI x3), (4, vI x4), (5, vI x5)]) dX14_sort_97 (by decide) rfl ?_
  refine v_iload dX14_sort_99 5 rfl ?_
  refine v_istore (L1 := [(7, vI x4), (6, vI z0), (0, vO 87), (1, vI x1), (2, vI x2), (3, vI x3), (4, vI x4), (5, vI x5)]) dX14_sort_101 (by decide) rfl ?_
  refine v_iload dX14_sort_103 7 rfl ?_
  refine v_istore (L1 := [(8, vI x5), (7, vI x4), (6, vI z0), (0, vO 87), (1, vI x1), (2, vI x2), (3, vI x3), (4, vI x4), (5, vI x5)]) dX14_sort_105 (by decide) rfl ?_
  refine v_iload dX14_sort_107 7 rfl ?_
  refine v_istore (L1 := [(9, vI x4), (8, vI x5), (7, vI x4), (6, vI z0), (0, vO 87), (1, vI x1), (2, vI x2), (3, vI x3), (4, vI x4), (5, vI x5)]) dX14_sort_109 (by decide) rfl ?_
  refine v_sub [4, 5, 6, 7, 8, 9, 3, 2, 1, 0] (L1 := [(0, vO 87), (1, vI x1), (2, vI x2), (3, vI x3), (4, vI x4), (5, vI x5), (6, vI z0), (7, vI x4), (8, vI x5), (9, vI x4)]) rfl ?_
  obtain ⟨s1, e2, h⟩ := lq_0_some h
  refine wl_X14_sort_111 rx1 rx2 rx3 rx4 rx5 rz0 FU x4 x5 x4 s _ e2 rx4 rx5 rx4 ?_
  unfold E_X14_sort_111
  intro s1' z_
  cases z_
  refine v_iload dX14_sort_210 4 rfl ?_
  refine v_iconst dX14_sort_212 ?_
  refine v_iload_n dX14_sort_213 3 rfl rfl ?_
  refine v_imul dX14_sort_214 ?_
  refine v_iadd dX14_sort_215 ?_
  obtain ⟨y3, e4, h⟩ := vl_some h
  rw [← e4]
  have r5 : rg y3 := by rw [e4]; exact w32_rg _
  refine v_istore (L1 := [(4, vI y3), (0, vO 87), (1, vI x1), (2, vI x2), (3, vI x3)]) dX14_sort_216 (by decide) rfl ?_
  refine v_goto (tgt := 38) dX14_sort_218 (by decide) ?_
  refine v_sub [1, 2, 3, 4, 0] (L1 := [(0, vO 87), (1, vI x1), (2, vI x2), (3, vI x3), (4, vI y3)]) rfl ?_
  exact hrec y3 s1 _ h r5 hE

def j_X14_sort_69 (rec : Int → Int → Int → Int → vS → Option (vS)) (x1 : Int) (x2 : Int) (x3 : Int) (x4 : Int) (z0 : Int) (s : vS) : Option (vS) :=
  if (gI s 87 158) ≤ (w32 (x4 + (w32 (2 * x3)))) then
    j_X14_sort_97 rec x1 x2 x3 x4 z0 (gI s 87 158) s
  else
    j_X14_sort_97 rec x1 x2 x3 x4 z0 (w32 (x4 + (w32 (2 * x3)))) s
theorem wj_X14_sort_69 {x1 : Int} {x2 : Int} {x3 : Int} {x4 : Int} {z0 : Int} {s : vS} {rv : Option vA} {σo : vS} {rec : Int → Int → Int → Int → vS → Option (vS)} {q : vS} (h : j_X14_sort_69 rec x1 x2 x3 x4 z0 s = some q)  (rx1 : rg x1) (rx2 : rg x2) (rx3 : rg x3) (rx4 : rg x4) (rz0 : rg z0) (hrec : ∀ (y4 : Int) (s : vS) (q : vS), rec x1 x2 x3 y4 s = some q → rg y4 → E_X14_sort_38 x1 x2 x3 rv σo q → VW cX14_sort (RX14, rv, σo, none, 3, 72, 11, []) (P0 []) s 38 [(0, vO 87), (1, vI x1), (2, vI x2), (3, vI x3), (4, vI y4)] []) (hE : E_X14_sort_38 x1 x2 x3 rv σo q) : VW cX14_sort (RX14, rv, σo, none, 3, 72, 11, []) (P0 []) s 69 [(0, vO 87), (1, vI x1), (2, vI x2), (3, vI x3), (4, vI x4)] [vI z0] := by
  unfold j_X14_sort_69 at h
  refine v_istore (L1 := [(5, vI z0), (0, vO 87), (1, vI x1), (2, vI x2), (3, vI x3), (4, vI x4)]) dX14_sort_69 (by decide) rfl ?_
  refine v_iload dX14_sort_71 5 rfl ?_
  refine v_iconst dX14_sort_73 ?_
  refine v_iload_n dX14_sort_74 4 rfl rfl ?_
  refine v_imul dX14_sort_75 ?_
  refine v_iadd dX14_sort_76 ?_
  refine v_aload_n dX14_sort_77 1 rfl rfl ?_
  refine v_getI (f := 158) cf14 oc87 rfl (by decide) q2528 dX14_sort_78 ?_
  refine v_icmp_ge (tgt := 93) dX14_sort_81 (w32_rg _) (gI_rg _ _ _) (by decide) (fun c1 => ?_) (fun c1 => ?_)
  · rw [if_pos c1] at h
    refine v_aload_n dX14_sort_93 1 rfl rfl ?_
    refine v_getI (f := 158) cf14 oc87 rfl (by decide) q2528 dX14_sort_94 ?_
    refine v_sub [1, 2, 3, 4, 5, 0] (L1 := [(0, vO 87), (1, vI x1), (2, vI x2), (3, vI x3), (4, vI x4), (5, vI z0)]) rfl ?_
    exact wj_X14_sort_97 h rx1 rx2 rx3 rx4 rz0 (gI_rg _ _ _) hrec hE
  · rw [if_neg c1] at h
    refine v_iload dX14_sort_84 5 rfl ?_
    refine v_iconst dX14_sort_86 ?_
    refine v_iload_n dX14_sort_87 4 rfl rfl ?_
    refine v_imul dX14_sort_88 ?_
    refine v_iadd dX14_sort_89 ?_
    refine v_goto (tgt := 97) dX14_sort_90 (by decide) ?_
    refine v_sub [1, 2, 3, 4, 5, 0] (L1 := [(0, vO 87), (1, vI x1), (2, vI x2), (3, vI x3), (4, vI x4), (5, vI z0)]) rfl ?_
    exact wj_X14_sort_97 h rx1 rx2 rx3 rx4 rz0 (w32_rg _) hrec hE

def l_X14_sort_38 : Nat → Int → Int → Int → Int → vS → Option (vS)
  | 0, _, _, _, _, _ => none
  | n + 1, x1, x2, x3, x4, s =>
    if (gI s 87 158) ≤ x4 then
      some s
    else
      if (gI s 87 158) ≤ (w32 (x4 + x3)) then
        j_X14_sort_69 (l_X14_sort_38 n) x1 x2 x3 x4 (gI s 87 158) s
      else
        j_X14_sort_69 (l_X14_sort_38 n) x1 x2 x3 x4 (w32 (x4 + x3)) s
theorem wl_X14_sort_38 {x1 : Int} {x2 : Int} {x3 : Int} {rv : Option vA} {σo : vS}  (rx1 : rg x1) (rx2 : rg x2) (rx3 : rg x3) : ∀ (n : Nat) (x4 : Int) (s : vS) (q : vS), l_X14_sort_38 n x1 x2 x3 x4 s = some q → rg x4 → E_X14_sort_38 x1 x2 x3 rv σo q → VW cX14_sort (RX14, rv, σo, none, 3, 72, 11, []) (P0 []) s 38 [(0, vO 87), (1, vI x1), (2, vI x2), (3, vI x3), (4, vI x4)] [] := by
  intro n
  induction n with
  | zero => intro x4 s q h; cases h
  | succ n ih =>
    intro x4 s q h rx4 hE
    unfold l_X14_sort_38 at h
    refine v_iload dX14_sort_38 4 rfl ?_
    refine v_aload_n dX14_sort_40 0 rfl rfl ?_
    refine v_getI (f := 158) cf14 oc87 rfl (by decide) q2528 dX14_sort_41 ?_
    refine v_icmp_ge (tgt := 221) dX14_sort_44 rx4 (gI_rg _ _ _) (by decide) (fun c1 => ?_) (fun c1 => ?_)
    · rw [if_pos c1] at h
      cases h
      refine v_sub [0, 1, 2, 3] (L1 := [(0, vO 87), (1, vI x1), (2, vI x2), (3, vI x3)]) rfl ?_
      exact hE _ rfl 
    · rw [if_neg c1] at h
      refine v_iload dX14_sort_47 4 rfl ?_
      refine v_iload_n dX14_sort_49 3 rfl rfl ?_
      refine v_iadd dX14_sort_50 ?_
      refine v_aload_n dX14_sort_51 0 rfl rfl ?_
      refine v_getI (f := 158) cf14 oc87 rfl (by decide) q2528 dX14_sort_52 ?_
      refine v_icmp_ge (tgt := 65) dX14_sort_55 (w32_rg _) (gI_rg _ _ _) (by decide) (fun c2 => ?_) (fun c2 => ?_)
      · rw [if_pos c2] at h
        refine v_aload_n dX14_sort_65 0 rfl rfl ?_
        refine v_getI (f := 158) cf14 oc87 rfl (by decide) q2528 dX14_sort_66 ?_
        exact wj_X14_sort_69 h rx1 rx2 rx3 rx4 (gI_rg _ _ _) ih hE
      · rw [if_neg c2] at h
        refine v_iload dX14_sort_58 4 rfl ?_
        refine v_iload_n dX14_sort_60 3 rfl rfl ?_
        refine v_iadd dX14_sort_61 ?_
        refine v_goto (tgt := 69) dX14_sort_62 (by decide) ?_
        exact wj_X14_sort_69 h rx1 rx2 rx3 rx4 (w32_rg _) ih hE

def E_X14_sort_224 (x1 : Int) (x2 : Int) (x3 : Int) (rv : Option vA) (σo : vS) (q : vS) : Prop := ∀ (s' : vS), q = s' → VW cX14_sort (RX14, rv, σo, none, 3, 72, 11, []) (P0 []) s' 253 [(0, vO 87), (1, vI x1), (2, vI x2), (3, vI x3)] []
def l_X14_sort_224 : Nat → Int → Int → Int → Int → vS → Option (vS)
  | 0, _, _, _, _, _ => none
  | n + 1, x1, x2, x3, x4, s =>
    if (gI s 87 158) ≤ x4 then
      some s
    else
      gd (inb x4 (gN s 197)) <|
      gd (inb x4 (gN s 196)) <|
      stp (sE s 196 x4 (gE s 197 x4)) fun s4 =>
      vl (w32 (x4 + 1)) fun y6 =>
      l_X14_sort_224 n x1 x2 x3 y6 s4
theorem wl_X14_sort_224 {x1 : Int} {x2 : Int} {x3 : Int} {rv : Option vA} {σo : vS}  (rx1 : rg x1) (rx2 : rg x2) (rx3 : rg x3) : ∀ (n : Nat) (x4 : Int) (s : vS) (q : vS), l_X14_sort_224 n x1 x2 x3 x4 s = some q → rg x4 → E_X14_sort_224 x1 x2 x3 rv σo q → VW cX14_sort (RX14, rv, σo, none, 3, 72, 11, []) (P0 []) s 224 [(0, vO 87), (1, vI x1), (2, vI x2), (3, vI x3), (4, vI x4)] [] := by
  intro n
  induction n with
  | zero => intro x4 s q h; cases h
  | succ n ih =>
    intro x4 s q h rx4 hE
    unfold l_X14_sort_224 at h
    refine v_iload dX14_sort_224 4 rfl ?_
    refine v_aload_n dX14_sort_226 0 rfl rfl ?_
    refine v_getI (f := 158) cf14 oc87 rfl (by decide) q2528 dX14_sort_227 ?_
    refine v_icmp_ge (tgt := 253) dX14_sort_230 rx4 (gI_rg _ _ _) (by decide) (fun c1 => ?_) (fun c1 => ?_)
    · rw [if_pos c1] at h
      cases h
      refine v_sub [0, 1, 2, 3] (L1 := [(0, vO 87), (1, vI x1), (2, vI x2), (3, vI x3)]) rfl ?_
      exact hE _ rfl 
    · rw [if_neg c1] at h
      refine v_aload_n dX14_sort_233 0 rfl rfl ?_
      refine v_getS (f := 161) (t := 196) cf14 oc87 rfl rfl rfl (by decide) q2531 dX14_sort_234 ?_
      refine v_iload dX14_sort_237 4 rfl ?_
      refine v_aload_n dX14_sort_239 0 rfl rfl ?_
      refine v_getS (f := 162) (t := 197) cf14 oc87 rfl rfl rfl (by decide) q2532 dX14_sort_240 ?_
      refine v_iload dX14_sort_243 4 rfl ?_
      obtain ⟨g2, h⟩ := gd_some h
      refine v_iald oc197 rx4 g2.1 g2.2 dX14_sort_245 ?_
      obtain ⟨g3, h⟩ := gd_some h
      obtain ⟨s4, e5, h⟩ := stp_some h
      refine v_iast oc196 rx4 g3.1 g3.2 dX14_sort_246 ?_
      rw [← e5]
      obtain ⟨y6, e7, h⟩ := vl_some h
      refine v_iinc (L1 := [(4, vI (w32 (x4 + 1))), (0, vO 87), (1, vI x1), (2, vI x2), (3, vI x3)]) dX14_sort_247 4 rfl (by decide) rfl ?_
      rw [← e7]
      have r8 : rg y6 := by rw [e7]; exact w32_rg _
      refine v_goto (tgt := 224) dX14_sort_250 (by decide) ?_
      refine v_sub [1, 2, 3, 4, 0] (L1 := [(0, vO 87), (1, vI x1), (2, vI x2), (3, vI x3), (4, vI y6)]) rfl ?_
      exact ih y6 s4 _ h r8 hE

def l_X14_sort_25 : Nat → Int → Int → Int → vS → Option (vS)
  | 0, _, _, _, _ => none
  | n + 1, x1, x2, x3, s =>
    if (w32 ((gI s 87 158) - x1)) ≤ x3 then
      some s
    else
      lq_0 (l_X14_sort_38 FU x1 x2 x3 x1 s) fun s2 =>
      lq_0 (l_X14_sort_224 FU x1 x2 x3 x1 s2) fun s4 =>
      vl (w32 (2 * x3)) fun y6 =>
      l_X14_sort_25 n x1 x2 y6 s4
theorem wl_X14_sort_25 {x1 : Int} {x2 : Int} {rv : Option vA} {σo : vS}  (rx1 : rg x1) (rx2 : rg x2) : ∀ (n : Nat) (x3 : Int) (s : vS) (q : vS), l_X14_sort_25 n x1 x2 x3 s = some q → rg x3 → E_X14_sort_25 x1 rv σo q → VW cX14_sort (RX14, rv, σo, none, 3, 72, 11, []) (P0 []) s 25 [(0, vO 87), (1, vI x1), (2, vI x2), (3, vI x3)] [] := by
  intro n
  induction n with
  | zero => intro x3 s q h; cases h
  | succ n ih =>
    intro x3 s q h rx3 hE
    unfold l_X14_sort_25 at h
    refine v_iload_n dX14_sort_25 3 rfl rfl ?_
    refine v_aload_n dX14_sort_26 0 rfl rfl ?_
    refine v_getI (f := 158) cf14 oc87 rfl (by decide) q2528 dX14_sort_27 ?_
    refine v_iload_n dX14_sort_30 1 rfl rfl ?_
    refine v_isub dX14_sort_31 ?_
    refine v_icmp_ge (tgt := 260) dX14_sort_32 rx3 (w32_rg _) (by decide) (fun c1 => ?_) (fun c1 => ?_)
    · rw [if_pos c1] at h
      cases h
      refine v_sub [0, 1] (L1 := [(0, vO 87), (1, vI x1)]) rfl ?_
      exact hE _ rfl 
    · rw [if_neg c1] at h
      refine v_iload_n dX14_sort_35 1 rfl rfl ?_
      refine v_istore (L1 := [(4, vI x1), (0, vO 87), (1, vI x1), (2, vI x2), (3, vI x3)]) dX14_sort_36 (by decide) rfl ?_
      refine v_sub [1, 2, 3, 4, 0] (L1 := [(0, vO 87), (1, vI x1), (2, vI x2), (3, vI x3), (4, vI x1)]) rfl ?_
      obtain ⟨s2, e3, h⟩ := lq_0_some h
      refine wl_X14_sort_38 rx1 rx2 rx3 FU x1 s _ e3 rx1 ?_
      unfold E_X14_sort_38
      intro s2' z_
      cases z_
      refine v_iload_n dX14_sort_221 1 rfl rfl ?_
      refine v_istore (L1 := [(4, vI x1), (0, vO 87), (1, vI x1), (2, vI x2), (3, vI x3)]) dX14_sort_222 (by decide) rfl ?_
      refine v_sub [1, 2, 3, 4, 0] (L1 := [(0, vO 87), (1, vI x1), (2, vI x2), (3, vI x3), (4, vI x1)]) rfl ?_
      obtain ⟨s4, e5, h⟩ := lq_0_some h
      refine wl_X14_sort_224 rx1 rx2 rx3 FU x1 s2 _ e5 rx1 ?_
      unfold E_X14_sort_224
      intro s4' z_
      cases z_
      refine v_iconst dX14_sort_253 ?_
      refine v_iload_n dX14_sort_254 3 rfl rfl ?_
      refine v_imul dX14_sort_255 ?_
      obtain ⟨y6, e7, h⟩ := vl_some h
      rw [← e7]
      have r8 : rg y6 := by rw [e7]; exact w32_rg _
      refine v_istore_n (L1 := [(3, vI y6), (0, vO 87), (1, vI x1), (2, vI x2)]) dX14_sort_256 rfl (by decide) rfl ?_
      refine v_goto (tgt := 25) dX14_sort_257 (by decide) ?_
      refine v_sub [1, 2, 3, 0] (L1 := [(0, vO 87), (1, vI x1), (2, vI x2), (3, vI y6)]) rfl ?_
      exact ih y6 s4 _ h r8 hE

def E_X14_sort_312 (x3 : Int) (rv : Option vA) (σo : vS) (q : Int × vS) : Prop := ∀ (x4' : Int) (s' : vS), q = (x4', s') → rg x4' → VW cX14_sort (RX14, rv, σo, none, 3, 72, 11, []) (P0 []) s' 380 [(0, vO 87), (3, vI x3), (4, vI x4')] []
def E_X14_sort_335 (x3 : Int) (x5 : Int) (rv : Option vA) (σo : vS) (q : Int × vS) : Prop := ∀ (x4' : Int) (s' : vS), q = (x4', s') → rg x4' → VW cX14_sort (RX14, rv, σo, none, 3, 72, 11, []) (P0 []) s' 374 [(0, vO 87), (3, vI x3), (4, vI x4'), (5, vI x5)] []
def l_X14_sort_335 : Nat → Int → Int → Int → Int → vS → Option (Int × vS)
  | 0, _, _, _, _, _ => none
  | n + 1, x3, x4, x5, x6, s =>
    gd (inb x5 (gN s 196)) <|
    bd (f_X14_segmentEnd (gE s 196 x5) s) fun r5 s2 =>
    if r5 ≤ x6 then
      some (x4, s2)
    else
      gd (inb x6 (gN s2 183)) <|
      gd (inb x4 (gN s2 184)) <|
      stp (sE s2 184 x4 (gE s2 183 x6)) fun s10 =>
      vl (w32 (x4 + 1)) fun y12 =>
      vl (w32 (x6 + 1)) fun y15 =>
      l_X14_sort_335 n x3 y12 x5 y15 s10
theorem wl_X14_sort_335 {x3 : Int} {x5 : Int} {rv : Option vA} {σo : vS}  (rx3 : rg x3) (rx5 : rg x5) : ∀ (n : Nat) (x4 : Int) (x6 : Int) (s : vS) (q : Int × vS), l_X14_sort_335 n x3 x4 x5 x6 s = some q → rg x4 → rg x6 → E_X14_sort_335 x3 x5 rv σo q → VW cX14_sort (RX14, rv, σo, none, 3, 72, 11, []) (P0 []) s 335 [(0, vO 87), (3, vI x3), (4, vI x4), (5, vI x5), (6, vI x6)] [] := by
  intro n
  induction n with
  | zero => intro x4 x6 s q h; cases h
  | succ n ih =>
    intro x4 x6 s q h rx4 rx6 hE
    unfold l_X14_sort_335 at h
    refine v_iload dX14_sort_335 4 rfl ?_
    refine v_aload_n dX14_sort_337 0 rfl rfl ?_
    refine v_aload_n dX14_sort_338 0 rfl rfl ?_
    refine v_getS (f := 161) (t := 196) cf14 oc87 rfl rfl rfl (by decide) q2531 dX14_sort_339 ?_
    refine v_iload dX14_sort_342 3 rfl ?_
    obtain ⟨g1, h⟩ := gd_some h
    refine v_iald oc196 rx5 g1.1 g1.2 dX14_sort_344 ?_
    obtain ⟨r5, s2, e3, h⟩ := bd_some h
    have k4 := c_X14_segmentEnd e3 (gE_rg _ _ _)
    have r6 : rg r5 := k4.1.2.2
    refine v_callV (st := [vI x6]) cf14 oc87 k4 (lw_V q3498 q3500 qs293 q311 q3501) rfl yk_X14_segmentEnd ⟨Nat.le_of_ble_eq_true rfl, Nat.le_of_ble_eq_true rfl⟩ trivial ⟨kc87, trivial⟩ (Nat.le_of_ble_eq_true rfl) rfl dX14_sort_345 ?_
    refine v_icmp_ge (tgt := 374) dX14_sort_348 rx6 r6 (by decide) (fun c7 => ?_) (fun c7 => ?_)
    · rw [if_pos c7] at h
      cases h
      refine v_sub [0, 1, 2, 3] (L1 := [(0, vO 87), (3, vI x3), (4, vI x4), (5, vI x5)]) rfl ?_
      exact hE _ _ rfl rx4
    · rw [if_neg c7] at h
      refine v_aload_n dX14_sort_351 0 rfl rfl ?_
      refine v_getS (f := 146) (t := 184) cf14 oc87 rfl rfl rfl (by decide) q2516 dX14_sort_352 ?_
      refine v_iload dX14_sort_355 2 rfl ?_
      refine v_aload_n dX14_sort_357 0 rfl rfl ?_
      refine v_getS (f := 145) (t := 183) cf14 oc87 rfl rfl rfl (by decide) q2515 dX14_sort_358 ?_
      refine v_iload dX14_sort_361 4 rfl ?_
      obtain ⟨g8, h⟩ := gd_some h
      refine v_iald oc183 rx6 g8.1 g8.2 dX14_sort_363 ?_
      obtain ⟨g9, h⟩ := gd_some h
      obtain ⟨s10, e11, h⟩ := stp_some h
      refine v_iast oc184 rx4 g9.1 g9.2 dX14_sort_364 ?_
      rw [← e11]
      obtain ⟨y12, e13, h⟩ := vl_some h
      refine v_iinc (L1 := [(4, vI (w32 (x4 + 1))), (0, vO 87), (3, vI x3), (5, vI x5), (6, vI x6)]) dX14_sort_365 2 rfl (by decide) rfl ?_
      rw [← e13]
      have r14 : rg y12 := by rw [e13]; exact w32_rg _
      obtain ⟨y15, e16, h⟩ := vl_some h
      refine v_iinc (L1 := [(6, vI (w32 (x6 + 1))), (4, vI y12), (0, vO 87), (3, vI x3), (5, vI x5)]) dX14_sort_368 4 rfl (by decide) rfl ?_
      rw [← e16]
      have r17 : rg y15 := by rw [e16]; exact w32_rg _
      refine v_goto (tgt := 335) dX14_sort_371 (by decide) ?_
      refine v_sub [2, 3, 1, 4, 0] (L1 := [(0, vO 87), (3, vI x3), (4, vI y12), (5, vI x5), (6, vI y15)]) rfl ?_
      exact ih y12 y15 s10 _ h r14 r17 hE

def l_X14_sort_312 : Nat → Int → Int → Int → vS → Option (Int × vS)
  | 0, _, _, _, _ => none
  | n + 1, x3, x4, x5, s =>
    if (gI s 87 158) ≤ x5 then
      some (x4, s)
    else
      gd (inb x5 (gN s 196)) <|
      gd (inb (gE s 196 x5) (gN s 194)) <|
      vl (gE s 194 (gE s 196 x5)) fun y4 =>
      lq_1 (l_X14_sort_335 FU x3 x4 x5 y4 s) fun y7 s8 =>
      vl (w32 (x5 + 1)) fun y11 =>
      l_X14_sort_312 n x3 y7 y11 s8
theorem wl_X14_sort_312 {x3 : Int} {rv : Option vA} {σo : vS}  (rx3 : rg x3) : ∀ (n : Nat) (x4 : Int) (x5 : Int) (s : vS) (q : Int × vS), l_X14_sort_312 n x3 x4 x5 s = some q → rg x4 → rg x5 → E_X14_sort_312 x3 rv σo q → VW cX14_sort (RX14, rv, σo, none, 3, 72, 11, []) (P0 []) s 312 [(0, vO 87), (3, vI x3), (4, vI x4), (5, vI x5)] [] := by
  intro n
  induction n with
  | zero => intro x4 x5 s q h; cases h
  | succ n ih =>
    intro x4 x5 s q h rx4 rx5 hE
    unfold l_X14_sort_312 at h
    refine v_iload dX14_sort_312 3 rfl ?_
    refine v_aload_n dX14_sort_314 0 rfl rfl ?_
    refine v_getI (f := 158) cf14 oc87 rfl (by decide) q2528 dX14_sort_315 ?_
    refine v_icmp_ge (tgt := 380) dX14_sort_318 rx5 (gI_rg _ _ _) (by decide) (fun c1 => ?_) (fun c1 => ?_)
    · rw [if_pos c1] at h
      cases h
      refine v_sub [0, 1, 2] (L1 := [(0, vO 87), (3, vI x3), (4, vI x4)]) rfl ?_
      exact hE _ _ rfl rx4
    · rw [if_neg c1] at h
      refine v_aload_n dX14_sort_321 0 rfl rfl ?_
      refine v_getS (f := 159) (t := 194) cf14 oc87 rfl rfl rfl (by decide) q2529 dX14_sort_322 ?_
      refine v_aload_n dX14_sort_325 0 rfl rfl ?_
      refine v_getS (f := 161) (t := 196) cf14 oc87 rfl rfl rfl (by decide) q2531 dX14_sort_326 ?_
      refine v_iload dX14_sort_329 3 rfl ?_
      obtain ⟨g2, h⟩ := gd_some h
      refine v_iald oc196 rx5 g2.1 g2.2 dX14_sort_331 ?_
      obtain ⟨g3, h⟩ := gd_some h
      refine v_iald oc194 (gE_rg _ _ _) g3.1 g3.2 dX14_sort_332 ?_
      obtain ⟨y4, e5, h⟩ := vl_some h
      rw [← e5]
      have r6 : rg y4 := by rw [e5]; exact gE_rg _ _ _
      refine v_istore (L1 := [(6, vI y4), (0, vO 87), (3, vI x3), (4, vI x4), (5, vI x5)]) dX14_sort_333 (by decide) rfl ?_
      refine v_sub [1, 2, 3, 4, 0] (L1 := [(0, vO 87), (3, vI x3), (4, vI x4), (5, vI x5), (6, vI y4)]) rfl ?_
      obtain ⟨y7, s8, e9, h⟩ := lq_1_some h
      refine wl_X14_sort_335 rx3 rx5 FU x4 y4 s _ e9 rx4 r6 ?_
      unfold E_X14_sort_335
      intro y7' s8' z_ r10
      cases z_
      obtain ⟨y11, e12, h⟩ := vl_some h
      refine v_iinc (L1 := [(5, vI (w32 (x5 + 1))), (0, vO 87), (3, vI x3), (4, vI y7)]) dX14_sort_374 3 rfl (by decide) rfl ?_
      rw [← e12]
      have r13 : rg y11 := by rw [e12]; exact w32_rg _
      refine v_goto (tgt := 312) dX14_sort_377 (by decide) ?_
      refine v_sub [1, 2, 3, 0] (L1 := [(0, vO 87), (3, vI x3), (4, vI y7), (5, vI y11)]) rfl ?_
      exact ih y7 y11 s8 _ h r10 r13 hE

def E_X14_sort_383 (rv : Option vA) (σo : vS) (q : vS) : Prop := ∀ (s' : vS), q = s' → VW cX14_sort (RX14, rv, σo, none, 3, 72, 11, []) (P0 []) s' 412 [] []
def l_X14_sort_383 : Nat → Int → Int → Int → vS → Option (vS)
  | 0, _, _, _, _ => none
  | n + 1, x3, x4, x5, s =>
    if x4 ≤ x5 then
      some s
    else
      gd (inb x5 (gN s 184)) <|
      gd (inb (w32 (x3 + x5)) (gN s 183)) <|
      stp (sE s 183 (w32 (x3 + x5)) (gE s 184 x5)) fun s4 =>
      vl (w32 (x5 + 1)) fun y6 =>
      l_X14_sort_383 n x3 x4 y6 s4
theorem wl_X14_sort_383 {x3 : Int} {x4 : Int} {rv : Option vA} {σo : vS}  (rx3 : rg x3) (rx4 : rg x4) : ∀ (n : Nat) (x5 : Int) (s : vS) (q : vS), l_X14_sort_383 n x3 x4 x5 s = some q → rg x5 → E_X14_sort_383 rv σo q → VW cX14_sort (RX14, rv, σo, none, 3, 72, 11, []) (P0 []) s 383 [(0, vO 87), (3, vI x3), (4, vI x4), (5, vI x5)] [] := by
  intro n
  induction n with
  | zero => intro x5 s q h; cases h
  | succ n ih =>
    intro x5 s q h rx5 hE
    unfold l_X14_sort_383 at h
    refine v_iload dX14_sort_383 3 rfl ?_
    refine v_iload dX14_sort_385 2 rfl ?_
    refine v_icmp_ge (tgt := 412) dX14_sort_387 rx5 rx4 (by decide) (fun c1 => ?_) (fun c1 => ?_)
    · rw [if_pos c1] at h
      cases h
      refine v_sub [] (L1 := []) rfl ?_
      exact hE _ rfl 
    · rw [if_neg c1] at h
      refine v_aload_n dX14_sort_390 0 rfl rfl ?_
      refine v_getS (f := 145) (t := 183) cf14 oc87 rfl rfl rfl (by decide) q2515 dX14_sort_391 ?_
      refine v_iload_n dX14_sort_394 1 rfl rfl ?_
      refine v_iload dX14_sort_395 3 rfl ?_
      refine v_iadd dX14_sort_397 ?_
      refine v_aload_n dX14_sort_398 0 rfl rfl ?_
      refine v_getS (f := 146) (t := 184) cf14 oc87 rfl rfl rfl (by decide) q2516 dX14_sort_399 ?_
      refine v_iload dX14_sort_402 3 rfl ?_
      obtain ⟨g2, h⟩ := gd_some h
      refine v_iald oc184 rx5 g2.1 g2.2 dX14_sort_404 ?_
      obtain ⟨g3, h⟩ := gd_some h
      obtain ⟨s4, e5, h⟩ := stp_some h
      refine v_iast oc183 (w32_rg _) g3.1 g3.2 dX14_sort_405 ?_
      rw [← e5]
      obtain ⟨y6, e7, h⟩ := vl_some h
      refine v_iinc (L1 := [(5, vI (w32 (x5 + 1))), (0, vO 87), (3, vI x3), (4, vI x4)]) dX14_sort_406 3 rfl (by decide) rfl ?_
      rw [← e7]
      have r8 : rg y6 := by rw [e7]; exact w32_rg _
      refine v_goto (tgt := 383) dX14_sort_409 (by decide) ?_
      refine v_sub [1, 2, 3, 0] (L1 := [(0, vO 87), (3, vI x3), (4, vI x4), (5, vI y6)]) rfl ?_
      exact ih y6 s4 _ h r8 hE

def j_X14_sort_281 (x1 : Int) (z0 : Int) (s : vS) : Option (vS) :=
  if (w32 (gN s 183 : Int)) ≤ (w32 (gN s 184 : Int)) then
    lq_1 (l_X14_sort_312 FU z0 0 x1 s) fun y2 s3 =>
    lq_0 (l_X14_sort_383 FU z0 y2 0 s3) fun s6 =>
    some s6
  else
    gd (naG (w32 (gN s 183 : Int))) <|
    stp (sA s 199 (Int.toNat (w32 (gN s 183 : Int)), fun _ => 0)) fun s9 =>
    gd (2 * gN s9 184 ≤ gN s9 199 ∧ 2 ≤ gN s9 199) <|
    stp (sw2 s9 184 199) fun s12 =>
    stp (rs s12) fun s14 =>
    lq_1 (l_X14_sort_312 FU z0 0 x1 s14) fun y16 s17 =>
    lq_0 (l_X14_sort_383 FU z0 y16 0 s17) fun s20 =>
    some s20
theorem wj_X14_sort_281 {x1 : Int} {z0 : Int} {s : vS} {out : vS} (h : j_X14_sort_281 x1 z0 s = some out)  (rx1 : rg x1) (rz0 : rg z0) : VW cX14_sort (RX14, none, out, none, 3, 72, 11, []) (P0 []) s 281 [(0, vO 87), (1, vI x1)] [vI z0] := by
  unfold j_X14_sort_281 at h
  refine v_istore_n (L1 := [(3, vI z0), (0, vO 87), (1, vI x1)]) dX14_sort_281 rfl (by decide) rfl ?_
  refine v_aload_n dX14_sort_282 1 rfl rfl ?_
  refine v_getS (f := 146) (t := 184) cf14 oc87 rfl rfl rfl (by decide) q2516 dX14_sort_283 ?_
  refine v_alen24 oc184 dX14_sort_286 ?_
  refine v_aload_n dX14_sort_287 1 rfl rfl ?_
  refine v_getS (f := 145) (t := 183) cf14 oc87 rfl rfl rfl (by decide) q2515 dX14_sort_288 ?_
  refine v_alen24 oc183 dX14_sort_291 ?_
  refine v_icmp_ge (tgt := 306) dX14_sort_292 (w32_rg _) (w32_rg _) (by decide) (fun c1 => ?_) (fun c1 => ?_)
  · rw [if_pos c1] at h
    refine v_iconst dX14_sort_306 ?_
    refine v_istore (L1 := [(4, vI 0), (3, vI z0), (0, vO 87), (1, vI x1)]) dX14_sort_307 (by decide) rfl ?_
    refine v_iload_n dX14_sort_309 3 rfl rfl ?_
    refine v_istore (L1 := [(5, vI x1), (4, vI 0), (3, vI z0), (0, vO 87), (1, vI x1)]) dX14_sort_310 (by decide) rfl ?_
    refine v_sub [3, 2, 1, 0] (L1 := [(0, vO 87), (3, vI z0), (4, vI 0), (5, vI x1)]) rfl ?_
    obtain ⟨y2, s3, e4, h⟩ := lq_1_some h
    refine wl_X14_sort_312 rz0 FU 0 x1 s _ e4 (rgl rfl) rx1 ?_
    unfold E_X14_sort_312
    intro y2' s3' z_ r5
    cases z_
    refine v_iconst dX14_sort_380 ?_
    refine v_istore (L1 := [(5, vI 0), (0, vO 87), (3, vI z0), (4, vI y2)]) dX14_sort_381 (by decide) rfl ?_
    refine v_sub [1, 2, 3, 0] (L1 := [(0, vO 87), (3, vI z0), (4, vI y2), (5, vI 0)]) rfl ?_
    obtain ⟨s6, e7, h⟩ := lq_0_some h
    refine wl_X14_sort_383 rz0 r5 FU 0 s3 _ e7 (rgl rfl) ?_
    unfold E_X14_sort_383
    intro s6' z_
    cases z_
    cases h
    exact v_vret dX14_sort_412
  · rw [if_neg c1] at h
    refine v_aload_n dX14_sort_295 1 rfl rfl ?_
    refine v_aload_n dX14_sort_296 1 rfl rfl ?_
    refine v_getS (f := 145) (t := 183) cf14 oc87 rfl rfl rfl (by decide) q2515 dX14_sort_297 ?_
    refine v_alen24 oc183 dX14_sort_300 ?_
    obtain ⟨g8, h⟩ := gd_some h
    obtain ⟨s9, e10, h⟩ := stp_some h
    refine v_na24 (K := 199) (tk1 := [(24, 1)]) rfl rfl (by decide) (w32_rg _) g8 ⟨(by decide), trivial⟩ ⟨(by decide), trivial⟩ q459 dX14_sort_301 ?_
    rw [← e10]
    obtain ⟨g11, h⟩ := gd_some h
    obtain ⟨s12, e13, h⟩ := stp_some h
    refine v_pa (i := 0) (K := 199) (t0 := 184) (f := 146) (tk1 := [(24, 0)]) (L1 := [(3, vI z0), (0, vO 87), (1, vI x1)]) (st1 := []) rfl rfl (by decide) cf14 (⟨by decide, rfl⟩ : okB 87 13) rfl (by decide) rfl rfl (by decide) rfl g11 q2516 dX14_sort_303 rfl rfl rfl rfl ?_
    rw [← e13]
    refine v_sub [1, 2, 0] (L1 := [(0, vO 87), (1, vI x1), (3, vI z0)]) rfl ?_
    obtain ⟨s14, e15, h⟩ := stp_some h
    refine v_dr (by decide) (by decide) ⟨(by decide), trivial⟩ trivial ?_
    rw [← e15]
    refine v_iconst dX14_sort_306 ?_
    refine v_istore (L1 := [(4, vI 0), (0, vO 87), (1, vI x1), (3, vI z0)]) dX14_sort_307 (by decide) rfl ?_
    refine v_iload_n dX14_sort_309 2 rfl rfl ?_
    refine v_istore (L1 := [(5, vI x1), (4, vI 0), (0, vO 87), (1, vI x1), (3, vI z0)]) dX14_sort_310 (by decide) rfl ?_
    refine v_sub [2, 4, 1, 0] (L1 := [(0, vO 87), (3, vI z0), (4, vI 0), (5, vI x1)]) rfl ?_
    obtain ⟨y16, s17, e18, h⟩ := lq_1_some h
    refine wl_X14_sort_312 rz0 FU 0 x1 s14 _ e18 (rgl rfl) rx1 ?_
    unfold E_X14_sort_312
    intro y16' s17' z_ r19
    cases z_
    refine v_iconst dX14_sort_380 ?_
    refine v_istore (L1 := [(5, vI 0), (0, vO 87), (3, vI z0), (4, vI y16)]) dX14_sort_381 (by decide) rfl ?_
    refine v_sub [1, 2, 3, 0] (L1 := [(0, vO 87), (3, vI z0), (4, vI y16), (5, vI 0)]) rfl ?_
    obtain ⟨s20, e21, h⟩ := lq_0_some h
    refine wl_X14_sort_383 rz0 r19 FU 0 s17 _ e21 (rgl rfl) ?_
    unfold E_X14_sort_383
    intro s20' z_
    cases z_
    cases h
    exact v_vret dX14_sort_412

def f_X14_sort (x1 : Int) (x2 : Int) (s : vS) : Option (vS) :=
  lq_0 (l_X14_sort_2 FU x1 x2 x1 s) fun s1 =>
  lq_0 (l_X14_sort_25 FU x1 x2 1 s1) fun s3 =>
  if (gI s3 87 158) ≤ x1 then
    j_X14_sort_281 x1 (gI s3 87 144) s3
  else
    gd (inb x1 (gN s3 194)) <|
    j_X14_sort_281 x1 (gE s3 194 x1) s3
theorem yk_X14_sort : yOk yX14_sort 2 := ⟨by decide, by decide, by decide +kernel⟩
theorem c_X14_sort {x1 : Int} {x2 : Int} {s : vS} {out : vS} (h : f_X14_sort x1 x2 s = some out)  (rx1 : rg x1) (rx2 : rg x2) : VC yX14_sort cX14_sort 11 none 3 72 [vO 87, vI x1, vI x2] s none out [] := by
  unfold f_X14_sort at h
  refine VC.of RX14 (by decide) rfl (Nat.le_of_ble_eq_true rfl) ?_
  show VW cX14_sort (RX14, none, out, none, 3, 72, 11, []) (P0 []) s 0 [(0, vO 87), (1, vI x1), (2, vI x2)] []
  refine v_iload_n dX14_sort_0 1 rfl rfl ?_
  refine v_istore_n (L1 := [(3, vI x1), (0, vO 87), (1, vI x1), (2, vI x2)]) dX14_sort_1 rfl (by decide) rfl ?_
  refine v_sub [1, 2, 3, 0] (L1 := [(0, vO 87), (1, vI x1), (2, vI x2), (3, vI x1)]) rfl ?_
  obtain ⟨s1, e2, h⟩ := lq_0_some h
  refine wl_X14_sort_2 rx1 rx2 FU x1 s _ e2 rx1 ?_
  unfold E_X14_sort_2
  intro s1' z_
  cases z_
  refine v_iconst dX14_sort_23 ?_
  refine v_istore_n (L1 := [(3, vI 1), (0, vO 87), (1, vI x1), (2, vI x2)]) dX14_sort_24 rfl (by decide) rfl ?_
  refine v_sub [1, 2, 3, 0] (L1 := [(0, vO 87), (1, vI x1), (2, vI x2), (3, vI 1)]) rfl ?_
  obtain ⟨s3, e4, h⟩ := lq_0_some h
  refine wl_X14_sort_25 rx1 rx2 FU 1 s1 _ e4 (rgl rfl) ?_
  unfold E_X14_sort_25
  intro s3' z_
  cases z_
  refine v_aload_n dX14_sort_260 0 rfl rfl ?_
  refine v_getI (f := 158) cf14 oc87 rfl (by decide) q2528 dX14_sort_261 ?_
  refine v_iload_n dX14_sort_264 1 rfl rfl ?_
  refine v_icmp_le (tgt := 277) dX14_sort_265 (gI_rg _ _ _) rx1 (by decide) (fun c5 => ?_) (fun c5 => ?_)
  · rw [if_pos c5] at h
    refine v_aload_n dX14_sort_277 0 rfl rfl ?_
    refine v_getI (f := 144) cf14 oc87 rfl (by decide) q2514 dX14_sort_278 ?_
    exact wj_X14_sort_281 h rx1 (gI_rg _ _ _)
  · rw [if_neg c5] at h
    refine v_aload_n dX14_sort_268 0 rfl rfl ?_
    refine v_getS (f := 159) (t := 194) cf14 oc87 rfl rfl rfl (by decide) q2529 dX14_sort_269 ?_
    refine v_iload_n dX14_sort_272 1 rfl rfl ?_
    obtain ⟨g6, h⟩ := gd_some h
    refine v_iald oc194 rx1 g6.1 g6.2 dX14_sort_273 ?_
    refine v_goto (tgt := 281) dX14_sort_274 (by decide) ?_
    exact wj_X14_sort_281 h rx1 (gE_rg _ _ _)

def j_X14_finish_266 (x1 : Int) (s : vS) : Option (vS) :=
  gd (inb x1 (gN s 193)) <|
  stp (sI s 87 158 (gE s 193 x1)) fun s2 =>
  bdv (f_X14_leave s2) fun s4 =>
  some s4
theorem wj_X14_finish_266 {x1 : Int} {s : vS} {out : vS} (h : j_X14_finish_266 x1 s = some out)  (rx1 : rg x1) : VW cX14_finish (RX14, none, out, none, 4, 102, 8, []) (P0 []) s 266 [(0, vO 87), (1, vI x1)] [] := by
  unfold j_X14_finish_266 at h
  refine v_aload_n dX14_finish_266 0 rfl rfl ?_
  refine v_aload_n dX14_finish_267 0 rfl rfl ?_
  refine v_getS (f := 157) (t := 193) cf14 oc87 rfl rfl rfl (by decide) q2527 dX14_finish_268 ?_
  refine v_iload_n dX14_finish_271 1 rfl rfl ?_
  obtain ⟨g1, h⟩ := gd_some h
  refine v_iald oc193 rx1 g1.1 g1.2 dX14_finish_272 ?_
  obtain ⟨s2, e3, h⟩ := stp_some h
  refine v_putI (f := 158) cf14 oc87 rfl (by decide) q2528 dX14_finish_273 rfl rfl ?_
  rw [← e3]
  refine v_aload_n dX14_finish_276 0 rfl rfl ?_
  obtain ⟨s4, e5, h⟩ := bdv_some h
  have k6 := c_X14_leave e5
  refine v_callV (st := []) cf14 oc87 k6 (lw_V q3458 q3460 qs283 q311 q3461) rfl yk_X14_leave ⟨Nat.le_of_ble_eq_true rfl, Nat.le_of_ble_eq_true rfl⟩ trivial ⟨kc87, trivial⟩ (Nat.le_of_ble_eq_true rfl) rfl dX14_finish_277 ?_
  cases h
  exact v_vret dX14_finish_280

def j_X14_finish_263 (x1 : Int) (z1 : Int) (z2 : Int) (s : vS) : Option (vS) :=
  bdv (f_X14_sort z1 z2 s) fun s1 =>
  j_X14_finish_266 x1 s1
theorem wj_X14_finish_263 {x1 : Int} {z1 : Int} {z2 : Int} {s : vS} {out : vS} (h : j_X14_finish_263 x1 z1 z2 s = some out)  (rx1 : rg x1) (rz1 : rg z1) (rz2 : rg z2) : VW cX14_finish (RX14, none, out, none, 4, 102, 8, []) (P0 []) s 263 [(0, vO 87), (1, vI x1)] [vI z2, vI z1, vO 87] := by
  unfold j_X14_finish_263 at h
  obtain ⟨s1, e2, h⟩ := bdv_some h
  have k3 := c_X14_sort e2 rz1 rz2
  refine v_callV (st := []) cf14 oc87 k3 (lw_V q3490 q3492 qs291 q311 q3493) rfl yk_X14_sort ⟨Nat.le_of_ble_eq_true rfl, Nat.le_of_ble_eq_true rfl⟩ trivial ⟨kc87, trivial⟩ (Nat.le_of_ble_eq_true rfl) rfl dX14_finish_263 ?_
  exact wj_X14_finish_266 h rx1

def j_X14_finish_245 (x1 : Int) (x3 : Int) (s : vS) : Option (vS) :=
  gd (inb x1 (gN s 193)) <|
  if x3 = 13 then
    j_X14_finish_263 x1 (gE s 193 x1) 1 s
  else
    j_X14_finish_263 x1 (gE s 193 x1) 0 s
theorem wj_X14_finish_245 {x1 : Int} {x3 : Int} {s : vS} {out : vS} (h : j_X14_finish_245 x1 x3 s = some out)  (rx1 : rg x1) (rx3 : rg x3) : VW cX14_finish (RX14, none, out, none, 4, 102, 8, []) (P0 []) s 245 [(0, vO 87), (1, vI x1), (3, vI x3)] [] := by
  unfold j_X14_finish_245 at h
  refine v_aload_n dX14_finish_245 0 rfl rfl ?_
  refine v_aload_n dX14_finish_246 0 rfl rfl ?_
  refine v_getS (f := 157) (t := 193) cf14 oc87 rfl rfl rfl (by decide) q2527 dX14_finish_247 ?_
  refine v_iload_n dX14_finish_250 1 rfl rfl ?_
  obtain ⟨g1, h⟩ := gd_some h
  refine v_iald oc193 rx1 g1.1 g1.2 dX14_finish_251 ?_
  refine v_iload_n dX14_finish_252 2 rfl rfl ?_
  refine v_bipush dX14_finish_253 rfl ?_
  refine v_icmp_ne (tgt := 262) dX14_finish_255 rx3 (rgl rfl) (by decide) (fun c2 => ?_) (fun c2 => ?_)
  · rw [if_neg c2] at h
    refine v_iconst dX14_finish_262 ?_
    refine v_sub [0, 1] (L1 := [(0, vO 87), (1, vI x1)]) rfl ?_
    exact wj_X14_finish_263 h rx1 (gE_rg _ _ _) (rgl rfl)
  · rw [if_pos c2] at h
    refine v_iconst dX14_finish_258 ?_
    refine v_goto (tgt := 263) dX14_finish_259 (by decide) ?_
    refine v_sub [0, 1] (L1 := [(0, vO 87), (1, vI x1)]) rfl ?_
    exact wj_X14_finish_263 h rx1 (gE_rg _ _ _) (rgl rfl)

def j_X14_finish_225 (x1 : Int) (x3 : Int) (s : vS) : Option (vS) :=
  if (gI s 87 8) ≤ 0 then
    if x3 = 13 then
      j_X14_finish_245 x1 x3 s
    else
      if x3 = 15 then
        j_X14_finish_245 x1 x3 s
      else
        j_X14_finish_266 x1 s
  else
    some s
theorem wj_X14_finish_225 {x1 : Int} {x3 : Int} {s : vS} {out : vS} (h : j_X14_finish_225 x1 x3 s = some out)  (rx1 : rg x1) (rx3 : rg x3) : VW cX14_finish (RX14, none, out, none, 4, 102, 8, []) (P0 []) s 225 [(0, vO 87), (1, vI x1), (3, vI x3)] [] := by
  unfold j_X14_finish_225 at h
  refine v_aload_n dX14_finish_225 0 rfl rfl ?_
  refine v_getI (f := 8) cf14 oc87 rfl (by decide) q2378 dX14_finish_226 ?_
  refine v_if_le (tgt := 233) dX14_finish_229 (gI_rg _ _ _) (by decide) (fun c1 => ?_) (fun c1 => ?_)
  · rw [if_pos c1] at h
    refine v_iload_n dX14_finish_233 2 rfl rfl ?_
    refine v_bipush dX14_finish_234 rfl ?_
    refine v_icmp_eq (tgt := 245) dX14_finish_236 rx3 (rgl rfl) (by decide) (fun c2 => ?_) (fun c2 => ?_)
    · rw [if_pos c2] at h
      exact wj_X14_finish_245 h rx1 rx3
    · rw [if_neg c2] at h
      refine v_iload_n dX14_finish_239 2 rfl rfl ?_
      refine v_bipush dX14_finish_240 rfl ?_
      refine v_icmp_ne (tgt := 266) dX14_finish_242 rx3 (rgl rfl) (by decide) (fun c3 => ?_) (fun c3 => ?_)
      · rw [if_neg c3] at h
        refine v_sub [0, 1] (L1 := [(0, vO 87), (1, vI x1)]) rfl ?_
        exact wj_X14_finish_266 h rx1
      · rw [if_pos c3] at h
        exact wj_X14_finish_245 h rx1 rx3
  · rw [if_neg c1] at h
    cases h
    exact v_vret dX14_finish_232

def E_X14_finish_86 (x1 : Int) (x3 : Int) (rv : Option vA) (σo : vS) (q : vS) : Prop := ∀ (s' : vS), q = s' → VW cX14_finish (RX14, rv, σo, none, 4, 102, 8, []) (P0 []) s' 185 [(0, vO 87), (1, vI x1), (3, vI x3)] []
def E_X14_finish_116 (x1 : Int) (x3 : Int) (x4 : Int) (x5 : Int) (rv : Option vA) (σo : vS) (q : Int × vS) : Prop := ∀ (x6' : Int) (s' : vS), q = (x6', s') → rg x6' → VW cX14_finish (RX14, rv, σo, none, 4, 102, 8, []) (P0 []) s' 155 [(0, vO 87), (1, vI x1), (3, vI x3), (4, vI x4), (5, vI x5), (6, vI x6')] []
def l_X14_finish_116 : Nat → Int → Int → Int → Int → Int → Int → vS → Option (Int × vS)
  | 0, _, _, _, _, _, _, _ => none
  | n + 1, x1, x3, x4, x5, x6, x7, s =>
    if (gI s 87 158) ≤ x7 then
      some (x6, s)
    else
      if x6 = 0 then
        gd (inb x7 (gN s 195)) <|
        if (gE s 195 x7) = x5 then
          vl (w32 (x7 + 1)) fun y11 =>
          l_X14_finish_116 n x1 x3 x4 x5 1 y11 s
        else
          vl (w32 (x7 + 1)) fun y8 =>
          l_X14_finish_116 n x1 x3 x4 x5 0 y8 s
      else
        vl (w32 (x7 + 1)) fun y3 =>
        l_X14_finish_116 n x1 x3 x4 x5 1 y3 s
theorem wl_X14_finish_116 {x1 : Int} {x3 : Int} {x4 : Int} {x5 : Int} {rv : Option vA} {σo : vS}  (rx1 : rg x1) (rx3 : rg x3) (rx4 : rg x4) (rx5 : rg x5) : ∀ (n : Nat) (x6 : Int) (x7 : Int) (s : vS) (q : Int × vS), l_X14_finish_116 n x1 x3 x4 x5 x6 x7 s = some q → rg x6 → rg x7 → E_X14_finish_116 x1 x3 x4 x5 rv σo q → VW cX14_finish (RX14, rv, σo, none, 4, 102, 8, []) (P0 []) s 116 [(0, vO 87), (1, vI x1), (3, vI x3), (4, vI x4), (5, vI x5), (6, vI x6), (7, vI x7)] [] := by
  intro n
  induction n with
  | zero => intro x6 x7 s q h; cases h
  | succ n ih =>
    intro x6 x7 s q h rx6 rx7 hE
    unfold l_X14_finish_116 at h
    refine v_iload dX14_finish_116 6 rfl ?_
    refine v_aload_n dX14_finish_118 0 rfl rfl ?_
    refine v_getI (f := 158) cf14 oc87 rfl (by decide) q2528 dX14_finish_119 ?_
    refine v_icmp_ge (tgt := 155) dX14_finish_122 rx7 (gI_rg _ _ _) (by decide) (fun c1 => ?_) (fun c1 => ?_)
    · rw [if_pos c1] at h
      cases h
      refine v_sub [0, 1, 2, 3, 4, 5] (L1 := [(0, vO 87), (1, vI x1), (3, vI x3), (4, vI x4), (5, vI x5), (6, vI x6)]) rfl ?_
      exact hE _ _ rfl rx6
    · rw [if_neg c1] at h
      refine v_iload dX14_finish_125 5 rfl ?_
      refine v_if_ne (tgt := 142) dX14_finish_127 rx6 (by decide) (fun c2 => ?_) (fun c2 => ?_)
      · rw [if_neg c2] at h
        refine v_iconst dX14_finish_142 ?_
        refine v_goto (tgt := 147) dX14_finish_143 (by decide) ?_
        refine v_istore (L1 := [(6, vI 1), (0, vO 87), (1, vI x1), (3, vI x3), (4, vI x4), (5, vI x5), (7, vI x7)]) dX14_finish_147 (by decide) rfl ?_
        obtain ⟨y3, e4, h⟩ := vl_some h
        refine v_iinc (L1 := [(7, vI (w32 (x7 + 1))), (6, vI 1), (0, vO 87), (1, vI x1), (3, vI x3), (4, vI x4), (5, vI x5)]) dX14_finish_149 6 rfl (by decide) rfl ?_
        rw [← e4]
        have r5 : rg y3 := by rw [e4]; exact w32_rg _
        refine v_goto (tgt := 116) dX14_finish_152 (by decide) ?_
        refine v_sub [2, 3, 4, 5, 6, 1, 0] (L1 := [(0, vO 87), (1, vI x1), (3, vI x3), (4, vI x4), (5, vI x5), (6, vI 1), (7, vI y3)]) rfl ?_
        exact ih 1 y3 s _ h (rgl rfl) r5 hE
      · rw [if_pos c2] at h
        refine v_aload_n dX14_finish_130 0 rfl rfl ?_
        refine v_getS (f := 160) (t := 195) cf14 oc87 rfl rfl rfl (by decide) q2530 dX14_finish_131 ?_
        refine v_iload dX14_finish_134 6 rfl ?_
        obtain ⟨g6, h⟩ := gd_some h
        refine v_iald oc195 rx7 g6.1 g6.2 dX14_finish_136 ?_
        refine v_iload dX14_finish_137 4 rfl ?_
        refine v_icmp_ne (tgt := 146) dX14_finish_139 (gE_rg _ _ _) rx5 (by decide) (fun c7 => ?_) (fun c7 => ?_)
        · rw [if_neg c7] at h
          refine v_iconst dX14_finish_146 ?_
          refine v_istore (L1 := [(6, vI 0), (0, vO 87), (1, vI x1), (3, vI x3), (4, vI x4), (5, vI x5), (7, vI x7)]) dX14_finish_147 (by decide) rfl ?_
          obtain ⟨y8, e9, h⟩ := vl_some h
          refine v_iinc (L1 := [(7, vI (w32 (x7 + 1))), (6, vI 0), (0, vO 87), (1, vI x1), (3, vI x3), (4, vI x4), (5, vI x5)]) dX14_finish_149 6 rfl (by decide) rfl ?_
          rw [← e9]
          have r10 : rg y8 := by rw [e9]; exact w32_rg _
          refine v_goto (tgt := 116) dX14_finish_152 (by decide) ?_
          refine v_sub [2, 3, 4, 5, 6, 1, 0] (L1 := [(0, vO 87), (1, vI x1), (3, vI x3), (4, vI x4), (5, vI x5), (6, vI 0), (7, vI y8)]) rfl ?_
          exact ih 0 y8 s _ h (rgl rfl) r10 hE
        · rw [if_pos c7] at h
          refine v_iconst dX14_finish_142 ?_
          refine v_goto (tgt := 147) dX14_finish_143 (by decide) ?_
          refine v_istore (L1 := [(6, vI 1), (0, vO 87), (1, vI x1), (3, vI x3), (4, vI x4), (5, vI x5), (7, vI x7)]) dX14_finish_147 (by decide) rfl ?_
          obtain ⟨y11, e12, h⟩ := vl_some h
          refine v_iinc (L1 := [(7, vI (w32 (x7 + 1))), (6, vI 1), (0, vO 87), (1, vI x1), (3, vI x3), (4, vI x4), (5, vI x5)]) dX14_finish_149 6 rfl (by decide) rfl ?_
          rw [← e12]
          have r13 : rg y11 := by rw [e12]; exact w32_rg _
          refine v_goto (tgt := 116) dX14_finish_152 (by decide) ?_
          refine v_sub [2, 3, 4, 5, 6, 1, 0] (L1 := [(0, vO 87), (1, vI x1), (3, vI x3), (4, vI x4), (5, vI x5), (6, vI 1), (7, vI y11)]) rfl ?_
          exact ih 1 y11 s _ h (rgl rfl) r13 hE

def j_X14_finish_106 (rec : Int → Int → Int → Int → vS → Option (vS)) (x1 : Int) (x3 : Int) (x4 : Int) (x5 : Int) (z0 : Int) (s : vS) : Option (vS) :=
  gd (inb x1 (gN s 193)) <|
  vl (gE s 193 x1) fun y2 =>
  lq_1 (l_X14_finish_116 FU x1 x3 x4 x5 z0 y2 s) fun y5 s6 =>
  if y5 = 0 then
    gd (inb x4 (gN s6 172)) <|
    bdv (f_X14_tell 12 (gE s6 172 x4) s6) fun s15 =>
    gd (inb x5 (gN s15 120)) <|
    vl (gE s15 120 x5) fun y19 =>
    rec x1 x3 x4 y19 s15
  else
    gd (inb x5 (gN s6 120)) <|
    vl (gE s6 120 x5) fun y11 =>
    rec x1 x3 x4 y11 s6
theorem wj_X14_finish_106 {x1 : Int} {x3 : Int} {x4 : Int} {x5 : Int} {z0 : Int} {s : vS} {rv : Option vA} {σo : vS} {rec : Int → Int → Int → Int → vS → Option (vS)} {q : vS} (h : j_X14_finish_106 rec x1 x3 x4 x5 z0 s = some q)  (rx1 : rg x1) (rx3 : rg x3) (rx4 : rg x4) (rx5 : rg x5) (rz0 : rg z0) (hrec : ∀ (y5 : Int) (s : vS) (q : vS), rec x1 x3 x4 y5 s = some q → rg y5 → E_X14_finish_86 x1 x3 rv σo q → VW cX14_finish (RX14, rv, σo, none, 4, 102, 8, []) (P0 []) s 86 [(0, vO 87), (1, vI x1), (3, vI x3), (4, vI x4), (5, vI y5)] []) (hE : E_X14_finish_86 x1 x3 rv σo q) : VW cX14_finish (RX14, rv, σo, none, 4, 102, 8, []) (P0 []) s 106 [(0, vO 87), (1, vI x1), (3, vI x3), (4, vI x4), (5, vI x5)] [vI z0] := by
  unfold j_X14_finish_106 at h
  refine v_istore (L1 := [(6, vI z0), (0, vO 87), (1, vI x1), (3, vI x3), (4, vI x4), (5, vI x5)]) dX14_finish_106 (by decide) rfl ?_
  refine v_aload_n dX14_finish_108 1 rfl rfl ?_
  refine v_getS (f := 157) (t := 193) cf14 oc87 rfl rfl rfl (by decide) q2527 dX14_finish_109 ?_
  refine v_iload_n dX14_finish_112 2 rfl rfl ?_
  obtain ⟨g1, h⟩ := gd_some h
  refine v_iald oc193 rx1 g1.1 g1.2 dX14_finish_113 ?_
  obtain ⟨y2, e3, h⟩ := vl_some h
  rw [← e3]
  have r4 : rg y2 := by rw [e3]; exact gE_rg _ _ _
  refine v_istore (L1 := [(7, vI y2), (6, vI z0), (0, vO 87), (1, vI x1), (3, vI x3), (4, vI x4), (5, vI x5)]) dX14_finish_114 (by decide) rfl ?_
  refine v_sub [2, 3, 4, 5, 6, 1, 0] (L1 := [(0, vO 87), (1, vI x1), (3, vI x3), (4, vI x4), (5, vI x5), (6, vI z0), (7, vI y2)]) rfl ?_
  obtain ⟨y5, s6, e7, h⟩ := lq_1_some h
  refine wl_X14_finish_116 rx1 rx3 rx4 rx5 FU z0 y2 s _ e7 rz0 r4 ?_
  unfold E_X14_finish_116
  intro y5' s6' z_ r8
  cases z_
  refine v_iload dX14_finish_155 5 rfl ?_
  refine v_if_ne (tgt := 173) dX14_finish_157 r8 (by decide) (fun c9 => ?_) (fun c9 => ?_)
  · rw [if_neg c9] at h
    refine v_aload_n dX14_finish_173 0 rfl rfl ?_
    refine v_getS (f := 47) (t := 120) cf14 oc87 rfl rfl rfl (by decide) q2417 dX14_finish_174 ?_
    refine v_iload dX14_finish_177 4 rfl ?_
    obtain ⟨g10, h⟩ := gd_some h
    refine v_iald oc120 rx5 g10.1 g10.2 dX14_finish_179 ?_
    obtain ⟨y11, e12, h⟩ := vl_some h
    rw [← e12]
    have r13 : rg y11 := by rw [e12]; exact gE_rg _ _ _
    refine v_istore (L1 := [(5, vI y11), (0, vO 87), (1, vI x1), (3, vI x3), (4, vI x4), (6, vI y5)]) dX14_finish_180 (by decide) rfl ?_
    refine v_goto (tgt := 86) dX14_finish_182 (by decide) ?_
    refine v_sub [1, 2, 3, 4, 0] (L1 := [(0, vO 87), (1, vI x1), (3, vI x3), (4, vI x4), (5, vI y11)]) rfl ?_
    exact hrec y11 s6 _ h r13 hE
  · rw [if_pos c9] at h
    refine v_aload_n dX14_finish_160 0 rfl rfl ?_
    refine v_bipush dX14_finish_161 rfl ?_
    refine v_aload_n dX14_finish_163 0 rfl rfl ?_
    refine v_getS (f := 130) (t := 172) cf14 oc87 rfl rfl rfl (by decide) q2500 dX14_finish_164 ?_
    refine v_iload dX14_finish_167 3 rfl ?_
    obtain ⟨g14, h⟩ := gd_some h
    refine v_iald oc172 rx4 g14.1 g14.2 dX14_finish_169 ?_
    obtain ⟨s15, e16, h⟩ := bdv_some h
    have k17 := c_X14_tell e16 (rgl rfl) (gE_rg _ _ _)
    refine v_callV (st := []) cf14 oc87 k17 (lw_V q2916 q2918 qs163 q311 q2919) rfl yk_X14_tell ⟨Nat.le_of_ble_eq_true rfl, Nat.le_of_ble_eq_true rfl⟩ trivial ⟨kc87, trivial⟩ (Nat.le_of_ble_eq_true rfl) rfl dX14_finish_170 ?_
    refine v_aload_n dX14_finish_173 0 rfl rfl ?_
    refine v_getS (f := 47) (t := 120) cf14 oc87 rfl rfl rfl (by decide) q2417 dX14_finish_174 ?_
    refine v_iload dX14_finish_177 4 rfl ?_
    obtain ⟨g18, h⟩ := gd_some h
    refine v_iald oc120 rx5 g18.1 g18.2 dX14_finish_179 ?_
    obtain ⟨y19, e20, h⟩ := vl_some h
    rw [← e20]
    have r21 : rg y19 := by rw [e20]; exact gE_rg _ _ _
    refine v_istore (L1 := [(5, vI y19), (0, vO 87), (1, vI x1), (3, vI x3), (4, vI x4), (6, vI y5)]) dX14_finish_180 (by decide) rfl ?_
    refine v_goto (tgt := 86) dX14_finish_182 (by decide) ?_
    refine v_sub [1, 2, 3, 4, 0] (L1 := [(0, vO 87), (1, vI x1), (3, vI x3), (4, vI x4), (5, vI y19)]) rfl ?_
    exact hrec y19 s15 _ h r21 hE

def l_X14_finish_86 : Nat → Int → Int → Int → Int → vS → Option (vS)
  | 0, _, _, _, _, _ => none
  | n + 1, x1, x3, x4, x5, s =>
    if x5 < 0 then
      some s
    else
      gd (inb x5 (gN s 118)) <|
      if (gE s 118 x5) ≤ 0 then
        j_X14_finish_106 (l_X14_finish_86 n) x1 x3 x4 x5 0 s
      else
        j_X14_finish_106 (l_X14_finish_86 n) x1 x3 x4 x5 1 s
theorem wl_X14_finish_86 {x1 : Int} {x3 : Int} {x4 : Int} {rv : Option vA} {σo : vS}  (rx1 : rg x1) (rx3 : rg x3) (rx4 : rg x4) : ∀ (n : Nat) (x5 : Int) (s : vS) (q : vS), l_X14_finish_86 n x1 x3 x4 x5 s = some q → rg x5 → E_X14_finish_86 x1 x3 rv σo q → VW cX14_finish (RX14, rv, σo, none, 4, 102, 8, []) (P0 []) s 86 [(0, vO 87), (1, vI x1), (3, vI x3), (4, vI x4), (5, vI x5)] [] := by
  intro n
  induction n with
  | zero => intro x5 s q h; cases h
  | succ n ih =>
    intro x5 s q h rx5 hE
    unfold l_X14_finish_86 at h
    refine v_iload dX14_finish_86 4 rfl ?_
    refine v_if_lt (tgt := 185) dX14_finish_88 rx5 (by decide) (fun c1 => ?_) (fun c1 => ?_)
    · rw [if_pos c1] at h
      cases h
      refine v_sub [0, 1, 2] (L1 := [(0, vO 87), (1, vI x1), (3, vI x3)]) rfl ?_
      exact hE _ rfl 
    · rw [if_neg c1] at h
      refine v_aload_n dX14_finish_91 0 rfl rfl ?_
      refine v_getS (f := 45) (t := 118) cf14 oc87 rfl rfl rfl (by decide) q2415 dX14_finish_92 ?_
      refine v_iload dX14_finish_95 4 rfl ?_
      obtain ⟨g2, h⟩ := gd_some h
      refine v_iald oc118 rx5 g2.1 g2.2 dX14_finish_97 ?_
      refine v_if_le (tgt := 105) dX14_finish_98 (gE_rg _ _ _) (by decide) (fun c3 => ?_) (fun c3 => ?_)
      · rw [if_pos c3] at h
        refine v_iconst dX14_finish_105 ?_
        exact wj_X14_finish_106 h rx1 rx3 rx4 rx5 (rgl rfl) ih hE
      · rw [if_neg c3] at h
        refine v_iconst dX14_finish_101 ?_
        refine v_goto (tgt := 106) dX14_finish_102 (by decide) ?_
        exact wj_X14_finish_106 h rx1 rx3 rx4 rx5 (rgl rfl) ih hE

def E_X14_finish_29 (x1 : Int) (x3 : Int) (rv : Option vA) (σo : vS) (q : vS) : Prop := ∀ (s' : vS), q = s' → VW cX14_finish (RX14, rv, σo, none, 4, 102, 8, []) (P0 []) s' 69 [(0, vO 87), (1, vI x1), (3, vI x3)] []
def l_X14_finish_29 : Nat → Int → Int → Int → Int → vS → Option (vS)
  | 0, _, _, _, _, _ => none
  | n + 1, x1, x3, x4, x5, s =>
    if x5 < 0 then
      some s
    else
      gd (inb x5 (gN s 118)) <|
      if (gE s 118 x5) = 0 then
        gd (inb x4 (gN s 172)) <|
        bdv (f_X14_tell 12 (gE s 172 x4) s) fun s9 =>
        gd (inb x5 (gN s9 120)) <|
        vl (gE s9 120 x5) fun y13 =>
        l_X14_finish_29 n x1 x3 x4 y13 s9
      else
        gd (inb x5 (gN s 120)) <|
        vl (gE s 120 x5) fun y5 =>
        l_X14_finish_29 n x1 x3 x4 y5 s
theorem wl_X14_finish_29 {x1 : Int} {x3 : Int} {x4 : Int} {rv : Option vA} {σo : vS}  (rx1 : rg x1) (rx3 : rg x3) (rx4 : rg x4) : ∀ (n : Nat) (x5 : Int) (s : vS) (q : vS), l_X14_finish_29 n x1 x3 x4 x5 s = some q → rg x5 → E_X14_finish_29 x1 x3 rv σo q → VW cX14_finish (RX14, rv, σo, none, 4, 102, 8, []) (P0 []) s 29 [(0, vO 87), (1, vI x1), (3, vI x3), (4, vI x4), (5, vI x5)] [] := by
  intro n
  induction n with
  | zero => intro x5 s q h; cases h
  | succ n ih =>
    intro x5 s q h rx5 hE
    unfold l_X14_finish_29 at h
    refine v_iload dX14_finish_29 4 rfl ?_
    refine v_if_lt (tgt := 69) dX14_finish_31 rx5 (by decide) (fun c1 => ?_) (fun c1 => ?_)
    · rw [if_pos c1] at h
      cases h
      refine v_sub [0, 1, 2] (L1 := [(0, vO 87), (1, vI x1), (3, vI x3)]) rfl ?_
      exact hE _ rfl 
    · rw [if_neg c1] at h
      refine v_aload_n dX14_finish_34 0 rfl rfl ?_
      refine v_getS (f := 45) (t := 118) cf14 oc87 rfl rfl rfl (by decide) q2415 dX14_finish_35 ?_
      refine v_iload dX14_finish_38 4 rfl ?_
      obtain ⟨g2, h⟩ := gd_some h
      refine v_iald oc118 rx5 g2.1 g2.2 dX14_finish_40 ?_
      refine v_if_ne (tgt := 57) dX14_finish_41 (gE_rg _ _ _) (by decide) (fun c3 => ?_) (fun c3 => ?_)
      · rw [if_neg c3] at h
        refine v_aload_n dX14_finish_57 0 rfl rfl ?_
        refine v_getS (f := 47) (t := 120) cf14 oc87 rfl rfl rfl (by decide) q2417 dX14_finish_58 ?_
        refine v_iload dX14_finish_61 4 rfl ?_
        obtain ⟨g4, h⟩ := gd_some h
        refine v_iald oc120 rx5 g4.1 g4.2 dX14_finish_63 ?_
        obtain ⟨y5, e6, h⟩ := vl_some h
        rw [← e6]
        have r7 : rg y5 := by rw [e6]; exact gE_rg _ _ _
        refine v_istore (L1 := [(5, vI y5), (0, vO 87), (1, vI x1), (3, vI x3), (4, vI x4)]) dX14_finish_64 (by decide) rfl ?_
        refine v_goto (tgt := 29) dX14_finish_66 (by decide) ?_
        refine v_sub [1, 2, 3, 4, 0] (L1 := [(0, vO 87), (1, vI x1), (3, vI x3), (4, vI x4), (5, vI y5)]) rfl ?_
        exact ih y5 s _ h r7 hE
      · rw [if_pos c3] at h
        refine v_aload_n dX14_finish_44 0 rfl rfl ?_
        refine v_bipush dX14_finish_45 rfl ?_
        refine v_aload_n dX14_finish_47 0 rfl rfl ?_
        refine v_getS (f := 130) (t := 172) cf14 oc87 rfl rfl rfl (by decide) q2500 dX14_finish_48 ?_
        refine v_iload dX14_finish_51 3 rfl ?_
        obtain ⟨g8, h⟩ := gd_some h
        refine v_iald oc172 rx4 g8.1 g8.2 dX14_finish_53 ?_
        obtain ⟨s9, e10, h⟩ := bdv_some h
        have k11 := c_X14_tell e10 (rgl rfl) (gE_rg _ _ _)
        refine v_callV (st := []) cf14 oc87 k11 (lw_V q2916 q2918 qs163 q311 q2919) rfl yk_X14_tell ⟨Nat.le_of_ble_eq_true rfl, Nat.le_of_ble_eq_true rfl⟩ trivial ⟨kc87, trivial⟩ (Nat.le_of_ble_eq_true rfl) rfl dX14_finish_54 ?_
        refine v_aload_n dX14_finish_57 0 rfl rfl ?_
        refine v_getS (f := 47) (t := 120) cf14 oc87 rfl rfl rfl (by decide) q2417 dX14_finish_58 ?_
        refine v_iload dX14_finish_61 4 rfl ?_
        obtain ⟨g12, h⟩ := gd_some h
        refine v_iald oc120 rx5 g12.1 g12.2 dX14_finish_63 ?_
        obtain ⟨y13, e14, h⟩ := vl_some h
        rw [← e14]
        have r15 : rg y13 := by rw [e14]; exact gE_rg _ _ _
        refine v_istore (L1 := [(5, vI y13), (0, vO 87), (1, vI x1), (3, vI x3), (4, vI x4)]) dX14_finish_64 (by decide) rfl ?_
        refine v_goto (tgt := 29) dX14_finish_66 (by decide) ?_
        refine v_sub [1, 2, 3, 4, 0] (L1 := [(0, vO 87), (1, vI x1), (3, vI x3), (4, vI x4), (5, vI y13)]) rfl ?_
        exact ih y13 s9 _ h r15 hE

def f_X14_finish (x1 : Int) (x2 : Int) (s : vS) : Option (vS) :=
  gd (inb x2 (gN s 97)) <|
  vl (gE s 97 x2) fun y2 =>
  gd (inb x1 (gN s 187)) <|
  vl (gE s 187 x1) fun y6 =>
  if y2 = 12 then
    gd (inb x1 (gN s 192)) <|
    vl (gE s 192 x1) fun y30 =>
    lq_0 (l_X14_finish_29 FU x1 y2 y6 y30 s) fun s33 =>
    j_X14_finish_225 x1 y2 s33
  else
    if y2 = 13 then
      gd (inb x2 (gN s 104)) <|
      vl (gE s 104 x2) fun y24 =>
      lq_0 (l_X14_finish_86 FU x1 y2 y6 y24 s) fun s27 =>
      j_X14_finish_225 x1 y2 s27
    else
      gd (inb x1 (gN s 186)) <|
      gd (inb x1 (gN s 193)) <|
      bd (f_X14_holdsSize (gE s 186 x1) (w32 ((gI s 87 158) - (gE s 193 x1))) s) fun r16 s13 =>
      if r16 = 0 then
        gd (inb y6 (gN s13 172)) <|
        bdv (f_X14_tell 22 (gE s13 172 y6) s13) fun s20 =>
        j_X14_finish_225 x1 y2 s20
      else
        j_X14_finish_225 x1 y2 s13
theorem yk_X14_finish : yOk yX14_finish 2 := ⟨by decide, by decide, by decide +kernel⟩
theorem c_X14_finish {x1 : Int} {x2 : Int} {s : vS} {out : vS} (h : f_X14_finish x1 x2 s = some out)  (rx1 : rg x1) (rx2 : rg x2) : VC yX14_finish cX14_finish 8 none 4 102 [vO 87, vI x1, vI x2] s none out [] := by
  unfold f_X14_finish at h
  refine VC.of RX14 (by decide) rfl (Nat.le_of_ble_eq_true rfl) ?_
  show VW cX14_finish (RX14, none, out, none, 4, 102, 8, []) (P0 []) s 0 [(0, vO 87), (1, vI x1), (2, vI x2)] []
  refine v_aload_n dX14_finish_0 0 rfl rfl ?_
  refine v_getS (f := 21) (t := 97) cf14 oc87 rfl rfl rfl (by decide) q2391 dX14_finish_1 ?_
  refine v_iload_n dX14_finish_4 2 rfl rfl ?_
  obtain ⟨g1, h⟩ := gd_some h
  refine v_iald oc97 rx2 g1.1 g1.2 dX14_finish_5 ?_
  obtain ⟨y2, e3, h⟩ := vl_some h
  rw [← e3]
  have r4 : rg y2 := by rw [e3]; exact gE_rg _ _ _
  refine v_istore_n (L1 := [(3, vI y2), (0, vO 87), (1, vI x1), (2, vI x2)]) dX14_finish_6 rfl (by decide) rfl ?_
  refine v_aload_n dX14_finish_7 1 rfl rfl ?_
  refine v_getS (f := 151) (t := 187) cf14 oc87 rfl rfl rfl (by decide) q2521 dX14_finish_8 ?_
  refine v_iload_n dX14_finish_11 2 rfl rfl ?_
  obtain ⟨g5, h⟩ := gd_some h
  refine v_iald oc187 rx1 g5.1 g5.2 dX14_finish_12 ?_
  obtain ⟨y6, e7, h⟩ := vl_some h
  rw [← e7]
  have r8 : rg y6 := by rw [e7]; exact gE_rg _ _ _
  refine v_istore (L1 := [(4, vI y6), (3, vI y2), (0, vO 87), (1, vI x1), (2, vI x2)]) dX14_finish_13 (by decide) rfl ?_
  refine v_iload_n dX14_finish_15 1 rfl rfl ?_
  refine v_bipush dX14_finish_16 rfl ?_
  refine v_icmp_ne (tgt := 72) dX14_finish_18 r4 (rgl rfl) (by decide) (fun c9 => ?_) (fun c9 => ?_)
  · rw [if_neg c9] at h
    refine v_iload_n dX14_finish_72 1 rfl rfl ?_
    refine v_bipush dX14_finish_73 rfl ?_
    refine v_icmp_ne (tgt := 188) dX14_finish_75 r4 (rgl rfl) (by decide) (fun c10 => ?_) (fun c10 => ?_)
    · rw [if_neg c10] at h
      refine v_aload_n dX14_finish_188 2 rfl rfl ?_
      refine v_aload_n dX14_finish_189 2 rfl rfl ?_
      refine v_getS (f := 150) (t := 186) cf14 oc87 rfl rfl rfl (by decide) q2520 dX14_finish_190 ?_
      refine v_iload_n dX14_finish_193 3 rfl rfl ?_
      obtain ⟨g11, h⟩ := gd_some h
      refine v_iald oc186 rx1 g11.1 g11.2 dX14_finish_194 ?_
      refine v_aload_n dX14_finish_195 2 rfl rfl ?_
      refine v_getI (f := 158) cf14 oc87 rfl (by decide) q2528 dX14_finish_196 ?_
      refine v_aload_n dX14_finish_199 2 rfl rfl ?_
      refine v_getS (f := 157) (t := 193) cf14 oc87 rfl rfl rfl (by decide) q2527 dX14_finish_200 ?_
      refine v_iload_n dX14_finish_203 3 rfl rfl ?_
      obtain ⟨g12, h⟩ := gd_some h
      refine v_iald oc193 rx1 g12.1 g12.2 dX14_finish_204 ?_
      refine v_isub dX14_finish_205 ?_
      obtain ⟨r16, s13, e14, h⟩ := bd_some h
      have k15 := c_X14_holdsSize e14 (gE_rg _ _ _) (w32_rg _)
      have r17 : rg r16 := k15.1.2.2
      refine v_callV (st := []) cf14 oc87 k15 (lw_V q3247 q3249 qs240 q311 q3250) rfl yk_X14_holdsSize ⟨Nat.le_of_ble_eq_true rfl, Nat.le_of_ble_eq_true rfl⟩ trivial ⟨kc87, trivial⟩ (Nat.le_of_ble_eq_true rfl) rfl dX14_finish_206 ?_
      refine v_if_ne (tgt := 225) dX14_finish_209 r17 (by decide) (fun c18 => ?_) (fun c18 => ?_)
      · rw [if_neg c18] at h
        refine v_sub [2, 3, 1] (L1 := [(0, vO 87), (1, vI x1), (3, vI y2)]) rfl ?_
        exact wj_X14_finish_225 h rx1 r4
      · rw [if_pos c18] at h
        refine v_aload_n dX14_finish_212 2 rfl rfl ?_
        refine v_bipush dX14_finish_213 rfl ?_
        refine v_aload_n dX14_finish_215 2 rfl rfl ?_
        refine v_getS (f := 130) (t := 172) cf14 oc87 rfl rfl rfl (by decide) q2500 dX14_finish_216 ?_
        refine v_iload dX14_finish_219 0 rfl ?_
        obtain ⟨g19, h⟩ := gd_some h
        refine v_iald oc172 r8 g19.1 g19.2 dX14_finish_221 ?_
        obtain ⟨s20, e21, h⟩ := bdv_some h
        have k22 := c_X14_tell e21 (rgl rfl) (gE_rg _ _ _)
        refine v_callV (st := []) cf14 oc87 k22 (lw_V q2916 q2918 qs163 q311 q2919) rfl yk_X14_tell ⟨Nat.le_of_ble_eq_true rfl, Nat.le_of_ble_eq_true rfl⟩ trivial ⟨kc87, trivial⟩ (Nat.le_of_ble_eq_true rfl) rfl dX14_finish_222 ?_
        refine v_sub [2, 3, 1] (L1 := [(0, vO 87), (1, vI x1), (3, vI y2)]) rfl ?_
        exact wj_X14_finish_225 h rx1 r4
    · rw [if_pos c10] at h
      refine v_aload_n dX14_finish_78 2 rfl rfl ?_
      refine v_getS (f := 28) (t := 104) cf14 oc87 rfl rfl rfl (by decide) q2398 dX14_finish_79 ?_
      refine v_iload_n dX14_finish_82 4 rfl rfl ?_
      obtain ⟨g23, h⟩ := gd_some h
      refine v_iald oc104 rx2 g23.1 g23.2 dX14_finish_83 ?_
      obtain ⟨y24, e25, h⟩ := vl_some h
      rw [← e25]
      have r26 : rg y24 := by rw [e25]; exact gE_rg _ _ _
      refine v_istore (L1 := [(5, vI y24), (4, vI y6), (3, vI y2), (0, vO 87), (1, vI x1), (2, vI x2)]) dX14_finish_84 (by decide) rfl ?_
      refine v_sub [3, 4, 2, 1, 0] (L1 := [(0, vO 87), (1, vI x1), (3, vI y2), (4, vI y6), (5, vI y24)]) rfl ?_
      obtain ⟨s27, e28, h⟩ := lq_0_some h
      refine wl_X14_finish_86 rx1 r4 r8 FU y24 s _ e28 r26 ?_
      unfold E_X14_finish_86
      intro s27' z_
      cases z_
      refine v_goto (tgt := 225) dX14_finish_185 (by decide) ?_
      exact wj_X14_finish_225 h rx1 r4
  · rw [if_pos c9] at h
    refine v_aload_n dX14_finish_21 2 rfl rfl ?_
    refine v_getS (f := 156) (t := 192) cf14 oc87 rfl rfl rfl (by decide) q2526 dX14_finish_22 ?_
    refine v_iload_n dX14_finish_25 3 rfl rfl ?_
    obtain ⟨g29, h⟩ := gd_some h
    refine v_iald oc192 rx1 g29.1 g29.2 dX14_finish_26 ?_
    obtain ⟨y30, e31, h⟩ := vl_some h
    rw [← e31]
    have r32 : rg y30 := by rw [e31]; exact gE_rg _ _ _
    refine v_istore (L1 := [(5, vI y30), (4, vI y6), (3, vI y2), (0, vO 87), (1, vI x1), (2, vI x2)]) dX14_finish_27 (by decide) rfl ?_
    refine v_sub [3, 4, 2, 1, 0] (L1 := [(0, vO 87), (1, vI x1), (3, vI y2), (4, vI y6), (5, vI y30)]) rfl ?_
    obtain ⟨s33, e34, h⟩ := lq_0_some h
    refine wl_X14_finish_29 rx1 r4 r8 FU y30 s _ e34 r32 ?_
    unfold E_X14_finish_29
    intro s33' z_
    cases z_
    refine v_goto (tgt := 225) dX14_finish_69 (by decide) ?_
    exact wj_X14_finish_225 h rx1 r4

def E_X14_nextOfSequence_8 (x1 : Int) (x3 : Int) (rv : Option vA) (σo : vS) (q : Int × vS) : Prop := ∀ (x4' : Int) (s' : vS), q = (x4', s') → rg x4' → VW cX14_nextOfSequence (RX14, rv, σo, none, 8, 205, 5, []) (P0 []) s' 50 [(0, vO 87), (1, vI x1), (3, vI x3), (4, vI x4')] []
def l_X14_nextOfSequence_8 : Nat → Int → Int → Int → vS → Option (Int × vS)
  | 0, _, _, _, _ => none
  | n + 1, x1, x3, x4, s =>
    if x4 < 0 then
      some (x4, s)
    else
      gd (inb x4 (gN s 118)) <|
      if (gE s 118 x4) ≤ 0 then
        some (x4, s)
      else
        gd (inb x4 (gN s 117)) <|
        bd (f_X14_mayBe x3 (gE s 117 x4) s) fun r8 s5 =>
        if r8 = 0 then
          gd (inb x4 (gN s5 120)) <|
          vl (gE s5 120 x4) fun y12 =>
          l_X14_nextOfSequence_8 n x1 x3 y12 s5
        else
          some (x4, s5)
theorem wl_X14_nextOfSequence_8 {x1 : Int} {x3 : Int} {rv : Option vA} {σo : vS}  (rx1 : rg x1) (rx3 : rg x3) : ∀ (n : Nat) (x4 : Int) (s : vS) (q : Int × vS), l_X14_nextOfSequence_8 n x1 x3 x4 s = some q → rg x4 → E_X14_nextOfSequence_8 x1 x3 rv σo q → VW cX14_nextOfSequence (RX14, rv, σo, none, 8, 205, 5, []) (P0 []) s 8 [(0, vO 87), (1, vI x1), (3, vI x3), (4, vI x4)] [] := by
  intro n
  induction n with
  | zero => intro x4 s q h; cases h
  | succ n ih =>
    intro x4 s q h rx4 hE
    unfold l_X14_nextOfSequence_8 at h
    refine v_iload dX14_nextOfSequence_8 3 rfl ?_
    refine v_if_lt (tgt := 50) dX14_nextOfSequence_10 rx4 (by decide) (fun c1 => ?_) (fun c1 => ?_)
    · rw [if_pos c1] at h
      cases h
      exact hE _ _ rfl rx4
    · rw [if_neg c1] at h
      refine v_aload_n dX14_nextOfSequence_13 0 rfl rfl ?_
      refine v_getS (f := 45) (t := 118) cf14 oc87 rfl rfl rfl (by decide) q2415 dX14_nextOfSequence_14 ?_
      refine v_iload dX14_nextOfSequence_17 3 rfl ?_
      obtain ⟨g2, h⟩ := gd_some h
      refine v_iald oc118 rx4 g2.1 g2.2 dX14_nextOfSequence_19 ?_
      refine v_if_le (tgt := 50) dX14_nextOfSequence_20 (gE_rg _ _ _) (by decide) (fun c3 => ?_) (fun c3 => ?_)
      · rw [if_pos c3] at h
        cases h
        exact hE _ _ rfl rx4
      · rw [if_neg c3] at h
        refine v_aload_n dX14_nextOfSequence_23 0 rfl rfl ?_
        refine v_iload_n dX14_nextOfSequence_24 2 rfl rfl ?_
        refine v_aload_n dX14_nextOfSequence_25 0 rfl rfl ?_
        refine v_getS (f := 44) (t := 117) cf14 oc87 rfl rfl rfl (by decide) q2414 dX14_nextOfSequence_26 ?_
        refine v_iload dX14_nextOfSequence_29 3 rfl ?_
        obtain ⟨g4, h⟩ := gd_some h
        refine v_iald oc117 rx4 g4.1 g4.2 dX14_nextOfSequence_31 ?_
        obtain ⟨r8, s5, e6, h⟩ := bd_some h
        have k7 := c_X14_mayBe e6 rx3 (gE_rg _ _ _)
        have r9 : rg r8 := k7.1.2.2
        refine v_callV (st := []) cf14 oc87 k7 (lw_V q3482 q3484 qs289 q311 q3485) rfl yk_X14_mayBe ⟨Nat.le_of_ble_eq_true rfl, Nat.le_of_ble_eq_true rfl⟩ trivial ⟨kc87, trivial⟩ (Nat.le_of_ble_eq_true rfl) rfl dX14_nextOfSequence_32 ?_
        refine v_if_ne (tgt := 50) dX14_nextOfSequence_35 r9 (by decide) (fun c10 => ?_) (fun c10 => ?_)
        · rw [if_neg c10] at h
          cases h
          exact hE _ _ rfl rx4
        · rw [if_pos c10] at h
          refine v_aload_n dX14_nextOfSequence_38 0 rfl rfl ?_
          refine v_getS (f := 47) (t := 120) cf14 oc87 rfl rfl rfl (by decide) q2417 dX14_nextOfSequence_39 ?_
          refine v_iload dX14_nextOfSequence_42 3 rfl ?_
          obtain ⟨g11, h⟩ := gd_some h
          refine v_iald oc120 rx4 g11.1 g11.2 dX14_nextOfSequence_44 ?_
          obtain ⟨y12, e13, h⟩ := vl_some h
          rw [← e13]
          have r14 : rg y12 := by rw [e13]; exact gE_rg _ _ _
          refine v_istore (L1 := [(4, vI y12), (0, vO 87), (1, vI x1), (3, vI x3)]) dX14_nextOfSequence_45 (by decide) rfl ?_
          refine v_goto (tgt := 8) dX14_nextOfSequence_47 (by decide) ?_
          refine v_sub [1, 2, 3, 0] (L1 := [(0, vO 87), (1, vI x1), (3, vI x3), (4, vI y12)]) rfl ?_
          exact ih y12 s5 _ h r14 hE

def j_X14_nextOfSequence_70 (x3 : Int) (s : vS) : Option (vS) :=
  gd (inb x3 (gN s 172)) <|
  bdv (f_X14_tell 11 (gE s 172 x3) s) fun s2 =>
  some s2
theorem wj_X14_nextOfSequence_70 {x3 : Int} {s : vS} {out : vS} (h : j_X14_nextOfSequence_70 x3 s = some out)  (rx3 : rg x3) : VW cX14_nextOfSequence (RX14, none, out, none, 8, 205, 5, []) (P0 []) s 70 [(0, vO 87), (3, vI x3)] [] := by
  unfold j_X14_nextOfSequence_70 at h
  refine v_aload_n dX14_nextOfSequence_70 0 rfl rfl ?_
  refine v_bipush dX14_nextOfSequence_71 rfl ?_
  refine v_aload_n dX14_nextOfSequence_73 0 rfl rfl ?_
  refine v_getS (f := 130) (t := 172) cf14 oc87 rfl rfl rfl (by decide) q2500 dX14_nextOfSequence_74 ?_
  refine v_iload_n dX14_nextOfSequence_77 1 rfl rfl ?_
  obtain ⟨g1, h⟩ := gd_some h
  refine v_iald oc172 rx3 g1.1 g1.2 dX14_nextOfSequence_78 ?_
  obtain ⟨s2, e3, h⟩ := bdv_some h
  have k4 := c_X14_tell e3 (rgl rfl) (gE_rg _ _ _)
  refine v_callV (st := []) cf14 oc87 k4 (lw_V q2916 q2918 qs163 q311 q2919) rfl yk_X14_tell ⟨Nat.le_of_ble_eq_true rfl, Nat.le_of_ble_eq_true rfl⟩ trivial ⟨kc87, trivial⟩ (Nat.le_of_ble_eq_true rfl) rfl dX14_nextOfSequence_79 ?_
  cases h
  exact v_vret dX14_nextOfSequence_82

def j_X14_nextOfSequence_50 (x1 : Int) (x3 : Int) (x4 : Int) (s : vS) : Option (vS) :=
  if x4 < 0 then
    j_X14_nextOfSequence_70 x3 s
  else
    gd (inb x4 (gN s 117)) <|
    bd (f_X14_mayBe x3 (gE s 117 x4) s) fun r6 s3 =>
    if r6 = 0 then
      j_X14_nextOfSequence_70 x3 s3
    else
      gd (inb x4 (gN s3 120)) <|
      gd (inb x1 (gN s3 192)) <|
      stp (sE s3 192 x1 (gE s3 120 x4)) fun s11 =>
      gd (inb x3 (gN s11 182)) <|
      gd (inb x1 (gN s11 191)) <|
      stp (sE s11 191 x1 (gE s11 182 x3)) fun s15 =>
      gd (inb x4 (gN s15 117)) <|
      bdv (f_X14_enter (gE s15 117 x4) x3 x4 s15) fun s18 =>
      some s18
theorem wj_X14_nextOfSequence_50 {x1 : Int} {x3 : Int} {x4 : Int} {s : vS} {out : vS} (h : j_X14_nextOfSequence_50 x1 x3 x4 s = some out)  (rx1 : rg x1) (rx3 : rg x3) (rx4 : rg x4) : VW cX14_nextOfSequence (RX14, none, out, none, 8, 205, 5, []) (P0 []) s 50 [(0, vO 87), (1, vI x1), (3, vI x3), (4, vI x4)] [] := by
  unfold j_X14_nextOfSequence_50 at h
  refine v_iload dX14_nextOfSequence_50 3 rfl ?_
  refine v_if_lt (tgt := 70) dX14_nextOfSequence_52 rx4 (by decide) (fun c1 => ?_) (fun c1 => ?_)
  · rw [if_pos c1] at h
    refine v_sub [0, 2] (L1 := [(0, vO 87), (3, vI x3)]) rfl ?_
    exact wj_X14_nextOfSequence_70 h rx3
  · rw [if_neg c1] at h
    refine v_aload_n dX14_nextOfSequence_55 0 rfl rfl ?_
    refine v_iload_n dX14_nextOfSequence_56 2 rfl rfl ?_
    refine v_aload_n dX14_nextOfSequence_57 0 rfl rfl ?_
    refine v_getS (f := 44) (t := 117) cf14 oc87 rfl rfl rfl (by decide) q2414 dX14_nextOfSequence_58 ?_
    refine v_iload dX14_nextOfSequence_61 3 rfl ?_
    obtain ⟨g2, h⟩ := gd_some h
    refine v_iald oc117 rx4 g2.1 g2.2 dX14_nextOfSequence_63 ?_
    obtain ⟨r6, s3, e4, h⟩ := bd_some h
    have k5 := c_X14_mayBe e4 rx3 (gE_rg _ _ _)
    have r7 : rg r6 := k5.1.2.2
    refine v_callV (st := []) cf14 oc87 k5 (lw_V q3482 q3484 qs289 q311 q3485) rfl yk_X14_mayBe ⟨Nat.le_of_ble_eq_true rfl, Nat.le_of_ble_eq_true rfl⟩ trivial ⟨kc87, trivial⟩ (Nat.le_of_ble_eq_true rfl) rfl dX14_nextOfSequence_64 ?_
    refine v_if_ne (tgt := 83) dX14_nextOfSequence_67 r7 (by decide) (fun c8 => ?_) (fun c8 => ?_)
    · rw [if_neg c8] at h
      refine v_aload_n dX14_nextOfSequence_83 0 rfl rfl ?_
      refine v_getS (f := 156) (t := 192) cf14 oc87 rfl rfl rfl (by decide) q2526 dX14_nextOfSequence_84 ?_
      refine v_iload_n dX14_nextOfSequence_87 1 rfl rfl ?_
      refine v_aload_n dX14_nextOfSequence_88 0 rfl rfl ?_
      refine v_getS (f := 47) (t := 120) cf14 oc87 rfl rfl rfl (by decide) q2417 dX14_nextOfSequence_89 ?_
      refine v_iload dX14_nextOfSequence_92 3 rfl ?_
      obtain ⟨g9, h⟩ := gd_some h
      refine v_iald oc120 rx4 g9.1 g9.2 dX14_nextOfSequence_94 ?_
      obtain ⟨g10, h⟩ := gd_some h
      obtain ⟨s11, e12, h⟩ := stp_some h
      refine v_iast oc192 rx1 g10.1 g10.2 dX14_nextOfSequence_95 ?_
      rw [← e12]
      refine v_aload_n dX14_nextOfSequence_96 0 rfl rfl ?_
      refine v_getS (f := 155) (t := 191) cf14 oc87 rfl rfl rfl (by decide) q2525 dX14_nextOfSequence_97 ?_
      refine v_iload_n dX14_nextOfSequence_100 1 rfl rfl ?_
      refine v_aload_n dX14_nextOfSequence_101 0 rfl rfl ?_
      refine v_getS (f := 140) (t := 182) cf14 oc87 rfl rfl rfl (by decide) q2510 dX14_nextOfSequence_102 ?_
      refine v_iload_n dX14_nextOfSequence_105 2 rfl rfl ?_
      obtain ⟨g13, h⟩ := gd_some h
      refine v_iald oc182 rx3 g13.1 g13.2 dX14_nextOfSequence_106 ?_
      obtain ⟨g14, h⟩ := gd_some h
      obtain ⟨s15, e16, h⟩ := stp_some h
      refine v_iast oc191 rx1 g14.1 g14.2 dX14_nextOfSequence_107 ?_
      rw [← e16]
      refine v_aload_n dX14_nextOfSequence_108 0 rfl rfl ?_
      refine v_aload_n dX14_nextOfSequence_109 0 rfl rfl ?_
      refine v_getS (f := 44) (t := 117) cf14 oc87 rfl rfl rfl (by decide) q2414 dX14_nextOfSequence_110 ?_
      refine v_iload dX14_nextOfSequence_113 3 rfl ?_
      obtain ⟨g17, h⟩ := gd_some h
      refine v_iald oc117 rx4 g17.1 g17.2 dX14_nextOfSequence_115 ?_
      refine v_iload_n dX14_nextOfSequence_116 2 rfl rfl ?_
      refine v_iload dX14_nextOfSequence_117 3 rfl ?_
      obtain ⟨s18, e19, h⟩ := bdv_some h
      have k20 := c_X14_enter e19 (gE_rg _ _ _) rx3 rx4
      refine v_callV (st := []) cf14 oc87 k20 (lw_V q3397 q3399 qs269 q311 q3400) rfl yk_X14_enter ⟨Nat.le_of_ble_eq_true rfl, Nat.le_of_ble_eq_true rfl⟩ trivial ⟨kc87, trivial⟩ (Nat.le_of_ble_eq_true rfl) rfl dX14_nextOfSequence_119 ?_
      cases h
      exact v_vret dX14_nextOfSequence_122
    · rw [if_pos c8] at h
      refine v_sub [0, 2] (L1 := [(0, vO 87), (3, vI x3)]) rfl ?_
      exact wj_X14_nextOfSequence_70 h rx3

def f_X14_nextOfSequence (x1 : Int) (x2 : Int) (x3 : Int) (s : vS) : Option (vS) :=
  gd (inb x1 (gN s 192)) <|
  vl (gE s 192 x1) fun y2 =>
  lq_1 (l_X14_nextOfSequence_8 FU x1 x3 y2 s) fun y5 s6 =>
  j_X14_nextOfSequence_50 x1 x3 y5 s6
theorem yk_X14_nextOfSequence : yOk yX14_nextOfSequence 3 := ⟨by decide, by decide, by decide +kernel⟩
theorem c_X14_nextOfSequence {x1 : Int} {x2 : Int} {x3 : Int} {s : vS} {out : vS} (h : f_X14_nextOfSequence x1 x2 x3 s = some out)  (rx1 : rg x1) (rx2 : rg x2) (rx3 : rg x3) : VC yX14_nextOfSequence cX14_nextOfSequence 5 none 8 205 [vO 87, vI x1, vI x2, vI x3] s none out [] := by
  unfold f_X14_nextOfSequence at h
  refine VC.of RX14 (by decide) rfl (Nat.le_of_ble_eq_true rfl) ?_
  show VW cX14_nextOfSequence (RX14, none, out, none, 8, 205, 5, []) (P0 []) s 0 [(0, vO 87), (1, vI x1), (2, vI x2), (3, vI x3)] []
  refine v_aload_n dX14_nextOfSequence_0 0 rfl rfl ?_
  refine v_getS (f := 156) (t := 192) cf14 oc87 rfl rfl rfl (by decide) q2526 dX14_nextOfSequence_1 ?_
  refine v_iload_n dX14_nextOfSequence_4 1 rfl rfl ?_
  obtain ⟨g1, h⟩ := gd_some h
  refine v_iald oc192 rx1 g1.1 g1.2 dX14_nextOfSequence_5 ?_
  obtain ⟨y2, e3, h⟩ := vl_some h
  rw [← e3]
  have r4 : rg y2 := by rw [e3]; exact gE_rg _ _ _
  refine v_istore (L1 := [(4, vI y2), (0, vO 87), (1, vI x1), (2, vI x2), (3, vI x3)]) dX14_nextOfSequence_6 (by decide) rfl ?_
  refine v_sub [1, 2, 4, 0] (L1 := [(0, vO 87), (1, vI x1), (3, vI x3), (4, vI y2)]) rfl ?_
  obtain ⟨y5, s6, e7, h⟩ := lq_1_some h
  refine wl_X14_nextOfSequence_8 rx1 rx3 FU y2 s _ e7 r4 ?_
  unfold E_X14_nextOfSequence_8
  intro y5' s6' z_ r8
  cases z_
  exact wj_X14_nextOfSequence_50 h rx1 rx3 r8

def E_X14_nextOfSet_8 (x1 : Int) (x3 : Int) (rv : Option vA) (σo : vS) (q : Int × vS) : Prop := ∀ (x4' : Int) (s' : vS), q = (x4', s') → rg x4' → VW cX14_nextOfSet (RX14, rv, σo, none, 8, 205, 6, []) (P0 []) s' 40 [(0, vO 87), (1, vI x1), (3, vI x3), (4, vI x4')] []
def l_X14_nextOfSet_8 : Nat → Int → Int → Int → vS → Option (Int × vS)
  | 0, _, _, _, _ => none
  | n + 1, x1, x3, x4, s =>
    if x4 < 0 then
      some (x4, s)
    else
      gd (inb x4 (gN s 117)) <|
      bd (f_X14_mayBe x3 (gE s 117 x4) s) fun r6 s3 =>
      if r6 = 0 then
        gd (inb x4 (gN s3 120)) <|
        vl (gE s3 120 x4) fun y10 =>
        l_X14_nextOfSet_8 n x1 x3 y10 s3
      else
        some (x4, s3)
theorem wl_X14_nextOfSet_8 {x1 : Int} {x3 : Int} {rv : Option vA} {σo : vS}  (rx1 : rg x1) (rx3 : rg x3) : ∀ (n : Nat) (x4 : Int) (s : vS) (q : Int × vS), l_X14_nextOfSet_8 n x1 x3 x4 s = some q → rg x4 → E_X14_nextOfSet_8 x1 x3 rv σo q → VW cX14_nextOfSet (RX14, rv, σo, none, 8, 205, 6, []) (P0 []) s 8 [(0, vO 87), (1, vI x1), (3, vI x3), (4, vI x4)] [] := by
  intro n
  induction n with
  | zero => intro x4 s q h; cases h
  | succ n ih =>
    intro x4 s q h rx4 hE
    unfold l_X14_nextOfSet_8 at h
    refine v_iload dX14_nextOfSet_8 3 rfl ?_
    refine v_if_lt (tgt := 40) dX14_nextOfSet_10 rx4 (by decide) (fun c1 => ?_) (fun c1 => ?_)
    · rw [if_pos c1] at h
      cases h
      exact hE _ _ rfl rx4
    · rw [if_neg c1] at h
      refine v_aload_n dX14_nextOfSet_13 0 rfl rfl ?_
      refine v_iload_n dX14_nextOfSet_14 2 rfl rfl ?_
      refine v_aload_n dX14_nextOfSet_15 0 rfl rfl ?_
      refine v_getS (f := 44) (t := 117) cf14 oc87 rfl rfl rfl (by decide) q2414 dX14_nextOfSet_16 ?_
      refine v_iload dX14_nextOfSet_19 3 rfl ?_
      obtain ⟨g2, h⟩ := gd_some h
      refine v_iald oc117 rx4 g2.1 g2.2 dX14_nextOfSet_21 ?_
      obtain ⟨r6, s3, e4, h⟩ := bd_some h
      have k5 := c_X14_mayBe e4 rx3 (gE_rg _ _ _)
      have r7 : rg r6 := k5.1.2.2
      refine v_callV (st := []) cf14 oc87 k5 (lw_V q3482 q3484 qs289 q311 q3485) rfl yk_X14_mayBe ⟨Nat.le_of_ble_eq_true rfl, Nat.le_of_ble_eq_true rfl⟩ trivial ⟨kc87, trivial⟩ (Nat.le_of_ble_eq_true rfl) rfl dX14_nextOfSet_22 ?_
      refine v_if_ne (tgt := 40) dX14_nextOfSet_25 r7 (by decide) (fun c8 => ?_) (fun c8 => ?_)
      · rw [if_neg c8] at h
        cases h
        exact hE _ _ rfl rx4
      · rw [if_pos c8] at h
        refine v_aload_n dX14_nextOfSet_28 0 rfl rfl ?_
        refine v_getS (f := 47) (t := 120) cf14 oc87 rfl rfl rfl (by decide) q2417 dX14_nextOfSet_29 ?_
        refine v_iload dX14_nextOfSet_32 3 rfl ?_
        obtain ⟨g9, h⟩ := gd_some h
        refine v_iald oc120 rx4 g9.1 g9.2 dX14_nextOfSet_34 ?_
        obtain ⟨y10, e11, h⟩ := vl_some h
        rw [← e11]
        have r12 : rg y10 := by rw [e11]; exact gE_rg _ _ _
        refine v_istore (L1 := [(4, vI y10), (0, vO 87), (1, vI x1), (3, vI x3)]) dX14_nextOfSet_35 (by decide) rfl ?_
        refine v_goto (tgt := 8) dX14_nextOfSet_37 (by decide) ?_
        refine v_sub [1, 2, 3, 0] (L1 := [(0, vO 87), (1, vI x1), (3, vI x3), (4, vI y10)]) rfl ?_
        exact ih y10 s3 _ h r12 hE

def E_X14_nextOfSet_66 (x1 : Int) (x3 : Int) (x4 : Int) (rv : Option vA) (σo : vS) (q : vS) : Prop := ∀ (s' : vS), q = s' → VW cX14_nextOfSet (RX14, rv, σo, none, 8, 205, 6, []) (P0 []) s' 105 [(0, vO 87), (1, vI x1), (3, vI x3), (4, vI x4)] []
def l_X14_nextOfSet_66 : Nat → Int → Int → Int → Int → vS → Option (vS)
  | 0, _, _, _, _, _ => none
  | n + 1, x1, x3, x4, x5, s =>
    if (gI s 87 158) ≤ x5 then
      some s
    else
      gd (inb x5 (gN s 195)) <|
      if (gE s 195 x5) = x4 then
        gd (inb x3 (gN s 172)) <|
        bdv (f_X14_tell 13 (gE s 172 x3) s) fun s8 =>
        vl (w32 (x5 + 1)) fun y11 =>
        l_X14_nextOfSet_66 n x1 x3 x4 y11 s8
      else
        vl (w32 (x5 + 1)) fun y4 =>
        l_X14_nextOfSet_66 n x1 x3 x4 y4 s
theorem wl_X14_nextOfSet_66 {x1 : Int} {x3 : Int} {x4 : Int} {rv : Option vA} {σo : vS}  (rx1 : rg x1) (rx3 : rg x3) (rx4 : rg x4) : ∀ (n : Nat) (x5 : Int) (s : vS) (q : vS), l_X14_nextOfSet_66 n x1 x3 x4 x5 s = some q → rg x5 → E_X14_nextOfSet_66 x1 x3 x4 rv σo q → VW cX14_nextOfSet (RX14, rv, σo, none, 8, 205, 6, []) (P0 []) s 66 [(0, vO 87), (1, vI x1), (3, vI x3), (4, vI x4), (5, vI x5)] [] := by
  intro n
  induction n with
  | zero => intro x5 s q h; cases h
  | succ n ih =>
    intro x5 s q h rx5 hE
    unfold l_X14_nextOfSet_66 at h
    refine v_iload dX14_nextOfSet_66 4 rfl ?_
    refine v_aload_n dX14_nextOfSet_68 0 rfl rfl ?_
    refine v_getI (f := 158) cf14 oc87 rfl (by decide) q2528 dX14_nextOfSet_69 ?_
    refine v_icmp_ge (tgt := 105) dX14_nextOfSet_72 rx5 (gI_rg _ _ _) (by decide) (fun c1 => ?_) (fun c1 => ?_)
    · rw [if_pos c1] at h
      cases h
      refine v_sub [0, 1, 2, 3] (L1 := [(0, vO 87), (1, vI x1), (3, vI x3), (4, vI x4)]) rfl ?_
      exact hE _ rfl 
    · rw [if_neg c1] at h
      refine v_aload_n dX14_nextOfSet_75 0 rfl rfl ?_
      refine v_getS (f := 160) (t := 195) cf14 oc87 rfl rfl rfl (by decide) q2530 dX14_nextOfSet_76 ?_
      refine v_iload dX14_nextOfSet_79 4 rfl ?_
      obtain ⟨g2, h⟩ := gd_some h
      refine v_iald oc195 rx5 g2.1 g2.2 dX14_nextOfSet_81 ?_
      refine v_iload dX14_nextOfSet_82 3 rfl ?_
      refine v_icmp_ne (tgt := 99) dX14_nextOfSet_84 (gE_rg _ _ _) rx4 (by decide) (fun c3 => ?_) (fun c3 => ?_)
      · rw [if_neg c3] at h
        obtain ⟨y4, e5, h⟩ := vl_some h
        refine v_iinc (L1 := [(5, vI (w32 (x5 + 1))), (0, vO 87), (1, vI x1), (3, vI x3), (4, vI x4)]) dX14_nextOfSet_99 4 rfl (by decide) rfl ?_
        rw [← e5]
        have r6 : rg y4 := by rw [e5]; exact w32_rg _
        refine v_goto (tgt := 66) dX14_nextOfSet_102 (by decide) ?_
        refine v_sub [1, 2, 3, 4, 0] (L1 := [(0, vO 87), (1, vI x1), (3, vI x3), (4, vI x4), (5, vI y4)]) rfl ?_
        exact ih y4 s _ h r6 hE
      · rw [if_pos c3] at h
        refine v_aload_n dX14_nextOfSet_87 0 rfl rfl ?_
        refine v_bipush dX14_nextOfSet_88 rfl ?_
        refine v_aload_n dX14_nextOfSet_90 0 rfl rfl ?_
        refine v_getS (f := 130) (t := 172) cf14 oc87 rfl rfl rfl (by decide) q2500 dX14_nextOfSet_91 ?_
        refine v_iload_n dX14_nextOfSet_94 2 rfl rfl ?_
        obtain ⟨g7, h⟩ := gd_some h
        refine v_iald oc172 rx3 g7.1 g7.2 dX14_nextOfSet_95 ?_
        obtain ⟨s8, e9, h⟩ := bdv_some h
        have k10 := c_X14_tell e9 (rgl rfl) (gE_rg _ _ _)
        refine v_callV (st := []) cf14 oc87 k10 (lw_V q2916 q2918 qs163 q311 q2919) rfl yk_X14_tell ⟨Nat.le_of_ble_eq_true rfl, Nat.le_of_ble_eq_true rfl⟩ trivial ⟨kc87, trivial⟩ (Nat.le_of_ble_eq_true rfl) rfl dX14_nextOfSet_96 ?_
        obtain ⟨y11, e12, h⟩ := vl_some h
        refine v_iinc (L1 := [(5, vI (w32 (x5 + 1))), (0, vO 87), (1, vI x1), (3, vI x3), (4, vI x4)]) dX14_nextOfSet_99 4 rfl (by decide) rfl ?_
        rw [← e12]
        have r13 : rg y11 := by rw [e12]; exact w32_rg _
        refine v_goto (tgt := 66) dX14_nextOfSet_102 (by decide) ?_
        refine v_sub [1, 2, 3, 4, 0] (L1 := [(0, vO 87), (1, vI x1), (3, vI x3), (4, vI x4), (5, vI y11)]) rfl ?_
        exact ih y11 s8 _ h r13 hE

def j_X14_nextOfSet_40 (x1 : Int) (x3 : Int) (x4 : Int) (s : vS) : Option (vS) :=
  if 0 ≤ x4 then
    gd (inb x1 (gN s 193)) <|
    vl (gE s 193 x1) fun y3 =>
    lq_0 (l_X14_nextOfSet_66 FU x1 x3 x4 y3 s) fun s6 =>
    if (gI s6 87 8) ≤ 0 then
      gd (inb x3 (gN s6 182)) <|
      gd (inb x1 (gN s6 191)) <|
      stp (sE s6 191 x1 (gE s6 182 x3)) fun s11 =>
      gd (inb (gI s11 87 158) (gN s11 194)) <|
      stp (sE s11 194 (gI s11 87 158) (gI s11 87 144)) fun s14 =>
      gd (inb (gI s14 87 158) (gN s14 195)) <|
      stp (sE s14 195 (gI s14 87 158) x4) fun s17 =>
      stp (sI s17 87 158 (w32 ((gI s17 87 158) + 1))) fun s19 =>
      gd (inb x4 (gN s19 117)) <|
      bdv (f_X14_enter (gE s19 117 x4) x3 x4 s19) fun s22 =>
      some s22
    else
      some s6
  else
    gd (inb x3 (gN s 172)) <|
    bdv (f_X14_tell 11 (gE s 172 x3) s) fun s26 =>
    some s26
theorem wj_X14_nextOfSet_40 {x1 : Int} {x3 : Int} {x4 : Int} {s : vS} {out : vS} (h : j_X14_nextOfSet_40 x1 x3 x4 s = some out)  (rx1 : rg x1) (rx3 : rg x3) (rx4 : rg x4) : VW cX14_nextOfSet (RX14, none, out, none, 8, 205, 6, []) (P0 []) s 40 [(0, vO 87), (1, vI x1), (3, vI x3), (4, vI x4)] [] := by
  unfold j_X14_nextOfSet_40 at h
  refine v_iload dX14_nextOfSet_40 3 rfl ?_
  refine v_if_ge (tgt := 58) dX14_nextOfSet_42 rx4 (by decide) (fun c1 => ?_) (fun c1 => ?_)
  · rw [if_pos c1] at h
    refine v_aload_n dX14_nextOfSet_58 0 rfl rfl ?_
    refine v_getS (f := 157) (t := 193) cf14 oc87 rfl rfl rfl (by decide) q2527 dX14_nextOfSet_59 ?_
    refine v_iload_n dX14_nextOfSet_62 1 rfl rfl ?_
    obtain ⟨g2, h⟩ := gd_some h
    refine v_iald oc193 rx1 g2.1 g2.2 dX14_nextOfSet_63 ?_
    obtain ⟨y3, e4, h⟩ := vl_some h
    rw [← e4]
    have r5 : rg y3 := by rw [e4]; exact gE_rg _ _ _
    refine v_istore (L1 := [(5, vI y3), (0, vO 87), (1, vI x1), (3, vI x3), (4, vI x4)]) dX14_nextOfSet_64 (by decide) rfl ?_
    refine v_sub [1, 2, 3, 4, 0] (L1 := [(0, vO 87), (1, vI x1), (3, vI x3), (4, vI x4), (5, vI y3)]) rfl ?_
    obtain ⟨s6, e7, h⟩ := lq_0_some h
    refine wl_X14_nextOfSet_66 rx1 rx3 rx4 FU y3 s _ e7 r5 ?_
    unfold E_X14_nextOfSet_66
    intro s6' z_
    cases z_
    refine v_aload_n dX14_nextOfSet_105 0 rfl rfl ?_
    refine v_getI (f := 8) cf14 oc87 rfl (by decide) q2378 dX14_nextOfSet_106 ?_
    refine v_if_le (tgt := 113) dX14_nextOfSet_109 (gI_rg _ _ _) (by decide) (fun c8 => ?_) (fun c8 => ?_)
    · rw [if_pos c8] at h
      refine v_aload_n dX14_nextOfSet_113 0 rfl rfl ?_
      refine v_getS (f := 155) (t := 191) cf14 oc87 rfl rfl rfl (by decide) q2525 dX14_nextOfSet_114 ?_
      refine v_iload_n dX14_nextOfSet_117 1 rfl rfl ?_
      refine v_aload_n dX14_nextOfSet_118 0 rfl rfl ?_
      refine v_getS (f := 140) (t := 182) cf14 oc87 rfl rfl rfl (by decide) q2510 dX14_nextOfSet_119 ?_
      refine v_iload_n dX14_nextOfSet_122 2 rfl rfl ?_
      obtain ⟨g9, h⟩ := gd_some h
      refine v_iald oc182 rx3 g9.1 g9.2 dX14_nextOfSet_123 ?_
      obtain ⟨g10, h⟩ := gd_some h
      obtain ⟨s11, e12, h⟩ := stp_some h
      refine v_iast oc191 rx1 g10.1 g10.2 dX14_nextOfSet_124 ?_
      rw [← e12]
      refine v_aload_n dX14_nextOfSet_125 0 rfl rfl ?_
      refine v_getS (f := 159) (t := 194) cf14 oc87 rfl rfl rfl (by decide) q2529 dX14_nextOfSet_126 ?_
      refine v_aload_n dX14_nextOfSet_129 0 rfl rfl ?_
      refine v_getI (f := 158) cf14 oc87 rfl (by decide) q2528 dX14_nextOfSet_130 ?_
      refine v_aload_n dX14_nextOfSet_133 0 rfl rfl ?_
      refine v_getI (f := 144) cf14 oc87 rfl (by decide) q2514 dX14_nextOfSet_134 ?_
      obtain ⟨g13, h⟩ := gd_some h
      obtain ⟨s14, e15, h⟩ := stp_some h
      refine v_iast oc194 (gI_rg _ _ _) g13.1 g13.2 dX14_nextOfSet_137 ?_
      rw [← e15]
      refine v_aload_n dX14_nextOfSet_138 0 rfl rfl ?_
      refine v_getS (f := 160) (t := 195) cf14 oc87 rfl rfl rfl (by decide) q2530 dX14_nextOfSet_139 ?_
      refine v_aload_n dX14_nextOfSet_142 0 rfl rfl ?_
      refine v_getI (f := 158) cf14 oc87 rfl (by decide) q2528 dX14_nextOfSet_143 ?_
      refine v_iload dX14_nextOfSet_146 3 rfl ?_
      obtain ⟨g16, h⟩ := gd_some h
      obtain ⟨s17, e18, h⟩ := stp_some h
      refine v_iast oc195 (gI_rg _ _ _) g16.1 g16.2 dX14_nextOfSet_148 ?_
      rw [← e18]
      refine v_aload_n dX14_nextOfSet_149 0 rfl rfl ?_
      refine v_dupO dX14_nextOfSet_150 ?_
      refine v_getI (f := 158) cf14 oc87 rfl (by decide) q2528 dX14_nextOfSet_151 ?_
      refine v_iconst dX14_nextOfSet_154 ?_
      refine v_iadd dX14_nextOfSet_155 ?_
      obtain ⟨s19, e20, h⟩ := stp_some h
      refine v_putI (f := 158) cf14 oc87 rfl (by decide) q2528 dX14_nextOfSet_156 rfl rfl ?_
      rw [← e20]
      refine v_aload_n dX14_nextOfSet_159 0 rfl rfl ?_
      refine v_aload_n dX14_nextOfSet_160 0 rfl rfl ?_
      refine v_getS (f := 44) (t := 117) cf14 oc87 rfl rfl rfl (by decide) q2414 dX14_nextOfSet_161 ?_
      refine v_iload dX14_nextOfSet_164 3 rfl ?_
      obtain ⟨g21, h⟩ := gd_some h
      refine v_iald oc117 rx4 g21.1 g21.2 dX14_nextOfSet_166 ?_
      refine v_iload_n dX14_nextOfSet_167 2 rfl rfl ?_
      refine v_iload dX14_nextOfSet_168 3 rfl ?_
      obtain ⟨s22, e23, h⟩ := bdv_some h
      have k24 := c_X14_enter e23 (gE_rg _ _ _) rx3 rx4
      refine v_callV (st := []) cf14 oc87 k24 (lw_V q3397 q3399 qs269 q311 q3400) rfl yk_X14_enter ⟨Nat.le_of_ble_eq_true rfl, Nat.le_of_ble_eq_true rfl⟩ trivial ⟨kc87, trivial⟩ (Nat.le_of_ble_eq_true rfl) rfl dX14_nextOfSet_170 ?_
      cases h
      exact v_vret dX14_nextOfSet_173
    · rw [if_neg c8] at h
      cases h
      exact v_vret dX14_nextOfSet_112
  · rw [if_neg c1] at h
    refine v_aload_n dX14_nextOfSet_45 0 rfl rfl ?_
    refine v_bipush dX14_nextOfSet_46 rfl ?_
    refine v_aload_n dX14_nextOfSet_48 0 rfl rfl ?_
    refine v_getS (f := 130) (t := 172) cf14 oc87 rfl rfl rfl (by decide) q2500 dX14_nextOfSet_49 ?_
    refine v_iload_n dX14_nextOfSet_52 2 rfl rfl ?_
    obtain ⟨g25, h⟩ := gd_some h
    refine v_iald oc172 rx3 g25.1 g25.2 dX14_nextOfSet_53 ?_
    obtain ⟨s26, e27, h⟩ := bdv_some h
    have k28 := c_X14_tell e27 (rgl rfl) (gE_rg _ _ _)
    refine v_callV (st := []) cf14 oc87 k28 (lw_V q2916 q2918 qs163 q311 q2919) rfl yk_X14_tell ⟨Nat.le_of_ble_eq_true rfl, Nat.le_of_ble_eq_true rfl⟩ trivial ⟨kc87, trivial⟩ (Nat.le_of_ble_eq_true rfl) rfl dX14_nextOfSet_54 ?_
    cases h
    exact v_vret dX14_nextOfSet_57

def f_X14_nextOfSet (x1 : Int) (x2 : Int) (x3 : Int) (s : vS) : Option (vS) :=
  gd (inb x2 (gN s 104)) <|
  vl (gE s 104 x2) fun y2 =>
  lq_1 (l_X14_nextOfSet_8 FU x1 x3 y2 s) fun y5 s6 =>
  j_X14_nextOfSet_40 x1 x3 y5 s6
theorem yk_X14_nextOfSet : yOk yX14_nextOfSet 3 := ⟨by decide, by decide, by decide +kernel⟩
theorem c_X14_nextOfSet {x1 : Int} {x2 : Int} {x3 : Int} {s : vS} {out : vS} (h : f_X14_nextOfSet x1 x2 x3 s = some out)  (rx1 : rg x1) (rx2 : rg x2) (rx3 : rg x3) : VC yX14_nextOfSet cX14_nextOfSet 6 none 8 205 [vO 87, vI x1, vI x2, vI x3] s none out [] := by
  unfold f_X14_nextOfSet at h
  refine VC.of RX14 (by decide) rfl (Nat.le_of_ble_eq_true rfl) ?_
  show VW cX14_nextOfSet (RX14, none, out, none, 8, 205, 6, []) (P0 []) s 0 [(0, vO 87), (1, vI x1), (2, vI x2), (3, vI x3)] []
  refine v_aload_n dX14_nextOfSet_0 0 rfl rfl ?_
  refine v_getS (f := 28) (t := 104) cf14 oc87 rfl rfl rfl (by decide) q2398 dX14_nextOfSet_1 ?_
  refine v_iload_n dX14_nextOfSet_4 2 rfl rfl ?_
  obtain ⟨g1, h⟩ := gd_some h
  refine v_iald oc104 rx2 g1.1 g1.2 dX14_nextOfSet_5 ?_
  obtain ⟨y2, e3, h⟩ := vl_some h
  rw [← e3]
  have r4 : rg y2 := by rw [e3]; exact gE_rg _ _ _
  refine v_istore (L1 := [(4, vI y2), (0, vO 87), (1, vI x1), (2, vI x2), (3, vI x3)]) dX14_nextOfSet_6 (by decide) rfl ?_
  refine v_sub [1, 2, 4, 0] (L1 := [(0, vO 87), (1, vI x1), (3, vI x3), (4, vI y2)]) rfl ?_
  obtain ⟨y5, s6, e7, h⟩ := lq_1_some h
  refine wl_X14_nextOfSet_8 rx1 rx3 FU y2 s _ e7 r4 ?_
  unfold E_X14_nextOfSet_8
  intro y5' s6' z_ r8
  cases z_
  exact wj_X14_nextOfSet_40 h rx1 rx3 r8

def f_X14_goOn (s : vS) : Option (vS) :=
  vl (w32 ((gI s 87 149) - 1)) fun y1 =>
  gd (inb y1 (gN s 186)) <|
  bd (f_X14_root (gE s 186 y1) s) fun r8 s5 =>
  gd (inb y1 (gN s5 191)) <|
  vl (gE s5 191 y1) fun y11 =>
  gd (inb r8 (gN s5 97)) <|
  vl (gE s5 97 r8) fun y15 =>
  if y15 = 16 then
    bdv (f_X14_choose y1 r8 y11 s5) fun s44 =>
    some s44
  else
    if 0 ≤ y11 then
      if y15 = 12 then
        bdv (f_X14_nextOfSequence y1 r8 y11 s5) fun s38 =>
        some s38
      else
        if y15 = 13 then
          bdv (f_X14_nextOfSet y1 r8 y11 s5) fun s35 =>
          some s35
        else
          gd (inb y11 (gN s5 182)) <|
          gd (inb y1 (gN s5 191)) <|
          stp (sE s5 191 y1 (gE s5 182 y11)) fun s24 =>
          gd (inb (gI s24 87 158) (gN s24 194)) <|
          stp (sE s24 194 (gI s24 87 158) (gI s24 87 144)) fun s27 =>
          stp (sI s27 87 158 (w32 ((gI s27 87 158) + 1))) fun s29 =>
          gd (inb r8 (gN s29 106)) <|
          bdv (f_X14_enter (gE s29 106 r8) y11 (-1) s29) fun s32 =>
          some s32
    else
      bdv (f_X14_finish y1 r8 s5) fun s41 =>
      some s41
theorem yk_X14_goOn : yOk yX14_goOn 0 := ⟨by decide, by decide, by decide +kernel⟩
theorem c_X14_goOn {s : vS} {out : vS} (h : f_X14_goOn s = some out)   : VC yX14_goOn cX14_goOn 5 none 9 230 [vO 87] s none out [] := by
  unfold f_X14_goOn at h
  refine VC.of RX14 (by decide) rfl (Nat.le_of_ble_eq_true rfl) ?_
  show VW cX14_goOn (RX14, none, out, none, 9, 230, 5, []) (P0 []) s 0 [(0, vO 87)] []
  refine v_aload_n dX14_goOn_0 0 rfl rfl ?_
  refine v_getI (f := 149) cf14 oc87 rfl (by decide) q2519 dX14_goOn_1 ?_
  refine v_iconst dX14_goOn_4 ?_
  refine v_isub dX14_goOn_5 ?_
  obtain ⟨y1, e2, h⟩ := vl_some h
  rw [← e2]
  have r3 : rg y1 := by rw [e2]; exact w32_rg _
  refine v_istore_n (L1 := [(1, vI y1), (0, vO 87)]) dX14_goOn_6 rfl (by decide) rfl ?_
  refine v_aload_n dX14_goOn_7 1 rfl rfl ?_
  refine v_aload_n dX14_goOn_8 1 rfl rfl ?_
  refine v_getS (f := 150) (t := 186) cf14 oc87 rfl rfl rfl (by decide) q2520 dX14_goOn_9 ?_
  refine v_iload_n dX14_goOn_12 0 rfl rfl ?_
  obtain ⟨g4, h⟩ := gd_some h
  refine v_iald oc186 r3 g4.1 g4.2 dX14_goOn_13 ?_
  obtain ⟨r8, s5, e6, h⟩ := bd_some h
  have k7 := c_X14_root e6 (gE_rg _ _ _)
  have r9 : rg r8 := k7.1.2.2
  refine v_callV (st := []) cf14 oc87 k7 (lw_V q3129 q3131 qs212 q311 q3132) rfl yk_X14_root ⟨Nat.le_of_ble_eq_true rfl, Nat.le_of_ble_eq_true rfl⟩ trivial ⟨kc87, trivial⟩ (Nat.le_of_ble_eq_true rfl) rfl dX14_goOn_14 ?_
  refine v_istore_n (L1 := [(2, vI r8), (1, vI y1), (0, vO 87)]) dX14_goOn_17 rfl (by decide) rfl ?_
  refine v_aload_n dX14_goOn_18 2 rfl rfl ?_
  refine v_getS (f := 155) (t := 191) cf14 oc87 rfl rfl rfl (by decide) q2525 dX14_goOn_19 ?_
  refine v_iload_n dX14_goOn_22 1 rfl rfl ?_
  obtain ⟨g10, h⟩ := gd_some h
  refine v_iald oc191 r3 g10.1 g10.2 dX14_goOn_23 ?_
  obtain ⟨y11, e12, h⟩ := vl_some h
  rw [← e12]
  have r13 : rg y11 := by rw [e12]; exact gE_rg _ _ _
  refine v_istore_n (L1 := [(3, vI y11), (2, vI r8), (1, vI y1), (0, vO 87)]) dX14_goOn_24 rfl (by decide) rfl ?_
  refine v_aload_n dX14_goOn_25 3 rfl rfl ?_
  refine v_getS (f := 21) (t := 97) cf14 oc87 rfl rfl rfl (by decide) q2391 dX14_goOn_26 ?_
  refine v_iload_n dX14_goOn_29 1 rfl rfl ?_
  obtain ⟨g14, h⟩ := gd_some h
  refine v_iald oc97 r9 g14.1 g14.2 dX14_goOn_30 ?_
  obtain ⟨y15, e16, h⟩ := vl_some h
  rw [← e16]
  have r17 : rg y15 := by rw [e16]; exact gE_rg _ _ _
  refine v_istore (L1 := [(4, vI y15), (3, vI y11), (2, vI r8), (1, vI y1), (0, vO 87)]) dX14_goOn_31 (by decide) rfl ?_
  refine v_iload dX14_goOn_33 0 rfl ?_
  refine v_bipush dX14_goOn_35 rfl ?_
  refine v_icmp_ne (tgt := 50) dX14_goOn_37 r17 (rgl rfl) (by decide) (fun c18 => ?_) (fun c18 => ?_)
  · rw [if_neg c18] at h
    refine v_iload_n dX14_goOn_50 1 rfl rfl ?_
    refine v_if_ge (tgt := 63) dX14_goOn_51 r13 (by decide) (fun c19 => ?_) (fun c19 => ?_)
    · rw [if_pos c19] at h
      refine v_iload dX14_goOn_63 0 rfl ?_
      refine v_bipush dX14_goOn_65 rfl ?_
      refine v_icmp_ne (tgt := 80) dX14_goOn_67 r17 (rgl rfl) (by decide) (fun c20 => ?_) (fun c20 => ?_)
      · rw [if_neg c20] at h
        refine v_iload dX14_goOn_80 0 rfl ?_
        refine v_bipush dX14_goOn_82 rfl ?_
        refine v_icmp_ne (tgt := 97) dX14_goOn_84 r17 (rgl rfl) (by decide) (fun c21 => ?_) (fun c21 => ?_)
        · rw [if_neg c21] at h
          refine v_aload_n dX14_goOn_97 4 rfl rfl ?_
          refine v_getS (f := 155) (t := 191) cf14 oc87 rfl rfl rfl (by decide) q2525 dX14_goOn_98 ?_
          refine v_iload_n dX14_goOn_101 3 rfl rfl ?_
          refine v_aload_n dX14_goOn_102 4 rfl rfl ?_
          refine v_getS (f := 140) (t := 182) cf14 oc87 rfl rfl rfl (by decide) q2510 dX14_goOn_103 ?_
          refine v_iload_n dX14_goOn_106 1 rfl rfl ?_
          obtain ⟨g22, h⟩ := gd_some h
          refine v_iald oc182 r13 g22.1 g22.2 dX14_goOn_107 ?_
          obtain ⟨g23, h⟩ := gd_some h
          obtain ⟨s24, e25, h⟩ := stp_some h
          refine v_iast oc191 r3 g23.1 g23.2 dX14_goOn_108 ?_
          rw [← e25]
          refine v_aload_n dX14_goOn_109 4 rfl rfl ?_
          refine v_getS (f := 159) (t := 194) cf14 oc87 rfl rfl rfl (by decide) q2529 dX14_goOn_110 ?_
          refine v_aload_n dX14_goOn_113 4 rfl rfl ?_
          refine v_getI (f := 158) cf14 oc87 rfl (by decide) q2528 dX14_goOn_114 ?_
          refine v_aload_n dX14_goOn_117 4 rfl rfl ?_
          refine v_getI (f := 144) cf14 oc87 rfl (by decide) q2514 dX14_goOn_118 ?_
          obtain ⟨g26, h⟩ := gd_some h
          obtain ⟨s27, e28, h⟩ := stp_some h
          refine v_iast oc194 (gI_rg _ _ _) g26.1 g26.2 dX14_goOn_121 ?_
          rw [← e28]
          refine v_aload_n dX14_goOn_122 4 rfl rfl ?_
          refine v_dupO dX14_goOn_123 ?_
          refine v_getI (f := 158) cf14 oc87 rfl (by decide) q2528 dX14_goOn_124 ?_
          refine v_iconst dX14_goOn_127 ?_
          refine v_iadd dX14_goOn_128 ?_
          obtain ⟨s29, e30, h⟩ := stp_some h
          refine v_putI (f := 158) cf14 oc87 rfl (by decide) q2528 dX14_goOn_129 rfl rfl ?_
          rw [← e30]
          refine v_aload_n dX14_goOn_132 4 rfl rfl ?_
          refine v_aload_n dX14_goOn_133 4 rfl rfl ?_
          refine v_getS (f := 30) (t := 106) cf14 oc87 rfl rfl rfl (by decide) q2400 dX14_goOn_134 ?_
          refine v_iload_n dX14_goOn_137 2 rfl rfl ?_
          obtain ⟨g31, h⟩ := gd_some h
          refine v_iald oc106 r9 g31.1 g31.2 dX14_goOn_138 ?_
          refine v_iload_n dX14_goOn_139 1 rfl rfl ?_
          refine v_iconst dX14_goOn_140 ?_
          obtain ⟨s32, e33, h⟩ := bdv_some h
          have k34 := c_X14_enter e33 (gE_rg _ _ _) r13 (rgl rfl)
          refine v_callV (st := []) cf14 oc87 k34 (lw_V q3397 q3399 qs269 q311 q3400) rfl yk_X14_enter ⟨Nat.le_of_ble_eq_true rfl, Nat.le_of_ble_eq_true rfl⟩ trivial ⟨kc87, trivial⟩ (Nat.le_of_ble_eq_true rfl) rfl dX14_goOn_141 ?_
          cases h
          exact v_vret dX14_goOn_144
        · rw [if_pos c21] at h
          refine v_aload_n dX14_goOn_87 4 rfl rfl ?_
          refine v_iload_n dX14_goOn_88 3 rfl rfl ?_
          refine v_iload_n dX14_goOn_89 2 rfl rfl ?_
          refine v_iload_n dX14_goOn_90 1 rfl rfl ?_
          obtain ⟨s35, e36, h⟩ := bdv_some h
          have k37 := c_X14_nextOfSet e36 r3 r9 r13
          refine v_callV (st := []) cf14 oc87 k37 (lw_V q3510 q3512 qs296 q311 q3513) rfl yk_X14_nextOfSet ⟨Nat.le_of_ble_eq_true rfl, Nat.le_of_ble_eq_true rfl⟩ trivial ⟨kc87, trivial⟩ (Nat.le_of_ble_eq_true rfl) rfl dX14_goOn_91 ?_
          refine v_goto (tgt := 144) dX14_goOn_94 (by decide) ?_
          cases h
          exact v_vret dX14_goOn_144
      · rw [if_pos c20] at h
        refine v_aload_n dX14_goOn_70 4 rfl rfl ?_
        refine v_iload_n dX14_goOn_71 3 rfl rfl ?_
        refine v_iload_n dX14_goOn_72 2 rfl rfl ?_
        refine v_iload_n dX14_goOn_73 1 rfl rfl ?_
        obtain ⟨s38, e39, h⟩ := bdv_some h
        have k40 := c_X14_nextOfSequence e39 r3 r9 r13
        refine v_callV (st := []) cf14 oc87 k40 (lw_V q3506 q3508 qs295 q311 q3509) rfl yk_X14_nextOfSequence ⟨Nat.le_of_ble_eq_true rfl, Nat.le_of_ble_eq_true rfl⟩ trivial ⟨kc87, trivial⟩ (Nat.le_of_ble_eq_true rfl) rfl dX14_goOn_74 ?_
        refine v_goto (tgt := 144) dX14_goOn_77 (by decide) ?_
        cases h
        exact v_vret dX14_goOn_144
    · rw [if_neg c19] at h
      refine v_aload_n dX14_goOn_54 4 rfl rfl ?_
      refine v_iload_n dX14_goOn_55 3 rfl rfl ?_
      refine v_iload_n dX14_goOn_56 2 rfl rfl ?_
      obtain ⟨s41, e42, h⟩ := bdv_some h
      have k43 := c_X14_finish e42 r3 r9
      refine v_callV (st := []) cf14 oc87 k43 (lw_V q3486 q3488 qs290 q311 q3489) rfl yk_X14_finish ⟨Nat.le_of_ble_eq_true rfl, Nat.le_of_ble_eq_true rfl⟩ trivial ⟨kc87, trivial⟩ (Nat.le_of_ble_eq_true rfl) rfl dX14_goOn_57 ?_
      refine v_goto (tgt := 144) dX14_goOn_60 (by decide) ?_
      cases h
      exact v_vret dX14_goOn_144
  · rw [if_pos c18] at h
    refine v_aload_n dX14_goOn_40 4 rfl rfl ?_
    refine v_iload_n dX14_goOn_41 3 rfl rfl ?_
    refine v_iload_n dX14_goOn_42 2 rfl rfl ?_
    refine v_iload_n dX14_goOn_43 1 rfl rfl ?_
    obtain ⟨s44, e45, h⟩ := bdv_some h
    have k46 := c_X14_choose e45 r3 r9 r13
    refine v_callV (st := []) cf14 oc87 k46 (lw_V q3478 q3480 qs288 q311 q3481) rfl yk_X14_choose ⟨Nat.le_of_ble_eq_true rfl, Nat.le_of_ble_eq_true rfl⟩ trivial ⟨kc87, trivial⟩ (Nat.le_of_ble_eq_true rfl) rfl dX14_goOn_44 ?_
    refine v_goto (tgt := 144) dX14_goOn_47 (by decide) ?_
    cases h
    exact v_vret dX14_goOn_144

def E_X14_transcode_39 (x1 : Int) (rv : Option vA) (σo : vS) (q : vS) : Prop := ∀ (s' : vS), q = s' → VW cX14_transcode (RX14, rv, σo, (some .int), 10, 254, 3, []) (P0 []) s' 65 [(0, vO 87), (1, vI x1)] []
def l_X14_transcode_39 : Nat → Int → Int → vS → Option (vS)
  | 0, _, _, _ => none
  | n + 1, x1, x2, s =>
    if (gI s 87 4) ≤ x2 then
      some s
    else
      gd (inb x2 (gN s 91)) <|
      gd (inb x2 (gN s 171)) <|
      stp (sE s 171 x2 (gE s 91 x2)) fun s4 =>
      vl (w32 (x2 + 1)) fun y6 =>
      l_X14_transcode_39 n x1 y6 s4
theorem wl_X14_transcode_39 {x1 : Int} {rv : Option vA} {σo : vS}  (rx1 : rg x1) : ∀ (n : Nat) (x2 : Int) (s : vS) (q : vS), l_X14_transcode_39 n x1 x2 s = some q → rg x2 → E_X14_transcode_39 x1 rv σo q → VW cX14_transcode (RX14, rv, σo, (some .int), 10, 254, 3, []) (P0 []) s 39 [(0, vO 87), (1, vI x1), (2, vI x2)] [] := by
  intro n
  induction n with
  | zero => intro x2 s q h; cases h
  | succ n ih =>
    intro x2 s q h rx2 hE
    unfold l_X14_transcode_39 at h
    refine v_iload_n dX14_transcode_39 2 rfl rfl ?_
    refine v_aload_n dX14_transcode_40 0 rfl rfl ?_
    refine v_getI (f := 4) cf14 oc87 rfl (by decide) q2374 dX14_transcode_41 ?_
    refine v_icmp_ge (tgt := 65) dX14_transcode_44 rx2 (gI_rg _ _ _) (by decide) (fun c1 => ?_) (fun c1 => ?_)
    · rw [if_pos c1] at h
      cases h
      refine v_sub [0, 1] (L1 := [(0, vO 87), (1, vI x1)]) rfl ?_
      exact hE _ rfl 
    · rw [if_neg c1] at h
      refine v_aload_n dX14_transcode_47 0 rfl rfl ?_
      refine v_getS (f := 128) (t := 171) cf14 oc87 rfl rfl rfl (by decide) q2498 dX14_transcode_48 ?_
      refine v_iload_n dX14_transcode_51 2 rfl rfl ?_
      refine v_aload_n dX14_transcode_52 0 rfl rfl ?_
      refine v_getS (f := 5) (t := 91) cf14 oc87 rfl rfl rfl (by decide) q2375 dX14_transcode_53 ?_
      refine v_iload_n dX14_transcode_56 2 rfl rfl ?_
      obtain ⟨g2, h⟩ := gd_some h
      refine v_iald oc91 rx2 g2.1 g2.2 dX14_transcode_57 ?_
      obtain ⟨g3, h⟩ := gd_some h
      obtain ⟨s4, e5, h⟩ := stp_some h
      refine v_iast oc171 rx2 g3.1 g3.2 dX14_transcode_58 ?_
      rw [← e5]
      obtain ⟨y6, e7, h⟩ := vl_some h
      refine v_iinc (L1 := [(2, vI (w32 (x2 + 1))), (0, vO 87), (1, vI x1)]) dX14_transcode_59 2 rfl (by decide) rfl ?_
      rw [← e7]
      have r8 : rg y6 := by rw [e7]; exact w32_rg _
      refine v_goto (tgt := 39) dX14_transcode_62 (by decide) ?_
      refine v_sub [1, 2, 0] (L1 := [(0, vO 87), (1, vI x1), (2, vI y6)]) rfl ?_
      exact ih y6 s4 _ h r8 hE

def E_X14_transcode_117 (rv : Option vA) (σo : vS) (q : vS) : Prop := ∀ (s' : vS), q = s' → VW cX14_transcode (RX14, rv, σo, (some .int), 10, 254, 3, []) (P0 []) s' 138 [(0, vO 87)] []
def l_X14_transcode_117 : Nat → vS → Option (vS)
  | 0, _ => none
  | n + 1, s =>
    if (gI s 87 8) = 0 then
      if (gI s 87 149) ≤ 0 then
        some s
      else
        bdv (f_X14_goOn s) fun s3 =>
        l_X14_transcode_117 n s3
    else
      some s
theorem wl_X14_transcode_117 {rv : Option vA} {σo : vS}  : ∀ (n : Nat) (s : vS) (q : vS), l_X14_transcode_117 n  s = some q → E_X14_transcode_117 rv σo q → VW cX14_transcode (RX14, rv, σo, (some .int), 10, 254, 3, []) (P0 []) s 117 [(0, vO 87)] [] := by
  intro n
  induction n with
  | zero => intro s q h; cases h
  | succ n ih =>
    intro s q h  hE
    unfold l_X14_transcode_117 at h
    refine v_aload_n dX14_transcode_117 0 rfl rfl ?_
    refine v_getI (f := 8) cf14 oc87 rfl (by decide) q2378 dX14_transcode_118 ?_
    refine v_if_ne (tgt := 138) dX14_transcode_121 (gI_rg _ _ _) (by decide) (fun c1 => ?_) (fun c1 => ?_)
    · rw [if_neg c1] at h
      cases h
      exact hE _ rfl 
    · rw [if_pos c1] at h
      refine v_aload_n dX14_transcode_124 0 rfl rfl ?_
      refine v_getI (f := 149) cf14 oc87 rfl (by decide) q2519 dX14_transcode_125 ?_
      refine v_if_le (tgt := 138) dX14_transcode_128 (gI_rg _ _ _) (by decide) (fun c2 => ?_) (fun c2 => ?_)
      · rw [if_pos c2] at h
        cases h
        exact hE _ rfl 
      · rw [if_neg c2] at h
        refine v_aload_n dX14_transcode_131 0 rfl rfl ?_
        obtain ⟨s3, e4, h⟩ := bdv_some h
        have k5 := c_X14_goOn e4
        refine v_callV (st := []) cf14 oc87 k5 (lw_V q3474 q3476 qs287 q311 q3477) rfl yk_X14_goOn ⟨Nat.le_of_ble_eq_true rfl, Nat.le_of_ble_eq_true rfl⟩ trivial ⟨kc87, trivial⟩ (Nat.le_of_ble_eq_true rfl) rfl dX14_transcode_132 ?_
        refine v_goto (tgt := 117) dX14_transcode_135 (by decide) ?_
        exact ih s3 _ h  hE

def E_X14_transcode_192 (rv : Option vA) (σo : vS) (q : vS) : Prop := ∀ (s' : vS), q = s' → VW cX14_transcode (RX14, rv, σo, (some .int), 10, 254, 3, []) (P0 []) s' 218 [(0, vO 87)] []
def l_X14_transcode_192 : Nat → Int → vS → Option (vS)
  | 0, _, _ => none
  | n + 1, x2, s =>
    if (gI s 87 11) ≤ x2 then
      some s
    else
      gd (inb x2 (gN s 183)) <|
      gd (inb x2 (gN s 92)) <|
      stp (sE s 92 x2 (gE s 183 x2)) fun s4 =>
      vl (w32 (x2 + 1)) fun y6 =>
      l_X14_transcode_192 n y6 s4
theorem wl_X14_transcode_192 {rv : Option vA} {σo : vS}  : ∀ (n : Nat) (x2 : Int) (s : vS) (q : vS), l_X14_transcode_192 n x2 s = some q → rg x2 → E_X14_transcode_192 rv σo q → VW cX14_transcode (RX14, rv, σo, (some .int), 10, 254, 3, []) (P0 []) s 192 [(0, vO 87), (2, vI x2)] [] := by
  intro n
  induction n with
  | zero => intro x2 s q h; cases h
  | succ n ih =>
    intro x2 s q h rx2 hE
    unfold l_X14_transcode_192 at h
    refine v_iload_n dX14_transcode_192 1 rfl rfl ?_
    refine v_aload_n dX14_transcode_193 0 rfl rfl ?_
    refine v_getI (f := 11) cf14 oc87 rfl (by decide) q2381 dX14_transcode_194 ?_
    refine v_icmp_ge (tgt := 218) dX14_transcode_197 rx2 (gI_rg _ _ _) (by decide) (fun c1 => ?_) (fun c1 => ?_)
    · rw [if_pos c1] at h
      cases h
      refine v_sub [0] (L1 := [(0, vO 87)]) rfl ?_
      exact hE _ rfl 
    · rw [if_neg c1] at h
      refine v_aload_n dX14_transcode_200 0 rfl rfl ?_
      refine v_getS (f := 12) (t := 92) cf14 oc87 rfl rfl rfl (by decide) q2382 dX14_transcode_201 ?_
      refine v_iload_n dX14_transcode_204 1 rfl rfl ?_
      refine v_aload_n dX14_transcode_205 0 rfl rfl ?_
      refine v_getS (f := 145) (t := 183) cf14 oc87 rfl rfl rfl (by decide) q2515 dX14_transcode_206 ?_
      refine v_iload_n dX14_transcode_209 1 rfl rfl ?_
      obtain ⟨g2, h⟩ := gd_some h
      refine v_iald oc183 rx2 g2.1 g2.2 dX14_transcode_210 ?_
      obtain ⟨g3, h⟩ := gd_some h
      obtain ⟨s4, e5, h⟩ := stp_some h
      refine v_iast oc92 rx2 g3.1 g3.2 dX14_transcode_211 ?_
      rw [← e5]
      obtain ⟨y6, e7, h⟩ := vl_some h
      refine v_iinc (L1 := [(2, vI (w32 (x2 + 1))), (0, vO 87)]) dX14_transcode_212 1 rfl (by decide) rfl ?_
      rw [← e7]
      have r8 : rg y6 := by rw [e7]; exact w32_rg _
      refine v_goto (tgt := 192) dX14_transcode_215 (by decide) ?_
      refine v_sub [1, 0] (L1 := [(0, vO 87), (2, vI y6)]) rfl ?_
      exact ih y6 s4 _ h r8 hE

def j_X14_transcode_138 (s : vS) : Option (Int × vS) :=
  if (gI s 87 8) ≤ 0 then
    stp (sI s 87 10 (gI s 87 129)) fun s2 =>
    stp (sI s2 87 11 (gI s2 87 144)) fun s4 =>
    if (gI s4 87 11) ≤ (w32 (gN s4 92 : Int)) then
      lq_0 (l_X14_transcode_192 FU 0 s4) fun s7 =>
      some (gI s7 87 11, s7)
    else
      gd (naG (w32 (gN s4 183 : Int))) <|
      stp (sA s4 199 (Int.toNat (w32 (gN s4 183 : Int)), fun _ => 0)) fun s10 =>
      gd (2 * gN s10 92 ≤ gN s10 199 ∧ 2 ≤ gN s10 199) <|
      stp (sw2 s10 92 199) fun s13 =>
      stp (rs s13) fun s15 =>
      lq_0 (l_X14_transcode_192 FU 0 s15) fun s17 =>
      some (gI s17 87 11, s17)
  else
    bd (f_X14_fail 2 s) fun r22 s19 =>
    some (r22, s19)
theorem wj_X14_transcode_138 {s : vS} {out : Int × vS} (h : j_X14_transcode_138 s = some out)  : VW cX14_transcode (RX14, (some (vI out.1)), out.2, (some .int), 10, 254, 3, []) (P0 []) s 138 [(0, vO 87)] [] := by
  unfold j_X14_transcode_138 at h
  refine v_aload_n dX14_transcode_138 0 rfl rfl ?_
  refine v_getI (f := 8) cf14 oc87 rfl (by decide) q2378 dX14_transcode_139 ?_
  refine v_if_le (tgt := 151) dX14_transcode_142 (gI_rg _ _ _) (by decide) (fun c1 => ?_) (fun c1 => ?_)
  · rw [if_pos c1] at h
    refine v_aload_n dX14_transcode_151 0 rfl rfl ?_
    refine v_aload_n dX14_transcode_152 0 rfl rfl ?_
    refine v_getI (f := 129) cf14 oc87 rfl (by decide) q2499 dX14_transcode_153 ?_
    obtain ⟨s2, e3, h⟩ := stp_some h
    refine v_putI (f := 10) cf14 oc87 rfl (by decide) q2380 dX14_transcode_156 rfl rfl ?_
    rw [← e3]
    refine v_aload_n dX14_transcode_159 0 rfl rfl ?_
    refine v_aload_n dX14_transcode_160 0 rfl rfl ?_
    refine v_getI (f := 144) cf14 oc87 rfl (by decide) q2514 dX14_transcode_161 ?_
    obtain ⟨s4, e5, h⟩ := stp_some h
    refine v_putI (f := 11) cf14 oc87 rfl (by decide) q2381 dX14_transcode_164 rfl rfl ?_
    rw [← e5]
    refine v_aload_n dX14_transcode_167 0 rfl rfl ?_
    refine v_getS (f := 12) (t := 92) cf14 oc87 rfl rfl rfl (by decide) q2382 dX14_transcode_168 ?_
    refine v_alen24 oc92 dX14_transcode_171 ?_
    refine v_aload_n dX14_transcode_172 0 rfl rfl ?_
    refine v_getI (f := 11) cf14 oc87 rfl (by decide) q2381 dX14_transcode_173 ?_
    refine v_icmp_ge (tgt := 190) dX14_transcode_176 (w32_rg _) (gI_rg _ _ _) (by decide) (fun c6 => ?_) (fun c6 => ?_)
    · rw [if_pos c6] at h
      refine v_iconst dX14_transcode_190 ?_
      refine v_istore_n (L1 := [(2, vI 0), (0, vO 87)]) dX14_transcode_191 rfl (by decide) rfl ?_
      refine v_sub [1, 0] (L1 := [(0, vO 87), (2, vI 0)]) rfl ?_
      obtain ⟨s7, e8, h⟩ := lq_0_some h
      refine wl_X14_transcode_192  FU 0 s4 _ e8 (rgl rfl) ?_
      unfold E_X14_transcode_192
      intro s7' z_
      cases z_
      refine v_aload_n dX14_transcode_218 0 rfl rfl ?_
      refine v_getI (f := 11) cf14 oc87 rfl (by decide) q2381 dX14_transcode_219 ?_
      cases h
      exact v_iret (gI_rg _ _ _) dX14_transcode_222
    · rw [if_neg c6] at h
      refine v_aload_n dX14_transcode_179 0 rfl rfl ?_
      refine v_aload_n dX14_transcode_180 0 rfl rfl ?_
      refine v_getS (f := 145) (t := 183) cf14 oc87 rfl rfl rfl (by decide) q2515 dX14_transcode_181 ?_
      refine v_alen24 oc183 dX14_transcode_184 ?_
      obtain ⟨g9, h⟩ := gd_some h
      obtain ⟨s10, e11, h⟩ := stp_some h
      refine v_na24 (K := 199) (tk1 := [(24, 1)]) rfl rfl (by decide) (w32_rg _) g9 ⟨(by decide), trivial⟩ ⟨(by decide), trivial⟩ q459 dX14_transcode_185 ?_
      rw [← e11]
      obtain ⟨g12, h⟩ := gd_some h
      obtain ⟨s13, e14, h⟩ := stp_some h
      refine v_pa (i := 0) (K := 199) (t0 := 92) (f := 12) (tk1 := [(24, 0)]) (L1 := [(0, vO 87)]) (st1 := []) rfl rfl (by decide) cf14 (⟨by decide, rfl⟩ : okB 87 13) rfl (by decide) rfl rfl (by decide) rfl g12 q2382 dX14_transcode_187 rfl rfl rfl rfl ?_
      rw [← e14]
      obtain ⟨s15, e16, h⟩ := stp_some h
      refine v_dr (by decide) (by decide) ⟨(by decide), trivial⟩ trivial ?_
      rw [← e16]
      refine v_iconst dX14_transcode_190 ?_
      refine v_istore_n (L1 := [(2, vI 0), (0, vO 87)]) dX14_transcode_191 rfl (by decide) rfl ?_
      refine v_sub [1, 0] (L1 := [(0, vO 87), (2, vI 0)]) rfl ?_
      obtain ⟨s17, e18, h⟩ := lq_0_some h
      refine wl_X14_transcode_192  FU 0 s15 _ e18 (rgl rfl) ?_
      unfold E_X14_transcode_192
      intro s17' z_
      cases z_
      refine v_aload_n dX14_transcode_218 0 rfl rfl ?_
      refine v_getI (f := 11) cf14 oc87 rfl (by decide) q2381 dX14_transcode_219 ?_
      cases h
      exact v_iret (gI_rg _ _ _) dX14_transcode_222
  · rw [if_neg c1] at h
    refine v_aload_n dX14_transcode_145 0 rfl rfl ?_
    refine v_iconst dX14_transcode_146 ?_
    obtain ⟨r22, s19, e20, h⟩ := bd_some h
    have k21 := c_X14_fail e20 (rgl rfl)
    have r23 : rg r22 := k21.1.2.2
    refine v_callV (st := []) cf14 oc87 k21 (lw_V q2870 q2872 qs156 q311 q2873) rfl yk_X14_fail ⟨Nat.le_of_ble_eq_true rfl, Nat.le_of_ble_eq_true rfl⟩ trivial ⟨kc87, trivial⟩ (Nat.le_of_ble_eq_true rfl) rfl dX14_transcode_147 ?_
    cases h
    exact v_iret r23 dX14_transcode_150

def f_X14_transcode (x1 : Int) (s : vS) : Option (Int × vS) :=
  stp (sI s 87 3 0) fun s1 =>
  bd (f_X14_hasType x1 s1) fun r6 s3 =>
  if r6 = 0 then
    bd (f_X14_fail 1 s3) fun r44 s41 =>
    some (r44, s41)
  else
    stp (sI s3 87 8 0) fun s9 =>
    stp (sI s9 87 9 0) fun s11 =>
    stp (sI s11 87 127 (gI s11 87 4)) fun s13 =>
    lq_0 (l_X14_transcode_39 FU x1 0 s13) fun s15 =>
    stp (sI s15 87 4 0) fun s17 =>
    bdv (f_X14_roomForElements s17) fun s19 =>
    bdv (f_X14_cutElements s19) fun s22 =>
    stp (sI s22 87 144 0) fun s25 =>
    stp (sI s25 87 149 0) fun s27 =>
    stp (sI s27 87 158 0) fun s29 =>
    if (gI s29 87 8) = 0 then
      gd (inb x1 (gN s29 144)) <|
      gd (inb (gE s29 144 x1) (gN s29 142)) <|
      bdv (f_X14_enter (gE s29 142 (gE s29 144 x1)) 0 (-1) s29) fun s36 =>
      lq_0 (l_X14_transcode_117 FU s36) fun s39 =>
      j_X14_transcode_138 s39
    else
      lq_0 (l_X14_transcode_117 FU s29) fun s32 =>
      j_X14_transcode_138 s32
theorem yk_X14_transcode : yOk yX14_transcode 1 := ⟨by decide, by decide, by decide +kernel⟩
theorem c_X14_transcode {x1 : Int} {s : vS} {out : Int × vS} (h : f_X14_transcode x1 s = some out)  (rx1 : rg x1) : VC yX14_transcode cX14_transcode 3 (some .int) 10 254 [vO 87, vI x1] s (some (vI out.1)) out.2 [] := by
  unfold f_X14_transcode at h
  refine VC.of RX14 (by decide) rfl (Nat.le_of_ble_eq_true rfl) ?_
  show VW cX14_transcode (RX14, (some (vI out.1)), out.2, (some .int), 10, 254, 3, []) (P0 []) s 0 [(0, vO 87), (1, vI x1)] []
  refine v_aload_n dX14_transcode_0 0 rfl rfl ?_
  refine v_iconst dX14_transcode_1 ?_
  obtain ⟨s1, e2, h⟩ := stp_some h
  refine v_putI (f := 3) cf14 oc87 rfl (by decide) q2373 dX14_transcode_2 rfl rfl ?_
  rw [← e2]
  refine v_aload_n dX14_transcode_5 0 rfl rfl ?_
  refine v_iload_n dX14_transcode_6 1 rfl rfl ?_
  obtain ⟨r6, s3, e4, h⟩ := bd_some h
  have k5 := c_X14_hasType e4 rx1
  have r7 : rg r6 := k5.1.2.2
  refine v_callV (st := []) cf14 oc87 k5 (lw_V q3354 q3356 qs263 q311 q3357) rfl yk_X14_hasType ⟨Nat.le_of_ble_eq_true rfl, Nat.le_of_ble_eq_true rfl⟩ trivial ⟨kc87, trivial⟩ (Nat.le_of_ble_eq_true rfl) rfl dX14_transcode_7 ?_
  refine v_if_ne (tgt := 19) dX14_transcode_10 r7 (by decide) (fun c8 => ?_) (fun c8 => ?_)
  · rw [if_neg c8] at h
    refine v_aload_n dX14_transcode_19 0 rfl rfl ?_
    refine v_iconst dX14_transcode_20 ?_
    obtain ⟨s9, e10, h⟩ := stp_some h
    refine v_putI (f := 8) cf14 oc87 rfl (by decide) q2378 dX14_transcode_21 rfl rfl ?_
    rw [← e10]
    refine v_aload_n dX14_transcode_24 0 rfl rfl ?_
    refine v_iconst dX14_transcode_25 ?_
    obtain ⟨s11, e12, h⟩ := stp_some h
    refine v_putI (f := 9) cf14 oc87 rfl (by decide) q2379 dX14_transcode_26 rfl rfl ?_
    rw [← e12]
    refine v_aload_n dX14_transcode_29 0 rfl rfl ?_
    refine v_aload_n dX14_transcode_30 0 rfl rfl ?_
    refine v_getI (f := 4) cf14 oc87 rfl (by decide) q2374 dX14_transcode_31 ?_
    obtain ⟨s13, e14, h⟩ := stp_some h
    refine v_putI (f := 127) cf14 oc87 rfl (by decide) q2497 dX14_transcode_34 rfl rfl ?_
    rw [← e14]
    refine v_iconst dX14_transcode_37 ?_
    refine v_istore_n (L1 := [(2, vI 0), (0, vO 87), (1, vI x1)]) dX14_transcode_38 rfl (by decide) rfl ?_
    refine v_sub [1, 2, 0] (L1 := [(0, vO 87), (1, vI x1), (2, vI 0)]) rfl ?_
    obtain ⟨s15, e16, h⟩ := lq_0_some h
    refine wl_X14_transcode_39 rx1 FU 0 s13 _ e16 (rgl rfl) ?_
    unfold E_X14_transcode_39
    intro s15' z_
    cases z_
    refine v_aload_n dX14_transcode_65 0 rfl rfl ?_
    refine v_iconst dX14_transcode_66 ?_
    obtain ⟨s17, e18, h⟩ := stp_some h
    refine v_putI (f := 4) cf14 oc87 rfl (by decide) q2374 dX14_transcode_67 rfl rfl ?_
    rw [← e18]
    refine v_aload_n dX14_transcode_70 0 rfl rfl ?_
    obtain ⟨s19, e20, h⟩ := bdv_some h
    have k21 := c_X14_roomForElements e20
    refine v_callV (st := []) cf14 oc87 k21 (lw_V q3374 q3376 qs264 q311 q3377) rfl yk_X14_roomForElements ⟨Nat.le_of_ble_eq_true rfl, Nat.le_of_ble_eq_true rfl⟩ trivial ⟨kc87, trivial⟩ (Nat.le_of_ble_eq_true rfl) rfl dX14_transcode_71 ?_
    refine v_aload_n dX14_transcode_74 0 rfl rfl ?_
    obtain ⟨s22, e23, h⟩ := bdv_some h
    have k24 := c_X14_cutElements e23
    refine v_callV (st := []) cf14 oc87 k24 (lw_V q3378 q3380 qs265 q311 q3381) rfl yk_X14_cutElements ⟨Nat.le_of_ble_eq_true rfl, Nat.le_of_ble_eq_true rfl⟩ trivial ⟨kc87, trivial⟩ (Nat.le_of_ble_eq_true rfl) rfl dX14_transcode_75 ?_
    refine v_aload_n dX14_transcode_78 0 rfl rfl ?_
    refine v_iconst dX14_transcode_79 ?_
    obtain ⟨s25, e26, h⟩ := stp_some h
    refine v_putI (f := 144) cf14 oc87 rfl (by decide) q2514 dX14_transcode_80 rfl rfl ?_
    rw [← e26]
    refine v_aload_n dX14_transcode_83 0 rfl rfl ?_
    refine v_iconst dX14_transcode_84 ?_
    obtain ⟨s27, e28, h⟩ := stp_some h
    refine v_putI (f := 149) cf14 oc87 rfl (by decide) q2519 dX14_transcode_85 rfl rfl ?_
    rw [← e28]
    refine v_aload_n dX14_transcode_88 0 rfl rfl ?_
    refine v_iconst dX14_transcode_89 ?_
    obtain ⟨s29, e30, h⟩ := stp_some h
    refine v_putI (f := 158) cf14 oc87 rfl (by decide) q2528 dX14_transcode_90 rfl rfl ?_
    rw [← e30]
    refine v_aload_n dX14_transcode_93 0 rfl rfl ?_
    refine v_getI (f := 8) cf14 oc87 rfl (by decide) q2378 dX14_transcode_94 ?_
    refine v_if_ne (tgt := 117) dX14_transcode_97 (gI_rg _ _ _) (by decide) (fun c31 => ?_) (fun c31 => ?_)
    · rw [if_neg c31] at h
      refine v_sub [0] (L1 := [(0, vO 87)]) rfl ?_
      obtain ⟨s32, e33, h⟩ := lq_0_some h
      refine wl_X14_transcode_117  FU  s29 _ e33  ?_
      unfold E_X14_transcode_117
      intro s32' z_
      cases z_
      exact wj_X14_transcode_138 h 
    · rw [if_pos c31] at h
      refine v_aload_n dX14_transcode_100 0 rfl rfl ?_
      refine v_aload_n dX14_transcode_101 0 rfl rfl ?_
      refine v_getS (f := 74) (t := 142) cf14 oc87 rfl rfl rfl (by decide) q2444 dX14_transcode_102 ?_
      refine v_aload_n dX14_transcode_105 0 rfl rfl ?_
      refine v_getS (f := 77) (t := 144) cf14 oc87 rfl rfl rfl (by decide) q2447 dX14_transcode_106 ?_
      refine v_iload_n dX14_transcode_109 1 rfl rfl ?_
      obtain ⟨g34, h⟩ := gd_some h
      refine v_iald oc144 rx1 g34.1 g34.2 dX14_transcode_110 ?_
      obtain ⟨g35, h⟩ := gd_some h
      refine v_iald oc142 (gE_rg _ _ _) g35.1 g35.2 dX14_transcode_111 ?_
      refine v_iconst dX14_transcode_112 ?_
      refine v_iconst dX14_transcode_113 ?_
      obtain ⟨s36, e37, h⟩ := bdv_some h
      have k38 := c_X14_enter e37 (gE_rg _ _ _) (rgl rfl) (rgl rfl)
      refine v_callV (st := []) cf14 oc87 k38 (lw_V q3397 q3399 qs269 q311 q3400) rfl yk_X14_enter ⟨Nat.le_of_ble_eq_true rfl, Nat.le_of_ble_eq_true rfl⟩ trivial ⟨kc87, trivial⟩ (Nat.le_of_ble_eq_true rfl) rfl dX14_transcode_114 ?_
      refine v_sub [0] (L1 := [(0, vO 87)]) rfl ?_
      obtain ⟨s39, e40, h⟩ := lq_0_some h
      refine wl_X14_transcode_117  FU  s36 _ e40  ?_
      unfold E_X14_transcode_117
      intro s39' z_
      cases z_
      exact wj_X14_transcode_138 h 
  · rw [if_pos c8] at h
    refine v_aload_n dX14_transcode_13 0 rfl rfl ?_
    refine v_iconst dX14_transcode_14 ?_
    obtain ⟨r44, s41, e42, h⟩ := bd_some h
    have k43 := c_X14_fail e42 (rgl rfl)
    have r45 : rg r44 := k43.1.2.2
    refine v_callV (st := []) cf14 oc87 k43 (lw_V q2870 q2872 qs156 q311 q2873) rfl yk_X14_fail ⟨Nat.le_of_ble_eq_true rfl, Nat.le_of_ble_eq_true rfl⟩ trivial ⟨kc87, trivial⟩ (Nat.le_of_ble_eq_true rfl) rfl dX14_transcode_15 ?_
    cases h
    exact v_iret r45 dX14_transcode_18

def f_X14_out (x1 : Int) (s : vS) : Option (Int × vS) :=
  stp (sI s 87 3 0) fun s1 =>
  bd (f_X14_within x1 0 (w32 ((gI s1 87 11) - 1)) s1) fun r6 s3 =>
  if r6 = 0 then
    bd (f_X14_fail 1 s3) fun r12 s9 =>
    some (r12, s9)
  else
    gd (inb x1 (gN s3 92)) <|
    some (gE s3 92 x1, s3)
theorem yk_X14_out : yOk yX14_out 1 := ⟨by decide, by decide, by decide +kernel⟩
theorem c_X14_out {x1 : Int} {s : vS} {out : Int × vS} (h : f_X14_out x1 s = some out)  (rx1 : rg x1) : VC yX14_out cX14_out 2 (some .int) 1 22 [vO 87, vI x1] s (some (vI out.1)) out.2 [] := by
  unfold f_X14_out at h
  refine VC.of RX14 (by decide) rfl (Nat.le_of_ble_eq_true rfl) ?_
  show VW cX14_out (RX14, (some (vI out.1)), out.2, (some .int), 1, 22, 2, []) (P0 []) s 0 [(0, vO 87), (1, vI x1)] []
  refine v_aload_n dX14_out_0 0 rfl rfl ?_
  refine v_iconst dX14_out_1 ?_
  obtain ⟨s1, e2, h⟩ := stp_some h
  refine v_putI (f := 3) cf14 oc87 rfl (by decide) q2373 dX14_out_2 rfl rfl ?_
  rw [← e2]
  refine v_iload_n dX14_out_5 1 rfl rfl ?_
  refine v_iconst dX14_out_6 ?_
  refine v_aload_n dX14_out_7 0 rfl rfl ?_
  refine v_getI (f := 11) cf14 oc87 rfl (by decide) q2381 dX14_out_8 ?_
  refine v_iconst dX14_out_11 ?_
  refine v_isub dX14_out_12 ?_
  obtain ⟨r6, s3, e4, h⟩ := bd_some h
  have k5 := c_X14_within e4 rx1 (rgl rfl) (w32_rg _)
  have r7 : rg r6 := k5.1.2.2
  refine v_callS (st := []) k5 (lw_S q2878 q2879 q311 q2880) yk_X14_within ⟨Nat.le_of_ble_eq_true rfl, Nat.le_of_ble_eq_true rfl⟩ trivial ⟨kc87, trivial⟩ (Nat.le_of_ble_eq_true rfl) rfl dX14_out_13 ?_
  refine v_if_eq (tgt := 28) dX14_out_16 r7 (by decide) (fun c8 => ?_) (fun c8 => ?_)
  · rw [if_pos c8] at h
    refine v_aload_n dX14_out_28 0 rfl rfl ?_
    refine v_iconst dX14_out_29 ?_
    obtain ⟨r12, s9, e10, h⟩ := bd_some h
    have k11 := c_X14_fail e10 (rgl rfl)
    have r13 : rg r12 := k11.1.2.2
    refine v_callV (st := []) cf14 oc87 k11 (lw_V q2870 q2872 qs156 q311 q2873) rfl yk_X14_fail ⟨Nat.le_of_ble_eq_true rfl, Nat.le_of_ble_eq_true rfl⟩ trivial ⟨kc87, trivial⟩ (Nat.le_of_ble_eq_true rfl) rfl dX14_out_30 ?_
    cases h
    exact v_iret r13 dX14_out_33
  · rw [if_neg c8] at h
    refine v_aload_n dX14_out_19 0 rfl rfl ?_
    refine v_getS (f := 12) (t := 92) cf14 oc87 rfl rfl rfl (by decide) q2382 dX14_out_20 ?_
    refine v_iload_n dX14_out_23 1 rfl rfl ?_
    obtain ⟨g14, h⟩ := gd_some h
    refine v_iald oc92 rx1 g14.1 g14.2 dX14_out_24 ?_
    refine v_goto (tgt := 33) dX14_out_25 (by decide) ?_
    cases h
    exact v_iret (gE_rg _ _ _) dX14_out_33

def E_X14_again_23 (rv : Option vA) (σo : vS) (q : vS) : Prop := ∀ (s' : vS), q = s' → VW cX14_again (RX14, rv, σo, (some .int), 1, 21, 2, []) (P0 []) s' 49 [(0, vO 87)] []
def l_X14_again_23 : Nat → Int → vS → Option (vS)
  | 0, _, _ => none
  | n + 1, x1, s =>
    if (gI s 87 11) ≤ x1 then
      some s
    else
      gd (inb x1 (gN s 92)) <|
      gd (inb x1 (gN s 91)) <|
      stp (sE s 91 x1 (gE s 92 x1)) fun s4 =>
      vl (w32 (x1 + 1)) fun y6 =>
      l_X14_again_23 n y6 s4
theorem wl_X14_again_23 {rv : Option vA} {σo : vS}  : ∀ (n : Nat) (x1 : Int) (s : vS) (q : vS), l_X14_again_23 n x1 s = some q → rg x1 → E_X14_again_23 rv σo q → VW cX14_again (RX14, rv, σo, (some .int), 1, 21, 2, []) (P0 []) s 23 [(0, vO 87), (1, vI x1)] [] := by
  intro n
  induction n with
  | zero => intro x1 s q h; cases h
  | succ n ih =>
    intro x1 s q h rx1 hE
    unfold l_X14_again_23 at h
    refine v_iload_n dX14_again_23 1 rfl rfl ?_
    refine v_aload_n dX14_again_24 0 rfl rfl ?_
    refine v_getI (f := 11) cf14 oc87 rfl (by decide) q2381 dX14_again_25 ?_
    refine v_icmp_ge (tgt := 49) dX14_again_28 rx1 (gI_rg _ _ _) (by decide) (fun c1 => ?_) (fun c1 => ?_)
    · rw [if_pos c1] at h
      cases h
      refine v_sub [0] (L1 := [(0, vO 87)]) rfl ?_
      exact hE _ rfl 
    · rw [if_neg c1] at h
      refine v_aload_n dX14_again_31 0 rfl rfl ?_
      refine v_getS (f := 5) (t := 91) cf14 oc87 rfl rfl rfl (by decide) q2375 dX14_again_32 ?_
      refine v_iload_n dX14_again_35 1 rfl rfl ?_
      refine v_aload_n dX14_again_36 0 rfl rfl ?_
      refine v_getS (f := 12) (t := 92) cf14 oc87 rfl rfl rfl (by decide) q2382 dX14_again_37 ?_
      refine v_iload_n dX14_again_40 1 rfl rfl ?_
      obtain ⟨g2, h⟩ := gd_some h
      refine v_iald oc92 rx1 g2.1 g2.2 dX14_again_41 ?_
      obtain ⟨g3, h⟩ := gd_some h
      obtain ⟨s4, e5, h⟩ := stp_some h
      refine v_iast oc91 rx1 g3.1 g3.2 dX14_again_42 ?_
      rw [← e5]
      obtain ⟨y6, e7, h⟩ := vl_some h
      refine v_iinc (L1 := [(1, vI (w32 (x1 + 1))), (0, vO 87)]) dX14_again_43 1 rfl (by decide) rfl ?_
      rw [← e7]
      have r8 : rg y6 := by rw [e7]; exact w32_rg _
      refine v_goto (tgt := 23) dX14_again_46 (by decide) ?_
      refine v_sub [1, 0] (L1 := [(0, vO 87), (1, vI y6)]) rfl ?_
      exact ih y6 s4 _ h r8 hE

def f_X14_again (s : vS) : Option (Int × vS) :=
  stp (sI s 87 3 0) fun s1 =>
  if (gI s1 87 11) ≤ 32768 then
    lq_0 (l_X14_again_23 FU 0 s1) fun s4 =>
    stp (sI s4 87 4 (gI s4 87 11)) fun s6 =>
    some (gI s6 87 4, s6)
  else
    bd (f_X14_fail 1 s1) fun r11 s8 =>
    some (r11, s8)
theorem yk_X14_again : yOk yX14_again 0 := ⟨by decide, by decide, by decide +kernel⟩
theorem c_X14_again {s : vS} {out : Int × vS} (h : f_X14_again s = some out)   : VC yX14_again cX14_again 2 (some .int) 1 21 [vO 87] s (some (vI out.1)) out.2 [] := by
  unfold f_X14_again at h
  refine VC.of RX14 (by decide) rfl (Nat.le_of_ble_eq_true rfl) ?_
  show VW cX14_again (RX14, (some (vI out.1)), out.2, (some .int), 1, 21, 2, []) (P0 []) s 0 [(0, vO 87)] []
  refine v_aload_n dX14_again_0 0 rfl rfl ?_
  refine v_iconst dX14_again_1 ?_
  obtain ⟨s1, e2, h⟩ := stp_some h
  refine v_putI (f := 3) cf14 oc87 rfl (by decide) q2373 dX14_again_2 rfl rfl ?_
  rw [← e2]
  refine v_aload_n dX14_again_5 0 rfl rfl ?_
  refine v_getI (f := 11) cf14 oc87 rfl (by decide) q2381 dX14_again_6 ?_
  refine v_ldcw (n := 32768) dX14_again_9 q2869 rfl ?_
  refine v_icmp_le (tgt := 21) dX14_again_12 (gI_rg _ _ _) (rgl rfl) (by decide) (fun c3 => ?_) (fun c3 => ?_)
  · rw [if_pos c3] at h
    refine v_iconst dX14_again_21 ?_
    refine v_istore_n (L1 := [(1, vI 0), (0, vO 87)]) dX14_again_22 rfl (by decide) rfl ?_
    refine v_sub [1, 0] (L1 := [(0, vO 87), (1, vI 0)]) rfl ?_
    obtain ⟨s4, e5, h⟩ := lq_0_some h
    refine wl_X14_again_23  FU 0 s1 _ e5 (rgl rfl) ?_
    unfold E_X14_again_23
    intro s4' z_
    cases z_
    refine v_aload_n dX14_again_49 0 rfl rfl ?_
    refine v_aload_n dX14_again_50 0 rfl rfl ?_
    refine v_getI (f := 11) cf14 oc87 rfl (by decide) q2381 dX14_again_51 ?_
    obtain ⟨s6, e7, h⟩ := stp_some h
    refine v_putI (f := 4) cf14 oc87 rfl (by decide) q2374 dX14_again_54 rfl rfl ?_
    rw [← e7]
    refine v_aload_n dX14_again_57 0 rfl rfl ?_
    refine v_getI (f := 4) cf14 oc87 rfl (by decide) q2374 dX14_again_58 ?_
    cases h
    exact v_iret (gI_rg _ _ _) dX14_again_61
  · rw [if_neg c3] at h
    refine v_aload_n dX14_again_15 0 rfl rfl ?_
    refine v_iconst dX14_again_16 ?_
    obtain ⟨r11, s8, e9, h⟩ := bd_some h
    have k10 := c_X14_fail e9 (rgl rfl)
    have r12 : rg r11 := k10.1.2.2
    refine v_callV (st := []) cf14 oc87 k10 (lw_V q2870 q2872 qs156 q311 q2873) rfl yk_X14_fail ⟨Nat.le_of_ble_eq_true rfl, Nat.le_of_ble_eq_true rfl⟩ trivial ⟨kc87, trivial⟩ (Nat.le_of_ble_eq_true rfl) rfl dX14_again_17 ?_
    cases h
    exact v_iret r12 dX14_again_20

def f_X14_count (x1 : Int) (s : vS) : Option (Int × vS) :=
  stp (sI s 87 3 0) fun s1 =>
  bd (f_X14_within x1 0 5 s1) fun r6 s3 =>
  if r6 = 0 then
    some ((-1), s3)
  else
    if x1 = 0 then
      some (gI s3 87 4, s3)
    else
      if x1 = 1 then
        if (gI s3 87 7) = 0 then
          some (0, s3)
        else
          some (gI s3 87 15, s3)
      else
        if x1 = 2 then
          if (gI s3 87 7) = 0 then
            some (0, s3)
          else
            some (gI s3 87 76, s3)
        else
          if x1 = 3 then
            if (gI s3 87 7) = 0 then
              some (0, s3)
            else
              some (w32 ((gI s3 87 72) - (gI s3 87 76)), s3)
          else
            if x1 = 4 then
              some (gI s3 87 11, s3)
            else
              some (gI s3 87 10, s3)
theorem yk_X14_count : yOk yX14_count 1 := ⟨by decide, by decide, by decide +kernel⟩
theorem c_X14_count {x1 : Int} {s : vS} {out : Int × vS} (h : f_X14_count x1 s = some out)  (rx1 : rg x1) : VC yX14_count cX14_count 2 (some .int) 1 22 [vO 87, vI x1] s (some (vI out.1)) out.2 [] := by
  unfold f_X14_count at h
  refine VC.of RX14 (by decide) rfl (Nat.le_of_ble_eq_true rfl) ?_
  show VW cX14_count (RX14, (some (vI out.1)), out.2, (some .int), 1, 22, 2, []) (P0 []) s 0 [(0, vO 87), (1, vI x1)] []
  refine v_aload_n dX14_count_0 0 rfl rfl ?_
  refine v_iconst dX14_count_1 ?_
  obtain ⟨s1, e2, h⟩ := stp_some h
  refine v_putI (f := 3) cf14 oc87 rfl (by decide) q2373 dX14_count_2 rfl rfl ?_
  rw [← e2]
  refine v_iload_n dX14_count_5 1 rfl rfl ?_
  refine v_iconst dX14_count_6 ?_
  refine v_iconst dX14_count_7 ?_
  obtain ⟨r6, s3, e4, h⟩ := bd_some h
  have k5 := c_X14_within e4 rx1 (rgl rfl) (rgl rfl)
  have r7 : rg r6 := k5.1.2.2
  refine v_callS (st := []) k5 (lw_S q2878 q2879 q311 q2880) yk_X14_within ⟨Nat.le_of_ble_eq_true rfl, Nat.le_of_ble_eq_true rfl⟩ trivial ⟨kc87, trivial⟩ (Nat.le_of_ble_eq_true rfl) rfl dX14_count_8 ?_
  refine v_if_ne (tgt := 16) dX14_count_11 r7 (by decide) (fun c8 => ?_) (fun c8 => ?_)
  · rw [if_neg c8] at h
    refine v_iload_n dX14_count_16 1 rfl rfl ?_
    refine v_if_ne (tgt := 25) dX14_count_17 rx1 (by decide) (fun c9 => ?_) (fun c9 => ?_)
    · rw [if_neg c9] at h
      refine v_iload_n dX14_count_25 1 rfl rfl ?_
      refine v_iconst dX14_count_26 ?_
      refine v_icmp_ne (tgt := 46) dX14_count_27 rx1 (rgl rfl) (by decide) (fun c10 => ?_) (fun c10 => ?_)
      · rw [if_neg c10] at h
        refine v_iload_n dX14_count_46 1 rfl rfl ?_
        refine v_iconst dX14_count_47 ?_
        refine v_icmp_ne (tgt := 67) dX14_count_48 rx1 (rgl rfl) (by decide) (fun c11 => ?_) (fun c11 => ?_)
        · rw [if_neg c11] at h
          refine v_iload_n dX14_count_67 1 rfl rfl ?_
          refine v_iconst dX14_count_68 ?_
          refine v_icmp_ne (tgt := 93) dX14_count_69 rx1 (rgl rfl) (by decide) (fun c12 => ?_) (fun c12 => ?_)
          · rw [if_neg c12] at h
            refine v_iload_n dX14_count_93 1 rfl rfl ?_
            refine v_iconst dX14_count_94 ?_
            refine v_icmp_ne (tgt := 105) dX14_count_95 rx1 (rgl rfl) (by decide) (fun c13 => ?_) (fun c13 => ?_)
            · rw [if_neg c13] at h
              refine v_aload_n dX14_count_105 0 rfl rfl ?_
              refine v_getI (f := 10) cf14 oc87 rfl (by decide) q2380 dX14_count_106 ?_
              cases h
              exact v_iret (gI_rg _ _ _) dX14_count_109
            · rw [if_pos c13] at h
              refine v_aload_n dX14_count_98 0 rfl rfl ?_
              refine v_getI (f := 11) cf14 oc87 rfl (by decide) q2381 dX14_count_99 ?_
              refine v_goto (tgt := 109) dX14_count_102 (by decide) ?_
              cases h
              exact v_iret (gI_rg _ _ _) dX14_count_109
          · rw [if_pos c12] at h
            refine v_aload_n dX14_count_72 0 rfl rfl ?_
            refine v_getI (f := 7) cf14 oc87 rfl (by decide) q2377 dX14_count_73 ?_
            refine v_if_eq (tgt := 91) dX14_count_76 (gI_rg _ _ _) (by decide) (fun c14 => ?_) (fun c14 => ?_)
            · rw [if_pos c14] at h
              refine v_iconst dX14_count_91 ?_
              cases h
              exact v_iret (rgl rfl) dX14_count_92
            · rw [if_neg c14] at h
              refine v_aload_n dX14_count_79 0 rfl rfl ?_
              refine v_getI (f := 72) cf14 oc87 rfl (by decide) q2442 dX14_count_80 ?_
              refine v_aload_n dX14_count_83 0 rfl rfl ?_
              refine v_getI (f := 76) cf14 oc87 rfl (by decide) q2446 dX14_count_84 ?_
              refine v_isub dX14_count_87 ?_
              refine v_goto (tgt := 92) dX14_count_88 (by decide) ?_
              cases h
              exact v_iret (w32_rg _) dX14_count_92
        · rw [if_pos c11] at h
          refine v_aload_n dX14_count_51 0 rfl rfl ?_
          refine v_getI (f := 7) cf14 oc87 rfl (by decide) q2377 dX14_count_52 ?_
          refine v_if_eq (tgt := 65) dX14_count_55 (gI_rg _ _ _) (by decide) (fun c15 => ?_) (fun c15 => ?_)
          · rw [if_pos c15] at h
            refine v_iconst dX14_count_65 ?_
            cases h
            exact v_iret (rgl rfl) dX14_count_66
          · rw [if_neg c15] at h
            refine v_aload_n dX14_count_58 0 rfl rfl ?_
            refine v_getI (f := 76) cf14 oc87 rfl (by decide) q2446 dX14_count_59 ?_
            refine v_goto (tgt := 66) dX14_count_62 (by decide) ?_
            cases h
            exact v_iret (gI_rg _ _ _) dX14_count_66
      · rw [if_pos c10] at h
        refine v_aload_n dX14_count_30 0 rfl rfl ?_
        refine v_getI (f := 7) cf14 oc87 rfl (by decide) q2377 dX14_count_31 ?_
        refine v_if_eq (tgt := 44) dX14_count_34 (gI_rg _ _ _) (by decide) (fun c16 => ?_) (fun c16 => ?_)
        · rw [if_pos c16] at h
          refine v_iconst dX14_count_44 ?_
          cases h
          exact v_iret (rgl rfl) dX14_count_45
        · rw [if_neg c16] at h
          refine v_aload_n dX14_count_37 0 rfl rfl ?_
          refine v_getI (f := 15) cf14 oc87 rfl (by decide) q2385 dX14_count_38 ?_
          refine v_goto (tgt := 45) dX14_count_41 (by decide) ?_
          cases h
          exact v_iret (gI_rg _ _ _) dX14_count_45
    · rw [if_pos c9] at h
      refine v_aload_n dX14_count_20 0 rfl rfl ?_
      refine v_getI (f := 4) cf14 oc87 rfl (by decide) q2374 dX14_count_21 ?_
      cases h
      exact v_iret (gI_rg _ _ _) dX14_count_24
  · rw [if_pos c8] at h
    refine v_iconst dX14_count_14 ?_
    cases h
    exact v_iret (rgl rfl) dX14_count_15
