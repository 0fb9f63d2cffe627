set_option maxRecDepth 100000
/-! V-LAYER 18 (by tools/mkstr.py): texts: text p is cell p (1000 .. 1082), its bytes are cell p + 100 -/
abbrev oS (p : Nat) : Prop := 1000 ≤ p ∧ p < 1083
/-- how long text p is; its character at j; where a character is first -/
def sL (p : Nat) : Int := (sLen (p - 1000) : Int)
def sC (p : Nat) (j : Int) : Int := sByt (p - 1000) j.toNat
def sIx (c : Int) : List Int → Int → Int
  | [], _ => -1
  | b :: l, j => if b = c then j else sIx c l (j + 1)
def sX (p : Nat) (c : Int) : Int := if 0 ≤ c ∧ c ≤ 255 then sIx (n8 c) (stB.getD (p - 1000) []) 0 else -1
theorem st_ok : ∀ i, i < 83 → (stB.getD i []).length < 100 ∧ ∀ b ∈ stB.getD i [], 0 ≤ b ∧ b ≤ 127 := by decide +kernel
theorem sByt_ok {i : Nat} (hi : i < 83) (j : Nat) : 0 ≤ sByt i j ∧ sByt i j ≤ 127 := by
  unfold sByt
  rw [List.getD_eq_getElem?_getD]
  rcases h : (stB.getD i [])[j]? with _ | b
  · exact ⟨by decide, by decide⟩
  · exact (st_ok i hi).2 b (List.mem_of_getElem? h)
theorem sL_ok {p : Nat} (hp : oS p) : 0 ≤ sL p ∧ sL p < 100 := by
  have := (st_ok (p - 1000) (by omega)).1
  unfold sL sLen
  omega
theorem sL_rg {p : Nat} (hp : oS p) : rg (sL p) := by have := sL_ok hp; unfold rg; omega
theorem sC_ok {p : Nat} (hp : oS p) (j : Int) : 0 ≤ sC p j ∧ sC p j ≤ 127 := sByt_ok (by omega) _
theorem sC_rg {p : Nat} (hp : oS p) (j : Int) : rg (sC p j) := by have := sC_ok hp j; unfold rg; omega
theorem sIx_rg (c : Int) : ∀ (l : List Int) (j : Int), 0 ≤ j → j + l.length < 1000 → -1 ≤ sIx c l j ∧ sIx c l j < 1000
  | [], _, _, _ => ⟨by simp [sIx], by simp [sIx]⟩
  | b :: l, j, h0, h1 => by
    unfold sIx
    simp only [List.length_cons] at h1
    by_cases e : b = c
    · rw [if_pos e]; omega
    · rw [if_neg e]; exact sIx_rg c l (j + 1) (by omega) (by omega)
theorem sX_ok {p : Nat} (hp : oS p) (c : Int) : -1 ≤ sX p c ∧ sX p c < 1000 := by
  unfold sX
  by_cases h : 0 ≤ c ∧ c ≤ 255
  · rw [if_pos h]
    have := (st_ok (p - 1000) (by omega)).1
    exact sIx_rg _ _ 0 (by decide) (by omega)
  · rw [if_neg h]; exact ⟨by decide, by decide⟩
theorem sX_rg {p : Nat} (hp : oS p) (c : Int) : rg (sX p c) := by have := sX_ok hp c; unfold rg; omega
section
variable {cc bytes : ByteArray} {own : String} {rv rv1 : Option vA} {σo : vS} {ret ret1 : Option FieldType} {F Lc nL rf rl maxL i : Nat} {tko : List (Nat × Nat)} {P : vP} {σ σ1 : vS} {pc p : Nat} {L : List (Nat × vA)} {st stk av As : List vA} {y : MethodName}
theorem v_gvs (hp : oS p) (hl : Cond.fieldLink own i "java/lang/String" "value" "[B" ∈ lw_all) (hd : decode cc pc = .ok (.getfield i, 3)) (k : VW cc (own, rv, σo, ret, F, Lc, nL, tko) P σ (pc + 3) L (vO (p + 100) :: st)) : VW cc (own, rv, σo, ret, F, Lc, nL, tko) P σ pc L (vO p :: st) := by
  obtain ⟨k0, k⟩ := k
  refine And.intro k0 (fun M hX hR hM hN => ?_)
  have k := k M hX hR hM hN
  obtain ⟨⟨p0, l, e, R, s, m, args, below, meth, c⟩, G, A, Q, b, oo, nL0, l0, a0⟩ := M
  intro H locs a ls hP hD hS hl1 hj b1 b2
  have k := k H locs a ls hP hD hS hl1 hj b1 b2
  obtain ⟨hx, hb, hml, hown, hts, hK, hlk, hA, hRc, hRs, hNw⟩ := hX
  have q := (hNw.2.1.addr hj.2).1 (p - 1000) (by omega)
  rw [show 1000 + (p - 1000) = p by omega, show 1100 + (p - 1000) = p + 100 by omega] at q
  exact vk_getf hx hb q.2.2.1 hS hown (hts _ hl) (fun _ h => h) hd k
theorem v_gcs (hp : oS p) (hl : Cond.fieldLink own i "java/lang/String" "coder" "B" ∈ lw_all) (hd : decode cc pc = .ok (.getfield i, 3)) (k : VW cc (own, rv, σo, ret, F, Lc, nL, tko) P σ (pc + 3) L (vI 0 :: st)) : VW cc (own, rv, σo, ret, F, Lc, nL, tko) P σ pc L (vO p :: st) := by
  obtain ⟨k0, k⟩ := k
  refine And.intro k0 (fun M hX hR hM hN => ?_)
  have k := k M hX hR hM hN
  obtain ⟨⟨p0, l, e, R, s, m, args, below, meth, c⟩, G, A, Q, b, oo, nL0, l0, a0⟩ := M
  intro H locs a ls hP hD hS hl1 hj b1 b2
  have k := k H locs a ls hP hD hS hl1 hj b1 b2
  obtain ⟨hx, hb, hml, hown, hts, hK, hlk, hA, hRc, hRs, hNw⟩ := hX
  have q := (hNw.2.1.addr hj.2).1 (p - 1000) (by omega)
  rw [show 1000 + (p - 1000) = p by omega] at q
  exact vk_getf (v := .int 0) hx hb q.2.1 hS hown (hts _ hl) (fun _ h => h) hd k
theorem v_gst (hl : Cond.fieldLink own i "java/lang/String" "COMPACT_STRINGS" "Z" ∈ lw_all) (hd : decode cc pc = .ok (.getstatic i, 3)) (k : VW cc (own, rv, σo, ret, F, Lc, nL, tko) P σ (pc + 3) L (vI 1 :: st)) : VW cc (own, rv, σo, ret, F, Lc, nL, tko) P σ pc L st := by
  obtain ⟨k0, k⟩ := k
  refine And.intro k0 (fun M hX hR hM hN => ?_)
  have k := k M hX hR hM hN
  obtain ⟨⟨p0, l, e, R, s, m, args, below, meth, c⟩, G, A, Q, b, oo, nL0, l0, a0⟩ := M
  intro H locs a ls hP hD hS hl1 hj b1 b2
  have k := k H locs a ls hP hD hS hl1 hj b1 b2
  obtain ⟨hx, hb, hml, hown, hts, hK, hlk, hA, hRc, hRs, hNw⟩ := hX
  exact va_gets (v := .int 1) hx hb hNw.2.1.2.1 hS hown (hts _ hl) (fun _ h => h) hd k
theorem v_bas {j : Int} (hp : oS p) (hj0 : rg j) (g : 0 ≤ j ∧ j < sL p) (hd : decode cc pc = .ok (.baload, 1)) (k : VW cc (own, rv, σo, ret, F, Lc, nL, tko) P σ (pc + 1) L (vI (sC p j) :: st)) : VW cc (own, rv, σo, ret, F, Lc, nL, tko) P σ pc L (vI j :: vO (p + 100) :: st) := by
  obtain ⟨k0, k⟩ := k
  refine And.intro k0 (fun M hX hR hM hN => ?_)
  have k := k M hX hR hM hN
  obtain ⟨⟨p0, l, e, R, s, m, args, below, meth, c⟩, G, A, Q, b, oo, nL0, l0, a0⟩ := M
  intro H locs a ls hP hD hS hl1 hj b1 b2
  have k := k H locs a ls hP hD hS hl1 hj b1 b2
  obtain ⟨hx, hb, hml, hown, hts, hK, hlk, hA, hRc, hRs, hNw⟩ := hX
  have q := (hNw.2.1.addr hj.2).1 (p - 1000) (by omega)
  rw [show 1100 + (p - 1000) = p + 100 by omega] at q
  have g2 := g.2
  unfold sL at g2
  refine va_tb (i := Int32.ofInt j) (v := .int (Int32.ofInt (sC p j))) hx hb q.2.2.2.1 hS ?_ ?_ hd k
  · exact vin_of hj0 g.1 g2
  · show Value.int (Int32.ofInt (sByt (p - 1000) _)) = _
    rw [cl_of hj0 g.1]
    rfl
theorem v_als (hp : oS p) (hd : decode cc pc = .ok (.arraylength, 1)) (k : VW cc (own, rv, σo, ret, F, Lc, nL, tko) P σ (pc + 1) L (vI (sL p) :: st)) : VW cc (own, rv, σo, ret, F, Lc, nL, tko) P σ pc L (vO (p + 100) :: st) := by
  obtain ⟨k0, k⟩ := k
  refine And.intro k0 (fun M hX hR hM hN => ?_)
  have k := k M hX hR hM hN
  obtain ⟨⟨p0, l, e, R, s, m, args, below, meth, c⟩, G, A, Q, b, oo, nL0, l0, a0⟩ := M
  intro H locs a ls hP hD hS hl1 hj b1 b2
  have k := k H locs a ls hP hD hS hl1 hj b1 b2
  obtain ⟨hx, hb, hml, hown, hts, hK, hlk, hA, hRc, hRs, hNw⟩ := hX
  have q := (hNw.2.1.addr hj.2).1 (p - 1000) (by omega)
  rw [show 1100 + (p - 1000) = p + 100 by omega] at q
  exact va_tlen (N := sLen (p - 1000)) (v := Int32.ofInt (sL p)) hx hb q.2.2.2.1 hS (by unfold sL; rw [Int32.ofInt_eq_ofNat]) hd k
/-- a text's own method -/
theorem v_callVS (hp : oS p) (hC : VC y bytes maxL ret1 rf rl (vO p :: As) σ rv1 σ []) (hw : GoodIn lw_all (wsV own i "java/lang/String" y (ws_ y bytes maxL ret1))) (hyC : y.cls = "java/lang/String") (hy : yOk y As.length) (hrm : rf + 1 ≤ F ∧ 8 + (maxL + 11) + rl ≤ Lc) (hk : KP σ σ st) (hkL : KP σ σ (L.map (fun q => q.2))) (h8 : vc8 st ≤ 8) (hs : stk = (vO p :: As).reverse ++ st) (hd : decode cc pc = .ok (.invokevirtual i, 3))
    (k : VW cc (own, rv, σo, ret, F, Lc, nL, tko) (P0 []) σ (pc + 3) L (rv1.toList ++ st)) : VW cc (own, rv, σo, ret, F, Lc, nL, tko) (P0 []) σ pc L stk := by
  refine v_callw hC hk hkL hs (fun p0 l e R s m args below meth c G H locs a ls cells slots hx hb hml hown hts hK hNw hF hLc hls hP hD hf => ?_) k
  have q := hNw.2.1.1 (p - 1000) (by omega)
  rw [show 1000 + (p - 1000) = p by omega] at q
  obtain ⟨⟨cell, h1, h2, h3, -⟩, -⟩ := q
  refine va_runV (As := As.map (dv a)) (b := a p) ⟨hx, hb, hml, hown, hts⟩ (hC.2 l G a H.size) (cwV As.length hts hw rfl rfl rfl ⟨hyC, hy⟩ (by rw [hF, hLc]; exact hrm)) ⟨vblind l G σ a H.size _, ⟨cell, h1, h2, h3⟩, fun U hU hW => ⟨rfl, by rw [hU], by rw [hU]; exact hP, va_K.moved hW.alike hK, by rw [hU]; exact VN.warm hW hNw, hD⟩⟩ rfl (by simp) hls (by simp [dv]) (lv_room (by rw [vc8_dv]; exact h8)) hd hf
/-- a narrow answer -/
theorem v_nret {r : Int} {ty : FieldType} (hr0 : rg r) (hn : narrow ty (.int (Int32.ofInt r)) = .int (Int32.ofInt r)) (hd : decode cc pc = .ok (.ireturn, 1)) : VW cc (own, (some (vI r)), σ, (some ty), F, Lc, nL, []) (P0 []) σ pc L [vI r] := by
  refine And.intro ⟨Nat.le_refl _, Nat.le_refl _, hr0⟩ (fun M hX hR hM hN => ?_)
  obtain ⟨⟨p, l, e, R, s, m, args, below, meth, c⟩, G, A, Q, b, o, nL0, l0, a0⟩ := M
  obtain ⟨σ0, rfl, rfl, rfl, rfl, hr⟩ := hR
  intro H locs a ls hP hD hS hl hj b1 b2
  exact W.zret (v := Int32.ofInt r) hX.1 hX.2.1 hr hn (fun t ht hW => ⟨⟨a, rfl, by rw [ht]; exact hP, hD, hj⟩, hS.F ht⟩) hS.2.2 hd hX.2.2.2.2.2.2.1
theorem v_i2c {x : Int} (h0 : 0 ≤ x) (h1 : x ≤ 127) (hd : decode cc pc = .ok (.i2c, 1)) (k : VW cc (own, rv, σo, ret, F, Lc, nL, tko) P σ (pc + 1) L (vI x :: st)) : VW cc (own, rv, σo, ret, F, Lc, nL, tko) P σ pc L (vI x :: st) := by
  obtain ⟨k0, k⟩ := k
  refine And.intro k0 (fun M hX hR hM hN => ?_)
  have k := k M hX hR hM hN
  obtain ⟨⟨p0, l, e, R, s, m, args, below, meth, c⟩, G, A, Q, b, oo, nL0, l0, a0⟩ := M
  intro H locs a ls hP hD hS hl1 hj b1 b2
  have k := k H locs a ls hP hD hS hl1 hj b1 b2
  refine lv_i2c hX.1 hX.2.1 (x := Int32.ofInt x) (v := Int32.ofInt x) hd ?_ k
  obtain ⟨n, rfl⟩ : ∃ n : Nat, x = n := ⟨x.toNat, by omega⟩
  have : ∀ n : Nat, n < 128 → ((Int32.ofInt (n : Int)).toUInt32 % 65536).toInt32 = Int32.ofInt (n : Int) := by decide +kernel
  exact this n (by omega)
end
theorem KPs (σ : vS) {k : Nat} (h : kpK k ∨ 1000 ≤ k) : kp σ σ k := h.elim (fun h => Or.inl ⟨h, Or.inl rfl⟩) Or.inr
theorem and_255 {x : Int} (h0 : 0 ≤ x) (h1 : x ≤ 127) : and32 x 255 = x := by
  have : ∀ n : Nat, n < 128 → and32 (n : Int) 255 = n := by decide +kernel
  obtain ⟨n, rfl⟩ : ∃ n : Nat, x = n := ⟨x.toNat, by omega⟩
  exact this n (by omega)
theorem shr_0 {x : Int} (h : rg x) : shr32 x 0 = x := by
  unfold shr32
  rw [show (Int32.ofInt 0 &&& 31) = 0 from rfl, Int32.shiftRight_zero, i32_toInt, w32_id h]
theorem yk_yJ5_coder : yOk yJ5_coder 0 := ⟨by decide, by decide, by decide +kernel⟩
theorem c_yJ5_coder {p : Nat} {s : vS} (hp : oS p) : VC yJ5_coder cJ5_coder 1 (some .byte) 0 0 [vO p] s (some (vI 0)) s [] := by
  refine VC.of RJ5 (by decide) rfl (Nat.le_of_ble_eq_true rfl) ?_
  show VW cJ5_coder (RJ5, (some (vI 0)), s, (some .byte), 0, 0, 1, []) (P0 []) s 0 [(0, vO p)] []
  refine v_gst q1118 dJ5_coder_0 ?_
  refine v_if_eq (tgt := 13) dJ5_coder_3 (rgl rfl) (by decide) (fun z => absurd z (by decide)) (fun _ => ?_)
  refine v_aload_n dJ5_coder_6 0 rfl rfl ?_
  refine v_gcs hp q3529 dJ5_coder_7 ?_
  refine v_goto (tgt := 14) dJ5_coder_10 (by decide) ?_
  exact v_nret (rgl rfl) rfl dJ5_coder_14
theorem yk_yJ5_isLatin1 : yOk yJ5_isLatin1 0 := ⟨by decide, by decide, by decide +kernel⟩
theorem c_yJ5_isLatin1 {p : Nat} {s : vS} (hp : oS p) : VC yJ5_isLatin1 cJ5_isLatin1 1 (some .boolean) 0 0 [vO p] s (some (vI 1)) s [] := by
  refine VC.of RJ5 (by decide) rfl (Nat.le_of_ble_eq_true rfl) ?_
  show VW cJ5_isLatin1 (RJ5, (some (vI 1)), s, (some .boolean), 0, 0, 1, []) (P0 []) s 0 [(0, vO p)] []
  refine v_gst q1118 dJ5_isLatin1_0 ?_
  refine v_if_eq (tgt := 17) dJ5_isLatin1_3 (rgl rfl) (by decide) (fun z => absurd z (by decide)) (fun _ => ?_)
  refine v_aload_n dJ5_isLatin1_6 0 rfl rfl ?_
  refine v_gcs hp q3529 dJ5_isLatin1_7 ?_
  refine v_if_ne (tgt := 17) dJ5_isLatin1_10 (rgl rfl) (by decide) (fun z => absurd rfl z) (fun _ => ?_)
  refine v_iconst dJ5_isLatin1_13 ?_
  refine v_goto (tgt := 18) dJ5_isLatin1_14 (by decide) ?_
  exact v_zret (Or.inr rfl) dJ5_isLatin1_18
theorem yk_yJ5_length : yOk yJ5_length 0 := ⟨by decide, by decide, by decide +kernel⟩
theorem c_yJ5_length {p : Nat} {s : vS} (hp : oS p) : VC yJ5_length cJ5_length 1 (some .int) 1 20 [vO p] s (some (vI (sL p))) s [] := by
  refine VC.of RJ5 (by decide) rfl (Nat.le_of_ble_eq_true rfl) ?_
  show VW cJ5_length (RJ5, (some (vI (sL p))), s, (some .int), 1, 20, 1, []) (P0 []) s 0 [(0, vO p)] []
  refine v_aload_n dJ5_length_0 0 rfl rfl ?_
  refine v_gvs hp q3528 dJ5_length_1 ?_
  refine v_als hp dJ5_length_4 ?_
  refine v_aload_n dJ5_length_5 0 rfl rfl ?_
  refine v_callVS (st := [vI (sL p)]) hp (c_yJ5_coder hp) (lw_V q1114 q1115 q1116 q318 q1117) rfl yk_yJ5_coder ⟨Nat.le_of_ble_eq_true rfl, Nat.le_of_ble_eq_true rfl⟩ trivial ⟨KPs s (Or.inr hp.1), trivial⟩ (Nat.le_of_ble_eq_true rfl) rfl dJ5_length_6 ?_
  refine v_ishr dJ5_length_9 ?_
  rw [shr_0 (sL_rg hp)]
  exact v_iret (sL_rg hp) dJ5_length_10
/-- the check of a place: the third argument of the JDK's method is what a static holds -/
theorem c_yJ7_checkIndex {x n : Int} {v : Value} {s : vS} (hv : v = .null ∨ ∃ t : Nat, v = .ref t) (hx : rg x) (hn : rg n) (h : 0 ≤ x ∧ x < n) : VC yJ7_checkIndex cJ7_checkIndex 3 (some .int) 0 0 [vI x, vI n, vV v] s (some (vI x)) s [] := by
  have key : VW cJ7_checkIndex (RJ7, (some (vI x)), s, (some .int), 0, 0, 3, []) (P0 []) s 0 [(0, vI x), (1, vI n), (2, vV v)] [] := by
    refine v_iload_n dJ7_checkIndex_0 0 rfl rfl ?_
    refine v_if_lt (tgt := 9) dJ7_checkIndex_1 hx (by decide) (fun z => absurd z (by omega)) (fun _ => ?_)
    refine v_iload_n dJ7_checkIndex_4 0 rfl rfl ?_
    refine v_iload_n dJ7_checkIndex_5 1 rfl rfl ?_
    refine v_icmp_lt (tgt := 16) dJ7_checkIndex_6 hx hn (by decide) (fun _ => ?_) (fun z => absurd h.2 z)
    refine v_iload_n dJ7_checkIndex_16 0 rfl rfl ?_
    exact v_iret hx dJ7_checkIndex_17
  rcases hv with rfl | ⟨t, rfl⟩
  · exact VC.of RJ7 (by decide) rfl (Nat.le_of_ble_eq_true rfl) key
  · exact VC.of RJ7 (by decide) rfl (Nat.le_of_ble_eq_true rfl) key
theorem yk_yJ7_checkIndex : yOk yJ7_checkIndex 3 := ⟨by decide, by decide, by decide +kernel⟩
section
variable {cc bytes : ByteArray} {own : String} {rv : Option vA} {σo : vS} {ret : Option FieldType} {F Lc nL i j : Nat} {tko : List (Nat × Nat)} {σ : vS} {pc : Nat} {L : List (Nat × vA)} {st : List vA}
theorem v_chk {x n : Int} (hx : rg x) (hn : rg n) (h : 0 ≤ x ∧ x < n) (hlk : Cond.fieldLink own i "jdk/internal/util/Preconditions" "SIOOBE_FORMATTER" "Ljava/util/function/BiFunction;" ∈ lw_all) (hw : GoodIn lw_all (va_wsS own j yJ7_checkIndex (ws_ yJ7_checkIndex cJ7_checkIndex 3 (some .int)))) (hrm : 0 + 1 ≤ F ∧ 8 + (3 + 11) + 0 ≤ Lc) (hk : KP σ σ st) (hkL : KP σ σ (L.map (fun q => q.2))) (h8 : vc8 st ≤ 8)
    (hd0 : decode cc pc = .ok (.getstatic i, 3)) (hd3 : decode cc (pc + 3) = .ok (.invokestatic j, 3)) (hd6 : decode cc (pc + 6) = .ok (.pop, 1)) (k : VW cc (own, rv, σo, ret, F, Lc, nL, tko) (P0 []) σ (pc + 7) L st) : VW cc (own, rv, σo, ret, F, Lc, nL, tko) (P0 []) σ pc L (vI n :: vI x :: st) := by
  obtain ⟨k0, k⟩ := k
  refine And.intro k0 (fun M hX hR hM hN => ?_)
  have k := k M hX hR hM hN
  have hR2 := hR
  obtain ⟨⟨p, l, e, R, s, m, args, below, meth, c⟩, G, A, Q, b, o, nL0, l0, a0⟩ := M
  intro H locs a ls hP hD hS hl hj b1 b2
  obtain ⟨hx1, hb, hml, hown, hts, hK, hlk1, hA, hRc, hRs, hNw⟩ := hX
  obtain ⟨σ0, hq1, hq2, ho, hq3, hq4⟩ := hR2
  have ho1 : o.1 = Pc (P0 tko) σo := by rw [ho]
  have ho2 : o.2 = Ps (P0 tko) σo := by rw [ho]
  have hN : nL0 = nL := hN
  have hF : R.frames = F := hM.1
  have hLc : R.locals = Lc := hM.2
  have hNc := VN.call (B := va_A (vws G (P0 []) σ a) H.size) hj.2 hS (fun q h1 h2 => h2.elim (fun ⟨k, x, h⟩ => hD.2 k _ h) (fun h => absurd h1 (by omega))) hNw
  have hf : (Pc (P0 []) σ - b.1) + (Pc (P0 []) σ - Pc (P0 []) σ) ≤ R.cells ∧ (Ps (P0 []) σ - b.2) + (Ps (P0 []) σ - Ps (P0 []) σ) ≤ R.slots := by
    rw [ho1] at hRc
    rw [ho2] at hRs
    omega
  have hZ : ∃ v : Value, (v = .null ∨ ∃ t : Nat, v = .ref t) ∧ va_Z "jdk/internal/util/Preconditions" "SIOOBE_FORMATTER" "Ljava/util/function/BiFunction;" v A s s.heap := by
    rcases hNw.2.1.2.2 with h | ⟨t, h⟩
    · exact ⟨_, Or.inl rfl, h⟩
    · exact ⟨_, Or.inr ⟨t, rfl⟩, h⟩
  obtain ⟨v, hv, hZ⟩ := hZ
  refine va_gets (v := v) hx1 hb hZ hS hown (hts _ hlk) (fun _ h => h) hd0 ?_
  have hC := (c_yJ7_checkIndex (v := v) (s := σ) hv hx hn h).2 l G a H.size
  have r := va_runS (e := e) (below := below) (meth := meth) (locs := locs) (As := [dv a (vI x), dv a (vI n), v]) (rest := st.map (dv a)) (g := F0 m (pc + 3) ls (v :: dv a (vI n) :: dv a (vI x) :: st.map (dv a))) ⟨hx1, hb, hml.trans hN, hown, hts⟩ hC (va_cwS 3 hts hw rfl rfl rfl yk_yJ7_checkIndex (by rw [hF, hLc]; exact hrm)) ⟨vblind l G σ a H.size _, fun U hU hW => ⟨rfl, by rw [hU], by rw [hU]; exact hP, va_K.moved hW.alike hK, by rw [hU]; exact VN.warm hW hNc, hD.weaken (fun _ _ _ _ => trivial)⟩⟩ rfl rfl (hl.1.trans hN) rfl (lv_room (by rw [vc8_dv]; exact h8)) hd3 hf
  refine v_run r hD hS hA (fun H1 locs1 a1 hP1 hD1 hS1 hJ1 => ?_)
  refine lv_pop hx1 hb hd6 rfl ?_
  have k := k H1 locs1 a1 ls hP1 hD1 hS1 (by rw [KP_dvl hJ1 L hkL]; exact hl) (vJ_trans hj hJ1) b1 b2
  rw [Nat.sub_self, Nat.sub_self, Nat.add_zero, Nat.add_zero, ← KP_dv hJ1 st hk]
  exact k
end
theorem c_yJ5_checkIndex {x n : Int} {s : vS} (hx : rg x) (hn : rg n) (h : 0 ≤ x ∧ x < n) : VC yJ5_checkIndex cJ5_checkIndex 2 none 1 22 [vI x, vI n] s none s [] := by
  refine VC.of RJ5 (by decide) rfl (Nat.le_of_ble_eq_true rfl) ?_
  show VW cJ5_checkIndex (RJ5, none, s, none, 1, 22, 2, []) (P0 []) s 0 [(0, vI x), (1, vI n)] []
  refine v_iload_n dJ5_checkIndex_0 0 rfl rfl ?_
  refine v_iload_n dJ5_checkIndex_1 1 rfl rfl ?_
  refine v_chk hx hn h q1134 (lw_S q1136 q1137 q320 q1138) ⟨Nat.le_of_ble_eq_true rfl, Nat.le_of_ble_eq_true rfl⟩ trivial trivial (Nat.le_of_ble_eq_true rfl) dJ5_checkIndex_2 dJ5_checkIndex_5 dJ5_checkIndex_8 ?_
  exact v_vret dJ5_checkIndex_9
theorem yk_yJ5_checkIndex : yOk yJ5_checkIndex 2 := ⟨by decide, by decide, by decide +kernel⟩
theorem yk_yJ6_charAt : yOk yJ6_charAt 2 := ⟨by decide, by decide, by decide +kernel⟩
theorem char_nar {x : Int} (h0 : 0 ≤ x) (h1 : x ≤ 127) : narrow .char (.int (Int32.ofInt x)) = .int (Int32.ofInt x) := by
  have : ∀ n : Nat, n < 128 → narrow .char (.int (Int32.ofInt (n : Int))) = .int (Int32.ofInt (n : Int)) := by decide +kernel
  obtain ⟨n, rfl⟩ : ∃ n : Nat, x = n := ⟨x.toNat, by omega⟩
  exact this n (by omega)
theorem c_yJ6_charAt {p : Nat} {x : Int} {s : vS} (hp : oS p) (hx : rg x) (h : 0 ≤ x ∧ x < sL p) : VC yJ6_charAt cJ6_charAt 2 (some .char) 2 43 [vO (p + 100), vI x] s (some (vI (sC p x))) s [] := by
  refine VC.of RJ6 (by decide) rfl (Nat.le_of_ble_eq_true rfl) ?_
  show VW cJ6_charAt (RJ6, (some (vI (sC p x))), s, (some .char), 2, 43, 2, []) (P0 []) s 0 [(0, vO (p + 100)), (1, vI x)] []
  refine v_iload_n dJ6_charAt_0 1 rfl rfl ?_
  refine v_aload_n dJ6_charAt_1 0 rfl rfl ?_
  refine v_als hp dJ6_charAt_2 ?_
  refine v_callS (st := []) (c_yJ5_checkIndex hx (sL_rg hp) h) (lw_S q1131 q1132 q318 q1133) yk_yJ5_checkIndex ⟨Nat.le_of_ble_eq_true rfl, Nat.le_of_ble_eq_true rfl⟩ trivial ⟨KPs s (Or.inr (by omega)), trivial⟩ (Nat.le_of_ble_eq_true rfl) rfl dJ6_charAt_3 ?_
  refine v_aload_n dJ6_charAt_6 0 rfl rfl ?_
  refine v_iload_n dJ6_charAt_7 1 rfl rfl ?_
  refine v_bas hp hx h dJ6_charAt_8 ?_
  refine v_sipush dJ6_charAt_9 rfl ?_
  refine v_iand dJ6_charAt_12 ?_
  have hc := sC_ok hp x
  rw [and_255 hc.1 hc.2]
  refine v_i2c hc.1 hc.2 dJ6_charAt_13 ?_
  exact v_nret (sC_rg hp x) (char_nar hc.1 hc.2) dJ6_charAt_14
theorem yk_yJ5_charAt : yOk yJ5_charAt 1 := ⟨by decide, by decide, by decide +kernel⟩
theorem c_yJ5_charAt {p : Nat} {x : Int} {s : vS} (hp : oS p) (hx : rg x) (h : 0 ≤ x ∧ x < sL p) : VC yJ5_charAt cJ5_charAt 2 (some .char) 3 64 [vO p, vI x] s (some (vI (sC p x))) s [] := by
  refine VC.of RJ5 (by decide) rfl (Nat.le_of_ble_eq_true rfl) ?_
  show VW cJ5_charAt (RJ5, (some (vI (sC p x))), s, (some .char), 3, 64, 2, []) (P0 []) s 0 [(0, vO p), (1, vI x)] []
  refine v_aload_n dJ5_charAt_0 0 rfl rfl ?_
  refine v_callVS (st := []) hp (c_yJ5_isLatin1 hp) (lw_V q1124 q1125 q1126 q318 q1127) rfl yk_yJ5_isLatin1 ⟨Nat.le_of_ble_eq_true rfl, Nat.le_of_ble_eq_true rfl⟩ trivial ⟨KPs s (Or.inr hp.1), trivial⟩ (Nat.le_of_ble_eq_true rfl) rfl dJ5_charAt_1 ?_
  refine v_if_eq (tgt := 16) dJ5_charAt_4 (rgl rfl) (by decide) (fun z => absurd z (by decide)) (fun _ => ?_)
  refine v_aload_n dJ5_charAt_7 0 rfl rfl ?_
  refine v_gvs hp q3528 dJ5_charAt_8 ?_
  refine v_iload_n dJ5_charAt_11 1 rfl rfl ?_
  refine v_callS (st := []) (c_yJ6_charAt hp hx h) (lw_S q1128 q1129 q319 q1130) yk_yJ6_charAt ⟨Nat.le_of_ble_eq_true rfl, Nat.le_of_ble_eq_true rfl⟩ trivial ⟨KPs s (Or.inr hp.1), trivial⟩ (Nat.le_of_ble_eq_true rfl) rfl dJ5_charAt_12 ?_
  have hc := sC_ok hp x
  exact v_nret (sC_rg hp x) (char_nar hc.1 hc.2) dJ5_charAt_15
theorem yk_yJ6_canEncode : yOk yJ6_canEncode 1 := ⟨by decide, by decide, by decide +kernel⟩
theorem c_yJ6_canEncode {x : Int} {s : vS} (hx : rg x) : VC yJ6_canEncode cJ6_canEncode 1 (some .boolean) 0 0 [vI x] s (some (vI (if 0 ≤ x ∧ x ≤ 255 then 1 else 0))) s [] := by
  refine VC.of RJ6 (by decide) rfl (Nat.le_of_ble_eq_true rfl) ?_
  show VW cJ6_canEncode (RJ6, (some (vI (if 0 ≤ x ∧ x ≤ 255 then 1 else 0))), s, (some .boolean), 0, 0, 1, []) (P0 []) s 0 [(0, vI x)] []
  refine v_iload_n dJ6_canEncode_0 0 rfl rfl ?_
  refine v_if_lt (tgt := 15) dJ6_canEncode_1 hx (by decide) (fun z => ?_) (fun z => ?_)
  · rw [if_neg (by omega)]
    refine v_iconst dJ6_canEncode_15 ?_
    exact v_zret (Or.inl rfl) dJ6_canEncode_16
  · refine v_iload_n dJ6_canEncode_4 0 rfl rfl ?_
    refine v_sipush dJ6_canEncode_5 rfl ?_
    refine v_icmp_gt (tgt := 15) dJ6_canEncode_8 hx (rgl rfl) (by decide) (fun z2 => ?_) (fun z2 => ?_)
    · rw [if_neg (by omega)]
      refine v_iconst dJ6_canEncode_15 ?_
      exact v_zret (Or.inl rfl) dJ6_canEncode_16
    · rw [if_pos (by omega)]
      refine v_iconst dJ6_canEncode_11 ?_
      refine v_goto (tgt := 16) dJ6_canEncode_12 (by decide) ?_
      exact v_zret (Or.inr rfl) dJ6_canEncode_16
theorem yk_yJ6_indexOfChar : yOk yJ6_indexOfChar 4 := ⟨by decide, by decide, by decide +kernel⟩
theorem w_yJ6_indexOfChar {p : Nat} {c : Int} {s : vS} {r : Int} (hp : oS p) (hc : rg c) : ∀ (l : List Int) (j : Int), 0 ≤ j → j + l.length = sL p → (stB.getD (p - 1000) []).drop j.toNat = l → r = sIx c l j → VW cJ6_indexOfChar (RJ6, (some (vI r)), s, (some .int), 0, 0, 6, []) (P0 []) s 7 [(0, vO (p + 100)), (3, vI (sL p)), (4, vI c), (5, vI j)] [] := by
  have hL := sL_ok hp
  intro l
  induction l with
  | nil =>
    intro j h0 h1 h2 h3
    simp only [List.length_nil] at h1
    refine v_iload dJ6_indexOfChar_7 3 rfl ?_
    refine v_iload_n dJ6_indexOfChar_9 1 rfl rfl ?_
    refine v_icmp_ge (tgt := 31) dJ6_indexOfChar_10 (by unfold rg; omega) (sL_rg hp) (by decide) (fun _ => ?_) (fun z => absurd (by omega) z)
    refine v_iconst dJ6_indexOfChar_31 ?_
    subst h3
    exact v_iret (rgl rfl) dJ6_indexOfChar_32
  | cons b l ih =>
    intro j h0 h1 h2 h3
    simp only [List.length_cons] at h1
    have hb : sC p j = b := by
      unfold sC sByt
      rw [List.getD_eq_getElem?_getD, ← List.head?_drop, h2]
      rfl
    have ht : (stB.getD (p - 1000) []).drop (j + 1).toNat = l := by
      rw [show (j + 1).toNat = j.toNat + 1 by omega, ← List.drop_drop, h2]
      rfl
    refine v_iload dJ6_indexOfChar_7 3 rfl ?_
    refine v_iload_n dJ6_indexOfChar_9 1 rfl rfl ?_
    refine v_icmp_ge (tgt := 31) dJ6_indexOfChar_10 (by unfold rg; omega) (sL_rg hp) (by decide) (fun z => absurd z (by omega)) (fun _ => ?_)
    refine v_aload_n dJ6_indexOfChar_13 0 rfl rfl ?_
    refine v_iload dJ6_indexOfChar_14 3 rfl ?_
    refine v_bas hp (by unfold rg; omega) ⟨h0, by omega⟩ dJ6_indexOfChar_16 ?_
    refine v_iload dJ6_indexOfChar_17 2 rfl ?_
    rw [hb]
    unfold sIx at h3
    have hbr : rg b := hb ▸ sC_rg hp j
    refine v_icmp_ne (tgt := 25) dJ6_indexOfChar_19 hbr hc (by decide) (fun z => ?_) (fun z => ?_)
    · rw [if_neg z] at h3
      refine v_iinc (L1 := [(5, vI (w32 (j + 1))), (0, vO (p + 100)), (3, vI (sL p)), (4, vI c)]) dJ6_indexOfChar_25 3 rfl (by decide) rfl ?_
      refine v_goto (tgt := 7) dJ6_indexOfChar_28 (by decide) ?_
      refine v_sub [1, 2, 3, 0] (L1 := [(0, vO (p + 100)), (3, vI (sL p)), (4, vI c), (5, vI (w32 (j + 1)))]) rfl ?_
      rw [w32_id (by unfold rg; omega)]
      exact ih (j + 1) (by omega) (by omega) ht h3
    · rw [if_pos z] at h3
      refine v_iload dJ6_indexOfChar_22 3 rfl ?_
      subst h3
      exact v_iret (by unfold rg; omega) dJ6_indexOfChar_24
theorem c_yJ6_indexOfChar {p : Nat} {c : Int} {s : vS} (hp : oS p) : VC yJ6_indexOfChar cJ6_indexOfChar 6 (some .int) 0 0 [vO (p + 100), vI c, vI 0, vI (sL p)] s (some (vI (sIx (n8 c) (stB.getD (p - 1000) []) 0))) s [] := by
  refine VC.of RJ6 (by decide) rfl (Nat.le_of_ble_eq_true rfl) ?_
  show VW cJ6_indexOfChar (RJ6, (some (vI (sIx (n8 c) (stB.getD (p - 1000) []) 0))), s, (some .int), 0, 0, 6, []) (P0 []) s 0 [(0, vO (p + 100)), (1, vI c), (2, vI 0), (3, vI (sL p))] []
  refine v_iload_n dJ6_indexOfChar_0 1 rfl rfl ?_
  refine v_i2b dJ6_indexOfChar_1 ?_
  refine v_istore (L1 := [(4, vI (n8 c)), (0, vO (p + 100)), (1, vI c), (2, vI 0), (3, vI (sL p))]) dJ6_indexOfChar_2 (by decide) rfl ?_
  refine v_iload_n dJ6_indexOfChar_4 3 rfl rfl ?_
  refine v_istore (L1 := [(5, vI 0), (4, vI (n8 c)), (0, vO (p + 100)), (1, vI c), (2, vI 0), (3, vI (sL p))]) dJ6_indexOfChar_5 (by decide) rfl ?_
  refine v_sub [2, 5, 1, 0] (L1 := [(0, vO (p + 100)), (3, vI (sL p)), (4, vI (n8 c)), (5, vI 0)]) rfl ?_
  exact w_yJ6_indexOfChar hp (n8_rg _) (stB.getD (p - 1000) []) 0 (by decide) (by unfold sL sLen; omega) rfl rfl
theorem yk_yJ6_indexOf : yOk yJ6_indexOf 4 := ⟨by decide, by decide, by decide +kernel⟩
theorem c_yJ6_indexOf {p : Nat} {c : Int} {s : vS} (hp : oS p) (hp0 : 0 < sL p) (hc : rg c) : VC yJ6_indexOf cJ6_indexOf 4 (some .int) 1 25 [vO (p + 100), vI c, vI 0, vI (sL p)] s (some (vI (sX p c))) s [] := by
  refine VC.of RJ6 (by decide) rfl (Nat.le_of_ble_eq_true rfl) ?_
  show VW cJ6_indexOf (RJ6, (some (vI (sX p c))), s, (some .int), 1, 25, 4, []) (P0 []) s 0 [(0, vO (p + 100)), (1, vI c), (2, vI 0), (3, vI (sL p))] []
  have hL := sL_ok hp
  refine v_iload_n dJ6_indexOf_0 1 rfl rfl ?_
  refine v_callS (st := []) (c_yJ6_canEncode hc) (lw_S q1197 q1198 q319 q1199) yk_yJ6_canEncode ⟨Nat.le_of_ble_eq_true rfl, Nat.le_of_ble_eq_true rfl⟩ trivial ⟨KPs s (Or.inr (by omega)), trivial⟩ (Nat.le_of_ble_eq_true rfl) rfl dJ6_indexOf_1 ?_
  by_cases hcc : 0 ≤ c ∧ c ≤ 255
  · rw [if_pos hcc]
    refine v_if_ne (tgt := 9) dJ6_indexOf_4 (rgl rfl) (by decide) (fun _ => ?_) (fun z => absurd z (by decide))
    refine v_iload_n dJ6_indexOf_9 2 rfl rfl ?_
    refine v_iconst dJ6_indexOf_10 ?_
    refine v_max (rgl rfl) (rgl rfl) (Nat.le_of_ble_eq_true rfl) (Nat.le_of_ble_eq_true rfl) q1200 dJ6_indexOf_11 ?_
    refine v_istore_n (L1 := [(2, vI 0), (0, vO (p + 100)), (1, vI c), (3, vI (sL p))]) dJ6_indexOf_14 rfl (by decide) rfl ?_
    refine v_iload_n dJ6_indexOf_15 3 rfl rfl ?_
    refine v_aload_n dJ6_indexOf_16 1 rfl rfl ?_
    refine v_als hp dJ6_indexOf_17 ?_
    refine v_min (sL_rg hp) (sL_rg hp) (Nat.le_of_ble_eq_true rfl) (Nat.le_of_ble_eq_true rfl) q1203 dJ6_indexOf_18 ?_
    rw [show min (sL p) (sL p) = sL p by omega]
    refine v_istore_n (L1 := [(3, vI (sL p)), (2, vI 0), (0, vO (p + 100)), (1, vI c)]) dJ6_indexOf_21 rfl (by decide) rfl ?_
    refine v_iload_n dJ6_indexOf_22 1 rfl rfl ?_
    refine v_iload_n dJ6_indexOf_23 0 rfl rfl ?_
    refine v_icmp_lt (tgt := 29) dJ6_indexOf_24 (rgl rfl) (sL_rg hp) (by decide) (fun _ => ?_) (fun z => absurd hp0 z)
    refine v_aload_n dJ6_indexOf_29 2 rfl rfl ?_
    refine v_iload_n dJ6_indexOf_30 3 rfl rfl ?_
    refine v_iload_n dJ6_indexOf_31 1 rfl rfl ?_
    refine v_iload_n dJ6_indexOf_32 0 rfl rfl ?_
    refine v_callS (st := []) (c_yJ6_indexOfChar hp) (lw_S q1206 q1207 q319 q1208) yk_yJ6_indexOfChar ⟨Nat.le_of_ble_eq_true rfl, Nat.le_of_ble_eq_true rfl⟩ trivial ⟨KPs s (Or.inr (by omega)), trivial⟩ (Nat.le_of_ble_eq_true rfl) rfl dJ6_indexOf_33 ?_
    have e : sX p c = sIx (n8 c) (stB.getD (p - 1000) []) 0 := by unfold sX; rw [if_pos hcc]
    rw [← e]
    exact v_iret (sX_rg hp c) dJ6_indexOf_36
  · rw [if_neg hcc]
    refine v_if_ne (tgt := 9) dJ6_indexOf_4 (rgl rfl) (by decide) (fun z => absurd rfl z) (fun _ => ?_)
    refine v_iconst dJ6_indexOf_7 ?_
    have e : sX p c = -1 := by unfold sX; rw [if_neg hcc]
    rw [e]
    exact v_iret (rgl rfl) dJ6_indexOf_8
theorem yk_yJ5_indexOf_2 : yOk yJ5_indexOf_2 2 := ⟨by decide, by decide, by decide +kernel⟩
theorem c_yJ5_indexOf_2 {p : Nat} {c : Int} {s : vS} (hp : oS p) (hp0 : 0 < sL p) (hc : rg c) : VC yJ5_indexOf_2 cJ5_indexOf_2 3 (some .int) 2 48 [vO p, vI c, vI 0] s (some (vI (sX p c))) s [] := by
  refine VC.of RJ5 (by decide) rfl (Nat.le_of_ble_eq_true rfl) ?_
  show VW cJ5_indexOf_2 (RJ5, (some (vI (sX p c))), s, (some .int), 2, 48, 3, []) (P0 []) s 0 [(0, vO p), (1, vI c), (2, vI 0)] []
  refine v_aload_n dJ5_indexOf_2_0 0 rfl rfl ?_
  refine v_callVS (st := []) hp (c_yJ5_isLatin1 hp) (lw_V q1124 q1125 q1126 q318 q1127) rfl yk_yJ5_isLatin1 ⟨Nat.le_of_ble_eq_true rfl, Nat.le_of_ble_eq_true rfl⟩ trivial ⟨KPs s (Or.inr hp.1), trivial⟩ (Nat.le_of_ble_eq_true rfl) rfl dJ5_indexOf_2_1 ?_
  refine v_if_eq (tgt := 23) dJ5_indexOf_2_4 (rgl rfl) (by decide) (fun z => absurd z (by decide)) (fun _ => ?_)
  refine v_aload_n dJ5_indexOf_2_7 0 rfl rfl ?_
  refine v_gvs hp q3528 dJ5_indexOf_2_8 ?_
  refine v_iload_n dJ5_indexOf_2_11 1 rfl rfl ?_
  refine v_iload_n dJ5_indexOf_2_12 2 rfl rfl ?_
  refine v_aload_n dJ5_indexOf_2_13 0 rfl rfl ?_
  refine v_callVS (st := [vI 0, vI c, vO (p + 100)]) hp (c_yJ5_length hp) (lw_V q1193 q1111 q1112 q318 q1113) rfl yk_yJ5_length ⟨Nat.le_of_ble_eq_true rfl, Nat.le_of_ble_eq_true rfl⟩ ⟨KPs s (Or.inr (by omega)), trivial⟩ ⟨KPs s (Or.inr hp.1), trivial⟩ (Nat.le_of_ble_eq_true rfl) rfl dJ5_indexOf_2_14 ?_
  refine v_callS (st := []) (c_yJ6_indexOf hp hp0 hc) (lw_S q1194 q1195 q319 q1196) yk_yJ6_indexOf ⟨Nat.le_of_ble_eq_true rfl, Nat.le_of_ble_eq_true rfl⟩ trivial ⟨KPs s (Or.inr hp.1), trivial⟩ (Nat.le_of_ble_eq_true rfl) rfl dJ5_indexOf_2_17 ?_
  refine v_goto (tgt := 36) dJ5_indexOf_2_20 (by decide) ?_
  exact v_iret (sX_rg hp c) dJ5_indexOf_2_36
theorem yk_yJ5_indexOf : yOk yJ5_indexOf 1 := ⟨by decide, by decide, by decide +kernel⟩
theorem c_yJ5_indexOf {p : Nat} {c : Int} {s : vS} (hp : oS p) (hp0 : 0 < sL p) (hc : rg c) : VC yJ5_indexOf cJ5_indexOf 2 (some .int) 3 70 [vO p, vI c] s (some (vI (sX p c))) s [] := by
  refine VC.of RJ5 (by decide) rfl (Nat.le_of_ble_eq_true rfl) ?_
  show VW cJ5_indexOf (RJ5, (some (vI (sX p c))), s, (some .int), 3, 70, 2, []) (P0 []) s 0 [(0, vO p), (1, vI c)] []
  refine v_aload_n dJ5_indexOf_0 0 rfl rfl ?_
  refine v_iload_n dJ5_indexOf_1 1 rfl rfl ?_
  refine v_iconst dJ5_indexOf_2 ?_
  refine v_callVS (st := []) hp (c_yJ5_indexOf_2 hp hp0 hc) (lw_V q1189 q1190 q1191 q318 q1192) rfl yk_yJ5_indexOf_2 ⟨Nat.le_of_ble_eq_true rfl, Nat.le_of_ble_eq_true rfl⟩ trivial ⟨KPs s (Or.inr hp.1), trivial⟩ (Nat.le_of_ble_eq_true rfl) rfl dJ5_indexOf_3 ?_
  exact v_iret (sX_rg hp c) dJ5_indexOf_6

theorem okS_at {x : Int} {n : Nat} {p : Prop} (h : (inb x n ∧ x < 77) ∧ p) : oS (1000 + x.toNat) := by have := h.1.1.1; omega
section
variable {cc : ByteArray} {own : String} {rv : Option vA} {σo : vS} {ret : Option FieldType} {F Lc nL i o : Nat} {tko : List (Nat × Nat)} {P : vP} {σ : vS} {pc : Nat} {L : List (Nat × vA)} {st : List vA}
theorem v_alen28 (ho : ok P o 28) (hd : decode cc pc = .ok (.arraylength, 1)) (k : VW cc (own, rv, σo, ret, F, Lc, nL, tko) P σ (pc + 1) L (vI (w32 (gN σ o : Int)) :: st)) : VW cc (own, rv, σo, ret, F, Lc, nL, tko) P σ pc L (vO o :: st) := by
  obtain ⟨k0, k⟩ := k
  refine And.intro k0 (fun M hX hR hM hN0 => ?_)
  have k := k M hX hR hM hN0
  obtain ⟨⟨p, l, e, R, s, m, args, below, meth, c⟩, G, A, Q, b, oo, nL0, l0, a0⟩ := M
  intro H locs a ls hP hD hS hl1 hj1 b1 b2
  have k := k H locs a ls hP hD hS hl1 hj1 b1 b2
  obtain ⟨hx, hb, hml, hown, hts, hK, -⟩ := hX
  refine va_alen (D := G.1) hx hb hK hP o 4 (vws_arr ho (by decide)) rfl (v := Int32.ofInt (w32 (gN σ o : Int))) ?_ hd k
  rw [i32_w32]
  rfl
theorem v_aa28 {x : Int} (ho : ok P o 28) (hx0 : rg x) (g : (inb x (gN σ o) ∧ x < 77) ∧ gE σ o x = 1) (hd : decode cc pc = .ok (.aaload, 1)) (k : VW cc (own, rv, σo, ret, F, Lc, nL, tko) P σ (pc + 1) L (vO (1000 + x.toNat) :: st)) : VW cc (own, rv, σo, ret, F, Lc, nL, tko) P σ pc L (vI x :: vO o :: st) := by
  obtain ⟨k0, k⟩ := k
  refine And.intro k0 (fun M hX hR hM hN0 => ?_)
  have k := k M hX hR hM hN0
  obtain ⟨⟨p, l, e, R, s, m, args, below, meth, c⟩, G, A, Q, b, oo, nL0, l0, a0⟩ := M
  intro H locs a ls hP hD hS hl1 hj1 b1 b2
  have k := k H locs a ls hP hD hS hl1 hj1 b1 b2
  obtain ⟨hx, hb, hml, hown, hts, hK, hlk, hA, hRc, hRs, hNw⟩ := hX
  have g0 := g.1.1.1
  have g9 : w32 ((σ.2.1 o).2 x) = 1 := g.2
  have e1 : G.2.2.2 x.toNat = a (1000 + x.toNat) := by
    rw [hNw.2.2.1.1 x.toNat (by omega), hj1.2 _ (by omega)]
  refine va_aldq (D := G.1) (C := "java/lang/String") (f := fun j => if w32 ((σ.2.1 o).2 j) = 1 then some (G.2.2.2 j) else none) (n := gN σ o) (i := Int32.ofInt x) hx hb hK hP o 4 (vws_arr ho (by decide)) rfl (vin_of hx0 g.1.1.1 g.1.1.2) hd ?_
  rw [cl_of hx0 g.1.1.1]
  rw [show ((x.toNat : Nat) : Int) = x by omega, if_pos g9]
  show W p l e R s m args below meth c H locs _ _ Q (F0 m (pc + 1) ls (Value.ref (G.2.2.2 x.toNat) :: _))
  rw [e1]
  exact k
theorem v_ldcs {j : Nat} (hi : i < 83) (h1 : (stO i).1 = own) (h2 : (stO i).2.1 = j) (hd : decode cc pc = .ok (.ldc j, 2)) (k : VW cc (own, rv, σo, ret, F, Lc, nL, tko) P σ (pc + 2) L (vO (1000 + i) :: st)) : VW cc (own, rv, σo, ret, F, Lc, nL, tko) P σ pc L st := by
  obtain ⟨k0, k⟩ := k
  refine And.intro k0 (fun M hX hR hM hN0 => ?_)
  have k := k M hX hR hM hN0
  obtain ⟨⟨p, l, e, R, s, m, args, below, meth, c⟩, G, A, Q, b, oo, nL0, l0, a0⟩ := M
  intro H locs a ls hP hD hS hl1 hj1 b1 b2
  have k := k H locs a ls hP hD hS hl1 hj1 b1 b2
  obtain ⟨hx, hb, hml, hown, hts, hK, hlk, hA, hRc, hRs, hNw⟩ := hX
  have q := ((hNw.2.1.addr hj1.2).1 i hi).2.2.2.2
  rw [h1, h2] at q
  exact va_ldcS hx hb hown q hd k
theorem ldcwS {p : Program} {l : Launch} {e : Env} {R : Room} {s : State} {m : MethodId} {args : Array Value} {below : List Frame} {meth : Method} {c : Code} {T : State} {locs : List Loc} {cells slots : Nat}
    (X : Stand p l e R s m args below meth c T locs cells slots) (hexec : p.tables.exec = Jvm.exec) {own text : String} {index : Nat} {a : Addr} (hown : s.vm.findClass own = some m.cls)
    (hconst : (Cond.stringRef own index text).before args s = true) (hev : (Term.string own index).eval args s none [] s = some (.ref a)) {g : JFrame} (hg : g.method = m) (hdg : decode c.code g.pc = .ok (.ldc_w index, 3)) :
    ∀ target, Steps p.tables e below (T.setTop { g with pc := g.pc + 3, stack := .ref a :: g.stack }) target → Steps p.tables e below (T.setTop g) target := by
  obtain ⟨k, cf, i, a', hk, hcf, hcp, -, hr, hev'⟩ := Cond.stringRef_spec hown hconst
  cases hev.symm.trans hev'
  obtain ⟨k', hk', he⟩ := X.warmed.alike.2.2 _ _ hk
  have hr' : k'.resolved[index]? = some (some (.string a)) := by
    rcases X.warmed.entry hk hk' index with h | ⟨h, -⟩
    · rw [h]; exact hr
    · rw [hr] at h; cases h
  intro target hrest
  subst hg
  jvm_step X.here [hexec, hdg, ldc_w.wp_string (e := e) (s := T) (f := g) X.here.top hk' (by rw [he]; exact hcf) hcp hr']
  exact hrest
theorem v_ldcsW {j : Nat} (hi : i < 83) (h1 : (stO i).1 = own) (h2 : (stO i).2.1 = j) (hd : decode cc pc = .ok (.ldc_w j, 3)) (k : VW cc (own, rv, σo, ret, F, Lc, nL, tko) P σ (pc + 3) L (vO (1000 + i) :: st)) : VW cc (own, rv, σo, ret, F, Lc, nL, tko) P σ pc L st := by
  obtain ⟨k0, k⟩ := k
  refine And.intro k0 (fun M hX hR hM hN0 => ?_)
  have k := k M hX hR hM hN0
  obtain ⟨⟨p, l, e, R, s, m, args, below, meth, c⟩, G, A, Q, b, oo, nL0, l0, a0⟩ := M
  intro H locs a ls hP hD hS hl1 hj1 b1 b2
  have k := k H locs a ls hP hD hS hl1 hj1 b1 b2
  obtain ⟨hx, hb, hml, hown, hts, hK, hlk, hA, hRc, hRs, hNw⟩ := hX
  have q := ((hNw.2.1.addr hj1.2).1 i hi).2.2.2.2
  rw [h1, h2] at q
  intro T hT X
  obtain ⟨t, a1, b1⟩ := k T hT X
  exact ⟨t, ldcwS X hx hown (text := (stO i).2.2) (a := a (1000 + i)) q.1 q.2 (g := F0 m pc ls (st.map (dv a))) rfl (by rw [hb]; exact hd) t a1, b1⟩
theorem v_gsg (ho : ok P 5 2) (hE : P.2.1 5 0 = true) (hl : Cond.fieldLink own i (TX3 0).1 (TX3 0).2.1 (TX3 0).2.2.1 ∈ lw_all) (hd : decode cc pc = .ok (.getfield i, 3)) (k : VW cc (own, rv, σo, ret, F, Lc, nL, tko) P σ (pc + 3) L (vO 1077 :: st)) : VW cc (own, rv, σo, ret, F, Lc, nL, tko) P σ pc L (vO 5 :: st) := by
  obtain ⟨k0, k⟩ := k
  refine And.intro k0 (fun M hX hR hM hN => ?_)
  have k := k M hX hR hM hN
  obtain ⟨⟨p, l, e, R, s, m, args, below, meth, c⟩, G, A, Q, b, oo, nL0, l0, a0⟩ := M
  intro H locs a ls hP hD hS hl1 hj b1 b2
  have k := k H locs a ls hP hD hS hl1 hj b1 b2
  obtain ⟨hx, hb, hml, hown, hts, hK, hlk, hA, hRc, hRs, hNw⟩ := hX
  refine va_get (D := G.1) (ci := 2) (v := dv a (vO 1077)) (C := RX3) (T := TX3) (N := 8) hx hb hts cf3.2.2.2.1 hown hK hP 5 (vws_obj cf3 ho) cf3.1 0 (by decide) (hts _ hl) (fun _ h => h) ?_ hd k
  rw [range_at _ (by decide)]
  have e : vfv G P σ a 5 0 = G.2.2.1 5 0 := by
    unfold vfv
    rw [ho.2]
    show (if P.2.1 5 0 = true then _ else _) = _
    rw [if_pos hE]
  rw [e, hNw.2.2.1.2, ← hj.2 1077 (by decide)]
  rfl
end

