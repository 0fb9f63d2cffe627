set_option maxRecDepth 100000
/-! THE CONSTRUCTORS (by tools/mkctor.py) -/
section
variable {cc : ByteArray} {own : String} {rv : Option vA} {σo : vS} {ret : Option FieldType} {F Lc nL : Nat} {tko : List (Nat × Nat)} {K : Nat} {E : Nat → Nat → Bool} {σ : vS} {pc : Nat} {L : List (Nat × vA)} {st : List vA} {P : vP} {B : vB}
theorem v_nA24 {n : Int} (hz : Zr K E σ) (hg : gw rv σo K) (hK : K < 199) (hk : kd K = 24) (hn : rg n) (h0 : 0 ≤ n) (hm : n ≤ 100000) (hL : LK K (L.map (fun q => q.2))) (hs : LK K st) (harr : Cond.arrayClass .int ∈ lw_all) (hd : decode cc pc = .ok (.newarray .int, 2))
    (k : VW cc (own, rv, σo, ret, F, Lc, nL, tko) (pK (K + 1) E) (sA σ K (n.toNat, fun _ => 0)) (pc + 2) L (vO K :: st)) : VW cc (own, rv, σo, ret, F, Lc, nL, tko) (pK K E) σ pc L (vI n :: st) :=
  v_newA (t := 24) (at0 := .int) (by decide) (by decide) rfl (fun _ => rfl) harr hz hg hK hk hn h0 hm hL hs hd k
theorem v_nA25 {n : Int} (hz : Zr K E σ) (hg : gw rv σo K) (hK : K < 199) (hk : kd K = 25) (hn : rg n) (h0 : 0 ≤ n) (hm : n ≤ 100000) (hL : LK K (L.map (fun q => q.2))) (hs : LK K st) (harr : Cond.arrayClass .byte ∈ lw_all) (hd : decode cc pc = .ok (.newarray .byte, 2))
    (k : VW cc (own, rv, σo, ret, F, Lc, nL, tko) (pK (K + 1) E) (sA σ K (n.toNat, fun _ => 0)) (pc + 2) L (vO K :: st)) : VW cc (own, rv, σo, ret, F, Lc, nL, tko) (pK K E) σ pc L (vI n :: st) :=
  v_newA (t := 25) (at0 := .byte) (by decide) (by decide) rfl (fun _ => rfl) harr hz hg hK hk hn h0 hm hL hs hd k
theorem v_nA26 {n : Int} (hz : Zr K E σ) (hg : gw rv σo K) (hK : K < 199) (hk : kd K = 26) (hn : rg n) (h0 : 0 ≤ n) (hm : n ≤ 100000) (hL : LK K (L.map (fun q => q.2))) (hs : LK K st) (harr : Cond.arrayClass .boolean ∈ lw_all) (hd : decode cc pc = .ok (.newarray .boolean, 2))
    (k : VW cc (own, rv, σo, ret, F, Lc, nL, tko) (pK (K + 1) E) (sA σ K (n.toNat, fun _ => 0)) (pc + 2) L (vO K :: st)) : VW cc (own, rv, σo, ret, F, Lc, nL, tko) (pK K E) σ pc L (vI n :: st) :=
  v_newA (t := 26) (at0 := .boolean) (by decide) (by decide) rfl (fun _ => by show vp_cell _ (n.toNat, Sum.inl (fun _ => Int32.ofInt (bz 0))) = _; rw [show bz 0 = 0 by decide +kernel]; rfl) harr hz hg hK hk hn h0 hm hL hs hd k
theorem v_nA27 {n : Int} (hz : Zr K E σ) (hg : gw rv σo K) (hK : K < 199) (hk : kd K = 27) (hn : rg n) (h0 : 0 ≤ n) (hm : n ≤ 100000) (hL : LK K (L.map (fun q => q.2))) (hs : LK K st) (harr : Cond.arrayClass .long ∈ lw_all) (hd : decode cc pc = .ok (.newarray .long, 2))
    (k : VW cc (own, rv, σo, ret, F, Lc, nL, tko) (pK (K + 1) E) (sA σ K (n.toNat, fun _ => 0)) (pc + 2) L (vO K :: st)) : VW cc (own, rv, σo, ret, F, Lc, nL, tko) (pK K E) σ pc L (vI n :: st) :=
  v_newA (t := 27) (at0 := .long) (by decide) (by decide) rfl (fun _ => rfl) harr hz hg hK hk hn h0 hm hL hs hd k
/-- a number is laid on the stack -/
def PU (cc : ByteArray) (pc : Nat) (n : Int) (len : Nat) : Prop := ∀ (B : vB) (P : vP) (σ : vS) (L : List (Nat × vA)) (st : List vA), VW cc B P σ (pc + len) L (vI n :: st) → VW cc B P σ pc L st
theorem pu_c {n : Int} (hd : decode cc pc = .ok (.iconst n, 1)) : PU cc pc n 1 := fun B _ _ _ _ k => v_iconst (own := B.1) (rv := B.2.1) (σo := B.2.2.1) (ret := B.2.2.2.1) (F := B.2.2.2.2.1) (Lc := B.2.2.2.2.2.1) (nL := B.2.2.2.2.2.2.1) (tko := B.2.2.2.2.2.2.2) hd k
theorem pu_b {n : Int} (hd : decode cc pc = .ok (.bipush n, 2)) (hv : (Int8.ofInt n).toInt32 = Int32.ofInt n) : PU cc pc n 2 := fun B _ _ _ _ k => v_bipush (own := B.1) (rv := B.2.1) (σo := B.2.2.1) (ret := B.2.2.2.1) (F := B.2.2.2.2.1) (Lc := B.2.2.2.2.2.1) (nL := B.2.2.2.2.2.2.1) (tko := B.2.2.2.2.2.2.2) hd hv k
theorem pu_s {n : Int} (hd : decode cc pc = .ok (.sipush n, 3)) (hv : (Int16.ofInt n).toInt32 = Int32.ofInt n) : PU cc pc n 3 := fun B _ _ _ _ k => v_sipush (own := B.1) (rv := B.2.1) (σo := B.2.2.1) (ret := B.2.2.2.1) (F := B.2.2.2.2.1) (Lc := B.2.2.2.2.2.1) (nL := B.2.2.2.2.2.2.1) (tko := B.2.2.2.2.2.2.2) hd hv k
theorem v_tab {a N n l1 l2 : Nat} {l : List Int} {v : Int} (ho : ok P a 24) (hn : n < N) (hN : N < 100000) (hd1 : decode cc pc = .ok (.dup, 1)) (h1 : PU cc (pc + 1) (n : Int) l1) (h2 : PU cc (pc + 1 + l1) v l2) (hd2 : decode cc (pc + 1 + l1 + l2) = .ok (.iastore, 1))
    (k : VW cc (own, rv, σo, ret, F, Lc, nL, tko) P (sA σ a (N, tbr (n + 1) (v :: l))) (pc + 1 + l1 + l2 + 1) L (vO a :: st)) : VW cc (own, rv, σo, ret, F, Lc, nL, tko) P (sA σ a (N, tbr n l)) pc L (vO a :: st) := by
  refine v_dupO hd1 ?_
  refine h1 _ _ _ _ _ ?_
  refine h2 _ _ _ _ _ ?_
  refine v_iast ho (by unfold rg; omega) (by omega) (by show (n : Int) < ((sA σ a (N, tbr n l)).2.1 a).1; rw [sA_at]; show (n : Int) < (N : Int); omega) hd2 ?_
  rw [sE_tbr]
  exact k
theorem v_tabS {a N n l1 : Nat} {l : List Int} {i j : Nat} (ho : ok P a 28) (hn : n < N) (hN : N ≤ 77) (hd1 : decode cc pc = .ok (.dup, 1)) (h1 : PU cc (pc + 1) (n : Int) l1) (h3 : n < 83) (h4 : (stO n).1 = own) (h5 : (stO n).2.1 = j) (h2 : decode cc (pc + 1 + l1) = .ok (.ldc j, 2)) (hd2 : decode cc (pc + 1 + l1 + 2) = .ok (.aastore, 1))
    (k : VW cc (own, rv, σo, ret, F, Lc, nL, tko) P (sA σ a (N, tbr (n + 1) (1 :: l))) (pc + 1 + l1 + 2 + 1) L (vO a :: st)) : VW cc (own, rv, σo, ret, F, Lc, nL, tko) P (sA σ a (N, tbr n l)) pc L (vO a :: st) := by
  refine v_dupO hd1 ?_
  refine h1 _ _ _ _ _ ?_
  refine v_ldcs h3 h4 h5 h2 ?_
  refine v_aastS ho (by unfold rg; omega) (by omega) (by show (n : Int) < ((sA σ a (N, tbr n l)).2.1 a).1; rw [sA_at]; show (n : Int) < (N : Int); omega) (by omega) (by omega) hd2 ?_
  rw [sE_tbr]
  exact k
theorem v_tb0 {a N : Nat} (k : VW cc B P (sA σ a (N, tbr 0 [])) pc L st) : VW cc B P (sA σ a (N, fun _ => 0)) pc L st := by
  rw [tbr_0] at k
  exact k
end
theorem df1 : ∀ j, j < 17 → defaultValue (tyX1 j) = dfl (fk 0 j) := by
  intro j hj
  match j, hj with
  | 0, _ => rfl
  | 1, _ => rfl
  | 2, _ => rfl
  | 3, _ => rfl
  | 4, _ => rfl
  | 5, _ => rfl
  | 6, _ => rfl
  | 7, _ => rfl
  | 8, _ => rfl
  | 9, _ => rfl
  | 10, _ => rfl
  | 11, _ => rfl
  | 12, _ => rfl
  | 13, _ => rfl
  | 14, _ => rfl
  | 15, _ => rfl
  | 16, _ => rfl
  | j + 17, h => exact absurd h (by omega)
theorem df2 : ∀ j, j < 2 → defaultValue (tyX2 j) = dfl (fk 1 j) := by
  intro j hj
  match j, hj with
  | 0, _ => rfl
  | 1, _ => rfl
  | j + 2, h => exact absurd h (by omega)
theorem df3 : ∀ j, j < 8 → defaultValue (tyX3 j) = dfl (fk 2 j) := by
  intro j hj
  match j, hj with
  | 0, _ => rfl
  | 1, _ => rfl
  | 2, _ => rfl
  | 3, _ => rfl
  | 4, _ => rfl
  | 5, _ => rfl
  | 6, _ => rfl
  | 7, _ => rfl
  | j + 8, h => exact absurd h (by omega)
theorem df4 : ∀ j, j < 6 → defaultValue (tyX4 j) = dfl (fk 3 j) := by
  intro j hj
  match j, hj with
  | 0, _ => rfl
  | 1, _ => rfl
  | 2, _ => rfl
  | 3, _ => rfl
  | 4, _ => rfl
  | 5, _ => rfl
  | j + 6, h => exact absurd h (by omega)
theorem df5 : ∀ j, j < 5 → defaultValue (tyX5 j) = dfl (fk 4 j) := by
  intro j hj
  match j, hj with
  | 0, _ => rfl
  | 1, _ => rfl
  | 2, _ => rfl
  | 3, _ => rfl
  | 4, _ => rfl
  | j + 5, h => exact absurd h (by omega)
theorem df6 : ∀ j, j < 25 → defaultValue (tyX6 j) = dfl (fk 5 j) := by
  intro j hj
  match j, hj with
  | 0, _ => rfl
  | 1, _ => rfl
  | 2, _ => rfl
  | 3, _ => rfl
  | 4, _ => rfl
  | 5, _ => rfl
  | 6, _ => rfl
  | 7, _ => rfl
  | 8, _ => rfl
  | 9, _ => rfl
  | 10, _ => rfl
  | 11, _ => rfl
  | 12, _ => rfl
  | 13, _ => rfl
  | 14, _ => rfl
  | 15, _ => rfl
  | 16, _ => rfl
  | 17, _ => rfl
  | 18, _ => rfl
  | 19, _ => rfl
  | 20, _ => rfl
  | 21, _ => rfl
  | 22, _ => rfl
  | 23, _ => rfl
  | 24, _ => rfl
  | j + 25, h => exact absurd h (by omega)
theorem df7 : ∀ j, j < 2 → defaultValue (tyX7 j) = dfl (fk 6 j) := by
  intro j hj
  match j, hj with
  | 0, _ => rfl
  | 1, _ => rfl
  | j + 2, h => exact absurd h (by omega)
theorem df8 : ∀ j, j < 10 → defaultValue (tyX8 j) = dfl (fk 7 j) := by
  intro j hj
  match j, hj with
  | 0, _ => rfl
  | 1, _ => rfl
  | 2, _ => rfl
  | 3, _ => rfl
  | 4, _ => rfl
  | 5, _ => rfl
  | 6, _ => rfl
  | 7, _ => rfl
  | 8, _ => rfl
  | 9, _ => rfl
  | j + 10, h => exact absurd h (by omega)
theorem df9 : ∀ j, j < 4 → defaultValue (tyX9 j) = dfl (fk 8 j) := by
  intro j hj
  match j, hj with
  | 0, _ => rfl
  | 1, _ => rfl
  | 2, _ => rfl
  | 3, _ => rfl
  | j + 4, h => exact absurd h (by omega)
theorem df10 : ∀ j, j < 2 → defaultValue (tyX10 j) = dfl (fk 9 j) := by
  intro j hj
  match j, hj with
  | 0, _ => rfl
  | 1, _ => rfl
  | j + 2, h => exact absurd h (by omega)
theorem df11 : ∀ j, j < 4 → defaultValue (tyX11 j) = dfl (fk 10 j) := by
  intro j hj
  match j, hj with
  | 0, _ => rfl
  | 1, _ => rfl
  | 2, _ => rfl
  | 3, _ => rfl
  | j + 4, h => exact absurd h (by omega)
theorem df12 : ∀ j, j < 15 → defaultValue (tyX12 j) = dfl (fk 11 j) := by
  intro j hj
  match j, hj with
  | 0, _ => rfl
  | 1, _ => rfl
  | 2, _ => rfl
  | 3, _ => rfl
  | 4, _ => rfl
  | 5, _ => rfl
  | 6, _ => rfl
  | 7, _ => rfl
  | 8, _ => rfl
  | 9, _ => rfl
  | 10, _ => rfl
  | 11, _ => rfl
  | 12, _ => rfl
  | 13, _ => rfl
  | 14, _ => rfl
  | j + 15, h => exact absurd h (by omega)
theorem df13 : ∀ j, j < 30 → defaultValue (tyX13 j) = dfl (fk 12 j) := by
  intro j hj
  match j, hj with
  | 0, _ => rfl
  | 1, _ => rfl
  | 2, _ => rfl
  | 3, _ => rfl
  | 4, _ => rfl
  | 5, _ => rfl
  | 6, _ => rfl
  | 7, _ => rfl
  | 8, _ => rfl
  | 9, _ => rfl
  | 10, _ => rfl
  | 11, _ => rfl
  | 12, _ => rfl
  | 13, _ => rfl
  | 14, _ => rfl
  | 15, _ => rfl
  | 16, _ => rfl
  | 17, _ => rfl
  | 18, _ => rfl
  | 19, _ => rfl
  | 20, _ => rfl
  | 21, _ => rfl
  | 22, _ => rfl
  | 23, _ => rfl
  | 24, _ => rfl
  | 25, _ => rfl
  | 26, _ => rfl
  | 27, _ => rfl
  | 28, _ => rfl
  | 29, _ => rfl
  | j + 30, h => exact absurd h (by omega)
theorem df14 : ∀ j, j < 163 → defaultValue (tyX14 j) = dfl (fk 13 j) := by
  intro j hj
  match j, hj with
  | 0, _ => rfl
  | 1, _ => rfl
  | 2, _ => rfl
  | 3, _ => rfl
  | 4, _ => rfl
  | 5, _ => rfl
  | 6, _ => rfl
  | 7, _ => rfl
  | 8, _ => rfl
  | 9, _ => rfl
  | 10, _ => rfl
  | 11, _ => rfl
  | 12, _ => rfl
  | 13, _ => rfl
  | 14, _ => rfl
  | 15, _ => rfl
  | 16, _ => rfl
  | 17, _ => rfl
  | 18, _ => rfl
  | 19, _ => rfl
  | 20, _ => rfl
  | 21, _ => rfl
  | 22, _ => rfl
  | 23, _ => rfl
  | 24, _ => rfl
  | 25, _ => rfl
  | 26, _ => rfl
  | 27, _ => rfl
  | 28, _ => rfl
  | 29, _ => rfl
  | 30, _ => rfl
  | 31, _ => rfl
  | 32, _ => rfl
  | 33, _ => rfl
  | 34, _ => rfl
  | 35, _ => rfl
  | 36, _ => rfl
  | 37, _ => rfl
  | 38, _ => rfl
  | 39, _ => rfl
  | 40, _ => rfl
  | 41, _ => rfl
  | 42, _ => rfl
  | 43, _ => rfl
  | 44, _ => rfl
  | 45, _ => rfl
  | 46, _ => rfl
  | 47, _ => rfl
  | 48, _ => rfl
  | 49, _ => rfl
  | 50, _ => rfl
  | 51, _ => rfl
  | 52, _ => rfl
  | 53, _ => rfl
  | 54, _ => rfl
  | 55, _ => rfl
  | 56, _ => rfl
  | 57, _ => rfl
  | 58, _ => rfl
  | 59, _ => rfl
  | 60, _ => rfl
  | 61, _ => rfl
  | 62, _ => rfl
  | 63, _ => rfl
  | 64, _ => rfl
  | 65, _ => rfl
  | 66, _ => rfl
  | 67, _ => rfl
  | 68, _ => rfl
  | 69, _ => rfl
  | 70, _ => rfl
  | 71, _ => rfl
  | 72, _ => rfl
  | 73, _ => rfl
  | 74, _ => rfl
  | 75, _ => rfl
  | 76, _ => rfl
  | 77, _ => rfl
  | 78, _ => rfl
  | 79, _ => rfl
  | 80, _ => rfl
  | 81, _ => rfl
  | 82, _ => rfl
  | 83, _ => rfl
  | 84, _ => rfl
  | 85, _ => rfl
  | 86, _ => rfl
  | 87, _ => rfl
  | 88, _ => rfl
  | 89, _ => rfl
  | 90, _ => rfl
  | 91, _ => rfl
  | 92, _ => rfl
  | 93, _ => rfl
  | 94, _ => rfl
  | 95, _ => rfl
  | 96, _ => rfl
  | 97, _ => rfl
  | 98, _ => rfl
  | 99, _ => rfl
  | 100, _ => rfl
  | 101, _ => rfl
  | 102, _ => rfl
  | 103, _ => rfl
  | 104, _ => rfl
  | 105, _ => rfl
  | 106, _ => rfl
  | 107, _ => rfl
  | 108, _ => rfl
  | 109, _ => rfl
  | 110, _ => rfl
  | 111, _ => rfl
  | 112, _ => rfl
  | 113, _ => rfl
  | 114, _ => rfl
  | 115, _ => rfl
  | 116, _ => rfl
  | 117, _ => rfl
  | 118, _ => rfl
  | 119, _ => rfl
  | 120, _ => rfl
  | 121, _ => rfl
  | 122, _ => rfl
  | 123, _ => rfl
  | 124, _ => rfl
  | 125, _ => rfl
  | 126, _ => rfl
  | 127, _ => rfl
  | 128, _ => rfl
  | 129, _ => rfl
  | 130, _ => rfl
  | 131, _ => rfl
  | 132, _ => rfl
  | 133, _ => rfl
  | 134, _ => rfl
  | 135, _ => rfl
  | 136, _ => rfl
  | 137, _ => rfl
  | 138, _ => rfl
  | 139, _ => rfl
  | 140, _ => rfl
  | 141, _ => rfl
  | 142, _ => rfl
  | 143, _ => rfl
  | 144, _ => rfl
  | 145, _ => rfl
  | 146, _ => rfl
  | 147, _ => rfl
  | 148, _ => rfl
  | 149, _ => rfl
  | 150, _ => rfl
  | 151, _ => rfl
  | 152, _ => rfl
  | 153, _ => rfl
  | 154, _ => rfl
  | 155, _ => rfl
  | 156, _ => rfl
  | 157, _ => rfl
  | 158, _ => rfl
  | 159, _ => rfl
  | 160, _ => rfl
  | 161, _ => rfl
  | 162, _ => rfl
  | j + 163, h => exact absurd h (by omega)
theorem yk_X1_init : yOk yX1_init 0 := ⟨by decide, by decide, by decide +kernel⟩
theorem yk_X2_init : yOk yX2_init 0 := ⟨by decide, by decide, by decide +kernel⟩
def i_1 (σ : vS) : vS := bmp (sA (σ) 2 (64, fun _ => 0))
def e_1 (E : Nat → Nat → Bool) : Nat → Nat → Bool := eS (E) 1 0
theorem zz_1 {σ : vS} {E : Nat → Nat → Bool} (hz : Zr 2 E σ) : Zr 3 (e_1 E) (i_1 σ) := by
  have z1 := Zr_sA (c := 2) (x := (64, fun _ => 0)) (Zr_new hz (by decide)) (by decide)
  have z2 := Zr_eS (o := 1) (f := 0) (t := 2) z1 (by decide) rfl (by decide)
  exact Zr_bmp z2
theorem k_1 {σ : vS} {E : Nat → Nat → Bool} (hz : Zr 2 E σ) : VCI yX2_init cX2_init 1 1 12 [vO 1] 2 E σ 3 (e_1 E) (i_1 σ) := by
  refine VCI.of RX2 (by decide) rfl (by decide) rfl (by decide) ?_
  show VW cX2_init (cB RX2 (conS (i_1 σ) (pK 3 (e_1 E)) 2) 1 12 1) (pK 2 E) σ 0 [(0, vO 1)] []
  refine v_aload_n dX2_init_0 0 rfl rfl ?_
  refine v_oinit (o := 1) q339 (by decide) (by decide) dX2_init_1 ?_
  refine v_aload_n dX2_init_4 0 rfl rfl ?_
  refine v_bipush dX2_init_5 rfl ?_
  refine v_nA25 hz ⟨rfl, rfl, Or.inr ⟨rfl, rfl, show (2 : Nat) ≤ 2 from by decide⟩⟩ (by decide) rfl (rgl rfl) (by decide) (by decide) (And.intro (Or.inl (by decide)) (trivial)) (And.intro (Or.inl (by decide)) (trivial)) q347 dX2_init_7 ?_
  have z1 := Zr_sA (c := 2) (x := (64, fun _ => 0)) (Zr_new hz (by decide)) (by decide)
  refine v_putS (f := 0) (t := 2) cf2 (by decide) (by decide) rfl rfl rfl (by decide) q340 dX2_init_9 (Or.inl rfl) rfl (fun _ => rfl) (fun _ => rfl) ?_
  have z2 := Zr_eS (o := 1) (f := 0) (t := 2) z1 (by decide) rfl (by decide)
  exact v_cret (by decide) dX2_init_12
def i_3 (σ : vS) : vS := bmp (sA (σ) 4 (64, fun _ => 0))
def e_3 (E : Nat → Nat → Bool) : Nat → Nat → Bool := eS (E) 3 0
theorem zz_3 {σ : vS} {E : Nat → Nat → Bool} (hz : Zr 4 E σ) : Zr 5 (e_3 E) (i_3 σ) := by
  have z1 := Zr_sA (c := 4) (x := (64, fun _ => 0)) (Zr_new hz (by decide)) (by decide)
  have z2 := Zr_eS (o := 3) (f := 0) (t := 4) z1 (by decide) rfl (by decide)
  exact Zr_bmp z2
theorem k_3 {σ : vS} {E : Nat → Nat → Bool} (hz : Zr 4 E σ) : VCI yX2_init cX2_init 1 1 12 [vO 3] 4 E σ 5 (e_3 E) (i_3 σ) := by
  refine VCI.of RX2 (by decide) rfl (by decide) rfl (by decide) ?_
  show VW cX2_init (cB RX2 (conS (i_3 σ) (pK 5 (e_3 E)) 4) 1 12 1) (pK 4 E) σ 0 [(0, vO 3)] []
  refine v_aload_n dX2_init_0 0 rfl rfl ?_
  refine v_oinit (o := 3) q339 (by decide) (by decide) dX2_init_1 ?_
  refine v_aload_n dX2_init_4 0 rfl rfl ?_
  refine v_bipush dX2_init_5 rfl ?_
  refine v_nA25 hz ⟨rfl, rfl, Or.inr ⟨rfl, rfl, show (4 : Nat) ≤ 4 from by decide⟩⟩ (by decide) rfl (rgl rfl) (by decide) (by decide) (And.intro (Or.inl (by decide)) (trivial)) (And.intro (Or.inl (by decide)) (trivial)) q347 dX2_init_7 ?_
  have z1 := Zr_sA (c := 4) (x := (64, fun _ => 0)) (Zr_new hz (by decide)) (by decide)
  refine v_putS (f := 0) (t := 4) cf2 (by decide) (by decide) rfl rfl rfl (by decide) q340 dX2_init_9 (Or.inl rfl) rfl (fun _ => rfl) (fun _ => rfl) ?_
  have z2 := Zr_eS (o := 3) (f := 0) (t := 4) z1 (by decide) rfl (by decide)
  exact v_cret (by decide) dX2_init_12
theorem yk_X3_init : yOk yX3_init 0 := ⟨by decide, by decide, by decide +kernel⟩
def tb_6_40 : List Int := 1 :: 1 :: 1 :: 1 :: 1 :: 1 :: 1 :: 1 :: 1 :: 1 :: 1 :: 1 :: 1 :: 1 :: 1 :: 1 :: 1 :: 1 :: 1 :: 1 :: 1 :: 1 :: 1 :: 1 :: 1 :: 1 :: 1 :: 1 :: 1 :: 1 :: 1 :: 1 :: 1 :: 1 :: 1 :: 1 :: 1 :: 1 :: 1 :: 1 :: []
theorem wt_6_40 {rv : Option vA} {σo : vS} {ret : Option FieldType} {F Lc nL : Nat} {tko : List (Nat × Nat)} {P : vP} {σ : vS} {L : List (Nat × vA)} {st : List vA} (ho : ok P 6 28) (k : VW cX3_init (RX3, rv, σo, ret, F, Lc, nL, tko) P (sA σ 6 (77, tbr 40 tb_6_40)) 250 L (vO 6 :: st)) : VW cX3_init (RX3, rv, σo, ret, F, Lc, nL, tko) P (sA σ 6 (77, tbr 0 [])) 16 L (vO 6 :: st) := by
  refine v_tabS (n := 0) (i := 0) ho (by decide) (by decide) dX3_init_16 (pu_c dX3_init_17) (by decide) rfl rfl dX3_init_18 dX3_init_20 ?_
  refine v_tabS (n := 1) (i := 0) ho (by decide) (by decide) dX3_init_21 (pu_c dX3_init_22) (by decide) rfl rfl dX3_init_23 dX3_init_25 ?_
  refine v_tabS (n := 2) (i := 0) ho (by decide) (by decide) dX3_init_26 (pu_c dX3_init_27) (by decide) rfl rfl dX3_init_28 dX3_init_30 ?_
  refine v_tabS (n := 3) (i := 0) ho (by decide) (by decide) dX3_init_31 (pu_c dX3_init_32) (by decide) rfl rfl dX3_init_33 dX3_init_35 ?_
  refine v_tabS (n := 4) (i := 0) ho (by decide) (by decide) dX3_init_36 (pu_c dX3_init_37) (by decide) rfl rfl dX3_init_38 dX3_init_40 ?_
  refine v_tabS (n := 5) (i := 0) ho (by decide) (by decide) dX3_init_41 (pu_c dX3_init_42) (by decide) rfl rfl dX3_init_43 dX3_init_45 ?_
  refine v_tabS (n := 6) (i := 0) ho (by decide) (by decide) dX3_init_46 (pu_b dX3_init_47 rfl) (by decide) rfl rfl dX3_init_49 dX3_init_51 ?_
  refine v_tabS (n := 7) (i := 0) ho (by decide) (by decide) dX3_init_52 (pu_b dX3_init_53 rfl) (by decide) rfl rfl dX3_init_55 dX3_init_57 ?_
  refine v_tabS (n := 8) (i := 0) ho (by decide) (by decide) dX3_init_58 (pu_b dX3_init_59 rfl) (by decide) rfl rfl dX3_init_61 dX3_init_63 ?_
  refine v_tabS (n := 9) (i := 0) ho (by decide) (by decide) dX3_init_64 (pu_b dX3_init_65 rfl) (by decide) rfl rfl dX3_init_67 dX3_init_69 ?_
  refine v_tabS (n := 10) (i := 0) ho (by decide) (by decide) dX3_init_70 (pu_b dX3_init_71 rfl) (by decide) rfl rfl dX3_init_73 dX3_init_75 ?_
  refine v_tabS (n := 11) (i := 0) ho (by decide) (by decide) dX3_init_76 (pu_b dX3_init_77 rfl) (by decide) rfl rfl dX3_init_79 dX3_init_81 ?_
  refine v_tabS (n := 12) (i := 0) ho (by decide) (by decide) dX3_init_82 (pu_b dX3_init_83 rfl) (by decide) rfl rfl dX3_init_85 dX3_init_87 ?_
  refine v_tabS (n := 13) (i := 0) ho (by decide) (by decide) dX3_init_88 (pu_b dX3_init_89 rfl) (by decide) rfl rfl dX3_init_91 dX3_init_93 ?_
  refine v_tabS (n := 14) (i := 0) ho (by decide) (by decide) dX3_init_94 (pu_b dX3_init_95 rfl) (by decide) rfl rfl dX3_init_97 dX3_init_99 ?_
  refine v_tabS (n := 15) (i := 0) ho (by decide) (by decide) dX3_init_100 (pu_b dX3_init_101 rfl) (by decide) rfl rfl dX3_init_103 dX3_init_105 ?_
  refine v_tabS (n := 16) (i := 0) ho (by decide) (by decide) dX3_init_106 (pu_b dX3_init_107 rfl) (by decide) rfl rfl dX3_init_109 dX3_init_111 ?_
  refine v_tabS (n := 17) (i := 0) ho (by decide) (by decide) dX3_init_112 (pu_b dX3_init_113 rfl) (by decide) rfl rfl dX3_init_115 dX3_init_117 ?_
  refine v_tabS (n := 18) (i := 0) ho (by decide) (by decide) dX3_init_118 (pu_b dX3_init_119 rfl) (by decide) rfl rfl dX3_init_121 dX3_init_123 ?_
  refine v_tabS (n := 19) (i := 0) ho (by decide) (by decide) dX3_init_124 (pu_b dX3_init_125 rfl) (by decide) rfl rfl dX3_init_127 dX3_init_129 ?_
  refine v_tabS (n := 20) (i := 0) ho (by decide) (by decide) dX3_init_130 (pu_b dX3_init_131 rfl) (by decide) rfl rfl dX3_init_133 dX3_init_135 ?_
  refine v_tabS (n := 21) (i := 0) ho (by decide) (by decide) dX3_init_136 (pu_b dX3_init_137 rfl) (by decide) rfl rfl dX3_init_139 dX3_init_141 ?_
  refine v_tabS (n := 22) (i := 0) ho (by decide) (by decide) dX3_init_142 (pu_b dX3_init_143 rfl) (by decide) rfl rfl dX3_init_145 dX3_init_147 ?_
  refine v_tabS (n := 23) (i := 0) ho (by decide) (by decide) dX3_init_148 (pu_b dX3_init_149 rfl) (by decide) rfl rfl dX3_init_151 dX3_init_153 ?_
  refine v_tabS (n := 24) (i := 0) ho (by decide) (by decide) dX3_init_154 (pu_b dX3_init_155 rfl) (by decide) rfl rfl dX3_init_157 dX3_init_159 ?_
  refine v_tabS (n := 25) (i := 0) ho (by decide) (by decide) dX3_init_160 (pu_b dX3_init_161 rfl) (by decide) rfl rfl dX3_init_163 dX3_init_165 ?_
  refine v_tabS (n := 26) (i := 0) ho (by decide) (by decide) dX3_init_166 (pu_b dX3_init_167 rfl) (by decide) rfl rfl dX3_init_169 dX3_init_171 ?_
  refine v_tabS (n := 27) (i := 0) ho (by decide) (by decide) dX3_init_172 (pu_b dX3_init_173 rfl) (by decide) rfl rfl dX3_init_175 dX3_init_177 ?_
  refine v_tabS (n := 28) (i := 0) ho (by decide) (by decide) dX3_init_178 (pu_b dX3_init_179 rfl) (by decide) rfl rfl dX3_init_181 dX3_init_183 ?_
  refine v_tabS (n := 29) (i := 0) ho (by decide) (by decide) dX3_init_184 (pu_b dX3_init_185 rfl) (by decide) rfl rfl dX3_init_187 dX3_init_189 ?_
  refine v_tabS (n := 30) (i := 0) ho (by decide) (by decide) dX3_init_190 (pu_b dX3_init_191 rfl) (by decide) rfl rfl dX3_init_193 dX3_init_195 ?_
  refine v_tabS (n := 31) (i := 0) ho (by decide) (by decide) dX3_init_196 (pu_b dX3_init_197 rfl) (by decide) rfl rfl dX3_init_199 dX3_init_201 ?_
  refine v_tabS (n := 32) (i := 0) ho (by decide) (by decide) dX3_init_202 (pu_b dX3_init_203 rfl) (by decide) rfl rfl dX3_init_205 dX3_init_207 ?_
  refine v_tabS (n := 33) (i := 0) ho (by decide) (by decide) dX3_init_208 (pu_b dX3_init_209 rfl) (by decide) rfl rfl dX3_init_211 dX3_init_213 ?_
  refine v_tabS (n := 34) (i := 0) ho (by decide) (by decide) dX3_init_214 (pu_b dX3_init_215 rfl) (by decide) rfl rfl dX3_init_217 dX3_init_219 ?_
  refine v_tabS (n := 35) (i := 0) ho (by decide) (by decide) dX3_init_220 (pu_b dX3_init_221 rfl) (by decide) rfl rfl dX3_init_223 dX3_init_225 ?_
  refine v_tabS (n := 36) (i := 0) ho (by decide) (by decide) dX3_init_226 (pu_b dX3_init_227 rfl) (by decide) rfl rfl dX3_init_229 dX3_init_231 ?_
  refine v_tabS (n := 37) (i := 0) ho (by decide) (by decide) dX3_init_232 (pu_b dX3_init_233 rfl) (by decide) rfl rfl dX3_init_235 dX3_init_237 ?_
  refine v_tabS (n := 38) (i := 0) ho (by decide) (by decide) dX3_init_238 (pu_b dX3_init_239 rfl) (by decide) rfl rfl dX3_init_241 dX3_init_243 ?_
  refine v_tabS (n := 39) (i := 0) ho (by decide) (by decide) dX3_init_244 (pu_b dX3_init_245 rfl) (by decide) rfl rfl dX3_init_247 dX3_init_249 ?_
  exact k
def tb_6_77 : List Int := 1 :: 1 :: 1 :: 1 :: 1 :: 1 :: 1 :: 1 :: 1 :: 1 :: 1 :: 1 :: 1 :: 1 :: 1 :: 1 :: 1 :: 1 :: 1 :: 1 :: 1 :: 1 :: 1 :: 1 :: 1 :: 1 :: 1 :: 1 :: 1 :: 1 :: 1 :: 1 :: 1 :: 1 :: 1 :: 1 :: 1 :: tb_6_40
theorem wt_6_77 {rv : Option vA} {σo : vS} {ret : Option FieldType} {F Lc nL : Nat} {tko : List (Nat × Nat)} {P : vP} {σ : vS} {L : List (Nat × vA)} {st : List vA} (ho : ok P 6 28) (k : VW cX3_init (RX3, rv, σo, ret, F, Lc, nL, tko) P (sA σ 6 (77, tbr 77 tb_6_77)) 472 L (vO 6 :: st)) : VW cX3_init (RX3, rv, σo, ret, F, Lc, nL, tko) P (sA σ 6 (77, tbr 40 tb_6_40)) 250 L (vO 6 :: st) := by
  refine v_tabS (n := 40) (i := 0) ho (by decide) (by decide) dX3_init_250 (pu_b dX3_init_251 rfl) (by decide) rfl rfl dX3_init_253 dX3_init_255 ?_
  refine v_tabS (n := 41) (i := 0) ho (by decide) (by decide) dX3_init_256 (pu_b dX3_init_257 rfl) (by decide) rfl rfl dX3_init_259 dX3_init_261 ?_
  refine v_tabS (n := 42) (i := 0) ho (by decide) (by decide) dX3_init_262 (pu_b dX3_init_263 rfl) (by decide) rfl rfl dX3_init_265 dX3_init_267 ?_
  refine v_tabS (n := 43) (i := 0) ho (by decide) (by decide) dX3_init_268 (pu_b dX3_init_269 rfl) (by decide) rfl rfl dX3_init_271 dX3_init_273 ?_
  refine v_tabS (n := 44) (i := 0) ho (by decide) (by decide) dX3_init_274 (pu_b dX3_init_275 rfl) (by decide) rfl rfl dX3_init_277 dX3_init_279 ?_
  refine v_tabS (n := 45) (i := 0) ho (by decide) (by decide) dX3_init_280 (pu_b dX3_init_281 rfl) (by decide) rfl rfl dX3_init_283 dX3_init_285 ?_
  refine v_tabS (n := 46) (i := 0) ho (by decide) (by decide) dX3_init_286 (pu_b dX3_init_287 rfl) (by decide) rfl rfl dX3_init_289 dX3_init_291 ?_
  refine v_tabS (n := 47) (i := 0) ho (by decide) (by decide) dX3_init_292 (pu_b dX3_init_293 rfl) (by decide) rfl rfl dX3_init_295 dX3_init_297 ?_
  refine v_tabS (n := 48) (i := 0) ho (by decide) (by decide) dX3_init_298 (pu_b dX3_init_299 rfl) (by decide) rfl rfl dX3_init_301 dX3_init_303 ?_
  refine v_tabS (n := 49) (i := 0) ho (by decide) (by decide) dX3_init_304 (pu_b dX3_init_305 rfl) (by decide) rfl rfl dX3_init_307 dX3_init_309 ?_
  refine v_tabS (n := 50) (i := 0) ho (by decide) (by decide) dX3_init_310 (pu_b dX3_init_311 rfl) (by decide) rfl rfl dX3_init_313 dX3_init_315 ?_
  refine v_tabS (n := 51) (i := 0) ho (by decide) (by decide) dX3_init_316 (pu_b dX3_init_317 rfl) (by decide) rfl rfl dX3_init_319 dX3_init_321 ?_
  refine v_tabS (n := 52) (i := 0) ho (by decide) (by decide) dX3_init_322 (pu_b dX3_init_323 rfl) (by decide) rfl rfl dX3_init_325 dX3_init_327 ?_
  refine v_tabS (n := 53) (i := 0) ho (by decide) (by decide) dX3_init_328 (pu_b dX3_init_329 rfl) (by decide) rfl rfl dX3_init_331 dX3_init_333 ?_
  refine v_tabS (n := 54) (i := 0) ho (by decide) (by decide) dX3_init_334 (pu_b dX3_init_335 rfl) (by decide) rfl rfl dX3_init_337 dX3_init_339 ?_
  refine v_tabS (n := 55) (i := 0) ho (by decide) (by decide) dX3_init_340 (pu_b dX3_init_341 rfl) (by decide) rfl rfl dX3_init_343 dX3_init_345 ?_
  refine v_tabS (n := 56) (i := 0) ho (by decide) (by decide) dX3_init_346 (pu_b dX3_init_347 rfl) (by decide) rfl rfl dX3_init_349 dX3_init_351 ?_
  refine v_tabS (n := 57) (i := 0) ho (by decide) (by decide) dX3_init_352 (pu_b dX3_init_353 rfl) (by decide) rfl rfl dX3_init_355 dX3_init_357 ?_
  refine v_tabS (n := 58) (i := 0) ho (by decide) (by decide) dX3_init_358 (pu_b dX3_init_359 rfl) (by decide) rfl rfl dX3_init_361 dX3_init_363 ?_
  refine v_tabS (n := 59) (i := 0) ho (by decide) (by decide) dX3_init_364 (pu_b dX3_init_365 rfl) (by decide) rfl rfl dX3_init_367 dX3_init_369 ?_
  refine v_tabS (n := 60) (i := 0) ho (by decide) (by decide) dX3_init_370 (pu_b dX3_init_371 rfl) (by decide) rfl rfl dX3_init_373 dX3_init_375 ?_
  refine v_tabS (n := 61) (i := 0) ho (by decide) (by decide) dX3_init_376 (pu_b dX3_init_377 rfl) (by decide) rfl rfl dX3_init_379 dX3_init_381 ?_
  refine v_tabS (n := 62) (i := 0) ho (by decide) (by decide) dX3_init_382 (pu_b dX3_init_383 rfl) (by decide) rfl rfl dX3_init_385 dX3_init_387 ?_
  refine v_tabS (n := 63) (i := 0) ho (by decide) (by decide) dX3_init_388 (pu_b dX3_init_389 rfl) (by decide) rfl rfl dX3_init_391 dX3_init_393 ?_
  refine v_tabS (n := 64) (i := 0) ho (by decide) (by decide) dX3_init_394 (pu_b dX3_init_395 rfl) (by decide) rfl rfl dX3_init_397 dX3_init_399 ?_
  refine v_tabS (n := 65) (i := 0) ho (by decide) (by decide) dX3_init_400 (pu_b dX3_init_401 rfl) (by decide) rfl rfl dX3_init_403 dX3_init_405 ?_
  refine v_tabS (n := 66) (i := 0) ho (by decide) (by decide) dX3_init_406 (pu_b dX3_init_407 rfl) (by decide) rfl rfl dX3_init_409 dX3_init_411 ?_
  refine v_tabS (n := 67) (i := 0) ho (by decide) (by decide) dX3_init_412 (pu_b dX3_init_413 rfl) (by decide) rfl rfl dX3_init_415 dX3_init_417 ?_
  refine v_tabS (n := 68) (i := 0) ho (by decide) (by decide) dX3_init_418 (pu_b dX3_init_419 rfl) (by decide) rfl rfl dX3_init_421 dX3_init_423 ?_
  refine v_tabS (n := 69) (i := 0) ho (by decide) (by decide) dX3_init_424 (pu_b dX3_init_425 rfl) (by decide) rfl rfl dX3_init_427 dX3_init_429 ?_
  refine v_tabS (n := 70) (i := 0) ho (by decide) (by decide) dX3_init_430 (pu_b dX3_init_431 rfl) (by decide) rfl rfl dX3_init_433 dX3_init_435 ?_
  refine v_tabS (n := 71) (i := 0) ho (by decide) (by decide) dX3_init_436 (pu_b dX3_init_437 rfl) (by decide) rfl rfl dX3_init_439 dX3_init_441 ?_
  refine v_tabS (n := 72) (i := 0) ho (by decide) (by decide) dX3_init_442 (pu_b dX3_init_443 rfl) (by decide) rfl rfl dX3_init_445 dX3_init_447 ?_
  refine v_tabS (n := 73) (i := 0) ho (by decide) (by decide) dX3_init_448 (pu_b dX3_init_449 rfl) (by decide) rfl rfl dX3_init_451 dX3_init_453 ?_
  refine v_tabS (n := 74) (i := 0) ho (by decide) (by decide) dX3_init_454 (pu_b dX3_init_455 rfl) (by decide) rfl rfl dX3_init_457 dX3_init_459 ?_
  refine v_tabS (n := 75) (i := 0) ho (by decide) (by decide) dX3_init_460 (pu_b dX3_init_461 rfl) (by decide) rfl rfl dX3_init_463 dX3_init_465 ?_
  refine v_tabS (n := 76) (i := 0) ho (by decide) (by decide) dX3_init_466 (pu_b dX3_init_467 rfl) (by decide) rfl rfl dX3_init_469 dX3_init_471 ?_
  exact k
def i_5 (σ : vS) : vS := bmp (sA (sA (sA (sA (σ) 6 (77, tbr 77 tb_6_77)) 7 (64, fun _ => 0)) 8 (64, fun _ => 0)) 9 (64, fun _ => 0))
def e_5 (E : Nat → Nat → Bool) : Nat → Nat → Bool := eS (eS (eS (eS (eS (E) 5 0) 5 1) 5 4) 5 5) 5 6
theorem zz_5 {σ : vS} {E : Nat → Nat → Bool} (hz : Zr 6 E σ) : Zr 10 (e_5 E) (i_5 σ) := by
  have z1 := Zr_eF (o := 5) (f := 0) hz (by decide) (by decide)
  have z2 := Zr_sA (σ := σ) (c := 6) (x := (77, tbr 77 tb_6_77)) (Zr_new z1 (by decide)) (by decide)
  have z3 := Zr_eS (o := 5) (f := 1) (t := 6) z2 (by decide) rfl (by decide)
  have z4 := Zr_sA (c := 7) (x := (64, fun _ => 0)) (Zr_new z3 (by decide)) (by decide)
  have z5 := Zr_eS (o := 5) (f := 4) (t := 7) z4 (by decide) rfl (by decide)
  have z6 := Zr_sA (c := 8) (x := (64, fun _ => 0)) (Zr_new z5 (by decide)) (by decide)
  have z7 := Zr_eS (o := 5) (f := 5) (t := 8) z6 (by decide) rfl (by decide)
  have z8 := Zr_sA (c := 9) (x := (64, fun _ => 0)) (Zr_new z7 (by decide)) (by decide)
  have z9 := Zr_eS (o := 5) (f := 6) (t := 9) z8 (by decide) rfl (by decide)
  exact Zr_bmp z9
theorem k_5 {σ : vS} {E : Nat → Nat → Bool} (hz : Zr 6 E σ) : VCI yX3_init cX3_init 1 1 12 [vO 5] 6 E σ 10 (e_5 E) (i_5 σ) := by
  refine VCI.of RX3 (by decide) rfl (by decide) rfl (by decide) ?_
  show VW cX3_init (cB RX3 (conS (i_5 σ) (pK 10 (e_5 E)) 6) 1 12 1) (pK 6 E) σ 0 [(0, vO 5)] []
  refine v_aload_n dX3_init_0 0 rfl rfl ?_
  refine v_oinit (o := 5) q353 (by decide) (by decide) dX3_init_1 ?_
  refine v_aload_n dX3_init_4 0 rfl rfl ?_
  refine v_ldcs (i := 77) (by decide) rfl rfl dX3_init_5 ?_
  refine v_putT cf3 (by decide) (by decide) (by decide) q434 dX3_init_7 (Or.inr ⟨rfl, rfl, rfl, rfl, rfl, rfl⟩) rfl (fun _ => rfl) (fun _ => rfl) ?_
  have z1 := Zr_eF (o := 5) (f := 0) hz (by decide) (by decide)
  refine v_aload_n dX3_init_10 0 rfl rfl ?_
  refine v_bipush dX3_init_11 rfl ?_
  refine v_newQ q355 z1 ⟨rfl, rfl, Or.inr ⟨rfl, rfl, show (6 : Nat) ≤ 6 from by decide⟩⟩ (by decide) rfl (rgl rfl) (by decide) (by decide) (And.intro (Or.inl (by decide)) (trivial)) (And.intro (Or.inl (by decide)) (trivial)) dX3_init_13 ?_
  refine v_tb0 ?_
  refine wt_6_40 (ok_K (by decide) (by decide) rfl) ?_
  refine wt_6_77 (ok_K (by decide) (by decide) rfl) ?_
  have z2 := Zr_sA (σ := σ) (c := 6) (x := (77, tbr 77 tb_6_77)) (Zr_new z1 (by decide)) (by decide)
  refine v_putS (f := 1) (t := 6) cf3 (by decide) (by decide) rfl rfl rfl (by decide) q435 dX3_init_472 (Or.inr ⟨rfl, rfl, rfl, rfl, rfl, rfl⟩) rfl (fun _ => rfl) (fun _ => rfl) ?_
  have z3 := Zr_eS (o := 5) (f := 1) (t := 6) z2 (by decide) rfl (by decide)
  refine v_aload_n dX3_init_475 0 rfl rfl ?_
  refine v_bipush dX3_init_476 rfl ?_
  refine v_nA24 z3 ⟨rfl, rfl, Or.inr ⟨rfl, rfl, show (6 : Nat) ≤ 7 from by decide⟩⟩ (by decide) rfl (rgl rfl) (by decide) (by decide) (And.intro (Or.inl (by decide)) (trivial)) (And.intro (Or.inl (by decide)) (trivial)) q459 dX3_init_478 ?_
  have z4 := Zr_sA (c := 7) (x := (64, fun _ => 0)) (Zr_new z3 (by decide)) (by decide)
  refine v_putS (f := 4) (t := 7) cf3 (by decide) (by decide) rfl rfl rfl (by decide) q438 dX3_init_480 (Or.inl rfl) rfl (fun _ => rfl) (fun _ => rfl) ?_
  have z5 := Zr_eS (o := 5) (f := 4) (t := 7) z4 (by decide) rfl (by decide)
  refine v_aload_n dX3_init_483 0 rfl rfl ?_
  refine v_bipush dX3_init_484 rfl ?_
  refine v_nA24 z5 ⟨rfl, rfl, Or.inr ⟨rfl, rfl, show (6 : Nat) ≤ 8 from by decide⟩⟩ (by decide) rfl (rgl rfl) (by decide) (by decide) (And.intro (Or.inl (by decide)) (trivial)) (And.intro (Or.inl (by decide)) (trivial)) q459 dX3_init_486 ?_
  have z6 := Zr_sA (c := 8) (x := (64, fun _ => 0)) (Zr_new z5 (by decide)) (by decide)
  refine v_putS (f := 5) (t := 8) cf3 (by decide) (by decide) rfl rfl rfl (by decide) q439 dX3_init_488 (Or.inl rfl) rfl (fun _ => rfl) (fun _ => rfl) ?_
  have z7 := Zr_eS (o := 5) (f := 5) (t := 8) z6 (by decide) rfl (by decide)
  refine v_aload_n dX3_init_491 0 rfl rfl ?_
  refine v_bipush dX3_init_492 rfl ?_
  refine v_nA24 z7 ⟨rfl, rfl, Or.inr ⟨rfl, rfl, show (6 : Nat) ≤ 9 from by decide⟩⟩ (by decide) rfl (rgl rfl) (by decide) (by decide) (And.intro (Or.inl (by decide)) (trivial)) (And.intro (Or.inl (by decide)) (trivial)) q459 dX3_init_494 ?_
  have z8 := Zr_sA (c := 9) (x := (64, fun _ => 0)) (Zr_new z7 (by decide)) (by decide)
  refine v_putS (f := 6) (t := 9) cf3 (by decide) (by decide) rfl rfl rfl (by decide) q440 dX3_init_496 (Or.inl rfl) rfl (fun _ => rfl) (fun _ => rfl) ?_
  have z9 := Zr_eS (o := 5) (f := 6) (t := 9) z8 (by decide) rfl (by decide)
  exact v_cret (by decide) dX3_init_499
theorem yk_X4_init : yOk yX4_init 0 := ⟨by decide, by decide, by decide +kernel⟩
def i_10 (σ : vS) : vS := bmp (sA (σ) 11 (576, fun _ => 0))
def e_10 (E : Nat → Nat → Bool) : Nat → Nat → Bool := eS (E) 10 0
theorem zz_10 {σ : vS} {E : Nat → Nat → Bool} (hz : Zr 11 E σ) : Zr 12 (e_10 E) (i_10 σ) := by
  have z1 := Zr_sA (c := 11) (x := (576, fun _ => 0)) (Zr_new hz (by decide)) (by decide)
  have z2 := Zr_eS (o := 10) (f := 0) (t := 11) z1 (by decide) rfl (by decide)
  exact Zr_bmp z2
theorem k_10 {σ : vS} {E : Nat → Nat → Bool} (hz : Zr 11 E σ) : VCI yX4_init cX4_init 1 1 12 [vO 10] 11 E σ 12 (e_10 E) (i_10 σ) := by
  refine VCI.of RX4 (by decide) rfl (by decide) rfl (by decide) ?_
  show VW cX4_init (cB RX4 (conS (i_10 σ) (pK 12 (e_10 E)) 11) 1 12 1) (pK 11 E) σ 0 [(0, vO 10)] []
  refine v_aload_n dX4_init_0 0 rfl rfl ?_
  refine v_oinit (o := 10) q465 (by decide) (by decide) dX4_init_1 ?_
  refine v_aload_n dX4_init_4 0 rfl rfl ?_
  refine v_sipush dX4_init_5 rfl ?_
  refine v_nA24 hz ⟨rfl, rfl, Or.inr ⟨rfl, rfl, show (11 : Nat) ≤ 11 from by decide⟩⟩ (by decide) rfl (rgl rfl) (by decide) (by decide) (And.intro (Or.inl (by decide)) (trivial)) (And.intro (Or.inl (by decide)) (trivial)) q459 dX4_init_8 ?_
  have z1 := Zr_sA (c := 11) (x := (576, fun _ => 0)) (Zr_new hz (by decide)) (by decide)
  refine v_putS (f := 0) (t := 11) cf4 (by decide) (by decide) rfl rfl rfl (by decide) q466 dX4_init_10 (Or.inl rfl) rfl (fun _ => rfl) (fun _ => rfl) ?_
  have z2 := Zr_eS (o := 10) (f := 0) (t := 11) z1 (by decide) rfl (by decide)
  exact v_cret (by decide) dX4_init_13
theorem yk_X5_init : yOk yX5_init 1 := ⟨by decide, by decide, by decide +kernel⟩
def i_12 (σ : vS) : vS := bmp (σ)
def e_12 (E : Nat → Nat → Bool) : Nat → Nat → Bool := eS (E) 12 1
theorem zz_12 {σ : vS} {E : Nat → Nat → Bool} (hz : Zr 13 E σ) : Zr 13 (e_12 E) (i_12 σ) := by
  have z1 := Zr_eS (o := 12) (f := 1) (t := 10) hz (by decide) rfl (by decide)
  exact Zr_bmp z1
theorem k_12 {σ : vS} {E : Nat → Nat → Bool} (hz : Zr 13 E σ) : VCI yX5_init cX5_init 2 1 12 [vO 12, vO 10] 13 E σ 13 (e_12 E) (i_12 σ) := by
  refine VCI.of RX5 (by decide) rfl (by decide) rfl (by decide) ?_
  show VW cX5_init (cB RX5 (conS (i_12 σ) (pK 13 (e_12 E)) 13) 1 12 2) (pK 13 E) σ 0 [(0, vO 12), (1, vO 10)] []
  refine v_aload_n dX5_init_0 0 rfl rfl ?_
  refine v_oinit (o := 12) q499 (by decide) (by decide) dX5_init_1 ?_
  refine v_aload_n dX5_init_4 0 rfl rfl ?_
  refine v_aload_n dX5_init_5 1 rfl rfl ?_
  refine v_putS (f := 1) (t := 10) cf5 (by decide) (by decide) rfl rfl rfl (by decide) q501 dX5_init_6 (Or.inr ⟨rfl, rfl, rfl, rfl, rfl, rfl⟩) rfl (fun _ => rfl) (fun _ => rfl) ?_
  have z1 := Zr_eS (o := 12) (f := 1) (t := 10) hz (by decide) rfl (by decide)
  exact v_cret (by decide) dX5_init_9
theorem yk_X6_init : yOk yX6_init 1 := ⟨by decide, by decide, by decide +kernel⟩
theorem yk_X7_init : yOk yX7_init 0 := ⟨by decide, by decide, by decide +kernel⟩
def i_14 (σ : vS) : vS := bmp (sA (σ) 15 (8, fun _ => 0))
def e_14 (E : Nat → Nat → Bool) : Nat → Nat → Bool := eS (E) 14 0
theorem zz_14 {σ : vS} {E : Nat → Nat → Bool} (hz : Zr 15 E σ) : Zr 16 (e_14 E) (i_14 σ) := by
  have z1 := Zr_sA (c := 15) (x := (8, fun _ => 0)) (Zr_new hz (by decide)) (by decide)
  have z2 := Zr_eS (o := 14) (f := 0) (t := 15) z1 (by decide) rfl (by decide)
  exact Zr_bmp z2
theorem k_14 {σ : vS} {E : Nat → Nat → Bool} (hz : Zr 15 E σ) : VCI yX7_init cX7_init 1 1 12 [vO 14] 15 E σ 16 (e_14 E) (i_14 σ) := by
  refine VCI.of RX7 (by decide) rfl (by decide) rfl (by decide) ?_
  show VW cX7_init (cB RX7 (conS (i_14 σ) (pK 16 (e_14 E)) 15) 1 12 1) (pK 15 E) σ 0 [(0, vO 14)] []
  refine v_aload_n dX7_init_0 0 rfl rfl ?_
  refine v_oinit (o := 14) q527 (by decide) (by decide) dX7_init_1 ?_
  refine v_aload_n dX7_init_4 0 rfl rfl ?_
  refine v_bipush dX7_init_5 rfl ?_
  refine v_nA24 hz ⟨rfl, rfl, Or.inr ⟨rfl, rfl, show (15 : Nat) ≤ 15 from by decide⟩⟩ (by decide) rfl (rgl rfl) (by decide) (by decide) (And.intro (Or.inl (by decide)) (trivial)) (And.intro (Or.inl (by decide)) (trivial)) q459 dX7_init_7 ?_
  have z1 := Zr_sA (c := 15) (x := (8, fun _ => 0)) (Zr_new hz (by decide)) (by decide)
  refine v_putS (f := 0) (t := 15) cf7 (by decide) (by decide) rfl rfl rfl (by decide) q528 dX7_init_9 (Or.inl rfl) rfl (fun _ => rfl) (fun _ => rfl) ?_
  have z2 := Zr_eS (o := 14) (f := 0) (t := 15) z1 (by decide) rfl (by decide)
  exact v_cret (by decide) dX7_init_12
theorem yk_X8_init : yOk yX8_init 0 := ⟨by decide, by decide, by decide +kernel⟩
def i_17 (σ : vS) : vS := bmp (sA (σ) 18 (64, fun _ => 0))
def e_17 (E : Nat → Nat → Bool) : Nat → Nat → Bool := eS (E) 17 0
theorem zz_17 {σ : vS} {E : Nat → Nat → Bool} (hz : Zr 18 E σ) : Zr 19 (e_17 E) (i_17 σ) := by
  have z1 := Zr_sA (c := 18) (x := (64, fun _ => 0)) (Zr_new hz (by decide)) (by decide)
  have z2 := Zr_eS (o := 17) (f := 0) (t := 18) z1 (by decide) rfl (by decide)
  exact Zr_bmp z2
theorem k_17 {σ : vS} {E : Nat → Nat → Bool} (hz : Zr 18 E σ) : VCI yX2_init cX2_init 1 1 12 [vO 17] 18 E σ 19 (e_17 E) (i_17 σ) := by
  refine VCI.of RX2 (by decide) rfl (by decide) rfl (by decide) ?_
  show VW cX2_init (cB RX2 (conS (i_17 σ) (pK 19 (e_17 E)) 18) 1 12 1) (pK 18 E) σ 0 [(0, vO 17)] []
  refine v_aload_n dX2_init_0 0 rfl rfl ?_
  refine v_oinit (o := 17) q339 (by decide) (by decide) dX2_init_1 ?_
  refine v_aload_n dX2_init_4 0 rfl rfl ?_
  refine v_bipush dX2_init_5 rfl ?_
  refine v_nA25 hz ⟨rfl, rfl, Or.inr ⟨rfl, rfl, show (18 : Nat) ≤ 18 from by decide⟩⟩ (by decide) rfl (rgl rfl) (by decide) (by decide) (And.intro (Or.inl (by decide)) (trivial)) (And.intro (Or.inl (by decide)) (trivial)) q347 dX2_init_7 ?_
  have z1 := Zr_sA (c := 18) (x := (64, fun _ => 0)) (Zr_new hz (by decide)) (by decide)
  refine v_putS (f := 0) (t := 18) cf2 (by decide) (by decide) rfl rfl rfl (by decide) q340 dX2_init_9 (Or.inl rfl) rfl (fun _ => rfl) (fun _ => rfl) ?_
  have z2 := Zr_eS (o := 17) (f := 0) (t := 18) z1 (by decide) rfl (by decide)
  exact v_cret (by decide) dX2_init_12
def i_16 (σ : vS) : vS := bmp (bmp (i_17 (σ)))
def e_16 (E : Nat → Nat → Bool) : Nat → Nat → Bool := eS (e_17 (E)) 16 9
theorem zz_16 {σ : vS} {E : Nat → Nat → Bool} (hz : Zr 17 E σ) : Zr 19 (e_16 E) (i_16 σ) := by
  have z1 := Zr_new hz (by decide)
  have z2 := Zr_bmp (zz_17 z1)
  have z3 := Zr_eS (o := 16) (f := 9) (t := 17) z2 (by decide) rfl (by decide)
  exact Zr_bmp z3
theorem k_16 {σ : vS} {E : Nat → Nat → Bool} (hz : Zr 17 E σ) : VCI yX8_init cX8_init 1 2 32 [vO 16] 17 E σ 19 (e_16 E) (i_16 σ) := by
  refine VCI.of RX8 (by decide) rfl (by decide) rfl (by decide) ?_
  show VW cX8_init (cB RX8 (conS (i_16 σ) (pK 19 (e_16 E)) 17) 2 32 1) (pK 17 E) σ 0 [(0, vO 16)] []
  refine v_aload_n dX8_init_0 0 rfl rfl ?_
  refine v_oinit (o := 16) q540 (by decide) (by decide) dX8_init_1 ?_
  refine v_aload_n dX8_init_4 0 rfl rfl ?_
  refine v_newO cf2 df2 hz ⟨rfl, rfl, Or.inr ⟨rfl, rfl, show (17 : Nat) ≤ 17 from by decide⟩⟩ (by decide) rfl q541 q335 q299 (And.intro (Or.inl (by decide)) (trivial)) (And.intro (Or.inl (by decide)) (trivial)) dX8_init_5 ?_
  have z1 := Zr_new hz (by decide)
  refine v_dupO dX8_init_8 ?_
  refine v_callIN (st := [vO 17, vO 16]) (k_17 z1) (zz_17 z1) (by decide) (by decide) ⟨rfl, rfl, Or.inr ⟨rfl, rfl, show (17 : Nat) ≤ 18 from by decide⟩⟩ (And.intro (Or.inl ⟨by decide, by decide⟩) (trivial)) (And.intro (Or.inl ⟨by decide, by decide⟩) (And.intro (Or.inl ⟨by decide, by decide⟩) (trivial))) rfl q338 q299 q542 q337 rfl yk_X2_init ⟨Nat.le_of_ble_eq_true rfl, Nat.le_of_ble_eq_true rfl⟩ (by decide) dX8_init_9 ?_
  have z2 := Zr_bmp (zz_17 z1)
  refine v_putS (f := 9) (t := 17) cf8 (by decide) (by decide) rfl rfl rfl (by decide) q552 dX8_init_12 (Or.inr ⟨rfl, rfl, rfl, rfl, rfl, rfl⟩) rfl (fun _ => rfl) (fun _ => rfl) ?_
  have z3 := Zr_eS (o := 16) (f := 9) (t := 17) z2 (by decide) rfl (by decide)
  exact v_cret (by decide) dX8_init_15
theorem yk_X9_init : yOk yX9_init 0 := ⟨by decide, by decide, by decide +kernel⟩
def i_19 (σ : vS) : vS := bmp (sA (sA (σ) 20 (256, fun _ => 0)) 21 (256, fun _ => 0))
def e_19 (E : Nat → Nat → Bool) : Nat → Nat → Bool := eS (eS (E) 19 1) 19 2
theorem zz_19 {σ : vS} {E : Nat → Nat → Bool} (hz : Zr 20 E σ) : Zr 22 (e_19 E) (i_19 σ) := by
  have z1 := Zr_sA (c := 20) (x := (256, fun _ => 0)) (Zr_new hz (by decide)) (by decide)
  have z2 := Zr_eS (o := 19) (f := 1) (t := 20) z1 (by decide) rfl (by decide)
  have z3 := Zr_sA (c := 21) (x := (256, fun _ => 0)) (Zr_new z2 (by decide)) (by decide)
  have z4 := Zr_eS (o := 19) (f := 2) (t := 21) z3 (by decide) rfl (by decide)
  exact Zr_bmp z4
theorem k_19 {σ : vS} {E : Nat → Nat → Bool} (hz : Zr 20 E σ) : VCI yX9_init cX9_init 1 1 12 [vO 19] 20 E σ 22 (e_19 E) (i_19 σ) := by
  refine VCI.of RX9 (by decide) rfl (by decide) rfl (by decide) ?_
  show VW cX9_init (cB RX9 (conS (i_19 σ) (pK 22 (e_19 E)) 20) 1 12 1) (pK 20 E) σ 0 [(0, vO 19)] []
  refine v_aload_n dX9_init_0 0 rfl rfl ?_
  refine v_oinit (o := 19) q579 (by decide) (by decide) dX9_init_1 ?_
  refine v_aload_n dX9_init_4 0 rfl rfl ?_
  refine v_sipush dX9_init_5 rfl ?_
  refine v_nA24 hz ⟨rfl, rfl, Or.inr ⟨rfl, rfl, show (20 : Nat) ≤ 20 from by decide⟩⟩ (by decide) rfl (rgl rfl) (by decide) (by decide) (And.intro (Or.inl (by decide)) (trivial)) (And.intro (Or.inl (by decide)) (trivial)) q459 dX9_init_8 ?_
  have z1 := Zr_sA (c := 20) (x := (256, fun _ => 0)) (Zr_new hz (by decide)) (by decide)
  refine v_putS (f := 1) (t := 20) cf9 (by decide) (by decide) rfl rfl rfl (by decide) q581 dX9_init_10 (Or.inl rfl) rfl (fun _ => rfl) (fun _ => rfl) ?_
  have z2 := Zr_eS (o := 19) (f := 1) (t := 20) z1 (by decide) rfl (by decide)
  refine v_aload_n dX9_init_13 0 rfl rfl ?_
  refine v_sipush dX9_init_14 rfl ?_
  refine v_nA24 z2 ⟨rfl, rfl, Or.inr ⟨rfl, rfl, show (20 : Nat) ≤ 21 from by decide⟩⟩ (by decide) rfl (rgl rfl) (by decide) (by decide) (And.intro (Or.inl (by decide)) (trivial)) (And.intro (Or.inl (by decide)) (trivial)) q459 dX9_init_17 ?_
  have z3 := Zr_sA (c := 21) (x := (256, fun _ => 0)) (Zr_new z2 (by decide)) (by decide)
  refine v_putS (f := 2) (t := 21) cf9 (by decide) (by decide) rfl rfl rfl (by decide) q582 dX9_init_19 (Or.inl rfl) rfl (fun _ => rfl) (fun _ => rfl) ?_
  have z4 := Zr_eS (o := 19) (f := 2) (t := 21) z3 (by decide) rfl (by decide)
  exact v_cret (by decide) dX9_init_22
def i_22 (σ : vS) : vS := bmp (sA (sA (σ) 23 (256, fun _ => 0)) 24 (256, fun _ => 0))
def e_22 (E : Nat → Nat → Bool) : Nat → Nat → Bool := eS (eS (E) 22 1) 22 2
theorem zz_22 {σ : vS} {E : Nat → Nat → Bool} (hz : Zr 23 E σ) : Zr 25 (e_22 E) (i_22 σ) := by
  have z1 := Zr_sA (c := 23) (x := (256, fun _ => 0)) (Zr_new hz (by decide)) (by decide)
  have z2 := Zr_eS (o := 22) (f := 1) (t := 23) z1 (by decide) rfl (by decide)
  have z3 := Zr_sA (c := 24) (x := (256, fun _ => 0)) (Zr_new z2 (by decide)) (by decide)
  have z4 := Zr_eS (o := 22) (f := 2) (t := 24) z3 (by decide) rfl (by decide)
  exact Zr_bmp z4
theorem k_22 {σ : vS} {E : Nat → Nat → Bool} (hz : Zr 23 E σ) : VCI yX9_init cX9_init 1 1 12 [vO 22] 23 E σ 25 (e_22 E) (i_22 σ) := by
  refine VCI.of RX9 (by decide) rfl (by decide) rfl (by decide) ?_
  show VW cX9_init (cB RX9 (conS (i_22 σ) (pK 25 (e_22 E)) 23) 1 12 1) (pK 23 E) σ 0 [(0, vO 22)] []
  refine v_aload_n dX9_init_0 0 rfl rfl ?_
  refine v_oinit (o := 22) q579 (by decide) (by decide) dX9_init_1 ?_
  refine v_aload_n dX9_init_4 0 rfl rfl ?_
  refine v_sipush dX9_init_5 rfl ?_
  refine v_nA24 hz ⟨rfl, rfl, Or.inr ⟨rfl, rfl, show (23 : Nat) ≤ 23 from by decide⟩⟩ (by decide) rfl (rgl rfl) (by decide) (by decide) (And.intro (Or.inl (by decide)) (trivial)) (And.intro (Or.inl (by decide)) (trivial)) q459 dX9_init_8 ?_
  have z1 := Zr_sA (c := 23) (x := (256, fun _ => 0)) (Zr_new hz (by decide)) (by decide)
  refine v_putS (f := 1) (t := 23) cf9 (by decide) (by decide) rfl rfl rfl (by decide) q581 dX9_init_10 (Or.inl rfl) rfl (fun _ => rfl) (fun _ => rfl) ?_
  have z2 := Zr_eS (o := 22) (f := 1) (t := 23) z1 (by decide) rfl (by decide)
  refine v_aload_n dX9_init_13 0 rfl rfl ?_
  refine v_sipush dX9_init_14 rfl ?_
  refine v_nA24 z2 ⟨rfl, rfl, Or.inr ⟨rfl, rfl, show (23 : Nat) ≤ 24 from by decide⟩⟩ (by decide) rfl (rgl rfl) (by decide) (by decide) (And.intro (Or.inl (by decide)) (trivial)) (And.intro (Or.inl (by decide)) (trivial)) q459 dX9_init_17 ?_
  have z3 := Zr_sA (c := 24) (x := (256, fun _ => 0)) (Zr_new z2 (by decide)) (by decide)
  refine v_putS (f := 2) (t := 24) cf9 (by decide) (by decide) rfl rfl rfl (by decide) q582 dX9_init_19 (Or.inl rfl) rfl (fun _ => rfl) (fun _ => rfl) ?_
  have z4 := Zr_eS (o := 22) (f := 2) (t := 24) z3 (by decide) rfl (by decide)
  exact v_cret (by decide) dX9_init_22
def i_25 (σ : vS) : vS := bmp (sA (sA (σ) 26 (256, fun _ => 0)) 27 (256, fun _ => 0))
def e_25 (E : Nat → Nat → Bool) : Nat → Nat → Bool := eS (eS (E) 25 1) 25 2
theorem zz_25 {σ : vS} {E : Nat → Nat → Bool} (hz : Zr 26 E σ) : Zr 28 (e_25 E) (i_25 σ) := by
  have z1 := Zr_sA (c := 26) (x := (256, fun _ => 0)) (Zr_new hz (by decide)) (by decide)
  have z2 := Zr_eS (o := 25) (f := 1) (t := 26) z1 (by decide) rfl (by decide)
  have z3 := Zr_sA (c := 27) (x := (256, fun _ => 0)) (Zr_new z2 (by decide)) (by decide)
  have z4 := Zr_eS (o := 25) (f := 2) (t := 27) z3 (by decide) rfl (by decide)
  exact Zr_bmp z4
theorem k_25 {σ : vS} {E : Nat → Nat → Bool} (hz : Zr 26 E σ) : VCI yX9_init cX9_init 1 1 12 [vO 25] 26 E σ 28 (e_25 E) (i_25 σ) := by
  refine VCI.of RX9 (by decide) rfl (by decide) rfl (by decide) ?_
  show VW cX9_init (cB RX9 (conS (i_25 σ) (pK 28 (e_25 E)) 26) 1 12 1) (pK 26 E) σ 0 [(0, vO 25)] []
  refine v_aload_n dX9_init_0 0 rfl rfl ?_
  refine v_oinit (o := 25) q579 (by decide) (by decide) dX9_init_1 ?_
  refine v_aload_n dX9_init_4 0 rfl rfl ?_
  refine v_sipush dX9_init_5 rfl ?_
  refine v_nA24 hz ⟨rfl, rfl, Or.inr ⟨rfl, rfl, show (26 : Nat) ≤ 26 from by decide⟩⟩ (by decide) rfl (rgl rfl) (by decide) (by decide) (And.intro (Or.inl (by decide)) (trivial)) (And.intro (Or.inl (by decide)) (trivial)) q459 dX9_init_8 ?_
  have z1 := Zr_sA (c := 26) (x := (256, fun _ => 0)) (Zr_new hz (by decide)) (by decide)
  refine v_putS (f := 1) (t := 26) cf9 (by decide) (by decide) rfl rfl rfl (by decide) q581 dX9_init_10 (Or.inl rfl) rfl (fun _ => rfl) (fun _ => rfl) ?_
  have z2 := Zr_eS (o := 25) (f := 1) (t := 26) z1 (by decide) rfl (by decide)
  refine v_aload_n dX9_init_13 0 rfl rfl ?_
  refine v_sipush dX9_init_14 rfl ?_
  refine v_nA24 z2 ⟨rfl, rfl, Or.inr ⟨rfl, rfl, show (26 : Nat) ≤ 27 from by decide⟩⟩ (by decide) rfl (rgl rfl) (by decide) (by decide) (And.intro (Or.inl (by decide)) (trivial)) (And.intro (Or.inl (by decide)) (trivial)) q459 dX9_init_17 ?_
  have z3 := Zr_sA (c := 27) (x := (256, fun _ => 0)) (Zr_new z2 (by decide)) (by decide)
  refine v_putS (f := 2) (t := 27) cf9 (by decide) (by decide) rfl rfl rfl (by decide) q582 dX9_init_19 (Or.inl rfl) rfl (fun _ => rfl) (fun _ => rfl) ?_
  have z4 := Zr_eS (o := 25) (f := 2) (t := 27) z3 (by decide) rfl (by decide)
  exact v_cret (by decide) dX9_init_22
theorem yk_X10_init : yOk yX10_init 0 := ⟨by decide, by decide, by decide +kernel⟩
def i_28 (σ : vS) : vS := bmp (sA (σ) 29 (64, fun _ => 0))
def e_28 (E : Nat → Nat → Bool) : Nat → Nat → Bool := eS (E) 28 0
theorem zz_28 {σ : vS} {E : Nat → Nat → Bool} (hz : Zr 29 E σ) : Zr 30 (e_28 E) (i_28 σ) := by
  have z1 := Zr_sA (c := 29) (x := (64, fun _ => 0)) (Zr_new hz (by decide)) (by decide)
  have z2 := Zr_eS (o := 28) (f := 0) (t := 29) z1 (by decide) rfl (by decide)
  exact Zr_bmp z2
theorem k_28 {σ : vS} {E : Nat → Nat → Bool} (hz : Zr 29 E σ) : VCI yX10_init cX10_init 1 1 12 [vO 28] 29 E σ 30 (e_28 E) (i_28 σ) := by
  refine VCI.of RX10 (by decide) rfl (by decide) rfl (by decide) ?_
  show VW cX10_init (cB RX10 (conS (i_28 σ) (pK 30 (e_28 E)) 29) 1 12 1) (pK 29 E) σ 0 [(0, vO 28)] []
  refine v_aload_n dX10_init_0 0 rfl rfl ?_
  refine v_oinit (o := 28) q598 (by decide) (by decide) dX10_init_1 ?_
  refine v_aload_n dX10_init_4 0 rfl rfl ?_
  refine v_bipush dX10_init_5 rfl ?_
  refine v_nA24 hz ⟨rfl, rfl, Or.inr ⟨rfl, rfl, show (29 : Nat) ≤ 29 from by decide⟩⟩ (by decide) rfl (rgl rfl) (by decide) (by decide) (And.intro (Or.inl (by decide)) (trivial)) (And.intro (Or.inl (by decide)) (trivial)) q459 dX10_init_7 ?_
  have z1 := Zr_sA (c := 29) (x := (64, fun _ => 0)) (Zr_new hz (by decide)) (by decide)
  refine v_putS (f := 0) (t := 29) cf10 (by decide) (by decide) rfl rfl rfl (by decide) q599 dX10_init_9 (Or.inl rfl) rfl (fun _ => rfl) (fun _ => rfl) ?_
  have z2 := Zr_eS (o := 28) (f := 0) (t := 29) z1 (by decide) rfl (by decide)
  exact v_cret (by decide) dX10_init_12
def i_30 (σ : vS) : vS := bmp (sA (σ) 31 (64, fun _ => 0))
def e_30 (E : Nat → Nat → Bool) : Nat → Nat → Bool := eS (E) 30 0
theorem zz_30 {σ : vS} {E : Nat → Nat → Bool} (hz : Zr 31 E σ) : Zr 32 (e_30 E) (i_30 σ) := by
  have z1 := Zr_sA (c := 31) (x := (64, fun _ => 0)) (Zr_new hz (by decide)) (by decide)
  have z2 := Zr_eS (o := 30) (f := 0) (t := 31) z1 (by decide) rfl (by decide)
  exact Zr_bmp z2
theorem k_30 {σ : vS} {E : Nat → Nat → Bool} (hz : Zr 31 E σ) : VCI yX2_init cX2_init 1 1 12 [vO 30] 31 E σ 32 (e_30 E) (i_30 σ) := by
  refine VCI.of RX2 (by decide) rfl (by decide) rfl (by decide) ?_
  show VW cX2_init (cB RX2 (conS (i_30 σ) (pK 32 (e_30 E)) 31) 1 12 1) (pK 31 E) σ 0 [(0, vO 30)] []
  refine v_aload_n dX2_init_0 0 rfl rfl ?_
  refine v_oinit (o := 30) q339 (by decide) (by decide) dX2_init_1 ?_
  refine v_aload_n dX2_init_4 0 rfl rfl ?_
  refine v_bipush dX2_init_5 rfl ?_
  refine v_nA25 hz ⟨rfl, rfl, Or.inr ⟨rfl, rfl, show (31 : Nat) ≤ 31 from by decide⟩⟩ (by decide) rfl (rgl rfl) (by decide) (by decide) (And.intro (Or.inl (by decide)) (trivial)) (And.intro (Or.inl (by decide)) (trivial)) q347 dX2_init_7 ?_
  have z1 := Zr_sA (c := 31) (x := (64, fun _ => 0)) (Zr_new hz (by decide)) (by decide)
  refine v_putS (f := 0) (t := 31) cf2 (by decide) (by decide) rfl rfl rfl (by decide) q340 dX2_init_9 (Or.inl rfl) rfl (fun _ => rfl) (fun _ => rfl) ?_
  have z2 := Zr_eS (o := 30) (f := 0) (t := 31) z1 (by decide) rfl (by decide)
  exact v_cret (by decide) dX2_init_12
def i_32 (σ : vS) : vS := bmp (sA (σ) 33 (64, fun _ => 0))
def e_32 (E : Nat → Nat → Bool) : Nat → Nat → Bool := eS (E) 32 0
theorem zz_32 {σ : vS} {E : Nat → Nat → Bool} (hz : Zr 33 E σ) : Zr 34 (e_32 E) (i_32 σ) := by
  have z1 := Zr_sA (c := 33) (x := (64, fun _ => 0)) (Zr_new hz (by decide)) (by decide)
  have z2 := Zr_eS (o := 32) (f := 0) (t := 33) z1 (by decide) rfl (by decide)
  exact Zr_bmp z2
theorem k_32 {σ : vS} {E : Nat → Nat → Bool} (hz : Zr 33 E σ) : VCI yX2_init cX2_init 1 1 12 [vO 32] 33 E σ 34 (e_32 E) (i_32 σ) := by
  refine VCI.of RX2 (by decide) rfl (by decide) rfl (by decide) ?_
  show VW cX2_init (cB RX2 (conS (i_32 σ) (pK 34 (e_32 E)) 33) 1 12 1) (pK 33 E) σ 0 [(0, vO 32)] []
  refine v_aload_n dX2_init_0 0 rfl rfl ?_
  refine v_oinit (o := 32) q339 (by decide) (by decide) dX2_init_1 ?_
  refine v_aload_n dX2_init_4 0 rfl rfl ?_
  refine v_bipush dX2_init_5 rfl ?_
  refine v_nA25 hz ⟨rfl, rfl, Or.inr ⟨rfl, rfl, show (33 : Nat) ≤ 33 from by decide⟩⟩ (by decide) rfl (rgl rfl) (by decide) (by decide) (And.intro (Or.inl (by decide)) (trivial)) (And.intro (Or.inl (by decide)) (trivial)) q347 dX2_init_7 ?_
  have z1 := Zr_sA (c := 33) (x := (64, fun _ => 0)) (Zr_new hz (by decide)) (by decide)
  refine v_putS (f := 0) (t := 33) cf2 (by decide) (by decide) rfl rfl rfl (by decide) q340 dX2_init_9 (Or.inl rfl) rfl (fun _ => rfl) (fun _ => rfl) ?_
  have z2 := Zr_eS (o := 32) (f := 0) (t := 33) z1 (by decide) rfl (by decide)
  exact v_cret (by decide) dX2_init_12
theorem yk_X11_init : yOk yX11_init 1 := ⟨by decide, by decide, by decide +kernel⟩
def i_43 (σ : vS) : vS := bmp (σ)
def e_43 (E : Nat → Nat → Bool) : Nat → Nat → Bool := eS (E) 43 0
theorem zz_43 {σ : vS} {E : Nat → Nat → Bool} (hz : Zr 44 E σ) : Zr 44 (e_43 E) (i_43 σ) := by
  have z1 := Zr_eS (o := 43) (f := 0) (t := 14) hz (by decide) rfl (by decide)
  exact Zr_bmp z1
theorem k_43 {σ : vS} {E : Nat → Nat → Bool} (hz : Zr 44 E σ) : VCI yX11_init cX11_init 2 1 12 [vO 43, vO 14] 44 E σ 44 (e_43 E) (i_43 σ) := by
  refine VCI.of RX11 (by decide) rfl (by decide) rfl (by decide) ?_
  show VW cX11_init (cB RX11 (conS (i_43 σ) (pK 44 (e_43 E)) 44) 1 12 2) (pK 44 E) σ 0 [(0, vO 43), (1, vO 14)] []
  refine v_aload_n dX11_init_0 0 rfl rfl ?_
  refine v_oinit (o := 43) q613 (by decide) (by decide) dX11_init_1 ?_
  refine v_aload_n dX11_init_4 0 rfl rfl ?_
  refine v_aload_n dX11_init_5 1 rfl rfl ?_
  refine v_putS (f := 0) (t := 14) cf11 (by decide) (by decide) rfl rfl rfl (by decide) q614 dX11_init_6 (Or.inr ⟨rfl, rfl, rfl, rfl, rfl, rfl⟩) rfl (fun _ => rfl) (fun _ => rfl) ?_
  have z1 := Zr_eS (o := 43) (f := 0) (t := 14) hz (by decide) rfl (by decide)
  exact v_cret (by decide) dX11_init_9
def i_13 (σ : vS) : vS := bmp (bmp (i_43 (sA (sA (sA (sA (sA (sA (sA (sA (sA (bmp (i_32 (bmp (i_30 (bmp (i_28 (bmp (i_25 (bmp (i_22 (bmp (i_19 (bmp (i_16 (bmp (i_14 (σ))))))))))))))))) 34 (64, fun _ => 0)) 35 (64, fun _ => 0)) 36 (64, fun _ => 0)) 37 (64, fun _ => 0)) 38 (64, fun _ => 0)) 39 (64, fun _ => 0)) 40 (64, fun _ => 0)) 41 (64, fun _ => 0)) 42 (64, fun _ => 0))))
def e_13 (E : Nat → Nat → Bool) : Nat → Nat → Bool := eS (e_43 (eS (eS (eS (eS (eS (eS (eS (eS (eS (eS (eS (e_32 (eS (e_30 (eS (e_28 (eS (e_25 (eS (e_22 (eS (e_19 (eS (e_16 (eS (e_14 (E)) 13 2)) 13 3)) 13 5)) 13 6)) 13 7)) 13 8)) 13 9)) 13 10) 13 11) 13 12) 13 13) 13 14) 13 15) 13 16) 13 17) 13 19) 13 22) 13 1)) 13 4
theorem zz_13 {σ : vS} {E : Nat → Nat → Bool} (hz : Zr 14 E σ) : Zr 44 (e_13 E) (i_13 σ) := by
  have z1 := Zr_new hz (by decide)
  have z2 := Zr_bmp (zz_14 z1)
  have z3 := Zr_eS (o := 13) (f := 2) (t := 14) z2 (by decide) rfl (by decide)
  have z4 := Zr_new z3 (by decide)
  have z5 := Zr_bmp (zz_16 z4)
  have z6 := Zr_eS (o := 13) (f := 3) (t := 16) z5 (by decide) rfl (by decide)
  have z7 := Zr_new z6 (by decide)
  have z8 := Zr_bmp (zz_19 z7)
  have z9 := Zr_eS (o := 13) (f := 5) (t := 19) z8 (by decide) rfl (by decide)
  have z10 := Zr_new z9 (by decide)
  have z11 := Zr_bmp (zz_22 z10)
  have z12 := Zr_eS (o := 13) (f := 6) (t := 22) z11 (by decide) rfl (by decide)
  have z13 := Zr_new z12 (by decide)
  have z14 := Zr_bmp (zz_25 z13)
  have z15 := Zr_eS (o := 13) (f := 7) (t := 25) z14 (by decide) rfl (by decide)
  have z16 := Zr_new z15 (by decide)
  have z17 := Zr_bmp (zz_28 z16)
  have z18 := Zr_eS (o := 13) (f := 8) (t := 28) z17 (by decide) rfl (by decide)
  have z19 := Zr_new z18 (by decide)
  have z20 := Zr_bmp (zz_30 z19)
  have z21 := Zr_eS (o := 13) (f := 9) (t := 30) z20 (by decide) rfl (by decide)
  have z22 := Zr_new z21 (by decide)
  have z23 := Zr_bmp (zz_32 z22)
  have z24 := Zr_eS (o := 13) (f := 10) (t := 32) z23 (by decide) rfl (by decide)
  have z25 := Zr_sA (c := 34) (x := (64, fun _ => 0)) (Zr_new z24 (by decide)) (by decide)
  have z26 := Zr_eS (o := 13) (f := 11) (t := 34) z25 (by decide) rfl (by decide)
  have z27 := Zr_sA (c := 35) (x := (64, fun _ => 0)) (Zr_new z26 (by decide)) (by decide)
  have z28 := Zr_eS (o := 13) (f := 12) (t := 35) z27 (by decide) rfl (by decide)
  have z29 := Zr_sA (c := 36) (x := (64, fun _ => 0)) (Zr_new z28 (by decide)) (by decide)
  have z30 := Zr_eS (o := 13) (f := 13) (t := 36) z29 (by decide) rfl (by decide)
  have z31 := Zr_sA (c := 37) (x := (64, fun _ => 0)) (Zr_new z30 (by decide)) (by decide)
  have z32 := Zr_eS (o := 13) (f := 14) (t := 37) z31 (by decide) rfl (by decide)
  have z33 := Zr_sA (c := 38) (x := (64, fun _ => 0)) (Zr_new z32 (by decide)) (by decide)
  have z34 := Zr_eS (o := 13) (f := 15) (t := 38) z33 (by decide) rfl (by decide)
  have z35 := Zr_sA (c := 39) (x := (64, fun _ => 0)) (Zr_new z34 (by decide)) (by decide)
  have z36 := Zr_eS (o := 13) (f := 16) (t := 39) z35 (by decide) rfl (by decide)
  have z37 := Zr_sA (c := 40) (x := (64, fun _ => 0)) (Zr_new z36 (by decide)) (by decide)
  have z38 := Zr_eS (o := 13) (f := 17) (t := 40) z37 (by decide) rfl (by decide)
  have z39 := Zr_sA (c := 41) (x := (64, fun _ => 0)) (Zr_new z38 (by decide)) (by decide)
  have z40 := Zr_eS (o := 13) (f := 19) (t := 41) z39 (by decide) rfl (by decide)
  have z41 := Zr_sA (c := 42) (x := (64, fun _ => 0)) (Zr_new z40 (by decide)) (by decide)
  have z42 := Zr_eS (o := 13) (f := 22) (t := 42) z41 (by decide) rfl (by decide)
  have z43 := Zr_eS (o := 13) (f := 1) (t := 10) z42 (by decide) rfl (by decide)
  have z44 := Zr_new z43 (by decide)
  have z45 := Zr_bmp (zz_43 z44)
  have z46 := Zr_eS (o := 13) (f := 4) (t := 43) z45 (by decide) rfl (by decide)
  exact Zr_bmp z46
theorem k_13 {σ : vS} {E : Nat → Nat → Bool} (hz : Zr 14 E σ) : VCI yX6_init cX6_init 2 3 52 [vO 13, vO 10] 14 E σ 44 (e_13 E) (i_13 σ) := by
  refine VCI.of RX6 (by decide) rfl (by decide) rfl (by decide) ?_
  show VW cX6_init (cB RX6 (conS (i_13 σ) (pK 44 (e_13 E)) 14) 3 52 2) (pK 14 E) σ 0 [(0, vO 13), (1, vO 10)] []
  refine v_aload_n dX6_init_0 0 rfl rfl ?_
  refine v_oinit (o := 13) q521 (by decide) (by decide) dX6_init_1 ?_
  refine v_aload_n dX6_init_4 0 rfl rfl ?_
  refine v_newO cf7 df7 hz ⟨rfl, rfl, Or.inr ⟨rfl, rfl, show (14 : Nat) ≤ 14 from by decide⟩⟩ (by decide) rfl q522 q523 q304 (And.intro (Or.inl (by decide)) (And.intro (Or.inl (by decide)) (trivial))) (And.intro (Or.inl (by decide)) (trivial)) dX6_init_5 ?_
  have z1 := Zr_new hz (by decide)
  refine v_dupO dX6_init_8 ?_
  refine v_callIN (st := [vO 14, vO 13]) (k_14 z1) (zz_14 z1) (by decide) (by decide) ⟨rfl, rfl, Or.inr ⟨rfl, rfl, show (14 : Nat) ≤ 15 from by decide⟩⟩ (And.intro (Or.inl ⟨by decide, by decide⟩) (And.intro (Or.inl ⟨by decide, by decide⟩) (trivial))) (And.intro (Or.inl ⟨by decide, by decide⟩) (And.intro (Or.inl ⟨by decide, by decide⟩) (trivial))) rfl q526 q304 q524 q525 rfl yk_X7_init ⟨Nat.le_of_ble_eq_true rfl, Nat.le_of_ble_eq_true rfl⟩ (by decide) dX6_init_9 ?_
  have z2 := Zr_bmp (zz_14 z1)
  refine v_putS (f := 2) (t := 14) cf6 (by decide) (by decide) rfl rfl rfl (by decide) q629 dX6_init_12 (Or.inr ⟨rfl, rfl, rfl, rfl, rfl, rfl⟩) rfl (fun _ => rfl) (fun _ => rfl) ?_
  have z3 := Zr_eS (o := 13) (f := 2) (t := 14) z2 (by decide) rfl (by decide)
  refine v_aload_n dX6_init_15 0 rfl rfl ?_
  refine v_newO cf8 df8 z3 ⟨rfl, rfl, Or.inr ⟨rfl, rfl, show (14 : Nat) ≤ 16 from by decide⟩⟩ (by decide) rfl q535 q536 q305 (And.intro (Or.inl (by decide)) (And.intro (Or.inl (by decide)) (trivial))) (And.intro (Or.inl (by decide)) (trivial)) dX6_init_16 ?_
  have z4 := Zr_new z3 (by decide)
  refine v_dupO dX6_init_19 ?_
  refine v_callIN (st := [vO 16, vO 13]) (k_16 z4) (zz_16 z4) (by decide) (by decide) ⟨rfl, rfl, Or.inr ⟨rfl, rfl, show (14 : Nat) ≤ 17 from by decide⟩⟩ (And.intro (Or.inl ⟨by decide, by decide⟩) (And.intro (Or.inl ⟨by decide, by decide⟩) (trivial))) (And.intro (Or.inl ⟨by decide, by decide⟩) (And.intro (Or.inl ⟨by decide, by decide⟩) (trivial))) rfl q539 q305 q537 q538 rfl yk_X8_init ⟨Nat.le_of_ble_eq_true rfl, Nat.le_of_ble_eq_true rfl⟩ (by decide) dX6_init_20 ?_
  have z5 := Zr_bmp (zz_16 z4)
  refine v_putS (f := 3) (t := 16) cf6 (by decide) (by decide) rfl rfl rfl (by decide) q630 dX6_init_23 (Or.inr ⟨rfl, rfl, rfl, rfl, rfl, rfl⟩) rfl (fun _ => rfl) (fun _ => rfl) ?_
  have z6 := Zr_eS (o := 13) (f := 3) (t := 16) z5 (by decide) rfl (by decide)
  refine v_aload_n dX6_init_26 0 rfl rfl ?_
  refine v_newO cf9 df9 z6 ⟨rfl, rfl, Or.inr ⟨rfl, rfl, show (14 : Nat) ≤ 19 from by decide⟩⟩ (by decide) rfl q574 q575 q306 (And.intro (Or.inl (by decide)) (And.intro (Or.inl (by decide)) (trivial))) (And.intro (Or.inl (by decide)) (trivial)) dX6_init_27 ?_
  have z7 := Zr_new z6 (by decide)
  refine v_dupO dX6_init_30 ?_
  refine v_callIN (st := [vO 19, vO 13]) (k_19 z7) (zz_19 z7) (by decide) (by decide) ⟨rfl, rfl, Or.inr ⟨rfl, rfl, show (14 : Nat) ≤ 20 from by decide⟩⟩ (And.intro (Or.inl ⟨by decide, by decide⟩) (And.intro (Or.inl ⟨by decide, by decide⟩) (trivial))) (And.intro (Or.inl ⟨by decide, by decide⟩) (And.intro (Or.inl ⟨by decide, by decide⟩) (trivial))) rfl q578 q306 q576 q577 rfl yk_X9_init ⟨Nat.le_of_ble_eq_true rfl, Nat.le_of_ble_eq_true rfl⟩ (by decide) dX6_init_31 ?_
  have z8 := Zr_bmp (zz_19 z7)
  refine v_putS (f := 5) (t := 19) cf6 (by decide) (by decide) rfl rfl rfl (by decide) q632 dX6_init_34 (Or.inr ⟨rfl, rfl, rfl, rfl, rfl, rfl⟩) rfl (fun _ => rfl) (fun _ => rfl) ?_
  have z9 := Zr_eS (o := 13) (f := 5) (t := 19) z8 (by decide) rfl (by decide)
  refine v_aload_n dX6_init_37 0 rfl rfl ?_
  refine v_newO cf9 df9 z9 ⟨rfl, rfl, Or.inr ⟨rfl, rfl, show (14 : Nat) ≤ 22 from by decide⟩⟩ (by decide) rfl q574 q575 q306 (And.intro (Or.inl (by decide)) (And.intro (Or.inl (by decide)) (trivial))) (And.intro (Or.inl (by decide)) (trivial)) dX6_init_38 ?_
  have z10 := Zr_new z9 (by decide)
  refine v_dupO dX6_init_41 ?_
  refine v_callIN (st := [vO 22, vO 13]) (k_22 z10) (zz_22 z10) (by decide) (by decide) ⟨rfl, rfl, Or.inr ⟨rfl, rfl, show (14 : Nat) ≤ 23 from by decide⟩⟩ (And.intro (Or.inl ⟨by decide, by decide⟩) (And.intro (Or.inl ⟨by decide, by decide⟩) (trivial))) (And.intro (Or.inl ⟨by decide, by decide⟩) (And.intro (Or.inl ⟨by decide, by decide⟩) (trivial))) rfl q578 q306 q576 q577 rfl yk_X9_init ⟨Nat.le_of_ble_eq_true rfl, Nat.le_of_ble_eq_true rfl⟩ (by decide) dX6_init_42 ?_
  have z11 := Zr_bmp (zz_22 z10)
  refine v_putS (f := 6) (t := 22) cf6 (by decide) (by decide) rfl rfl rfl (by decide) q633 dX6_init_45 (Or.inr ⟨rfl, rfl, rfl, rfl, rfl, rfl⟩) rfl (fun _ => rfl) (fun _ => rfl) ?_
  have z12 := Zr_eS (o := 13) (f := 6) (t := 22) z11 (by decide) rfl (by decide)
  refine v_aload_n dX6_init_48 0 rfl rfl ?_
  refine v_newO cf9 df9 z12 ⟨rfl, rfl, Or.inr ⟨rfl, rfl, show (14 : Nat) ≤ 25 from by decide⟩⟩ (by decide) rfl q574 q575 q306 (And.intro (Or.inl (by decide)) (And.intro (Or.inl (by decide)) (trivial))) (And.intro (Or.inl (by decide)) (trivial)) dX6_init_49 ?_
  have z13 := Zr_new z12 (by decide)
  refine v_dupO dX6_init_52 ?_
  refine v_callIN (st := [vO 25, vO 13]) (k_25 z13) (zz_25 z13) (by decide) (by decide) ⟨rfl, rfl, Or.inr ⟨rfl, rfl, show (14 : Nat) ≤ 26 from by decide⟩⟩ (And.intro (Or.inl ⟨by decide, by decide⟩) (And.intro (Or.inl ⟨by decide, by decide⟩) (trivial))) (And.intro (Or.inl ⟨by decide, by decide⟩) (And.intro (Or.inl ⟨by decide, by decide⟩) (trivial))) rfl q578 q306 q576 q577 rfl yk_X9_init ⟨Nat.le_of_ble_eq_true rfl, Nat.le_of_ble_eq_true rfl⟩ (by decide) dX6_init_53 ?_
  have z14 := Zr_bmp (zz_25 z13)
  refine v_putS (f := 7) (t := 25) cf6 (by decide) (by decide) rfl rfl rfl (by decide) q634 dX6_init_56 (Or.inr ⟨rfl, rfl, rfl, rfl, rfl, rfl⟩) rfl (fun _ => rfl) (fun _ => rfl) ?_
  have z15 := Zr_eS (o := 13) (f := 7) (t := 25) z14 (by decide) rfl (by decide)
  refine v_aload_n dX6_init_59 0 rfl rfl ?_
  refine v_newO cf10 df10 z15 ⟨rfl, rfl, Or.inr ⟨rfl, rfl, show (14 : Nat) ≤ 28 from by decide⟩⟩ (by decide) rfl q593 q594 q307 (And.intro (Or.inl (by decide)) (And.intro (Or.inl (by decide)) (trivial))) (And.intro (Or.inl (by decide)) (trivial)) dX6_init_60 ?_
  have z16 := Zr_new z15 (by decide)
  refine v_dupO dX6_init_63 ?_
  refine v_callIN (st := [vO 28, vO 13]) (k_28 z16) (zz_28 z16) (by decide) (by decide) ⟨rfl, rfl, Or.inr ⟨rfl, rfl, show (14 : Nat) ≤ 29 from by decide⟩⟩ (And.intro (Or.inl ⟨by decide, by decide⟩) (And.intro (Or.inl ⟨by decide, by decide⟩) (trivial))) (And.intro (Or.inl ⟨by decide, by decide⟩) (And.intro (Or.inl ⟨by decide, by decide⟩) (trivial))) rfl q597 q307 q595 q596 rfl yk_X10_init ⟨Nat.le_of_ble_eq_true rfl, Nat.le_of_ble_eq_true rfl⟩ (by decide) dX6_init_64 ?_
  have z17 := Zr_bmp (zz_28 z16)
  refine v_putS (f := 8) (t := 28) cf6 (by decide) (by decide) rfl rfl rfl (by decide) q635 dX6_init_67 (Or.inr ⟨rfl, rfl, rfl, rfl, rfl, rfl⟩) rfl (fun _ => rfl) (fun _ => rfl) ?_
  have z18 := Zr_eS (o := 13) (f := 8) (t := 28) z17 (by decide) rfl (by decide)
  refine v_aload_n dX6_init_70 0 rfl rfl ?_
  refine v_newO cf2 df2 z18 ⟨rfl, rfl, Or.inr ⟨rfl, rfl, show (14 : Nat) ≤ 30 from by decide⟩⟩ (by decide) rfl q606 q335 q299 (And.intro (Or.inl (by decide)) (And.intro (Or.inl (by decide)) (trivial))) (And.intro (Or.inl (by decide)) (trivial)) dX6_init_71 ?_
  have z19 := Zr_new z18 (by decide)
  refine v_dupO dX6_init_74 ?_
  refine v_callIN (st := [vO 30, vO 13]) (k_30 z19) (zz_30 z19) (by decide) (by decide) ⟨rfl, rfl, Or.inr ⟨rfl, rfl, show (14 : Nat) ≤ 31 from by decide⟩⟩ (And.intro (Or.inl ⟨by decide, by decide⟩) (And.intro (Or.inl ⟨by decide, by decide⟩) (trivial))) (And.intro (Or.inl ⟨by decide, by decide⟩) (And.intro (Or.inl ⟨by decide, by decide⟩) (trivial))) rfl q338 q299 q607 q337 rfl yk_X2_init ⟨Nat.le_of_ble_eq_true rfl, Nat.le_of_ble_eq_true rfl⟩ (by decide) dX6_init_75 ?_
  have z20 := Zr_bmp (zz_30 z19)
  refine v_putS (f := 9) (t := 30) cf6 (by decide) (by decide) rfl rfl rfl (by decide) q636 dX6_init_78 (Or.inr ⟨rfl, rfl, rfl, rfl, rfl, rfl⟩) rfl (fun _ => rfl) (fun _ => rfl) ?_
  have z21 := Zr_eS (o := 13) (f := 9) (t := 30) z20 (by decide) rfl (by decide)
  refine v_aload_n dX6_init_81 0 rfl rfl ?_
  refine v_newO cf2 df2 z21 ⟨rfl, rfl, Or.inr ⟨rfl, rfl, show (14 : Nat) ≤ 32 from by decide⟩⟩ (by decide) rfl q606 q335 q299 (And.intro (Or.inl (by decide)) (And.intro (Or.inl (by decide)) (trivial))) (And.intro (Or.inl (by decide)) (trivial)) dX6_init_82 ?_
  have z22 := Zr_new z21 (by decide)
  refine v_dupO dX6_init_85 ?_
  refine v_callIN (st := [vO 32, vO 13]) (k_32 z22) (zz_32 z22) (by decide) (by decide) ⟨rfl, rfl, Or.inr ⟨rfl, rfl, show (14 : Nat) ≤ 33 from by decide⟩⟩ (And.intro (Or.inl ⟨by decide, by decide⟩) (And.intro (Or.inl ⟨by decide, by decide⟩) (trivial))) (And.intro (Or.inl ⟨by decide, by decide⟩) (And.intro (Or.inl ⟨by decide, by decide⟩) (trivial))) rfl q338 q299 q607 q337 rfl yk_X2_init ⟨Nat.le_of_ble_eq_true rfl, Nat.le_of_ble_eq_true rfl⟩ (by decide) dX6_init_86 ?_
  have z23 := Zr_bmp (zz_32 z22)
  refine v_putS (f := 10) (t := 32) cf6 (by decide) (by decide) rfl rfl rfl (by decide) q637 dX6_init_89 (Or.inr ⟨rfl, rfl, rfl, rfl, rfl, rfl⟩) rfl (fun _ => rfl) (fun _ => rfl) ?_
  have z24 := Zr_eS (o := 13) (f := 10) (t := 32) z23 (by decide) rfl (by decide)
  refine v_aload_n dX6_init_92 0 rfl rfl ?_
  refine v_bipush dX6_init_93 rfl ?_
  refine v_nA24 z24 ⟨rfl, rfl, Or.inr ⟨rfl, rfl, show (14 : Nat) ≤ 34 from by decide⟩⟩ (by decide) rfl (rgl rfl) (by decide) (by decide) (And.intro (Or.inl (by decide)) (And.intro (Or.inl (by decide)) (trivial))) (And.intro (Or.inl (by decide)) (trivial)) q459 dX6_init_95 ?_
  have z25 := Zr_sA (c := 34) (x := (64, fun _ => 0)) (Zr_new z24 (by decide)) (by decide)
  refine v_putS (f := 11) (t := 34) cf6 (by decide) (by decide) rfl rfl rfl (by decide) q638 dX6_init_97 (Or.inl rfl) rfl (fun _ => rfl) (fun _ => rfl) ?_
  have z26 := Zr_eS (o := 13) (f := 11) (t := 34) z25 (by decide) rfl (by decide)
  refine v_aload_n dX6_init_100 0 rfl rfl ?_
  refine v_bipush dX6_init_101 rfl ?_
  refine v_nA24 z26 ⟨rfl, rfl, Or.inr ⟨rfl, rfl, show (14 : Nat) ≤ 35 from by decide⟩⟩ (by decide) rfl (rgl rfl) (by decide) (by decide) (And.intro (Or.inl (by decide)) (And.intro (Or.inl (by decide)) (trivial))) (And.intro (Or.inl (by decide)) (trivial)) q459 dX6_init_103 ?_
  have z27 := Zr_sA (c := 35) (x := (64, fun _ => 0)) (Zr_new z26 (by decide)) (by decide)
  refine v_putS (f := 12) (t := 35) cf6 (by decide) (by decide) rfl rfl rfl (by decide) q639 dX6_init_105 (Or.inl rfl) rfl (fun _ => rfl) (fun _ => rfl) ?_
  have z28 := Zr_eS (o := 13) (f := 12) (t := 35) z27 (by decide) rfl (by decide)
  refine v_aload_n dX6_init_108 0 rfl rfl ?_
  refine v_bipush dX6_init_109 rfl ?_
  refine v_nA24 z28 ⟨rfl, rfl, Or.inr ⟨rfl, rfl, show (14 : Nat) ≤ 36 from by decide⟩⟩ (by decide) rfl (rgl rfl) (by decide) (by decide) (And.intro (Or.inl (by decide)) (And.intro (Or.inl (by decide)) (trivial))) (And.intro (Or.inl (by decide)) (trivial)) q459 dX6_init_111 ?_
  have z29 := Zr_sA (c := 36) (x := (64, fun _ => 0)) (Zr_new z28 (by decide)) (by decide)
  refine v_putS (f := 13) (t := 36) cf6 (by decide) (by decide) rfl rfl rfl (by decide) q640 dX6_init_113 (Or.inl rfl) rfl (fun _ => rfl) (fun _ => rfl) ?_
  have z30 := Zr_eS (o := 13) (f := 13) (t := 36) z29 (by decide) rfl (by decide)
  refine v_aload_n dX6_init_116 0 rfl rfl ?_
  refine v_bipush dX6_init_117 rfl ?_
  refine v_nA24 z30 ⟨rfl, rfl, Or.inr ⟨rfl, rfl, show (14 : Nat) ≤ 37 from by decide⟩⟩ (by decide) rfl (rgl rfl) (by decide) (by decide) (And.intro (Or.inl (by decide)) (And.intro (Or.inl (by decide)) (trivial))) (And.intro (Or.inl (by decide)) (trivial)) q459 dX6_init_119 ?_
  have z31 := Zr_sA (c := 37) (x := (64, fun _ => 0)) (Zr_new z30 (by decide)) (by decide)
  refine v_putS (f := 14) (t := 37) cf6 (by decide) (by decide) rfl rfl rfl (by decide) q641 dX6_init_121 (Or.inl rfl) rfl (fun _ => rfl) (fun _ => rfl) ?_
  have z32 := Zr_eS (o := 13) (f := 14) (t := 37) z31 (by decide) rfl (by decide)
  refine v_aload_n dX6_init_124 0 rfl rfl ?_
  refine v_bipush dX6_init_125 rfl ?_
  refine v_nA24 z32 ⟨rfl, rfl, Or.inr ⟨rfl, rfl, show (14 : Nat) ≤ 38 from by decide⟩⟩ (by decide) rfl (rgl rfl) (by decide) (by decide) (And.intro (Or.inl (by decide)) (And.intro (Or.inl (by decide)) (trivial))) (And.intro (Or.inl (by decide)) (trivial)) q459 dX6_init_127 ?_
  have z33 := Zr_sA (c := 38) (x := (64, fun _ => 0)) (Zr_new z32 (by decide)) (by decide)
  refine v_putS (f := 15) (t := 38) cf6 (by decide) (by decide) rfl rfl rfl (by decide) q642 dX6_init_129 (Or.inl rfl) rfl (fun _ => rfl) (fun _ => rfl) ?_
  have z34 := Zr_eS (o := 13) (f := 15) (t := 38) z33 (by decide) rfl (by decide)
  refine v_aload_n dX6_init_132 0 rfl rfl ?_
  refine v_bipush dX6_init_133 rfl ?_
  refine v_nA24 z34 ⟨rfl, rfl, Or.inr ⟨rfl, rfl, show (14 : Nat) ≤ 39 from by decide⟩⟩ (by decide) rfl (rgl rfl) (by decide) (by decide) (And.intro (Or.inl (by decide)) (And.intro (Or.inl (by decide)) (trivial))) (And.intro (Or.inl (by decide)) (trivial)) q459 dX6_init_135 ?_
  have z35 := Zr_sA (c := 39) (x := (64, fun _ => 0)) (Zr_new z34 (by decide)) (by decide)
  refine v_putS (f := 16) (t := 39) cf6 (by decide) (by decide) rfl rfl rfl (by decide) q643 dX6_init_137 (Or.inl rfl) rfl (fun _ => rfl) (fun _ => rfl) ?_
  have z36 := Zr_eS (o := 13) (f := 16) (t := 39) z35 (by decide) rfl (by decide)
  refine v_aload_n dX6_init_140 0 rfl rfl ?_
  refine v_bipush dX6_init_141 rfl ?_
  refine v_nA24 z36 ⟨rfl, rfl, Or.inr ⟨rfl, rfl, show (14 : Nat) ≤ 40 from by decide⟩⟩ (by decide) rfl (rgl rfl) (by decide) (by decide) (And.intro (Or.inl (by decide)) (And.intro (Or.inl (by decide)) (trivial))) (And.intro (Or.inl (by decide)) (trivial)) q459 dX6_init_143 ?_
  have z37 := Zr_sA (c := 40) (x := (64, fun _ => 0)) (Zr_new z36 (by decide)) (by decide)
  refine v_putS (f := 17) (t := 40) cf6 (by decide) (by decide) rfl rfl rfl (by decide) q644 dX6_init_145 (Or.inl rfl) rfl (fun _ => rfl) (fun _ => rfl) ?_
  have z38 := Zr_eS (o := 13) (f := 17) (t := 40) z37 (by decide) rfl (by decide)
  refine v_aload_n dX6_init_148 0 rfl rfl ?_
  refine v_bipush dX6_init_149 rfl ?_
  refine v_nA24 z38 ⟨rfl, rfl, Or.inr ⟨rfl, rfl, show (14 : Nat) ≤ 41 from by decide⟩⟩ (by decide) rfl (rgl rfl) (by decide) (by decide) (And.intro (Or.inl (by decide)) (And.intro (Or.inl (by decide)) (trivial))) (And.intro (Or.inl (by decide)) (trivial)) q459 dX6_init_151 ?_
  have z39 := Zr_sA (c := 41) (x := (64, fun _ => 0)) (Zr_new z38 (by decide)) (by decide)
  refine v_putS (f := 19) (t := 41) cf6 (by decide) (by decide) rfl rfl rfl (by decide) q646 dX6_init_153 (Or.inl rfl) rfl (fun _ => rfl) (fun _ => rfl) ?_
  have z40 := Zr_eS (o := 13) (f := 19) (t := 41) z39 (by decide) rfl (by decide)
  refine v_aload_n dX6_init_156 0 rfl rfl ?_
  refine v_bipush dX6_init_157 rfl ?_
  refine v_nA24 z40 ⟨rfl, rfl, Or.inr ⟨rfl, rfl, show (14 : Nat) ≤ 42 from by decide⟩⟩ (by decide) rfl (rgl rfl) (by decide) (by decide) (And.intro (Or.inl (by decide)) (And.intro (Or.inl (by decide)) (trivial))) (And.intro (Or.inl (by decide)) (trivial)) q459 dX6_init_159 ?_
  have z41 := Zr_sA (c := 42) (x := (64, fun _ => 0)) (Zr_new z40 (by decide)) (by decide)
  refine v_putS (f := 22) (t := 42) cf6 (by decide) (by decide) rfl rfl rfl (by decide) q649 dX6_init_161 (Or.inl rfl) rfl (fun _ => rfl) (fun _ => rfl) ?_
  have z42 := Zr_eS (o := 13) (f := 22) (t := 42) z41 (by decide) rfl (by decide)
  refine v_aload_n dX6_init_164 0 rfl rfl ?_
  refine v_aload_n dX6_init_165 1 rfl rfl ?_
  refine v_putS (f := 1) (t := 10) cf6 (by decide) (by decide) rfl rfl rfl (by decide) q628 dX6_init_166 (Or.inr ⟨rfl, rfl, rfl, rfl, rfl, rfl⟩) rfl (fun _ => rfl) (fun _ => rfl) ?_
  have z43 := Zr_eS (o := 13) (f := 1) (t := 10) z42 (by decide) rfl (by decide)
  refine v_aload_n dX6_init_169 0 rfl rfl ?_
  refine v_newO cf11 df11 z43 ⟨rfl, rfl, Or.inr ⟨rfl, rfl, show (14 : Nat) ≤ 43 from by decide⟩⟩ (by decide) rfl q608 q609 q308 (And.intro (Or.inl (by decide)) (And.intro (Or.inl (by decide)) (trivial))) (And.intro (Or.inl (by decide)) (trivial)) dX6_init_170 ?_
  have z44 := Zr_new z43 (by decide)
  refine v_dupO dX6_init_173 ?_
  refine v_aload_n dX6_init_174 0 rfl rfl ?_
  refine v_getS (f := 2) (t := 14) cf6 (ok_K (by decide) (by decide) rfl) rfl rfl rfl (by decide) q629 dX6_init_175 ?_
  refine v_callI (st := [vO 43, vO 13]) (k_43 z44) (zz_43 z44) (by decide) (by decide) ⟨rfl, rfl, Or.inr ⟨rfl, rfl, show (14 : Nat) ≤ 44 from by decide⟩⟩ (And.intro (Or.inl ⟨by decide, by decide⟩) (And.intro (Or.inl ⟨by decide, by decide⟩) (trivial))) (And.intro (Or.inl ⟨by decide, by decide⟩) (And.intro (Or.inl ⟨by decide, by decide⟩) (trivial))) rfl q612 q308 q610 q611 rfl yk_X11_init ⟨Nat.le_of_ble_eq_true rfl, Nat.le_of_ble_eq_true rfl⟩ (by decide) dX6_init_178 ?_
  have z45 := Zr_bmp (zz_43 z44)
  refine v_putS (f := 4) (t := 43) cf6 (by decide) (by decide) rfl rfl rfl (by decide) q631 dX6_init_181 (Or.inr ⟨rfl, rfl, rfl, rfl, rfl, rfl⟩) rfl (fun _ => rfl) (fun _ => rfl) ?_
  have z46 := Zr_eS (o := 13) (f := 4) (t := 43) z45 (by decide) rfl (by decide)
  exact v_cret (by decide) dX6_init_184
theorem yk_X12_init : yOk yX12_init 0 := ⟨by decide, by decide, by decide +kernel⟩
def i_44 (σ : vS) : vS := bmp (sA (sA (sA (sA (sA (sA (sA (sA (sA (σ) 45 (64, fun _ => 0)) 46 (64, fun _ => 0)) 47 (64, fun _ => 0)) 48 (64, fun _ => 0)) 49 (64, fun _ => 0)) 50 (64, fun _ => 0)) 51 (16, fun _ => 0)) 52 (16, fun _ => 0)) 53 (16, fun _ => 0))
def e_44 (E : Nat → Nat → Bool) : Nat → Nat → Bool := eS (eS (eS (eS (eS (eS (eS (eS (eS (E) 44 4) 44 5) 44 6) 44 7) 44 8) 44 9) 44 11) 44 12) 44 13
theorem zz_44 {σ : vS} {E : Nat → Nat → Bool} (hz : Zr 45 E σ) : Zr 54 (e_44 E) (i_44 σ) := by
  have z1 := Zr_sA (c := 45) (x := (64, fun _ => 0)) (Zr_new hz (by decide)) (by decide)
  have z2 := Zr_eS (o := 44) (f := 4) (t := 45) z1 (by decide) rfl (by decide)
  have z3 := Zr_sA (c := 46) (x := (64, fun _ => 0)) (Zr_new z2 (by decide)) (by decide)
  have z4 := Zr_eS (o := 44) (f := 5) (t := 46) z3 (by decide) rfl (by decide)
  have z5 := Zr_sA (c := 47) (x := (64, fun _ => 0)) (Zr_new z4 (by decide)) (by decide)
  have z6 := Zr_eS (o := 44) (f := 6) (t := 47) z5 (by decide) rfl (by decide)
  have z7 := Zr_sA (c := 48) (x := (64, fun _ => 0)) (Zr_new z6 (by decide)) (by decide)
  have z8 := Zr_eS (o := 44) (f := 7) (t := 48) z7 (by decide) rfl (by decide)
  have z9 := Zr_sA (c := 49) (x := (64, fun _ => 0)) (Zr_new z8 (by decide)) (by decide)
  have z10 := Zr_eS (o := 44) (f := 8) (t := 49) z9 (by decide) rfl (by decide)
  have z11 := Zr_sA (c := 50) (x := (64, fun _ => 0)) (Zr_new z10 (by decide)) (by decide)
  have z12 := Zr_eS (o := 44) (f := 9) (t := 50) z11 (by decide) rfl (by decide)
  have z13 := Zr_sA (c := 51) (x := (16, fun _ => 0)) (Zr_new z12 (by decide)) (by decide)
  have z14 := Zr_eS (o := 44) (f := 11) (t := 51) z13 (by decide) rfl (by decide)
  have z15 := Zr_sA (c := 52) (x := (16, fun _ => 0)) (Zr_new z14 (by decide)) (by decide)
  have z16 := Zr_eS (o := 44) (f := 12) (t := 52) z15 (by decide) rfl (by decide)
  have z17 := Zr_sA (c := 53) (x := (16, fun _ => 0)) (Zr_new z16 (by decide)) (by decide)
  have z18 := Zr_eS (o := 44) (f := 13) (t := 53) z17 (by decide) rfl (by decide)
  exact Zr_bmp z18
theorem k_44 {σ : vS} {E : Nat → Nat → Bool} (hz : Zr 45 E σ) : VCI yX12_init cX12_init 1 1 12 [vO 44] 45 E σ 54 (e_44 E) (i_44 σ) := by
  refine VCI.of RX12 (by decide) rfl (by decide) rfl (by decide) ?_
  show VW cX12_init (cB RX12 (conS (i_44 σ) (pK 54 (e_44 E)) 45) 1 12 1) (pK 45 E) σ 0 [(0, vO 44)] []
  refine v_aload_n dX12_init_0 0 rfl rfl ?_
  refine v_oinit (o := 44) q708 (by decide) (by decide) dX12_init_1 ?_
  refine v_aload_n dX12_init_4 0 rfl rfl ?_
  refine v_bipush dX12_init_5 rfl ?_
  refine v_nA24 hz ⟨rfl, rfl, Or.inr ⟨rfl, rfl, show (45 : Nat) ≤ 45 from by decide⟩⟩ (by decide) rfl (rgl rfl) (by decide) (by decide) (And.intro (Or.inl (by decide)) (trivial)) (And.intro (Or.inl (by decide)) (trivial)) q459 dX12_init_7 ?_
  have z1 := Zr_sA (c := 45) (x := (64, fun _ => 0)) (Zr_new hz (by decide)) (by decide)
  refine v_putS (f := 4) (t := 45) cf12 (by decide) (by decide) rfl rfl rfl (by decide) q713 dX12_init_9 (Or.inl rfl) rfl (fun _ => rfl) (fun _ => rfl) ?_
  have z2 := Zr_eS (o := 44) (f := 4) (t := 45) z1 (by decide) rfl (by decide)
  refine v_aload_n dX12_init_12 0 rfl rfl ?_
  refine v_bipush dX12_init_13 rfl ?_
  refine v_nA24 z2 ⟨rfl, rfl, Or.inr ⟨rfl, rfl, show (45 : Nat) ≤ 46 from by decide⟩⟩ (by decide) rfl (rgl rfl) (by decide) (by decide) (And.intro (Or.inl (by decide)) (trivial)) (And.intro (Or.inl (by decide)) (trivial)) q459 dX12_init_15 ?_
  have z3 := Zr_sA (c := 46) (x := (64, fun _ => 0)) (Zr_new z2 (by decide)) (by decide)
  refine v_putS (f := 5) (t := 46) cf12 (by decide) (by decide) rfl rfl rfl (by decide) q714 dX12_init_17 (Or.inl rfl) rfl (fun _ => rfl) (fun _ => rfl) ?_
  have z4 := Zr_eS (o := 44) (f := 5) (t := 46) z3 (by decide) rfl (by decide)
  refine v_aload_n dX12_init_20 0 rfl rfl ?_
  refine v_bipush dX12_init_21 rfl ?_
  refine v_nA24 z4 ⟨rfl, rfl, Or.inr ⟨rfl, rfl, show (45 : Nat) ≤ 47 from by decide⟩⟩ (by decide) rfl (rgl rfl) (by decide) (by decide) (And.intro (Or.inl (by decide)) (trivial)) (And.intro (Or.inl (by decide)) (trivial)) q459 dX12_init_23 ?_
  have z5 := Zr_sA (c := 47) (x := (64, fun _ => 0)) (Zr_new z4 (by decide)) (by decide)
  refine v_putS (f := 6) (t := 47) cf12 (by decide) (by decide) rfl rfl rfl (by decide) q715 dX12_init_25 (Or.inl rfl) rfl (fun _ => rfl) (fun _ => rfl) ?_
  have z6 := Zr_eS (o := 44) (f := 6) (t := 47) z5 (by decide) rfl (by decide)
  refine v_aload_n dX12_init_28 0 rfl rfl ?_
  refine v_bipush dX12_init_29 rfl ?_
  refine v_nA24 z6 ⟨rfl, rfl, Or.inr ⟨rfl, rfl, show (45 : Nat) ≤ 48 from by decide⟩⟩ (by decide) rfl (rgl rfl) (by decide) (by decide) (And.intro (Or.inl (by decide)) (trivial)) (And.intro (Or.inl (by decide)) (trivial)) q459 dX12_init_31 ?_
  have z7 := Zr_sA (c := 48) (x := (64, fun _ => 0)) (Zr_new z6 (by decide)) (by decide)
  refine v_putS (f := 7) (t := 48) cf12 (by decide) (by decide) rfl rfl rfl (by decide) q716 dX12_init_33 (Or.inl rfl) rfl (fun _ => rfl) (fun _ => rfl) ?_
  have z8 := Zr_eS (o := 44) (f := 7) (t := 48) z7 (by decide) rfl (by decide)
  refine v_aload_n dX12_init_36 0 rfl rfl ?_
  refine v_bipush dX12_init_37 rfl ?_
  refine v_nA24 z8 ⟨rfl, rfl, Or.inr ⟨rfl, rfl, show (45 : Nat) ≤ 49 from by decide⟩⟩ (by decide) rfl (rgl rfl) (by decide) (by decide) (And.intro (Or.inl (by decide)) (trivial)) (And.intro (Or.inl (by decide)) (trivial)) q459 dX12_init_39 ?_
  have z9 := Zr_sA (c := 49) (x := (64, fun _ => 0)) (Zr_new z8 (by decide)) (by decide)
  refine v_putS (f := 8) (t := 49) cf12 (by decide) (by decide) rfl rfl rfl (by decide) q717 dX12_init_41 (Or.inl rfl) rfl (fun _ => rfl) (fun _ => rfl) ?_
  have z10 := Zr_eS (o := 44) (f := 8) (t := 49) z9 (by decide) rfl (by decide)
  refine v_aload_n dX12_init_44 0 rfl rfl ?_
  refine v_bipush dX12_init_45 rfl ?_
  refine v_nA26 z10 ⟨rfl, rfl, Or.inr ⟨rfl, rfl, show (45 : Nat) ≤ 50 from by decide⟩⟩ (by decide) rfl (rgl rfl) (by decide) (by decide) (And.intro (Or.inl (by decide)) (trivial)) (And.intro (Or.inl (by decide)) (trivial)) q755 dX12_init_47 ?_
  have z11 := Zr_sA (c := 50) (x := (64, fun _ => 0)) (Zr_new z10 (by decide)) (by decide)
  refine v_putS (f := 9) (t := 50) cf12 (by decide) (by decide) rfl rfl rfl (by decide) q718 dX12_init_49 (Or.inl rfl) rfl (fun _ => rfl) (fun _ => rfl) ?_
  have z12 := Zr_eS (o := 44) (f := 9) (t := 50) z11 (by decide) rfl (by decide)
  refine v_aload_n dX12_init_52 0 rfl rfl ?_
  refine v_bipush dX12_init_53 rfl ?_
  refine v_nA24 z12 ⟨rfl, rfl, Or.inr ⟨rfl, rfl, show (45 : Nat) ≤ 51 from by decide⟩⟩ (by decide) rfl (rgl rfl) (by decide) (by decide) (And.intro (Or.inl (by decide)) (trivial)) (And.intro (Or.inl (by decide)) (trivial)) q459 dX12_init_55 ?_
  have z13 := Zr_sA (c := 51) (x := (16, fun _ => 0)) (Zr_new z12 (by decide)) (by decide)
  refine v_putS (f := 11) (t := 51) cf12 (by decide) (by decide) rfl rfl rfl (by decide) q720 dX12_init_57 (Or.inl rfl) rfl (fun _ => rfl) (fun _ => rfl) ?_
  have z14 := Zr_eS (o := 44) (f := 11) (t := 51) z13 (by decide) rfl (by decide)
  refine v_aload_n dX12_init_60 0 rfl rfl ?_
  refine v_bipush dX12_init_61 rfl ?_
  refine v_nA24 z14 ⟨rfl, rfl, Or.inr ⟨rfl, rfl, show (45 : Nat) ≤ 52 from by decide⟩⟩ (by decide) rfl (rgl rfl) (by decide) (by decide) (And.intro (Or.inl (by decide)) (trivial)) (And.intro (Or.inl (by decide)) (trivial)) q459 dX12_init_63 ?_
  have z15 := Zr_sA (c := 52) (x := (16, fun _ => 0)) (Zr_new z14 (by decide)) (by decide)
  refine v_putS (f := 12) (t := 52) cf12 (by decide) (by decide) rfl rfl rfl (by decide) q721 dX12_init_65 (Or.inl rfl) rfl (fun _ => rfl) (fun _ => rfl) ?_
  have z16 := Zr_eS (o := 44) (f := 12) (t := 52) z15 (by decide) rfl (by decide)
  refine v_aload_n dX12_init_68 0 rfl rfl ?_
  refine v_bipush dX12_init_69 rfl ?_
  refine v_nA24 z16 ⟨rfl, rfl, Or.inr ⟨rfl, rfl, show (45 : Nat) ≤ 53 from by decide⟩⟩ (by decide) rfl (rgl rfl) (by decide) (by decide) (And.intro (Or.inl (by decide)) (trivial)) (And.intro (Or.inl (by decide)) (trivial)) q459 dX12_init_71 ?_
  have z17 := Zr_sA (c := 53) (x := (16, fun _ => 0)) (Zr_new z16 (by decide)) (by decide)
  refine v_putS (f := 13) (t := 53) cf12 (by decide) (by decide) rfl rfl rfl (by decide) q722 dX12_init_73 (Or.inl rfl) rfl (fun _ => rfl) (fun _ => rfl) ?_
  have z18 := Zr_eS (o := 44) (f := 13) (t := 53) z17 (by decide) rfl (by decide)
  exact v_cret (by decide) dX12_init_76
theorem yk_X13_init : yOk yX13_init 2 := ⟨by decide, by decide, by decide +kernel⟩
def i_56 (σ : vS) : vS := bmp (sA (σ) 57 (8, fun _ => 0))
def e_56 (E : Nat → Nat → Bool) : Nat → Nat → Bool := eS (E) 56 0
theorem zz_56 {σ : vS} {E : Nat → Nat → Bool} (hz : Zr 57 E σ) : Zr 58 (e_56 E) (i_56 σ) := by
  have z1 := Zr_sA (c := 57) (x := (8, fun _ => 0)) (Zr_new hz (by decide)) (by decide)
  have z2 := Zr_eS (o := 56) (f := 0) (t := 57) z1 (by decide) rfl (by decide)
  exact Zr_bmp z2
theorem k_56 {σ : vS} {E : Nat → Nat → Bool} (hz : Zr 57 E σ) : VCI yX7_init cX7_init 1 1 12 [vO 56] 57 E σ 58 (e_56 E) (i_56 σ) := by
  refine VCI.of RX7 (by decide) rfl (by decide) rfl (by decide) ?_
  show VW cX7_init (cB RX7 (conS (i_56 σ) (pK 58 (e_56 E)) 57) 1 12 1) (pK 57 E) σ 0 [(0, vO 56)] []
  refine v_aload_n dX7_init_0 0 rfl rfl ?_
  refine v_oinit (o := 56) q527 (by decide) (by decide) dX7_init_1 ?_
  refine v_aload_n dX7_init_4 0 rfl rfl ?_
  refine v_bipush dX7_init_5 rfl ?_
  refine v_nA24 hz ⟨rfl, rfl, Or.inr ⟨rfl, rfl, show (57 : Nat) ≤ 57 from by decide⟩⟩ (by decide) rfl (rgl rfl) (by decide) (by decide) (And.intro (Or.inl (by decide)) (trivial)) (And.intro (Or.inl (by decide)) (trivial)) q459 dX7_init_7 ?_
  have z1 := Zr_sA (c := 57) (x := (8, fun _ => 0)) (Zr_new hz (by decide)) (by decide)
  refine v_putS (f := 0) (t := 57) cf7 (by decide) (by decide) rfl rfl rfl (by decide) q528 dX7_init_9 (Or.inl rfl) rfl (fun _ => rfl) (fun _ => rfl) ?_
  have z2 := Zr_eS (o := 56) (f := 0) (t := 57) z1 (by decide) rfl (by decide)
  exact v_cret (by decide) dX7_init_12
def i_55 (σ : vS) : vS := bmp (σ)
def e_55 (E : Nat → Nat → Bool) : Nat → Nat → Bool := eS (E) 55 0
theorem zz_55 {σ : vS} {E : Nat → Nat → Bool} (hz : Zr 58 E σ) : Zr 58 (e_55 E) (i_55 σ) := by
  have z1 := Zr_eS (o := 55) (f := 0) (t := 56) hz (by decide) rfl (by decide)
  exact Zr_bmp z1
theorem k_55 {σ : vS} {E : Nat → Nat → Bool} (hz : Zr 58 E σ) : VCI yX11_init cX11_init 2 1 12 [vO 55, vO 56] 58 E σ 58 (e_55 E) (i_55 σ) := by
  refine VCI.of RX11 (by decide) rfl (by decide) rfl (by decide) ?_
  show VW cX11_init (cB RX11 (conS (i_55 σ) (pK 58 (e_55 E)) 58) 1 12 2) (pK 58 E) σ 0 [(0, vO 55), (1, vO 56)] []
  refine v_aload_n dX11_init_0 0 rfl rfl ?_
  refine v_oinit (o := 55) q613 (by decide) (by decide) dX11_init_1 ?_
  refine v_aload_n dX11_init_4 0 rfl rfl ?_
  refine v_aload_n dX11_init_5 1 rfl rfl ?_
  refine v_putS (f := 0) (t := 56) cf11 (by decide) (by decide) rfl rfl rfl (by decide) q614 dX11_init_6 (Or.inr ⟨rfl, rfl, rfl, rfl, rfl, rfl⟩) rfl (fun _ => rfl) (fun _ => rfl) ?_
  have z1 := Zr_eS (o := 55) (f := 0) (t := 56) hz (by decide) rfl (by decide)
  exact v_cret (by decide) dX11_init_9
def i_59 (σ : vS) : vS := bmp (sA (σ) 60 (64, fun _ => 0))
def e_59 (E : Nat → Nat → Bool) : Nat → Nat → Bool := eS (E) 59 0
theorem zz_59 {σ : vS} {E : Nat → Nat → Bool} (hz : Zr 60 E σ) : Zr 61 (e_59 E) (i_59 σ) := by
  have z1 := Zr_sA (c := 60) (x := (64, fun _ => 0)) (Zr_new hz (by decide)) (by decide)
  have z2 := Zr_eS (o := 59) (f := 0) (t := 60) z1 (by decide) rfl (by decide)
  exact Zr_bmp z2
theorem k_59 {σ : vS} {E : Nat → Nat → Bool} (hz : Zr 60 E σ) : VCI yX2_init cX2_init 1 1 12 [vO 59] 60 E σ 61 (e_59 E) (i_59 σ) := by
  refine VCI.of RX2 (by decide) rfl (by decide) rfl (by decide) ?_
  show VW cX2_init (cB RX2 (conS (i_59 σ) (pK 61 (e_59 E)) 60) 1 12 1) (pK 60 E) σ 0 [(0, vO 59)] []
  refine v_aload_n dX2_init_0 0 rfl rfl ?_
  refine v_oinit (o := 59) q339 (by decide) (by decide) dX2_init_1 ?_
  refine v_aload_n dX2_init_4 0 rfl rfl ?_
  refine v_bipush dX2_init_5 rfl ?_
  refine v_nA25 hz ⟨rfl, rfl, Or.inr ⟨rfl, rfl, show (60 : Nat) ≤ 60 from by decide⟩⟩ (by decide) rfl (rgl rfl) (by decide) (by decide) (And.intro (Or.inl (by decide)) (trivial)) (And.intro (Or.inl (by decide)) (trivial)) q347 dX2_init_7 ?_
  have z1 := Zr_sA (c := 60) (x := (64, fun _ => 0)) (Zr_new hz (by decide)) (by decide)
  refine v_putS (f := 0) (t := 60) cf2 (by decide) (by decide) rfl rfl rfl (by decide) q340 dX2_init_9 (Or.inl rfl) rfl (fun _ => rfl) (fun _ => rfl) ?_
  have z2 := Zr_eS (o := 59) (f := 0) (t := 60) z1 (by decide) rfl (by decide)
  exact v_cret (by decide) dX2_init_12
def i_58 (σ : vS) : vS := bmp (bmp (i_59 (σ)))
def e_58 (E : Nat → Nat → Bool) : Nat → Nat → Bool := eS (e_59 (E)) 58 9
theorem zz_58 {σ : vS} {E : Nat → Nat → Bool} (hz : Zr 59 E σ) : Zr 61 (e_58 E) (i_58 σ) := by
  have z1 := Zr_new hz (by decide)
  have z2 := Zr_bmp (zz_59 z1)
  have z3 := Zr_eS (o := 58) (f := 9) (t := 59) z2 (by decide) rfl (by decide)
  exact Zr_bmp z3
theorem k_58 {σ : vS} {E : Nat → Nat → Bool} (hz : Zr 59 E σ) : VCI yX8_init cX8_init 1 2 32 [vO 58] 59 E σ 61 (e_58 E) (i_58 σ) := by
  refine VCI.of RX8 (by decide) rfl (by decide) rfl (by decide) ?_
  show VW cX8_init (cB RX8 (conS (i_58 σ) (pK 61 (e_58 E)) 59) 2 32 1) (pK 59 E) σ 0 [(0, vO 58)] []
  refine v_aload_n dX8_init_0 0 rfl rfl ?_
  refine v_oinit (o := 58) q540 (by decide) (by decide) dX8_init_1 ?_
  refine v_aload_n dX8_init_4 0 rfl rfl ?_
  refine v_newO cf2 df2 hz ⟨rfl, rfl, Or.inr ⟨rfl, rfl, show (59 : Nat) ≤ 59 from by decide⟩⟩ (by decide) rfl q541 q335 q299 (And.intro (Or.inl (by decide)) (trivial)) (And.intro (Or.inl (by decide)) (trivial)) dX8_init_5 ?_
  have z1 := Zr_new hz (by decide)
  refine v_dupO dX8_init_8 ?_
  refine v_callIN (st := [vO 59, vO 58]) (k_59 z1) (zz_59 z1) (by decide) (by decide) ⟨rfl, rfl, Or.inr ⟨rfl, rfl, show (59 : Nat) ≤ 60 from by decide⟩⟩ (And.intro (Or.inl ⟨by decide, by decide⟩) (trivial)) (And.intro (Or.inl ⟨by decide, by decide⟩) (And.intro (Or.inl ⟨by decide, by decide⟩) (trivial))) rfl q338 q299 q542 q337 rfl yk_X2_init ⟨Nat.le_of_ble_eq_true rfl, Nat.le_of_ble_eq_true rfl⟩ (by decide) dX8_init_9 ?_
  have z2 := Zr_bmp (zz_59 z1)
  refine v_putS (f := 9) (t := 59) cf8 (by decide) (by decide) rfl rfl rfl (by decide) q552 dX8_init_12 (Or.inr ⟨rfl, rfl, rfl, rfl, rfl, rfl⟩) rfl (fun _ => rfl) (fun _ => rfl) ?_
  have z3 := Zr_eS (o := 58) (f := 9) (t := 59) z2 (by decide) rfl (by decide)
  exact v_cret (by decide) dX8_init_15
def i_73 (σ : vS) : vS := bmp (sA (σ) 74 (64, fun _ => 0))
def e_73 (E : Nat → Nat → Bool) : Nat → Nat → Bool := eS (E) 73 0
theorem zz_73 {σ : vS} {E : Nat → Nat → Bool} (hz : Zr 74 E σ) : Zr 75 (e_73 E) (i_73 σ) := by
  have z1 := Zr_sA (c := 74) (x := (64, fun _ => 0)) (Zr_new hz (by decide)) (by decide)
  have z2 := Zr_eS (o := 73) (f := 0) (t := 74) z1 (by decide) rfl (by decide)
  exact Zr_bmp z2
theorem k_73 {σ : vS} {E : Nat → Nat → Bool} (hz : Zr 74 E σ) : VCI yX2_init cX2_init 1 1 12 [vO 73] 74 E σ 75 (e_73 E) (i_73 σ) := by
  refine VCI.of RX2 (by decide) rfl (by decide) rfl (by decide) ?_
  show VW cX2_init (cB RX2 (conS (i_73 σ) (pK 75 (e_73 E)) 74) 1 12 1) (pK 74 E) σ 0 [(0, vO 73)] []
  refine v_aload_n dX2_init_0 0 rfl rfl ?_
  refine v_oinit (o := 73) q339 (by decide) (by decide) dX2_init_1 ?_
  refine v_aload_n dX2_init_4 0 rfl rfl ?_
  refine v_bipush dX2_init_5 rfl ?_
  refine v_nA25 hz ⟨rfl, rfl, Or.inr ⟨rfl, rfl, show (74 : Nat) ≤ 74 from by decide⟩⟩ (by decide) rfl (rgl rfl) (by decide) (by decide) (And.intro (Or.inl (by decide)) (trivial)) (And.intro (Or.inl (by decide)) (trivial)) q347 dX2_init_7 ?_
  have z1 := Zr_sA (c := 74) (x := (64, fun _ => 0)) (Zr_new hz (by decide)) (by decide)
  refine v_putS (f := 0) (t := 74) cf2 (by decide) (by decide) rfl rfl rfl (by decide) q340 dX2_init_9 (Or.inl rfl) rfl (fun _ => rfl) (fun _ => rfl) ?_
  have z2 := Zr_eS (o := 73) (f := 0) (t := 74) z1 (by decide) rfl (by decide)
  exact v_cret (by decide) dX2_init_12
def i_75 (σ : vS) : vS := bmp (sA (σ) 76 (64, fun _ => 0))
def e_75 (E : Nat → Nat → Bool) : Nat → Nat → Bool := eS (E) 75 0
theorem zz_75 {σ : vS} {E : Nat → Nat → Bool} (hz : Zr 76 E σ) : Zr 77 (e_75 E) (i_75 σ) := by
  have z1 := Zr_sA (c := 76) (x := (64, fun _ => 0)) (Zr_new hz (by decide)) (by decide)
  have z2 := Zr_eS (o := 75) (f := 0) (t := 76) z1 (by decide) rfl (by decide)
  exact Zr_bmp z2
theorem k_75 {σ : vS} {E : Nat → Nat → Bool} (hz : Zr 76 E σ) : VCI yX2_init cX2_init 1 1 12 [vO 75] 76 E σ 77 (e_75 E) (i_75 σ) := by
  refine VCI.of RX2 (by decide) rfl (by decide) rfl (by decide) ?_
  show VW cX2_init (cB RX2 (conS (i_75 σ) (pK 77 (e_75 E)) 76) 1 12 1) (pK 76 E) σ 0 [(0, vO 75)] []
  refine v_aload_n dX2_init_0 0 rfl rfl ?_
  refine v_oinit (o := 75) q339 (by decide) (by decide) dX2_init_1 ?_
  refine v_aload_n dX2_init_4 0 rfl rfl ?_
  refine v_bipush dX2_init_5 rfl ?_
  refine v_nA25 hz ⟨rfl, rfl, Or.inr ⟨rfl, rfl, show (76 : Nat) ≤ 76 from by decide⟩⟩ (by decide) rfl (rgl rfl) (by decide) (by decide) (And.intro (Or.inl (by decide)) (trivial)) (And.intro (Or.inl (by decide)) (trivial)) q347 dX2_init_7 ?_
  have z1 := Zr_sA (c := 76) (x := (64, fun _ => 0)) (Zr_new hz (by decide)) (by decide)
  refine v_putS (f := 0) (t := 76) cf2 (by decide) (by decide) rfl rfl rfl (by decide) q340 dX2_init_9 (Or.inl rfl) rfl (fun _ => rfl) (fun _ => rfl) ?_
  have z2 := Zr_eS (o := 75) (f := 0) (t := 76) z1 (by decide) rfl (by decide)
  exact v_cret (by decide) dX2_init_12
def i_77 (σ : vS) : vS := bmp (sA (σ) 78 (64, fun _ => 0))
def e_77 (E : Nat → Nat → Bool) : Nat → Nat → Bool := eS (E) 77 0
theorem zz_77 {σ : vS} {E : Nat → Nat → Bool} (hz : Zr 78 E σ) : Zr 79 (e_77 E) (i_77 σ) := by
  have z1 := Zr_sA (c := 78) (x := (64, fun _ => 0)) (Zr_new hz (by decide)) (by decide)
  have z2 := Zr_eS (o := 77) (f := 0) (t := 78) z1 (by decide) rfl (by decide)
  exact Zr_bmp z2
theorem k_77 {σ : vS} {E : Nat → Nat → Bool} (hz : Zr 78 E σ) : VCI yX2_init cX2_init 1 1 12 [vO 77] 78 E σ 79 (e_77 E) (i_77 σ) := by
  refine VCI.of RX2 (by decide) rfl (by decide) rfl (by decide) ?_
  show VW cX2_init (cB RX2 (conS (i_77 σ) (pK 79 (e_77 E)) 78) 1 12 1) (pK 78 E) σ 0 [(0, vO 77)] []
  refine v_aload_n dX2_init_0 0 rfl rfl ?_
  refine v_oinit (o := 77) q339 (by decide) (by decide) dX2_init_1 ?_
  refine v_aload_n dX2_init_4 0 rfl rfl ?_
  refine v_bipush dX2_init_5 rfl ?_
  refine v_nA25 hz ⟨rfl, rfl, Or.inr ⟨rfl, rfl, show (78 : Nat) ≤ 78 from by decide⟩⟩ (by decide) rfl (rgl rfl) (by decide) (by decide) (And.intro (Or.inl (by decide)) (trivial)) (And.intro (Or.inl (by decide)) (trivial)) q347 dX2_init_7 ?_
  have z1 := Zr_sA (c := 78) (x := (64, fun _ => 0)) (Zr_new hz (by decide)) (by decide)
  refine v_putS (f := 0) (t := 78) cf2 (by decide) (by decide) rfl rfl rfl (by decide) q340 dX2_init_9 (Or.inl rfl) rfl (fun _ => rfl) (fun _ => rfl) ?_
  have z2 := Zr_eS (o := 77) (f := 0) (t := 78) z1 (by decide) rfl (by decide)
  exact v_cret (by decide) dX2_init_12
def i_54 (σ : vS) : vS := bmp (sA (sA (sA (sA (sA (bmp (i_77 (bmp (i_75 (bmp (i_73 (sA (sA (sA (sA (sA (sA (sA (sA (sA (sA (sA (sA (bmp (i_58 (bmp (i_55 (bmp (i_56 (σ))))))) 61 (64, fun _ => 0)) 62 (64, fun _ => 0)) 63 (64, fun _ => 0)) 64 (64, fun _ => 0)) 65 (64, fun _ => 0)) 66 (64, fun _ => 0)) 67 (16, fun _ => 0)) 68 (16, fun _ => 0)) 69 (16, fun _ => 0)) 70 (16, fun _ => 0)) 71 (16, fun _ => 0)) 72 (16, fun _ => 0)))))))) 79 (64, fun _ => 0)) 80 (64, fun _ => 0)) 81 (16, fun _ => 0)) 82 (64, fun _ => 0)) 83 (64, fun _ => 0))
def e_54 (E : Nat → Nat → Bool) : Nat → Nat → Bool := eS (eS (eS (eS (eS (eS (eS (eS (e_77 (eS (e_75 (eS (e_73 (eS (eS (eS (eS (eS (eS (eS (eS (eS (eS (eS (eS (eS (e_58 (eS (e_55 (e_56 (E))) 54 2)) 54 3) 54 8) 54 9) 54 10) 54 11) 54 12) 54 13) 54 14) 54 15) 54 16) 54 17) 54 19) 54 20)) 54 21)) 54 22)) 54 23) 54 24) 54 25) 54 26) 54 28) 54 29) 54 0) 54 1
theorem zz_54 {σ : vS} {E : Nat → Nat → Bool} (hz : Zr 55 E σ) : Zr 84 (e_54 E) (i_54 σ) := by
  have z1 := Zr_new hz (by decide)
  have z2 := Zr_new z1 (by decide)
  have z3 := Zr_bmp (zz_56 z2)
  have z4 := Zr_bmp (zz_55 z3)
  have z5 := Zr_eS (o := 54) (f := 2) (t := 55) z4 (by decide) rfl (by decide)
  have z6 := Zr_new z5 (by decide)
  have z7 := Zr_bmp (zz_58 z6)
  have z8 := Zr_eS (o := 54) (f := 3) (t := 58) z7 (by decide) rfl (by decide)
  have z9 := Zr_sA (c := 61) (x := (64, fun _ => 0)) (Zr_new z8 (by decide)) (by decide)
  have z10 := Zr_eS (o := 54) (f := 8) (t := 61) z9 (by decide) rfl (by decide)
  have z11 := Zr_sA (c := 62) (x := (64, fun _ => 0)) (Zr_new z10 (by decide)) (by decide)
  have z12 := Zr_eS (o := 54) (f := 9) (t := 62) z11 (by decide) rfl (by decide)
  have z13 := Zr_sA (c := 63) (x := (64, fun _ => 0)) (Zr_new z12 (by decide)) (by decide)
  have z14 := Zr_eS (o := 54) (f := 10) (t := 63) z13 (by decide) rfl (by decide)
  have z15 := Zr_sA (c := 64) (x := (64, fun _ => 0)) (Zr_new z14 (by decide)) (by decide)
  have z16 := Zr_eS (o := 54) (f := 11) (t := 64) z15 (by decide) rfl (by decide)
  have z17 := Zr_sA (c := 65) (x := (64, fun _ => 0)) (Zr_new z16 (by decide)) (by decide)
  have z18 := Zr_eS (o := 54) (f := 12) (t := 65) z17 (by decide) rfl (by decide)
  have z19 := Zr_sA (c := 66) (x := (64, fun _ => 0)) (Zr_new z18 (by decide)) (by decide)
  have z20 := Zr_eS (o := 54) (f := 13) (t := 66) z19 (by decide) rfl (by decide)
  have z21 := Zr_sA (c := 67) (x := (16, fun _ => 0)) (Zr_new z20 (by decide)) (by decide)
  have z22 := Zr_eS (o := 54) (f := 14) (t := 67) z21 (by decide) rfl (by decide)
  have z23 := Zr_sA (c := 68) (x := (16, fun _ => 0)) (Zr_new z22 (by decide)) (by decide)
  have z24 := Zr_eS (o := 54) (f := 15) (t := 68) z23 (by decide) rfl (by decide)
  have z25 := Zr_sA (c := 69) (x := (16, fun _ => 0)) (Zr_new z24 (by decide)) (by decide)
  have z26 := Zr_eS (o := 54) (f := 16) (t := 69) z25 (by decide) rfl (by decide)
  have z27 := Zr_sA (c := 70) (x := (16, fun _ => 0)) (Zr_new z26 (by decide)) (by decide)
  have z28 := Zr_eS (o := 54) (f := 17) (t := 70) z27 (by decide) rfl (by decide)
  have z29 := Zr_sA (c := 71) (x := (16, fun _ => 0)) (Zr_new z28 (by decide)) (by decide)
  have z30 := Zr_eS (o := 54) (f := 19) (t := 71) z29 (by decide) rfl (by decide)
  have z31 := Zr_sA (c := 72) (x := (16, fun _ => 0)) (Zr_new z30 (by decide)) (by decide)
  have z32 := Zr_eS (o := 54) (f := 20) (t := 72) z31 (by decide) rfl (by decide)
  have z33 := Zr_new z32 (by decide)
  have z34 := Zr_bmp (zz_73 z33)
  have z35 := Zr_eS (o := 54) (f := 21) (t := 73) z34 (by decide) rfl (by decide)
  have z36 := Zr_new z35 (by decide)
  have z37 := Zr_bmp (zz_75 z36)
  have z38 := Zr_eS (o := 54) (f := 22) (t := 75) z37 (by decide) rfl (by decide)
  have z39 := Zr_new z38 (by decide)
  have z40 := Zr_bmp (zz_77 z39)
  have z41 := Zr_eS (o := 54) (f := 23) (t := 77) z40 (by decide) rfl (by decide)
  have z42 := Zr_sA (c := 79) (x := (64, fun _ => 0)) (Zr_new z41 (by decide)) (by decide)
  have z43 := Zr_eS (o := 54) (f := 24) (t := 79) z42 (by decide) rfl (by decide)
  have z44 := Zr_sA (c := 80) (x := (64, fun _ => 0)) (Zr_new z43 (by decide)) (by decide)
  have z45 := Zr_eS (o := 54) (f := 25) (t := 80) z44 (by decide) rfl (by decide)
  have z46 := Zr_sA (c := 81) (x := (16, fun _ => 0)) (Zr_new z45 (by decide)) (by decide)
  have z47 := Zr_eS (o := 54) (f := 26) (t := 81) z46 (by decide) rfl (by decide)
  have z48 := Zr_sA (c := 82) (x := (64, fun _ => 0)) (Zr_new z47 (by decide)) (by decide)
  have z49 := Zr_eS (o := 54) (f := 28) (t := 82) z48 (by decide) rfl (by decide)
  have z50 := Zr_sA (c := 83) (x := (64, fun _ => 0)) (Zr_new z49 (by decide)) (by decide)
  have z51 := Zr_eS (o := 54) (f := 29) (t := 83) z50 (by decide) rfl (by decide)
  have z52 := Zr_eS (o := 54) (f := 0) (t := 10) z51 (by decide) rfl (by decide)
  have z53 := Zr_eS (o := 54) (f := 1) (t := 13) z52 (by decide) rfl (by decide)
  exact Zr_bmp z53
theorem k_54 {σ : vS} {E : Nat → Nat → Bool} (hz : Zr 55 E σ) : VCI yX13_init cX13_init 3 3 52 [vO 54, vO 10, vO 13] 55 E σ 84 (e_54 E) (i_54 σ) := by
  refine VCI.of RX13 (by decide) rfl (by decide) rfl (by decide) ?_
  show VW cX13_init (cB RX13 (conS (i_54 σ) (pK 84 (e_54 E)) 55) 3 52 3) (pK 55 E) σ 0 [(0, vO 54), (1, vO 10), (2, vO 13)] []
  refine v_aload_n dX13_init_0 0 rfl rfl ?_
  refine v_oinit (o := 54) q761 (by decide) (by decide) dX13_init_1 ?_
  refine v_aload_n dX13_init_4 0 rfl rfl ?_
  refine v_newO cf11 df11 hz ⟨rfl, rfl, Or.inr ⟨rfl, rfl, show (55 : Nat) ≤ 55 from by decide⟩⟩ (by decide) rfl q762 q609 q308 (And.intro (Or.inl (by decide)) (And.intro (Or.inl (by decide)) (And.intro (Or.inl (by decide)) (trivial)))) (And.intro (Or.inl (by decide)) (trivial)) dX13_init_5 ?_
  have z1 := Zr_new hz (by decide)
  refine v_dupO dX13_init_8 ?_
  refine v_newO cf7 df7 z1 ⟨rfl, rfl, Or.inr ⟨rfl, rfl, show (55 : Nat) ≤ 56 from by decide⟩⟩ (by decide) rfl q763 q523 q304 (And.intro (Or.inl (by decide)) (And.intro (Or.inl (by decide)) (And.intro (Or.inl (by decide)) (trivial)))) (And.intro (Or.inl (by decide)) (And.intro (Or.inl (by decide)) (And.intro (Or.inl (by decide)) (trivial)))) dX13_init_9 ?_
  have z2 := Zr_new z1 (by decide)
  refine v_dupO dX13_init_12 ?_
  refine v_callIN (st := [vO 56, vO 55, vO 55, vO 54]) (k_56 z2) (zz_56 z2) (by decide) (by decide) ⟨rfl, rfl, Or.inr ⟨rfl, rfl, show (55 : Nat) ≤ 57 from by decide⟩⟩ (And.intro (Or.inl ⟨by decide, by decide⟩) (And.intro (Or.inl ⟨by decide, by decide⟩) (And.intro (Or.inl ⟨by decide, by decide⟩) (trivial)))) (And.intro (Or.inl ⟨by decide, by decide⟩) (And.intro (Or.inl ⟨by decide, by decide⟩) (And.intro (Or.inl ⟨by decide, by decide⟩) (And.intro (Or.inl ⟨by decide, by decide⟩) (trivial))))) rfl q526 q304 q764 q525 rfl yk_X7_init ⟨Nat.le_of_ble_eq_true rfl, Nat.le_of_ble_eq_true rfl⟩ (by decide) dX13_init_13 ?_
  have z3 := Zr_bmp (zz_56 z2)
  refine v_callI (st := [vO 55, vO 54]) (k_55 z3) (zz_55 z3) (by decide) (by decide) ⟨rfl, rfl, Or.inr ⟨rfl, rfl, show (55 : Nat) ≤ 58 from by decide⟩⟩ (And.intro (Or.inl ⟨by decide, by decide⟩) (And.intro (Or.inl ⟨by decide, by decide⟩) (And.intro (Or.inl ⟨by decide, by decide⟩) (trivial)))) (And.intro (Or.inl ⟨by decide, by decide⟩) (And.intro (Or.inl ⟨by decide, by decide⟩) (trivial))) rfl q612 q308 q765 q611 rfl yk_X11_init ⟨Nat.le_of_ble_eq_true rfl, Nat.le_of_ble_eq_true rfl⟩ (by decide) dX13_init_16 ?_
  have z4 := Zr_bmp (zz_55 z3)
  refine v_putS (f := 2) (t := 55) cf13 (by decide) (by decide) rfl rfl rfl (by decide) q772 dX13_init_19 (Or.inr ⟨rfl, rfl, rfl, rfl, rfl, rfl⟩) rfl (fun _ => rfl) (fun _ => rfl) ?_
  have z5 := Zr_eS (o := 54) (f := 2) (t := 55) z4 (by decide) rfl (by decide)
  refine v_aload_n dX13_init_22 0 rfl rfl ?_
  refine v_newO cf8 df8 z5 ⟨rfl, rfl, Or.inr ⟨rfl, rfl, show (55 : Nat) ≤ 58 from by decide⟩⟩ (by decide) rfl q766 q536 q305 (And.intro (Or.inl (by decide)) (And.intro (Or.inl (by decide)) (And.intro (Or.inl (by decide)) (trivial)))) (And.intro (Or.inl (by decide)) (trivial)) dX13_init_23 ?_
  have z6 := Zr_new z5 (by decide)
  refine v_dupO dX13_init_26 ?_
  refine v_callIN (st := [vO 58, vO 54]) (k_58 z6) (zz_58 z6) (by decide) (by decide) ⟨rfl, rfl, Or.inr ⟨rfl, rfl, show (55 : Nat) ≤ 59 from by decide⟩⟩ (And.intro (Or.inl ⟨by decide, by decide⟩) (And.intro (Or.inl ⟨by decide, by decide⟩) (And.intro (Or.inl ⟨by decide, by decide⟩) (trivial)))) (And.intro (Or.inl ⟨by decide, by decide⟩) (And.intro (Or.inl ⟨by decide, by decide⟩) (trivial))) rfl q539 q305 q767 q538 rfl yk_X8_init ⟨Nat.le_of_ble_eq_true rfl, Nat.le_of_ble_eq_true rfl⟩ (by decide) dX13_init_27 ?_
  have z7 := Zr_bmp (zz_58 z6)
  refine v_putS (f := 3) (t := 58) cf13 (by decide) (by decide) rfl rfl rfl (by decide) q773 dX13_init_30 (Or.inr ⟨rfl, rfl, rfl, rfl, rfl, rfl⟩) rfl (fun _ => rfl) (fun _ => rfl) ?_
  have z8 := Zr_eS (o := 54) (f := 3) (t := 58) z7 (by decide) rfl (by decide)
  refine v_aload_n dX13_init_33 0 rfl rfl ?_
  refine v_bipush dX13_init_34 rfl ?_
  refine v_nA24 z8 ⟨rfl, rfl, Or.inr ⟨rfl, rfl, show (55 : Nat) ≤ 61 from by decide⟩⟩ (by decide) rfl (rgl rfl) (by decide) (by decide) (And.intro (Or.inl (by decide)) (And.intro (Or.inl (by decide)) (And.intro (Or.inl (by decide)) (trivial)))) (And.intro (Or.inl (by decide)) (trivial)) q459 dX13_init_36 ?_
  have z9 := Zr_sA (c := 61) (x := (64, fun _ => 0)) (Zr_new z8 (by decide)) (by decide)
  refine v_putS (f := 8) (t := 61) cf13 (by decide) (by decide) rfl rfl rfl (by decide) q778 dX13_init_38 (Or.inl rfl) rfl (fun _ => rfl) (fun _ => rfl) ?_
  have z10 := Zr_eS (o := 54) (f := 8) (t := 61) z9 (by decide) rfl (by decide)
  refine v_aload_n dX13_init_41 0 rfl rfl ?_
  refine v_bipush dX13_init_42 rfl ?_
  refine v_nA24 z10 ⟨rfl, rfl, Or.inr ⟨rfl, rfl, show (55 : Nat) ≤ 62 from by decide⟩⟩ (by decide) rfl (rgl rfl) (by decide) (by decide) (And.intro (Or.inl (by decide)) (And.intro (Or.inl (by decide)) (And.intro (Or.inl (by decide)) (trivial)))) (And.intro (Or.inl (by decide)) (trivial)) q459 dX13_init_44 ?_
  have z11 := Zr_sA (c := 62) (x := (64, fun _ => 0)) (Zr_new z10 (by decide)) (by decide)
  refine v_putS (f := 9) (t := 62) cf13 (by decide) (by decide) rfl rfl rfl (by decide) q779 dX13_init_46 (Or.inl rfl) rfl (fun _ => rfl) (fun _ => rfl) ?_
  have z12 := Zr_eS (o := 54) (f := 9) (t := 62) z11 (by decide) rfl (by decide)
  refine v_aload_n dX13_init_49 0 rfl rfl ?_
  refine v_bipush dX13_init_50 rfl ?_
  refine v_nA24 z12 ⟨rfl, rfl, Or.inr ⟨rfl, rfl, show (55 : Nat) ≤ 63 from by decide⟩⟩ (by decide) rfl (rgl rfl) (by decide) (by decide) (And.intro (Or.inl (by decide)) (And.intro (Or.inl (by decide)) (And.intro (Or.inl (by decide)) (trivial)))) (And.intro (Or.inl (by decide)) (trivial)) q459 dX13_init_52 ?_
  have z13 := Zr_sA (c := 63) (x := (64, fun _ => 0)) (Zr_new z12 (by decide)) (by decide)
  refine v_putS (f := 10) (t := 63) cf13 (by decide) (by decide) rfl rfl rfl (by decide) q780 dX13_init_54 (Or.inl rfl) rfl (fun _ => rfl) (fun _ => rfl) ?_
  have z14 := Zr_eS (o := 54) (f := 10) (t := 63) z13 (by decide) rfl (by decide)
  refine v_aload_n dX13_init_57 0 rfl rfl ?_
  refine v_bipush dX13_init_58 rfl ?_
  refine v_nA24 z14 ⟨rfl, rfl, Or.inr ⟨rfl, rfl, show (55 : Nat) ≤ 64 from by decide⟩⟩ (by decide) rfl (rgl rfl) (by decide) (by decide) (And.intro (Or.inl (by decide)) (And.intro (Or.inl (by decide)) (And.intro (Or.inl (by decide)) (trivial)))) (And.intro (Or.inl (by decide)) (trivial)) q459 dX13_init_60 ?_
  have z15 := Zr_sA (c := 64) (x := (64, fun _ => 0)) (Zr_new z14 (by decide)) (by decide)
  refine v_putS (f := 11) (t := 64) cf13 (by decide) (by decide) rfl rfl rfl (by decide) q781 dX13_init_62 (Or.inl rfl) rfl (fun _ => rfl) (fun _ => rfl) ?_
  have z16 := Zr_eS (o := 54) (f := 11) (t := 64) z15 (by decide) rfl (by decide)
  refine v_aload_n dX13_init_65 0 rfl rfl ?_
  refine v_bipush dX13_init_66 rfl ?_
  refine v_nA24 z16 ⟨rfl, rfl, Or.inr ⟨rfl, rfl, show (55 : Nat) ≤ 65 from by decide⟩⟩ (by decide) rfl (rgl rfl) (by decide) (by decide) (And.intro (Or.inl (by decide)) (And.intro (Or.inl (by decide)) (And.intro (Or.inl (by decide)) (trivial)))) (And.intro (Or.inl (by decide)) (trivial)) q459 dX13_init_68 ?_
  have z17 := Zr_sA (c := 65) (x := (64, fun _ => 0)) (Zr_new z16 (by decide)) (by decide)
  refine v_putS (f := 12) (t := 65) cf13 (by decide) (by decide) rfl rfl rfl (by decide) q782 dX13_init_70 (Or.inl rfl) rfl (fun _ => rfl) (fun _ => rfl) ?_
  have z18 := Zr_eS (o := 54) (f := 12) (t := 65) z17 (by decide) rfl (by decide)
  refine v_aload_n dX13_init_73 0 rfl rfl ?_
  refine v_bipush dX13_init_74 rfl ?_
  refine v_nA24 z18 ⟨rfl, rfl, Or.inr ⟨rfl, rfl, show (55 : Nat) ≤ 66 from by decide⟩⟩ (by decide) rfl (rgl rfl) (by decide) (by decide) (And.intro (Or.inl (by decide)) (And.intro (Or.inl (by decide)) (And.intro (Or.inl (by decide)) (trivial)))) (And.intro (Or.inl (by decide)) (trivial)) q459 dX13_init_76 ?_
  have z19 := Zr_sA (c := 66) (x := (64, fun _ => 0)) (Zr_new z18 (by decide)) (by decide)
  refine v_putS (f := 13) (t := 66) cf13 (by decide) (by decide) rfl rfl rfl (by decide) q783 dX13_init_78 (Or.inl rfl) rfl (fun _ => rfl) (fun _ => rfl) ?_
  have z20 := Zr_eS (o := 54) (f := 13) (t := 66) z19 (by decide) rfl (by decide)
  refine v_aload_n dX13_init_81 0 rfl rfl ?_
  refine v_bipush dX13_init_82 rfl ?_
  refine v_nA24 z20 ⟨rfl, rfl, Or.inr ⟨rfl, rfl, show (55 : Nat) ≤ 67 from by decide⟩⟩ (by decide) rfl (rgl rfl) (by decide) (by decide) (And.intro (Or.inl (by decide)) (And.intro (Or.inl (by decide)) (And.intro (Or.inl (by decide)) (trivial)))) (And.intro (Or.inl (by decide)) (trivial)) q459 dX13_init_84 ?_
  have z21 := Zr_sA (c := 67) (x := (16, fun _ => 0)) (Zr_new z20 (by decide)) (by decide)
  refine v_putS (f := 14) (t := 67) cf13 (by decide) (by decide) rfl rfl rfl (by decide) q784 dX13_init_86 (Or.inl rfl) rfl (fun _ => rfl) (fun _ => rfl) ?_
  have z22 := Zr_eS (o := 54) (f := 14) (t := 67) z21 (by decide) rfl (by decide)
  refine v_aload_n dX13_init_89 0 rfl rfl ?_
  refine v_bipush dX13_init_90 rfl ?_
  refine v_nA24 z22 ⟨rfl, rfl, Or.inr ⟨rfl, rfl, show (55 : Nat) ≤ 68 from by decide⟩⟩ (by decide) rfl (rgl rfl) (by decide) (by decide) (And.intro (Or.inl (by decide)) (And.intro (Or.inl (by decide)) (And.intro (Or.inl (by decide)) (trivial)))) (And.intro (Or.inl (by decide)) (trivial)) q459 dX13_init_92 ?_
  have z23 := Zr_sA (c := 68) (x := (16, fun _ => 0)) (Zr_new z22 (by decide)) (by decide)
  refine v_putS (f := 15) (t := 68) cf13 (by decide) (by decide) rfl rfl rfl (by decide) q785 dX13_init_94 (Or.inl rfl) rfl (fun _ => rfl) (fun _ => rfl) ?_
  have z24 := Zr_eS (o := 54) (f := 15) (t := 68) z23 (by decide) rfl (by decide)
  refine v_aload_n dX13_init_97 0 rfl rfl ?_
  refine v_bipush dX13_init_98 rfl ?_
  refine v_nA24 z24 ⟨rfl, rfl, Or.inr ⟨rfl, rfl, show (55 : Nat) ≤ 69 from by decide⟩⟩ (by decide) rfl (rgl rfl) (by decide) (by decide) (And.intro (Or.inl (by decide)) (And.intro (Or.inl (by decide)) (And.intro (Or.inl (by decide)) (trivial)))) (And.intro (Or.inl (by decide)) (trivial)) q459 dX13_init_100 ?_
  have z25 := Zr_sA (c := 69) (x := (16, fun _ => 0)) (Zr_new z24 (by decide)) (by decide)
  refine v_putS (f := 16) (t := 69) cf13 (by decide) (by decide) rfl rfl rfl (by decide) q786 dX13_init_102 (Or.inl rfl) rfl (fun _ => rfl) (fun _ => rfl) ?_
  have z26 := Zr_eS (o := 54) (f := 16) (t := 69) z25 (by decide) rfl (by decide)
  refine v_aload_n dX13_init_105 0 rfl rfl ?_
  refine v_bipush dX13_init_106 rfl ?_
  refine v_nA24 z26 ⟨rfl, rfl, Or.inr ⟨rfl, rfl, show (55 : Nat) ≤ 70 from by decide⟩⟩ (by decide) rfl (rgl rfl) (by decide) (by decide) (And.intro (Or.inl (by decide)) (And.intro (Or.inl (by decide)) (And.intro (Or.inl (by decide)) (trivial)))) (And.intro (Or.inl (by decide)) (trivial)) q459 dX13_init_108 ?_
  have z27 := Zr_sA (c := 70) (x := (16, fun _ => 0)) (Zr_new z26 (by decide)) (by decide)
  refine v_putS (f := 17) (t := 70) cf13 (by decide) (by decide) rfl rfl rfl (by decide) q787 dX13_init_110 (Or.inl rfl) rfl (fun _ => rfl) (fun _ => rfl) ?_
  have z28 := Zr_eS (o := 54) (f := 17) (t := 70) z27 (by decide) rfl (by decide)
  refine v_aload_n dX13_init_113 0 rfl rfl ?_
  refine v_bipush dX13_init_114 rfl ?_
  refine v_nA24 z28 ⟨rfl, rfl, Or.inr ⟨rfl, rfl, show (55 : Nat) ≤ 71 from by decide⟩⟩ (by decide) rfl (rgl rfl) (by decide) (by decide) (And.intro (Or.inl (by decide)) (And.intro (Or.inl (by decide)) (And.intro (Or.inl (by decide)) (trivial)))) (And.intro (Or.inl (by decide)) (trivial)) q459 dX13_init_116 ?_
  have z29 := Zr_sA (c := 71) (x := (16, fun _ => 0)) (Zr_new z28 (by decide)) (by decide)
  refine v_putS (f := 19) (t := 71) cf13 (by decide) (by decide) rfl rfl rfl (by decide) q789 dX13_init_118 (Or.inl rfl) rfl (fun _ => rfl) (fun _ => rfl) ?_
  have z30 := Zr_eS (o := 54) (f := 19) (t := 71) z29 (by decide) rfl (by decide)
  refine v_aload_n dX13_init_121 0 rfl rfl ?_
  refine v_bipush dX13_init_122 rfl ?_
  refine v_nA24 z30 ⟨rfl, rfl, Or.inr ⟨rfl, rfl, show (55 : Nat) ≤ 72 from by decide⟩⟩ (by decide) rfl (rgl rfl) (by decide) (by decide) (And.intro (Or.inl (by decide)) (And.intro (Or.inl (by decide)) (And.intro (Or.inl (by decide)) (trivial)))) (And.intro (Or.inl (by decide)) (trivial)) q459 dX13_init_124 ?_
  have z31 := Zr_sA (c := 72) (x := (16, fun _ => 0)) (Zr_new z30 (by decide)) (by decide)
  refine v_putS (f := 20) (t := 72) cf13 (by decide) (by decide) rfl rfl rfl (by decide) q790 dX13_init_126 (Or.inl rfl) rfl (fun _ => rfl) (fun _ => rfl) ?_
  have z32 := Zr_eS (o := 54) (f := 20) (t := 72) z31 (by decide) rfl (by decide)
  refine v_aload_n dX13_init_129 0 rfl rfl ?_
  refine v_newO cf2 df2 z32 ⟨rfl, rfl, Or.inr ⟨rfl, rfl, show (55 : Nat) ≤ 73 from by decide⟩⟩ (by decide) rfl q768 q335 q299 (And.intro (Or.inl (by decide)) (And.intro (Or.inl (by decide)) (And.intro (Or.inl (by decide)) (trivial)))) (And.intro (Or.inl (by decide)) (trivial)) dX13_init_130 ?_
  have z33 := Zr_new z32 (by decide)
  refine v_dupO dX13_init_133 ?_
  refine v_callIN (st := [vO 73, vO 54]) (k_73 z33) (zz_73 z33) (by decide) (by decide) ⟨rfl, rfl, Or.inr ⟨rfl, rfl, show (55 : Nat) ≤ 74 from by decide⟩⟩ (And.intro (Or.inl ⟨by decide, by decide⟩) (And.intro (Or.inl ⟨by decide, by decide⟩) (And.intro (Or.inl ⟨by decide, by decide⟩) (trivial)))) (And.intro (Or.inl ⟨by decide, by decide⟩) (And.intro (Or.inl ⟨by decide, by decide⟩) (trivial))) rfl q338 q299 q769 q337 rfl yk_X2_init ⟨Nat.le_of_ble_eq_true rfl, Nat.le_of_ble_eq_true rfl⟩ (by decide) dX13_init_134 ?_
  have z34 := Zr_bmp (zz_73 z33)
  refine v_putS (f := 21) (t := 73) cf13 (by decide) (by decide) rfl rfl rfl (by decide) q791 dX13_init_137 (Or.inr ⟨rfl, rfl, rfl, rfl, rfl, rfl⟩) rfl (fun _ => rfl) (fun _ => rfl) ?_
  have z35 := Zr_eS (o := 54) (f := 21) (t := 73) z34 (by decide) rfl (by decide)
  refine v_aload_n dX13_init_140 0 rfl rfl ?_
  refine v_newO cf2 df2 z35 ⟨rfl, rfl, Or.inr ⟨rfl, rfl, show (55 : Nat) ≤ 75 from by decide⟩⟩ (by decide) rfl q768 q335 q299 (And.intro (Or.inl (by decide)) (And.intro (Or.inl (by decide)) (And.intro (Or.inl (by decide)) (trivial)))) (And.intro (Or.inl (by decide)) (trivial)) dX13_init_141 ?_
  have z36 := Zr_new z35 (by decide)
  refine v_dupO dX13_init_144 ?_
  refine v_callIN (st := [vO 75, vO 54]) (k_75 z36) (zz_75 z36) (by decide) (by decide) ⟨rfl, rfl, Or.inr ⟨rfl, rfl, show (55 : Nat) ≤ 76 from by decide⟩⟩ (And.intro (Or.inl ⟨by decide, by decide⟩) (And.intro (Or.inl ⟨by decide, by decide⟩) (And.intro (Or.inl ⟨by decide, by decide⟩) (trivial)))) (And.intro (Or.inl ⟨by decide, by decide⟩) (And.intro (Or.inl ⟨by decide, by decide⟩) (trivial))) rfl q338 q299 q769 q337 rfl yk_X2_init ⟨Nat.le_of_ble_eq_true rfl, Nat.le_of_ble_eq_true rfl⟩ (by decide) dX13_init_145 ?_
  have z37 := Zr_bmp (zz_75 z36)
  refine v_putS (f := 22) (t := 75) cf13 (by decide) (by decide) rfl rfl rfl (by decide) q792 dX13_init_148 (Or.inr ⟨rfl, rfl, rfl, rfl, rfl, rfl⟩) rfl (fun _ => rfl) (fun _ => rfl) ?_
  have z38 := Zr_eS (o := 54) (f := 22) (t := 75) z37 (by decide) rfl (by decide)
  refine v_aload_n dX13_init_151 0 rfl rfl ?_
  refine v_newO cf2 df2 z38 ⟨rfl, rfl, Or.inr ⟨rfl, rfl, show (55 : Nat) ≤ 77 from by decide⟩⟩ (by decide) rfl q768 q335 q299 (And.intro (Or.inl (by decide)) (And.intro (Or.inl (by decide)) (And.intro (Or.inl (by decide)) (trivial)))) (And.intro (Or.inl (by decide)) (trivial)) dX13_init_152 ?_
  have z39 := Zr_new z38 (by decide)
  refine v_dupO dX13_init_155 ?_
  refine v_callIN (st := [vO 77, vO 54]) (k_77 z39) (zz_77 z39) (by decide) (by decide) ⟨rfl, rfl, Or.inr ⟨rfl, rfl, show (55 : Nat) ≤ 78 from by decide⟩⟩ (And.intro (Or.inl ⟨by decide, by decide⟩) (And.intro (Or.inl ⟨by decide, by decide⟩) (And.intro (Or.inl ⟨by decide, by decide⟩) (trivial)))) (And.intro (Or.inl ⟨by decide, by decide⟩) (And.intro (Or.inl ⟨by decide, by decide⟩) (trivial))) rfl q338 q299 q769 q337 rfl yk_X2_init ⟨Nat.le_of_ble_eq_true rfl, Nat.le_of_ble_eq_true rfl⟩ (by decide) dX13_init_156 ?_
  have z40 := Zr_bmp (zz_77 z39)
  refine v_putS (f := 23) (t := 77) cf13 (by decide) (by decide) rfl rfl rfl (by decide) q793 dX13_init_159 (Or.inr ⟨rfl, rfl, rfl, rfl, rfl, rfl⟩) rfl (fun _ => rfl) (fun _ => rfl) ?_
  have z41 := Zr_eS (o := 54) (f := 23) (t := 77) z40 (by decide) rfl (by decide)
  refine v_aload_n dX13_init_162 0 rfl rfl ?_
  refine v_bipush dX13_init_163 rfl ?_
  refine v_nA24 z41 ⟨rfl, rfl, Or.inr ⟨rfl, rfl, show (55 : Nat) ≤ 79 from by decide⟩⟩ (by decide) rfl (rgl rfl) (by decide) (by decide) (And.intro (Or.inl (by decide)) (And.intro (Or.inl (by decide)) (And.intro (Or.inl (by decide)) (trivial)))) (And.intro (Or.inl (by decide)) (trivial)) q459 dX13_init_165 ?_
  have z42 := Zr_sA (c := 79) (x := (64, fun _ => 0)) (Zr_new z41 (by decide)) (by decide)
  refine v_putS (f := 24) (t := 79) cf13 (by decide) (by decide) rfl rfl rfl (by decide) q794 dX13_init_167 (Or.inl rfl) rfl (fun _ => rfl) (fun _ => rfl) ?_
  have z43 := Zr_eS (o := 54) (f := 24) (t := 79) z42 (by decide) rfl (by decide)
  refine v_aload_n dX13_init_170 0 rfl rfl ?_
  refine v_bipush dX13_init_171 rfl ?_
  refine v_nA24 z43 ⟨rfl, rfl, Or.inr ⟨rfl, rfl, show (55 : Nat) ≤ 80 from by decide⟩⟩ (by decide) rfl (rgl rfl) (by decide) (by decide) (And.intro (Or.inl (by decide)) (And.intro (Or.inl (by decide)) (And.intro (Or.inl (by decide)) (trivial)))) (And.intro (Or.inl (by decide)) (trivial)) q459 dX13_init_173 ?_
  have z44 := Zr_sA (c := 80) (x := (64, fun _ => 0)) (Zr_new z43 (by decide)) (by decide)
  refine v_putS (f := 25) (t := 80) cf13 (by decide) (by decide) rfl rfl rfl (by decide) q795 dX13_init_175 (Or.inl rfl) rfl (fun _ => rfl) (fun _ => rfl) ?_
  have z45 := Zr_eS (o := 54) (f := 25) (t := 80) z44 (by decide) rfl (by decide)
  refine v_aload_n dX13_init_178 0 rfl rfl ?_
  refine v_bipush dX13_init_179 rfl ?_
  refine v_nA24 z45 ⟨rfl, rfl, Or.inr ⟨rfl, rfl, show (55 : Nat) ≤ 81 from by decide⟩⟩ (by decide) rfl (rgl rfl) (by decide) (by decide) (And.intro (Or.inl (by decide)) (And.intro (Or.inl (by decide)) (And.intro (Or.inl (by decide)) (trivial)))) (And.intro (Or.inl (by decide)) (trivial)) q459 dX13_init_181 ?_
  have z46 := Zr_sA (c := 81) (x := (16, fun _ => 0)) (Zr_new z45 (by decide)) (by decide)
  refine v_putS (f := 26) (t := 81) cf13 (by decide) (by decide) rfl rfl rfl (by decide) q796 dX13_init_183 (Or.inl rfl) rfl (fun _ => rfl) (fun _ => rfl) ?_
  have z47 := Zr_eS (o := 54) (f := 26) (t := 81) z46 (by decide) rfl (by decide)
  refine v_aload_n dX13_init_186 0 rfl rfl ?_
  refine v_bipush dX13_init_187 rfl ?_
  refine v_nA24 z47 ⟨rfl, rfl, Or.inr ⟨rfl, rfl, show (55 : Nat) ≤ 82 from by decide⟩⟩ (by decide) rfl (rgl rfl) (by decide) (by decide) (And.intro (Or.inl (by decide)) (And.intro (Or.inl (by decide)) (And.intro (Or.inl (by decide)) (trivial)))) (And.intro (Or.inl (by decide)) (trivial)) q459 dX13_init_189 ?_
  have z48 := Zr_sA (c := 82) (x := (64, fun _ => 0)) (Zr_new z47 (by decide)) (by decide)
  refine v_putS (f := 28) (t := 82) cf13 (by decide) (by decide) rfl rfl rfl (by decide) q798 dX13_init_191 (Or.inl rfl) rfl (fun _ => rfl) (fun _ => rfl) ?_
  have z49 := Zr_eS (o := 54) (f := 28) (t := 82) z48 (by decide) rfl (by decide)
  refine v_aload_n dX13_init_194 0 rfl rfl ?_
  refine v_bipush dX13_init_195 rfl ?_
  refine v_nA24 z49 ⟨rfl, rfl, Or.inr ⟨rfl, rfl, show (55 : Nat) ≤ 83 from by decide⟩⟩ (by decide) rfl (rgl rfl) (by decide) (by decide) (And.intro (Or.inl (by decide)) (And.intro (Or.inl (by decide)) (And.intro (Or.inl (by decide)) (trivial)))) (And.intro (Or.inl (by decide)) (trivial)) q459 dX13_init_197 ?_
  have z50 := Zr_sA (c := 83) (x := (64, fun _ => 0)) (Zr_new z49 (by decide)) (by decide)
  refine v_putS (f := 29) (t := 83) cf13 (by decide) (by decide) rfl rfl rfl (by decide) q799 dX13_init_199 (Or.inl rfl) rfl (fun _ => rfl) (fun _ => rfl) ?_
  have z51 := Zr_eS (o := 54) (f := 29) (t := 83) z50 (by decide) rfl (by decide)
  refine v_aload_n dX13_init_202 0 rfl rfl ?_
  refine v_aload_n dX13_init_203 1 rfl rfl ?_
  refine v_putS (f := 0) (t := 10) cf13 (by decide) (by decide) rfl rfl rfl (by decide) q770 dX13_init_204 (Or.inr ⟨rfl, rfl, rfl, rfl, rfl, rfl⟩) rfl (fun _ => rfl) (fun _ => rfl) ?_
  have z52 := Zr_eS (o := 54) (f := 0) (t := 10) z51 (by decide) rfl (by decide)
  refine v_aload_n dX13_init_207 0 rfl rfl ?_
  refine v_aload_n dX13_init_208 2 rfl rfl ?_
  refine v_putS (f := 1) (t := 13) cf13 (by decide) (by decide) rfl rfl rfl (by decide) q771 dX13_init_209 (Or.inr ⟨rfl, rfl, rfl, rfl, rfl, rfl⟩) rfl (fun _ => rfl) (fun _ => rfl) ?_
  have z53 := Zr_eS (o := 54) (f := 1) (t := 13) z52 (by decide) rfl (by decide)
  exact v_cret (by decide) dX13_init_212
def i_84 (σ : vS) : vS := bmp (sA (σ) 85 (64, fun _ => 0))
def e_84 (E : Nat → Nat → Bool) : Nat → Nat → Bool := eS (E) 84 0
theorem zz_84 {σ : vS} {E : Nat → Nat → Bool} (hz : Zr 85 E σ) : Zr 86 (e_84 E) (i_84 σ) := by
  have z1 := Zr_sA (c := 85) (x := (64, fun _ => 0)) (Zr_new hz (by decide)) (by decide)
  have z2 := Zr_eS (o := 84) (f := 0) (t := 85) z1 (by decide) rfl (by decide)
  exact Zr_bmp z2
theorem k_84 {σ : vS} {E : Nat → Nat → Bool} (hz : Zr 85 E σ) : VCI yX2_init cX2_init 1 1 12 [vO 84] 85 E σ 86 (e_84 E) (i_84 σ) := by
  refine VCI.of RX2 (by decide) rfl (by decide) rfl (by decide) ?_
  show VW cX2_init (cB RX2 (conS (i_84 σ) (pK 86 (e_84 E)) 85) 1 12 1) (pK 85 E) σ 0 [(0, vO 84)] []
  refine v_aload_n dX2_init_0 0 rfl rfl ?_
  refine v_oinit (o := 84) q339 (by decide) (by decide) dX2_init_1 ?_
  refine v_aload_n dX2_init_4 0 rfl rfl ?_
  refine v_bipush dX2_init_5 rfl ?_
  refine v_nA25 hz ⟨rfl, rfl, Or.inr ⟨rfl, rfl, show (85 : Nat) ≤ 85 from by decide⟩⟩ (by decide) rfl (rgl rfl) (by decide) (by decide) (And.intro (Or.inl (by decide)) (trivial)) (And.intro (Or.inl (by decide)) (trivial)) q347 dX2_init_7 ?_
  have z1 := Zr_sA (c := 85) (x := (64, fun _ => 0)) (Zr_new hz (by decide)) (by decide)
  refine v_putS (f := 0) (t := 85) cf2 (by decide) (by decide) rfl rfl rfl (by decide) q340 dX2_init_9 (Or.inl rfl) rfl (fun _ => rfl) (fun _ => rfl) ?_
  have z2 := Zr_eS (o := 84) (f := 0) (t := 85) z1 (by decide) rfl (by decide)
  exact v_cret (by decide) dX2_init_12
def i_0 (σ : vS) : vS := bmp (sI (sA (bmp (i_84 (bmp (i_54 (bmp (i_44 (bmp (i_13 (bmp (i_12 (bmp (i_10 (bmp (i_5 (bmp (i_3 (bmp (i_1 (σ))))))))))))))))))) 86 (16, fun _ => 0)) 0 16 64)
def e_0 (E : Nat → Nat → Bool) : Nat → Nat → Bool := eS (eS (e_84 (eS (e_54 (eS (e_44 (eS (e_13 (eS (e_12 (eS (e_10 (eS (e_5 (eS (e_3 (eS (e_1 (E)) 0 0)) 0 1)) 0 2)) 0 3)) 0 4)) 0 5)) 0 6)) 0 7)) 0 8) 0 9
theorem zz_0 {σ : vS} {E : Nat → Nat → Bool} (hz : Zr 1 E σ) : Zr 87 (e_0 E) (i_0 σ) := by
  have z1 := Zr_new hz (by decide)
  have z2 := Zr_bmp (zz_1 z1)
  have z3 := Zr_eS (o := 0) (f := 0) (t := 1) z2 (by decide) rfl (by decide)
  have z4 := Zr_new z3 (by decide)
  have z5 := Zr_bmp (zz_3 z4)
  have z6 := Zr_eS (o := 0) (f := 1) (t := 3) z5 (by decide) rfl (by decide)
  have z7 := Zr_new z6 (by decide)
  have z8 := Zr_bmp (zz_5 z7)
  have z9 := Zr_eS (o := 0) (f := 2) (t := 5) z8 (by decide) rfl (by decide)
  have z10 := Zr_new z9 (by decide)
  have z11 := Zr_bmp (zz_10 z10)
  have z12 := Zr_eS (o := 0) (f := 3) (t := 10) z11 (by decide) rfl (by decide)
  have z13 := Zr_new z12 (by decide)
  have z14 := Zr_bmp (zz_12 z13)
  have z15 := Zr_eS (o := 0) (f := 4) (t := 12) z14 (by decide) rfl (by decide)
  have z16 := Zr_new z15 (by decide)
  have z17 := Zr_bmp (zz_13 z16)
  have z18 := Zr_eS (o := 0) (f := 5) (t := 13) z17 (by decide) rfl (by decide)
  have z19 := Zr_new z18 (by decide)
  have z20 := Zr_bmp (zz_44 z19)
  have z21 := Zr_eS (o := 0) (f := 6) (t := 44) z20 (by decide) rfl (by decide)
  have z22 := Zr_new z21 (by decide)
  have z23 := Zr_bmp (zz_54 z22)
  have z24 := Zr_eS (o := 0) (f := 7) (t := 54) z23 (by decide) rfl (by decide)
  have z25 := Zr_new z24 (by decide)
  have z26 := Zr_bmp (zz_84 z25)
  have z27 := Zr_eS (o := 0) (f := 8) (t := 84) z26 (by decide) rfl (by decide)
  have z28 := Zr_sA (c := 86) (x := (16, fun _ => 0)) (Zr_new z27 (by decide)) (by decide)
  have z29 := Zr_eS (o := 0) (f := 9) (t := 86) z28 (by decide) rfl (by decide)
  have z30 := Zr_sI (c := 0) (f := 16) (x := 64) z29 (by decide)
  exact Zr_bmp z30
theorem k_0 {σ : vS} {E : Nat → Nat → Bool} (hz : Zr 1 E σ) : VCI yX1_init cX1_init 1 4 74 [vO 0] 1 E σ 87 (e_0 E) (i_0 σ) := by
  refine VCI.of RX1 (by decide) rfl (by decide) rfl (by decide) ?_
  show VW cX1_init (cB RX1 (conS (i_0 σ) (pK 87 (e_0 E)) 1) 4 74 1) (pK 1 E) σ 0 [(0, vO 0)] []
  refine v_aload_n dX1_init_0 0 rfl rfl ?_
  refine v_oinit (o := 0) q331 (by decide) (by decide) dX1_init_1 ?_
  refine v_aload_n dX1_init_4 0 rfl rfl ?_
  refine v_newO cf2 df2 hz ⟨rfl, rfl, Or.inr ⟨rfl, rfl, show (1 : Nat) ≤ 1 from by decide⟩⟩ (by decide) rfl q334 q335 q299 (And.intro (Or.inl (by decide)) (trivial)) (And.intro (Or.inl (by decide)) (trivial)) dX1_init_5 ?_
  have z1 := Zr_new hz (by decide)
  refine v_dupO dX1_init_8 ?_
  refine v_callIN (st := [vO 1, vO 0]) (k_1 z1) (zz_1 z1) (by decide) (by decide) ⟨rfl, rfl, Or.inr ⟨rfl, rfl, show (1 : Nat) ≤ 2 from by decide⟩⟩ (And.intro (Or.inl ⟨by decide, by decide⟩) (trivial)) (And.intro (Or.inl ⟨by decide, by decide⟩) (And.intro (Or.inl ⟨by decide, by decide⟩) (trivial))) rfl q338 q299 q336 q337 rfl yk_X2_init ⟨Nat.le_of_ble_eq_true rfl, Nat.le_of_ble_eq_true rfl⟩ (by decide) dX1_init_9 ?_
  have z2 := Zr_bmp (zz_1 z1)
  refine v_putS (f := 0) (t := 1) cf1 (by decide) (by decide) rfl rfl rfl (by decide) q861 dX1_init_12 (Or.inr ⟨rfl, rfl, rfl, rfl, rfl, rfl⟩) rfl (fun _ => rfl) (fun _ => rfl) ?_
  have z3 := Zr_eS (o := 0) (f := 0) (t := 1) z2 (by decide) rfl (by decide)
  refine v_aload_n dX1_init_15 0 rfl rfl ?_
  refine v_newO cf2 df2 z3 ⟨rfl, rfl, Or.inr ⟨rfl, rfl, show (1 : Nat) ≤ 3 from by decide⟩⟩ (by decide) rfl q334 q335 q299 (And.intro (Or.inl (by decide)) (trivial)) (And.intro (Or.inl (by decide)) (trivial)) dX1_init_16 ?_
  have z4 := Zr_new z3 (by decide)
  refine v_dupO dX1_init_19 ?_
  refine v_callIN (st := [vO 3, vO 0]) (k_3 z4) (zz_3 z4) (by decide) (by decide) ⟨rfl, rfl, Or.inr ⟨rfl, rfl, show (1 : Nat) ≤ 4 from by decide⟩⟩ (And.intro (Or.inl ⟨by decide, by decide⟩) (trivial)) (And.intro (Or.inl ⟨by decide, by decide⟩) (And.intro (Or.inl ⟨by decide, by decide⟩) (trivial))) rfl q338 q299 q336 q337 rfl yk_X2_init ⟨Nat.le_of_ble_eq_true rfl, Nat.le_of_ble_eq_true rfl⟩ (by decide) dX1_init_20 ?_
  have z5 := Zr_bmp (zz_3 z4)
  refine v_putS (f := 1) (t := 3) cf1 (by decide) (by decide) rfl rfl rfl (by decide) q862 dX1_init_23 (Or.inr ⟨rfl, rfl, rfl, rfl, rfl, rfl⟩) rfl (fun _ => rfl) (fun _ => rfl) ?_
  have z6 := Zr_eS (o := 0) (f := 1) (t := 3) z5 (by decide) rfl (by decide)
  refine v_aload_n dX1_init_26 0 rfl rfl ?_
  refine v_newO cf3 df3 z6 ⟨rfl, rfl, Or.inr ⟨rfl, rfl, show (1 : Nat) ≤ 5 from by decide⟩⟩ (by decide) rfl q348 q349 q300 (And.intro (Or.inl (by decide)) (trivial)) (And.intro (Or.inl (by decide)) (trivial)) dX1_init_27 ?_
  have z7 := Zr_new z6 (by decide)
  refine v_dupO dX1_init_30 ?_
  refine v_callIN (st := [vO 5, vO 0]) (k_5 z7) (zz_5 z7) (by decide) (by decide) ⟨rfl, rfl, Or.inr ⟨rfl, rfl, show (1 : Nat) ≤ 6 from by decide⟩⟩ (And.intro (Or.inl ⟨by decide, by decide⟩) (trivial)) (And.intro (Or.inl ⟨by decide, by decide⟩) (And.intro (Or.inl ⟨by decide, by decide⟩) (trivial))) rfl q352 q300 q350 q351 rfl yk_X3_init ⟨Nat.le_of_ble_eq_true rfl, Nat.le_of_ble_eq_true rfl⟩ (by decide) dX1_init_31 ?_
  have z8 := Zr_bmp (zz_5 z7)
  refine v_putS (f := 2) (t := 5) cf1 (by decide) (by decide) rfl rfl rfl (by decide) q863 dX1_init_34 (Or.inr ⟨rfl, rfl, rfl, rfl, rfl, rfl⟩) rfl (fun _ => rfl) (fun _ => rfl) ?_
  have z9 := Zr_eS (o := 0) (f := 2) (t := 5) z8 (by decide) rfl (by decide)
  refine v_aload_n dX1_init_37 0 rfl rfl ?_
  refine v_newO cf4 df4 z9 ⟨rfl, rfl, Or.inr ⟨rfl, rfl, show (1 : Nat) ≤ 10 from by decide⟩⟩ (by decide) rfl q460 q461 q301 (And.intro (Or.inl (by decide)) (trivial)) (And.intro (Or.inl (by decide)) (trivial)) dX1_init_38 ?_
  have z10 := Zr_new z9 (by decide)
  refine v_dupO dX1_init_41 ?_
  refine v_callIN (st := [vO 10, vO 0]) (k_10 z10) (zz_10 z10) (by decide) (by decide) ⟨rfl, rfl, Or.inr ⟨rfl, rfl, show (1 : Nat) ≤ 11 from by decide⟩⟩ (And.intro (Or.inl ⟨by decide, by decide⟩) (trivial)) (And.intro (Or.inl ⟨by decide, by decide⟩) (And.intro (Or.inl ⟨by decide, by decide⟩) (trivial))) rfl q464 q301 q462 q463 rfl yk_X4_init ⟨Nat.le_of_ble_eq_true rfl, Nat.le_of_ble_eq_true rfl⟩ (by decide) dX1_init_42 ?_
  have z11 := Zr_bmp (zz_10 z10)
  refine v_putS (f := 3) (t := 10) cf1 (by decide) (by decide) rfl rfl rfl (by decide) q864 dX1_init_45 (Or.inr ⟨rfl, rfl, rfl, rfl, rfl, rfl⟩) rfl (fun _ => rfl) (fun _ => rfl) ?_
  have z12 := Zr_eS (o := 0) (f := 3) (t := 10) z11 (by decide) rfl (by decide)
  refine v_aload_n dX1_init_48 0 rfl rfl ?_
  refine v_newO cf5 df5 z12 ⟨rfl, rfl, Or.inr ⟨rfl, rfl, show (1 : Nat) ≤ 12 from by decide⟩⟩ (by decide) rfl q494 q495 q302 (And.intro (Or.inl (by decide)) (trivial)) (And.intro (Or.inl (by decide)) (trivial)) dX1_init_49 ?_
  have z13 := Zr_new z12 (by decide)
  refine v_dupO dX1_init_52 ?_
  refine v_aload_n dX1_init_53 0 rfl rfl ?_
  refine v_getS (f := 3) (t := 10) cf1 (ok_K (by decide) (by decide) rfl) rfl rfl rfl (by decide) q864 dX1_init_54 ?_
  refine v_callI (st := [vO 12, vO 0]) (k_12 z13) (zz_12 z13) (by decide) (by decide) ⟨rfl, rfl, Or.inr ⟨rfl, rfl, show (1 : Nat) ≤ 13 from by decide⟩⟩ (And.intro (Or.inl ⟨by decide, by decide⟩) (trivial)) (And.intro (Or.inl ⟨by decide, by decide⟩) (And.intro (Or.inl ⟨by decide, by decide⟩) (trivial))) rfl q498 q302 q496 q497 rfl yk_X5_init ⟨Nat.le_of_ble_eq_true rfl, Nat.le_of_ble_eq_true rfl⟩ (by decide) dX1_init_57 ?_
  have z14 := Zr_bmp (zz_12 z13)
  refine v_putS (f := 4) (t := 12) cf1 (by decide) (by decide) rfl rfl rfl (by decide) q865 dX1_init_60 (Or.inr ⟨rfl, rfl, rfl, rfl, rfl, rfl⟩) rfl (fun _ => rfl) (fun _ => rfl) ?_
  have z15 := Zr_eS (o := 0) (f := 4) (t := 12) z14 (by decide) rfl (by decide)
  refine v_aload_n dX1_init_63 0 rfl rfl ?_
  refine v_newO cf6 df6 z15 ⟨rfl, rfl, Or.inr ⟨rfl, rfl, show (1 : Nat) ≤ 13 from by decide⟩⟩ (by decide) rfl q516 q517 q303 (And.intro (Or.inl (by decide)) (trivial)) (And.intro (Or.inl (by decide)) (trivial)) dX1_init_64 ?_
  have z16 := Zr_new z15 (by decide)
  refine v_dupO dX1_init_67 ?_
  refine v_aload_n dX1_init_68 0 rfl rfl ?_
  refine v_getS (f := 3) (t := 10) cf1 (ok_K (by decide) (by decide) rfl) rfl rfl rfl (by decide) q864 dX1_init_69 ?_
  refine v_callI (st := [vO 13, vO 0]) (k_13 z16) (zz_13 z16) (by decide) (by decide) ⟨rfl, rfl, Or.inr ⟨rfl, rfl, show (1 : Nat) ≤ 14 from by decide⟩⟩ (And.intro (Or.inl ⟨by decide, by decide⟩) (trivial)) (And.intro (Or.inl ⟨by decide, by decide⟩) (And.intro (Or.inl ⟨by decide, by decide⟩) (trivial))) rfl q520 q303 q518 q519 rfl yk_X6_init ⟨Nat.le_of_ble_eq_true rfl, Nat.le_of_ble_eq_true rfl⟩ (by decide) dX1_init_72 ?_
  have z17 := Zr_bmp (zz_13 z16)
  refine v_putS (f := 5) (t := 13) cf1 (by decide) (by decide) rfl rfl rfl (by decide) q866 dX1_init_75 (Or.inr ⟨rfl, rfl, rfl, rfl, rfl, rfl⟩) rfl (fun _ => rfl) (fun _ => rfl) ?_
  have z18 := Zr_eS (o := 0) (f := 5) (t := 13) z17 (by decide) rfl (by decide)
  refine v_aload_n dX1_init_78 0 rfl rfl ?_
  refine v_newO cf12 df12 z18 ⟨rfl, rfl, Or.inr ⟨rfl, rfl, show (1 : Nat) ≤ 44 from by decide⟩⟩ (by decide) rfl q703 q704 q309 (And.intro (Or.inl (by decide)) (trivial)) (And.intro (Or.inl (by decide)) (trivial)) dX1_init_79 ?_
  have z19 := Zr_new z18 (by decide)
  refine v_dupO dX1_init_82 ?_
  refine v_callIN (st := [vO 44, vO 0]) (k_44 z19) (zz_44 z19) (by decide) (by decide) ⟨rfl, rfl, Or.inr ⟨rfl, rfl, show (1 : Nat) ≤ 45 from by decide⟩⟩ (And.intro (Or.inl ⟨by decide, by decide⟩) (trivial)) (And.intro (Or.inl ⟨by decide, by decide⟩) (And.intro (Or.inl ⟨by decide, by decide⟩) (trivial))) rfl q707 q309 q705 q706 rfl yk_X12_init ⟨Nat.le_of_ble_eq_true rfl, Nat.le_of_ble_eq_true rfl⟩ (by decide) dX1_init_83 ?_
  have z20 := Zr_bmp (zz_44 z19)
  refine v_putS (f := 6) (t := 44) cf1 (by decide) (by decide) rfl rfl rfl (by decide) q867 dX1_init_86 (Or.inr ⟨rfl, rfl, rfl, rfl, rfl, rfl⟩) rfl (fun _ => rfl) (fun _ => rfl) ?_
  have z21 := Zr_eS (o := 0) (f := 6) (t := 44) z20 (by decide) rfl (by decide)
  refine v_aload_n dX1_init_89 0 rfl rfl ?_
  refine v_newO cf13 df13 z21 ⟨rfl, rfl, Or.inr ⟨rfl, rfl, show (1 : Nat) ≤ 54 from by decide⟩⟩ (by decide) rfl q756 q757 q310 (And.intro (Or.inl (by decide)) (trivial)) (And.intro (Or.inl (by decide)) (trivial)) dX1_init_90 ?_
  have z22 := Zr_new z21 (by decide)
  refine v_dupO dX1_init_93 ?_
  refine v_aload_n dX1_init_94 0 rfl rfl ?_
  refine v_getS (f := 3) (t := 10) cf1 (ok_K (by decide) (by decide) rfl) rfl rfl rfl (by decide) q864 dX1_init_95 ?_
  refine v_aload_n dX1_init_98 0 rfl rfl ?_
  refine v_getS (f := 5) (t := 13) cf1 (ok_K (by decide) (by decide) rfl) rfl rfl rfl (by decide) q866 dX1_init_99 ?_
  refine v_callI (st := [vO 54, vO 0]) (k_54 z22) (zz_54 z22) (by decide) (by decide) ⟨rfl, rfl, Or.inr ⟨rfl, rfl, show (1 : Nat) ≤ 55 from by decide⟩⟩ (And.intro (Or.inl ⟨by decide, by decide⟩) (trivial)) (And.intro (Or.inl ⟨by decide, by decide⟩) (And.intro (Or.inl ⟨by decide, by decide⟩) (trivial))) rfl q760 q310 q758 q759 rfl yk_X13_init ⟨Nat.le_of_ble_eq_true rfl, Nat.le_of_ble_eq_true rfl⟩ (by decide) dX1_init_102 ?_
  have z23 := Zr_bmp (zz_54 z22)
  refine v_putS (f := 7) (t := 54) cf1 (by decide) (by decide) rfl rfl rfl (by decide) q868 dX1_init_105 (Or.inr ⟨rfl, rfl, rfl, rfl, rfl, rfl⟩) rfl (fun _ => rfl) (fun _ => rfl) ?_
  have z24 := Zr_eS (o := 0) (f := 7) (t := 54) z23 (by decide) rfl (by decide)
  refine v_aload_n dX1_init_108 0 rfl rfl ?_
  refine v_newO cf2 df2 z24 ⟨rfl, rfl, Or.inr ⟨rfl, rfl, show (1 : Nat) ≤ 84 from by decide⟩⟩ (by decide) rfl q334 q335 q299 (And.intro (Or.inl (by decide)) (trivial)) (And.intro (Or.inl (by decide)) (trivial)) dX1_init_109 ?_
  have z25 := Zr_new z24 (by decide)
  refine v_dupO dX1_init_112 ?_
  refine v_callIN (st := [vO 84, vO 0]) (k_84 z25) (zz_84 z25) (by decide) (by decide) ⟨rfl, rfl, Or.inr ⟨rfl, rfl, show (1 : Nat) ≤ 85 from by decide⟩⟩ (And.intro (Or.inl ⟨by decide, by decide⟩) (trivial)) (And.intro (Or.inl ⟨by decide, by decide⟩) (And.intro (Or.inl ⟨by decide, by decide⟩) (trivial))) rfl q338 q299 q336 q337 rfl yk_X2_init ⟨Nat.le_of_ble_eq_true rfl, Nat.le_of_ble_eq_true rfl⟩ (by decide) dX1_init_113 ?_
  have z26 := Zr_bmp (zz_84 z25)
  refine v_putS (f := 8) (t := 84) cf1 (by decide) (by decide) rfl rfl rfl (by decide) q869 dX1_init_116 (Or.inr ⟨rfl, rfl, rfl, rfl, rfl, rfl⟩) rfl (fun _ => rfl) (fun _ => rfl) ?_
  have z27 := Zr_eS (o := 0) (f := 8) (t := 84) z26 (by decide) rfl (by decide)
  refine v_aload_n dX1_init_119 0 rfl rfl ?_
  refine v_bipush dX1_init_120 rfl ?_
  refine v_nA24 z27 ⟨rfl, rfl, Or.inr ⟨rfl, rfl, show (1 : Nat) ≤ 86 from by decide⟩⟩ (by decide) rfl (rgl rfl) (by decide) (by decide) (And.intro (Or.inl (by decide)) (trivial)) (And.intro (Or.inl (by decide)) (trivial)) q459 dX1_init_122 ?_
  have z28 := Zr_sA (c := 86) (x := (16, fun _ => 0)) (Zr_new z27 (by decide)) (by decide)
  refine v_putS (f := 9) (t := 86) cf1 (by decide) (by decide) rfl rfl rfl (by decide) q870 dX1_init_124 (Or.inl rfl) rfl (fun _ => rfl) (fun _ => rfl) ?_
  have z29 := Zr_eS (o := 0) (f := 9) (t := 86) z28 (by decide) rfl (by decide)
  refine v_aload_n dX1_init_127 0 rfl rfl ?_
  refine v_bipush dX1_init_128 rfl ?_
  refine v_putI (f := 16) cf1 (ok_K (by decide) (by decide) rfl) rfl (by decide) q877 dX1_init_130 rfl rfl ?_
  have z30 := Zr_sI (c := 0) (f := 16) (x := 64) z29 (by decide)
  exact v_cret (by decide) dX1_init_133
theorem yk_X14_init : yOk yX14_init 0 := ⟨by decide, by decide, by decide +kernel⟩
def tb_88_40 : List Int := 71 :: 69 :: 66 :: 0 :: 67 :: 73 :: 84 :: 65 :: 77 :: 79 :: 84 :: 85 :: 65 :: 0 :: 78 :: 79 :: 73 :: 84 :: 65 :: 67 :: 73 :: 76 :: 80 :: 80 :: 65 :: 0 :: 89 :: 78 :: 65 :: 0 :: 76 :: 76 :: 65 :: 0 :: 84 :: 78 :: 69 :: 83 :: 66 :: 65 :: []
theorem wt_88_40 {rv : Option vA} {σo : vS} {ret : Option FieldType} {F Lc nL : Nat} {tko : List (Nat × Nat)} {P : vP} {σ : vS} {L : List (Nat × vA)} {st : List vA} (ho : ok P 88 24) (k : VW cX14_init (RX14, rv, σo, ret, F, Lc, nL, tko) P (sA σ 88 (686, tbr 40 tb_88_40)) 239 L (vO 88 :: st)) : VW cX14_init (RX14, rv, σo, ret, F, Lc, nL, tko) P (sA σ 88 (686, tbr 0 [])) 10 L (vO 88 :: st) := by
  refine v_tab (n := 0) (v := 65) ho (by decide) (by decide) dX14_init_10 (pu_c dX14_init_11) (pu_b dX14_init_12 rfl) dX14_init_14 ?_
  refine v_tab (n := 1) (v := 66) ho (by decide) (by decide) dX14_init_15 (pu_c dX14_init_16) (pu_b dX14_init_17 rfl) dX14_init_19 ?_
  refine v_tab (n := 2) (v := 83) ho (by decide) (by decide) dX14_init_20 (pu_c dX14_init_21) (pu_b dX14_init_22 rfl) dX14_init_24 ?_
  refine v_tab (n := 3) (v := 69) ho (by decide) (by decide) dX14_init_25 (pu_c dX14_init_26) (pu_b dX14_init_27 rfl) dX14_init_29 ?_
  refine v_tab (n := 4) (v := 78) ho (by decide) (by decide) dX14_init_30 (pu_c dX14_init_31) (pu_b dX14_init_32 rfl) dX14_init_34 ?_
  refine v_tab (n := 5) (v := 84) ho (by decide) (by decide) dX14_init_35 (pu_c dX14_init_36) (pu_b dX14_init_37 rfl) dX14_init_39 ?_
  refine v_tab (n := 6) (v := 0) ho (by decide) (by decide) dX14_init_40 (pu_b dX14_init_41 rfl) (pu_c dX14_init_43) dX14_init_44 ?_
  refine v_tab (n := 7) (v := 65) ho (by decide) (by decide) dX14_init_45 (pu_b dX14_init_46 rfl) (pu_b dX14_init_48 rfl) dX14_init_50 ?_
  refine v_tab (n := 8) (v := 76) ho (by decide) (by decide) dX14_init_51 (pu_b dX14_init_52 rfl) (pu_b dX14_init_54 rfl) dX14_init_56 ?_
  refine v_tab (n := 9) (v := 76) ho (by decide) (by decide) dX14_init_57 (pu_b dX14_init_58 rfl) (pu_b dX14_init_60 rfl) dX14_init_62 ?_
  refine v_tab (n := 10) (v := 0) ho (by decide) (by decide) dX14_init_63 (pu_b dX14_init_64 rfl) (pu_c dX14_init_66) dX14_init_67 ?_
  refine v_tab (n := 11) (v := 65) ho (by decide) (by decide) dX14_init_68 (pu_b dX14_init_69 rfl) (pu_b dX14_init_71 rfl) dX14_init_73 ?_
  refine v_tab (n := 12) (v := 78) ho (by decide) (by decide) dX14_init_74 (pu_b dX14_init_75 rfl) (pu_b dX14_init_77 rfl) dX14_init_79 ?_
  refine v_tab (n := 13) (v := 89) ho (by decide) (by decide) dX14_init_80 (pu_b dX14_init_81 rfl) (pu_b dX14_init_83 rfl) dX14_init_85 ?_
  refine v_tab (n := 14) (v := 0) ho (by decide) (by decide) dX14_init_86 (pu_b dX14_init_87 rfl) (pu_c dX14_init_89) dX14_init_90 ?_
  refine v_tab (n := 15) (v := 65) ho (by decide) (by decide) dX14_init_91 (pu_b dX14_init_92 rfl) (pu_b dX14_init_94 rfl) dX14_init_96 ?_
  refine v_tab (n := 16) (v := 80) ho (by decide) (by decide) dX14_init_97 (pu_b dX14_init_98 rfl) (pu_b dX14_init_100 rfl) dX14_init_102 ?_
  refine v_tab (n := 17) (v := 80) ho (by decide) (by decide) dX14_init_103 (pu_b dX14_init_104 rfl) (pu_b dX14_init_106 rfl) dX14_init_108 ?_
  refine v_tab (n := 18) (v := 76) ho (by decide) (by decide) dX14_init_109 (pu_b dX14_init_110 rfl) (pu_b dX14_init_112 rfl) dX14_init_114 ?_
  refine v_tab (n := 19) (v := 73) ho (by decide) (by decide) dX14_init_115 (pu_b dX14_init_116 rfl) (pu_b dX14_init_118 rfl) dX14_init_120 ?_
  refine v_tab (n := 20) (v := 67) ho (by decide) (by decide) dX14_init_121 (pu_b dX14_init_122 rfl) (pu_b dX14_init_124 rfl) dX14_init_126 ?_
  refine v_tab (n := 21) (v := 65) ho (by decide) (by decide) dX14_init_127 (pu_b dX14_init_128 rfl) (pu_b dX14_init_130 rfl) dX14_init_132 ?_
  refine v_tab (n := 22) (v := 84) ho (by decide) (by decide) dX14_init_133 (pu_b dX14_init_134 rfl) (pu_b dX14_init_136 rfl) dX14_init_138 ?_
  refine v_tab (n := 23) (v := 73) ho (by decide) (by decide) dX14_init_139 (pu_b dX14_init_140 rfl) (pu_b dX14_init_142 rfl) dX14_init_144 ?_
  refine v_tab (n := 24) (v := 79) ho (by decide) (by decide) dX14_init_145 (pu_b dX14_init_146 rfl) (pu_b dX14_init_148 rfl) dX14_init_150 ?_
  refine v_tab (n := 25) (v := 78) ho (by decide) (by decide) dX14_init_151 (pu_b dX14_init_152 rfl) (pu_b dX14_init_154 rfl) dX14_init_156 ?_
  refine v_tab (n := 26) (v := 0) ho (by decide) (by decide) dX14_init_157 (pu_b dX14_init_158 rfl) (pu_c dX14_init_160) dX14_init_161 ?_
  refine v_tab (n := 27) (v := 65) ho (by decide) (by decide) dX14_init_162 (pu_b dX14_init_163 rfl) (pu_b dX14_init_165 rfl) dX14_init_167 ?_
  refine v_tab (n := 28) (v := 85) ho (by decide) (by decide) dX14_init_168 (pu_b dX14_init_169 rfl) (pu_b dX14_init_171 rfl) dX14_init_173 ?_
  refine v_tab (n := 29) (v := 84) ho (by decide) (by decide) dX14_init_174 (pu_b dX14_init_175 rfl) (pu_b dX14_init_177 rfl) dX14_init_179 ?_
  refine v_tab (n := 30) (v := 79) ho (by decide) (by decide) dX14_init_180 (pu_b dX14_init_181 rfl) (pu_b dX14_init_183 rfl) dX14_init_185 ?_
  refine v_tab (n := 31) (v := 77) ho (by decide) (by decide) dX14_init_186 (pu_b dX14_init_187 rfl) (pu_b dX14_init_189 rfl) dX14_init_191 ?_
  refine v_tab (n := 32) (v := 65) ho (by decide) (by decide) dX14_init_192 (pu_b dX14_init_193 rfl) (pu_b dX14_init_195 rfl) dX14_init_197 ?_
  refine v_tab (n := 33) (v := 84) ho (by decide) (by decide) dX14_init_198 (pu_b dX14_init_199 rfl) (pu_b dX14_init_201 rfl) dX14_init_203 ?_
  refine v_tab (n := 34) (v := 73) ho (by decide) (by decide) dX14_init_204 (pu_b dX14_init_205 rfl) (pu_b dX14_init_207 rfl) dX14_init_209 ?_
  refine v_tab (n := 35) (v := 67) ho (by decide) (by decide) dX14_init_210 (pu_b dX14_init_211 rfl) (pu_b dX14_init_213 rfl) dX14_init_215 ?_
  refine v_tab (n := 36) (v := 0) ho (by decide) (by decide) dX14_init_216 (pu_b dX14_init_217 rfl) (pu_c dX14_init_219) dX14_init_220 ?_
  refine v_tab (n := 37) (v := 66) ho (by decide) (by decide) dX14_init_221 (pu_b dX14_init_222 rfl) (pu_b dX14_init_224 rfl) dX14_init_226 ?_
  refine v_tab (n := 38) (v := 69) ho (by decide) (by decide) dX14_init_227 (pu_b dX14_init_228 rfl) (pu_b dX14_init_230 rfl) dX14_init_232 ?_
  refine v_tab (n := 39) (v := 71) ho (by decide) (by decide) dX14_init_233 (pu_b dX14_init_234 rfl) (pu_b dX14_init_236 rfl) dX14_init_238 ?_
  exact k
def tb_88_80 : List Int := 72 :: 67 :: 0 :: 82 :: 69 :: 84 :: 67 :: 65 :: 82 :: 65 :: 72 :: 67 :: 0 :: 89 :: 66 :: 0 :: 78 :: 65 :: 69 :: 76 :: 79 :: 79 :: 66 :: 0 :: 103 :: 110 :: 105 :: 114 :: 116 :: 83 :: 80 :: 77 :: 66 :: 0 :: 84 :: 73 :: 66 :: 0 :: 78 :: 73 :: tb_88_40
theorem wt_88_80 {rv : Option vA} {σo : vS} {ret : Option FieldType} {F Lc nL : Nat} {tko : List (Nat × Nat)} {P : vP} {σ : vS} {L : List (Nat × vA)} {st : List vA} (ho : ok P 88 24) (k : VW cX14_init (RX14, rv, σo, ret, F, Lc, nL, tko) P (sA σ 88 (686, tbr 80 tb_88_80)) 473 L (vO 88 :: st)) : VW cX14_init (RX14, rv, σo, ret, F, Lc, nL, tko) P (sA σ 88 (686, tbr 40 tb_88_40)) 239 L (vO 88 :: st) := by
  refine v_tab (n := 40) (v := 73) ho (by decide) (by decide) dX14_init_239 (pu_b dX14_init_240 rfl) (pu_b dX14_init_242 rfl) dX14_init_244 ?_
  refine v_tab (n := 41) (v := 78) ho (by decide) (by decide) dX14_init_245 (pu_b dX14_init_246 rfl) (pu_b dX14_init_248 rfl) dX14_init_250 ?_
  refine v_tab (n := 42) (v := 0) ho (by decide) (by decide) dX14_init_251 (pu_b dX14_init_252 rfl) (pu_c dX14_init_254) dX14_init_255 ?_
  refine v_tab (n := 43) (v := 66) ho (by decide) (by decide) dX14_init_256 (pu_b dX14_init_257 rfl) (pu_b dX14_init_259 rfl) dX14_init_261 ?_
  refine v_tab (n := 44) (v := 73) ho (by decide) (by decide) dX14_init_262 (pu_b dX14_init_263 rfl) (pu_b dX14_init_265 rfl) dX14_init_267 ?_
  refine v_tab (n := 45) (v := 84) ho (by decide) (by decide) dX14_init_268 (pu_b dX14_init_269 rfl) (pu_b dX14_init_271 rfl) dX14_init_273 ?_
  refine v_tab (n := 46) (v := 0) ho (by decide) (by decide) dX14_init_274 (pu_b dX14_init_275 rfl) (pu_c dX14_init_277) dX14_init_278 ?_
  refine v_tab (n := 47) (v := 66) ho (by decide) (by decide) dX14_init_279 (pu_b dX14_init_280 rfl) (pu_b dX14_init_282 rfl) dX14_init_284 ?_
  refine v_tab (n := 48) (v := 77) ho (by decide) (by decide) dX14_init_285 (pu_b dX14_init_286 rfl) (pu_b dX14_init_288 rfl) dX14_init_290 ?_
  refine v_tab (n := 49) (v := 80) ho (by decide) (by decide) dX14_init_291 (pu_b dX14_init_292 rfl) (pu_b dX14_init_294 rfl) dX14_init_296 ?_
  refine v_tab (n := 50) (v := 83) ho (by decide) (by decide) dX14_init_297 (pu_b dX14_init_298 rfl) (pu_b dX14_init_300 rfl) dX14_init_302 ?_
  refine v_tab (n := 51) (v := 116) ho (by decide) (by decide) dX14_init_303 (pu_b dX14_init_304 rfl) (pu_b dX14_init_306 rfl) dX14_init_308 ?_
  refine v_tab (n := 52) (v := 114) ho (by decide) (by decide) dX14_init_309 (pu_b dX14_init_310 rfl) (pu_b dX14_init_312 rfl) dX14_init_314 ?_
  refine v_tab (n := 53) (v := 105) ho (by decide) (by decide) dX14_init_315 (pu_b dX14_init_316 rfl) (pu_b dX14_init_318 rfl) dX14_init_320 ?_
  refine v_tab (n := 54) (v := 110) ho (by decide) (by decide) dX14_init_321 (pu_b dX14_init_322 rfl) (pu_b dX14_init_324 rfl) dX14_init_326 ?_
  refine v_tab (n := 55) (v := 103) ho (by decide) (by decide) dX14_init_327 (pu_b dX14_init_328 rfl) (pu_b dX14_init_330 rfl) dX14_init_332 ?_
  refine v_tab (n := 56) (v := 0) ho (by decide) (by decide) dX14_init_333 (pu_b dX14_init_334 rfl) (pu_c dX14_init_336) dX14_init_337 ?_
  refine v_tab (n := 57) (v := 66) ho (by decide) (by decide) dX14_init_338 (pu_b dX14_init_339 rfl) (pu_b dX14_init_341 rfl) dX14_init_343 ?_
  refine v_tab (n := 58) (v := 79) ho (by decide) (by decide) dX14_init_344 (pu_b dX14_init_345 rfl) (pu_b dX14_init_347 rfl) dX14_init_349 ?_
  refine v_tab (n := 59) (v := 79) ho (by decide) (by decide) dX14_init_350 (pu_b dX14_init_351 rfl) (pu_b dX14_init_353 rfl) dX14_init_355 ?_
  refine v_tab (n := 60) (v := 76) ho (by decide) (by decide) dX14_init_356 (pu_b dX14_init_357 rfl) (pu_b dX14_init_359 rfl) dX14_init_361 ?_
  refine v_tab (n := 61) (v := 69) ho (by decide) (by decide) dX14_init_362 (pu_b dX14_init_363 rfl) (pu_b dX14_init_365 rfl) dX14_init_367 ?_
  refine v_tab (n := 62) (v := 65) ho (by decide) (by decide) dX14_init_368 (pu_b dX14_init_369 rfl) (pu_b dX14_init_371 rfl) dX14_init_373 ?_
  refine v_tab (n := 63) (v := 78) ho (by decide) (by decide) dX14_init_374 (pu_b dX14_init_375 rfl) (pu_b dX14_init_377 rfl) dX14_init_379 ?_
  refine v_tab (n := 64) (v := 0) ho (by decide) (by decide) dX14_init_380 (pu_b dX14_init_381 rfl) (pu_c dX14_init_383) dX14_init_384 ?_
  refine v_tab (n := 65) (v := 66) ho (by decide) (by decide) dX14_init_385 (pu_b dX14_init_386 rfl) (pu_b dX14_init_388 rfl) dX14_init_390 ?_
  refine v_tab (n := 66) (v := 89) ho (by decide) (by decide) dX14_init_391 (pu_b dX14_init_392 rfl) (pu_b dX14_init_394 rfl) dX14_init_396 ?_
  refine v_tab (n := 67) (v := 0) ho (by decide) (by decide) dX14_init_397 (pu_b dX14_init_398 rfl) (pu_c dX14_init_400) dX14_init_401 ?_
  refine v_tab (n := 68) (v := 67) ho (by decide) (by decide) dX14_init_402 (pu_b dX14_init_403 rfl) (pu_b dX14_init_405 rfl) dX14_init_407 ?_
  refine v_tab (n := 69) (v := 72) ho (by decide) (by decide) dX14_init_408 (pu_b dX14_init_409 rfl) (pu_b dX14_init_411 rfl) dX14_init_413 ?_
  refine v_tab (n := 70) (v := 65) ho (by decide) (by decide) dX14_init_414 (pu_b dX14_init_415 rfl) (pu_b dX14_init_417 rfl) dX14_init_419 ?_
  refine v_tab (n := 71) (v := 82) ho (by decide) (by decide) dX14_init_420 (pu_b dX14_init_421 rfl) (pu_b dX14_init_423 rfl) dX14_init_425 ?_
  refine v_tab (n := 72) (v := 65) ho (by decide) (by decide) dX14_init_426 (pu_b dX14_init_427 rfl) (pu_b dX14_init_429 rfl) dX14_init_431 ?_
  refine v_tab (n := 73) (v := 67) ho (by decide) (by decide) dX14_init_432 (pu_b dX14_init_433 rfl) (pu_b dX14_init_435 rfl) dX14_init_437 ?_
  refine v_tab (n := 74) (v := 84) ho (by decide) (by decide) dX14_init_438 (pu_b dX14_init_439 rfl) (pu_b dX14_init_441 rfl) dX14_init_443 ?_
  refine v_tab (n := 75) (v := 69) ho (by decide) (by decide) dX14_init_444 (pu_b dX14_init_445 rfl) (pu_b dX14_init_447 rfl) dX14_init_449 ?_
  refine v_tab (n := 76) (v := 82) ho (by decide) (by decide) dX14_init_450 (pu_b dX14_init_451 rfl) (pu_b dX14_init_453 rfl) dX14_init_455 ?_
  refine v_tab (n := 77) (v := 0) ho (by decide) (by decide) dX14_init_456 (pu_b dX14_init_457 rfl) (pu_c dX14_init_459) dX14_init_460 ?_
  refine v_tab (n := 78) (v := 67) ho (by decide) (by decide) dX14_init_461 (pu_b dX14_init_462 rfl) (pu_b dX14_init_464 rfl) dX14_init_466 ?_
  refine v_tab (n := 79) (v := 72) ho (by decide) (by decide) dX14_init_467 (pu_b dX14_init_468 rfl) (pu_b dX14_init_470 rfl) dX14_init_472 ?_
  exact k
def tb_88_120 : List Int := 73 :: 65 :: 82 :: 84 :: 83 :: 78 :: 79 :: 67 :: 0 :: 83 :: 84 :: 78 :: 69 :: 78 :: 79 :: 80 :: 77 :: 79 :: 67 :: 0 :: 84 :: 78 :: 69 :: 78 :: 79 :: 80 :: 77 :: 79 :: 67 :: 0 :: 83 :: 83 :: 65 :: 76 :: 67 :: 0 :: 69 :: 67 :: 73 :: 79 :: tb_88_80
theorem wt_88_120 {rv : Option vA} {σo : vS} {ret : Option FieldType} {F Lc nL : Nat} {tko : List (Nat × Nat)} {P : vP} {σ : vS} {L : List (Nat × vA)} {st : List vA} (ho : ok P 88 24) (k : VW cX14_init (RX14, rv, σo, ret, F, Lc, nL, tko) P (sA σ 88 (686, tbr 120 tb_88_120)) 709 L (vO 88 :: st)) : VW cX14_init (RX14, rv, σo, ret, F, Lc, nL, tko) P (sA σ 88 (686, tbr 80 tb_88_80)) 473 L (vO 88 :: st) := by
  refine v_tab (n := 80) (v := 79) ho (by decide) (by decide) dX14_init_473 (pu_b dX14_init_474 rfl) (pu_b dX14_init_476 rfl) dX14_init_478 ?_
  refine v_tab (n := 81) (v := 73) ho (by decide) (by decide) dX14_init_479 (pu_b dX14_init_480 rfl) (pu_b dX14_init_482 rfl) dX14_init_484 ?_
  refine v_tab (n := 82) (v := 67) ho (by decide) (by decide) dX14_init_485 (pu_b dX14_init_486 rfl) (pu_b dX14_init_488 rfl) dX14_init_490 ?_
  refine v_tab (n := 83) (v := 69) ho (by decide) (by decide) dX14_init_491 (pu_b dX14_init_492 rfl) (pu_b dX14_init_494 rfl) dX14_init_496 ?_
  refine v_tab (n := 84) (v := 0) ho (by decide) (by decide) dX14_init_497 (pu_b dX14_init_498 rfl) (pu_c dX14_init_500) dX14_init_501 ?_
  refine v_tab (n := 85) (v := 67) ho (by decide) (by decide) dX14_init_502 (pu_b dX14_init_503 rfl) (pu_b dX14_init_505 rfl) dX14_init_507 ?_
  refine v_tab (n := 86) (v := 76) ho (by decide) (by decide) dX14_init_508 (pu_b dX14_init_509 rfl) (pu_b dX14_init_511 rfl) dX14_init_513 ?_
  refine v_tab (n := 87) (v := 65) ho (by decide) (by decide) dX14_init_514 (pu_b dX14_init_515 rfl) (pu_b dX14_init_517 rfl) dX14_init_519 ?_
  refine v_tab (n := 88) (v := 83) ho (by decide) (by decide) dX14_init_520 (pu_b dX14_init_521 rfl) (pu_b dX14_init_523 rfl) dX14_init_525 ?_
  refine v_tab (n := 89) (v := 83) ho (by decide) (by decide) dX14_init_526 (pu_b dX14_init_527 rfl) (pu_b dX14_init_529 rfl) dX14_init_531 ?_
  refine v_tab (n := 90) (v := 0) ho (by decide) (by decide) dX14_init_532 (pu_b dX14_init_533 rfl) (pu_c dX14_init_535) dX14_init_536 ?_
  refine v_tab (n := 91) (v := 67) ho (by decide) (by decide) dX14_init_537 (pu_b dX14_init_538 rfl) (pu_b dX14_init_540 rfl) dX14_init_542 ?_
  refine v_tab (n := 92) (v := 79) ho (by decide) (by decide) dX14_init_543 (pu_b dX14_init_544 rfl) (pu_b dX14_init_546 rfl) dX14_init_548 ?_
  refine v_tab (n := 93) (v := 77) ho (by decide) (by decide) dX14_init_549 (pu_b dX14_init_550 rfl) (pu_b dX14_init_552 rfl) dX14_init_554 ?_
  refine v_tab (n := 94) (v := 80) ho (by decide) (by decide) dX14_init_555 (pu_b dX14_init_556 rfl) (pu_b dX14_init_558 rfl) dX14_init_560 ?_
  refine v_tab (n := 95) (v := 79) ho (by decide) (by decide) dX14_init_561 (pu_b dX14_init_562 rfl) (pu_b dX14_init_564 rfl) dX14_init_566 ?_
  refine v_tab (n := 96) (v := 78) ho (by decide) (by decide) dX14_init_567 (pu_b dX14_init_568 rfl) (pu_b dX14_init_570 rfl) dX14_init_572 ?_
  refine v_tab (n := 97) (v := 69) ho (by decide) (by decide) dX14_init_573 (pu_b dX14_init_574 rfl) (pu_b dX14_init_576 rfl) dX14_init_578 ?_
  refine v_tab (n := 98) (v := 78) ho (by decide) (by decide) dX14_init_579 (pu_b dX14_init_580 rfl) (pu_b dX14_init_582 rfl) dX14_init_584 ?_
  refine v_tab (n := 99) (v := 84) ho (by decide) (by decide) dX14_init_585 (pu_b dX14_init_586 rfl) (pu_b dX14_init_588 rfl) dX14_init_590 ?_
  refine v_tab (n := 100) (v := 0) ho (by decide) (by decide) dX14_init_591 (pu_b dX14_init_592 rfl) (pu_c dX14_init_594) dX14_init_595 ?_
  refine v_tab (n := 101) (v := 67) ho (by decide) (by decide) dX14_init_596 (pu_b dX14_init_597 rfl) (pu_b dX14_init_599 rfl) dX14_init_601 ?_
  refine v_tab (n := 102) (v := 79) ho (by decide) (by decide) dX14_init_602 (pu_b dX14_init_603 rfl) (pu_b dX14_init_605 rfl) dX14_init_607 ?_
  refine v_tab (n := 103) (v := 77) ho (by decide) (by decide) dX14_init_608 (pu_b dX14_init_609 rfl) (pu_b dX14_init_611 rfl) dX14_init_613 ?_
  refine v_tab (n := 104) (v := 80) ho (by decide) (by decide) dX14_init_614 (pu_b dX14_init_615 rfl) (pu_b dX14_init_617 rfl) dX14_init_619 ?_
  refine v_tab (n := 105) (v := 79) ho (by decide) (by decide) dX14_init_620 (pu_b dX14_init_621 rfl) (pu_b dX14_init_623 rfl) dX14_init_625 ?_
  refine v_tab (n := 106) (v := 78) ho (by decide) (by decide) dX14_init_626 (pu_b dX14_init_627 rfl) (pu_b dX14_init_629 rfl) dX14_init_631 ?_
  refine v_tab (n := 107) (v := 69) ho (by decide) (by decide) dX14_init_632 (pu_b dX14_init_633 rfl) (pu_b dX14_init_635 rfl) dX14_init_637 ?_
  refine v_tab (n := 108) (v := 78) ho (by decide) (by decide) dX14_init_638 (pu_b dX14_init_639 rfl) (pu_b dX14_init_641 rfl) dX14_init_643 ?_
  refine v_tab (n := 109) (v := 84) ho (by decide) (by decide) dX14_init_644 (pu_b dX14_init_645 rfl) (pu_b dX14_init_647 rfl) dX14_init_649 ?_
  refine v_tab (n := 110) (v := 83) ho (by decide) (by decide) dX14_init_650 (pu_b dX14_init_651 rfl) (pu_b dX14_init_653 rfl) dX14_init_655 ?_
  refine v_tab (n := 111) (v := 0) ho (by decide) (by decide) dX14_init_656 (pu_b dX14_init_657 rfl) (pu_c dX14_init_659) dX14_init_660 ?_
  refine v_tab (n := 112) (v := 67) ho (by decide) (by decide) dX14_init_661 (pu_b dX14_init_662 rfl) (pu_b dX14_init_664 rfl) dX14_init_666 ?_
  refine v_tab (n := 113) (v := 79) ho (by decide) (by decide) dX14_init_667 (pu_b dX14_init_668 rfl) (pu_b dX14_init_670 rfl) dX14_init_672 ?_
  refine v_tab (n := 114) (v := 78) ho (by decide) (by decide) dX14_init_673 (pu_b dX14_init_674 rfl) (pu_b dX14_init_676 rfl) dX14_init_678 ?_
  refine v_tab (n := 115) (v := 83) ho (by decide) (by decide) dX14_init_679 (pu_b dX14_init_680 rfl) (pu_b dX14_init_682 rfl) dX14_init_684 ?_
  refine v_tab (n := 116) (v := 84) ho (by decide) (by decide) dX14_init_685 (pu_b dX14_init_686 rfl) (pu_b dX14_init_688 rfl) dX14_init_690 ?_
  refine v_tab (n := 117) (v := 82) ho (by decide) (by decide) dX14_init_691 (pu_b dX14_init_692 rfl) (pu_b dX14_init_694 rfl) dX14_init_696 ?_
  refine v_tab (n := 118) (v := 65) ho (by decide) (by decide) dX14_init_697 (pu_b dX14_init_698 rfl) (pu_b dX14_init_700 rfl) dX14_init_702 ?_
  refine v_tab (n := 119) (v := 73) ho (by decide) (by decide) dX14_init_703 (pu_b dX14_init_704 rfl) (pu_b dX14_init_706 rfl) dX14_init_708 ?_
  exact k
def tb_88_160 : List Int := 68 :: 69 :: 68 :: 68 :: 69 :: 66 :: 77 :: 69 :: 0 :: 83 :: 78 :: 79 :: 73 :: 84 :: 73 :: 78 :: 73 :: 70 :: 69 :: 68 :: 0 :: 68 :: 69 :: 78 :: 73 :: 70 :: 69 :: 68 :: 0 :: 84 :: 76 :: 85 :: 65 :: 70 :: 69 :: 68 :: 0 :: 68 :: 69 :: 78 :: tb_88_120
theorem wt_88_160 {rv : Option vA} {σo : vS} {ret : Option FieldType} {F Lc nL : Nat} {tko : List (Nat × Nat)} {P : vP} {σ : vS} {L : List (Nat × vA)} {st : List vA} (ho : ok P 88 24) (k : VW cX14_init (RX14, rv, σo, ret, F, Lc, nL, tko) P (sA σ 88 (686, tbr 160 tb_88_160)) 977 L (vO 88 :: st)) : VW cX14_init (RX14, rv, σo, ret, F, Lc, nL, tko) P (sA σ 88 (686, tbr 120 tb_88_120)) 709 L (vO 88 :: st) := by
  refine v_tab (n := 120) (v := 78) ho (by decide) (by decide) dX14_init_709 (pu_b dX14_init_710 rfl) (pu_b dX14_init_712 rfl) dX14_init_714 ?_
  refine v_tab (n := 121) (v := 69) ho (by decide) (by decide) dX14_init_715 (pu_b dX14_init_716 rfl) (pu_b dX14_init_718 rfl) dX14_init_720 ?_
  refine v_tab (n := 122) (v := 68) ho (by decide) (by decide) dX14_init_721 (pu_b dX14_init_722 rfl) (pu_b dX14_init_724 rfl) dX14_init_726 ?_
  refine v_tab (n := 123) (v := 0) ho (by decide) (by decide) dX14_init_727 (pu_b dX14_init_728 rfl) (pu_c dX14_init_730) dX14_init_731 ?_
  refine v_tab (n := 124) (v := 68) ho (by decide) (by decide) dX14_init_732 (pu_b dX14_init_733 rfl) (pu_b dX14_init_735 rfl) dX14_init_737 ?_
  refine v_tab (n := 125) (v := 69) ho (by decide) (by decide) dX14_init_738 (pu_b dX14_init_739 rfl) (pu_b dX14_init_741 rfl) dX14_init_743 ?_
  refine v_tab (n := 126) (v := 70) ho (by decide) (by decide) dX14_init_744 (pu_b dX14_init_745 rfl) (pu_b dX14_init_747 rfl) dX14_init_749 ?_
  refine v_tab (n := 127) (v := 65) ho (by decide) (by decide) dX14_init_750 (pu_b dX14_init_751 rfl) (pu_b dX14_init_753 rfl) dX14_init_755 ?_
  refine v_tab (n := 128) (v := 85) ho (by decide) (by decide) dX14_init_756 (pu_s dX14_init_757 rfl) (pu_b dX14_init_760 rfl) dX14_init_762 ?_
  refine v_tab (n := 129) (v := 76) ho (by decide) (by decide) dX14_init_763 (pu_s dX14_init_764 rfl) (pu_b dX14_init_767 rfl) dX14_init_769 ?_
  refine v_tab (n := 130) (v := 84) ho (by decide) (by decide) dX14_init_770 (pu_s dX14_init_771 rfl) (pu_b dX14_init_774 rfl) dX14_init_776 ?_
  refine v_tab (n := 131) (v := 0) ho (by decide) (by decide) dX14_init_777 (pu_s dX14_init_778 rfl) (pu_c dX14_init_781) dX14_init_782 ?_
  refine v_tab (n := 132) (v := 68) ho (by decide) (by decide) dX14_init_783 (pu_s dX14_init_784 rfl) (pu_b dX14_init_787 rfl) dX14_init_789 ?_
  refine v_tab (n := 133) (v := 69) ho (by decide) (by decide) dX14_init_790 (pu_s dX14_init_791 rfl) (pu_b dX14_init_794 rfl) dX14_init_796 ?_
  refine v_tab (n := 134) (v := 70) ho (by decide) (by decide) dX14_init_797 (pu_s dX14_init_798 rfl) (pu_b dX14_init_801 rfl) dX14_init_803 ?_
  refine v_tab (n := 135) (v := 73) ho (by decide) (by decide) dX14_init_804 (pu_s dX14_init_805 rfl) (pu_b dX14_init_808 rfl) dX14_init_810 ?_
  refine v_tab (n := 136) (v := 78) ho (by decide) (by decide) dX14_init_811 (pu_s dX14_init_812 rfl) (pu_b dX14_init_815 rfl) dX14_init_817 ?_
  refine v_tab (n := 137) (v := 69) ho (by decide) (by decide) dX14_init_818 (pu_s dX14_init_819 rfl) (pu_b dX14_init_822 rfl) dX14_init_824 ?_
  refine v_tab (n := 138) (v := 68) ho (by decide) (by decide) dX14_init_825 (pu_s dX14_init_826 rfl) (pu_b dX14_init_829 rfl) dX14_init_831 ?_
  refine v_tab (n := 139) (v := 0) ho (by decide) (by decide) dX14_init_832 (pu_s dX14_init_833 rfl) (pu_c dX14_init_836) dX14_init_837 ?_
  refine v_tab (n := 140) (v := 68) ho (by decide) (by decide) dX14_init_838 (pu_s dX14_init_839 rfl) (pu_b dX14_init_842 rfl) dX14_init_844 ?_
  refine v_tab (n := 141) (v := 69) ho (by decide) (by decide) dX14_init_845 (pu_s dX14_init_846 rfl) (pu_b dX14_init_849 rfl) dX14_init_851 ?_
  refine v_tab (n := 142) (v := 70) ho (by decide) (by decide) dX14_init_852 (pu_s dX14_init_853 rfl) (pu_b dX14_init_856 rfl) dX14_init_858 ?_
  refine v_tab (n := 143) (v := 73) ho (by decide) (by decide) dX14_init_859 (pu_s dX14_init_860 rfl) (pu_b dX14_init_863 rfl) dX14_init_865 ?_
  refine v_tab (n := 144) (v := 78) ho (by decide) (by decide) dX14_init_866 (pu_s dX14_init_867 rfl) (pu_b dX14_init_870 rfl) dX14_init_872 ?_
  refine v_tab (n := 145) (v := 73) ho (by decide) (by decide) dX14_init_873 (pu_s dX14_init_874 rfl) (pu_b dX14_init_877 rfl) dX14_init_879 ?_
  refine v_tab (n := 146) (v := 84) ho (by decide) (by decide) dX14_init_880 (pu_s dX14_init_881 rfl) (pu_b dX14_init_884 rfl) dX14_init_886 ?_
  refine v_tab (n := 147) (v := 73) ho (by decide) (by decide) dX14_init_887 (pu_s dX14_init_888 rfl) (pu_b dX14_init_891 rfl) dX14_init_893 ?_
  refine v_tab (n := 148) (v := 79) ho (by decide) (by decide) dX14_init_894 (pu_s dX14_init_895 rfl) (pu_b dX14_init_898 rfl) dX14_init_900 ?_
  refine v_tab (n := 149) (v := 78) ho (by decide) (by decide) dX14_init_901 (pu_s dX14_init_902 rfl) (pu_b dX14_init_905 rfl) dX14_init_907 ?_
  refine v_tab (n := 150) (v := 83) ho (by decide) (by decide) dX14_init_908 (pu_s dX14_init_909 rfl) (pu_b dX14_init_912 rfl) dX14_init_914 ?_
  refine v_tab (n := 151) (v := 0) ho (by decide) (by decide) dX14_init_915 (pu_s dX14_init_916 rfl) (pu_c dX14_init_919) dX14_init_920 ?_
  refine v_tab (n := 152) (v := 69) ho (by decide) (by decide) dX14_init_921 (pu_s dX14_init_922 rfl) (pu_b dX14_init_925 rfl) dX14_init_927 ?_
  refine v_tab (n := 153) (v := 77) ho (by decide) (by decide) dX14_init_928 (pu_s dX14_init_929 rfl) (pu_b dX14_init_932 rfl) dX14_init_934 ?_
  refine v_tab (n := 154) (v := 66) ho (by decide) (by decide) dX14_init_935 (pu_s dX14_init_936 rfl) (pu_b dX14_init_939 rfl) dX14_init_941 ?_
  refine v_tab (n := 155) (v := 69) ho (by decide) (by decide) dX14_init_942 (pu_s dX14_init_943 rfl) (pu_b dX14_init_946 rfl) dX14_init_948 ?_
  refine v_tab (n := 156) (v := 68) ho (by decide) (by decide) dX14_init_949 (pu_s dX14_init_950 rfl) (pu_b dX14_init_953 rfl) dX14_init_955 ?_
  refine v_tab (n := 157) (v := 68) ho (by decide) (by decide) dX14_init_956 (pu_s dX14_init_957 rfl) (pu_b dX14_init_960 rfl) dX14_init_962 ?_
  refine v_tab (n := 158) (v := 69) ho (by decide) (by decide) dX14_init_963 (pu_s dX14_init_964 rfl) (pu_b dX14_init_967 rfl) dX14_init_969 ?_
  refine v_tab (n := 159) (v := 68) ho (by decide) (by decide) dX14_init_970 (pu_s dX14_init_971 rfl) (pu_b dX14_init_974 rfl) dX14_init_976 ?_
  exact k
def tb_88_200 : List Int := 0 :: 83 :: 84 :: 82 :: 79 :: 80 :: 88 :: 69 :: 0 :: 84 :: 73 :: 67 :: 73 :: 76 :: 80 :: 88 :: 69 :: 0 :: 84 :: 80 :: 69 :: 67 :: 88 :: 69 :: 0 :: 68 :: 69 :: 84 :: 65 :: 82 :: 69 :: 77 :: 85 :: 78 :: 69 :: 0 :: 68 :: 78 :: 69 :: 0 :: tb_88_160
theorem wt_88_200 {rv : Option vA} {σo : vS} {ret : Option FieldType} {F Lc nL : Nat} {tko : List (Nat × Nat)} {P : vP} {σ : vS} {L : List (Nat × vA)} {st : List vA} (ho : ok P 88 24) (k : VW cX14_init (RX14, rv, σo, ret, F, Lc, nL, tko) P (sA σ 88 (686, tbr 200 tb_88_200)) 1251 L (vO 88 :: st)) : VW cX14_init (RX14, rv, σo, ret, F, Lc, nL, tko) P (sA σ 88 (686, tbr 160 tb_88_160)) 977 L (vO 88 :: st) := by
  refine v_tab (n := 160) (v := 0) ho (by decide) (by decide) dX14_init_977 (pu_s dX14_init_978 rfl) (pu_c dX14_init_981) dX14_init_982 ?_
  refine v_tab (n := 161) (v := 69) ho (by decide) (by decide) dX14_init_983 (pu_s dX14_init_984 rfl) (pu_b dX14_init_987 rfl) dX14_init_989 ?_
  refine v_tab (n := 162) (v := 78) ho (by decide) (by decide) dX14_init_990 (pu_s dX14_init_991 rfl) (pu_b dX14_init_994 rfl) dX14_init_996 ?_
  refine v_tab (n := 163) (v := 68) ho (by decide) (by decide) dX14_init_997 (pu_s dX14_init_998 rfl) (pu_b dX14_init_1001 rfl) dX14_init_1003 ?_
  refine v_tab (n := 164) (v := 0) ho (by decide) (by decide) dX14_init_1004 (pu_s dX14_init_1005 rfl) (pu_c dX14_init_1008) dX14_init_1009 ?_
  refine v_tab (n := 165) (v := 69) ho (by decide) (by decide) dX14_init_1010 (pu_s dX14_init_1011 rfl) (pu_b dX14_init_1014 rfl) dX14_init_1016 ?_
  refine v_tab (n := 166) (v := 78) ho (by decide) (by decide) dX14_init_1017 (pu_s dX14_init_1018 rfl) (pu_b dX14_init_1021 rfl) dX14_init_1023 ?_
  refine v_tab (n := 167) (v := 85) ho (by decide) (by decide) dX14_init_1024 (pu_s dX14_init_1025 rfl) (pu_b dX14_init_1028 rfl) dX14_init_1030 ?_
  refine v_tab (n := 168) (v := 77) ho (by decide) (by decide) dX14_init_1031 (pu_s dX14_init_1032 rfl) (pu_b dX14_init_1035 rfl) dX14_init_1037 ?_
  refine v_tab (n := 169) (v := 69) ho (by decide) (by decide) dX14_init_1038 (pu_s dX14_init_1039 rfl) (pu_b dX14_init_1042 rfl) dX14_init_1044 ?_
  refine v_tab (n := 170) (v := 82) ho (by decide) (by decide) dX14_init_1045 (pu_s dX14_init_1046 rfl) (pu_b dX14_init_1049 rfl) dX14_init_1051 ?_
  refine v_tab (n := 171) (v := 65) ho (by decide) (by decide) dX14_init_1052 (pu_s dX14_init_1053 rfl) (pu_b dX14_init_1056 rfl) dX14_init_1058 ?_
  refine v_tab (n := 172) (v := 84) ho (by decide) (by decide) dX14_init_1059 (pu_s dX14_init_1060 rfl) (pu_b dX14_init_1063 rfl) dX14_init_1065 ?_
  refine v_tab (n := 173) (v := 69) ho (by decide) (by decide) dX14_init_1066 (pu_s dX14_init_1067 rfl) (pu_b dX14_init_1070 rfl) dX14_init_1072 ?_
  refine v_tab (n := 174) (v := 68) ho (by decide) (by decide) dX14_init_1073 (pu_s dX14_init_1074 rfl) (pu_b dX14_init_1077 rfl) dX14_init_1079 ?_
  refine v_tab (n := 175) (v := 0) ho (by decide) (by decide) dX14_init_1080 (pu_s dX14_init_1081 rfl) (pu_c dX14_init_1084) dX14_init_1085 ?_
  refine v_tab (n := 176) (v := 69) ho (by decide) (by decide) dX14_init_1086 (pu_s dX14_init_1087 rfl) (pu_b dX14_init_1090 rfl) dX14_init_1092 ?_
  refine v_tab (n := 177) (v := 88) ho (by decide) (by decide) dX14_init_1093 (pu_s dX14_init_1094 rfl) (pu_b dX14_init_1097 rfl) dX14_init_1099 ?_
  refine v_tab (n := 178) (v := 67) ho (by decide) (by decide) dX14_init_1100 (pu_s dX14_init_1101 rfl) (pu_b dX14_init_1104 rfl) dX14_init_1106 ?_
  refine v_tab (n := 179) (v := 69) ho (by decide) (by decide) dX14_init_1107 (pu_s dX14_init_1108 rfl) (pu_b dX14_init_1111 rfl) dX14_init_1113 ?_
  refine v_tab (n := 180) (v := 80) ho (by decide) (by decide) dX14_init_1114 (pu_s dX14_init_1115 rfl) (pu_b dX14_init_1118 rfl) dX14_init_1120 ?_
  refine v_tab (n := 181) (v := 84) ho (by decide) (by decide) dX14_init_1121 (pu_s dX14_init_1122 rfl) (pu_b dX14_init_1125 rfl) dX14_init_1127 ?_
  refine v_tab (n := 182) (v := 0) ho (by decide) (by decide) dX14_init_1128 (pu_s dX14_init_1129 rfl) (pu_c dX14_init_1132) dX14_init_1133 ?_
  refine v_tab (n := 183) (v := 69) ho (by decide) (by decide) dX14_init_1134 (pu_s dX14_init_1135 rfl) (pu_b dX14_init_1138 rfl) dX14_init_1140 ?_
  refine v_tab (n := 184) (v := 88) ho (by decide) (by decide) dX14_init_1141 (pu_s dX14_init_1142 rfl) (pu_b dX14_init_1145 rfl) dX14_init_1147 ?_
  refine v_tab (n := 185) (v := 80) ho (by decide) (by decide) dX14_init_1148 (pu_s dX14_init_1149 rfl) (pu_b dX14_init_1152 rfl) dX14_init_1154 ?_
  refine v_tab (n := 186) (v := 76) ho (by decide) (by decide) dX14_init_1155 (pu_s dX14_init_1156 rfl) (pu_b dX14_init_1159 rfl) dX14_init_1161 ?_
  refine v_tab (n := 187) (v := 73) ho (by decide) (by decide) dX14_init_1162 (pu_s dX14_init_1163 rfl) (pu_b dX14_init_1166 rfl) dX14_init_1168 ?_
  refine v_tab (n := 188) (v := 67) ho (by decide) (by decide) dX14_init_1169 (pu_s dX14_init_1170 rfl) (pu_b dX14_init_1173 rfl) dX14_init_1175 ?_
  refine v_tab (n := 189) (v := 73) ho (by decide) (by decide) dX14_init_1176 (pu_s dX14_init_1177 rfl) (pu_b dX14_init_1180 rfl) dX14_init_1182 ?_
  refine v_tab (n := 190) (v := 84) ho (by decide) (by decide) dX14_init_1183 (pu_s dX14_init_1184 rfl) (pu_b dX14_init_1187 rfl) dX14_init_1189 ?_
  refine v_tab (n := 191) (v := 0) ho (by decide) (by decide) dX14_init_1190 (pu_s dX14_init_1191 rfl) (pu_c dX14_init_1194) dX14_init_1195 ?_
  refine v_tab (n := 192) (v := 69) ho (by decide) (by decide) dX14_init_1196 (pu_s dX14_init_1197 rfl) (pu_b dX14_init_1200 rfl) dX14_init_1202 ?_
  refine v_tab (n := 193) (v := 88) ho (by decide) (by decide) dX14_init_1203 (pu_s dX14_init_1204 rfl) (pu_b dX14_init_1207 rfl) dX14_init_1209 ?_
  refine v_tab (n := 194) (v := 80) ho (by decide) (by decide) dX14_init_1210 (pu_s dX14_init_1211 rfl) (pu_b dX14_init_1214 rfl) dX14_init_1216 ?_
  refine v_tab (n := 195) (v := 79) ho (by decide) (by decide) dX14_init_1217 (pu_s dX14_init_1218 rfl) (pu_b dX14_init_1221 rfl) dX14_init_1223 ?_
  refine v_tab (n := 196) (v := 82) ho (by decide) (by decide) dX14_init_1224 (pu_s dX14_init_1225 rfl) (pu_b dX14_init_1228 rfl) dX14_init_1230 ?_
  refine v_tab (n := 197) (v := 84) ho (by decide) (by decide) dX14_init_1231 (pu_s dX14_init_1232 rfl) (pu_b dX14_init_1235 rfl) dX14_init_1237 ?_
  refine v_tab (n := 198) (v := 83) ho (by decide) (by decide) dX14_init_1238 (pu_s dX14_init_1239 rfl) (pu_b dX14_init_1242 rfl) dX14_init_1244 ?_
  refine v_tab (n := 199) (v := 0) ho (by decide) (by decide) dX14_init_1245 (pu_s dX14_init_1246 rfl) (pu_c dX14_init_1249) dX14_init_1250 ?_
  exact k
def tb_88_240 : List Int := 97 :: 114 :: 101 :: 110 :: 101 :: 71 :: 0 :: 77 :: 79 :: 82 :: 70 :: 0 :: 69 :: 83 :: 76 :: 65 :: 70 :: 0 :: 76 :: 65 :: 78 :: 82 :: 69 :: 84 :: 88 :: 69 :: 0 :: 89 :: 84 :: 73 :: 76 :: 73 :: 66 :: 73 :: 83 :: 78 :: 69 :: 84 :: 88 :: 69 :: tb_88_200
theorem wt_88_240 {rv : Option vA} {σo : vS} {ret : Option FieldType} {F Lc nL : Nat} {tko : List (Nat × Nat)} {P : vP} {σ : vS} {L : List (Nat × vA)} {st : List vA} (ho : ok P 88 24) (k : VW cX14_init (RX14, rv, σo, ret, F, Lc, nL, tko) P (sA σ 88 (686, tbr 240 tb_88_240)) 1527 L (vO 88 :: st)) : VW cX14_init (RX14, rv, σo, ret, F, Lc, nL, tko) P (sA σ 88 (686, tbr 200 tb_88_200)) 1251 L (vO 88 :: st) := by
  refine v_tab (n := 200) (v := 69) ho (by decide) (by decide) dX14_init_1251 (pu_s dX14_init_1252 rfl) (pu_b dX14_init_1255 rfl) dX14_init_1257 ?_
  refine v_tab (n := 201) (v := 88) ho (by decide) (by decide) dX14_init_1258 (pu_s dX14_init_1259 rfl) (pu_b dX14_init_1262 rfl) dX14_init_1264 ?_
  refine v_tab (n := 202) (v := 84) ho (by decide) (by decide) dX14_init_1265 (pu_s dX14_init_1266 rfl) (pu_b dX14_init_1269 rfl) dX14_init_1271 ?_
  refine v_tab (n := 203) (v := 69) ho (by decide) (by decide) dX14_init_1272 (pu_s dX14_init_1273 rfl) (pu_b dX14_init_1276 rfl) dX14_init_1278 ?_
  refine v_tab (n := 204) (v := 78) ho (by decide) (by decide) dX14_init_1279 (pu_s dX14_init_1280 rfl) (pu_b dX14_init_1283 rfl) dX14_init_1285 ?_
  refine v_tab (n := 205) (v := 83) ho (by decide) (by decide) dX14_init_1286 (pu_s dX14_init_1287 rfl) (pu_b dX14_init_1290 rfl) dX14_init_1292 ?_
  refine v_tab (n := 206) (v := 73) ho (by decide) (by decide) dX14_init_1293 (pu_s dX14_init_1294 rfl) (pu_b dX14_init_1297 rfl) dX14_init_1299 ?_
  refine v_tab (n := 207) (v := 66) ho (by decide) (by decide) dX14_init_1300 (pu_s dX14_init_1301 rfl) (pu_b dX14_init_1304 rfl) dX14_init_1306 ?_
  refine v_tab (n := 208) (v := 73) ho (by decide) (by decide) dX14_init_1307 (pu_s dX14_init_1308 rfl) (pu_b dX14_init_1311 rfl) dX14_init_1313 ?_
  refine v_tab (n := 209) (v := 76) ho (by decide) (by decide) dX14_init_1314 (pu_s dX14_init_1315 rfl) (pu_b dX14_init_1318 rfl) dX14_init_1320 ?_
  refine v_tab (n := 210) (v := 73) ho (by decide) (by decide) dX14_init_1321 (pu_s dX14_init_1322 rfl) (pu_b dX14_init_1325 rfl) dX14_init_1327 ?_
  refine v_tab (n := 211) (v := 84) ho (by decide) (by decide) dX14_init_1328 (pu_s dX14_init_1329 rfl) (pu_b dX14_init_1332 rfl) dX14_init_1334 ?_
  refine v_tab (n := 212) (v := 89) ho (by decide) (by decide) dX14_init_1335 (pu_s dX14_init_1336 rfl) (pu_b dX14_init_1339 rfl) dX14_init_1341 ?_
  refine v_tab (n := 213) (v := 0) ho (by decide) (by decide) dX14_init_1342 (pu_s dX14_init_1343 rfl) (pu_c dX14_init_1346) dX14_init_1347 ?_
  refine v_tab (n := 214) (v := 69) ho (by decide) (by decide) dX14_init_1348 (pu_s dX14_init_1349 rfl) (pu_b dX14_init_1352 rfl) dX14_init_1354 ?_
  refine v_tab (n := 215) (v := 88) ho (by decide) (by decide) dX14_init_1355 (pu_s dX14_init_1356 rfl) (pu_b dX14_init_1359 rfl) dX14_init_1361 ?_
  refine v_tab (n := 216) (v := 84) ho (by decide) (by decide) dX14_init_1362 (pu_s dX14_init_1363 rfl) (pu_b dX14_init_1366 rfl) dX14_init_1368 ?_
  refine v_tab (n := 217) (v := 69) ho (by decide) (by decide) dX14_init_1369 (pu_s dX14_init_1370 rfl) (pu_b dX14_init_1373 rfl) dX14_init_1375 ?_
  refine v_tab (n := 218) (v := 82) ho (by decide) (by decide) dX14_init_1376 (pu_s dX14_init_1377 rfl) (pu_b dX14_init_1380 rfl) dX14_init_1382 ?_
  refine v_tab (n := 219) (v := 78) ho (by decide) (by decide) dX14_init_1383 (pu_s dX14_init_1384 rfl) (pu_b dX14_init_1387 rfl) dX14_init_1389 ?_
  refine v_tab (n := 220) (v := 65) ho (by decide) (by decide) dX14_init_1390 (pu_s dX14_init_1391 rfl) (pu_b dX14_init_1394 rfl) dX14_init_1396 ?_
  refine v_tab (n := 221) (v := 76) ho (by decide) (by decide) dX14_init_1397 (pu_s dX14_init_1398 rfl) (pu_b dX14_init_1401 rfl) dX14_init_1403 ?_
  refine v_tab (n := 222) (v := 0) ho (by decide) (by decide) dX14_init_1404 (pu_s dX14_init_1405 rfl) (pu_c dX14_init_1408) dX14_init_1409 ?_
  refine v_tab (n := 223) (v := 70) ho (by decide) (by decide) dX14_init_1410 (pu_s dX14_init_1411 rfl) (pu_b dX14_init_1414 rfl) dX14_init_1416 ?_
  refine v_tab (n := 224) (v := 65) ho (by decide) (by decide) dX14_init_1417 (pu_s dX14_init_1418 rfl) (pu_b dX14_init_1421 rfl) dX14_init_1423 ?_
  refine v_tab (n := 225) (v := 76) ho (by decide) (by decide) dX14_init_1424 (pu_s dX14_init_1425 rfl) (pu_b dX14_init_1428 rfl) dX14_init_1430 ?_
  refine v_tab (n := 226) (v := 83) ho (by decide) (by decide) dX14_init_1431 (pu_s dX14_init_1432 rfl) (pu_b dX14_init_1435 rfl) dX14_init_1437 ?_
  refine v_tab (n := 227) (v := 69) ho (by decide) (by decide) dX14_init_1438 (pu_s dX14_init_1439 rfl) (pu_b dX14_init_1442 rfl) dX14_init_1444 ?_
  refine v_tab (n := 228) (v := 0) ho (by decide) (by decide) dX14_init_1445 (pu_s dX14_init_1446 rfl) (pu_c dX14_init_1449) dX14_init_1450 ?_
  refine v_tab (n := 229) (v := 70) ho (by decide) (by decide) dX14_init_1451 (pu_s dX14_init_1452 rfl) (pu_b dX14_init_1455 rfl) dX14_init_1457 ?_
  refine v_tab (n := 230) (v := 82) ho (by decide) (by decide) dX14_init_1458 (pu_s dX14_init_1459 rfl) (pu_b dX14_init_1462 rfl) dX14_init_1464 ?_
  refine v_tab (n := 231) (v := 79) ho (by decide) (by decide) dX14_init_1465 (pu_s dX14_init_1466 rfl) (pu_b dX14_init_1469 rfl) dX14_init_1471 ?_
  refine v_tab (n := 232) (v := 77) ho (by decide) (by decide) dX14_init_1472 (pu_s dX14_init_1473 rfl) (pu_b dX14_init_1476 rfl) dX14_init_1478 ?_
  refine v_tab (n := 233) (v := 0) ho (by decide) (by decide) dX14_init_1479 (pu_s dX14_init_1480 rfl) (pu_c dX14_init_1483) dX14_init_1484 ?_
  refine v_tab (n := 234) (v := 71) ho (by decide) (by decide) dX14_init_1485 (pu_s dX14_init_1486 rfl) (pu_b dX14_init_1489 rfl) dX14_init_1491 ?_
  refine v_tab (n := 235) (v := 101) ho (by decide) (by decide) dX14_init_1492 (pu_s dX14_init_1493 rfl) (pu_b dX14_init_1496 rfl) dX14_init_1498 ?_
  refine v_tab (n := 236) (v := 110) ho (by decide) (by decide) dX14_init_1499 (pu_s dX14_init_1500 rfl) (pu_b dX14_init_1503 rfl) dX14_init_1505 ?_
  refine v_tab (n := 237) (v := 101) ho (by decide) (by decide) dX14_init_1506 (pu_s dX14_init_1507 rfl) (pu_b dX14_init_1510 rfl) dX14_init_1512 ?_
  refine v_tab (n := 238) (v := 114) ho (by decide) (by decide) dX14_init_1513 (pu_s dX14_init_1514 rfl) (pu_b dX14_init_1517 rfl) dX14_init_1519 ?_
  refine v_tab (n := 239) (v := 97) ho (by decide) (by decide) dX14_init_1520 (pu_s dX14_init_1521 rfl) (pu_b dX14_init_1524 rfl) dX14_init_1526 ?_
  exact k
def tb_88_280 : List Int := 65 :: 73 :: 0 :: 103 :: 110 :: 105 :: 114 :: 116 :: 83 :: 99 :: 105 :: 104 :: 112 :: 97 :: 114 :: 71 :: 0 :: 101 :: 109 :: 105 :: 84 :: 100 :: 101 :: 122 :: 105 :: 108 :: 97 :: 114 :: 101 :: 110 :: 101 :: 71 :: 0 :: 103 :: 110 :: 105 :: 114 :: 116 :: 83 :: 108 :: tb_88_240
theorem wt_88_280 {rv : Option vA} {σo : vS} {ret : Option FieldType} {F Lc nL : Nat} {tko : List (Nat × Nat)} {P : vP} {σ : vS} {L : List (Nat × vA)} {st : List vA} (ho : ok P 88 24) (k : VW cX14_init (RX14, rv, σo, ret, F, Lc, nL, tko) P (sA σ 88 (686, tbr 280 tb_88_280)) 1804 L (vO 88 :: st)) : VW cX14_init (RX14, rv, σo, ret, F, Lc, nL, tko) P (sA σ 88 (686, tbr 240 tb_88_240)) 1527 L (vO 88 :: st) := by
  refine v_tab (n := 240) (v := 108) ho (by decide) (by decide) dX14_init_1527 (pu_s dX14_init_1528 rfl) (pu_b dX14_init_1531 rfl) dX14_init_1533 ?_
  refine v_tab (n := 241) (v := 83) ho (by decide) (by decide) dX14_init_1534 (pu_s dX14_init_1535 rfl) (pu_b dX14_init_1538 rfl) dX14_init_1540 ?_
  refine v_tab (n := 242) (v := 116) ho (by decide) (by decide) dX14_init_1541 (pu_s dX14_init_1542 rfl) (pu_b dX14_init_1545 rfl) dX14_init_1547 ?_
  refine v_tab (n := 243) (v := 114) ho (by decide) (by decide) dX14_init_1548 (pu_s dX14_init_1549 rfl) (pu_b dX14_init_1552 rfl) dX14_init_1554 ?_
  refine v_tab (n := 244) (v := 105) ho (by decide) (by decide) dX14_init_1555 (pu_s dX14_init_1556 rfl) (pu_b dX14_init_1559 rfl) dX14_init_1561 ?_
  refine v_tab (n := 245) (v := 110) ho (by decide) (by decide) dX14_init_1562 (pu_s dX14_init_1563 rfl) (pu_b dX14_init_1566 rfl) dX14_init_1568 ?_
  refine v_tab (n := 246) (v := 103) ho (by decide) (by decide) dX14_init_1569 (pu_s dX14_init_1570 rfl) (pu_b dX14_init_1573 rfl) dX14_init_1575 ?_
  refine v_tab (n := 247) (v := 0) ho (by decide) (by decide) dX14_init_1576 (pu_s dX14_init_1577 rfl) (pu_c dX14_init_1580) dX14_init_1581 ?_
  refine v_tab (n := 248) (v := 71) ho (by decide) (by decide) dX14_init_1582 (pu_s dX14_init_1583 rfl) (pu_b dX14_init_1586 rfl) dX14_init_1588 ?_
  refine v_tab (n := 249) (v := 101) ho (by decide) (by decide) dX14_init_1589 (pu_s dX14_init_1590 rfl) (pu_b dX14_init_1593 rfl) dX14_init_1595 ?_
  refine v_tab (n := 250) (v := 110) ho (by decide) (by decide) dX14_init_1596 (pu_s dX14_init_1597 rfl) (pu_b dX14_init_1600 rfl) dX14_init_1602 ?_
  refine v_tab (n := 251) (v := 101) ho (by decide) (by decide) dX14_init_1603 (pu_s dX14_init_1604 rfl) (pu_b dX14_init_1607 rfl) dX14_init_1609 ?_
  refine v_tab (n := 252) (v := 114) ho (by decide) (by decide) dX14_init_1610 (pu_s dX14_init_1611 rfl) (pu_b dX14_init_1614 rfl) dX14_init_1616 ?_
  refine v_tab (n := 253) (v := 97) ho (by decide) (by decide) dX14_init_1617 (pu_s dX14_init_1618 rfl) (pu_b dX14_init_1621 rfl) dX14_init_1623 ?_
  refine v_tab (n := 254) (v := 108) ho (by decide) (by decide) dX14_init_1624 (pu_s dX14_init_1625 rfl) (pu_b dX14_init_1628 rfl) dX14_init_1630 ?_
  refine v_tab (n := 255) (v := 105) ho (by decide) (by decide) dX14_init_1631 (pu_s dX14_init_1632 rfl) (pu_b dX14_init_1635 rfl) dX14_init_1637 ?_
  refine v_tab (n := 256) (v := 122) ho (by decide) (by decide) dX14_init_1638 (pu_s dX14_init_1639 rfl) (pu_b dX14_init_1642 rfl) dX14_init_1644 ?_
  refine v_tab (n := 257) (v := 101) ho (by decide) (by decide) dX14_init_1645 (pu_s dX14_init_1646 rfl) (pu_b dX14_init_1649 rfl) dX14_init_1651 ?_
  refine v_tab (n := 258) (v := 100) ho (by decide) (by decide) dX14_init_1652 (pu_s dX14_init_1653 rfl) (pu_b dX14_init_1656 rfl) dX14_init_1658 ?_
  refine v_tab (n := 259) (v := 84) ho (by decide) (by decide) dX14_init_1659 (pu_s dX14_init_1660 rfl) (pu_b dX14_init_1663 rfl) dX14_init_1665 ?_
  refine v_tab (n := 260) (v := 105) ho (by decide) (by decide) dX14_init_1666 (pu_s dX14_init_1667 rfl) (pu_b dX14_init_1670 rfl) dX14_init_1672 ?_
  refine v_tab (n := 261) (v := 109) ho (by decide) (by decide) dX14_init_1673 (pu_s dX14_init_1674 rfl) (pu_b dX14_init_1677 rfl) dX14_init_1679 ?_
  refine v_tab (n := 262) (v := 101) ho (by decide) (by decide) dX14_init_1680 (pu_s dX14_init_1681 rfl) (pu_b dX14_init_1684 rfl) dX14_init_1686 ?_
  refine v_tab (n := 263) (v := 0) ho (by decide) (by decide) dX14_init_1687 (pu_s dX14_init_1688 rfl) (pu_c dX14_init_1691) dX14_init_1692 ?_
  refine v_tab (n := 264) (v := 71) ho (by decide) (by decide) dX14_init_1693 (pu_s dX14_init_1694 rfl) (pu_b dX14_init_1697 rfl) dX14_init_1699 ?_
  refine v_tab (n := 265) (v := 114) ho (by decide) (by decide) dX14_init_1700 (pu_s dX14_init_1701 rfl) (pu_b dX14_init_1704 rfl) dX14_init_1706 ?_
  refine v_tab (n := 266) (v := 97) ho (by decide) (by decide) dX14_init_1707 (pu_s dX14_init_1708 rfl) (pu_b dX14_init_1711 rfl) dX14_init_1713 ?_
  refine v_tab (n := 267) (v := 112) ho (by decide) (by decide) dX14_init_1714 (pu_s dX14_init_1715 rfl) (pu_b dX14_init_1718 rfl) dX14_init_1720 ?_
  refine v_tab (n := 268) (v := 104) ho (by decide) (by decide) dX14_init_1721 (pu_s dX14_init_1722 rfl) (pu_b dX14_init_1725 rfl) dX14_init_1727 ?_
  refine v_tab (n := 269) (v := 105) ho (by decide) (by decide) dX14_init_1728 (pu_s dX14_init_1729 rfl) (pu_b dX14_init_1732 rfl) dX14_init_1734 ?_
  refine v_tab (n := 270) (v := 99) ho (by decide) (by decide) dX14_init_1735 (pu_s dX14_init_1736 rfl) (pu_b dX14_init_1739 rfl) dX14_init_1741 ?_
  refine v_tab (n := 271) (v := 83) ho (by decide) (by decide) dX14_init_1742 (pu_s dX14_init_1743 rfl) (pu_b dX14_init_1746 rfl) dX14_init_1748 ?_
  refine v_tab (n := 272) (v := 116) ho (by decide) (by decide) dX14_init_1749 (pu_s dX14_init_1750 rfl) (pu_b dX14_init_1753 rfl) dX14_init_1755 ?_
  refine v_tab (n := 273) (v := 114) ho (by decide) (by decide) dX14_init_1756 (pu_s dX14_init_1757 rfl) (pu_b dX14_init_1760 rfl) dX14_init_1762 ?_
  refine v_tab (n := 274) (v := 105) ho (by decide) (by decide) dX14_init_1763 (pu_s dX14_init_1764 rfl) (pu_b dX14_init_1767 rfl) dX14_init_1769 ?_
  refine v_tab (n := 275) (v := 110) ho (by decide) (by decide) dX14_init_1770 (pu_s dX14_init_1771 rfl) (pu_b dX14_init_1774 rfl) dX14_init_1776 ?_
  refine v_tab (n := 276) (v := 103) ho (by decide) (by decide) dX14_init_1777 (pu_s dX14_init_1778 rfl) (pu_b dX14_init_1781 rfl) dX14_init_1783 ?_
  refine v_tab (n := 277) (v := 0) ho (by decide) (by decide) dX14_init_1784 (pu_s dX14_init_1785 rfl) (pu_c dX14_init_1788) dX14_init_1789 ?_
  refine v_tab (n := 278) (v := 73) ho (by decide) (by decide) dX14_init_1790 (pu_s dX14_init_1791 rfl) (pu_b dX14_init_1794 rfl) dX14_init_1796 ?_
  refine v_tab (n := 279) (v := 65) ho (by decide) (by decide) dX14_init_1797 (pu_s dX14_init_1798 rfl) (pu_b dX14_init_1801 rfl) dX14_init_1803 ?_
  exact k
def tb_88_320 : List Int := 79 :: 80 :: 77 :: 73 :: 0 :: 68 :: 69 :: 73 :: 76 :: 80 :: 77 :: 73 :: 0 :: 84 :: 73 :: 67 :: 73 :: 76 :: 80 :: 77 :: 73 :: 0 :: 82 :: 69 :: 73 :: 70 :: 73 :: 84 :: 78 :: 69 :: 68 :: 73 :: 0 :: 103 :: 110 :: 105 :: 114 :: 116 :: 83 :: 53 :: tb_88_280
theorem wt_88_320 {rv : Option vA} {σo : vS} {ret : Option FieldType} {F Lc nL : Nat} {tko : List (Nat × Nat)} {P : vP} {σ : vS} {L : List (Nat × vA)} {st : List vA} (ho : ok P 88 24) (k : VW cX14_init (RX14, rv, σo, ret, F, Lc, nL, tko) P (sA σ 88 (686, tbr 320 tb_88_320)) 2080 L (vO 88 :: st)) : VW cX14_init (RX14, rv, σo, ret, F, Lc, nL, tko) P (sA σ 88 (686, tbr 280 tb_88_280)) 1804 L (vO 88 :: st) := by
  refine v_tab (n := 280) (v := 53) ho (by decide) (by decide) dX14_init_1804 (pu_s dX14_init_1805 rfl) (pu_b dX14_init_1808 rfl) dX14_init_1810 ?_
  refine v_tab (n := 281) (v := 83) ho (by decide) (by decide) dX14_init_1811 (pu_s dX14_init_1812 rfl) (pu_b dX14_init_1815 rfl) dX14_init_1817 ?_
  refine v_tab (n := 282) (v := 116) ho (by decide) (by decide) dX14_init_1818 (pu_s dX14_init_1819 rfl) (pu_b dX14_init_1822 rfl) dX14_init_1824 ?_
  refine v_tab (n := 283) (v := 114) ho (by decide) (by decide) dX14_init_1825 (pu_s dX14_init_1826 rfl) (pu_b dX14_init_1829 rfl) dX14_init_1831 ?_
  refine v_tab (n := 284) (v := 105) ho (by decide) (by decide) dX14_init_1832 (pu_s dX14_init_1833 rfl) (pu_b dX14_init_1836 rfl) dX14_init_1838 ?_
  refine v_tab (n := 285) (v := 110) ho (by decide) (by decide) dX14_init_1839 (pu_s dX14_init_1840 rfl) (pu_b dX14_init_1843 rfl) dX14_init_1845 ?_
  refine v_tab (n := 286) (v := 103) ho (by decide) (by decide) dX14_init_1846 (pu_s dX14_init_1847 rfl) (pu_b dX14_init_1850 rfl) dX14_init_1852 ?_
  refine v_tab (n := 287) (v := 0) ho (by decide) (by decide) dX14_init_1853 (pu_s dX14_init_1854 rfl) (pu_c dX14_init_1857) dX14_init_1858 ?_
  refine v_tab (n := 288) (v := 73) ho (by decide) (by decide) dX14_init_1859 (pu_s dX14_init_1860 rfl) (pu_b dX14_init_1863 rfl) dX14_init_1865 ?_
  refine v_tab (n := 289) (v := 68) ho (by decide) (by decide) dX14_init_1866 (pu_s dX14_init_1867 rfl) (pu_b dX14_init_1870 rfl) dX14_init_1872 ?_
  refine v_tab (n := 290) (v := 69) ho (by decide) (by decide) dX14_init_1873 (pu_s dX14_init_1874 rfl) (pu_b dX14_init_1877 rfl) dX14_init_1879 ?_
  refine v_tab (n := 291) (v := 78) ho (by decide) (by decide) dX14_init_1880 (pu_s dX14_init_1881 rfl) (pu_b dX14_init_1884 rfl) dX14_init_1886 ?_
  refine v_tab (n := 292) (v := 84) ho (by decide) (by decide) dX14_init_1887 (pu_s dX14_init_1888 rfl) (pu_b dX14_init_1891 rfl) dX14_init_1893 ?_
  refine v_tab (n := 293) (v := 73) ho (by decide) (by decide) dX14_init_1894 (pu_s dX14_init_1895 rfl) (pu_b dX14_init_1898 rfl) dX14_init_1900 ?_
  refine v_tab (n := 294) (v := 70) ho (by decide) (by decide) dX14_init_1901 (pu_s dX14_init_1902 rfl) (pu_b dX14_init_1905 rfl) dX14_init_1907 ?_
  refine v_tab (n := 295) (v := 73) ho (by decide) (by decide) dX14_init_1908 (pu_s dX14_init_1909 rfl) (pu_b dX14_init_1912 rfl) dX14_init_1914 ?_
  refine v_tab (n := 296) (v := 69) ho (by decide) (by decide) dX14_init_1915 (pu_s dX14_init_1916 rfl) (pu_b dX14_init_1919 rfl) dX14_init_1921 ?_
  refine v_tab (n := 297) (v := 82) ho (by decide) (by decide) dX14_init_1922 (pu_s dX14_init_1923 rfl) (pu_b dX14_init_1926 rfl) dX14_init_1928 ?_
  refine v_tab (n := 298) (v := 0) ho (by decide) (by decide) dX14_init_1929 (pu_s dX14_init_1930 rfl) (pu_c dX14_init_1933) dX14_init_1934 ?_
  refine v_tab (n := 299) (v := 73) ho (by decide) (by decide) dX14_init_1935 (pu_s dX14_init_1936 rfl) (pu_b dX14_init_1939 rfl) dX14_init_1941 ?_
  refine v_tab (n := 300) (v := 77) ho (by decide) (by decide) dX14_init_1942 (pu_s dX14_init_1943 rfl) (pu_b dX14_init_1946 rfl) dX14_init_1948 ?_
  refine v_tab (n := 301) (v := 80) ho (by decide) (by decide) dX14_init_1949 (pu_s dX14_init_1950 rfl) (pu_b dX14_init_1953 rfl) dX14_init_1955 ?_
  refine v_tab (n := 302) (v := 76) ho (by decide) (by decide) dX14_init_1956 (pu_s dX14_init_1957 rfl) (pu_b dX14_init_1960 rfl) dX14_init_1962 ?_
  refine v_tab (n := 303) (v := 73) ho (by decide) (by decide) dX14_init_1963 (pu_s dX14_init_1964 rfl) (pu_b dX14_init_1967 rfl) dX14_init_1969 ?_
  refine v_tab (n := 304) (v := 67) ho (by decide) (by decide) dX14_init_1970 (pu_s dX14_init_1971 rfl) (pu_b dX14_init_1974 rfl) dX14_init_1976 ?_
  refine v_tab (n := 305) (v := 73) ho (by decide) (by decide) dX14_init_1977 (pu_s dX14_init_1978 rfl) (pu_b dX14_init_1981 rfl) dX14_init_1983 ?_
  refine v_tab (n := 306) (v := 84) ho (by decide) (by decide) dX14_init_1984 (pu_s dX14_init_1985 rfl) (pu_b dX14_init_1988 rfl) dX14_init_1990 ?_
  refine v_tab (n := 307) (v := 0) ho (by decide) (by decide) dX14_init_1991 (pu_s dX14_init_1992 rfl) (pu_c dX14_init_1995) dX14_init_1996 ?_
  refine v_tab (n := 308) (v := 73) ho (by decide) (by decide) dX14_init_1997 (pu_s dX14_init_1998 rfl) (pu_b dX14_init_2001 rfl) dX14_init_2003 ?_
  refine v_tab (n := 309) (v := 77) ho (by decide) (by decide) dX14_init_2004 (pu_s dX14_init_2005 rfl) (pu_b dX14_init_2008 rfl) dX14_init_2010 ?_
  refine v_tab (n := 310) (v := 80) ho (by decide) (by decide) dX14_init_2011 (pu_s dX14_init_2012 rfl) (pu_b dX14_init_2015 rfl) dX14_init_2017 ?_
  refine v_tab (n := 311) (v := 76) ho (by decide) (by decide) dX14_init_2018 (pu_s dX14_init_2019 rfl) (pu_b dX14_init_2022 rfl) dX14_init_2024 ?_
  refine v_tab (n := 312) (v := 73) ho (by decide) (by decide) dX14_init_2025 (pu_s dX14_init_2026 rfl) (pu_b dX14_init_2029 rfl) dX14_init_2031 ?_
  refine v_tab (n := 313) (v := 69) ho (by decide) (by decide) dX14_init_2032 (pu_s dX14_init_2033 rfl) (pu_b dX14_init_2036 rfl) dX14_init_2038 ?_
  refine v_tab (n := 314) (v := 68) ho (by decide) (by decide) dX14_init_2039 (pu_s dX14_init_2040 rfl) (pu_b dX14_init_2043 rfl) dX14_init_2045 ?_
  refine v_tab (n := 315) (v := 0) ho (by decide) (by decide) dX14_init_2046 (pu_s dX14_init_2047 rfl) (pu_c dX14_init_2050) dX14_init_2051 ?_
  refine v_tab (n := 316) (v := 73) ho (by decide) (by decide) dX14_init_2052 (pu_s dX14_init_2053 rfl) (pu_b dX14_init_2056 rfl) dX14_init_2058 ?_
  refine v_tab (n := 317) (v := 77) ho (by decide) (by decide) dX14_init_2059 (pu_s dX14_init_2060 rfl) (pu_b dX14_init_2063 rfl) dX14_init_2065 ?_
  refine v_tab (n := 318) (v := 80) ho (by decide) (by decide) dX14_init_2066 (pu_s dX14_init_2067 rfl) (pu_b dX14_init_2070 rfl) dX14_init_2072 ?_
  refine v_tab (n := 319) (v := 79) ho (by decide) (by decide) dX14_init_2073 (pu_s dX14_init_2074 rfl) (pu_b dX14_init_2077 rfl) dX14_init_2079 ?_
  exact k
def tb_88_360 : List Int := 73 :: 84 :: 67 :: 69 :: 83 :: 82 :: 69 :: 84 :: 78 :: 73 :: 0 :: 82 :: 69 :: 71 :: 69 :: 84 :: 78 :: 73 :: 0 :: 69 :: 67 :: 78 :: 65 :: 84 :: 83 :: 78 :: 73 :: 0 :: 83 :: 69 :: 68 :: 85 :: 76 :: 67 :: 78 :: 73 :: 0 :: 83 :: 84 :: 82 :: tb_88_320
theorem wt_88_360 {rv : Option vA} {σo : vS} {ret : Option FieldType} {F Lc nL : Nat} {tko : List (Nat × Nat)} {P : vP} {σ : vS} {L : List (Nat × vA)} {st : List vA} (ho : ok P 88 24) (k : VW cX14_init (RX14, rv, σo, ret, F, Lc, nL, tko) P (sA σ 88 (686, tbr 360 tb_88_360)) 2356 L (vO 88 :: st)) : VW cX14_init (RX14, rv, σo, ret, F, Lc, nL, tko) P (sA σ 88 (686, tbr 320 tb_88_320)) 2080 L (vO 88 :: st) := by
  refine v_tab (n := 320) (v := 82) ho (by decide) (by decide) dX14_init_2080 (pu_s dX14_init_2081 rfl) (pu_b dX14_init_2084 rfl) dX14_init_2086 ?_
  refine v_tab (n := 321) (v := 84) ho (by decide) (by decide) dX14_init_2087 (pu_s dX14_init_2088 rfl) (pu_b dX14_init_2091 rfl) dX14_init_2093 ?_
  refine v_tab (n := 322) (v := 83) ho (by decide) (by decide) dX14_init_2094 (pu_s dX14_init_2095 rfl) (pu_b dX14_init_2098 rfl) dX14_init_2100 ?_
  refine v_tab (n := 323) (v := 0) ho (by decide) (by decide) dX14_init_2101 (pu_s dX14_init_2102 rfl) (pu_c dX14_init_2105) dX14_init_2106 ?_
  refine v_tab (n := 324) (v := 73) ho (by decide) (by decide) dX14_init_2107 (pu_s dX14_init_2108 rfl) (pu_b dX14_init_2111 rfl) dX14_init_2113 ?_
  refine v_tab (n := 325) (v := 78) ho (by decide) (by decide) dX14_init_2114 (pu_s dX14_init_2115 rfl) (pu_b dX14_init_2118 rfl) dX14_init_2120 ?_
  refine v_tab (n := 326) (v := 67) ho (by decide) (by decide) dX14_init_2121 (pu_s dX14_init_2122 rfl) (pu_b dX14_init_2125 rfl) dX14_init_2127 ?_
  refine v_tab (n := 327) (v := 76) ho (by decide) (by decide) dX14_init_2128 (pu_s dX14_init_2129 rfl) (pu_b dX14_init_2132 rfl) dX14_init_2134 ?_
  refine v_tab (n := 328) (v := 85) ho (by decide) (by decide) dX14_init_2135 (pu_s dX14_init_2136 rfl) (pu_b dX14_init_2139 rfl) dX14_init_2141 ?_
  refine v_tab (n := 329) (v := 68) ho (by decide) (by decide) dX14_init_2142 (pu_s dX14_init_2143 rfl) (pu_b dX14_init_2146 rfl) dX14_init_2148 ?_
  refine v_tab (n := 330) (v := 69) ho (by decide) (by decide) dX14_init_2149 (pu_s dX14_init_2150 rfl) (pu_b dX14_init_2153 rfl) dX14_init_2155 ?_
  refine v_tab (n := 331) (v := 83) ho (by decide) (by decide) dX14_init_2156 (pu_s dX14_init_2157 rfl) (pu_b dX14_init_2160 rfl) dX14_init_2162 ?_
  refine v_tab (n := 332) (v := 0) ho (by decide) (by decide) dX14_init_2163 (pu_s dX14_init_2164 rfl) (pu_c dX14_init_2167) dX14_init_2168 ?_
  refine v_tab (n := 333) (v := 73) ho (by decide) (by decide) dX14_init_2169 (pu_s dX14_init_2170 rfl) (pu_b dX14_init_2173 rfl) dX14_init_2175 ?_
  refine v_tab (n := 334) (v := 78) ho (by decide) (by decide) dX14_init_2176 (pu_s dX14_init_2177 rfl) (pu_b dX14_init_2180 rfl) dX14_init_2182 ?_
  refine v_tab (n := 335) (v := 83) ho (by decide) (by decide) dX14_init_2183 (pu_s dX14_init_2184 rfl) (pu_b dX14_init_2187 rfl) dX14_init_2189 ?_
  refine v_tab (n := 336) (v := 84) ho (by decide) (by decide) dX14_init_2190 (pu_s dX14_init_2191 rfl) (pu_b dX14_init_2194 rfl) dX14_init_2196 ?_
  refine v_tab (n := 337) (v := 65) ho (by decide) (by decide) dX14_init_2197 (pu_s dX14_init_2198 rfl) (pu_b dX14_init_2201 rfl) dX14_init_2203 ?_
  refine v_tab (n := 338) (v := 78) ho (by decide) (by decide) dX14_init_2204 (pu_s dX14_init_2205 rfl) (pu_b dX14_init_2208 rfl) dX14_init_2210 ?_
  refine v_tab (n := 339) (v := 67) ho (by decide) (by decide) dX14_init_2211 (pu_s dX14_init_2212 rfl) (pu_b dX14_init_2215 rfl) dX14_init_2217 ?_
  refine v_tab (n := 340) (v := 69) ho (by decide) (by decide) dX14_init_2218 (pu_s dX14_init_2219 rfl) (pu_b dX14_init_2222 rfl) dX14_init_2224 ?_
  refine v_tab (n := 341) (v := 0) ho (by decide) (by decide) dX14_init_2225 (pu_s dX14_init_2226 rfl) (pu_c dX14_init_2229) dX14_init_2230 ?_
  refine v_tab (n := 342) (v := 73) ho (by decide) (by decide) dX14_init_2231 (pu_s dX14_init_2232 rfl) (pu_b dX14_init_2235 rfl) dX14_init_2237 ?_
  refine v_tab (n := 343) (v := 78) ho (by decide) (by decide) dX14_init_2238 (pu_s dX14_init_2239 rfl) (pu_b dX14_init_2242 rfl) dX14_init_2244 ?_
  refine v_tab (n := 344) (v := 84) ho (by decide) (by decide) dX14_init_2245 (pu_s dX14_init_2246 rfl) (pu_b dX14_init_2249 rfl) dX14_init_2251 ?_
  refine v_tab (n := 345) (v := 69) ho (by decide) (by decide) dX14_init_2252 (pu_s dX14_init_2253 rfl) (pu_b dX14_init_2256 rfl) dX14_init_2258 ?_
  refine v_tab (n := 346) (v := 71) ho (by decide) (by decide) dX14_init_2259 (pu_s dX14_init_2260 rfl) (pu_b dX14_init_2263 rfl) dX14_init_2265 ?_
  refine v_tab (n := 347) (v := 69) ho (by decide) (by decide) dX14_init_2266 (pu_s dX14_init_2267 rfl) (pu_b dX14_init_2270 rfl) dX14_init_2272 ?_
  refine v_tab (n := 348) (v := 82) ho (by decide) (by decide) dX14_init_2273 (pu_s dX14_init_2274 rfl) (pu_b dX14_init_2277 rfl) dX14_init_2279 ?_
  refine v_tab (n := 349) (v := 0) ho (by decide) (by decide) dX14_init_2280 (pu_s dX14_init_2281 rfl) (pu_c dX14_init_2284) dX14_init_2285 ?_
  refine v_tab (n := 350) (v := 73) ho (by decide) (by decide) dX14_init_2286 (pu_s dX14_init_2287 rfl) (pu_b dX14_init_2290 rfl) dX14_init_2292 ?_
  refine v_tab (n := 351) (v := 78) ho (by decide) (by decide) dX14_init_2293 (pu_s dX14_init_2294 rfl) (pu_b dX14_init_2297 rfl) dX14_init_2299 ?_
  refine v_tab (n := 352) (v := 84) ho (by decide) (by decide) dX14_init_2300 (pu_s dX14_init_2301 rfl) (pu_b dX14_init_2304 rfl) dX14_init_2306 ?_
  refine v_tab (n := 353) (v := 69) ho (by decide) (by decide) dX14_init_2307 (pu_s dX14_init_2308 rfl) (pu_b dX14_init_2311 rfl) dX14_init_2313 ?_
  refine v_tab (n := 354) (v := 82) ho (by decide) (by decide) dX14_init_2314 (pu_s dX14_init_2315 rfl) (pu_b dX14_init_2318 rfl) dX14_init_2320 ?_
  refine v_tab (n := 355) (v := 83) ho (by decide) (by decide) dX14_init_2321 (pu_s dX14_init_2322 rfl) (pu_b dX14_init_2325 rfl) dX14_init_2327 ?_
  refine v_tab (n := 356) (v := 69) ho (by decide) (by decide) dX14_init_2328 (pu_s dX14_init_2329 rfl) (pu_b dX14_init_2332 rfl) dX14_init_2334 ?_
  refine v_tab (n := 357) (v := 67) ho (by decide) (by decide) dX14_init_2335 (pu_s dX14_init_2336 rfl) (pu_b dX14_init_2339 rfl) dX14_init_2341 ?_
  refine v_tab (n := 358) (v := 84) ho (by decide) (by decide) dX14_init_2342 (pu_s dX14_init_2343 rfl) (pu_b dX14_init_2346 rfl) dX14_init_2348 ?_
  refine v_tab (n := 359) (v := 73) ho (by decide) (by decide) dX14_init_2349 (pu_s dX14_init_2350 rfl) (pu_b dX14_init_2353 rfl) dX14_init_2355 ?_
  exact k
def tb_88_400 : List Int := 78 :: 0 :: 89 :: 84 :: 73 :: 78 :: 73 :: 70 :: 78 :: 73 :: 45 :: 83 :: 85 :: 78 :: 73 :: 77 :: 0 :: 78 :: 73 :: 77 :: 0 :: 88 :: 65 :: 77 :: 0 :: 103 :: 110 :: 105 :: 114 :: 116 :: 83 :: 54 :: 52 :: 54 :: 79 :: 83 :: 73 :: 0 :: 78 :: 79 :: tb_88_360
theorem wt_88_400 {rv : Option vA} {σo : vS} {ret : Option FieldType} {F Lc nL : Nat} {tko : List (Nat × Nat)} {P : vP} {σ : vS} {L : List (Nat × vA)} {st : List vA} (ho : ok P 88 24) (k : VW cX14_init (RX14, rv, σo, ret, F, Lc, nL, tko) P (sA σ 88 (686, tbr 400 tb_88_400)) 2631 L (vO 88 :: st)) : VW cX14_init (RX14, rv, σo, ret, F, Lc, nL, tko) P (sA σ 88 (686, tbr 360 tb_88_360)) 2356 L (vO 88 :: st) := by
  refine v_tab (n := 360) (v := 79) ho (by decide) (by decide) dX14_init_2356 (pu_s dX14_init_2357 rfl) (pu_b dX14_init_2360 rfl) dX14_init_2362 ?_
  refine v_tab (n := 361) (v := 78) ho (by decide) (by decide) dX14_init_2363 (pu_s dX14_init_2364 rfl) (pu_b dX14_init_2367 rfl) dX14_init_2369 ?_
  refine v_tab (n := 362) (v := 0) ho (by decide) (by decide) dX14_init_2370 (pu_s dX14_init_2371 rfl) (pu_c dX14_init_2374) dX14_init_2375 ?_
  refine v_tab (n := 363) (v := 73) ho (by decide) (by decide) dX14_init_2376 (pu_s dX14_init_2377 rfl) (pu_b dX14_init_2380 rfl) dX14_init_2382 ?_
  refine v_tab (n := 364) (v := 83) ho (by decide) (by decide) dX14_init_2383 (pu_s dX14_init_2384 rfl) (pu_b dX14_init_2387 rfl) dX14_init_2389 ?_
  refine v_tab (n := 365) (v := 79) ho (by decide) (by decide) dX14_init_2390 (pu_s dX14_init_2391 rfl) (pu_b dX14_init_2394 rfl) dX14_init_2396 ?_
  refine v_tab (n := 366) (v := 54) ho (by decide) (by decide) dX14_init_2397 (pu_s dX14_init_2398 rfl) (pu_b dX14_init_2401 rfl) dX14_init_2403 ?_
  refine v_tab (n := 367) (v := 52) ho (by decide) (by decide) dX14_init_2404 (pu_s dX14_init_2405 rfl) (pu_b dX14_init_2408 rfl) dX14_init_2410 ?_
  refine v_tab (n := 368) (v := 54) ho (by decide) (by decide) dX14_init_2411 (pu_s dX14_init_2412 rfl) (pu_b dX14_init_2415 rfl) dX14_init_2417 ?_
  refine v_tab (n := 369) (v := 83) ho (by decide) (by decide) dX14_init_2418 (pu_s dX14_init_2419 rfl) (pu_b dX14_init_2422 rfl) dX14_init_2424 ?_
  refine v_tab (n := 370) (v := 116) ho (by decide) (by decide) dX14_init_2425 (pu_s dX14_init_2426 rfl) (pu_b dX14_init_2429 rfl) dX14_init_2431 ?_
  refine v_tab (n := 371) (v := 114) ho (by decide) (by decide) dX14_init_2432 (pu_s dX14_init_2433 rfl) (pu_b dX14_init_2436 rfl) dX14_init_2438 ?_
  refine v_tab (n := 372) (v := 105) ho (by decide) (by decide) dX14_init_2439 (pu_s dX14_init_2440 rfl) (pu_b dX14_init_2443 rfl) dX14_init_2445 ?_
  refine v_tab (n := 373) (v := 110) ho (by decide) (by decide) dX14_init_2446 (pu_s dX14_init_2447 rfl) (pu_b dX14_init_2450 rfl) dX14_init_2452 ?_
  refine v_tab (n := 374) (v := 103) ho (by decide) (by decide) dX14_init_2453 (pu_s dX14_init_2454 rfl) (pu_b dX14_init_2457 rfl) dX14_init_2459 ?_
  refine v_tab (n := 375) (v := 0) ho (by decide) (by decide) dX14_init_2460 (pu_s dX14_init_2461 rfl) (pu_c dX14_init_2464) dX14_init_2465 ?_
  refine v_tab (n := 376) (v := 77) ho (by decide) (by decide) dX14_init_2466 (pu_s dX14_init_2467 rfl) (pu_b dX14_init_2470 rfl) dX14_init_2472 ?_
  refine v_tab (n := 377) (v := 65) ho (by decide) (by decide) dX14_init_2473 (pu_s dX14_init_2474 rfl) (pu_b dX14_init_2477 rfl) dX14_init_2479 ?_
  refine v_tab (n := 378) (v := 88) ho (by decide) (by decide) dX14_init_2480 (pu_s dX14_init_2481 rfl) (pu_b dX14_init_2484 rfl) dX14_init_2486 ?_
  refine v_tab (n := 379) (v := 0) ho (by decide) (by decide) dX14_init_2487 (pu_s dX14_init_2488 rfl) (pu_c dX14_init_2491) dX14_init_2492 ?_
  refine v_tab (n := 380) (v := 77) ho (by decide) (by decide) dX14_init_2493 (pu_s dX14_init_2494 rfl) (pu_b dX14_init_2497 rfl) dX14_init_2499 ?_
  refine v_tab (n := 381) (v := 73) ho (by decide) (by decide) dX14_init_2500 (pu_s dX14_init_2501 rfl) (pu_b dX14_init_2504 rfl) dX14_init_2506 ?_
  refine v_tab (n := 382) (v := 78) ho (by decide) (by decide) dX14_init_2507 (pu_s dX14_init_2508 rfl) (pu_b dX14_init_2511 rfl) dX14_init_2513 ?_
  refine v_tab (n := 383) (v := 0) ho (by decide) (by decide) dX14_init_2514 (pu_s dX14_init_2515 rfl) (pu_c dX14_init_2518) dX14_init_2519 ?_
  refine v_tab (n := 384) (v := 77) ho (by decide) (by decide) dX14_init_2520 (pu_s dX14_init_2521 rfl) (pu_b dX14_init_2524 rfl) dX14_init_2526 ?_
  refine v_tab (n := 385) (v := 73) ho (by decide) (by decide) dX14_init_2527 (pu_s dX14_init_2528 rfl) (pu_b dX14_init_2531 rfl) dX14_init_2533 ?_
  refine v_tab (n := 386) (v := 78) ho (by decide) (by decide) dX14_init_2534 (pu_s dX14_init_2535 rfl) (pu_b dX14_init_2538 rfl) dX14_init_2540 ?_
  refine v_tab (n := 387) (v := 85) ho (by decide) (by decide) dX14_init_2541 (pu_s dX14_init_2542 rfl) (pu_b dX14_init_2545 rfl) dX14_init_2547 ?_
  refine v_tab (n := 388) (v := 83) ho (by decide) (by decide) dX14_init_2548 (pu_s dX14_init_2549 rfl) (pu_b dX14_init_2552 rfl) dX14_init_2554 ?_
  refine v_tab (n := 389) (v := 45) ho (by decide) (by decide) dX14_init_2555 (pu_s dX14_init_2556 rfl) (pu_b dX14_init_2559 rfl) dX14_init_2561 ?_
  refine v_tab (n := 390) (v := 73) ho (by decide) (by decide) dX14_init_2562 (pu_s dX14_init_2563 rfl) (pu_b dX14_init_2566 rfl) dX14_init_2568 ?_
  refine v_tab (n := 391) (v := 78) ho (by decide) (by decide) dX14_init_2569 (pu_s dX14_init_2570 rfl) (pu_b dX14_init_2573 rfl) dX14_init_2575 ?_
  refine v_tab (n := 392) (v := 70) ho (by decide) (by decide) dX14_init_2576 (pu_s dX14_init_2577 rfl) (pu_b dX14_init_2580 rfl) dX14_init_2582 ?_
  refine v_tab (n := 393) (v := 73) ho (by decide) (by decide) dX14_init_2583 (pu_s dX14_init_2584 rfl) (pu_b dX14_init_2587 rfl) dX14_init_2589 ?_
  refine v_tab (n := 394) (v := 78) ho (by decide) (by decide) dX14_init_2590 (pu_s dX14_init_2591 rfl) (pu_b dX14_init_2594 rfl) dX14_init_2596 ?_
  refine v_tab (n := 395) (v := 73) ho (by decide) (by decide) dX14_init_2597 (pu_s dX14_init_2598 rfl) (pu_b dX14_init_2601 rfl) dX14_init_2603 ?_
  refine v_tab (n := 396) (v := 84) ho (by decide) (by decide) dX14_init_2604 (pu_s dX14_init_2605 rfl) (pu_b dX14_init_2608 rfl) dX14_init_2610 ?_
  refine v_tab (n := 397) (v := 89) ho (by decide) (by decide) dX14_init_2611 (pu_s dX14_init_2612 rfl) (pu_b dX14_init_2615 rfl) dX14_init_2617 ?_
  refine v_tab (n := 398) (v := 0) ho (by decide) (by decide) dX14_init_2618 (pu_s dX14_init_2619 rfl) (pu_c dX14_init_2622) dX14_init_2623 ?_
  refine v_tab (n := 399) (v := 78) ho (by decide) (by decide) dX14_init_2624 (pu_s dX14_init_2625 rfl) (pu_b dX14_init_2628 rfl) dX14_init_2630 ?_
  exact k
def tb_88_440 : List Int := 78 :: 79 :: 73 :: 84 :: 80 :: 79 :: 0 :: 70 :: 79 :: 0 :: 84 :: 69 :: 84 :: 67 :: 79 :: 0 :: 84 :: 67 :: 69 :: 74 :: 66 :: 79 :: 0 :: 103 :: 110 :: 105 :: 114 :: 116 :: 83 :: 99 :: 105 :: 114 :: 101 :: 109 :: 117 :: 78 :: 0 :: 76 :: 76 :: 85 :: tb_88_400
theorem wt_88_440 {rv : Option vA} {σo : vS} {ret : Option FieldType} {F Lc nL : Nat} {tko : List (Nat × Nat)} {P : vP} {σ : vS} {L : List (Nat × vA)} {st : List vA} (ho : ok P 88 24) (k : VW cX14_init (RX14, rv, σo, ret, F, Lc, nL, tko) P (sA σ 88 (686, tbr 440 tb_88_440)) 2906 L (vO 88 :: st)) : VW cX14_init (RX14, rv, σo, ret, F, Lc, nL, tko) P (sA σ 88 (686, tbr 400 tb_88_400)) 2631 L (vO 88 :: st) := by
  refine v_tab (n := 400) (v := 85) ho (by decide) (by decide) dX14_init_2631 (pu_s dX14_init_2632 rfl) (pu_b dX14_init_2635 rfl) dX14_init_2637 ?_
  refine v_tab (n := 401) (v := 76) ho (by decide) (by decide) dX14_init_2638 (pu_s dX14_init_2639 rfl) (pu_b dX14_init_2642 rfl) dX14_init_2644 ?_
  refine v_tab (n := 402) (v := 76) ho (by decide) (by decide) dX14_init_2645 (pu_s dX14_init_2646 rfl) (pu_b dX14_init_2649 rfl) dX14_init_2651 ?_
  refine v_tab (n := 403) (v := 0) ho (by decide) (by decide) dX14_init_2652 (pu_s dX14_init_2653 rfl) (pu_c dX14_init_2656) dX14_init_2657 ?_
  refine v_tab (n := 404) (v := 78) ho (by decide) (by decide) dX14_init_2658 (pu_s dX14_init_2659 rfl) (pu_b dX14_init_2662 rfl) dX14_init_2664 ?_
  refine v_tab (n := 405) (v := 117) ho (by decide) (by decide) dX14_init_2665 (pu_s dX14_init_2666 rfl) (pu_b dX14_init_2669 rfl) dX14_init_2671 ?_
  refine v_tab (n := 406) (v := 109) ho (by decide) (by decide) dX14_init_2672 (pu_s dX14_init_2673 rfl) (pu_b dX14_init_2676 rfl) dX14_init_2678 ?_
  refine v_tab (n := 407) (v := 101) ho (by decide) (by decide) dX14_init_2679 (pu_s dX14_init_2680 rfl) (pu_b dX14_init_2683 rfl) dX14_init_2685 ?_
  refine v_tab (n := 408) (v := 114) ho (by decide) (by decide) dX14_init_2686 (pu_s dX14_init_2687 rfl) (pu_b dX14_init_2690 rfl) dX14_init_2692 ?_
  refine v_tab (n := 409) (v := 105) ho (by decide) (by decide) dX14_init_2693 (pu_s dX14_init_2694 rfl) (pu_b dX14_init_2697 rfl) dX14_init_2699 ?_
  refine v_tab (n := 410) (v := 99) ho (by decide) (by decide) dX14_init_2700 (pu_s dX14_init_2701 rfl) (pu_b dX14_init_2704 rfl) dX14_init_2706 ?_
  refine v_tab (n := 411) (v := 83) ho (by decide) (by decide) dX14_init_2707 (pu_s dX14_init_2708 rfl) (pu_b dX14_init_2711 rfl) dX14_init_2713 ?_
  refine v_tab (n := 412) (v := 116) ho (by decide) (by decide) dX14_init_2714 (pu_s dX14_init_2715 rfl) (pu_b dX14_init_2718 rfl) dX14_init_2720 ?_
  refine v_tab (n := 413) (v := 114) ho (by decide) (by decide) dX14_init_2721 (pu_s dX14_init_2722 rfl) (pu_b dX14_init_2725 rfl) dX14_init_2727 ?_
  refine v_tab (n := 414) (v := 105) ho (by decide) (by decide) dX14_init_2728 (pu_s dX14_init_2729 rfl) (pu_b dX14_init_2732 rfl) dX14_init_2734 ?_
  refine v_tab (n := 415) (v := 110) ho (by decide) (by decide) dX14_init_2735 (pu_s dX14_init_2736 rfl) (pu_b dX14_init_2739 rfl) dX14_init_2741 ?_
  refine v_tab (n := 416) (v := 103) ho (by decide) (by decide) dX14_init_2742 (pu_s dX14_init_2743 rfl) (pu_b dX14_init_2746 rfl) dX14_init_2748 ?_
  refine v_tab (n := 417) (v := 0) ho (by decide) (by decide) dX14_init_2749 (pu_s dX14_init_2750 rfl) (pu_c dX14_init_2753) dX14_init_2754 ?_
  refine v_tab (n := 418) (v := 79) ho (by decide) (by decide) dX14_init_2755 (pu_s dX14_init_2756 rfl) (pu_b dX14_init_2759 rfl) dX14_init_2761 ?_
  refine v_tab (n := 419) (v := 66) ho (by decide) (by decide) dX14_init_2762 (pu_s dX14_init_2763 rfl) (pu_b dX14_init_2766 rfl) dX14_init_2768 ?_
  refine v_tab (n := 420) (v := 74) ho (by decide) (by decide) dX14_init_2769 (pu_s dX14_init_2770 rfl) (pu_b dX14_init_2773 rfl) dX14_init_2775 ?_
  refine v_tab (n := 421) (v := 69) ho (by decide) (by decide) dX14_init_2776 (pu_s dX14_init_2777 rfl) (pu_b dX14_init_2780 rfl) dX14_init_2782 ?_
  refine v_tab (n := 422) (v := 67) ho (by decide) (by decide) dX14_init_2783 (pu_s dX14_init_2784 rfl) (pu_b dX14_init_2787 rfl) dX14_init_2789 ?_
  refine v_tab (n := 423) (v := 84) ho (by decide) (by decide) dX14_init_2790 (pu_s dX14_init_2791 rfl) (pu_b dX14_init_2794 rfl) dX14_init_2796 ?_
  refine v_tab (n := 424) (v := 0) ho (by decide) (by decide) dX14_init_2797 (pu_s dX14_init_2798 rfl) (pu_c dX14_init_2801) dX14_init_2802 ?_
  refine v_tab (n := 425) (v := 79) ho (by decide) (by decide) dX14_init_2803 (pu_s dX14_init_2804 rfl) (pu_b dX14_init_2807 rfl) dX14_init_2809 ?_
  refine v_tab (n := 426) (v := 67) ho (by decide) (by decide) dX14_init_2810 (pu_s dX14_init_2811 rfl) (pu_b dX14_init_2814 rfl) dX14_init_2816 ?_
  refine v_tab (n := 427) (v := 84) ho (by decide) (by decide) dX14_init_2817 (pu_s dX14_init_2818 rfl) (pu_b dX14_init_2821 rfl) dX14_init_2823 ?_
  refine v_tab (n := 428) (v := 69) ho (by decide) (by decide) dX14_init_2824 (pu_s dX14_init_2825 rfl) (pu_b dX14_init_2828 rfl) dX14_init_2830 ?_
  refine v_tab (n := 429) (v := 84) ho (by decide) (by decide) dX14_init_2831 (pu_s dX14_init_2832 rfl) (pu_b dX14_init_2835 rfl) dX14_init_2837 ?_
  refine v_tab (n := 430) (v := 0) ho (by decide) (by decide) dX14_init_2838 (pu_s dX14_init_2839 rfl) (pu_c dX14_init_2842) dX14_init_2843 ?_
  refine v_tab (n := 431) (v := 79) ho (by decide) (by decide) dX14_init_2844 (pu_s dX14_init_2845 rfl) (pu_b dX14_init_2848 rfl) dX14_init_2850 ?_
  refine v_tab (n := 432) (v := 70) ho (by decide) (by decide) dX14_init_2851 (pu_s dX14_init_2852 rfl) (pu_b dX14_init_2855 rfl) dX14_init_2857 ?_
  refine v_tab (n := 433) (v := 0) ho (by decide) (by decide) dX14_init_2858 (pu_s dX14_init_2859 rfl) (pu_c dX14_init_2862) dX14_init_2863 ?_
  refine v_tab (n := 434) (v := 79) ho (by decide) (by decide) dX14_init_2864 (pu_s dX14_init_2865 rfl) (pu_b dX14_init_2868 rfl) dX14_init_2870 ?_
  refine v_tab (n := 435) (v := 80) ho (by decide) (by decide) dX14_init_2871 (pu_s dX14_init_2872 rfl) (pu_b dX14_init_2875 rfl) dX14_init_2877 ?_
  refine v_tab (n := 436) (v := 84) ho (by decide) (by decide) dX14_init_2878 (pu_s dX14_init_2879 rfl) (pu_b dX14_init_2882 rfl) dX14_init_2884 ?_
  refine v_tab (n := 437) (v := 73) ho (by decide) (by decide) dX14_init_2885 (pu_s dX14_init_2886 rfl) (pu_b dX14_init_2889 rfl) dX14_init_2891 ?_
  refine v_tab (n := 438) (v := 79) ho (by decide) (by decide) dX14_init_2892 (pu_s dX14_init_2893 rfl) (pu_b dX14_init_2896 rfl) dX14_init_2898 ?_
  refine v_tab (n := 439) (v := 78) ho (by decide) (by decide) dX14_init_2899 (pu_s dX14_init_2900 rfl) (pu_b dX14_init_2903 rfl) dX14_init_2905 ?_
  exact k
def tb_88_480 : List Int := 82 :: 80 :: 0 :: 89 :: 84 :: 73 :: 78 :: 73 :: 70 :: 78 :: 73 :: 45 :: 83 :: 85 :: 76 :: 80 :: 0 :: 86 :: 68 :: 80 :: 0 :: 114 :: 111 :: 116 :: 112 :: 105 :: 114 :: 99 :: 115 :: 101 :: 68 :: 116 :: 99 :: 101 :: 106 :: 98 :: 79 :: 0 :: 76 :: 65 :: tb_88_440
theorem wt_88_480 {rv : Option vA} {σo : vS} {ret : Option FieldType} {F Lc nL : Nat} {tko : List (Nat × Nat)} {P : vP} {σ : vS} {L : List (Nat × vA)} {st : List vA} (ho : ok P 88 24) (k : VW cX14_init (RX14, rv, σo, ret, F, Lc, nL, tko) P (sA σ 88 (686, tbr 480 tb_88_480)) 3182 L (vO 88 :: st)) : VW cX14_init (RX14, rv, σo, ret, F, Lc, nL, tko) P (sA σ 88 (686, tbr 440 tb_88_440)) 2906 L (vO 88 :: st) := by
  refine v_tab (n := 440) (v := 65) ho (by decide) (by decide) dX14_init_2906 (pu_s dX14_init_2907 rfl) (pu_b dX14_init_2910 rfl) dX14_init_2912 ?_
  refine v_tab (n := 441) (v := 76) ho (by decide) (by decide) dX14_init_2913 (pu_s dX14_init_2914 rfl) (pu_b dX14_init_2917 rfl) dX14_init_2919 ?_
  refine v_tab (n := 442) (v := 0) ho (by decide) (by decide) dX14_init_2920 (pu_s dX14_init_2921 rfl) (pu_c dX14_init_2924) dX14_init_2925 ?_
  refine v_tab (n := 443) (v := 79) ho (by decide) (by decide) dX14_init_2926 (pu_s dX14_init_2927 rfl) (pu_b dX14_init_2930 rfl) dX14_init_2932 ?_
  refine v_tab (n := 444) (v := 98) ho (by decide) (by decide) dX14_init_2933 (pu_s dX14_init_2934 rfl) (pu_b dX14_init_2937 rfl) dX14_init_2939 ?_
  refine v_tab (n := 445) (v := 106) ho (by decide) (by decide) dX14_init_2940 (pu_s dX14_init_2941 rfl) (pu_b dX14_init_2944 rfl) dX14_init_2946 ?_
  refine v_tab (n := 446) (v := 101) ho (by decide) (by decide) dX14_init_2947 (pu_s dX14_init_2948 rfl) (pu_b dX14_init_2951 rfl) dX14_init_2953 ?_
  refine v_tab (n := 447) (v := 99) ho (by decide) (by decide) dX14_init_2954 (pu_s dX14_init_2955 rfl) (pu_b dX14_init_2958 rfl) dX14_init_2960 ?_
  refine v_tab (n := 448) (v := 116) ho (by decide) (by decide) dX14_init_2961 (pu_s dX14_init_2962 rfl) (pu_b dX14_init_2965 rfl) dX14_init_2967 ?_
  refine v_tab (n := 449) (v := 68) ho (by decide) (by decide) dX14_init_2968 (pu_s dX14_init_2969 rfl) (pu_b dX14_init_2972 rfl) dX14_init_2974 ?_
  refine v_tab (n := 450) (v := 101) ho (by decide) (by decide) dX14_init_2975 (pu_s dX14_init_2976 rfl) (pu_b dX14_init_2979 rfl) dX14_init_2981 ?_
  refine v_tab (n := 451) (v := 115) ho (by decide) (by decide) dX14_init_2982 (pu_s dX14_init_2983 rfl) (pu_b dX14_init_2986 rfl) dX14_init_2988 ?_
  refine v_tab (n := 452) (v := 99) ho (by decide) (by decide) dX14_init_2989 (pu_s dX14_init_2990 rfl) (pu_b dX14_init_2993 rfl) dX14_init_2995 ?_
  refine v_tab (n := 453) (v := 114) ho (by decide) (by decide) dX14_init_2996 (pu_s dX14_init_2997 rfl) (pu_b dX14_init_3000 rfl) dX14_init_3002 ?_
  refine v_tab (n := 454) (v := 105) ho (by decide) (by decide) dX14_init_3003 (pu_s dX14_init_3004 rfl) (pu_b dX14_init_3007 rfl) dX14_init_3009 ?_
  refine v_tab (n := 455) (v := 112) ho (by decide) (by decide) dX14_init_3010 (pu_s dX14_init_3011 rfl) (pu_b dX14_init_3014 rfl) dX14_init_3016 ?_
  refine v_tab (n := 456) (v := 116) ho (by decide) (by decide) dX14_init_3017 (pu_s dX14_init_3018 rfl) (pu_b dX14_init_3021 rfl) dX14_init_3023 ?_
  refine v_tab (n := 457) (v := 111) ho (by decide) (by decide) dX14_init_3024 (pu_s dX14_init_3025 rfl) (pu_b dX14_init_3028 rfl) dX14_init_3030 ?_
  refine v_tab (n := 458) (v := 114) ho (by decide) (by decide) dX14_init_3031 (pu_s dX14_init_3032 rfl) (pu_b dX14_init_3035 rfl) dX14_init_3037 ?_
  refine v_tab (n := 459) (v := 0) ho (by decide) (by decide) dX14_init_3038 (pu_s dX14_init_3039 rfl) (pu_c dX14_init_3042) dX14_init_3043 ?_
  refine v_tab (n := 460) (v := 80) ho (by decide) (by decide) dX14_init_3044 (pu_s dX14_init_3045 rfl) (pu_b dX14_init_3048 rfl) dX14_init_3050 ?_
  refine v_tab (n := 461) (v := 68) ho (by decide) (by decide) dX14_init_3051 (pu_s dX14_init_3052 rfl) (pu_b dX14_init_3055 rfl) dX14_init_3057 ?_
  refine v_tab (n := 462) (v := 86) ho (by decide) (by decide) dX14_init_3058 (pu_s dX14_init_3059 rfl) (pu_b dX14_init_3062 rfl) dX14_init_3064 ?_
  refine v_tab (n := 463) (v := 0) ho (by decide) (by decide) dX14_init_3065 (pu_s dX14_init_3066 rfl) (pu_c dX14_init_3069) dX14_init_3070 ?_
  refine v_tab (n := 464) (v := 80) ho (by decide) (by decide) dX14_init_3071 (pu_s dX14_init_3072 rfl) (pu_b dX14_init_3075 rfl) dX14_init_3077 ?_
  refine v_tab (n := 465) (v := 76) ho (by decide) (by decide) dX14_init_3078 (pu_s dX14_init_3079 rfl) (pu_b dX14_init_3082 rfl) dX14_init_3084 ?_
  refine v_tab (n := 466) (v := 85) ho (by decide) (by decide) dX14_init_3085 (pu_s dX14_init_3086 rfl) (pu_b dX14_init_3089 rfl) dX14_init_3091 ?_
  refine v_tab (n := 467) (v := 83) ho (by decide) (by decide) dX14_init_3092 (pu_s dX14_init_3093 rfl) (pu_b dX14_init_3096 rfl) dX14_init_3098 ?_
  refine v_tab (n := 468) (v := 45) ho (by decide) (by decide) dX14_init_3099 (pu_s dX14_init_3100 rfl) (pu_b dX14_init_3103 rfl) dX14_init_3105 ?_
  refine v_tab (n := 469) (v := 73) ho (by decide) (by decide) dX14_init_3106 (pu_s dX14_init_3107 rfl) (pu_b dX14_init_3110 rfl) dX14_init_3112 ?_
  refine v_tab (n := 470) (v := 78) ho (by decide) (by decide) dX14_init_3113 (pu_s dX14_init_3114 rfl) (pu_b dX14_init_3117 rfl) dX14_init_3119 ?_
  refine v_tab (n := 471) (v := 70) ho (by decide) (by decide) dX14_init_3120 (pu_s dX14_init_3121 rfl) (pu_b dX14_init_3124 rfl) dX14_init_3126 ?_
  refine v_tab (n := 472) (v := 73) ho (by decide) (by decide) dX14_init_3127 (pu_s dX14_init_3128 rfl) (pu_b dX14_init_3131 rfl) dX14_init_3133 ?_
  refine v_tab (n := 473) (v := 78) ho (by decide) (by decide) dX14_init_3134 (pu_s dX14_init_3135 rfl) (pu_b dX14_init_3138 rfl) dX14_init_3140 ?_
  refine v_tab (n := 474) (v := 73) ho (by decide) (by decide) dX14_init_3141 (pu_s dX14_init_3142 rfl) (pu_b dX14_init_3145 rfl) dX14_init_3147 ?_
  refine v_tab (n := 475) (v := 84) ho (by decide) (by decide) dX14_init_3148 (pu_s dX14_init_3149 rfl) (pu_b dX14_init_3152 rfl) dX14_init_3154 ?_
  refine v_tab (n := 476) (v := 89) ho (by decide) (by decide) dX14_init_3155 (pu_s dX14_init_3156 rfl) (pu_b dX14_init_3159 rfl) dX14_init_3161 ?_
  refine v_tab (n := 477) (v := 0) ho (by decide) (by decide) dX14_init_3162 (pu_s dX14_init_3163 rfl) (pu_c dX14_init_3166) dX14_init_3167 ?_
  refine v_tab (n := 478) (v := 80) ho (by decide) (by decide) dX14_init_3168 (pu_s dX14_init_3169 rfl) (pu_b dX14_init_3172 rfl) dX14_init_3174 ?_
  refine v_tab (n := 479) (v := 82) ho (by decide) (by decide) dX14_init_3175 (pu_s dX14_init_3176 rfl) (pu_b dX14_init_3179 rfl) dX14_init_3181 ?_
  exact k
def tb_88_520 : List Int := 84 :: 65 :: 76 :: 69 :: 82 :: 0 :: 76 :: 65 :: 69 :: 82 :: 0 :: 103 :: 110 :: 105 :: 114 :: 116 :: 83 :: 101 :: 108 :: 98 :: 97 :: 116 :: 110 :: 105 :: 114 :: 80 :: 0 :: 69 :: 84 :: 65 :: 86 :: 73 :: 82 :: 80 :: 0 :: 84 :: 78 :: 69 :: 83 :: 69 :: tb_88_480
theorem wt_88_520 {rv : Option vA} {σo : vS} {ret : Option FieldType} {F Lc nL : Nat} {tko : List (Nat × Nat)} {P : vP} {σ : vS} {L : List (Nat × vA)} {st : List vA} (ho : ok P 88 24) (k : VW cX14_init (RX14, rv, σo, ret, F, Lc, nL, tko) P (sA σ 88 (686, tbr 520 tb_88_520)) 3458 L (vO 88 :: st)) : VW cX14_init (RX14, rv, σo, ret, F, Lc, nL, tko) P (sA σ 88 (686, tbr 480 tb_88_480)) 3182 L (vO 88 :: st) := by
  refine v_tab (n := 480) (v := 69) ho (by decide) (by decide) dX14_init_3182 (pu_s dX14_init_3183 rfl) (pu_b dX14_init_3186 rfl) dX14_init_3188 ?_
  refine v_tab (n := 481) (v := 83) ho (by decide) (by decide) dX14_init_3189 (pu_s dX14_init_3190 rfl) (pu_b dX14_init_3193 rfl) dX14_init_3195 ?_
  refine v_tab (n := 482) (v := 69) ho (by decide) (by decide) dX14_init_3196 (pu_s dX14_init_3197 rfl) (pu_b dX14_init_3200 rfl) dX14_init_3202 ?_
  refine v_tab (n := 483) (v := 78) ho (by decide) (by decide) dX14_init_3203 (pu_s dX14_init_3204 rfl) (pu_b dX14_init_3207 rfl) dX14_init_3209 ?_
  refine v_tab (n := 484) (v := 84) ho (by decide) (by decide) dX14_init_3210 (pu_s dX14_init_3211 rfl) (pu_b dX14_init_3214 rfl) dX14_init_3216 ?_
  refine v_tab (n := 485) (v := 0) ho (by decide) (by decide) dX14_init_3217 (pu_s dX14_init_3218 rfl) (pu_c dX14_init_3221) dX14_init_3222 ?_
  refine v_tab (n := 486) (v := 80) ho (by decide) (by decide) dX14_init_3223 (pu_s dX14_init_3224 rfl) (pu_b dX14_init_3227 rfl) dX14_init_3229 ?_
  refine v_tab (n := 487) (v := 82) ho (by decide) (by decide) dX14_init_3230 (pu_s dX14_init_3231 rfl) (pu_b dX14_init_3234 rfl) dX14_init_3236 ?_
  refine v_tab (n := 488) (v := 73) ho (by decide) (by decide) dX14_init_3237 (pu_s dX14_init_3238 rfl) (pu_b dX14_init_3241 rfl) dX14_init_3243 ?_
  refine v_tab (n := 489) (v := 86) ho (by decide) (by decide) dX14_init_3244 (pu_s dX14_init_3245 rfl) (pu_b dX14_init_3248 rfl) dX14_init_3250 ?_
  refine v_tab (n := 490) (v := 65) ho (by decide) (by decide) dX14_init_3251 (pu_s dX14_init_3252 rfl) (pu_b dX14_init_3255 rfl) dX14_init_3257 ?_
  refine v_tab (n := 491) (v := 84) ho (by decide) (by decide) dX14_init_3258 (pu_s dX14_init_3259 rfl) (pu_b dX14_init_3262 rfl) dX14_init_3264 ?_
  refine v_tab (n := 492) (v := 69) ho (by decide) (by decide) dX14_init_3265 (pu_s dX14_init_3266 rfl) (pu_b dX14_init_3269 rfl) dX14_init_3271 ?_
  refine v_tab (n := 493) (v := 0) ho (by decide) (by decide) dX14_init_3272 (pu_s dX14_init_3273 rfl) (pu_c dX14_init_3276) dX14_init_3277 ?_
  refine v_tab (n := 494) (v := 80) ho (by decide) (by decide) dX14_init_3278 (pu_s dX14_init_3279 rfl) (pu_b dX14_init_3282 rfl) dX14_init_3284 ?_
  refine v_tab (n := 495) (v := 114) ho (by decide) (by decide) dX14_init_3285 (pu_s dX14_init_3286 rfl) (pu_b dX14_init_3289 rfl) dX14_init_3291 ?_
  refine v_tab (n := 496) (v := 105) ho (by decide) (by decide) dX14_init_3292 (pu_s dX14_init_3293 rfl) (pu_b dX14_init_3296 rfl) dX14_init_3298 ?_
  refine v_tab (n := 497) (v := 110) ho (by decide) (by decide) dX14_init_3299 (pu_s dX14_init_3300 rfl) (pu_b dX14_init_3303 rfl) dX14_init_3305 ?_
  refine v_tab (n := 498) (v := 116) ho (by decide) (by decide) dX14_init_3306 (pu_s dX14_init_3307 rfl) (pu_b dX14_init_3310 rfl) dX14_init_3312 ?_
  refine v_tab (n := 499) (v := 97) ho (by decide) (by decide) dX14_init_3313 (pu_s dX14_init_3314 rfl) (pu_b dX14_init_3317 rfl) dX14_init_3319 ?_
  refine v_tab (n := 500) (v := 98) ho (by decide) (by decide) dX14_init_3320 (pu_s dX14_init_3321 rfl) (pu_b dX14_init_3324 rfl) dX14_init_3326 ?_
  refine v_tab (n := 501) (v := 108) ho (by decide) (by decide) dX14_init_3327 (pu_s dX14_init_3328 rfl) (pu_b dX14_init_3331 rfl) dX14_init_3333 ?_
  refine v_tab (n := 502) (v := 101) ho (by decide) (by decide) dX14_init_3334 (pu_s dX14_init_3335 rfl) (pu_b dX14_init_3338 rfl) dX14_init_3340 ?_
  refine v_tab (n := 503) (v := 83) ho (by decide) (by decide) dX14_init_3341 (pu_s dX14_init_3342 rfl) (pu_b dX14_init_3345 rfl) dX14_init_3347 ?_
  refine v_tab (n := 504) (v := 116) ho (by decide) (by decide) dX14_init_3348 (pu_s dX14_init_3349 rfl) (pu_b dX14_init_3352 rfl) dX14_init_3354 ?_
  refine v_tab (n := 505) (v := 114) ho (by decide) (by decide) dX14_init_3355 (pu_s dX14_init_3356 rfl) (pu_b dX14_init_3359 rfl) dX14_init_3361 ?_
  refine v_tab (n := 506) (v := 105) ho (by decide) (by decide) dX14_init_3362 (pu_s dX14_init_3363 rfl) (pu_b dX14_init_3366 rfl) dX14_init_3368 ?_
  refine v_tab (n := 507) (v := 110) ho (by decide) (by decide) dX14_init_3369 (pu_s dX14_init_3370 rfl) (pu_b dX14_init_3373 rfl) dX14_init_3375 ?_
  refine v_tab (n := 508) (v := 103) ho (by decide) (by decide) dX14_init_3376 (pu_s dX14_init_3377 rfl) (pu_b dX14_init_3380 rfl) dX14_init_3382 ?_
  refine v_tab (n := 509) (v := 0) ho (by decide) (by decide) dX14_init_3383 (pu_s dX14_init_3384 rfl) (pu_c dX14_init_3387) dX14_init_3388 ?_
  refine v_tab (n := 510) (v := 82) ho (by decide) (by decide) dX14_init_3389 (pu_s dX14_init_3390 rfl) (pu_b dX14_init_3393 rfl) dX14_init_3395 ?_
  refine v_tab (n := 511) (v := 69) ho (by decide) (by decide) dX14_init_3396 (pu_s dX14_init_3397 rfl) (pu_b dX14_init_3400 rfl) dX14_init_3402 ?_
  refine v_tab (n := 512) (v := 65) ho (by decide) (by decide) dX14_init_3403 (pu_s dX14_init_3404 rfl) (pu_b dX14_init_3407 rfl) dX14_init_3409 ?_
  refine v_tab (n := 513) (v := 76) ho (by decide) (by decide) dX14_init_3410 (pu_s dX14_init_3411 rfl) (pu_b dX14_init_3414 rfl) dX14_init_3416 ?_
  refine v_tab (n := 514) (v := 0) ho (by decide) (by decide) dX14_init_3417 (pu_s dX14_init_3418 rfl) (pu_c dX14_init_3421) dX14_init_3422 ?_
  refine v_tab (n := 515) (v := 82) ho (by decide) (by decide) dX14_init_3423 (pu_s dX14_init_3424 rfl) (pu_b dX14_init_3427 rfl) dX14_init_3429 ?_
  refine v_tab (n := 516) (v := 69) ho (by decide) (by decide) dX14_init_3430 (pu_s dX14_init_3431 rfl) (pu_b dX14_init_3434 rfl) dX14_init_3436 ?_
  refine v_tab (n := 517) (v := 76) ho (by decide) (by decide) dX14_init_3437 (pu_s dX14_init_3438 rfl) (pu_b dX14_init_3441 rfl) dX14_init_3443 ?_
  refine v_tab (n := 518) (v := 65) ho (by decide) (by decide) dX14_init_3444 (pu_s dX14_init_3445 rfl) (pu_b dX14_init_3448 rfl) dX14_init_3450 ?_
  refine v_tab (n := 519) (v := 84) ho (by decide) (by decide) dX14_init_3451 (pu_s dX14_init_3452 rfl) (pu_b dX14_init_3455 rfl) dX14_init_3457 ?_
  exact k
def tb_88_560 : List Int := 0 :: 88 :: 65 :: 84 :: 78 :: 89 :: 83 :: 0 :: 71 :: 78 :: 73 :: 82 :: 84 :: 83 :: 0 :: 69 :: 90 :: 73 :: 83 :: 0 :: 84 :: 69 :: 83 :: 0 :: 69 :: 67 :: 78 :: 69 :: 85 :: 81 :: 69 :: 83 :: 0 :: 68 :: 73 :: 79 :: 45 :: 69 :: 86 :: 73 :: tb_88_520
theorem wt_88_560 {rv : Option vA} {σo : vS} {ret : Option FieldType} {F Lc nL : Nat} {tko : List (Nat × Nat)} {P : vP} {σ : vS} {L : List (Nat × vA)} {st : List vA} (ho : ok P 88 24) (k : VW cX14_init (RX14, rv, σo, ret, F, Lc, nL, tko) P (sA σ 88 (686, tbr 560 tb_88_560)) 3732 L (vO 88 :: st)) : VW cX14_init (RX14, rv, σo, ret, F, Lc, nL, tko) P (sA σ 88 (686, tbr 520 tb_88_520)) 3458 L (vO 88 :: st) := by
  refine v_tab (n := 520) (v := 73) ho (by decide) (by decide) dX14_init_3458 (pu_s dX14_init_3459 rfl) (pu_b dX14_init_3462 rfl) dX14_init_3464 ?_
  refine v_tab (n := 521) (v := 86) ho (by decide) (by decide) dX14_init_3465 (pu_s dX14_init_3466 rfl) (pu_b dX14_init_3469 rfl) dX14_init_3471 ?_
  refine v_tab (n := 522) (v := 69) ho (by decide) (by decide) dX14_init_3472 (pu_s dX14_init_3473 rfl) (pu_b dX14_init_3476 rfl) dX14_init_3478 ?_
  refine v_tab (n := 523) (v := 45) ho (by decide) (by decide) dX14_init_3479 (pu_s dX14_init_3480 rfl) (pu_b dX14_init_3483 rfl) dX14_init_3485 ?_
  refine v_tab (n := 524) (v := 79) ho (by decide) (by decide) dX14_init_3486 (pu_s dX14_init_3487 rfl) (pu_b dX14_init_3490 rfl) dX14_init_3492 ?_
  refine v_tab (n := 525) (v := 73) ho (by decide) (by decide) dX14_init_3493 (pu_s dX14_init_3494 rfl) (pu_b dX14_init_3497 rfl) dX14_init_3499 ?_
  refine v_tab (n := 526) (v := 68) ho (by decide) (by decide) dX14_init_3500 (pu_s dX14_init_3501 rfl) (pu_b dX14_init_3504 rfl) dX14_init_3506 ?_
  refine v_tab (n := 527) (v := 0) ho (by decide) (by decide) dX14_init_3507 (pu_s dX14_init_3508 rfl) (pu_c dX14_init_3511) dX14_init_3512 ?_
  refine v_tab (n := 528) (v := 83) ho (by decide) (by decide) dX14_init_3513 (pu_s dX14_init_3514 rfl) (pu_b dX14_init_3517 rfl) dX14_init_3519 ?_
  refine v_tab (n := 529) (v := 69) ho (by decide) (by decide) dX14_init_3520 (pu_s dX14_init_3521 rfl) (pu_b dX14_init_3524 rfl) dX14_init_3526 ?_
  refine v_tab (n := 530) (v := 81) ho (by decide) (by decide) dX14_init_3527 (pu_s dX14_init_3528 rfl) (pu_b dX14_init_3531 rfl) dX14_init_3533 ?_
  refine v_tab (n := 531) (v := 85) ho (by decide) (by decide) dX14_init_3534 (pu_s dX14_init_3535 rfl) (pu_b dX14_init_3538 rfl) dX14_init_3540 ?_
  refine v_tab (n := 532) (v := 69) ho (by decide) (by decide) dX14_init_3541 (pu_s dX14_init_3542 rfl) (pu_b dX14_init_3545 rfl) dX14_init_3547 ?_
  refine v_tab (n := 533) (v := 78) ho (by decide) (by decide) dX14_init_3548 (pu_s dX14_init_3549 rfl) (pu_b dX14_init_3552 rfl) dX14_init_3554 ?_
  refine v_tab (n := 534) (v := 67) ho (by decide) (by decide) dX14_init_3555 (pu_s dX14_init_3556 rfl) (pu_b dX14_init_3559 rfl) dX14_init_3561 ?_
  refine v_tab (n := 535) (v := 69) ho (by decide) (by decide) dX14_init_3562 (pu_s dX14_init_3563 rfl) (pu_b dX14_init_3566 rfl) dX14_init_3568 ?_
  refine v_tab (n := 536) (v := 0) ho (by decide) (by decide) dX14_init_3569 (pu_s dX14_init_3570 rfl) (pu_c dX14_init_3573) dX14_init_3574 ?_
  refine v_tab (n := 537) (v := 83) ho (by decide) (by decide) dX14_init_3575 (pu_s dX14_init_3576 rfl) (pu_b dX14_init_3579 rfl) dX14_init_3581 ?_
  refine v_tab (n := 538) (v := 69) ho (by decide) (by decide) dX14_init_3582 (pu_s dX14_init_3583 rfl) (pu_b dX14_init_3586 rfl) dX14_init_3588 ?_
  refine v_tab (n := 539) (v := 84) ho (by decide) (by decide) dX14_init_3589 (pu_s dX14_init_3590 rfl) (pu_b dX14_init_3593 rfl) dX14_init_3595 ?_
  refine v_tab (n := 540) (v := 0) ho (by decide) (by decide) dX14_init_3596 (pu_s dX14_init_3597 rfl) (pu_c dX14_init_3600) dX14_init_3601 ?_
  refine v_tab (n := 541) (v := 83) ho (by decide) (by decide) dX14_init_3602 (pu_s dX14_init_3603 rfl) (pu_b dX14_init_3606 rfl) dX14_init_3608 ?_
  refine v_tab (n := 542) (v := 73) ho (by decide) (by decide) dX14_init_3609 (pu_s dX14_init_3610 rfl) (pu_b dX14_init_3613 rfl) dX14_init_3615 ?_
  refine v_tab (n := 543) (v := 90) ho (by decide) (by decide) dX14_init_3616 (pu_s dX14_init_3617 rfl) (pu_b dX14_init_3620 rfl) dX14_init_3622 ?_
  refine v_tab (n := 544) (v := 69) ho (by decide) (by decide) dX14_init_3623 (pu_s dX14_init_3624 rfl) (pu_b dX14_init_3627 rfl) dX14_init_3629 ?_
  refine v_tab (n := 545) (v := 0) ho (by decide) (by decide) dX14_init_3630 (pu_s dX14_init_3631 rfl) (pu_c dX14_init_3634) dX14_init_3635 ?_
  refine v_tab (n := 546) (v := 83) ho (by decide) (by decide) dX14_init_3636 (pu_s dX14_init_3637 rfl) (pu_b dX14_init_3640 rfl) dX14_init_3642 ?_
  refine v_tab (n := 547) (v := 84) ho (by decide) (by decide) dX14_init_3643 (pu_s dX14_init_3644 rfl) (pu_b dX14_init_3647 rfl) dX14_init_3649 ?_
  refine v_tab (n := 548) (v := 82) ho (by decide) (by decide) dX14_init_3650 (pu_s dX14_init_3651 rfl) (pu_b dX14_init_3654 rfl) dX14_init_3656 ?_
  refine v_tab (n := 549) (v := 73) ho (by decide) (by decide) dX14_init_3657 (pu_s dX14_init_3658 rfl) (pu_b dX14_init_3661 rfl) dX14_init_3663 ?_
  refine v_tab (n := 550) (v := 78) ho (by decide) (by decide) dX14_init_3664 (pu_s dX14_init_3665 rfl) (pu_b dX14_init_3668 rfl) dX14_init_3670 ?_
  refine v_tab (n := 551) (v := 71) ho (by decide) (by decide) dX14_init_3671 (pu_s dX14_init_3672 rfl) (pu_b dX14_init_3675 rfl) dX14_init_3677 ?_
  refine v_tab (n := 552) (v := 0) ho (by decide) (by decide) dX14_init_3678 (pu_s dX14_init_3679 rfl) (pu_c dX14_init_3682) dX14_init_3683 ?_
  refine v_tab (n := 553) (v := 83) ho (by decide) (by decide) dX14_init_3684 (pu_s dX14_init_3685 rfl) (pu_b dX14_init_3688 rfl) dX14_init_3690 ?_
  refine v_tab (n := 554) (v := 89) ho (by decide) (by decide) dX14_init_3691 (pu_s dX14_init_3692 rfl) (pu_b dX14_init_3695 rfl) dX14_init_3697 ?_
  refine v_tab (n := 555) (v := 78) ho (by decide) (by decide) dX14_init_3698 (pu_s dX14_init_3699 rfl) (pu_b dX14_init_3702 rfl) dX14_init_3704 ?_
  refine v_tab (n := 556) (v := 84) ho (by decide) (by decide) dX14_init_3705 (pu_s dX14_init_3706 rfl) (pu_b dX14_init_3709 rfl) dX14_init_3711 ?_
  refine v_tab (n := 557) (v := 65) ho (by decide) (by decide) dX14_init_3712 (pu_s dX14_init_3713 rfl) (pu_b dX14_init_3716 rfl) dX14_init_3718 ?_
  refine v_tab (n := 558) (v := 88) ho (by decide) (by decide) dX14_init_3719 (pu_s dX14_init_3720 rfl) (pu_b dX14_init_3723 rfl) dX14_init_3725 ?_
  refine v_tab (n := 559) (v := 0) ho (by decide) (by decide) dX14_init_3726 (pu_s dX14_init_3727 rfl) (pu_c dX14_init_3730) dX14_init_3731 ?_
  exact k
def tb_88_600 : List Int := 0 :: 78 :: 79 :: 73 :: 78 :: 85 :: 0 :: 103 :: 110 :: 105 :: 114 :: 116 :: 83 :: 120 :: 101 :: 116 :: 101 :: 108 :: 101 :: 84 :: 0 :: 69 :: 85 :: 82 :: 84 :: 0 :: 83 :: 71 :: 65 :: 84 :: 0 :: 103 :: 110 :: 105 :: 114 :: 116 :: 83 :: 49 :: 54 :: 84 :: tb_88_560
theorem wt_88_600 {rv : Option vA} {σo : vS} {ret : Option FieldType} {F Lc nL : Nat} {tko : List (Nat × Nat)} {P : vP} {σ : vS} {L : List (Nat × vA)} {st : List vA} (ho : ok P 88 24) (k : VW cX14_init (RX14, rv, σo, ret, F, Lc, nL, tko) P (sA σ 88 (686, tbr 600 tb_88_600)) 4007 L (vO 88 :: st)) : VW cX14_init (RX14, rv, σo, ret, F, Lc, nL, tko) P (sA σ 88 (686, tbr 560 tb_88_560)) 3732 L (vO 88 :: st) := by
  refine v_tab (n := 560) (v := 84) ho (by decide) (by decide) dX14_init_3732 (pu_s dX14_init_3733 rfl) (pu_b dX14_init_3736 rfl) dX14_init_3738 ?_
  refine v_tab (n := 561) (v := 54) ho (by decide) (by decide) dX14_init_3739 (pu_s dX14_init_3740 rfl) (pu_b dX14_init_3743 rfl) dX14_init_3745 ?_
  refine v_tab (n := 562) (v := 49) ho (by decide) (by decide) dX14_init_3746 (pu_s dX14_init_3747 rfl) (pu_b dX14_init_3750 rfl) dX14_init_3752 ?_
  refine v_tab (n := 563) (v := 83) ho (by decide) (by decide) dX14_init_3753 (pu_s dX14_init_3754 rfl) (pu_b dX14_init_3757 rfl) dX14_init_3759 ?_
  refine v_tab (n := 564) (v := 116) ho (by decide) (by decide) dX14_init_3760 (pu_s dX14_init_3761 rfl) (pu_b dX14_init_3764 rfl) dX14_init_3766 ?_
  refine v_tab (n := 565) (v := 114) ho (by decide) (by decide) dX14_init_3767 (pu_s dX14_init_3768 rfl) (pu_b dX14_init_3771 rfl) dX14_init_3773 ?_
  refine v_tab (n := 566) (v := 105) ho (by decide) (by decide) dX14_init_3774 (pu_s dX14_init_3775 rfl) (pu_b dX14_init_3778 rfl) dX14_init_3780 ?_
  refine v_tab (n := 567) (v := 110) ho (by decide) (by decide) dX14_init_3781 (pu_s dX14_init_3782 rfl) (pu_b dX14_init_3785 rfl) dX14_init_3787 ?_
  refine v_tab (n := 568) (v := 103) ho (by decide) (by decide) dX14_init_3788 (pu_s dX14_init_3789 rfl) (pu_b dX14_init_3792 rfl) dX14_init_3794 ?_
  refine v_tab (n := 569) (v := 0) ho (by decide) (by decide) dX14_init_3795 (pu_s dX14_init_3796 rfl) (pu_c dX14_init_3799) dX14_init_3800 ?_
  refine v_tab (n := 570) (v := 84) ho (by decide) (by decide) dX14_init_3801 (pu_s dX14_init_3802 rfl) (pu_b dX14_init_3805 rfl) dX14_init_3807 ?_
  refine v_tab (n := 571) (v := 65) ho (by decide) (by decide) dX14_init_3808 (pu_s dX14_init_3809 rfl) (pu_b dX14_init_3812 rfl) dX14_init_3814 ?_
  refine v_tab (n := 572) (v := 71) ho (by decide) (by decide) dX14_init_3815 (pu_s dX14_init_3816 rfl) (pu_b dX14_init_3819 rfl) dX14_init_3821 ?_
  refine v_tab (n := 573) (v := 83) ho (by decide) (by decide) dX14_init_3822 (pu_s dX14_init_3823 rfl) (pu_b dX14_init_3826 rfl) dX14_init_3828 ?_
  refine v_tab (n := 574) (v := 0) ho (by decide) (by decide) dX14_init_3829 (pu_s dX14_init_3830 rfl) (pu_c dX14_init_3833) dX14_init_3834 ?_
  refine v_tab (n := 575) (v := 84) ho (by decide) (by decide) dX14_init_3835 (pu_s dX14_init_3836 rfl) (pu_b dX14_init_3839 rfl) dX14_init_3841 ?_
  refine v_tab (n := 576) (v := 82) ho (by decide) (by decide) dX14_init_3842 (pu_s dX14_init_3843 rfl) (pu_b dX14_init_3846 rfl) dX14_init_3848 ?_
  refine v_tab (n := 577) (v := 85) ho (by decide) (by decide) dX14_init_3849 (pu_s dX14_init_3850 rfl) (pu_b dX14_init_3853 rfl) dX14_init_3855 ?_
  refine v_tab (n := 578) (v := 69) ho (by decide) (by decide) dX14_init_3856 (pu_s dX14_init_3857 rfl) (pu_b dX14_init_3860 rfl) dX14_init_3862 ?_
  refine v_tab (n := 579) (v := 0) ho (by decide) (by decide) dX14_init_3863 (pu_s dX14_init_3864 rfl) (pu_c dX14_init_3867) dX14_init_3868 ?_
  refine v_tab (n := 580) (v := 84) ho (by decide) (by decide) dX14_init_3869 (pu_s dX14_init_3870 rfl) (pu_b dX14_init_3873 rfl) dX14_init_3875 ?_
  refine v_tab (n := 581) (v := 101) ho (by decide) (by decide) dX14_init_3876 (pu_s dX14_init_3877 rfl) (pu_b dX14_init_3880 rfl) dX14_init_3882 ?_
  refine v_tab (n := 582) (v := 108) ho (by decide) (by decide) dX14_init_3883 (pu_s dX14_init_3884 rfl) (pu_b dX14_init_3887 rfl) dX14_init_3889 ?_
  refine v_tab (n := 583) (v := 101) ho (by decide) (by decide) dX14_init_3890 (pu_s dX14_init_3891 rfl) (pu_b dX14_init_3894 rfl) dX14_init_3896 ?_
  refine v_tab (n := 584) (v := 116) ho (by decide) (by decide) dX14_init_3897 (pu_s dX14_init_3898 rfl) (pu_b dX14_init_3901 rfl) dX14_init_3903 ?_
  refine v_tab (n := 585) (v := 101) ho (by decide) (by decide) dX14_init_3904 (pu_s dX14_init_3905 rfl) (pu_b dX14_init_3908 rfl) dX14_init_3910 ?_
  refine v_tab (n := 586) (v := 120) ho (by decide) (by decide) dX14_init_3911 (pu_s dX14_init_3912 rfl) (pu_b dX14_init_3915 rfl) dX14_init_3917 ?_
  refine v_tab (n := 587) (v := 83) ho (by decide) (by decide) dX14_init_3918 (pu_s dX14_init_3919 rfl) (pu_b dX14_init_3922 rfl) dX14_init_3924 ?_
  refine v_tab (n := 588) (v := 116) ho (by decide) (by decide) dX14_init_3925 (pu_s dX14_init_3926 rfl) (pu_b dX14_init_3929 rfl) dX14_init_3931 ?_
  refine v_tab (n := 589) (v := 114) ho (by decide) (by decide) dX14_init_3932 (pu_s dX14_init_3933 rfl) (pu_b dX14_init_3936 rfl) dX14_init_3938 ?_
  refine v_tab (n := 590) (v := 105) ho (by decide) (by decide) dX14_init_3939 (pu_s dX14_init_3940 rfl) (pu_b dX14_init_3943 rfl) dX14_init_3945 ?_
  refine v_tab (n := 591) (v := 110) ho (by decide) (by decide) dX14_init_3946 (pu_s dX14_init_3947 rfl) (pu_b dX14_init_3950 rfl) dX14_init_3952 ?_
  refine v_tab (n := 592) (v := 103) ho (by decide) (by decide) dX14_init_3953 (pu_s dX14_init_3954 rfl) (pu_b dX14_init_3957 rfl) dX14_init_3959 ?_
  refine v_tab (n := 593) (v := 0) ho (by decide) (by decide) dX14_init_3960 (pu_s dX14_init_3961 rfl) (pu_c dX14_init_3964) dX14_init_3965 ?_
  refine v_tab (n := 594) (v := 85) ho (by decide) (by decide) dX14_init_3966 (pu_s dX14_init_3967 rfl) (pu_b dX14_init_3970 rfl) dX14_init_3972 ?_
  refine v_tab (n := 595) (v := 78) ho (by decide) (by decide) dX14_init_3973 (pu_s dX14_init_3974 rfl) (pu_b dX14_init_3977 rfl) dX14_init_3979 ?_
  refine v_tab (n := 596) (v := 73) ho (by decide) (by decide) dX14_init_3980 (pu_s dX14_init_3981 rfl) (pu_b dX14_init_3984 rfl) dX14_init_3986 ?_
  refine v_tab (n := 597) (v := 79) ho (by decide) (by decide) dX14_init_3987 (pu_s dX14_init_3988 rfl) (pu_b dX14_init_3991 rfl) dX14_init_3993 ?_
  refine v_tab (n := 598) (v := 78) ho (by decide) (by decide) dX14_init_3994 (pu_s dX14_init_3995 rfl) (pu_b dX14_init_3998 rfl) dX14_init_4000 ?_
  refine v_tab (n := 599) (v := 0) ho (by decide) (by decide) dX14_init_4001 (pu_s dX14_init_4002 rfl) (pu_c dX14_init_4005) dX14_init_4006 ?_
  exact k
def tb_88_640 : List Int := 118 :: 105 :: 110 :: 85 :: 0 :: 103 :: 110 :: 105 :: 114 :: 116 :: 83 :: 56 :: 70 :: 84 :: 85 :: 0 :: 101 :: 109 :: 105 :: 84 :: 67 :: 84 :: 85 :: 0 :: 76 :: 65 :: 83 :: 82 :: 69 :: 86 :: 73 :: 78 :: 85 :: 0 :: 69 :: 85 :: 81 :: 73 :: 78 :: 85 :: tb_88_600
theorem wt_88_640 {rv : Option vA} {σo : vS} {ret : Option FieldType} {F Lc nL : Nat} {tko : List (Nat × Nat)} {P : vP} {σ : vS} {L : List (Nat × vA)} {st : List vA} (ho : ok P 88 24) (k : VW cX14_init (RX14, rv, σo, ret, F, Lc, nL, tko) P (sA σ 88 (686, tbr 640 tb_88_640)) 4283 L (vO 88 :: st)) : VW cX14_init (RX14, rv, σo, ret, F, Lc, nL, tko) P (sA σ 88 (686, tbr 600 tb_88_600)) 4007 L (vO 88 :: st) := by
  refine v_tab (n := 600) (v := 85) ho (by decide) (by decide) dX14_init_4007 (pu_s dX14_init_4008 rfl) (pu_b dX14_init_4011 rfl) dX14_init_4013 ?_
  refine v_tab (n := 601) (v := 78) ho (by decide) (by decide) dX14_init_4014 (pu_s dX14_init_4015 rfl) (pu_b dX14_init_4018 rfl) dX14_init_4020 ?_
  refine v_tab (n := 602) (v := 73) ho (by decide) (by decide) dX14_init_4021 (pu_s dX14_init_4022 rfl) (pu_b dX14_init_4025 rfl) dX14_init_4027 ?_
  refine v_tab (n := 603) (v := 81) ho (by decide) (by decide) dX14_init_4028 (pu_s dX14_init_4029 rfl) (pu_b dX14_init_4032 rfl) dX14_init_4034 ?_
  refine v_tab (n := 604) (v := 85) ho (by decide) (by decide) dX14_init_4035 (pu_s dX14_init_4036 rfl) (pu_b dX14_init_4039 rfl) dX14_init_4041 ?_
  refine v_tab (n := 605) (v := 69) ho (by decide) (by decide) dX14_init_4042 (pu_s dX14_init_4043 rfl) (pu_b dX14_init_4046 rfl) dX14_init_4048 ?_
  refine v_tab (n := 606) (v := 0) ho (by decide) (by decide) dX14_init_4049 (pu_s dX14_init_4050 rfl) (pu_c dX14_init_4053) dX14_init_4054 ?_
  refine v_tab (n := 607) (v := 85) ho (by decide) (by decide) dX14_init_4055 (pu_s dX14_init_4056 rfl) (pu_b dX14_init_4059 rfl) dX14_init_4061 ?_
  refine v_tab (n := 608) (v := 78) ho (by decide) (by decide) dX14_init_4062 (pu_s dX14_init_4063 rfl) (pu_b dX14_init_4066 rfl) dX14_init_4068 ?_
  refine v_tab (n := 609) (v := 73) ho (by decide) (by decide) dX14_init_4069 (pu_s dX14_init_4070 rfl) (pu_b dX14_init_4073 rfl) dX14_init_4075 ?_
  refine v_tab (n := 610) (v := 86) ho (by decide) (by decide) dX14_init_4076 (pu_s dX14_init_4077 rfl) (pu_b dX14_init_4080 rfl) dX14_init_4082 ?_
  refine v_tab (n := 611) (v := 69) ho (by decide) (by decide) dX14_init_4083 (pu_s dX14_init_4084 rfl) (pu_b dX14_init_4087 rfl) dX14_init_4089 ?_
  refine v_tab (n := 612) (v := 82) ho (by decide) (by decide) dX14_init_4090 (pu_s dX14_init_4091 rfl) (pu_b dX14_init_4094 rfl) dX14_init_4096 ?_
  refine v_tab (n := 613) (v := 83) ho (by decide) (by decide) dX14_init_4097 (pu_s dX14_init_4098 rfl) (pu_b dX14_init_4101 rfl) dX14_init_4103 ?_
  refine v_tab (n := 614) (v := 65) ho (by decide) (by decide) dX14_init_4104 (pu_s dX14_init_4105 rfl) (pu_b dX14_init_4108 rfl) dX14_init_4110 ?_
  refine v_tab (n := 615) (v := 76) ho (by decide) (by decide) dX14_init_4111 (pu_s dX14_init_4112 rfl) (pu_b dX14_init_4115 rfl) dX14_init_4117 ?_
  refine v_tab (n := 616) (v := 0) ho (by decide) (by decide) dX14_init_4118 (pu_s dX14_init_4119 rfl) (pu_c dX14_init_4122) dX14_init_4123 ?_
  refine v_tab (n := 617) (v := 85) ho (by decide) (by decide) dX14_init_4124 (pu_s dX14_init_4125 rfl) (pu_b dX14_init_4128 rfl) dX14_init_4130 ?_
  refine v_tab (n := 618) (v := 84) ho (by decide) (by decide) dX14_init_4131 (pu_s dX14_init_4132 rfl) (pu_b dX14_init_4135 rfl) dX14_init_4137 ?_
  refine v_tab (n := 619) (v := 67) ho (by decide) (by decide) dX14_init_4138 (pu_s dX14_init_4139 rfl) (pu_b dX14_init_4142 rfl) dX14_init_4144 ?_
  refine v_tab (n := 620) (v := 84) ho (by decide) (by decide) dX14_init_4145 (pu_s dX14_init_4146 rfl) (pu_b dX14_init_4149 rfl) dX14_init_4151 ?_
  refine v_tab (n := 621) (v := 105) ho (by decide) (by decide) dX14_init_4152 (pu_s dX14_init_4153 rfl) (pu_b dX14_init_4156 rfl) dX14_init_4158 ?_
  refine v_tab (n := 622) (v := 109) ho (by decide) (by decide) dX14_init_4159 (pu_s dX14_init_4160 rfl) (pu_b dX14_init_4163 rfl) dX14_init_4165 ?_
  refine v_tab (n := 623) (v := 101) ho (by decide) (by decide) dX14_init_4166 (pu_s dX14_init_4167 rfl) (pu_b dX14_init_4170 rfl) dX14_init_4172 ?_
  refine v_tab (n := 624) (v := 0) ho (by decide) (by decide) dX14_init_4173 (pu_s dX14_init_4174 rfl) (pu_c dX14_init_4177) dX14_init_4178 ?_
  refine v_tab (n := 625) (v := 85) ho (by decide) (by decide) dX14_init_4179 (pu_s dX14_init_4180 rfl) (pu_b dX14_init_4183 rfl) dX14_init_4185 ?_
  refine v_tab (n := 626) (v := 84) ho (by decide) (by decide) dX14_init_4186 (pu_s dX14_init_4187 rfl) (pu_b dX14_init_4190 rfl) dX14_init_4192 ?_
  refine v_tab (n := 627) (v := 70) ho (by decide) (by decide) dX14_init_4193 (pu_s dX14_init_4194 rfl) (pu_b dX14_init_4197 rfl) dX14_init_4199 ?_
  refine v_tab (n := 628) (v := 56) ho (by decide) (by decide) dX14_init_4200 (pu_s dX14_init_4201 rfl) (pu_b dX14_init_4204 rfl) dX14_init_4206 ?_
  refine v_tab (n := 629) (v := 83) ho (by decide) (by decide) dX14_init_4207 (pu_s dX14_init_4208 rfl) (pu_b dX14_init_4211 rfl) dX14_init_4213 ?_
  refine v_tab (n := 630) (v := 116) ho (by decide) (by decide) dX14_init_4214 (pu_s dX14_init_4215 rfl) (pu_b dX14_init_4218 rfl) dX14_init_4220 ?_
  refine v_tab (n := 631) (v := 114) ho (by decide) (by decide) dX14_init_4221 (pu_s dX14_init_4222 rfl) (pu_b dX14_init_4225 rfl) dX14_init_4227 ?_
  refine v_tab (n := 632) (v := 105) ho (by decide) (by decide) dX14_init_4228 (pu_s dX14_init_4229 rfl) (pu_b dX14_init_4232 rfl) dX14_init_4234 ?_
  refine v_tab (n := 633) (v := 110) ho (by decide) (by decide) dX14_init_4235 (pu_s dX14_init_4236 rfl) (pu_b dX14_init_4239 rfl) dX14_init_4241 ?_
  refine v_tab (n := 634) (v := 103) ho (by decide) (by decide) dX14_init_4242 (pu_s dX14_init_4243 rfl) (pu_b dX14_init_4246 rfl) dX14_init_4248 ?_
  refine v_tab (n := 635) (v := 0) ho (by decide) (by decide) dX14_init_4249 (pu_s dX14_init_4250 rfl) (pu_c dX14_init_4253) dX14_init_4254 ?_
  refine v_tab (n := 636) (v := 85) ho (by decide) (by decide) dX14_init_4255 (pu_s dX14_init_4256 rfl) (pu_b dX14_init_4259 rfl) dX14_init_4261 ?_
  refine v_tab (n := 637) (v := 110) ho (by decide) (by decide) dX14_init_4262 (pu_s dX14_init_4263 rfl) (pu_b dX14_init_4266 rfl) dX14_init_4268 ?_
  refine v_tab (n := 638) (v := 105) ho (by decide) (by decide) dX14_init_4269 (pu_s dX14_init_4270 rfl) (pu_b dX14_init_4273 rfl) dX14_init_4275 ?_
  refine v_tab (n := 639) (v := 118) ho (by decide) (by decide) dX14_init_4276 (pu_s dX14_init_4277 rfl) (pu_b dX14_init_4280 rfl) dX14_init_4282 ?_
  exact k
def tb_88_680 : List Int := 103 :: 110 :: 105 :: 114 :: 116 :: 83 :: 101 :: 108 :: 98 :: 105 :: 115 :: 105 :: 86 :: 0 :: 103 :: 110 :: 105 :: 114 :: 116 :: 83 :: 120 :: 101 :: 116 :: 111 :: 101 :: 100 :: 105 :: 86 :: 0 :: 103 :: 110 :: 105 :: 114 :: 116 :: 83 :: 108 :: 97 :: 115 :: 114 :: 101 :: tb_88_640
theorem wt_88_680 {rv : Option vA} {σo : vS} {ret : Option FieldType} {F Lc nL : Nat} {tko : List (Nat × Nat)} {P : vP} {σ : vS} {L : List (Nat × vA)} {st : List vA} (ho : ok P 88 24) (k : VW cX14_init (RX14, rv, σo, ret, F, Lc, nL, tko) P (sA σ 88 (686, tbr 680 tb_88_680)) 4561 L (vO 88 :: st)) : VW cX14_init (RX14, rv, σo, ret, F, Lc, nL, tko) P (sA σ 88 (686, tbr 640 tb_88_640)) 4283 L (vO 88 :: st) := by
  refine v_tab (n := 640) (v := 101) ho (by decide) (by decide) dX14_init_4283 (pu_s dX14_init_4284 rfl) (pu_b dX14_init_4287 rfl) dX14_init_4289 ?_
  refine v_tab (n := 641) (v := 114) ho (by decide) (by decide) dX14_init_4290 (pu_s dX14_init_4291 rfl) (pu_b dX14_init_4294 rfl) dX14_init_4296 ?_
  refine v_tab (n := 642) (v := 115) ho (by decide) (by decide) dX14_init_4297 (pu_s dX14_init_4298 rfl) (pu_b dX14_init_4301 rfl) dX14_init_4303 ?_
  refine v_tab (n := 643) (v := 97) ho (by decide) (by decide) dX14_init_4304 (pu_s dX14_init_4305 rfl) (pu_b dX14_init_4308 rfl) dX14_init_4310 ?_
  refine v_tab (n := 644) (v := 108) ho (by decide) (by decide) dX14_init_4311 (pu_s dX14_init_4312 rfl) (pu_b dX14_init_4315 rfl) dX14_init_4317 ?_
  refine v_tab (n := 645) (v := 83) ho (by decide) (by decide) dX14_init_4318 (pu_s dX14_init_4319 rfl) (pu_b dX14_init_4322 rfl) dX14_init_4324 ?_
  refine v_tab (n := 646) (v := 116) ho (by decide) (by decide) dX14_init_4325 (pu_s dX14_init_4326 rfl) (pu_b dX14_init_4329 rfl) dX14_init_4331 ?_
  refine v_tab (n := 647) (v := 114) ho (by decide) (by decide) dX14_init_4332 (pu_s dX14_init_4333 rfl) (pu_b dX14_init_4336 rfl) dX14_init_4338 ?_
  refine v_tab (n := 648) (v := 105) ho (by decide) (by decide) dX14_init_4339 (pu_s dX14_init_4340 rfl) (pu_b dX14_init_4343 rfl) dX14_init_4345 ?_
  refine v_tab (n := 649) (v := 110) ho (by decide) (by decide) dX14_init_4346 (pu_s dX14_init_4347 rfl) (pu_b dX14_init_4350 rfl) dX14_init_4352 ?_
  refine v_tab (n := 650) (v := 103) ho (by decide) (by decide) dX14_init_4353 (pu_s dX14_init_4354 rfl) (pu_b dX14_init_4357 rfl) dX14_init_4359 ?_
  refine v_tab (n := 651) (v := 0) ho (by decide) (by decide) dX14_init_4360 (pu_s dX14_init_4361 rfl) (pu_c dX14_init_4364) dX14_init_4365 ?_
  refine v_tab (n := 652) (v := 86) ho (by decide) (by decide) dX14_init_4366 (pu_s dX14_init_4367 rfl) (pu_b dX14_init_4370 rfl) dX14_init_4372 ?_
  refine v_tab (n := 653) (v := 105) ho (by decide) (by decide) dX14_init_4373 (pu_s dX14_init_4374 rfl) (pu_b dX14_init_4377 rfl) dX14_init_4379 ?_
  refine v_tab (n := 654) (v := 100) ho (by decide) (by decide) dX14_init_4380 (pu_s dX14_init_4381 rfl) (pu_b dX14_init_4384 rfl) dX14_init_4386 ?_
  refine v_tab (n := 655) (v := 101) ho (by decide) (by decide) dX14_init_4387 (pu_s dX14_init_4388 rfl) (pu_b dX14_init_4391 rfl) dX14_init_4393 ?_
  refine v_tab (n := 656) (v := 111) ho (by decide) (by decide) dX14_init_4394 (pu_s dX14_init_4395 rfl) (pu_b dX14_init_4398 rfl) dX14_init_4400 ?_
  refine v_tab (n := 657) (v := 116) ho (by decide) (by decide) dX14_init_4401 (pu_s dX14_init_4402 rfl) (pu_b dX14_init_4405 rfl) dX14_init_4407 ?_
  refine v_tab (n := 658) (v := 101) ho (by decide) (by decide) dX14_init_4408 (pu_s dX14_init_4409 rfl) (pu_b dX14_init_4412 rfl) dX14_init_4414 ?_
  refine v_tab (n := 659) (v := 120) ho (by decide) (by decide) dX14_init_4415 (pu_s dX14_init_4416 rfl) (pu_b dX14_init_4419 rfl) dX14_init_4421 ?_
  refine v_tab (n := 660) (v := 83) ho (by decide) (by decide) dX14_init_4422 (pu_s dX14_init_4423 rfl) (pu_b dX14_init_4426 rfl) dX14_init_4428 ?_
  refine v_tab (n := 661) (v := 116) ho (by decide) (by decide) dX14_init_4429 (pu_s dX14_init_4430 rfl) (pu_b dX14_init_4433 rfl) dX14_init_4435 ?_
  refine v_tab (n := 662) (v := 114) ho (by decide) (by decide) dX14_init_4436 (pu_s dX14_init_4437 rfl) (pu_b dX14_init_4440 rfl) dX14_init_4442 ?_
  refine v_tab (n := 663) (v := 105) ho (by decide) (by decide) dX14_init_4443 (pu_s dX14_init_4444 rfl) (pu_b dX14_init_4447 rfl) dX14_init_4449 ?_
  refine v_tab (n := 664) (v := 110) ho (by decide) (by decide) dX14_init_4450 (pu_s dX14_init_4451 rfl) (pu_b dX14_init_4454 rfl) dX14_init_4456 ?_
  refine v_tab (n := 665) (v := 103) ho (by decide) (by decide) dX14_init_4457 (pu_s dX14_init_4458 rfl) (pu_b dX14_init_4461 rfl) dX14_init_4463 ?_
  refine v_tab (n := 666) (v := 0) ho (by decide) (by decide) dX14_init_4464 (pu_s dX14_init_4465 rfl) (pu_c dX14_init_4468) dX14_init_4469 ?_
  refine v_tab (n := 667) (v := 86) ho (by decide) (by decide) dX14_init_4470 (pu_s dX14_init_4471 rfl) (pu_b dX14_init_4474 rfl) dX14_init_4476 ?_
  refine v_tab (n := 668) (v := 105) ho (by decide) (by decide) dX14_init_4477 (pu_s dX14_init_4478 rfl) (pu_b dX14_init_4481 rfl) dX14_init_4483 ?_
  refine v_tab (n := 669) (v := 115) ho (by decide) (by decide) dX14_init_4484 (pu_s dX14_init_4485 rfl) (pu_b dX14_init_4488 rfl) dX14_init_4490 ?_
  refine v_tab (n := 670) (v := 105) ho (by decide) (by decide) dX14_init_4491 (pu_s dX14_init_4492 rfl) (pu_b dX14_init_4495 rfl) dX14_init_4497 ?_
  refine v_tab (n := 671) (v := 98) ho (by decide) (by decide) dX14_init_4498 (pu_s dX14_init_4499 rfl) (pu_b dX14_init_4502 rfl) dX14_init_4504 ?_
  refine v_tab (n := 672) (v := 108) ho (by decide) (by decide) dX14_init_4505 (pu_s dX14_init_4506 rfl) (pu_b dX14_init_4509 rfl) dX14_init_4511 ?_
  refine v_tab (n := 673) (v := 101) ho (by decide) (by decide) dX14_init_4512 (pu_s dX14_init_4513 rfl) (pu_b dX14_init_4516 rfl) dX14_init_4518 ?_
  refine v_tab (n := 674) (v := 83) ho (by decide) (by decide) dX14_init_4519 (pu_s dX14_init_4520 rfl) (pu_b dX14_init_4523 rfl) dX14_init_4525 ?_
  refine v_tab (n := 675) (v := 116) ho (by decide) (by decide) dX14_init_4526 (pu_s dX14_init_4527 rfl) (pu_b dX14_init_4530 rfl) dX14_init_4532 ?_
  refine v_tab (n := 676) (v := 114) ho (by decide) (by decide) dX14_init_4533 (pu_s dX14_init_4534 rfl) (pu_b dX14_init_4537 rfl) dX14_init_4539 ?_
  refine v_tab (n := 677) (v := 105) ho (by decide) (by decide) dX14_init_4540 (pu_s dX14_init_4541 rfl) (pu_b dX14_init_4544 rfl) dX14_init_4546 ?_
  refine v_tab (n := 678) (v := 110) ho (by decide) (by decide) dX14_init_4547 (pu_s dX14_init_4548 rfl) (pu_b dX14_init_4551 rfl) dX14_init_4553 ?_
  refine v_tab (n := 679) (v := 103) ho (by decide) (by decide) dX14_init_4554 (pu_s dX14_init_4555 rfl) (pu_b dX14_init_4558 rfl) dX14_init_4560 ?_
  exact k
def tb_88_686 : List Int := 0 :: 72 :: 84 :: 73 :: 87 :: 0 :: tb_88_680
theorem wt_88_686 {rv : Option vA} {σo : vS} {ret : Option FieldType} {F Lc nL : Nat} {tko : List (Nat × Nat)} {P : vP} {σ : vS} {L : List (Nat × vA)} {st : List vA} (ho : ok P 88 24) (k : VW cX14_init (RX14, rv, σo, ret, F, Lc, nL, tko) P (sA σ 88 (686, tbr 686 tb_88_686)) 4601 L (vO 88 :: st)) : VW cX14_init (RX14, rv, σo, ret, F, Lc, nL, tko) P (sA σ 88 (686, tbr 680 tb_88_680)) 4561 L (vO 88 :: st) := by
  refine v_tab (n := 680) (v := 0) ho (by decide) (by decide) dX14_init_4561 (pu_s dX14_init_4562 rfl) (pu_c dX14_init_4565) dX14_init_4566 ?_
  refine v_tab (n := 681) (v := 87) ho (by decide) (by decide) dX14_init_4567 (pu_s dX14_init_4568 rfl) (pu_b dX14_init_4571 rfl) dX14_init_4573 ?_
  refine v_tab (n := 682) (v := 73) ho (by decide) (by decide) dX14_init_4574 (pu_s dX14_init_4575 rfl) (pu_b dX14_init_4578 rfl) dX14_init_4580 ?_
  refine v_tab (n := 683) (v := 84) ho (by decide) (by decide) dX14_init_4581 (pu_s dX14_init_4582 rfl) (pu_b dX14_init_4585 rfl) dX14_init_4587 ?_
  refine v_tab (n := 684) (v := 72) ho (by decide) (by decide) dX14_init_4588 (pu_s dX14_init_4589 rfl) (pu_b dX14_init_4592 rfl) dX14_init_4594 ?_
  refine v_tab (n := 685) (v := 0) ho (by decide) (by decide) dX14_init_4595 (pu_s dX14_init_4596 rfl) (pu_c dX14_init_4599) dX14_init_4600 ?_
  exact k
def tb_89_30 : List Int := 115 :: 114 :: 113 :: 107 :: 104 :: 86 :: 81 :: 71 :: 69 :: 47 :: 91 :: 68 :: 41 :: 108 :: 80 :: 62 :: 77 :: 116 :: 54 :: 98 :: 78 :: 50 :: 59 :: 66 :: 52 :: 42 :: 97 :: 76 :: 64 :: 44 :: []
theorem wt_89_30 {rv : Option vA} {σo : vS} {ret : Option FieldType} {F Lc nL : Nat} {tko : List (Nat × Nat)} {P : vP} {σ : vS} {L : List (Nat × vA)} {st : List vA} (ho : ok P 89 24) (k : VW cX14_init (RX14, rv, σo, ret, F, Lc, nL, tko) P (sA σ 89 (30, tbr 30 tb_89_30)) 4783 L (vO 89 :: st)) : VW cX14_init (RX14, rv, σo, ret, F, Lc, nL, tko) P (sA σ 89 (30, tbr 0 [])) 4609 L (vO 89 :: st) := by
  refine v_tab (n := 0) (v := 44) ho (by decide) (by decide) dX14_init_4609 (pu_c dX14_init_4610) (pu_b dX14_init_4611 rfl) dX14_init_4613 ?_
  refine v_tab (n := 1) (v := 64) ho (by decide) (by decide) dX14_init_4614 (pu_c dX14_init_4615) (pu_b dX14_init_4616 rfl) dX14_init_4618 ?_
  refine v_tab (n := 2) (v := 76) ho (by decide) (by decide) dX14_init_4619 (pu_c dX14_init_4620) (pu_b dX14_init_4621 rfl) dX14_init_4623 ?_
  refine v_tab (n := 3) (v := 97) ho (by decide) (by decide) dX14_init_4624 (pu_c dX14_init_4625) (pu_b dX14_init_4626 rfl) dX14_init_4628 ?_
  refine v_tab (n := 4) (v := 42) ho (by decide) (by decide) dX14_init_4629 (pu_c dX14_init_4630) (pu_b dX14_init_4631 rfl) dX14_init_4633 ?_
  refine v_tab (n := 5) (v := 52) ho (by decide) (by decide) dX14_init_4634 (pu_c dX14_init_4635) (pu_b dX14_init_4636 rfl) dX14_init_4638 ?_
  refine v_tab (n := 6) (v := 66) ho (by decide) (by decide) dX14_init_4639 (pu_b dX14_init_4640 rfl) (pu_b dX14_init_4642 rfl) dX14_init_4644 ?_
  refine v_tab (n := 7) (v := 59) ho (by decide) (by decide) dX14_init_4645 (pu_b dX14_init_4646 rfl) (pu_b dX14_init_4648 rfl) dX14_init_4650 ?_
  refine v_tab (n := 8) (v := 50) ho (by decide) (by decide) dX14_init_4651 (pu_b dX14_init_4652 rfl) (pu_b dX14_init_4654 rfl) dX14_init_4656 ?_
  refine v_tab (n := 9) (v := 78) ho (by decide) (by decide) dX14_init_4657 (pu_b dX14_init_4658 rfl) (pu_b dX14_init_4660 rfl) dX14_init_4662 ?_
  refine v_tab (n := 10) (v := 98) ho (by decide) (by decide) dX14_init_4663 (pu_b dX14_init_4664 rfl) (pu_b dX14_init_4666 rfl) dX14_init_4668 ?_
  refine v_tab (n := 11) (v := 54) ho (by decide) (by decide) dX14_init_4669 (pu_b dX14_init_4670 rfl) (pu_b dX14_init_4672 rfl) dX14_init_4674 ?_
  refine v_tab (n := 12) (v := 116) ho (by decide) (by decide) dX14_init_4675 (pu_b dX14_init_4676 rfl) (pu_b dX14_init_4678 rfl) dX14_init_4680 ?_
  refine v_tab (n := 13) (v := 77) ho (by decide) (by decide) dX14_init_4681 (pu_b dX14_init_4682 rfl) (pu_b dX14_init_4684 rfl) dX14_init_4686 ?_
  refine v_tab (n := 14) (v := 62) ho (by decide) (by decide) dX14_init_4687 (pu_b dX14_init_4688 rfl) (pu_b dX14_init_4690 rfl) dX14_init_4692 ?_
  refine v_tab (n := 15) (v := 80) ho (by decide) (by decide) dX14_init_4693 (pu_b dX14_init_4694 rfl) (pu_b dX14_init_4696 rfl) dX14_init_4698 ?_
  refine v_tab (n := 16) (v := 108) ho (by decide) (by decide) dX14_init_4699 (pu_b dX14_init_4700 rfl) (pu_b dX14_init_4702 rfl) dX14_init_4704 ?_
  refine v_tab (n := 17) (v := 41) ho (by decide) (by decide) dX14_init_4705 (pu_b dX14_init_4706 rfl) (pu_b dX14_init_4708 rfl) dX14_init_4710 ?_
  refine v_tab (n := 18) (v := 68) ho (by decide) (by decide) dX14_init_4711 (pu_b dX14_init_4712 rfl) (pu_b dX14_init_4714 rfl) dX14_init_4716 ?_
  refine v_tab (n := 19) (v := 91) ho (by decide) (by decide) dX14_init_4717 (pu_b dX14_init_4718 rfl) (pu_b dX14_init_4720 rfl) dX14_init_4722 ?_
  refine v_tab (n := 20) (v := 47) ho (by decide) (by decide) dX14_init_4723 (pu_b dX14_init_4724 rfl) (pu_b dX14_init_4726 rfl) dX14_init_4728 ?_
  refine v_tab (n := 21) (v := 69) ho (by decide) (by decide) dX14_init_4729 (pu_b dX14_init_4730 rfl) (pu_b dX14_init_4732 rfl) dX14_init_4734 ?_
  refine v_tab (n := 22) (v := 71) ho (by decide) (by decide) dX14_init_4735 (pu_b dX14_init_4736 rfl) (pu_b dX14_init_4738 rfl) dX14_init_4740 ?_
  refine v_tab (n := 23) (v := 81) ho (by decide) (by decide) dX14_init_4741 (pu_b dX14_init_4742 rfl) (pu_b dX14_init_4744 rfl) dX14_init_4746 ?_
  refine v_tab (n := 24) (v := 86) ho (by decide) (by decide) dX14_init_4747 (pu_b dX14_init_4748 rfl) (pu_b dX14_init_4750 rfl) dX14_init_4752 ?_
  refine v_tab (n := 25) (v := 104) ho (by decide) (by decide) dX14_init_4753 (pu_b dX14_init_4754 rfl) (pu_b dX14_init_4756 rfl) dX14_init_4758 ?_
  refine v_tab (n := 26) (v := 107) ho (by decide) (by decide) dX14_init_4759 (pu_b dX14_init_4760 rfl) (pu_b dX14_init_4762 rfl) dX14_init_4764 ?_
  refine v_tab (n := 27) (v := 113) ho (by decide) (by decide) dX14_init_4765 (pu_b dX14_init_4766 rfl) (pu_b dX14_init_4768 rfl) dX14_init_4770 ?_
  refine v_tab (n := 28) (v := 114) ho (by decide) (by decide) dX14_init_4771 (pu_b dX14_init_4772 rfl) (pu_b dX14_init_4774 rfl) dX14_init_4776 ?_
  refine v_tab (n := 29) (v := 115) ho (by decide) (by decide) dX14_init_4777 (pu_b dX14_init_4778 rfl) (pu_b dX14_init_4780 rfl) dX14_init_4782 ?_
  exact k
def tb_90_17 : List Int := 0 :: 17 :: 16 :: 17 :: 16 :: 24 :: 23 :: 22 :: 19 :: 12 :: 6 :: 4 :: 3 :: 10 :: 2 :: 5 :: 1 :: []
theorem wt_90_17 {rv : Option vA} {σo : vS} {ret : Option FieldType} {F Lc nL : Nat} {tko : List (Nat × Nat)} {P : vP} {σ : vS} {L : List (Nat × vA)} {st : List vA} (ho : ok P 90 24) (k : VW cX14_init (RX14, rv, σo, ret, F, Lc, nL, tko) P (sA σ 90 (17, tbr 17 tb_90_17)) 4881 L (vO 90 :: st)) : VW cX14_init (RX14, rv, σo, ret, F, Lc, nL, tko) P (sA σ 90 (17, tbr 0 [])) 4791 L (vO 90 :: st) := by
  refine v_tab (n := 0) (v := 1) ho (by decide) (by decide) dX14_init_4791 (pu_c dX14_init_4792) (pu_c dX14_init_4793) dX14_init_4794 ?_
  refine v_tab (n := 1) (v := 5) ho (by decide) (by decide) dX14_init_4795 (pu_c dX14_init_4796) (pu_c dX14_init_4797) dX14_init_4798 ?_
  refine v_tab (n := 2) (v := 2) ho (by decide) (by decide) dX14_init_4799 (pu_c dX14_init_4800) (pu_c dX14_init_4801) dX14_init_4802 ?_
  refine v_tab (n := 3) (v := 10) ho (by decide) (by decide) dX14_init_4803 (pu_c dX14_init_4804) (pu_b dX14_init_4805 rfl) dX14_init_4807 ?_
  refine v_tab (n := 4) (v := 3) ho (by decide) (by decide) dX14_init_4808 (pu_c dX14_init_4809) (pu_c dX14_init_4810) dX14_init_4811 ?_
  refine v_tab (n := 5) (v := 4) ho (by decide) (by decide) dX14_init_4812 (pu_c dX14_init_4813) (pu_c dX14_init_4814) dX14_init_4815 ?_
  refine v_tab (n := 6) (v := 6) ho (by decide) (by decide) dX14_init_4816 (pu_b dX14_init_4817 rfl) (pu_b dX14_init_4819 rfl) dX14_init_4821 ?_
  refine v_tab (n := 7) (v := 12) ho (by decide) (by decide) dX14_init_4822 (pu_b dX14_init_4823 rfl) (pu_b dX14_init_4825 rfl) dX14_init_4827 ?_
  refine v_tab (n := 8) (v := 19) ho (by decide) (by decide) dX14_init_4828 (pu_b dX14_init_4829 rfl) (pu_b dX14_init_4831 rfl) dX14_init_4833 ?_
  refine v_tab (n := 9) (v := 22) ho (by decide) (by decide) dX14_init_4834 (pu_b dX14_init_4835 rfl) (pu_b dX14_init_4837 rfl) dX14_init_4839 ?_
  refine v_tab (n := 10) (v := 23) ho (by decide) (by decide) dX14_init_4840 (pu_b dX14_init_4841 rfl) (pu_b dX14_init_4843 rfl) dX14_init_4845 ?_
  refine v_tab (n := 11) (v := 24) ho (by decide) (by decide) dX14_init_4846 (pu_b dX14_init_4847 rfl) (pu_b dX14_init_4849 rfl) dX14_init_4851 ?_
  refine v_tab (n := 12) (v := 16) ho (by decide) (by decide) dX14_init_4852 (pu_b dX14_init_4853 rfl) (pu_b dX14_init_4855 rfl) dX14_init_4857 ?_
  refine v_tab (n := 13) (v := 17) ho (by decide) (by decide) dX14_init_4858 (pu_b dX14_init_4859 rfl) (pu_b dX14_init_4861 rfl) dX14_init_4863 ?_
  refine v_tab (n := 14) (v := 16) ho (by decide) (by decide) dX14_init_4864 (pu_b dX14_init_4865 rfl) (pu_b dX14_init_4867 rfl) dX14_init_4869 ?_
  refine v_tab (n := 15) (v := 17) ho (by decide) (by decide) dX14_init_4870 (pu_b dX14_init_4871 rfl) (pu_b dX14_init_4873 rfl) dX14_init_4875 ?_
  refine v_tab (n := 16) (v := 0) ho (by decide) (by decide) dX14_init_4876 (pu_b dX14_init_4877 rfl) (pu_c dX14_init_4879) dX14_init_4880 ?_
  exact k
def tb_163_40 : List Int := 115 :: 105 :: 45 :: 116 :: 110 :: 105 :: 111 :: 106 :: 0 :: 116 :: 45 :: 117 :: 116 :: 105 :: 45 :: 111 :: 115 :: 105 :: 45 :: 116 :: 110 :: 105 :: 111 :: 106 :: 0 :: 111 :: 115 :: 105 :: 0 :: 116 :: 116 :: 105 :: 99 :: 99 :: 0 :: 116 :: 45 :: 117 :: 116 :: 105 :: []
theorem wt_163_40 {rv : Option vA} {σo : vS} {ret : Option FieldType} {F Lc nL : Nat} {tko : List (Nat × Nat)} {P : vP} {σ : vS} {L : List (Nat × vA)} {st : List vA} (ho : ok P 163 24) (k : VW cX14_init (RX14, rv, σo, ret, F, Lc, nL, tko) P (sA σ 163 (48, tbr 40 tb_163_40)) 5646 L (vO 163 :: st)) : VW cX14_init (RX14, rv, σo, ret, F, Lc, nL, tko) P (sA σ 163 (48, tbr 0 [])) 5416 L (vO 163 :: st) := by
  refine v_tab (n := 0) (v := 105) ho (by decide) (by decide) dX14_init_5416 (pu_c dX14_init_5417) (pu_b dX14_init_5418 rfl) dX14_init_5420 ?_
  refine v_tab (n := 1) (v := 116) ho (by decide) (by decide) dX14_init_5421 (pu_c dX14_init_5422) (pu_b dX14_init_5423 rfl) dX14_init_5425 ?_
  refine v_tab (n := 2) (v := 117) ho (by decide) (by decide) dX14_init_5426 (pu_c dX14_init_5427) (pu_b dX14_init_5428 rfl) dX14_init_5430 ?_
  refine v_tab (n := 3) (v := 45) ho (by decide) (by decide) dX14_init_5431 (pu_c dX14_init_5432) (pu_b dX14_init_5433 rfl) dX14_init_5435 ?_
  refine v_tab (n := 4) (v := 116) ho (by decide) (by decide) dX14_init_5436 (pu_c dX14_init_5437) (pu_b dX14_init_5438 rfl) dX14_init_5440 ?_
  refine v_tab (n := 5) (v := 0) ho (by decide) (by decide) dX14_init_5441 (pu_c dX14_init_5442) (pu_c dX14_init_5443) dX14_init_5444 ?_
  refine v_tab (n := 6) (v := 99) ho (by decide) (by decide) dX14_init_5445 (pu_b dX14_init_5446 rfl) (pu_b dX14_init_5448 rfl) dX14_init_5450 ?_
  refine v_tab (n := 7) (v := 99) ho (by decide) (by decide) dX14_init_5451 (pu_b dX14_init_5452 rfl) (pu_b dX14_init_5454 rfl) dX14_init_5456 ?_
  refine v_tab (n := 8) (v := 105) ho (by decide) (by decide) dX14_init_5457 (pu_b dX14_init_5458 rfl) (pu_b dX14_init_5460 rfl) dX14_init_5462 ?_
  refine v_tab (n := 9) (v := 116) ho (by decide) (by decide) dX14_init_5463 (pu_b dX14_init_5464 rfl) (pu_b dX14_init_5466 rfl) dX14_init_5468 ?_
  refine v_tab (n := 10) (v := 116) ho (by decide) (by decide) dX14_init_5469 (pu_b dX14_init_5470 rfl) (pu_b dX14_init_5472 rfl) dX14_init_5474 ?_
  refine v_tab (n := 11) (v := 0) ho (by decide) (by decide) dX14_init_5475 (pu_b dX14_init_5476 rfl) (pu_c dX14_init_5478) dX14_init_5479 ?_
  refine v_tab (n := 12) (v := 105) ho (by decide) (by decide) dX14_init_5480 (pu_b dX14_init_5481 rfl) (pu_b dX14_init_5483 rfl) dX14_init_5485 ?_
  refine v_tab (n := 13) (v := 115) ho (by decide) (by decide) dX14_init_5486 (pu_b dX14_init_5487 rfl) (pu_b dX14_init_5489 rfl) dX14_init_5491 ?_
  refine v_tab (n := 14) (v := 111) ho (by decide) (by decide) dX14_init_5492 (pu_b dX14_init_5493 rfl) (pu_b dX14_init_5495 rfl) dX14_init_5497 ?_
  refine v_tab (n := 15) (v := 0) ho (by decide) (by decide) dX14_init_5498 (pu_b dX14_init_5499 rfl) (pu_c dX14_init_5501) dX14_init_5502 ?_
  refine v_tab (n := 16) (v := 106) ho (by decide) (by decide) dX14_init_5503 (pu_b dX14_init_5504 rfl) (pu_b dX14_init_5506 rfl) dX14_init_5508 ?_
  refine v_tab (n := 17) (v := 111) ho (by decide) (by decide) dX14_init_5509 (pu_b dX14_init_5510 rfl) (pu_b dX14_init_5512 rfl) dX14_init_5514 ?_
  refine v_tab (n := 18) (v := 105) ho (by decide) (by decide) dX14_init_5515 (pu_b dX14_init_5516 rfl) (pu_b dX14_init_5518 rfl) dX14_init_5520 ?_
  refine v_tab (n := 19) (v := 110) ho (by decide) (by decide) dX14_init_5521 (pu_b dX14_init_5522 rfl) (pu_b dX14_init_5524 rfl) dX14_init_5526 ?_
  refine v_tab (n := 20) (v := 116) ho (by decide) (by decide) dX14_init_5527 (pu_b dX14_init_5528 rfl) (pu_b dX14_init_5530 rfl) dX14_init_5532 ?_
  refine v_tab (n := 21) (v := 45) ho (by decide) (by decide) dX14_init_5533 (pu_b dX14_init_5534 rfl) (pu_b dX14_init_5536 rfl) dX14_init_5538 ?_
  refine v_tab (n := 22) (v := 105) ho (by decide) (by decide) dX14_init_5539 (pu_b dX14_init_5540 rfl) (pu_b dX14_init_5542 rfl) dX14_init_5544 ?_
  refine v_tab (n := 23) (v := 115) ho (by decide) (by decide) dX14_init_5545 (pu_b dX14_init_5546 rfl) (pu_b dX14_init_5548 rfl) dX14_init_5550 ?_
  refine v_tab (n := 24) (v := 111) ho (by decide) (by decide) dX14_init_5551 (pu_b dX14_init_5552 rfl) (pu_b dX14_init_5554 rfl) dX14_init_5556 ?_
  refine v_tab (n := 25) (v := 45) ho (by decide) (by decide) dX14_init_5557 (pu_b dX14_init_5558 rfl) (pu_b dX14_init_5560 rfl) dX14_init_5562 ?_
  refine v_tab (n := 26) (v := 105) ho (by decide) (by decide) dX14_init_5563 (pu_b dX14_init_5564 rfl) (pu_b dX14_init_5566 rfl) dX14_init_5568 ?_
  refine v_tab (n := 27) (v := 116) ho (by decide) (by decide) dX14_init_5569 (pu_b dX14_init_5570 rfl) (pu_b dX14_init_5572 rfl) dX14_init_5574 ?_
  refine v_tab (n := 28) (v := 117) ho (by decide) (by decide) dX14_init_5575 (pu_b dX14_init_5576 rfl) (pu_b dX14_init_5578 rfl) dX14_init_5580 ?_
  refine v_tab (n := 29) (v := 45) ho (by decide) (by decide) dX14_init_5581 (pu_b dX14_init_5582 rfl) (pu_b dX14_init_5584 rfl) dX14_init_5586 ?_
  refine v_tab (n := 30) (v := 116) ho (by decide) (by decide) dX14_init_5587 (pu_b dX14_init_5588 rfl) (pu_b dX14_init_5590 rfl) dX14_init_5592 ?_
  refine v_tab (n := 31) (v := 0) ho (by decide) (by decide) dX14_init_5593 (pu_b dX14_init_5594 rfl) (pu_c dX14_init_5596) dX14_init_5597 ?_
  refine v_tab (n := 32) (v := 106) ho (by decide) (by decide) dX14_init_5598 (pu_b dX14_init_5599 rfl) (pu_b dX14_init_5601 rfl) dX14_init_5603 ?_
  refine v_tab (n := 33) (v := 111) ho (by decide) (by decide) dX14_init_5604 (pu_b dX14_init_5605 rfl) (pu_b dX14_init_5607 rfl) dX14_init_5609 ?_
  refine v_tab (n := 34) (v := 105) ho (by decide) (by decide) dX14_init_5610 (pu_b dX14_init_5611 rfl) (pu_b dX14_init_5613 rfl) dX14_init_5615 ?_
  refine v_tab (n := 35) (v := 110) ho (by decide) (by decide) dX14_init_5616 (pu_b dX14_init_5617 rfl) (pu_b dX14_init_5619 rfl) dX14_init_5621 ?_
  refine v_tab (n := 36) (v := 116) ho (by decide) (by decide) dX14_init_5622 (pu_b dX14_init_5623 rfl) (pu_b dX14_init_5625 rfl) dX14_init_5627 ?_
  refine v_tab (n := 37) (v := 45) ho (by decide) (by decide) dX14_init_5628 (pu_b dX14_init_5629 rfl) (pu_b dX14_init_5631 rfl) dX14_init_5633 ?_
  refine v_tab (n := 38) (v := 105) ho (by decide) (by decide) dX14_init_5634 (pu_b dX14_init_5635 rfl) (pu_b dX14_init_5637 rfl) dX14_init_5639 ?_
  refine v_tab (n := 39) (v := 115) ho (by decide) (by decide) dX14_init_5640 (pu_b dX14_init_5641 rfl) (pu_b dX14_init_5643 rfl) dX14_init_5645 ?_
  exact k
def tb_163_48 : List Int := 0 :: 116 :: 116 :: 105 :: 99 :: 99 :: 45 :: 111 :: tb_163_40
theorem wt_163_48 {rv : Option vA} {σo : vS} {ret : Option FieldType} {F Lc nL : Nat} {tko : List (Nat × Nat)} {P : vP} {σ : vS} {L : List (Nat × vA)} {st : List vA} (ho : ok P 163 24) (k : VW cX14_init (RX14, rv, σo, ret, F, Lc, nL, tko) P (sA σ 163 (48, tbr 48 tb_163_48)) 5693 L (vO 163 :: st)) : VW cX14_init (RX14, rv, σo, ret, F, Lc, nL, tko) P (sA σ 163 (48, tbr 40 tb_163_40)) 5646 L (vO 163 :: st) := by
  refine v_tab (n := 40) (v := 111) ho (by decide) (by decide) dX14_init_5646 (pu_b dX14_init_5647 rfl) (pu_b dX14_init_5649 rfl) dX14_init_5651 ?_
  refine v_tab (n := 41) (v := 45) ho (by decide) (by decide) dX14_init_5652 (pu_b dX14_init_5653 rfl) (pu_b dX14_init_5655 rfl) dX14_init_5657 ?_
  refine v_tab (n := 42) (v := 99) ho (by decide) (by decide) dX14_init_5658 (pu_b dX14_init_5659 rfl) (pu_b dX14_init_5661 rfl) dX14_init_5663 ?_
  refine v_tab (n := 43) (v := 99) ho (by decide) (by decide) dX14_init_5664 (pu_b dX14_init_5665 rfl) (pu_b dX14_init_5667 rfl) dX14_init_5669 ?_
  refine v_tab (n := 44) (v := 105) ho (by decide) (by decide) dX14_init_5670 (pu_b dX14_init_5671 rfl) (pu_b dX14_init_5673 rfl) dX14_init_5675 ?_
  refine v_tab (n := 45) (v := 116) ho (by decide) (by decide) dX14_init_5676 (pu_b dX14_init_5677 rfl) (pu_b dX14_init_5679 rfl) dX14_init_5681 ?_
  refine v_tab (n := 46) (v := 116) ho (by decide) (by decide) dX14_init_5682 (pu_b dX14_init_5683 rfl) (pu_b dX14_init_5685 rfl) dX14_init_5687 ?_
  refine v_tab (n := 47) (v := 0) ho (by decide) (by decide) dX14_init_5688 (pu_b dX14_init_5689 rfl) (pu_c dX14_init_5691) dX14_init_5692 ?_
  exact k
def tb_164_5 : List Int := 2 :: 2 :: 1 :: 0 :: 0 :: []
theorem wt_164_5 {rv : Option vA} {σo : vS} {ret : Option FieldType} {F Lc nL : Nat} {tko : List (Nat × Nat)} {P : vP} {σ : vS} {L : List (Nat × vA)} {st : List vA} (ho : ok P 164 24) (k : VW cX14_init (RX14, rv, σo, ret, F, Lc, nL, tko) P (sA σ 164 (5, tbr 5 tb_164_5)) 5720 L (vO 164 :: st)) : VW cX14_init (RX14, rv, σo, ret, F, Lc, nL, tko) P (sA σ 164 (5, tbr 0 [])) 5700 L (vO 164 :: st) := by
  refine v_tab (n := 0) (v := 0) ho (by decide) (by decide) dX14_init_5700 (pu_c dX14_init_5701) (pu_c dX14_init_5702) dX14_init_5703 ?_
  refine v_tab (n := 1) (v := 0) ho (by decide) (by decide) dX14_init_5704 (pu_c dX14_init_5705) (pu_c dX14_init_5706) dX14_init_5707 ?_
  refine v_tab (n := 2) (v := 1) ho (by decide) (by decide) dX14_init_5708 (pu_c dX14_init_5709) (pu_c dX14_init_5710) dX14_init_5711 ?_
  refine v_tab (n := 3) (v := 2) ho (by decide) (by decide) dX14_init_5712 (pu_c dX14_init_5713) (pu_c dX14_init_5714) dX14_init_5715 ?_
  refine v_tab (n := 4) (v := 2) ho (by decide) (by decide) dX14_init_5716 (pu_c dX14_init_5717) (pu_c dX14_init_5718) dX14_init_5719 ?_
  exact k
def i_87 (σ : vS) : vS := bmp (sA (sA (sA (sA (sA (sA (sA (sA (sA (sA (sA (sA (sA (sA (sA (sA (sA (sA (sA (sA (sA (sA (sA (sA (sA (sA (sA (sA (sA (sI (sA (sA (sA (sA (sA (sA (sA (sA (sA (sA (sA (sA (sA (sA (sA (sA (sA (sA (sA (sA (sA (sA (sA (sA (sA (sA (sA (sA (sA (sA (sA (sA (sA (sA (sA (sA (sA (sA (sA (sA (sA (sA (sA (sA (sA (sA (sA (sA (sA (sA (sA (sA (sA (sA (sA (sA (sA (sA (sA (sA (sA (sA (sA (sA (sA (sA (sA (sA (sA (sA (sA (sA (sA (sA (sA (sA (sA (sI (sA (sA (sA (sA (σ) 88 (686, tbr 686 tb_88_686)) 89 (30, tbr 30 tb_89_30)) 90 (17, tbr 17 tb_90_17)) 91 (32800, fun _ => 0)) 87 6 64) 92 (0, fun _ => 0)) 93 (32800, fun _ => 0)) 94 (0, fun _ => 0)) 95 (0, fun _ => 0)) 96 (0, fun _ => 0)) 97 (0, fun _ => 0)) 98 (0, fun _ => 0)) 99 (0, fun _ => 0)) 100 (0, fun _ => 0)) 101 (0, fun _ => 0)) 102 (0, fun _ => 0)) 103 (0, fun _ => 0)) 104 (0, fun _ => 0)) 105 (0, fun _ => 0)) 106 (0, fun _ => 0)) 107 (0, fun _ => 0)) 108 (0, fun _ => 0)) 109 (0, fun _ => 0)) 110 (0, fun _ => 0)) 111 (0, fun _ => 0)) 112 (0, fun _ => 0)) 113 (0, fun _ => 0)) 114 (0, fun _ => 0)) 115 (0, fun _ => 0)) 116 (0, fun _ => 0)) 117 (0, fun _ => 0)) 118 (0, fun _ => 0)) 119 (0, fun _ => 0)) 120 (0, fun _ => 0)) 121 (0, fun _ => 0)) 122 (0, fun _ => 0)) 123 (0, fun _ => 0)) 124 (0, fun _ => 0)) 125 (0, fun _ => 0)) 126 (0, fun _ => 0)) 127 (0, fun _ => 0)) 128 (0, fun _ => 0)) 129 (0, fun _ => 0)) 130 (0, fun _ => 0)) 131 (0, fun _ => 0)) 132 (0, fun _ => 0)) 133 (0, fun _ => 0)) 134 (0, fun _ => 0)) 135 (0, fun _ => 0)) 136 (0, fun _ => 0)) 137 (0, fun _ => 0)) 138 (0, fun _ => 0)) 139 (0, fun _ => 0)) 140 (0, fun _ => 0)) 141 (0, fun _ => 0)) 142 (0, fun _ => 0)) 143 (0, fun _ => 0)) 144 (0, fun _ => 0)) 145 (104, fun _ => 0)) 146 (104, fun _ => 0)) 147 (64, fun _ => 0)) 148 (64, fun _ => 0)) 149 (1024, fun _ => 0)) 150 (0, fun _ => 0)) 151 (0, fun _ => 0)) 152 (1024, fun _ => 0)) 153 (4096, fun _ => 0)) 154 (0, fun _ => 0)) 155 (0, fun _ => 0)) 156 (0, fun _ => 0)) 157 (0, fun _ => 0)) 158 (64, fun _ => 0)) 159 (0, fun _ => 0)) 160 (0, fun _ => 0)) 161 (1024, fun _ => 0)) 162 (4096, fun _ => 0)) 163 (48, tbr 48 tb_163_48)) 164 (5, tbr 5 tb_164_5)) 165 (1024, fun _ => 0)) 166 (0, fun _ => 0)) 167 (0, fun _ => 0)) 168 (0, fun _ => 0)) 87 116 (-1)) 169 (65, fun _ => 0)) 170 (256, fun _ => 0)) 171 (32800, fun _ => 0)) 172 (0, fun _ => 0)) 173 (0, fun _ => 0)) 174 (0, fun _ => 0)) 175 (0, fun _ => 0)) 176 (0, fun _ => 0)) 177 (0, fun _ => 0)) 178 (0, fun _ => 0)) 179 (0, fun _ => 0)) 180 (0, fun _ => 0)) 181 (0, fun _ => 0)) 182 (0, fun _ => 0)) 183 (4096, fun _ => 0)) 184 (4096, fun _ => 0)) 185 (16, fun _ => 0)) 186 (0, fun _ => 0)) 187 (0, fun _ => 0)) 188 (0, fun _ => 0)) 189 (0, fun _ => 0)) 190 (0, fun _ => 0)) 191 (0, fun _ => 0)) 192 (0, fun _ => 0)) 193 (0, fun _ => 0)) 194 (0, fun _ => 0)) 195 (0, fun _ => 0)) 196 (0, fun _ => 0)) 197 (0, fun _ => 0))
def e_87 (E : Nat → Nat → Bool) : Nat → Nat → Bool := eS (eS (eS (eS (eS (eS (eS (eS (eS (eS (eS (eS (eS (eS (eS (eS (eS (eS (eS (eS (eS (eS (eS (eS (eS (eS (eS (eS (eS (eS (eS (eS (eS (eS (eS (eS (eS (eS (eS (eS (eS (eS (eS (eS (eS (eS (eS (eS (eS (eS (eS (eS (eS (eS (eS (eS (eS (eS (eS (eS (eS (eS (eS (eS (eS (eS (eS (eS (eS (eS (eS (eS (eS (eS (eS (eS (eS (eS (eS (eS (eS (eS (eS (eS (eS (eS (eS (eS (eS (eS (eS (eS (eS (eS (eS (eS (eS (eS (eS (eS (eS (eS (eS (eS (eS (eS (eS (eS (eS (eS (E) 87 0) 87 1) 87 2) 87 5) 87 12) 87 14) 87 16) 87 17) 87 18) 87 21) 87 22) 87 23) 87 24) 87 25) 87 26) 87 27) 87 28) 87 29) 87 30) 87 31) 87 33) 87 34) 87 35) 87 36) 87 38) 87 39) 87 40) 87 41) 87 43) 87 44) 87 45) 87 46) 87 47) 87 49) 87 50) 87 51) 87 52) 87 53) 87 55) 87 56) 87 57) 87 58) 87 59) 87 60) 87 62) 87 63) 87 64) 87 65) 87 66) 87 67) 87 68) 87 70) 87 71) 87 73) 87 74) 87 75) 87 77) 87 80) 87 81) 87 86) 87 87) 87 88) 87 89) 87 90) 87 91) 87 92) 87 93) 87 95) 87 96) 87 98) 87 100) 87 102) 87 103) 87 106) 87 108) 87 109) 87 110) 87 112) 87 113) 87 114) 87 115) 87 117) 87 126) 87 128) 87 130) 87 131) 87 132) 87 133) 87 134) 87 135) 87 136) 87 137) 87 138) 87 139) 87 140) 87 145) 87 146) 87 148) 87 150) 87 151) 87 152) 87 153) 87 154) 87 155) 87 156) 87 157) 87 159) 87 160) 87 161) 87 162
theorem zz_87 {σ : vS} {E : Nat → Nat → Bool} (hz : Zr 88 E σ) : Zr 198 (e_87 E) (i_87 σ) := by
  have z1 := Zr_sA (σ := σ) (c := 88) (x := (686, tbr 686 tb_88_686)) (Zr_new hz (by decide)) (by decide)
  have z2 := Zr_eS (o := 87) (f := 0) (t := 88) z1 (by decide) rfl (by decide)
  have z3 := Zr_sA (σ := sA (σ) 88 (686, tbr 686 tb_88_686)) (c := 89) (x := (30, tbr 30 tb_89_30)) (Zr_new z2 (by decide)) (by decide)
  have z4 := Zr_eS (o := 87) (f := 1) (t := 89) z3 (by decide) rfl (by decide)
  have z5 := Zr_sA (σ := sA (sA (σ) 88 (686, tbr 686 tb_88_686)) 89 (30, tbr 30 tb_89_30)) (c := 90) (x := (17, tbr 17 tb_90_17)) (Zr_new z4 (by decide)) (by decide)
  have z6 := Zr_eS (o := 87) (f := 2) (t := 90) z5 (by decide) rfl (by decide)
  have z7 := Zr_sA (c := 91) (x := (32800, fun _ => 0)) (Zr_new z6 (by decide)) (by decide)
  have z8 := Zr_eS (o := 87) (f := 5) (t := 91) z7 (by decide) rfl (by decide)
  have z9 := Zr_sI (c := 87) (f := 6) (x := 64) z8 (by decide)
  have z10 := Zr_sA (c := 92) (x := (0, fun _ => 0)) (Zr_new z9 (by decide)) (by decide)
  have z11 := Zr_eS (o := 87) (f := 12) (t := 92) z10 (by decide) rfl (by decide)
  have z12 := Zr_sA (c := 93) (x := (32800, fun _ => 0)) (Zr_new z11 (by decide)) (by decide)
  have z13 := Zr_eS (o := 87) (f := 14) (t := 93) z12 (by decide) rfl (by decide)
  have z14 := Zr_sA (c := 94) (x := (0, fun _ => 0)) (Zr_new z13 (by decide)) (by decide)
  have z15 := Zr_eS (o := 87) (f := 16) (t := 94) z14 (by decide) rfl (by decide)
  have z16 := Zr_sA (c := 95) (x := (0, fun _ => 0)) (Zr_new z15 (by decide)) (by decide)
  have z17 := Zr_eS (o := 87) (f := 17) (t := 95) z16 (by decide) rfl (by decide)
  have z18 := Zr_sA (c := 96) (x := (0, fun _ => 0)) (Zr_new z17 (by decide)) (by decide)
  have z19 := Zr_eS (o := 87) (f := 18) (t := 96) z18 (by decide) rfl (by decide)
  have z20 := Zr_sA (c := 97) (x := (0, fun _ => 0)) (Zr_new z19 (by decide)) (by decide)
  have z21 := Zr_eS (o := 87) (f := 21) (t := 97) z20 (by decide) rfl (by decide)
  have z22 := Zr_sA (c := 98) (x := (0, fun _ => 0)) (Zr_new z21 (by decide)) (by decide)
  have z23 := Zr_eS (o := 87) (f := 22) (t := 98) z22 (by decide) rfl (by decide)
  have z24 := Zr_sA (c := 99) (x := (0, fun _ => 0)) (Zr_new z23 (by decide)) (by decide)
  have z25 := Zr_eS (o := 87) (f := 23) (t := 99) z24 (by decide) rfl (by decide)
  have z26 := Zr_sA (c := 100) (x := (0, fun _ => 0)) (Zr_new z25 (by decide)) (by decide)
  have z27 := Zr_eS (o := 87) (f := 24) (t := 100) z26 (by decide) rfl (by decide)
  have z28 := Zr_sA (c := 101) (x := (0, fun _ => 0)) (Zr_new z27 (by decide)) (by decide)
  have z29 := Zr_eS (o := 87) (f := 25) (t := 101) z28 (by decide) rfl (by decide)
  have z30 := Zr_sA (c := 102) (x := (0, fun _ => 0)) (Zr_new z29 (by decide)) (by decide)
  have z31 := Zr_eS (o := 87) (f := 26) (t := 102) z30 (by decide) rfl (by decide)
  have z32 := Zr_sA (c := 103) (x := (0, fun _ => 0)) (Zr_new z31 (by decide)) (by decide)
  have z33 := Zr_eS (o := 87) (f := 27) (t := 103) z32 (by decide) rfl (by decide)
  have z34 := Zr_sA (c := 104) (x := (0, fun _ => 0)) (Zr_new z33 (by decide)) (by decide)
  have z35 := Zr_eS (o := 87) (f := 28) (t := 104) z34 (by decide) rfl (by decide)
  have z36 := Zr_sA (c := 105) (x := (0, fun _ => 0)) (Zr_new z35 (by decide)) (by decide)
  have z37 := Zr_eS (o := 87) (f := 29) (t := 105) z36 (by decide) rfl (by decide)
  have z38 := Zr_sA (c := 106) (x := (0, fun _ => 0)) (Zr_new z37 (by decide)) (by decide)
  have z39 := Zr_eS (o := 87) (f := 30) (t := 106) z38 (by decide) rfl (by decide)
  have z40 := Zr_sA (c := 107) (x := (0, fun _ => 0)) (Zr_new z39 (by decide)) (by decide)
  have z41 := Zr_eS (o := 87) (f := 31) (t := 107) z40 (by decide) rfl (by decide)
  have z42 := Zr_sA (c := 108) (x := (0, fun _ => 0)) (Zr_new z41 (by decide)) (by decide)
  have z43 := Zr_eS (o := 87) (f := 33) (t := 108) z42 (by decide) rfl (by decide)
  have z44 := Zr_sA (c := 109) (x := (0, fun _ => 0)) (Zr_new z43 (by decide)) (by decide)
  have z45 := Zr_eS (o := 87) (f := 34) (t := 109) z44 (by decide) rfl (by decide)
  have z46 := Zr_sA (c := 110) (x := (0, fun _ => 0)) (Zr_new z45 (by decide)) (by decide)
  have z47 := Zr_eS (o := 87) (f := 35) (t := 110) z46 (by decide) rfl (by decide)
  have z48 := Zr_sA (c := 111) (x := (0, fun _ => 0)) (Zr_new z47 (by decide)) (by decide)
  have z49 := Zr_eS (o := 87) (f := 36) (t := 111) z48 (by decide) rfl (by decide)
  have z50 := Zr_sA (c := 112) (x := (0, fun _ => 0)) (Zr_new z49 (by decide)) (by decide)
  have z51 := Zr_eS (o := 87) (f := 38) (t := 112) z50 (by decide) rfl (by decide)
  have z52 := Zr_sA (c := 113) (x := (0, fun _ => 0)) (Zr_new z51 (by decide)) (by decide)
  have z53 := Zr_eS (o := 87) (f := 39) (t := 113) z52 (by decide) rfl (by decide)
  have z54 := Zr_sA (c := 114) (x := (0, fun _ => 0)) (Zr_new z53 (by decide)) (by decide)
  have z55 := Zr_eS (o := 87) (f := 40) (t := 114) z54 (by decide) rfl (by decide)
  have z56 := Zr_sA (c := 115) (x := (0, fun _ => 0)) (Zr_new z55 (by decide)) (by decide)
  have z57 := Zr_eS (o := 87) (f := 41) (t := 115) z56 (by decide) rfl (by decide)
  have z58 := Zr_sA (c := 116) (x := (0, fun _ => 0)) (Zr_new z57 (by decide)) (by decide)
  have z59 := Zr_eS (o := 87) (f := 43) (t := 116) z58 (by decide) rfl (by decide)
  have z60 := Zr_sA (c := 117) (x := (0, fun _ => 0)) (Zr_new z59 (by decide)) (by decide)
  have z61 := Zr_eS (o := 87) (f := 44) (t := 117) z60 (by decide) rfl (by decide)
  have z62 := Zr_sA (c := 118) (x := (0, fun _ => 0)) (Zr_new z61 (by decide)) (by decide)
  have z63 := Zr_eS (o := 87) (f := 45) (t := 118) z62 (by decide) rfl (by decide)
  have z64 := Zr_sA (c := 119) (x := (0, fun _ => 0)) (Zr_new z63 (by decide)) (by decide)
  have z65 := Zr_eS (o := 87) (f := 46) (t := 119) z64 (by decide) rfl (by decide)
  have z66 := Zr_sA (c := 120) (x := (0, fun _ => 0)) (Zr_new z65 (by decide)) (by decide)
  have z67 := Zr_eS (o := 87) (f := 47) (t := 120) z66 (by decide) rfl (by decide)
  have z68 := Zr_sA (c := 121) (x := (0, fun _ => 0)) (Zr_new z67 (by decide)) (by decide)
  have z69 := Zr_eS (o := 87) (f := 49) (t := 121) z68 (by decide) rfl (by decide)
  have z70 := Zr_sA (c := 122) (x := (0, fun _ => 0)) (Zr_new z69 (by decide)) (by decide)
  have z71 := Zr_eS (o := 87) (f := 50) (t := 122) z70 (by decide) rfl (by decide)
  have z72 := Zr_sA (c := 123) (x := (0, fun _ => 0)) (Zr_new z71 (by decide)) (by decide)
  have z73 := Zr_eS (o := 87) (f := 51) (t := 123) z72 (by decide) rfl (by decide)
  have z74 := Zr_sA (c := 124) (x := (0, fun _ => 0)) (Zr_new z73 (by decide)) (by decide)
  have z75 := Zr_eS (o := 87) (f := 52) (t := 124) z74 (by decide) rfl (by decide)
  have z76 := Zr_sA (c := 125) (x := (0, fun _ => 0)) (Zr_new z75 (by decide)) (by decide)
  have z77 := Zr_eS (o := 87) (f := 53) (t := 125) z76 (by decide) rfl (by decide)
  have z78 := Zr_sA (c := 126) (x := (0, fun _ => 0)) (Zr_new z77 (by decide)) (by decide)
  have z79 := Zr_eS (o := 87) (f := 55) (t := 126) z78 (by decide) rfl (by decide)
  have z80 := Zr_sA (c := 127) (x := (0, fun _ => 0)) (Zr_new z79 (by decide)) (by decide)
  have z81 := Zr_eS (o := 87) (f := 56) (t := 127) z80 (by decide) rfl (by decide)
  have z82 := Zr_sA (c := 128) (x := (0, fun _ => 0)) (Zr_new z81 (by decide)) (by decide)
  have z83 := Zr_eS (o := 87) (f := 57) (t := 128) z82 (by decide) rfl (by decide)
  have z84 := Zr_sA (c := 129) (x := (0, fun _ => 0)) (Zr_new z83 (by decide)) (by decide)
  have z85 := Zr_eS (o := 87) (f := 58) (t := 129) z84 (by decide) rfl (by decide)
  have z86 := Zr_sA (c := 130) (x := (0, fun _ => 0)) (Zr_new z85 (by decide)) (by decide)
  have z87 := Zr_eS (o := 87) (f := 59) (t := 130) z86 (by decide) rfl (by decide)
  have z88 := Zr_sA (c := 131) (x := (0, fun _ => 0)) (Zr_new z87 (by decide)) (by decide)
  have z89 := Zr_eS (o := 87) (f := 60) (t := 131) z88 (by decide) rfl (by decide)
  have z90 := Zr_sA (c := 132) (x := (0, fun _ => 0)) (Zr_new z89 (by decide)) (by decide)
  have z91 := Zr_eS (o := 87) (f := 62) (t := 132) z90 (by decide) rfl (by decide)
  have z92 := Zr_sA (c := 133) (x := (0, fun _ => 0)) (Zr_new z91 (by decide)) (by decide)
  have z93 := Zr_eS (o := 87) (f := 63) (t := 133) z92 (by decide) rfl (by decide)
  have z94 := Zr_sA (c := 134) (x := (0, fun _ => 0)) (Zr_new z93 (by decide)) (by decide)
  have z95 := Zr_eS (o := 87) (f := 64) (t := 134) z94 (by decide) rfl (by decide)
  have z96 := Zr_sA (c := 135) (x := (0, fun _ => 0)) (Zr_new z95 (by decide)) (by decide)
  have z97 := Zr_eS (o := 87) (f := 65) (t := 135) z96 (by decide) rfl (by decide)
  have z98 := Zr_sA (c := 136) (x := (0, fun _ => 0)) (Zr_new z97 (by decide)) (by decide)
  have z99 := Zr_eS (o := 87) (f := 66) (t := 136) z98 (by decide) rfl (by decide)
  have z100 := Zr_sA (c := 137) (x := (0, fun _ => 0)) (Zr_new z99 (by decide)) (by decide)
  have z101 := Zr_eS (o := 87) (f := 67) (t := 137) z100 (by decide) rfl (by decide)
  have z102 := Zr_sA (c := 138) (x := (0, fun _ => 0)) (Zr_new z101 (by decide)) (by decide)
  have z103 := Zr_eS (o := 87) (f := 68) (t := 138) z102 (by decide) rfl (by decide)
  have z104 := Zr_sA (c := 139) (x := (0, fun _ => 0)) (Zr_new z103 (by decide)) (by decide)
  have z105 := Zr_eS (o := 87) (f := 70) (t := 139) z104 (by decide) rfl (by decide)
  have z106 := Zr_sA (c := 140) (x := (0, fun _ => 0)) (Zr_new z105 (by decide)) (by decide)
  have z107 := Zr_eS (o := 87) (f := 71) (t := 140) z106 (by decide) rfl (by decide)
  have z108 := Zr_sA (c := 141) (x := (0, fun _ => 0)) (Zr_new z107 (by decide)) (by decide)
  have z109 := Zr_eS (o := 87) (f := 73) (t := 141) z108 (by decide) rfl (by decide)
  have z110 := Zr_sA (c := 142) (x := (0, fun _ => 0)) (Zr_new z109 (by decide)) (by decide)
  have z111 := Zr_eS (o := 87) (f := 74) (t := 142) z110 (by decide) rfl (by decide)
  have z112 := Zr_sA (c := 143) (x := (0, fun _ => 0)) (Zr_new z111 (by decide)) (by decide)
  have z113 := Zr_eS (o := 87) (f := 75) (t := 143) z112 (by decide) rfl (by decide)
  have z114 := Zr_sA (c := 144) (x := (0, fun _ => 0)) (Zr_new z113 (by decide)) (by decide)
  have z115 := Zr_eS (o := 87) (f := 77) (t := 144) z114 (by decide) rfl (by decide)
  have z116 := Zr_sA (c := 145) (x := (104, fun _ => 0)) (Zr_new z115 (by decide)) (by decide)
  have z117 := Zr_eS (o := 87) (f := 80) (t := 145) z116 (by decide) rfl (by decide)
  have z118 := Zr_sA (c := 146) (x := (104, fun _ => 0)) (Zr_new z117 (by decide)) (by decide)
  have z119 := Zr_eS (o := 87) (f := 81) (t := 146) z118 (by decide) rfl (by decide)
  have z120 := Zr_sA (c := 147) (x := (64, fun _ => 0)) (Zr_new z119 (by decide)) (by decide)
  have z121 := Zr_eS (o := 87) (f := 86) (t := 147) z120 (by decide) rfl (by decide)
  have z122 := Zr_sA (c := 148) (x := (64, fun _ => 0)) (Zr_new z121 (by decide)) (by decide)
  have z123 := Zr_eS (o := 87) (f := 87) (t := 148) z122 (by decide) rfl (by decide)
  have z124 := Zr_sA (c := 149) (x := (1024, fun _ => 0)) (Zr_new z123 (by decide)) (by decide)
  have z125 := Zr_eS (o := 87) (f := 88) (t := 149) z124 (by decide) rfl (by decide)
  have z126 := Zr_sA (c := 150) (x := (0, fun _ => 0)) (Zr_new z125 (by decide)) (by decide)
  have z127 := Zr_eS (o := 87) (f := 89) (t := 150) z126 (by decide) rfl (by decide)
  have z128 := Zr_sA (c := 151) (x := (0, fun _ => 0)) (Zr_new z127 (by decide)) (by decide)
  have z129 := Zr_eS (o := 87) (f := 90) (t := 151) z128 (by decide) rfl (by decide)
  have z130 := Zr_sA (c := 152) (x := (1024, fun _ => 0)) (Zr_new z129 (by decide)) (by decide)
  have z131 := Zr_eS (o := 87) (f := 91) (t := 152) z130 (by decide) rfl (by decide)
  have z132 := Zr_sA (c := 153) (x := (4096, fun _ => 0)) (Zr_new z131 (by decide)) (by decide)
  have z133 := Zr_eS (o := 87) (f := 92) (t := 153) z132 (by decide) rfl (by decide)
  have z134 := Zr_sA (c := 154) (x := (0, fun _ => 0)) (Zr_new z133 (by decide)) (by decide)
  have z135 := Zr_eS (o := 87) (f := 93) (t := 154) z134 (by decide) rfl (by decide)
  have z136 := Zr_sA (c := 155) (x := (0, fun _ => 0)) (Zr_new z135 (by decide)) (by decide)
  have z137 := Zr_eS (o := 87) (f := 95) (t := 155) z136 (by decide) rfl (by decide)
  have z138 := Zr_sA (c := 156) (x := (0, fun _ => 0)) (Zr_new z137 (by decide)) (by decide)
  have z139 := Zr_eS (o := 87) (f := 96) (t := 156) z138 (by decide) rfl (by decide)
  have z140 := Zr_sA (c := 157) (x := (0, fun _ => 0)) (Zr_new z139 (by decide)) (by decide)
  have z141 := Zr_eS (o := 87) (f := 98) (t := 157) z140 (by decide) rfl (by decide)
  have z142 := Zr_sA (c := 158) (x := (64, fun _ => 0)) (Zr_new z141 (by decide)) (by decide)
  have z143 := Zr_eS (o := 87) (f := 100) (t := 158) z142 (by decide) rfl (by decide)
  have z144 := Zr_sA (c := 159) (x := (0, fun _ => 0)) (Zr_new z143 (by decide)) (by decide)
  have z145 := Zr_eS (o := 87) (f := 102) (t := 159) z144 (by decide) rfl (by decide)
  have z146 := Zr_sA (c := 160) (x := (0, fun _ => 0)) (Zr_new z145 (by decide)) (by decide)
  have z147 := Zr_eS (o := 87) (f := 103) (t := 160) z146 (by decide) rfl (by decide)
  have z148 := Zr_sA (c := 161) (x := (1024, fun _ => 0)) (Zr_new z147 (by decide)) (by decide)
  have z149 := Zr_eS (o := 87) (f := 106) (t := 161) z148 (by decide) rfl (by decide)
  have z150 := Zr_sA (c := 162) (x := (4096, fun _ => 0)) (Zr_new z149 (by decide)) (by decide)
  have z151 := Zr_eS (o := 87) (f := 108) (t := 162) z150 (by decide) rfl (by decide)
  have z152 := Zr_sA (σ := sA (sA (sA (sA (sA (sA (sA (sA (sA (sA (sA (sA (sA (sA (sA (sA (sA (sA (sA (sA (sA (sA (sA (sA (sA (sA (sA (sA (sA (sA (sA (sA (sA (sA (sA (sA (sA (sA (sA (sA (sA (sA (sA (sA (sA (sA (sA (sA (sA (sA (sA (sA (sA (sA (sA (sA (sA (sA (sA (sA (sA (sA (sA (sA (sA (sA (sA (sA (sA (sA (sA (sI (sA (sA (sA (sA (σ) 88 (686, tbr 686 tb_88_686)) 89 (30, tbr 30 tb_89_30)) 90 (17, tbr 17 tb_90_17)) 91 (32800, fun _ => 0)) 87 6 64) 92 (0, fun _ => 0)) 93 (32800, fun _ => 0)) 94 (0, fun _ => 0)) 95 (0, fun _ => 0)) 96 (0, fun _ => 0)) 97 (0, fun _ => 0)) 98 (0, fun _ => 0)) 99 (0, fun _ => 0)) 100 (0, fun _ => 0)) 101 (0, fun _ => 0)) 102 (0, fun _ => 0)) 103 (0, fun _ => 0)) 104 (0, fun _ => 0)) 105 (0, fun _ => 0)) 106 (0, fun _ => 0)) 107 (0, fun _ => 0)) 108 (0, fun _ => 0)) 109 (0, fun _ => 0)) 110 (0, fun _ => 0)) 111 (0, fun _ => 0)) 112 (0, fun _ => 0)) 113 (0, fun _ => 0)) 114 (0, fun _ => 0)) 115 (0, fun _ => 0)) 116 (0, fun _ => 0)) 117 (0, fun _ => 0)) 118 (0, fun _ => 0)) 119 (0, fun _ => 0)) 120 (0, fun _ => 0)) 121 (0, fun _ => 0)) 122 (0, fun _ => 0)) 123 (0, fun _ => 0)) 124 (0, fun _ => 0)) 125 (0, fun _ => 0)) 126 (0, fun _ => 0)) 127 (0, fun _ => 0)) 128 (0, fun _ => 0)) 129 (0, fun _ => 0)) 130 (0, fun _ => 0)) 131 (0, fun _ => 0)) 132 (0, fun _ => 0)) 133 (0, fun _ => 0)) 134 (0, fun _ => 0)) 135 (0, fun _ => 0)) 136 (0, fun _ => 0)) 137 (0, fun _ => 0)) 138 (0, fun _ => 0)) 139 (0, fun _ => 0)) 140 (0, fun _ => 0)) 141 (0, fun _ => 0)) 142 (0, fun _ => 0)) 143 (0, fun _ => 0)) 144 (0, fun _ => 0)) 145 (104, fun _ => 0)) 146 (104, fun _ => 0)) 147 (64, fun _ => 0)) 148 (64, fun _ => 0)) 149 (1024, fun _ => 0)) 150 (0, fun _ => 0)) 151 (0, fun _ => 0)) 152 (1024, fun _ => 0)) 153 (4096, fun _ => 0)) 154 (0, fun _ => 0)) 155 (0, fun _ => 0)) 156 (0, fun _ => 0)) 157 (0, fun _ => 0)) 158 (64, fun _ => 0)) 159 (0, fun _ => 0)) 160 (0, fun _ => 0)) 161 (1024, fun _ => 0)) 162 (4096, fun _ => 0)) (c := 163) (x := (48, tbr 48 tb_163_48)) (Zr_new z151 (by decide)) (by decide)
  have z153 := Zr_eS (o := 87) (f := 109) (t := 163) z152 (by decide) rfl (by decide)
  have z154 := Zr_sA (σ := sA (sA (sA (sA (sA (sA (sA (sA (sA (sA (sA (sA (sA (sA (sA (sA (sA (sA (sA (sA (sA (sA (sA (sA (sA (sA (sA (sA (sA (sA (sA (sA (sA (sA (sA (sA (sA (sA (sA (sA (sA (sA (sA (sA (sA (sA (sA (sA (sA (sA (sA (sA (sA (sA (sA (sA (sA (sA (sA (sA (sA (sA (sA (sA (sA (sA (sA (sA (sA (sA (sA (sA (sI (sA (sA (sA (sA (σ) 88 (686, tbr 686 tb_88_686)) 89 (30, tbr 30 tb_89_30)) 90 (17, tbr 17 tb_90_17)) 91 (32800, fun _ => 0)) 87 6 64) 92 (0, fun _ => 0)) 93 (32800, fun _ => 0)) 94 (0, fun _ => 0)) 95 (0, fun _ => 0)) 96 (0, fun _ => 0)) 97 (0, fun _ => 0)) 98 (0, fun _ => 0)) 99 (0, fun _ => 0)) 100 (0, fun _ => 0)) 101 (0, fun _ => 0)) 102 (0, fun _ => 0)) 103 (0, fun _ => 0)) 104 (0, fun _ => 0)) 105 (0, fun _ => 0)) 106 (0, fun _ => 0)) 107 (0, fun _ => 0)) 108 (0, fun _ => 0)) 109 (0, fun _ => 0)) 110 (0, fun _ => 0)) 111 (0, fun _ => 0)) 112 (0, fun _ => 0)) 113 (0, fun _ => 0)) 114 (0, fun _ => 0)) 115 (0, fun _ => 0)) 116 (0, fun _ => 0)) 117 (0, fun _ => 0)) 118 (0, fun _ => 0)) 119 (0, fun _ => 0)) 120 (0, fun _ => 0)) 121 (0, fun _ => 0)) 122 (0, fun _ => 0)) 123 (0, fun _ => 0)) 124 (0, fun _ => 0)) 125 (0, fun _ => 0)) 126 (0, fun _ => 0)) 127 (0, fun _ => 0)) 128 (0, fun _ => 0)) 129 (0, fun _ => 0)) 130 (0, fun _ => 0)) 131 (0, fun _ => 0)) 132 (0, fun _ => 0)) 133 (0, fun _ => 0)) 134 (0, fun _ => 0)) 135 (0, fun _ => 0)) 136 (0, fun _ => 0)) 137 (0, fun _ => 0)) 138 (0, fun _ => 0)) 139 (0, fun _ => 0)) 140 (0, fun _ => 0)) 141 (0, fun _ => 0)) 142 (0, fun _ => 0)) 143 (0, fun _ => 0)) 144 (0, fun _ => 0)) 145 (104, fun _ => 0)) 146 (104, fun _ => 0)) 147 (64, fun _ => 0)) 148 (64, fun _ => 0)) 149 (1024, fun _ => 0)) 150 (0, fun _ => 0)) 151 (0, fun _ => 0)) 152 (1024, fun _ => 0)) 153 (4096, fun _ => 0)) 154 (0, fun _ => 0)) 155 (0, fun _ => 0)) 156 (0, fun _ => 0)) 157 (0, fun _ => 0)) 158 (64, fun _ => 0)) 159 (0, fun _ => 0)) 160 (0, fun _ => 0)) 161 (1024, fun _ => 0)) 162 (4096, fun _ => 0)) 163 (48, tbr 48 tb_163_48)) (c := 164) (x := (5, tbr 5 tb_164_5)) (Zr_new z153 (by decide)) (by decide)
  have z155 := Zr_eS (o := 87) (f := 110) (t := 164) z154 (by decide) rfl (by decide)
  have z156 := Zr_sA (c := 165) (x := (1024, fun _ => 0)) (Zr_new z155 (by decide)) (by decide)
  have z157 := Zr_eS (o := 87) (f := 112) (t := 165) z156 (by decide) rfl (by decide)
  have z158 := Zr_sA (c := 166) (x := (0, fun _ => 0)) (Zr_new z157 (by decide)) (by decide)
  have z159 := Zr_eS (o := 87) (f := 113) (t := 166) z158 (by decide) rfl (by decide)
  have z160 := Zr_sA (c := 167) (x := (0, fun _ => 0)) (Zr_new z159 (by decide)) (by decide)
  have z161 := Zr_eS (o := 87) (f := 114) (t := 167) z160 (by decide) rfl (by decide)
  have z162 := Zr_sA (c := 168) (x := (0, fun _ => 0)) (Zr_new z161 (by decide)) (by decide)
  have z163 := Zr_eS (o := 87) (f := 115) (t := 168) z162 (by decide) rfl (by decide)
  have z164 := Zr_sI (c := 87) (f := 116) (x := (-1)) z163 (by decide)
  have z165 := Zr_sA (c := 169) (x := (65, fun _ => 0)) (Zr_new z164 (by decide)) (by decide)
  have z166 := Zr_eS (o := 87) (f := 117) (t := 169) z165 (by decide) rfl (by decide)
  have z167 := Zr_sA (c := 170) (x := (256, fun _ => 0)) (Zr_new z166 (by decide)) (by decide)
  have z168 := Zr_eS (o := 87) (f := 126) (t := 170) z167 (by decide) rfl (by decide)
  have z169 := Zr_sA (c := 171) (x := (32800, fun _ => 0)) (Zr_new z168 (by decide)) (by decide)
  have z170 := Zr_eS (o := 87) (f := 128) (t := 171) z169 (by decide) rfl (by decide)
  have z171 := Zr_sA (c := 172) (x := (0, fun _ => 0)) (Zr_new z170 (by decide)) (by decide)
  have z172 := Zr_eS (o := 87) (f := 130) (t := 172) z171 (by decide) rfl (by decide)
  have z173 := Zr_sA (c := 173) (x := (0, fun _ => 0)) (Zr_new z172 (by decide)) (by decide)
  have z174 := Zr_eS (o := 87) (f := 131) (t := 173) z173 (by decide) rfl (by decide)
  have z175 := Zr_sA (c := 174) (x := (0, fun _ => 0)) (Zr_new z174 (by decide)) (by decide)
  have z176 := Zr_eS (o := 87) (f := 132) (t := 174) z175 (by decide) rfl (by decide)
  have z177 := Zr_sA (c := 175) (x := (0, fun _ => 0)) (Zr_new z176 (by decide)) (by decide)
  have z178 := Zr_eS (o := 87) (f := 133) (t := 175) z177 (by decide) rfl (by decide)
  have z179 := Zr_sA (c := 176) (x := (0, fun _ => 0)) (Zr_new z178 (by decide)) (by decide)
  have z180 := Zr_eS (o := 87) (f := 134) (t := 176) z179 (by decide) rfl (by decide)
  have z181 := Zr_sA (c := 177) (x := (0, fun _ => 0)) (Zr_new z180 (by decide)) (by decide)
  have z182 := Zr_eS (o := 87) (f := 135) (t := 177) z181 (by decide) rfl (by decide)
  have z183 := Zr_sA (c := 178) (x := (0, fun _ => 0)) (Zr_new z182 (by decide)) (by decide)
  have z184 := Zr_eS (o := 87) (f := 136) (t := 178) z183 (by decide) rfl (by decide)
  have z185 := Zr_sA (c := 179) (x := (0, fun _ => 0)) (Zr_new z184 (by decide)) (by decide)
  have z186 := Zr_eS (o := 87) (f := 137) (t := 179) z185 (by decide) rfl (by decide)
  have z187 := Zr_sA (c := 180) (x := (0, fun _ => 0)) (Zr_new z186 (by decide)) (by decide)
  have z188 := Zr_eS (o := 87) (f := 138) (t := 180) z187 (by decide) rfl (by decide)
  have z189 := Zr_sA (c := 181) (x := (0, fun _ => 0)) (Zr_new z188 (by decide)) (by decide)
  have z190 := Zr_eS (o := 87) (f := 139) (t := 181) z189 (by decide) rfl (by decide)
  have z191 := Zr_sA (c := 182) (x := (0, fun _ => 0)) (Zr_new z190 (by decide)) (by decide)
  have z192 := Zr_eS (o := 87) (f := 140) (t := 182) z191 (by decide) rfl (by decide)
  have z193 := Zr_sA (c := 183) (x := (4096, fun _ => 0)) (Zr_new z192 (by decide)) (by decide)
  have z194 := Zr_eS (o := 87) (f := 145) (t := 183) z193 (by decide) rfl (by decide)
  have z195 := Zr_sA (c := 184) (x := (4096, fun _ => 0)) (Zr_new z194 (by decide)) (by decide)
  have z196 := Zr_eS (o := 87) (f := 146) (t := 184) z195 (by decide) rfl (by decide)
  have z197 := Zr_sA (c := 185) (x := (16, fun _ => 0)) (Zr_new z196 (by decide)) (by decide)
  have z198 := Zr_eS (o := 87) (f := 148) (t := 185) z197 (by decide) rfl (by decide)
  have z199 := Zr_sA (c := 186) (x := (0, fun _ => 0)) (Zr_new z198 (by decide)) (by decide)
  have z200 := Zr_eS (o := 87) (f := 150) (t := 186) z199 (by decide) rfl (by decide)
  have z201 := Zr_sA (c := 187) (x := (0, fun _ => 0)) (Zr_new z200 (by decide)) (by decide)
  have z202 := Zr_eS (o := 87) (f := 151) (t := 187) z201 (by decide) rfl (by decide)
  have z203 := Zr_sA (c := 188) (x := (0, fun _ => 0)) (Zr_new z202 (by decide)) (by decide)
  have z204 := Zr_eS (o := 87) (f := 152) (t := 188) z203 (by decide) rfl (by decide)
  have z205 := Zr_sA (c := 189) (x := (0, fun _ => 0)) (Zr_new z204 (by decide)) (by decide)
  have z206 := Zr_eS (o := 87) (f := 153) (t := 189) z205 (by decide) rfl (by decide)
  have z207 := Zr_sA (c := 190) (x := (0, fun _ => 0)) (Zr_new z206 (by decide)) (by decide)
  have z208 := Zr_eS (o := 87) (f := 154) (t := 190) z207 (by decide) rfl (by decide)
  have z209 := Zr_sA (c := 191) (x := (0, fun _ => 0)) (Zr_new z208 (by decide)) (by decide)
  have z210 := Zr_eS (o := 87) (f := 155) (t := 191) z209 (by decide) rfl (by decide)
  have z211 := Zr_sA (c := 192) (x := (0, fun _ => 0)) (Zr_new z210 (by decide)) (by decide)
  have z212 := Zr_eS (o := 87) (f := 156) (t := 192) z211 (by decide) rfl (by decide)
  have z213 := Zr_sA (c := 193) (x := (0, fun _ => 0)) (Zr_new z212 (by decide)) (by decide)
  have z214 := Zr_eS (o := 87) (f := 157) (t := 193) z213 (by decide) rfl (by decide)
  have z215 := Zr_sA (c := 194) (x := (0, fun _ => 0)) (Zr_new z214 (by decide)) (by decide)
  have z216 := Zr_eS (o := 87) (f := 159) (t := 194) z215 (by decide) rfl (by decide)
  have z217 := Zr_sA (c := 195) (x := (0, fun _ => 0)) (Zr_new z216 (by decide)) (by decide)
  have z218 := Zr_eS (o := 87) (f := 160) (t := 195) z217 (by decide) rfl (by decide)
  have z219 := Zr_sA (c := 196) (x := (0, fun _ => 0)) (Zr_new z218 (by decide)) (by decide)
  have z220 := Zr_eS (o := 87) (f := 161) (t := 196) z219 (by decide) rfl (by decide)
  have z221 := Zr_sA (c := 197) (x := (0, fun _ => 0)) (Zr_new z220 (by decide)) (by decide)
  have z222 := Zr_eS (o := 87) (f := 162) (t := 197) z221 (by decide) rfl (by decide)
  exact Zr_bmp z222
theorem k_87 {σ : vS} {E : Nat → Nat → Bool} (hz : Zr 88 E σ) : VCI yX14_init cX14_init 1 1 12 [vO 87] 88 E σ 198 (e_87 E) (i_87 σ) := by
  refine VCI.of RX14 (by decide) rfl (by decide) rfl (by decide) ?_
  show VW cX14_init (cB RX14 (conS (i_87 σ) (pK 198 (e_87 E)) 88) 1 12 1) (pK 88 E) σ 0 [(0, vO 87)] []
  refine v_aload_n dX14_init_0 0 rfl rfl ?_
  refine v_oinit (o := 87) q2368 (by decide) (by decide) dX14_init_1 ?_
  refine v_aload_n dX14_init_4 0 rfl rfl ?_
  refine v_sipush dX14_init_5 rfl ?_
  refine v_nA24 hz ⟨rfl, rfl, Or.inr ⟨rfl, rfl, show (88 : Nat) ≤ 88 from by decide⟩⟩ (by decide) rfl (rgl rfl) (by decide) (by decide) (And.intro (Or.inl (by decide)) (trivial)) (And.intro (Or.inl (by decide)) (trivial)) q459 dX14_init_8 ?_
  refine v_tb0 ?_
  refine wt_88_40 (ok_K (by decide) (by decide) rfl) ?_
  refine wt_88_80 (ok_K (by decide) (by decide) rfl) ?_
  refine wt_88_120 (ok_K (by decide) (by decide) rfl) ?_
  refine wt_88_160 (ok_K (by decide) (by decide) rfl) ?_
  refine wt_88_200 (ok_K (by decide) (by decide) rfl) ?_
  refine wt_88_240 (ok_K (by decide) (by decide) rfl) ?_
  refine wt_88_280 (ok_K (by decide) (by decide) rfl) ?_
  refine wt_88_320 (ok_K (by decide) (by decide) rfl) ?_
  refine wt_88_360 (ok_K (by decide) (by decide) rfl) ?_
  refine wt_88_400 (ok_K (by decide) (by decide) rfl) ?_
  refine wt_88_440 (ok_K (by decide) (by decide) rfl) ?_
  refine wt_88_480 (ok_K (by decide) (by decide) rfl) ?_
  refine wt_88_520 (ok_K (by decide) (by decide) rfl) ?_
  refine wt_88_560 (ok_K (by decide) (by decide) rfl) ?_
  refine wt_88_600 (ok_K (by decide) (by decide) rfl) ?_
  refine wt_88_640 (ok_K (by decide) (by decide) rfl) ?_
  refine wt_88_680 (ok_K (by decide) (by decide) rfl) ?_
  refine wt_88_686 (ok_K (by decide) (by decide) rfl) ?_
  have z1 := Zr_sA (σ := σ) (c := 88) (x := (686, tbr 686 tb_88_686)) (Zr_new hz (by decide)) (by decide)
  refine v_putS (f := 0) (t := 88) cf14 (by decide) (by decide) rfl rfl rfl (by decide) q2370 dX14_init_4601 (Or.inr ⟨rfl, rfl, rfl, rfl, rfl, rfl⟩) rfl (fun _ => rfl) (fun _ => rfl) ?_
  have z2 := Zr_eS (o := 87) (f := 0) (t := 88) z1 (by decide) rfl (by decide)
  refine v_aload_n dX14_init_4604 0 rfl rfl ?_
  refine v_bipush dX14_init_4605 rfl ?_
  refine v_nA24 z2 ⟨rfl, rfl, Or.inr ⟨rfl, rfl, show (88 : Nat) ≤ 89 from by decide⟩⟩ (by decide) rfl (rgl rfl) (by decide) (by decide) (And.intro (Or.inl (by decide)) (trivial)) (And.intro (Or.inl (by decide)) (trivial)) q459 dX14_init_4607 ?_
  refine v_tb0 ?_
  refine wt_89_30 (ok_K (by decide) (by decide) rfl) ?_
  have z3 := Zr_sA (σ := sA (σ) 88 (686, tbr 686 tb_88_686)) (c := 89) (x := (30, tbr 30 tb_89_30)) (Zr_new z2 (by decide)) (by decide)
  refine v_putS (f := 1) (t := 89) cf14 (by decide) (by decide) rfl rfl rfl (by decide) q2371 dX14_init_4783 (Or.inr ⟨rfl, rfl, rfl, rfl, rfl, rfl⟩) rfl (fun _ => rfl) (fun _ => rfl) ?_
  have z4 := Zr_eS (o := 87) (f := 1) (t := 89) z3 (by decide) rfl (by decide)
  refine v_aload_n dX14_init_4786 0 rfl rfl ?_
  refine v_bipush dX14_init_4787 rfl ?_
  refine v_nA24 z4 ⟨rfl, rfl, Or.inr ⟨rfl, rfl, show (88 : Nat) ≤ 90 from by decide⟩⟩ (by decide) rfl (rgl rfl) (by decide) (by decide) (And.intro (Or.inl (by decide)) (trivial)) (And.intro (Or.inl (by decide)) (trivial)) q459 dX14_init_4789 ?_
  refine v_tb0 ?_
  refine wt_90_17 (ok_K (by decide) (by decide) rfl) ?_
  have z5 := Zr_sA (σ := sA (sA (σ) 88 (686, tbr 686 tb_88_686)) 89 (30, tbr 30 tb_89_30)) (c := 90) (x := (17, tbr 17 tb_90_17)) (Zr_new z4 (by decide)) (by decide)
  refine v_putS (f := 2) (t := 90) cf14 (by decide) (by decide) rfl rfl rfl (by decide) q2372 dX14_init_4881 (Or.inr ⟨rfl, rfl, rfl, rfl, rfl, rfl⟩) rfl (fun _ => rfl) (fun _ => rfl) ?_
  have z6 := Zr_eS (o := 87) (f := 2) (t := 90) z5 (by decide) rfl (by decide)
  refine v_aload_n dX14_init_4884 0 rfl rfl ?_
  refine v_ldc (n := 32800) dX14_init_4885 q2369 rfl ?_
  refine v_nA24 z6 ⟨rfl, rfl, Or.inr ⟨rfl, rfl, show (88 : Nat) ≤ 91 from by decide⟩⟩ (by decide) rfl (rgl rfl) (by decide) (by decide) (And.intro (Or.inl (by decide)) (trivial)) (And.intro (Or.inl (by decide)) (trivial)) q459 dX14_init_4887 ?_
  have z7 := Zr_sA (c := 91) (x := (32800, fun _ => 0)) (Zr_new z6 (by decide)) (by decide)
  refine v_putS (f := 5) (t := 91) cf14 (by decide) (by decide) rfl rfl rfl (by decide) q2375 dX14_init_4889 (Or.inr ⟨rfl, rfl, rfl, rfl, rfl, rfl⟩) rfl (fun _ => rfl) (fun _ => rfl) ?_
  have z8 := Zr_eS (o := 87) (f := 5) (t := 91) z7 (by decide) rfl (by decide)
  refine v_aload_n dX14_init_4892 0 rfl rfl ?_
  refine v_bipush dX14_init_4893 rfl ?_
  refine v_putI (f := 6) cf14 (ok_K (by decide) (by decide) rfl) rfl (by decide) q2376 dX14_init_4895 rfl rfl ?_
  have z9 := Zr_sI (c := 87) (f := 6) (x := 64) z8 (by decide)
  refine v_aload_n dX14_init_4898 0 rfl rfl ?_
  refine v_iconst dX14_init_4899 ?_
  refine v_nA24 z9 ⟨rfl, rfl, Or.inr ⟨rfl, rfl, show (88 : Nat) ≤ 92 from by decide⟩⟩ (by decide) rfl (rgl rfl) (by decide) (by decide) (And.intro (Or.inl (by decide)) (trivial)) (And.intro (Or.inl (by decide)) (trivial)) q459 dX14_init_4900 ?_
  have z10 := Zr_sA (c := 92) (x := (0, fun _ => 0)) (Zr_new z9 (by decide)) (by decide)
  refine v_putS (f := 12) (t := 92) cf14 (by decide) (by decide) rfl rfl rfl (by decide) q2382 dX14_init_4902 (Or.inl rfl) rfl (fun _ => rfl) (fun _ => rfl) ?_
  have z11 := Zr_eS (o := 87) (f := 12) (t := 92) z10 (by decide) rfl (by decide)
  refine v_aload_n dX14_init_4905 0 rfl rfl ?_
  refine v_ldc (n := 32800) dX14_init_4906 q2369 rfl ?_
  refine v_nA24 z11 ⟨rfl, rfl, Or.inr ⟨rfl, rfl, show (88 : Nat) ≤ 93 from by decide⟩⟩ (by decide) rfl (rgl rfl) (by decide) (by decide) (And.intro (Or.inl (by decide)) (trivial)) (And.intro (Or.inl (by decide)) (trivial)) q459 dX14_init_4908 ?_
  have z12 := Zr_sA (c := 93) (x := (32800, fun _ => 0)) (Zr_new z11 (by decide)) (by decide)
  refine v_putS (f := 14) (t := 93) cf14 (by decide) (by decide) rfl rfl rfl (by decide) q2384 dX14_init_4910 (Or.inr ⟨rfl, rfl, rfl, rfl, rfl, rfl⟩) rfl (fun _ => rfl) (fun _ => rfl) ?_
  have z13 := Zr_eS (o := 87) (f := 14) (t := 93) z12 (by decide) rfl (by decide)
  refine v_aload_n dX14_init_4913 0 rfl rfl ?_
  refine v_iconst dX14_init_4914 ?_
  refine v_nA24 z13 ⟨rfl, rfl, Or.inr ⟨rfl, rfl, show (88 : Nat) ≤ 94 from by decide⟩⟩ (by decide) rfl (rgl rfl) (by decide) (by decide) (And.intro (Or.inl (by decide)) (trivial)) (And.intro (Or.inl (by decide)) (trivial)) q459 dX14_init_4915 ?_
  have z14 := Zr_sA (c := 94) (x := (0, fun _ => 0)) (Zr_new z13 (by decide)) (by decide)
  refine v_putS (f := 16) (t := 94) cf14 (by decide) (by decide) rfl rfl rfl (by decide) q2386 dX14_init_4917 (Or.inl rfl) rfl (fun _ => rfl) (fun _ => rfl) ?_
  have z15 := Zr_eS (o := 87) (f := 16) (t := 94) z14 (by decide) rfl (by decide)
  refine v_aload_n dX14_init_4920 0 rfl rfl ?_
  refine v_iconst dX14_init_4921 ?_
  refine v_nA24 z15 ⟨rfl, rfl, Or.inr ⟨rfl, rfl, show (88 : Nat) ≤ 95 from by decide⟩⟩ (by decide) rfl (rgl rfl) (by decide) (by decide) (And.intro (Or.inl (by decide)) (trivial)) (And.intro (Or.inl (by decide)) (trivial)) q459 dX14_init_4922 ?_
  have z16 := Zr_sA (c := 95) (x := (0, fun _ => 0)) (Zr_new z15 (by decide)) (by decide)
  refine v_putS (f := 17) (t := 95) cf14 (by decide) (by decide) rfl rfl rfl (by decide) q2387 dX14_init_4924 (Or.inl rfl) rfl (fun _ => rfl) (fun _ => rfl) ?_
  have z17 := Zr_eS (o := 87) (f := 17) (t := 95) z16 (by decide) rfl (by decide)
  refine v_aload_n dX14_init_4927 0 rfl rfl ?_
  refine v_iconst dX14_init_4928 ?_
  refine v_nA24 z17 ⟨rfl, rfl, Or.inr ⟨rfl, rfl, show (88 : Nat) ≤ 96 from by decide⟩⟩ (by decide) rfl (rgl rfl) (by decide) (by decide) (And.intro (Or.inl (by decide)) (trivial)) (And.intro (Or.inl (by decide)) (trivial)) q459 dX14_init_4929 ?_
  have z18 := Zr_sA (c := 96) (x := (0, fun _ => 0)) (Zr_new z17 (by decide)) (by decide)
  refine v_putS (f := 18) (t := 96) cf14 (by decide) (by decide) rfl rfl rfl (by decide) q2388 dX14_init_4931 (Or.inl rfl) rfl (fun _ => rfl) (fun _ => rfl) ?_
  have z19 := Zr_eS (o := 87) (f := 18) (t := 96) z18 (by decide) rfl (by decide)
  refine v_aload_n dX14_init_4934 0 rfl rfl ?_
  refine v_iconst dX14_init_4935 ?_
  refine v_nA24 z19 ⟨rfl, rfl, Or.inr ⟨rfl, rfl, show (88 : Nat) ≤ 97 from by decide⟩⟩ (by decide) rfl (rgl rfl) (by decide) (by decide) (And.intro (Or.inl (by decide)) (trivial)) (And.intro (Or.inl (by decide)) (trivial)) q459 dX14_init_4936 ?_
  have z20 := Zr_sA (c := 97) (x := (0, fun _ => 0)) (Zr_new z19 (by decide)) (by decide)
  refine v_putS (f := 21) (t := 97) cf14 (by decide) (by decide) rfl rfl rfl (by decide) q2391 dX14_init_4938 (Or.inl rfl) rfl (fun _ => rfl) (fun _ => rfl) ?_
  have z21 := Zr_eS (o := 87) (f := 21) (t := 97) z20 (by decide) rfl (by decide)
  refine v_aload_n dX14_init_4941 0 rfl rfl ?_
  refine v_iconst dX14_init_4942 ?_
  refine v_nA24 z21 ⟨rfl, rfl, Or.inr ⟨rfl, rfl, show (88 : Nat) ≤ 98 from by decide⟩⟩ (by decide) rfl (rgl rfl) (by decide) (by decide) (And.intro (Or.inl (by decide)) (trivial)) (And.intro (Or.inl (by decide)) (trivial)) q459 dX14_init_4943 ?_
  have z22 := Zr_sA (c := 98) (x := (0, fun _ => 0)) (Zr_new z21 (by decide)) (by decide)
  refine v_putS (f := 22) (t := 98) cf14 (by decide) (by decide) rfl rfl rfl (by decide) q2392 dX14_init_4945 (Or.inl rfl) rfl (fun _ => rfl) (fun _ => rfl) ?_
  have z23 := Zr_eS (o := 87) (f := 22) (t := 98) z22 (by decide) rfl (by decide)
  refine v_aload_n dX14_init_4948 0 rfl rfl ?_
  refine v_iconst dX14_init_4949 ?_
  refine v_nA24 z23 ⟨rfl, rfl, Or.inr ⟨rfl, rfl, show (88 : Nat) ≤ 99 from by decide⟩⟩ (by decide) rfl (rgl rfl) (by decide) (by decide) (And.intro (Or.inl (by decide)) (trivial)) (And.intro (Or.inl (by decide)) (trivial)) q459 dX14_init_4950 ?_
  have z24 := Zr_sA (c := 99) (x := (0, fun _ => 0)) (Zr_new z23 (by decide)) (by decide)
  refine v_putS (f := 23) (t := 99) cf14 (by decide) (by decide) rfl rfl rfl (by decide) q2393 dX14_init_4952 (Or.inl rfl) rfl (fun _ => rfl) (fun _ => rfl) ?_
  have z25 := Zr_eS (o := 87) (f := 23) (t := 99) z24 (by decide) rfl (by decide)
  refine v_aload_n dX14_init_4955 0 rfl rfl ?_
  refine v_iconst dX14_init_4956 ?_
  refine v_nA24 z25 ⟨rfl, rfl, Or.inr ⟨rfl, rfl, show (88 : Nat) ≤ 100 from by decide⟩⟩ (by decide) rfl (rgl rfl) (by decide) (by decide) (And.intro (Or.inl (by decide)) (trivial)) (And.intro (Or.inl (by decide)) (trivial)) q459 dX14_init_4957 ?_
  have z26 := Zr_sA (c := 100) (x := (0, fun _ => 0)) (Zr_new z25 (by decide)) (by decide)
  refine v_putS (f := 24) (t := 100) cf14 (by decide) (by decide) rfl rfl rfl (by decide) q2394 dX14_init_4959 (Or.inl rfl) rfl (fun _ => rfl) (fun _ => rfl) ?_
  have z27 := Zr_eS (o := 87) (f := 24) (t := 100) z26 (by decide) rfl (by decide)
  refine v_aload_n dX14_init_4962 0 rfl rfl ?_
  refine v_iconst dX14_init_4963 ?_
  refine v_nA24 z27 ⟨rfl, rfl, Or.inr ⟨rfl, rfl, show (88 : Nat) ≤ 101 from by decide⟩⟩ (by decide) rfl (rgl rfl) (by decide) (by decide) (And.intro (Or.inl (by decide)) (trivial)) (And.intro (Or.inl (by decide)) (trivial)) q459 dX14_init_4964 ?_
  have z28 := Zr_sA (c := 101) (x := (0, fun _ => 0)) (Zr_new z27 (by decide)) (by decide)
  refine v_putS (f := 25) (t := 101) cf14 (by decide) (by decide) rfl rfl rfl (by decide) q2395 dX14_init_4966 (Or.inl rfl) rfl (fun _ => rfl) (fun _ => rfl) ?_
  have z29 := Zr_eS (o := 87) (f := 25) (t := 101) z28 (by decide) rfl (by decide)
  refine v_aload_n dX14_init_4969 0 rfl rfl ?_
  refine v_iconst dX14_init_4970 ?_
  refine v_nA24 z29 ⟨rfl, rfl, Or.inr ⟨rfl, rfl, show (88 : Nat) ≤ 102 from by decide⟩⟩ (by decide) rfl (rgl rfl) (by decide) (by decide) (And.intro (Or.inl (by decide)) (trivial)) (And.intro (Or.inl (by decide)) (trivial)) q459 dX14_init_4971 ?_
  have z30 := Zr_sA (c := 102) (x := (0, fun _ => 0)) (Zr_new z29 (by decide)) (by decide)
  refine v_putS (f := 26) (t := 102) cf14 (by decide) (by decide) rfl rfl rfl (by decide) q2396 dX14_init_4973 (Or.inl rfl) rfl (fun _ => rfl) (fun _ => rfl) ?_
  have z31 := Zr_eS (o := 87) (f := 26) (t := 102) z30 (by decide) rfl (by decide)
  refine v_aload_n dX14_init_4976 0 rfl rfl ?_
  refine v_iconst dX14_init_4977 ?_
  refine v_nA24 z31 ⟨rfl, rfl, Or.inr ⟨rfl, rfl, show (88 : Nat) ≤ 103 from by decide⟩⟩ (by decide) rfl (rgl rfl) (by decide) (by decide) (And.intro (Or.inl (by decide)) (trivial)) (And.intro (Or.inl (by decide)) (trivial)) q459 dX14_init_4978 ?_
  have z32 := Zr_sA (c := 103) (x := (0, fun _ => 0)) (Zr_new z31 (by decide)) (by decide)
  refine v_putS (f := 27) (t := 103) cf14 (by decide) (by decide) rfl rfl rfl (by decide) q2397 dX14_init_4980 (Or.inl rfl) rfl (fun _ => rfl) (fun _ => rfl) ?_
  have z33 := Zr_eS (o := 87) (f := 27) (t := 103) z32 (by decide) rfl (by decide)
  refine v_aload_n dX14_init_4983 0 rfl rfl ?_
  refine v_iconst dX14_init_4984 ?_
  refine v_nA24 z33 ⟨rfl, rfl, Or.inr ⟨rfl, rfl, show (88 : Nat) ≤ 104 from by decide⟩⟩ (by decide) rfl (rgl rfl) (by decide) (by decide) (And.intro (Or.inl (by decide)) (trivial)) (And.intro (Or.inl (by decide)) (trivial)) q459 dX14_init_4985 ?_
  have z34 := Zr_sA (c := 104) (x := (0, fun _ => 0)) (Zr_new z33 (by decide)) (by decide)
  refine v_putS (f := 28) (t := 104) cf14 (by decide) (by decide) rfl rfl rfl (by decide) q2398 dX14_init_4987 (Or.inl rfl) rfl (fun _ => rfl) (fun _ => rfl) ?_
  have z35 := Zr_eS (o := 87) (f := 28) (t := 104) z34 (by decide) rfl (by decide)
  refine v_aload_n dX14_init_4990 0 rfl rfl ?_
  refine v_iconst dX14_init_4991 ?_
  refine v_nA24 z35 ⟨rfl, rfl, Or.inr ⟨rfl, rfl, show (88 : Nat) ≤ 105 from by decide⟩⟩ (by decide) rfl (rgl rfl) (by decide) (by decide) (And.intro (Or.inl (by decide)) (trivial)) (And.intro (Or.inl (by decide)) (trivial)) q459 dX14_init_4992 ?_
  have z36 := Zr_sA (c := 105) (x := (0, fun _ => 0)) (Zr_new z35 (by decide)) (by decide)
  refine v_putS (f := 29) (t := 105) cf14 (by decide) (by decide) rfl rfl rfl (by decide) q2399 dX14_init_4994 (Or.inl rfl) rfl (fun _ => rfl) (fun _ => rfl) ?_
  have z37 := Zr_eS (o := 87) (f := 29) (t := 105) z36 (by decide) rfl (by decide)
  refine v_aload_n dX14_init_4997 0 rfl rfl ?_
  refine v_iconst dX14_init_4998 ?_
  refine v_nA24 z37 ⟨rfl, rfl, Or.inr ⟨rfl, rfl, show (88 : Nat) ≤ 106 from by decide⟩⟩ (by decide) rfl (rgl rfl) (by decide) (by decide) (And.intro (Or.inl (by decide)) (trivial)) (And.intro (Or.inl (by decide)) (trivial)) q459 dX14_init_4999 ?_
  have z38 := Zr_sA (c := 106) (x := (0, fun _ => 0)) (Zr_new z37 (by decide)) (by decide)
  refine v_putS (f := 30) (t := 106) cf14 (by decide) (by decide) rfl rfl rfl (by decide) q2400 dX14_init_5001 (Or.inl rfl) rfl (fun _ => rfl) (fun _ => rfl) ?_
  have z39 := Zr_eS (o := 87) (f := 30) (t := 106) z38 (by decide) rfl (by decide)
  refine v_aload_n dX14_init_5004 0 rfl rfl ?_
  refine v_iconst dX14_init_5005 ?_
  refine v_nA24 z39 ⟨rfl, rfl, Or.inr ⟨rfl, rfl, show (88 : Nat) ≤ 107 from by decide⟩⟩ (by decide) rfl (rgl rfl) (by decide) (by decide) (And.intro (Or.inl (by decide)) (trivial)) (And.intro (Or.inl (by decide)) (trivial)) q459 dX14_init_5006 ?_
  have z40 := Zr_sA (c := 107) (x := (0, fun _ => 0)) (Zr_new z39 (by decide)) (by decide)
  refine v_putS (f := 31) (t := 107) cf14 (by decide) (by decide) rfl rfl rfl (by decide) q2401 dX14_init_5008 (Or.inl rfl) rfl (fun _ => rfl) (fun _ => rfl) ?_
  have z41 := Zr_eS (o := 87) (f := 31) (t := 107) z40 (by decide) rfl (by decide)
  refine v_aload_n dX14_init_5011 0 rfl rfl ?_
  refine v_iconst dX14_init_5012 ?_
  refine v_nA24 z41 ⟨rfl, rfl, Or.inr ⟨rfl, rfl, show (88 : Nat) ≤ 108 from by decide⟩⟩ (by decide) rfl (rgl rfl) (by decide) (by decide) (And.intro (Or.inl (by decide)) (trivial)) (And.intro (Or.inl (by decide)) (trivial)) q459 dX14_init_5013 ?_
  have z42 := Zr_sA (c := 108) (x := (0, fun _ => 0)) (Zr_new z41 (by decide)) (by decide)
  refine v_putS (f := 33) (t := 108) cf14 (by decide) (by decide) rfl rfl rfl (by decide) q2403 dX14_init_5015 (Or.inl rfl) rfl (fun _ => rfl) (fun _ => rfl) ?_
  have z43 := Zr_eS (o := 87) (f := 33) (t := 108) z42 (by decide) rfl (by decide)
  refine v_aload_n dX14_init_5018 0 rfl rfl ?_
  refine v_iconst dX14_init_5019 ?_
  refine v_nA24 z43 ⟨rfl, rfl, Or.inr ⟨rfl, rfl, show (88 : Nat) ≤ 109 from by decide⟩⟩ (by decide) rfl (rgl rfl) (by decide) (by decide) (And.intro (Or.inl (by decide)) (trivial)) (And.intro (Or.inl (by decide)) (trivial)) q459 dX14_init_5020 ?_
  have z44 := Zr_sA (c := 109) (x := (0, fun _ => 0)) (Zr_new z43 (by decide)) (by decide)
  refine v_putS (f := 34) (t := 109) cf14 (by decide) (by decide) rfl rfl rfl (by decide) q2404 dX14_init_5022 (Or.inl rfl) rfl (fun _ => rfl) (fun _ => rfl) ?_
  have z45 := Zr_eS (o := 87) (f := 34) (t := 109) z44 (by decide) rfl (by decide)
  refine v_aload_n dX14_init_5025 0 rfl rfl ?_
  refine v_iconst dX14_init_5026 ?_
  refine v_nA24 z45 ⟨rfl, rfl, Or.inr ⟨rfl, rfl, show (88 : Nat) ≤ 110 from by decide⟩⟩ (by decide) rfl (rgl rfl) (by decide) (by decide) (And.intro (Or.inl (by decide)) (trivial)) (And.intro (Or.inl (by decide)) (trivial)) q459 dX14_init_5027 ?_
  have z46 := Zr_sA (c := 110) (x := (0, fun _ => 0)) (Zr_new z45 (by decide)) (by decide)
  refine v_putS (f := 35) (t := 110) cf14 (by decide) (by decide) rfl rfl rfl (by decide) q2405 dX14_init_5029 (Or.inl rfl) rfl (fun _ => rfl) (fun _ => rfl) ?_
  have z47 := Zr_eS (o := 87) (f := 35) (t := 110) z46 (by decide) rfl (by decide)
  refine v_aload_n dX14_init_5032 0 rfl rfl ?_
  refine v_iconst dX14_init_5033 ?_
  refine v_nA24 z47 ⟨rfl, rfl, Or.inr ⟨rfl, rfl, show (88 : Nat) ≤ 111 from by decide⟩⟩ (by decide) rfl (rgl rfl) (by decide) (by decide) (And.intro (Or.inl (by decide)) (trivial)) (And.intro (Or.inl (by decide)) (trivial)) q459 dX14_init_5034 ?_
  have z48 := Zr_sA (c := 111) (x := (0, fun _ => 0)) (Zr_new z47 (by decide)) (by decide)
  refine v_putS (f := 36) (t := 111) cf14 (by decide) (by decide) rfl rfl rfl (by decide) q2406 dX14_init_5036 (Or.inl rfl) rfl (fun _ => rfl) (fun _ => rfl) ?_
  have z49 := Zr_eS (o := 87) (f := 36) (t := 111) z48 (by decide) rfl (by decide)
  refine v_aload_n dX14_init_5039 0 rfl rfl ?_
  refine v_iconst dX14_init_5040 ?_
  refine v_nA24 z49 ⟨rfl, rfl, Or.inr ⟨rfl, rfl, show (88 : Nat) ≤ 112 from by decide⟩⟩ (by decide) rfl (rgl rfl) (by decide) (by decide) (And.intro (Or.inl (by decide)) (trivial)) (And.intro (Or.inl (by decide)) (trivial)) q459 dX14_init_5041 ?_
  have z50 := Zr_sA (c := 112) (x := (0, fun _ => 0)) (Zr_new z49 (by decide)) (by decide)
  refine v_putS (f := 38) (t := 112) cf14 (by decide) (by decide) rfl rfl rfl (by decide) q2408 dX14_init_5043 (Or.inl rfl) rfl (fun _ => rfl) (fun _ => rfl) ?_
  have z51 := Zr_eS (o := 87) (f := 38) (t := 112) z50 (by decide) rfl (by decide)
  refine v_aload_n dX14_init_5046 0 rfl rfl ?_
  refine v_iconst dX14_init_5047 ?_
  refine v_nA24 z51 ⟨rfl, rfl, Or.inr ⟨rfl, rfl, show (88 : Nat) ≤ 113 from by decide⟩⟩ (by decide) rfl (rgl rfl) (by decide) (by decide) (And.intro (Or.inl (by decide)) (trivial)) (And.intro (Or.inl (by decide)) (trivial)) q459 dX14_init_5048 ?_
  have z52 := Zr_sA (c := 113) (x := (0, fun _ => 0)) (Zr_new z51 (by decide)) (by decide)
  refine v_putS (f := 39) (t := 113) cf14 (by decide) (by decide) rfl rfl rfl (by decide) q2409 dX14_init_5050 (Or.inl rfl) rfl (fun _ => rfl) (fun _ => rfl) ?_
  have z53 := Zr_eS (o := 87) (f := 39) (t := 113) z52 (by decide) rfl (by decide)
  refine v_aload_n dX14_init_5053 0 rfl rfl ?_
  refine v_iconst dX14_init_5054 ?_
  refine v_nA26 z53 ⟨rfl, rfl, Or.inr ⟨rfl, rfl, show (88 : Nat) ≤ 114 from by decide⟩⟩ (by decide) rfl (rgl rfl) (by decide) (by decide) (And.intro (Or.inl (by decide)) (trivial)) (And.intro (Or.inl (by decide)) (trivial)) q755 dX14_init_5055 ?_
  have z54 := Zr_sA (c := 114) (x := (0, fun _ => 0)) (Zr_new z53 (by decide)) (by decide)
  refine v_putS (f := 40) (t := 114) cf14 (by decide) (by decide) rfl rfl rfl (by decide) q2410 dX14_init_5057 (Or.inl rfl) rfl (fun _ => rfl) (fun _ => rfl) ?_
  have z55 := Zr_eS (o := 87) (f := 40) (t := 114) z54 (by decide) rfl (by decide)
  refine v_aload_n dX14_init_5060 0 rfl rfl ?_
  refine v_iconst dX14_init_5061 ?_
  refine v_nA24 z55 ⟨rfl, rfl, Or.inr ⟨rfl, rfl, show (88 : Nat) ≤ 115 from by decide⟩⟩ (by decide) rfl (rgl rfl) (by decide) (by decide) (And.intro (Or.inl (by decide)) (trivial)) (And.intro (Or.inl (by decide)) (trivial)) q459 dX14_init_5062 ?_
  have z56 := Zr_sA (c := 115) (x := (0, fun _ => 0)) (Zr_new z55 (by decide)) (by decide)
  refine v_putS (f := 41) (t := 115) cf14 (by decide) (by decide) rfl rfl rfl (by decide) q2411 dX14_init_5064 (Or.inl rfl) rfl (fun _ => rfl) (fun _ => rfl) ?_
  have z57 := Zr_eS (o := 87) (f := 41) (t := 115) z56 (by decide) rfl (by decide)
  refine v_aload_n dX14_init_5067 0 rfl rfl ?_
  refine v_iconst dX14_init_5068 ?_
  refine v_nA24 z57 ⟨rfl, rfl, Or.inr ⟨rfl, rfl, show (88 : Nat) ≤ 116 from by decide⟩⟩ (by decide) rfl (rgl rfl) (by decide) (by decide) (And.intro (Or.inl (by decide)) (trivial)) (And.intro (Or.inl (by decide)) (trivial)) q459 dX14_init_5069 ?_
  have z58 := Zr_sA (c := 116) (x := (0, fun _ => 0)) (Zr_new z57 (by decide)) (by decide)
  refine v_putS (f := 43) (t := 116) cf14 (by decide) (by decide) rfl rfl rfl (by decide) q2413 dX14_init_5071 (Or.inl rfl) rfl (fun _ => rfl) (fun _ => rfl) ?_
  have z59 := Zr_eS (o := 87) (f := 43) (t := 116) z58 (by decide) rfl (by decide)
  refine v_aload_n dX14_init_5074 0 rfl rfl ?_
  refine v_iconst dX14_init_5075 ?_
  refine v_nA24 z59 ⟨rfl, rfl, Or.inr ⟨rfl, rfl, show (88 : Nat) ≤ 117 from by decide⟩⟩ (by decide) rfl (rgl rfl) (by decide) (by decide) (And.intro (Or.inl (by decide)) (trivial)) (And.intro (Or.inl (by decide)) (trivial)) q459 dX14_init_5076 ?_
  have z60 := Zr_sA (c := 117) (x := (0, fun _ => 0)) (Zr_new z59 (by decide)) (by decide)
  refine v_putS (f := 44) (t := 117) cf14 (by decide) (by decide) rfl rfl rfl (by decide) q2414 dX14_init_5078 (Or.inl rfl) rfl (fun _ => rfl) (fun _ => rfl) ?_
  have z61 := Zr_eS (o := 87) (f := 44) (t := 117) z60 (by decide) rfl (by decide)
  refine v_aload_n dX14_init_5081 0 rfl rfl ?_
  refine v_iconst dX14_init_5082 ?_
  refine v_nA24 z61 ⟨rfl, rfl, Or.inr ⟨rfl, rfl, show (88 : Nat) ≤ 118 from by decide⟩⟩ (by decide) rfl (rgl rfl) (by decide) (by decide) (And.intro (Or.inl (by decide)) (trivial)) (And.intro (Or.inl (by decide)) (trivial)) q459 dX14_init_5083 ?_
  have z62 := Zr_sA (c := 118) (x := (0, fun _ => 0)) (Zr_new z61 (by decide)) (by decide)
  refine v_putS (f := 45) (t := 118) cf14 (by decide) (by decide) rfl rfl rfl (by decide) q2415 dX14_init_5085 (Or.inl rfl) rfl (fun _ => rfl) (fun _ => rfl) ?_
  have z63 := Zr_eS (o := 87) (f := 45) (t := 118) z62 (by decide) rfl (by decide)
  refine v_aload_n dX14_init_5088 0 rfl rfl ?_
  refine v_iconst dX14_init_5089 ?_
  refine v_nA24 z63 ⟨rfl, rfl, Or.inr ⟨rfl, rfl, show (88 : Nat) ≤ 119 from by decide⟩⟩ (by decide) rfl (rgl rfl) (by decide) (by decide) (And.intro (Or.inl (by decide)) (trivial)) (And.intro (Or.inl (by decide)) (trivial)) q459 dX14_init_5090 ?_
  have z64 := Zr_sA (c := 119) (x := (0, fun _ => 0)) (Zr_new z63 (by decide)) (by decide)
  refine v_putS (f := 46) (t := 119) cf14 (by decide) (by decide) rfl rfl rfl (by decide) q2416 dX14_init_5092 (Or.inl rfl) rfl (fun _ => rfl) (fun _ => rfl) ?_
  have z65 := Zr_eS (o := 87) (f := 46) (t := 119) z64 (by decide) rfl (by decide)
  refine v_aload_n dX14_init_5095 0 rfl rfl ?_
  refine v_iconst dX14_init_5096 ?_
  refine v_nA24 z65 ⟨rfl, rfl, Or.inr ⟨rfl, rfl, show (88 : Nat) ≤ 120 from by decide⟩⟩ (by decide) rfl (rgl rfl) (by decide) (by decide) (And.intro (Or.inl (by decide)) (trivial)) (And.intro (Or.inl (by decide)) (trivial)) q459 dX14_init_5097 ?_
  have z66 := Zr_sA (c := 120) (x := (0, fun _ => 0)) (Zr_new z65 (by decide)) (by decide)
  refine v_putS (f := 47) (t := 120) cf14 (by decide) (by decide) rfl rfl rfl (by decide) q2417 dX14_init_5099 (Or.inl rfl) rfl (fun _ => rfl) (fun _ => rfl) ?_
  have z67 := Zr_eS (o := 87) (f := 47) (t := 120) z66 (by decide) rfl (by decide)
  refine v_aload_n dX14_init_5102 0 rfl rfl ?_
  refine v_iconst dX14_init_5103 ?_
  refine v_nA24 z67 ⟨rfl, rfl, Or.inr ⟨rfl, rfl, show (88 : Nat) ≤ 121 from by decide⟩⟩ (by decide) rfl (rgl rfl) (by decide) (by decide) (And.intro (Or.inl (by decide)) (trivial)) (And.intro (Or.inl (by decide)) (trivial)) q459 dX14_init_5104 ?_
  have z68 := Zr_sA (c := 121) (x := (0, fun _ => 0)) (Zr_new z67 (by decide)) (by decide)
  refine v_putS (f := 49) (t := 121) cf14 (by decide) (by decide) rfl rfl rfl (by decide) q2419 dX14_init_5106 (Or.inl rfl) rfl (fun _ => rfl) (fun _ => rfl) ?_
  have z69 := Zr_eS (o := 87) (f := 49) (t := 121) z68 (by decide) rfl (by decide)
  refine v_aload_n dX14_init_5109 0 rfl rfl ?_
  refine v_iconst dX14_init_5110 ?_
  refine v_nA26 z69 ⟨rfl, rfl, Or.inr ⟨rfl, rfl, show (88 : Nat) ≤ 122 from by decide⟩⟩ (by decide) rfl (rgl rfl) (by decide) (by decide) (And.intro (Or.inl (by decide)) (trivial)) (And.intro (Or.inl (by decide)) (trivial)) q755 dX14_init_5111 ?_
  have z70 := Zr_sA (c := 122) (x := (0, fun _ => 0)) (Zr_new z69 (by decide)) (by decide)
  refine v_putS (f := 50) (t := 122) cf14 (by decide) (by decide) rfl rfl rfl (by decide) q2420 dX14_init_5113 (Or.inl rfl) rfl (fun _ => rfl) (fun _ => rfl) ?_
  have z71 := Zr_eS (o := 87) (f := 50) (t := 122) z70 (by decide) rfl (by decide)
  refine v_aload_n dX14_init_5116 0 rfl rfl ?_
  refine v_iconst dX14_init_5117 ?_
  refine v_nA24 z71 ⟨rfl, rfl, Or.inr ⟨rfl, rfl, show (88 : Nat) ≤ 123 from by decide⟩⟩ (by decide) rfl (rgl rfl) (by decide) (by decide) (And.intro (Or.inl (by decide)) (trivial)) (And.intro (Or.inl (by decide)) (trivial)) q459 dX14_init_5118 ?_
  have z72 := Zr_sA (c := 123) (x := (0, fun _ => 0)) (Zr_new z71 (by decide)) (by decide)
  refine v_putS (f := 51) (t := 123) cf14 (by decide) (by decide) rfl rfl rfl (by decide) q2421 dX14_init_5120 (Or.inl rfl) rfl (fun _ => rfl) (fun _ => rfl) ?_
  have z73 := Zr_eS (o := 87) (f := 51) (t := 123) z72 (by decide) rfl (by decide)
  refine v_aload_n dX14_init_5123 0 rfl rfl ?_
  refine v_iconst dX14_init_5124 ?_
  refine v_nA24 z73 ⟨rfl, rfl, Or.inr ⟨rfl, rfl, show (88 : Nat) ≤ 124 from by decide⟩⟩ (by decide) rfl (rgl rfl) (by decide) (by decide) (And.intro (Or.inl (by decide)) (trivial)) (And.intro (Or.inl (by decide)) (trivial)) q459 dX14_init_5125 ?_
  have z74 := Zr_sA (c := 124) (x := (0, fun _ => 0)) (Zr_new z73 (by decide)) (by decide)
  refine v_putS (f := 52) (t := 124) cf14 (by decide) (by decide) rfl rfl rfl (by decide) q2422 dX14_init_5127 (Or.inl rfl) rfl (fun _ => rfl) (fun _ => rfl) ?_
  have z75 := Zr_eS (o := 87) (f := 52) (t := 124) z74 (by decide) rfl (by decide)
  refine v_aload_n dX14_init_5130 0 rfl rfl ?_
  refine v_iconst dX14_init_5131 ?_
  refine v_nA24 z75 ⟨rfl, rfl, Or.inr ⟨rfl, rfl, show (88 : Nat) ≤ 125 from by decide⟩⟩ (by decide) rfl (rgl rfl) (by decide) (by decide) (And.intro (Or.inl (by decide)) (trivial)) (And.intro (Or.inl (by decide)) (trivial)) q459 dX14_init_5132 ?_
  have z76 := Zr_sA (c := 125) (x := (0, fun _ => 0)) (Zr_new z75 (by decide)) (by decide)
  refine v_putS (f := 53) (t := 125) cf14 (by decide) (by decide) rfl rfl rfl (by decide) q2423 dX14_init_5134 (Or.inl rfl) rfl (fun _ => rfl) (fun _ => rfl) ?_
  have z77 := Zr_eS (o := 87) (f := 53) (t := 125) z76 (by decide) rfl (by decide)
  refine v_aload_n dX14_init_5137 0 rfl rfl ?_
  refine v_iconst dX14_init_5138 ?_
  refine v_nA24 z77 ⟨rfl, rfl, Or.inr ⟨rfl, rfl, show (88 : Nat) ≤ 126 from by decide⟩⟩ (by decide) rfl (rgl rfl) (by decide) (by decide) (And.intro (Or.inl (by decide)) (trivial)) (And.intro (Or.inl (by decide)) (trivial)) q459 dX14_init_5139 ?_
  have z78 := Zr_sA (c := 126) (x := (0, fun _ => 0)) (Zr_new z77 (by decide)) (by decide)
  refine v_putS (f := 55) (t := 126) cf14 (by decide) (by decide) rfl rfl rfl (by decide) q2425 dX14_init_5141 (Or.inl rfl) rfl (fun _ => rfl) (fun _ => rfl) ?_
  have z79 := Zr_eS (o := 87) (f := 55) (t := 126) z78 (by decide) rfl (by decide)
  refine v_aload_n dX14_init_5144 0 rfl rfl ?_
  refine v_iconst dX14_init_5145 ?_
  refine v_nA26 z79 ⟨rfl, rfl, Or.inr ⟨rfl, rfl, show (88 : Nat) ≤ 127 from by decide⟩⟩ (by decide) rfl (rgl rfl) (by decide) (by decide) (And.intro (Or.inl (by decide)) (trivial)) (And.intro (Or.inl (by decide)) (trivial)) q755 dX14_init_5146 ?_
  have z80 := Zr_sA (c := 127) (x := (0, fun _ => 0)) (Zr_new z79 (by decide)) (by decide)
  refine v_putS (f := 56) (t := 127) cf14 (by decide) (by decide) rfl rfl rfl (by decide) q2426 dX14_init_5148 (Or.inl rfl) rfl (fun _ => rfl) (fun _ => rfl) ?_
  have z81 := Zr_eS (o := 87) (f := 56) (t := 127) z80 (by decide) rfl (by decide)
  refine v_aload_n dX14_init_5151 0 rfl rfl ?_
  refine v_iconst dX14_init_5152 ?_
  refine v_nA24 z81 ⟨rfl, rfl, Or.inr ⟨rfl, rfl, show (88 : Nat) ≤ 128 from by decide⟩⟩ (by decide) rfl (rgl rfl) (by decide) (by decide) (And.intro (Or.inl (by decide)) (trivial)) (And.intro (Or.inl (by decide)) (trivial)) q459 dX14_init_5153 ?_
  have z82 := Zr_sA (c := 128) (x := (0, fun _ => 0)) (Zr_new z81 (by decide)) (by decide)
  refine v_putS (f := 57) (t := 128) cf14 (by decide) (by decide) rfl rfl rfl (by decide) q2427 dX14_init_5155 (Or.inl rfl) rfl (fun _ => rfl) (fun _ => rfl) ?_
  have z83 := Zr_eS (o := 87) (f := 57) (t := 128) z82 (by decide) rfl (by decide)
  refine v_aload_n dX14_init_5158 0 rfl rfl ?_
  refine v_iconst dX14_init_5159 ?_
  refine v_nA26 z83 ⟨rfl, rfl, Or.inr ⟨rfl, rfl, show (88 : Nat) ≤ 129 from by decide⟩⟩ (by decide) rfl (rgl rfl) (by decide) (by decide) (And.intro (Or.inl (by decide)) (trivial)) (And.intro (Or.inl (by decide)) (trivial)) q755 dX14_init_5160 ?_
  have z84 := Zr_sA (c := 129) (x := (0, fun _ => 0)) (Zr_new z83 (by decide)) (by decide)
  refine v_putS (f := 58) (t := 129) cf14 (by decide) (by decide) rfl rfl rfl (by decide) q2428 dX14_init_5162 (Or.inl rfl) rfl (fun _ => rfl) (fun _ => rfl) ?_
  have z85 := Zr_eS (o := 87) (f := 58) (t := 129) z84 (by decide) rfl (by decide)
  refine v_aload_n dX14_init_5165 0 rfl rfl ?_
  refine v_iconst dX14_init_5166 ?_
  refine v_nA24 z85 ⟨rfl, rfl, Or.inr ⟨rfl, rfl, show (88 : Nat) ≤ 130 from by decide⟩⟩ (by decide) rfl (rgl rfl) (by decide) (by decide) (And.intro (Or.inl (by decide)) (trivial)) (And.intro (Or.inl (by decide)) (trivial)) q459 dX14_init_5167 ?_
  have z86 := Zr_sA (c := 130) (x := (0, fun _ => 0)) (Zr_new z85 (by decide)) (by decide)
  refine v_putS (f := 59) (t := 130) cf14 (by decide) (by decide) rfl rfl rfl (by decide) q2429 dX14_init_5169 (Or.inl rfl) rfl (fun _ => rfl) (fun _ => rfl) ?_
  have z87 := Zr_eS (o := 87) (f := 59) (t := 130) z86 (by decide) rfl (by decide)
  refine v_aload_n dX14_init_5172 0 rfl rfl ?_
  refine v_iconst dX14_init_5173 ?_
  refine v_nA24 z87 ⟨rfl, rfl, Or.inr ⟨rfl, rfl, show (88 : Nat) ≤ 131 from by decide⟩⟩ (by decide) rfl (rgl rfl) (by decide) (by decide) (And.intro (Or.inl (by decide)) (trivial)) (And.intro (Or.inl (by decide)) (trivial)) q459 dX14_init_5174 ?_
  have z88 := Zr_sA (c := 131) (x := (0, fun _ => 0)) (Zr_new z87 (by decide)) (by decide)
  refine v_putS (f := 60) (t := 131) cf14 (by decide) (by decide) rfl rfl rfl (by decide) q2430 dX14_init_5176 (Or.inl rfl) rfl (fun _ => rfl) (fun _ => rfl) ?_
  have z89 := Zr_eS (o := 87) (f := 60) (t := 131) z88 (by decide) rfl (by decide)
  refine v_aload_n dX14_init_5179 0 rfl rfl ?_
  refine v_iconst dX14_init_5180 ?_
  refine v_nA24 z89 ⟨rfl, rfl, Or.inr ⟨rfl, rfl, show (88 : Nat) ≤ 132 from by decide⟩⟩ (by decide) rfl (rgl rfl) (by decide) (by decide) (And.intro (Or.inl (by decide)) (trivial)) (And.intro (Or.inl (by decide)) (trivial)) q459 dX14_init_5181 ?_
  have z90 := Zr_sA (c := 132) (x := (0, fun _ => 0)) (Zr_new z89 (by decide)) (by decide)
  refine v_putS (f := 62) (t := 132) cf14 (by decide) (by decide) rfl rfl rfl (by decide) q2432 dX14_init_5183 (Or.inl rfl) rfl (fun _ => rfl) (fun _ => rfl) ?_
  have z91 := Zr_eS (o := 87) (f := 62) (t := 132) z90 (by decide) rfl (by decide)
  refine v_aload_n dX14_init_5186 0 rfl rfl ?_
  refine v_iconst dX14_init_5187 ?_
  refine v_nA24 z91 ⟨rfl, rfl, Or.inr ⟨rfl, rfl, show (88 : Nat) ≤ 133 from by decide⟩⟩ (by decide) rfl (rgl rfl) (by decide) (by decide) (And.intro (Or.inl (by decide)) (trivial)) (And.intro (Or.inl (by decide)) (trivial)) q459 dX14_init_5188 ?_
  have z92 := Zr_sA (c := 133) (x := (0, fun _ => 0)) (Zr_new z91 (by decide)) (by decide)
  refine v_putS (f := 63) (t := 133) cf14 (by decide) (by decide) rfl rfl rfl (by decide) q2433 dX14_init_5190 (Or.inl rfl) rfl (fun _ => rfl) (fun _ => rfl) ?_
  have z93 := Zr_eS (o := 87) (f := 63) (t := 133) z92 (by decide) rfl (by decide)
  refine v_aload_n dX14_init_5193 0 rfl rfl ?_
  refine v_iconst dX14_init_5194 ?_
  refine v_nA24 z93 ⟨rfl, rfl, Or.inr ⟨rfl, rfl, show (88 : Nat) ≤ 134 from by decide⟩⟩ (by decide) rfl (rgl rfl) (by decide) (by decide) (And.intro (Or.inl (by decide)) (trivial)) (And.intro (Or.inl (by decide)) (trivial)) q459 dX14_init_5195 ?_
  have z94 := Zr_sA (c := 134) (x := (0, fun _ => 0)) (Zr_new z93 (by decide)) (by decide)
  refine v_putS (f := 64) (t := 134) cf14 (by decide) (by decide) rfl rfl rfl (by decide) q2434 dX14_init_5197 (Or.inl rfl) rfl (fun _ => rfl) (fun _ => rfl) ?_
  have z95 := Zr_eS (o := 87) (f := 64) (t := 134) z94 (by decide) rfl (by decide)
  refine v_aload_n dX14_init_5200 0 rfl rfl ?_
  refine v_iconst dX14_init_5201 ?_
  refine v_nA26 z95 ⟨rfl, rfl, Or.inr ⟨rfl, rfl, show (88 : Nat) ≤ 135 from by decide⟩⟩ (by decide) rfl (rgl rfl) (by decide) (by decide) (And.intro (Or.inl (by decide)) (trivial)) (And.intro (Or.inl (by decide)) (trivial)) q755 dX14_init_5202 ?_
  have z96 := Zr_sA (c := 135) (x := (0, fun _ => 0)) (Zr_new z95 (by decide)) (by decide)
  refine v_putS (f := 65) (t := 135) cf14 (by decide) (by decide) rfl rfl rfl (by decide) q2435 dX14_init_5204 (Or.inl rfl) rfl (fun _ => rfl) (fun _ => rfl) ?_
  have z97 := Zr_eS (o := 87) (f := 65) (t := 135) z96 (by decide) rfl (by decide)
  refine v_aload_n dX14_init_5207 0 rfl rfl ?_
  refine v_iconst dX14_init_5208 ?_
  refine v_nA24 z97 ⟨rfl, rfl, Or.inr ⟨rfl, rfl, show (88 : Nat) ≤ 136 from by decide⟩⟩ (by decide) rfl (rgl rfl) (by decide) (by decide) (And.intro (Or.inl (by decide)) (trivial)) (And.intro (Or.inl (by decide)) (trivial)) q459 dX14_init_5209 ?_
  have z98 := Zr_sA (c := 136) (x := (0, fun _ => 0)) (Zr_new z97 (by decide)) (by decide)
  refine v_putS (f := 66) (t := 136) cf14 (by decide) (by decide) rfl rfl rfl (by decide) q2436 dX14_init_5211 (Or.inl rfl) rfl (fun _ => rfl) (fun _ => rfl) ?_
  have z99 := Zr_eS (o := 87) (f := 66) (t := 136) z98 (by decide) rfl (by decide)
  refine v_aload_n dX14_init_5214 0 rfl rfl ?_
  refine v_iconst dX14_init_5215 ?_
  refine v_nA24 z99 ⟨rfl, rfl, Or.inr ⟨rfl, rfl, show (88 : Nat) ≤ 137 from by decide⟩⟩ (by decide) rfl (rgl rfl) (by decide) (by decide) (And.intro (Or.inl (by decide)) (trivial)) (And.intro (Or.inl (by decide)) (trivial)) q459 dX14_init_5216 ?_
  have z100 := Zr_sA (c := 137) (x := (0, fun _ => 0)) (Zr_new z99 (by decide)) (by decide)
  refine v_putS (f := 67) (t := 137) cf14 (by decide) (by decide) rfl rfl rfl (by decide) q2437 dX14_init_5218 (Or.inl rfl) rfl (fun _ => rfl) (fun _ => rfl) ?_
  have z101 := Zr_eS (o := 87) (f := 67) (t := 137) z100 (by decide) rfl (by decide)
  refine v_aload_n dX14_init_5221 0 rfl rfl ?_
  refine v_iconst dX14_init_5222 ?_
  refine v_nA24 z101 ⟨rfl, rfl, Or.inr ⟨rfl, rfl, show (88 : Nat) ≤ 138 from by decide⟩⟩ (by decide) rfl (rgl rfl) (by decide) (by decide) (And.intro (Or.inl (by decide)) (trivial)) (And.intro (Or.inl (by decide)) (trivial)) q459 dX14_init_5223 ?_
  have z102 := Zr_sA (c := 138) (x := (0, fun _ => 0)) (Zr_new z101 (by decide)) (by decide)
  refine v_putS (f := 68) (t := 138) cf14 (by decide) (by decide) rfl rfl rfl (by decide) q2438 dX14_init_5225 (Or.inl rfl) rfl (fun _ => rfl) (fun _ => rfl) ?_
  have z103 := Zr_eS (o := 87) (f := 68) (t := 138) z102 (by decide) rfl (by decide)
  refine v_aload_n dX14_init_5228 0 rfl rfl ?_
  refine v_iconst dX14_init_5229 ?_
  refine v_nA24 z103 ⟨rfl, rfl, Or.inr ⟨rfl, rfl, show (88 : Nat) ≤ 139 from by decide⟩⟩ (by decide) rfl (rgl rfl) (by decide) (by decide) (And.intro (Or.inl (by decide)) (trivial)) (And.intro (Or.inl (by decide)) (trivial)) q459 dX14_init_5230 ?_
  have z104 := Zr_sA (c := 139) (x := (0, fun _ => 0)) (Zr_new z103 (by decide)) (by decide)
  refine v_putS (f := 70) (t := 139) cf14 (by decide) (by decide) rfl rfl rfl (by decide) q2440 dX14_init_5232 (Or.inl rfl) rfl (fun _ => rfl) (fun _ => rfl) ?_
  have z105 := Zr_eS (o := 87) (f := 70) (t := 139) z104 (by decide) rfl (by decide)
  refine v_aload_n dX14_init_5235 0 rfl rfl ?_
  refine v_iconst dX14_init_5236 ?_
  refine v_nA24 z105 ⟨rfl, rfl, Or.inr ⟨rfl, rfl, show (88 : Nat) ≤ 140 from by decide⟩⟩ (by decide) rfl (rgl rfl) (by decide) (by decide) (And.intro (Or.inl (by decide)) (trivial)) (And.intro (Or.inl (by decide)) (trivial)) q459 dX14_init_5237 ?_
  have z106 := Zr_sA (c := 140) (x := (0, fun _ => 0)) (Zr_new z105 (by decide)) (by decide)
  refine v_putS (f := 71) (t := 140) cf14 (by decide) (by decide) rfl rfl rfl (by decide) q2441 dX14_init_5239 (Or.inl rfl) rfl (fun _ => rfl) (fun _ => rfl) ?_
  have z107 := Zr_eS (o := 87) (f := 71) (t := 140) z106 (by decide) rfl (by decide)
  refine v_aload_n dX14_init_5242 0 rfl rfl ?_
  refine v_iconst dX14_init_5243 ?_
  refine v_nA24 z107 ⟨rfl, rfl, Or.inr ⟨rfl, rfl, show (88 : Nat) ≤ 141 from by decide⟩⟩ (by decide) rfl (rgl rfl) (by decide) (by decide) (And.intro (Or.inl (by decide)) (trivial)) (And.intro (Or.inl (by decide)) (trivial)) q459 dX14_init_5244 ?_
  have z108 := Zr_sA (c := 141) (x := (0, fun _ => 0)) (Zr_new z107 (by decide)) (by decide)
  refine v_putS (f := 73) (t := 141) cf14 (by decide) (by decide) rfl rfl rfl (by decide) q2443 dX14_init_5246 (Or.inl rfl) rfl (fun _ => rfl) (fun _ => rfl) ?_
  have z109 := Zr_eS (o := 87) (f := 73) (t := 141) z108 (by decide) rfl (by decide)
  refine v_aload_n dX14_init_5249 0 rfl rfl ?_
  refine v_iconst dX14_init_5250 ?_
  refine v_nA24 z109 ⟨rfl, rfl, Or.inr ⟨rfl, rfl, show (88 : Nat) ≤ 142 from by decide⟩⟩ (by decide) rfl (rgl rfl) (by decide) (by decide) (And.intro (Or.inl (by decide)) (trivial)) (And.intro (Or.inl (by decide)) (trivial)) q459 dX14_init_5251 ?_
  have z110 := Zr_sA (c := 142) (x := (0, fun _ => 0)) (Zr_new z109 (by decide)) (by decide)
  refine v_putS (f := 74) (t := 142) cf14 (by decide) (by decide) rfl rfl rfl (by decide) q2444 dX14_init_5253 (Or.inl rfl) rfl (fun _ => rfl) (fun _ => rfl) ?_
  have z111 := Zr_eS (o := 87) (f := 74) (t := 142) z110 (by decide) rfl (by decide)
  refine v_aload_n dX14_init_5256 0 rfl rfl ?_
  refine v_iconst dX14_init_5257 ?_
  refine v_nA24 z111 ⟨rfl, rfl, Or.inr ⟨rfl, rfl, show (88 : Nat) ≤ 143 from by decide⟩⟩ (by decide) rfl (rgl rfl) (by decide) (by decide) (And.intro (Or.inl (by decide)) (trivial)) (And.intro (Or.inl (by decide)) (trivial)) q459 dX14_init_5258 ?_
  have z112 := Zr_sA (c := 143) (x := (0, fun _ => 0)) (Zr_new z111 (by decide)) (by decide)
  refine v_putS (f := 75) (t := 143) cf14 (by decide) (by decide) rfl rfl rfl (by decide) q2445 dX14_init_5260 (Or.inl rfl) rfl (fun _ => rfl) (fun _ => rfl) ?_
  have z113 := Zr_eS (o := 87) (f := 75) (t := 143) z112 (by decide) rfl (by decide)
  refine v_aload_n dX14_init_5263 0 rfl rfl ?_
  refine v_iconst dX14_init_5264 ?_
  refine v_nA24 z113 ⟨rfl, rfl, Or.inr ⟨rfl, rfl, show (88 : Nat) ≤ 144 from by decide⟩⟩ (by decide) rfl (rgl rfl) (by decide) (by decide) (And.intro (Or.inl (by decide)) (trivial)) (And.intro (Or.inl (by decide)) (trivial)) q459 dX14_init_5265 ?_
  have z114 := Zr_sA (c := 144) (x := (0, fun _ => 0)) (Zr_new z113 (by decide)) (by decide)
  refine v_putS (f := 77) (t := 144) cf14 (by decide) (by decide) rfl rfl rfl (by decide) q2447 dX14_init_5267 (Or.inl rfl) rfl (fun _ => rfl) (fun _ => rfl) ?_
  have z115 := Zr_eS (o := 87) (f := 77) (t := 144) z114 (by decide) rfl (by decide)
  refine v_aload_n dX14_init_5270 0 rfl rfl ?_
  refine v_bipush dX14_init_5271 rfl ?_
  refine v_nA24 z115 ⟨rfl, rfl, Or.inr ⟨rfl, rfl, show (88 : Nat) ≤ 145 from by decide⟩⟩ (by decide) rfl (rgl rfl) (by decide) (by decide) (And.intro (Or.inl (by decide)) (trivial)) (And.intro (Or.inl (by decide)) (trivial)) q459 dX14_init_5273 ?_
  have z116 := Zr_sA (c := 145) (x := (104, fun _ => 0)) (Zr_new z115 (by decide)) (by decide)
  refine v_putS (f := 80) (t := 145) cf14 (by decide) (by decide) rfl rfl rfl (by decide) q2450 dX14_init_5275 (Or.inr ⟨rfl, rfl, rfl, rfl, rfl, rfl⟩) rfl (fun _ => rfl) (fun _ => rfl) ?_
  have z117 := Zr_eS (o := 87) (f := 80) (t := 145) z116 (by decide) rfl (by decide)
  refine v_aload_n dX14_init_5278 0 rfl rfl ?_
  refine v_bipush dX14_init_5279 rfl ?_
  refine v_nA24 z117 ⟨rfl, rfl, Or.inr ⟨rfl, rfl, show (88 : Nat) ≤ 146 from by decide⟩⟩ (by decide) rfl (rgl rfl) (by decide) (by decide) (And.intro (Or.inl (by decide)) (trivial)) (And.intro (Or.inl (by decide)) (trivial)) q459 dX14_init_5281 ?_
  have z118 := Zr_sA (c := 146) (x := (104, fun _ => 0)) (Zr_new z117 (by decide)) (by decide)
  refine v_putS (f := 81) (t := 146) cf14 (by decide) (by decide) rfl rfl rfl (by decide) q2451 dX14_init_5283 (Or.inr ⟨rfl, rfl, rfl, rfl, rfl, rfl⟩) rfl (fun _ => rfl) (fun _ => rfl) ?_
  have z119 := Zr_eS (o := 87) (f := 81) (t := 146) z118 (by decide) rfl (by decide)
  refine v_aload_n dX14_init_5286 0 rfl rfl ?_
  refine v_bipush dX14_init_5287 rfl ?_
  refine v_nA24 z119 ⟨rfl, rfl, Or.inr ⟨rfl, rfl, show (88 : Nat) ≤ 147 from by decide⟩⟩ (by decide) rfl (rgl rfl) (by decide) (by decide) (And.intro (Or.inl (by decide)) (trivial)) (And.intro (Or.inl (by decide)) (trivial)) q459 dX14_init_5289 ?_
  have z120 := Zr_sA (c := 147) (x := (64, fun _ => 0)) (Zr_new z119 (by decide)) (by decide)
  refine v_putS (f := 86) (t := 147) cf14 (by decide) (by decide) rfl rfl rfl (by decide) q2456 dX14_init_5291 (Or.inl rfl) rfl (fun _ => rfl) (fun _ => rfl) ?_
  have z121 := Zr_eS (o := 87) (f := 86) (t := 147) z120 (by decide) rfl (by decide)
  refine v_aload_n dX14_init_5294 0 rfl rfl ?_
  refine v_bipush dX14_init_5295 rfl ?_
  refine v_nA24 z121 ⟨rfl, rfl, Or.inr ⟨rfl, rfl, show (88 : Nat) ≤ 148 from by decide⟩⟩ (by decide) rfl (rgl rfl) (by decide) (by decide) (And.intro (Or.inl (by decide)) (trivial)) (And.intro (Or.inl (by decide)) (trivial)) q459 dX14_init_5297 ?_
  have z122 := Zr_sA (c := 148) (x := (64, fun _ => 0)) (Zr_new z121 (by decide)) (by decide)
  refine v_putS (f := 87) (t := 148) cf14 (by decide) (by decide) rfl rfl rfl (by decide) q2457 dX14_init_5299 (Or.inl rfl) rfl (fun _ => rfl) (fun _ => rfl) ?_
  have z123 := Zr_eS (o := 87) (f := 87) (t := 148) z122 (by decide) rfl (by decide)
  refine v_aload_n dX14_init_5302 0 rfl rfl ?_
  refine v_sipush dX14_init_5303 rfl ?_
  refine v_nA24 z123 ⟨rfl, rfl, Or.inr ⟨rfl, rfl, show (88 : Nat) ≤ 149 from by decide⟩⟩ (by decide) rfl (rgl rfl) (by decide) (by decide) (And.intro (Or.inl (by decide)) (trivial)) (And.intro (Or.inl (by decide)) (trivial)) q459 dX14_init_5306 ?_
  have z124 := Zr_sA (c := 149) (x := (1024, fun _ => 0)) (Zr_new z123 (by decide)) (by decide)
  refine v_putS (f := 88) (t := 149) cf14 (by decide) (by decide) rfl rfl rfl (by decide) q2458 dX14_init_5308 (Or.inl rfl) rfl (fun _ => rfl) (fun _ => rfl) ?_
  have z125 := Zr_eS (o := 87) (f := 88) (t := 149) z124 (by decide) rfl (by decide)
  refine v_aload_n dX14_init_5311 0 rfl rfl ?_
  refine v_iconst dX14_init_5312 ?_
  refine v_nA24 z125 ⟨rfl, rfl, Or.inr ⟨rfl, rfl, show (88 : Nat) ≤ 150 from by decide⟩⟩ (by decide) rfl (rgl rfl) (by decide) (by decide) (And.intro (Or.inl (by decide)) (trivial)) (And.intro (Or.inl (by decide)) (trivial)) q459 dX14_init_5313 ?_
  have z126 := Zr_sA (c := 150) (x := (0, fun _ => 0)) (Zr_new z125 (by decide)) (by decide)
  refine v_putS (f := 89) (t := 150) cf14 (by decide) (by decide) rfl rfl rfl (by decide) q2459 dX14_init_5315 (Or.inl rfl) rfl (fun _ => rfl) (fun _ => rfl) ?_
  have z127 := Zr_eS (o := 87) (f := 89) (t := 150) z126 (by decide) rfl (by decide)
  refine v_aload_n dX14_init_5318 0 rfl rfl ?_
  refine v_iconst dX14_init_5319 ?_
  refine v_nA24 z127 ⟨rfl, rfl, Or.inr ⟨rfl, rfl, show (88 : Nat) ≤ 151 from by decide⟩⟩ (by decide) rfl (rgl rfl) (by decide) (by decide) (And.intro (Or.inl (by decide)) (trivial)) (And.intro (Or.inl (by decide)) (trivial)) q459 dX14_init_5320 ?_
  have z128 := Zr_sA (c := 151) (x := (0, fun _ => 0)) (Zr_new z127 (by decide)) (by decide)
  refine v_putS (f := 90) (t := 151) cf14 (by decide) (by decide) rfl rfl rfl (by decide) q2460 dX14_init_5322 (Or.inl rfl) rfl (fun _ => rfl) (fun _ => rfl) ?_
  have z129 := Zr_eS (o := 87) (f := 90) (t := 151) z128 (by decide) rfl (by decide)
  refine v_aload_n dX14_init_5325 0 rfl rfl ?_
  refine v_sipush dX14_init_5326 rfl ?_
  refine v_nA24 z129 ⟨rfl, rfl, Or.inr ⟨rfl, rfl, show (88 : Nat) ≤ 152 from by decide⟩⟩ (by decide) rfl (rgl rfl) (by decide) (by decide) (And.intro (Or.inl (by decide)) (trivial)) (And.intro (Or.inl (by decide)) (trivial)) q459 dX14_init_5329 ?_
  have z130 := Zr_sA (c := 152) (x := (1024, fun _ => 0)) (Zr_new z129 (by decide)) (by decide)
  refine v_putS (f := 91) (t := 152) cf14 (by decide) (by decide) rfl rfl rfl (by decide) q2461 dX14_init_5331 (Or.inl rfl) rfl (fun _ => rfl) (fun _ => rfl) ?_
  have z131 := Zr_eS (o := 87) (f := 91) (t := 152) z130 (by decide) rfl (by decide)
  refine v_aload_n dX14_init_5334 0 rfl rfl ?_
  refine v_sipush dX14_init_5335 rfl ?_
  refine v_nA24 z131 ⟨rfl, rfl, Or.inr ⟨rfl, rfl, show (88 : Nat) ≤ 153 from by decide⟩⟩ (by decide) rfl (rgl rfl) (by decide) (by decide) (And.intro (Or.inl (by decide)) (trivial)) (And.intro (Or.inl (by decide)) (trivial)) q459 dX14_init_5338 ?_
  have z132 := Zr_sA (c := 153) (x := (4096, fun _ => 0)) (Zr_new z131 (by decide)) (by decide)
  refine v_putS (f := 92) (t := 153) cf14 (by decide) (by decide) rfl rfl rfl (by decide) q2462 dX14_init_5340 (Or.inr ⟨rfl, rfl, rfl, rfl, rfl, rfl⟩) rfl (fun _ => rfl) (fun _ => rfl) ?_
  have z133 := Zr_eS (o := 87) (f := 92) (t := 153) z132 (by decide) rfl (by decide)
  refine v_aload_n dX14_init_5343 0 rfl rfl ?_
  refine v_iconst dX14_init_5344 ?_
  refine v_nA24 z133 ⟨rfl, rfl, Or.inr ⟨rfl, rfl, show (88 : Nat) ≤ 154 from by decide⟩⟩ (by decide) rfl (rgl rfl) (by decide) (by decide) (And.intro (Or.inl (by decide)) (trivial)) (And.intro (Or.inl (by decide)) (trivial)) q459 dX14_init_5345 ?_
  have z134 := Zr_sA (c := 154) (x := (0, fun _ => 0)) (Zr_new z133 (by decide)) (by decide)
  refine v_putS (f := 93) (t := 154) cf14 (by decide) (by decide) rfl rfl rfl (by decide) q2463 dX14_init_5347 (Or.inl rfl) rfl (fun _ => rfl) (fun _ => rfl) ?_
  have z135 := Zr_eS (o := 87) (f := 93) (t := 154) z134 (by decide) rfl (by decide)
  refine v_aload_n dX14_init_5350 0 rfl rfl ?_
  refine v_iconst dX14_init_5351 ?_
  refine v_nA26 z135 ⟨rfl, rfl, Or.inr ⟨rfl, rfl, show (88 : Nat) ≤ 155 from by decide⟩⟩ (by decide) rfl (rgl rfl) (by decide) (by decide) (And.intro (Or.inl (by decide)) (trivial)) (And.intro (Or.inl (by decide)) (trivial)) q755 dX14_init_5352 ?_
  have z136 := Zr_sA (c := 155) (x := (0, fun _ => 0)) (Zr_new z135 (by decide)) (by decide)
  refine v_putS (f := 95) (t := 155) cf14 (by decide) (by decide) rfl rfl rfl (by decide) q2465 dX14_init_5354 (Or.inl rfl) rfl (fun _ => rfl) (fun _ => rfl) ?_
  have z137 := Zr_eS (o := 87) (f := 95) (t := 155) z136 (by decide) rfl (by decide)
  refine v_aload_n dX14_init_5357 0 rfl rfl ?_
  refine v_iconst dX14_init_5358 ?_
  refine v_nA27 z137 ⟨rfl, rfl, Or.inr ⟨rfl, rfl, show (88 : Nat) ≤ 156 from by decide⟩⟩ (by decide) rfl (rgl rfl) (by decide) (by decide) (And.intro (Or.inl (by decide)) (trivial)) (And.intro (Or.inl (by decide)) (trivial)) q2860 dX14_init_5359 ?_
  have z138 := Zr_sA (c := 156) (x := (0, fun _ => 0)) (Zr_new z137 (by decide)) (by decide)
  refine v_putS (f := 96) (t := 156) cf14 (by decide) (by decide) rfl rfl rfl (by decide) q2466 dX14_init_5361 (Or.inl rfl) rfl (fun _ => rfl) (fun _ => rfl) ?_
  have z139 := Zr_eS (o := 87) (f := 96) (t := 156) z138 (by decide) rfl (by decide)
  refine v_aload_n dX14_init_5364 0 rfl rfl ?_
  refine v_iconst dX14_init_5365 ?_
  refine v_nA24 z139 ⟨rfl, rfl, Or.inr ⟨rfl, rfl, show (88 : Nat) ≤ 157 from by decide⟩⟩ (by decide) rfl (rgl rfl) (by decide) (by decide) (And.intro (Or.inl (by decide)) (trivial)) (And.intro (Or.inl (by decide)) (trivial)) q459 dX14_init_5366 ?_
  have z140 := Zr_sA (c := 157) (x := (0, fun _ => 0)) (Zr_new z139 (by decide)) (by decide)
  refine v_putS (f := 98) (t := 157) cf14 (by decide) (by decide) rfl rfl rfl (by decide) q2468 dX14_init_5368 (Or.inl rfl) rfl (fun _ => rfl) (fun _ => rfl) ?_
  have z141 := Zr_eS (o := 87) (f := 98) (t := 157) z140 (by decide) rfl (by decide)
  refine v_aload_n dX14_init_5371 0 rfl rfl ?_
  refine v_bipush dX14_init_5372 rfl ?_
  refine v_nA27 z141 ⟨rfl, rfl, Or.inr ⟨rfl, rfl, show (88 : Nat) ≤ 158 from by decide⟩⟩ (by decide) rfl (rgl rfl) (by decide) (by decide) (And.intro (Or.inl (by decide)) (trivial)) (And.intro (Or.inl (by decide)) (trivial)) q2860 dX14_init_5374 ?_
  have z142 := Zr_sA (c := 158) (x := (64, fun _ => 0)) (Zr_new z141 (by decide)) (by decide)
  refine v_putS (f := 100) (t := 158) cf14 (by decide) (by decide) rfl rfl rfl (by decide) q2470 dX14_init_5376 (Or.inl rfl) rfl (fun _ => rfl) (fun _ => rfl) ?_
  have z143 := Zr_eS (o := 87) (f := 100) (t := 158) z142 (by decide) rfl (by decide)
  refine v_aload_n dX14_init_5379 0 rfl rfl ?_
  refine v_iconst dX14_init_5380 ?_
  refine v_nA27 z143 ⟨rfl, rfl, Or.inr ⟨rfl, rfl, show (88 : Nat) ≤ 159 from by decide⟩⟩ (by decide) rfl (rgl rfl) (by decide) (by decide) (And.intro (Or.inl (by decide)) (trivial)) (And.intro (Or.inl (by decide)) (trivial)) q2860 dX14_init_5381 ?_
  have z144 := Zr_sA (c := 159) (x := (0, fun _ => 0)) (Zr_new z143 (by decide)) (by decide)
  refine v_putS (f := 102) (t := 159) cf14 (by decide) (by decide) rfl rfl rfl (by decide) q2472 dX14_init_5383 (Or.inl rfl) rfl (fun _ => rfl) (fun _ => rfl) ?_
  have z145 := Zr_eS (o := 87) (f := 102) (t := 159) z144 (by decide) rfl (by decide)
  refine v_aload_n dX14_init_5386 0 rfl rfl ?_
  refine v_iconst dX14_init_5387 ?_
  refine v_nA24 z145 ⟨rfl, rfl, Or.inr ⟨rfl, rfl, show (88 : Nat) ≤ 160 from by decide⟩⟩ (by decide) rfl (rgl rfl) (by decide) (by decide) (And.intro (Or.inl (by decide)) (trivial)) (And.intro (Or.inl (by decide)) (trivial)) q459 dX14_init_5388 ?_
  have z146 := Zr_sA (c := 160) (x := (0, fun _ => 0)) (Zr_new z145 (by decide)) (by decide)
  refine v_putS (f := 103) (t := 160) cf14 (by decide) (by decide) rfl rfl rfl (by decide) q2473 dX14_init_5390 (Or.inl rfl) rfl (fun _ => rfl) (fun _ => rfl) ?_
  have z147 := Zr_eS (o := 87) (f := 103) (t := 160) z146 (by decide) rfl (by decide)
  refine v_aload_n dX14_init_5393 0 rfl rfl ?_
  refine v_sipush dX14_init_5394 rfl ?_
  refine v_nA24 z147 ⟨rfl, rfl, Or.inr ⟨rfl, rfl, show (88 : Nat) ≤ 161 from by decide⟩⟩ (by decide) rfl (rgl rfl) (by decide) (by decide) (And.intro (Or.inl (by decide)) (trivial)) (And.intro (Or.inl (by decide)) (trivial)) q459 dX14_init_5397 ?_
  have z148 := Zr_sA (c := 161) (x := (1024, fun _ => 0)) (Zr_new z147 (by decide)) (by decide)
  refine v_putS (f := 106) (t := 161) cf14 (by decide) (by decide) rfl rfl rfl (by decide) q2476 dX14_init_5399 (Or.inl rfl) rfl (fun _ => rfl) (fun _ => rfl) ?_
  have z149 := Zr_eS (o := 87) (f := 106) (t := 161) z148 (by decide) rfl (by decide)
  refine v_aload_n dX14_init_5402 0 rfl rfl ?_
  refine v_sipush dX14_init_5403 rfl ?_
  refine v_nA24 z149 ⟨rfl, rfl, Or.inr ⟨rfl, rfl, show (88 : Nat) ≤ 162 from by decide⟩⟩ (by decide) rfl (rgl rfl) (by decide) (by decide) (And.intro (Or.inl (by decide)) (trivial)) (And.intro (Or.inl (by decide)) (trivial)) q459 dX14_init_5406 ?_
  have z150 := Zr_sA (c := 162) (x := (4096, fun _ => 0)) (Zr_new z149 (by decide)) (by decide)
  refine v_putS (f := 108) (t := 162) cf14 (by decide) (by decide) rfl rfl rfl (by decide) q2478 dX14_init_5408 (Or.inl rfl) rfl (fun _ => rfl) (fun _ => rfl) ?_
  have z151 := Zr_eS (o := 87) (f := 108) (t := 162) z150 (by decide) rfl (by decide)
  refine v_aload_n dX14_init_5411 0 rfl rfl ?_
  refine v_bipush dX14_init_5412 rfl ?_
  refine v_nA24 z151 ⟨rfl, rfl, Or.inr ⟨rfl, rfl, show (88 : Nat) ≤ 163 from by decide⟩⟩ (by decide) rfl (rgl rfl) (by decide) (by decide) (And.intro (Or.inl (by decide)) (trivial)) (And.intro (Or.inl (by decide)) (trivial)) q459 dX14_init_5414 ?_
  refine v_tb0 ?_
  refine wt_163_40 (ok_K (by decide) (by decide) rfl) ?_
  refine wt_163_48 (ok_K (by decide) (by decide) rfl) ?_
  have z152 := Zr_sA (σ := sA (sA (sA (sA (sA (sA (sA (sA (sA (sA (sA (sA (sA (sA (sA (sA (sA (sA (sA (sA (sA (sA (sA (sA (sA (sA (sA (sA (sA (sA (sA (sA (sA (sA (sA (sA (sA (sA (sA (sA (sA (sA (sA (sA (sA (sA (sA (sA (sA (sA (sA (sA (sA (sA (sA (sA (sA (sA (sA (sA (sA (sA (sA (sA (sA (sA (sA (sA (sA (sA (sA (sI (sA (sA (sA (sA (σ) 88 (686, tbr 686 tb_88_686)) 89 (30, tbr 30 tb_89_30)) 90 (17, tbr 17 tb_90_17)) 91 (32800, fun _ => 0)) 87 6 64) 92 (0, fun _ => 0)) 93 (32800, fun _ => 0)) 94 (0, fun _ => 0)) 95 (0, fun _ => 0)) 96 (0, fun _ => 0)) 97 (0, fun _ => 0)) 98 (0, fun _ => 0)) 99 (0, fun _ => 0)) 100 (0, fun _ => 0)) 101 (0, fun _ => 0)) 102 (0, fun _ => 0)) 103 (0, fun _ => 0)) 104 (0, fun _ => 0)) 105 (0, fun _ => 0)) 106 (0, fun _ => 0)) 107 (0, fun _ => 0)) 108 (0, fun _ => 0)) 109 (0, fun _ => 0)) 110 (0, fun _ => 0)) 111 (0, fun _ => 0)) 112 (0, fun _ => 0)) 113 (0, fun _ => 0)) 114 (0, fun _ => 0)) 115 (0, fun _ => 0)) 116 (0, fun _ => 0)) 117 (0, fun _ => 0)) 118 (0, fun _ => 0)) 119 (0, fun _ => 0)) 120 (0, fun _ => 0)) 121 (0, fun _ => 0)) 122 (0, fun _ => 0)) 123 (0, fun _ => 0)) 124 (0, fun _ => 0)) 125 (0, fun _ => 0)) 126 (0, fun _ => 0)) 127 (0, fun _ => 0)) 128 (0, fun _ => 0)) 129 (0, fun _ => 0)) 130 (0, fun _ => 0)) 131 (0, fun _ => 0)) 132 (0, fun _ => 0)) 133 (0, fun _ => 0)) 134 (0, fun _ => 0)) 135 (0, fun _ => 0)) 136 (0, fun _ => 0)) 137 (0, fun _ => 0)) 138 (0, fun _ => 0)) 139 (0, fun _ => 0)) 140 (0, fun _ => 0)) 141 (0, fun _ => 0)) 142 (0, fun _ => 0)) 143 (0, fun _ => 0)) 144 (0, fun _ => 0)) 145 (104, fun _ => 0)) 146 (104, fun _ => 0)) 147 (64, fun _ => 0)) 148 (64, fun _ => 0)) 149 (1024, fun _ => 0)) 150 (0, fun _ => 0)) 151 (0, fun _ => 0)) 152 (1024, fun _ => 0)) 153 (4096, fun _ => 0)) 154 (0, fun _ => 0)) 155 (0, fun _ => 0)) 156 (0, fun _ => 0)) 157 (0, fun _ => 0)) 158 (64, fun _ => 0)) 159 (0, fun _ => 0)) 160 (0, fun _ => 0)) 161 (1024, fun _ => 0)) 162 (4096, fun _ => 0)) (c := 163) (x := (48, tbr 48 tb_163_48)) (Zr_new z151 (by decide)) (by decide)
  refine v_putS (f := 109) (t := 163) cf14 (by decide) (by decide) rfl rfl rfl (by decide) q2479 dX14_init_5693 (Or.inr ⟨rfl, rfl, rfl, rfl, rfl, rfl⟩) rfl (fun _ => rfl) (fun _ => rfl) ?_
  have z153 := Zr_eS (o := 87) (f := 109) (t := 163) z152 (by decide) rfl (by decide)
  refine v_aload_n dX14_init_5696 0 rfl rfl ?_
  refine v_iconst dX14_init_5697 ?_
  refine v_nA24 z153 ⟨rfl, rfl, Or.inr ⟨rfl, rfl, show (88 : Nat) ≤ 164 from by decide⟩⟩ (by decide) rfl (rgl rfl) (by decide) (by decide) (And.intro (Or.inl (by decide)) (trivial)) (And.intro (Or.inl (by decide)) (trivial)) q459 dX14_init_5698 ?_
  refine v_tb0 ?_
  refine wt_164_5 (ok_K (by decide) (by decide) rfl) ?_
  have z154 := Zr_sA (σ := sA (sA (sA (sA (sA (sA (sA (sA (sA (sA (sA (sA (sA (sA (sA (sA (sA (sA (sA (sA (sA (sA (sA (sA (sA (sA (sA (sA (sA (sA (sA (sA (sA (sA (sA (sA (sA (sA (sA (sA (sA (sA (sA (sA (sA (sA (sA (sA (sA (sA (sA (sA (sA (sA (sA (sA (sA (sA (sA (sA (sA (sA (sA (sA (sA (sA (sA (sA (sA (sA (sA (sA (sI (sA (sA (sA (sA (σ) 88 (686, tbr 686 tb_88_686)) 89 (30, tbr 30 tb_89_30)) 90 (17, tbr 17 tb_90_17)) 91 (32800, fun _ => 0)) 87 6 64) 92 (0, fun _ => 0)) 93 (32800, fun _ => 0)) 94 (0, fun _ => 0)) 95 (0, fun _ => 0)) 96 (0, fun _ => 0)) 97 (0, fun _ => 0)) 98 (0, fun _ => 0)) 99 (0, fun _ => 0)) 100 (0, fun _ => 0)) 101 (0, fun _ => 0)) 102 (0, fun _ => 0)) 103 (0, fun _ => 0)) 104 (0, fun _ => 0)) 105 (0, fun _ => 0)) 106 (0, fun _ => 0)) 107 (0, fun _ => 0)) 108 (0, fun _ => 0)) 109 (0, fun _ => 0)) 110 (0, fun _ => 0)) 111 (0, fun _ => 0)) 112 (0, fun _ => 0)) 113 (0, fun _ => 0)) 114 (0, fun _ => 0)) 115 (0, fun _ => 0)) 116 (0, fun _ => 0)) 117 (0, fun _ => 0)) 118 (0, fun _ => 0)) 119 (0, fun _ => 0)) 120 (0, fun _ => 0)) 121 (0, fun _ => 0)) 122 (0, fun _ => 0)) 123 (0, fun _ => 0)) 124 (0, fun _ => 0)) 125 (0, fun _ => 0)) 126 (0, fun _ => 0)) 127 (0, fun _ => 0)) 128 (0, fun _ => 0)) 129 (0, fun _ => 0)) 130 (0, fun _ => 0)) 131 (0, fun _ => 0)) 132 (0, fun _ => 0)) 133 (0, fun _ => 0)) 134 (0, fun _ => 0)) 135 (0, fun _ => 0)) 136 (0, fun _ => 0)) 137 (0, fun _ => 0)) 138 (0, fun _ => 0)) 139 (0, fun _ => 0)) 140 (0, fun _ => 0)) 141 (0, fun _ => 0)) 142 (0, fun _ => 0)) 143 (0, fun _ => 0)) 144 (0, fun _ => 0)) 145 (104, fun _ => 0)) 146 (104, fun _ => 0)) 147 (64, fun _ => 0)) 148 (64, fun _ => 0)) 149 (1024, fun _ => 0)) 150 (0, fun _ => 0)) 151 (0, fun _ => 0)) 152 (1024, fun _ => 0)) 153 (4096, fun _ => 0)) 154 (0, fun _ => 0)) 155 (0, fun _ => 0)) 156 (0, fun _ => 0)) 157 (0, fun _ => 0)) 158 (64, fun _ => 0)) 159 (0, fun _ => 0)) 160 (0, fun _ => 0)) 161 (1024, fun _ => 0)) 162 (4096, fun _ => 0)) 163 (48, tbr 48 tb_163_48)) (c := 164) (x := (5, tbr 5 tb_164_5)) (Zr_new z153 (by decide)) (by decide)
  refine v_putS (f := 110) (t := 164) cf14 (by decide) (by decide) rfl rfl rfl (by decide) q2480 dX14_init_5720 (Or.inr ⟨rfl, rfl, rfl, rfl, rfl, rfl⟩) rfl (fun _ => rfl) (fun _ => rfl) ?_
  have z155 := Zr_eS (o := 87) (f := 110) (t := 164) z154 (by decide) rfl (by decide)
  refine v_aload_n dX14_init_5723 0 rfl rfl ?_
  refine v_sipush dX14_init_5724 rfl ?_
  refine v_nA24 z155 ⟨rfl, rfl, Or.inr ⟨rfl, rfl, show (88 : Nat) ≤ 165 from by decide⟩⟩ (by decide) rfl (rgl rfl) (by decide) (by decide) (And.intro (Or.inl (by decide)) (trivial)) (And.intro (Or.inl (by decide)) (trivial)) q459 dX14_init_5727 ?_
  have z156 := Zr_sA (c := 165) (x := (1024, fun _ => 0)) (Zr_new z155 (by decide)) (by decide)
  refine v_putS (f := 112) (t := 165) cf14 (by decide) (by decide) rfl rfl rfl (by decide) q2482 dX14_init_5729 (Or.inl rfl) rfl (fun _ => rfl) (fun _ => rfl) ?_
  have z157 := Zr_eS (o := 87) (f := 112) (t := 165) z156 (by decide) rfl (by decide)
  refine v_aload_n dX14_init_5732 0 rfl rfl ?_
  refine v_iconst dX14_init_5733 ?_
  refine v_nA24 z157 ⟨rfl, rfl, Or.inr ⟨rfl, rfl, show (88 : Nat) ≤ 166 from by decide⟩⟩ (by decide) rfl (rgl rfl) (by decide) (by decide) (And.intro (Or.inl (by decide)) (trivial)) (And.intro (Or.inl (by decide)) (trivial)) q459 dX14_init_5734 ?_
  have z158 := Zr_sA (c := 166) (x := (0, fun _ => 0)) (Zr_new z157 (by decide)) (by decide)
  refine v_putS (f := 113) (t := 166) cf14 (by decide) (by decide) rfl rfl rfl (by decide) q2483 dX14_init_5736 (Or.inl rfl) rfl (fun _ => rfl) (fun _ => rfl) ?_
  have z159 := Zr_eS (o := 87) (f := 113) (t := 166) z158 (by decide) rfl (by decide)
  refine v_aload_n dX14_init_5739 0 rfl rfl ?_
  refine v_iconst dX14_init_5740 ?_
  refine v_nA24 z159 ⟨rfl, rfl, Or.inr ⟨rfl, rfl, show (88 : Nat) ≤ 167 from by decide⟩⟩ (by decide) rfl (rgl rfl) (by decide) (by decide) (And.intro (Or.inl (by decide)) (trivial)) (And.intro (Or.inl (by decide)) (trivial)) q459 dX14_init_5741 ?_
  have z160 := Zr_sA (c := 167) (x := (0, fun _ => 0)) (Zr_new z159 (by decide)) (by decide)
  refine v_putS (f := 114) (t := 167) cf14 (by decide) (by decide) rfl rfl rfl (by decide) q2484 dX14_init_5743 (Or.inl rfl) rfl (fun _ => rfl) (fun _ => rfl) ?_
  have z161 := Zr_eS (o := 87) (f := 114) (t := 167) z160 (by decide) rfl (by decide)
  refine v_aload_n dX14_init_5746 0 rfl rfl ?_
  refine v_iconst dX14_init_5747 ?_
  refine v_nA24 z161 ⟨rfl, rfl, Or.inr ⟨rfl, rfl, show (88 : Nat) ≤ 168 from by decide⟩⟩ (by decide) rfl (rgl rfl) (by decide) (by decide) (And.intro (Or.inl (by decide)) (trivial)) (And.intro (Or.inl (by decide)) (trivial)) q459 dX14_init_5748 ?_
  have z162 := Zr_sA (c := 168) (x := (0, fun _ => 0)) (Zr_new z161 (by decide)) (by decide)
  refine v_putS (f := 115) (t := 168) cf14 (by decide) (by decide) rfl rfl rfl (by decide) q2485 dX14_init_5750 (Or.inl rfl) rfl (fun _ => rfl) (fun _ => rfl) ?_
  have z163 := Zr_eS (o := 87) (f := 115) (t := 168) z162 (by decide) rfl (by decide)
  refine v_aload_n dX14_init_5753 0 rfl rfl ?_
  refine v_iconst dX14_init_5754 ?_
  refine v_putI (f := 116) cf14 (ok_K (by decide) (by decide) rfl) rfl (by decide) q2486 dX14_init_5755 rfl rfl ?_
  have z164 := Zr_sI (c := 87) (f := 116) (x := (-1)) z163 (by decide)
  refine v_aload_n dX14_init_5758 0 rfl rfl ?_
  refine v_bipush dX14_init_5759 rfl ?_
  refine v_nA24 z164 ⟨rfl, rfl, Or.inr ⟨rfl, rfl, show (88 : Nat) ≤ 169 from by decide⟩⟩ (by decide) rfl (rgl rfl) (by decide) (by decide) (And.intro (Or.inl (by decide)) (trivial)) (And.intro (Or.inl (by decide)) (trivial)) q459 dX14_init_5761 ?_
  have z165 := Zr_sA (c := 169) (x := (65, fun _ => 0)) (Zr_new z164 (by decide)) (by decide)
  refine v_putS (f := 117) (t := 169) cf14 (by decide) (by decide) rfl rfl rfl (by decide) q2487 dX14_init_5763 (Or.inr ⟨rfl, rfl, rfl, rfl, rfl, rfl⟩) rfl (fun _ => rfl) (fun _ => rfl) ?_
  have z166 := Zr_eS (o := 87) (f := 117) (t := 169) z165 (by decide) rfl (by decide)
  refine v_aload_n dX14_init_5766 0 rfl rfl ?_
  refine v_sipush dX14_init_5767 rfl ?_
  refine v_nA24 z166 ⟨rfl, rfl, Or.inr ⟨rfl, rfl, show (88 : Nat) ≤ 170 from by decide⟩⟩ (by decide) rfl (rgl rfl) (by decide) (by decide) (And.intro (Or.inl (by decide)) (trivial)) (And.intro (Or.inl (by decide)) (trivial)) q459 dX14_init_5770 ?_
  have z167 := Zr_sA (c := 170) (x := (256, fun _ => 0)) (Zr_new z166 (by decide)) (by decide)
  refine v_putS (f := 126) (t := 170) cf14 (by decide) (by decide) rfl rfl rfl (by decide) q2496 dX14_init_5772 (Or.inl rfl) rfl (fun _ => rfl) (fun _ => rfl) ?_
  have z168 := Zr_eS (o := 87) (f := 126) (t := 170) z167 (by decide) rfl (by decide)
  refine v_aload_n dX14_init_5775 0 rfl rfl ?_
  refine v_ldc (n := 32800) dX14_init_5776 q2369 rfl ?_
  refine v_nA24 z168 ⟨rfl, rfl, Or.inr ⟨rfl, rfl, show (88 : Nat) ≤ 171 from by decide⟩⟩ (by decide) rfl (rgl rfl) (by decide) (by decide) (And.intro (Or.inl (by decide)) (trivial)) (And.intro (Or.inl (by decide)) (trivial)) q459 dX14_init_5778 ?_
  have z169 := Zr_sA (c := 171) (x := (32800, fun _ => 0)) (Zr_new z168 (by decide)) (by decide)
  refine v_putS (f := 128) (t := 171) cf14 (by decide) (by decide) rfl rfl rfl (by decide) q2498 dX14_init_5780 (Or.inr ⟨rfl, rfl, rfl, rfl, rfl, rfl⟩) rfl (fun _ => rfl) (fun _ => rfl) ?_
  have z170 := Zr_eS (o := 87) (f := 128) (t := 171) z169 (by decide) rfl (by decide)
  refine v_aload_n dX14_init_5783 0 rfl rfl ?_
  refine v_iconst dX14_init_5784 ?_
  refine v_nA24 z170 ⟨rfl, rfl, Or.inr ⟨rfl, rfl, show (88 : Nat) ≤ 172 from by decide⟩⟩ (by decide) rfl (rgl rfl) (by decide) (by decide) (And.intro (Or.inl (by decide)) (trivial)) (And.intro (Or.inl (by decide)) (trivial)) q459 dX14_init_5785 ?_
  have z171 := Zr_sA (c := 172) (x := (0, fun _ => 0)) (Zr_new z170 (by decide)) (by decide)
  refine v_putS (f := 130) (t := 172) cf14 (by decide) (by decide) rfl rfl rfl (by decide) q2500 dX14_init_5787 (Or.inl rfl) rfl (fun _ => rfl) (fun _ => rfl) ?_
  have z172 := Zr_eS (o := 87) (f := 130) (t := 172) z171 (by decide) rfl (by decide)
  refine v_aload_n dX14_init_5790 0 rfl rfl ?_
  refine v_iconst dX14_init_5791 ?_
  refine v_nA24 z172 ⟨rfl, rfl, Or.inr ⟨rfl, rfl, show (88 : Nat) ≤ 173 from by decide⟩⟩ (by decide) rfl (rgl rfl) (by decide) (by decide) (And.intro (Or.inl (by decide)) (trivial)) (And.intro (Or.inl (by decide)) (trivial)) q459 dX14_init_5792 ?_
  have z173 := Zr_sA (c := 173) (x := (0, fun _ => 0)) (Zr_new z172 (by decide)) (by decide)
  refine v_putS (f := 131) (t := 173) cf14 (by decide) (by decide) rfl rfl rfl (by decide) q2501 dX14_init_5794 (Or.inl rfl) rfl (fun _ => rfl) (fun _ => rfl) ?_
  have z174 := Zr_eS (o := 87) (f := 131) (t := 173) z173 (by decide) rfl (by decide)
  refine v_aload_n dX14_init_5797 0 rfl rfl ?_
  refine v_iconst dX14_init_5798 ?_
  refine v_nA26 z174 ⟨rfl, rfl, Or.inr ⟨rfl, rfl, show (88 : Nat) ≤ 174 from by decide⟩⟩ (by decide) rfl (rgl rfl) (by decide) (by decide) (And.intro (Or.inl (by decide)) (trivial)) (And.intro (Or.inl (by decide)) (trivial)) q755 dX14_init_5799 ?_
  have z175 := Zr_sA (c := 174) (x := (0, fun _ => 0)) (Zr_new z174 (by decide)) (by decide)
  refine v_putS (f := 132) (t := 174) cf14 (by decide) (by decide) rfl rfl rfl (by decide) q2502 dX14_init_5801 (Or.inl rfl) rfl (fun _ => rfl) (fun _ => rfl) ?_
  have z176 := Zr_eS (o := 87) (f := 132) (t := 174) z175 (by decide) rfl (by decide)
  refine v_aload_n dX14_init_5804 0 rfl rfl ?_
  refine v_iconst dX14_init_5805 ?_
  refine v_nA24 z176 ⟨rfl, rfl, Or.inr ⟨rfl, rfl, show (88 : Nat) ≤ 175 from by decide⟩⟩ (by decide) rfl (rgl rfl) (by decide) (by decide) (And.intro (Or.inl (by decide)) (trivial)) (And.intro (Or.inl (by decide)) (trivial)) q459 dX14_init_5806 ?_
  have z177 := Zr_sA (c := 175) (x := (0, fun _ => 0)) (Zr_new z176 (by decide)) (by decide)
  refine v_putS (f := 133) (t := 175) cf14 (by decide) (by decide) rfl rfl rfl (by decide) q2503 dX14_init_5808 (Or.inl rfl) rfl (fun _ => rfl) (fun _ => rfl) ?_
  have z178 := Zr_eS (o := 87) (f := 133) (t := 175) z177 (by decide) rfl (by decide)
  refine v_aload_n dX14_init_5811 0 rfl rfl ?_
  refine v_iconst dX14_init_5812 ?_
  refine v_nA24 z178 ⟨rfl, rfl, Or.inr ⟨rfl, rfl, show (88 : Nat) ≤ 176 from by decide⟩⟩ (by decide) rfl (rgl rfl) (by decide) (by decide) (And.intro (Or.inl (by decide)) (trivial)) (And.intro (Or.inl (by decide)) (trivial)) q459 dX14_init_5813 ?_
  have z179 := Zr_sA (c := 176) (x := (0, fun _ => 0)) (Zr_new z178 (by decide)) (by decide)
  refine v_putS (f := 134) (t := 176) cf14 (by decide) (by decide) rfl rfl rfl (by decide) q2504 dX14_init_5815 (Or.inl rfl) rfl (fun _ => rfl) (fun _ => rfl) ?_
  have z180 := Zr_eS (o := 87) (f := 134) (t := 176) z179 (by decide) rfl (by decide)
  refine v_aload_n dX14_init_5818 0 rfl rfl ?_
  refine v_iconst dX14_init_5819 ?_
  refine v_nA24 z180 ⟨rfl, rfl, Or.inr ⟨rfl, rfl, show (88 : Nat) ≤ 177 from by decide⟩⟩ (by decide) rfl (rgl rfl) (by decide) (by decide) (And.intro (Or.inl (by decide)) (trivial)) (And.intro (Or.inl (by decide)) (trivial)) q459 dX14_init_5820 ?_
  have z181 := Zr_sA (c := 177) (x := (0, fun _ => 0)) (Zr_new z180 (by decide)) (by decide)
  refine v_putS (f := 135) (t := 177) cf14 (by decide) (by decide) rfl rfl rfl (by decide) q2505 dX14_init_5822 (Or.inl rfl) rfl (fun _ => rfl) (fun _ => rfl) ?_
  have z182 := Zr_eS (o := 87) (f := 135) (t := 177) z181 (by decide) rfl (by decide)
  refine v_aload_n dX14_init_5825 0 rfl rfl ?_
  refine v_iconst dX14_init_5826 ?_
  refine v_nA26 z182 ⟨rfl, rfl, Or.inr ⟨rfl, rfl, show (88 : Nat) ≤ 178 from by decide⟩⟩ (by decide) rfl (rgl rfl) (by decide) (by decide) (And.intro (Or.inl (by decide)) (trivial)) (And.intro (Or.inl (by decide)) (trivial)) q755 dX14_init_5827 ?_
  have z183 := Zr_sA (c := 178) (x := (0, fun _ => 0)) (Zr_new z182 (by decide)) (by decide)
  refine v_putS (f := 136) (t := 178) cf14 (by decide) (by decide) rfl rfl rfl (by decide) q2506 dX14_init_5829 (Or.inl rfl) rfl (fun _ => rfl) (fun _ => rfl) ?_
  have z184 := Zr_eS (o := 87) (f := 136) (t := 178) z183 (by decide) rfl (by decide)
  refine v_aload_n dX14_init_5832 0 rfl rfl ?_
  refine v_iconst dX14_init_5833 ?_
  refine v_nA24 z184 ⟨rfl, rfl, Or.inr ⟨rfl, rfl, show (88 : Nat) ≤ 179 from by decide⟩⟩ (by decide) rfl (rgl rfl) (by decide) (by decide) (And.intro (Or.inl (by decide)) (trivial)) (And.intro (Or.inl (by decide)) (trivial)) q459 dX14_init_5834 ?_
  have z185 := Zr_sA (c := 179) (x := (0, fun _ => 0)) (Zr_new z184 (by decide)) (by decide)
  refine v_putS (f := 137) (t := 179) cf14 (by decide) (by decide) rfl rfl rfl (by decide) q2507 dX14_init_5836 (Or.inl rfl) rfl (fun _ => rfl) (fun _ => rfl) ?_
  have z186 := Zr_eS (o := 87) (f := 137) (t := 179) z185 (by decide) rfl (by decide)
  refine v_aload_n dX14_init_5839 0 rfl rfl ?_
  refine v_iconst dX14_init_5840 ?_
  refine v_nA24 z186 ⟨rfl, rfl, Or.inr ⟨rfl, rfl, show (88 : Nat) ≤ 180 from by decide⟩⟩ (by decide) rfl (rgl rfl) (by decide) (by decide) (And.intro (Or.inl (by decide)) (trivial)) (And.intro (Or.inl (by decide)) (trivial)) q459 dX14_init_5841 ?_
  have z187 := Zr_sA (c := 180) (x := (0, fun _ => 0)) (Zr_new z186 (by decide)) (by decide)
  refine v_putS (f := 138) (t := 180) cf14 (by decide) (by decide) rfl rfl rfl (by decide) q2508 dX14_init_5843 (Or.inl rfl) rfl (fun _ => rfl) (fun _ => rfl) ?_
  have z188 := Zr_eS (o := 87) (f := 138) (t := 180) z187 (by decide) rfl (by decide)
  refine v_aload_n dX14_init_5846 0 rfl rfl ?_
  refine v_iconst dX14_init_5847 ?_
  refine v_nA24 z188 ⟨rfl, rfl, Or.inr ⟨rfl, rfl, show (88 : Nat) ≤ 181 from by decide⟩⟩ (by decide) rfl (rgl rfl) (by decide) (by decide) (And.intro (Or.inl (by decide)) (trivial)) (And.intro (Or.inl (by decide)) (trivial)) q459 dX14_init_5848 ?_
  have z189 := Zr_sA (c := 181) (x := (0, fun _ => 0)) (Zr_new z188 (by decide)) (by decide)
  refine v_putS (f := 139) (t := 181) cf14 (by decide) (by decide) rfl rfl rfl (by decide) q2509 dX14_init_5850 (Or.inl rfl) rfl (fun _ => rfl) (fun _ => rfl) ?_
  have z190 := Zr_eS (o := 87) (f := 139) (t := 181) z189 (by decide) rfl (by decide)
  refine v_aload_n dX14_init_5853 0 rfl rfl ?_
  refine v_iconst dX14_init_5854 ?_
  refine v_nA24 z190 ⟨rfl, rfl, Or.inr ⟨rfl, rfl, show (88 : Nat) ≤ 182 from by decide⟩⟩ (by decide) rfl (rgl rfl) (by decide) (by decide) (And.intro (Or.inl (by decide)) (trivial)) (And.intro (Or.inl (by decide)) (trivial)) q459 dX14_init_5855 ?_
  have z191 := Zr_sA (c := 182) (x := (0, fun _ => 0)) (Zr_new z190 (by decide)) (by decide)
  refine v_putS (f := 140) (t := 182) cf14 (by decide) (by decide) rfl rfl rfl (by decide) q2510 dX14_init_5857 (Or.inl rfl) rfl (fun _ => rfl) (fun _ => rfl) ?_
  have z192 := Zr_eS (o := 87) (f := 140) (t := 182) z191 (by decide) rfl (by decide)
  refine v_aload_n dX14_init_5860 0 rfl rfl ?_
  refine v_sipush dX14_init_5861 rfl ?_
  refine v_nA24 z192 ⟨rfl, rfl, Or.inr ⟨rfl, rfl, show (88 : Nat) ≤ 183 from by decide⟩⟩ (by decide) rfl (rgl rfl) (by decide) (by decide) (And.intro (Or.inl (by decide)) (trivial)) (And.intro (Or.inl (by decide)) (trivial)) q459 dX14_init_5864 ?_
  have z193 := Zr_sA (c := 183) (x := (4096, fun _ => 0)) (Zr_new z192 (by decide)) (by decide)
  refine v_putS (f := 145) (t := 183) cf14 (by decide) (by decide) rfl rfl rfl (by decide) q2515 dX14_init_5866 (Or.inl rfl) rfl (fun _ => rfl) (fun _ => rfl) ?_
  have z194 := Zr_eS (o := 87) (f := 145) (t := 183) z193 (by decide) rfl (by decide)
  refine v_aload_n dX14_init_5869 0 rfl rfl ?_
  refine v_sipush dX14_init_5870 rfl ?_
  refine v_nA24 z194 ⟨rfl, rfl, Or.inr ⟨rfl, rfl, show (88 : Nat) ≤ 184 from by decide⟩⟩ (by decide) rfl (rgl rfl) (by decide) (by decide) (And.intro (Or.inl (by decide)) (trivial)) (And.intro (Or.inl (by decide)) (trivial)) q459 dX14_init_5873 ?_
  have z195 := Zr_sA (c := 184) (x := (4096, fun _ => 0)) (Zr_new z194 (by decide)) (by decide)
  refine v_putS (f := 146) (t := 184) cf14 (by decide) (by decide) rfl rfl rfl (by decide) q2516 dX14_init_5875 (Or.inl rfl) rfl (fun _ => rfl) (fun _ => rfl) ?_
  have z196 := Zr_eS (o := 87) (f := 146) (t := 184) z195 (by decide) rfl (by decide)
  refine v_aload_n dX14_init_5878 0 rfl rfl ?_
  refine v_bipush dX14_init_5879 rfl ?_
  refine v_nA24 z196 ⟨rfl, rfl, Or.inr ⟨rfl, rfl, show (88 : Nat) ≤ 185 from by decide⟩⟩ (by decide) rfl (rgl rfl) (by decide) (by decide) (And.intro (Or.inl (by decide)) (trivial)) (And.intro (Or.inl (by decide)) (trivial)) q459 dX14_init_5881 ?_
  have z197 := Zr_sA (c := 185) (x := (16, fun _ => 0)) (Zr_new z196 (by decide)) (by decide)
  refine v_putS (f := 148) (t := 185) cf14 (by decide) (by decide) rfl rfl rfl (by decide) q2518 dX14_init_5883 (Or.inr ⟨rfl, rfl, rfl, rfl, rfl, rfl⟩) rfl (fun _ => rfl) (fun _ => rfl) ?_
  have z198 := Zr_eS (o := 87) (f := 148) (t := 185) z197 (by decide) rfl (by decide)
  refine v_aload_n dX14_init_5886 0 rfl rfl ?_
  refine v_iconst dX14_init_5887 ?_
  refine v_nA24 z198 ⟨rfl, rfl, Or.inr ⟨rfl, rfl, show (88 : Nat) ≤ 186 from by decide⟩⟩ (by decide) rfl (rgl rfl) (by decide) (by decide) (And.intro (Or.inl (by decide)) (trivial)) (And.intro (Or.inl (by decide)) (trivial)) q459 dX14_init_5888 ?_
  have z199 := Zr_sA (c := 186) (x := (0, fun _ => 0)) (Zr_new z198 (by decide)) (by decide)
  refine v_putS (f := 150) (t := 186) cf14 (by decide) (by decide) rfl rfl rfl (by decide) q2520 dX14_init_5890 (Or.inl rfl) rfl (fun _ => rfl) (fun _ => rfl) ?_
  have z200 := Zr_eS (o := 87) (f := 150) (t := 186) z199 (by decide) rfl (by decide)
  refine v_aload_n dX14_init_5893 0 rfl rfl ?_
  refine v_iconst dX14_init_5894 ?_
  refine v_nA24 z200 ⟨rfl, rfl, Or.inr ⟨rfl, rfl, show (88 : Nat) ≤ 187 from by decide⟩⟩ (by decide) rfl (rgl rfl) (by decide) (by decide) (And.intro (Or.inl (by decide)) (trivial)) (And.intro (Or.inl (by decide)) (trivial)) q459 dX14_init_5895 ?_
  have z201 := Zr_sA (c := 187) (x := (0, fun _ => 0)) (Zr_new z200 (by decide)) (by decide)
  refine v_putS (f := 151) (t := 187) cf14 (by decide) (by decide) rfl rfl rfl (by decide) q2521 dX14_init_5897 (Or.inl rfl) rfl (fun _ => rfl) (fun _ => rfl) ?_
  have z202 := Zr_eS (o := 87) (f := 151) (t := 187) z201 (by decide) rfl (by decide)
  refine v_aload_n dX14_init_5900 0 rfl rfl ?_
  refine v_iconst dX14_init_5901 ?_
  refine v_nA24 z202 ⟨rfl, rfl, Or.inr ⟨rfl, rfl, show (88 : Nat) ≤ 188 from by decide⟩⟩ (by decide) rfl (rgl rfl) (by decide) (by decide) (And.intro (Or.inl (by decide)) (trivial)) (And.intro (Or.inl (by decide)) (trivial)) q459 dX14_init_5902 ?_
  have z203 := Zr_sA (c := 188) (x := (0, fun _ => 0)) (Zr_new z202 (by decide)) (by decide)
  refine v_putS (f := 152) (t := 188) cf14 (by decide) (by decide) rfl rfl rfl (by decide) q2522 dX14_init_5904 (Or.inl rfl) rfl (fun _ => rfl) (fun _ => rfl) ?_
  have z204 := Zr_eS (o := 87) (f := 152) (t := 188) z203 (by decide) rfl (by decide)
  refine v_aload_n dX14_init_5907 0 rfl rfl ?_
  refine v_iconst dX14_init_5908 ?_
  refine v_nA24 z204 ⟨rfl, rfl, Or.inr ⟨rfl, rfl, show (88 : Nat) ≤ 189 from by decide⟩⟩ (by decide) rfl (rgl rfl) (by decide) (by decide) (And.intro (Or.inl (by decide)) (trivial)) (And.intro (Or.inl (by decide)) (trivial)) q459 dX14_init_5909 ?_
  have z205 := Zr_sA (c := 189) (x := (0, fun _ => 0)) (Zr_new z204 (by decide)) (by decide)
  refine v_putS (f := 153) (t := 189) cf14 (by decide) (by decide) rfl rfl rfl (by decide) q2523 dX14_init_5911 (Or.inl rfl) rfl (fun _ => rfl) (fun _ => rfl) ?_
  have z206 := Zr_eS (o := 87) (f := 153) (t := 189) z205 (by decide) rfl (by decide)
  refine v_aload_n dX14_init_5914 0 rfl rfl ?_
  refine v_iconst dX14_init_5915 ?_
  refine v_nA24 z206 ⟨rfl, rfl, Or.inr ⟨rfl, rfl, show (88 : Nat) ≤ 190 from by decide⟩⟩ (by decide) rfl (rgl rfl) (by decide) (by decide) (And.intro (Or.inl (by decide)) (trivial)) (And.intro (Or.inl (by decide)) (trivial)) q459 dX14_init_5916 ?_
  have z207 := Zr_sA (c := 190) (x := (0, fun _ => 0)) (Zr_new z206 (by decide)) (by decide)
  refine v_putS (f := 154) (t := 190) cf14 (by decide) (by decide) rfl rfl rfl (by decide) q2524 dX14_init_5918 (Or.inl rfl) rfl (fun _ => rfl) (fun _ => rfl) ?_
  have z208 := Zr_eS (o := 87) (f := 154) (t := 190) z207 (by decide) rfl (by decide)
  refine v_aload_n dX14_init_5921 0 rfl rfl ?_
  refine v_iconst dX14_init_5922 ?_
  refine v_nA24 z208 ⟨rfl, rfl, Or.inr ⟨rfl, rfl, show (88 : Nat) ≤ 191 from by decide⟩⟩ (by decide) rfl (rgl rfl) (by decide) (by decide) (And.intro (Or.inl (by decide)) (trivial)) (And.intro (Or.inl (by decide)) (trivial)) q459 dX14_init_5923 ?_
  have z209 := Zr_sA (c := 191) (x := (0, fun _ => 0)) (Zr_new z208 (by decide)) (by decide)
  refine v_putS (f := 155) (t := 191) cf14 (by decide) (by decide) rfl rfl rfl (by decide) q2525 dX14_init_5925 (Or.inl rfl) rfl (fun _ => rfl) (fun _ => rfl) ?_
  have z210 := Zr_eS (o := 87) (f := 155) (t := 191) z209 (by decide) rfl (by decide)
  refine v_aload_n dX14_init_5928 0 rfl rfl ?_
  refine v_iconst dX14_init_5929 ?_
  refine v_nA24 z210 ⟨rfl, rfl, Or.inr ⟨rfl, rfl, show (88 : Nat) ≤ 192 from by decide⟩⟩ (by decide) rfl (rgl rfl) (by decide) (by decide) (And.intro (Or.inl (by decide)) (trivial)) (And.intro (Or.inl (by decide)) (trivial)) q459 dX14_init_5930 ?_
  have z211 := Zr_sA (c := 192) (x := (0, fun _ => 0)) (Zr_new z210 (by decide)) (by decide)
  refine v_putS (f := 156) (t := 192) cf14 (by decide) (by decide) rfl rfl rfl (by decide) q2526 dX14_init_5932 (Or.inl rfl) rfl (fun _ => rfl) (fun _ => rfl) ?_
  have z212 := Zr_eS (o := 87) (f := 156) (t := 192) z211 (by decide) rfl (by decide)
  refine v_aload_n dX14_init_5935 0 rfl rfl ?_
  refine v_iconst dX14_init_5936 ?_
  refine v_nA24 z212 ⟨rfl, rfl, Or.inr ⟨rfl, rfl, show (88 : Nat) ≤ 193 from by decide⟩⟩ (by decide) rfl (rgl rfl) (by decide) (by decide) (And.intro (Or.inl (by decide)) (trivial)) (And.intro (Or.inl (by decide)) (trivial)) q459 dX14_init_5937 ?_
  have z213 := Zr_sA (c := 193) (x := (0, fun _ => 0)) (Zr_new z212 (by decide)) (by decide)
  refine v_putS (f := 157) (t := 193) cf14 (by decide) (by decide) rfl rfl rfl (by decide) q2527 dX14_init_5939 (Or.inl rfl) rfl (fun _ => rfl) (fun _ => rfl) ?_
  have z214 := Zr_eS (o := 87) (f := 157) (t := 193) z213 (by decide) rfl (by decide)
  refine v_aload_n dX14_init_5942 0 rfl rfl ?_
  refine v_iconst dX14_init_5943 ?_
  refine v_nA24 z214 ⟨rfl, rfl, Or.inr ⟨rfl, rfl, show (88 : Nat) ≤ 194 from by decide⟩⟩ (by decide) rfl (rgl rfl) (by decide) (by decide) (And.intro (Or.inl (by decide)) (trivial)) (And.intro (Or.inl (by decide)) (trivial)) q459 dX14_init_5944 ?_
  have z215 := Zr_sA (c := 194) (x := (0, fun _ => 0)) (Zr_new z214 (by decide)) (by decide)
  refine v_putS (f := 159) (t := 194) cf14 (by decide) (by decide) rfl rfl rfl (by decide) q2529 dX14_init_5946 (Or.inl rfl) rfl (fun _ => rfl) (fun _ => rfl) ?_
  have z216 := Zr_eS (o := 87) (f := 159) (t := 194) z215 (by decide) rfl (by decide)
  refine v_aload_n dX14_init_5949 0 rfl rfl ?_
  refine v_iconst dX14_init_5950 ?_
  refine v_nA24 z216 ⟨rfl, rfl, Or.inr ⟨rfl, rfl, show (88 : Nat) ≤ 195 from by decide⟩⟩ (by decide) rfl (rgl rfl) (by decide) (by decide) (And.intro (Or.inl (by decide)) (trivial)) (And.intro (Or.inl (by decide)) (trivial)) q459 dX14_init_5951 ?_
  have z217 := Zr_sA (c := 195) (x := (0, fun _ => 0)) (Zr_new z216 (by decide)) (by decide)
  refine v_putS (f := 160) (t := 195) cf14 (by decide) (by decide) rfl rfl rfl (by decide) q2530 dX14_init_5953 (Or.inl rfl) rfl (fun _ => rfl) (fun _ => rfl) ?_
  have z218 := Zr_eS (o := 87) (f := 160) (t := 195) z217 (by decide) rfl (by decide)
  refine v_aload_n dX14_init_5956 0 rfl rfl ?_
  refine v_iconst dX14_init_5957 ?_
  refine v_nA24 z218 ⟨rfl, rfl, Or.inr ⟨rfl, rfl, show (88 : Nat) ≤ 196 from by decide⟩⟩ (by decide) rfl (rgl rfl) (by decide) (by decide) (And.intro (Or.inl (by decide)) (trivial)) (And.intro (Or.inl (by decide)) (trivial)) q459 dX14_init_5958 ?_
  have z219 := Zr_sA (c := 196) (x := (0, fun _ => 0)) (Zr_new z218 (by decide)) (by decide)
  refine v_putS (f := 161) (t := 196) cf14 (by decide) (by decide) rfl rfl rfl (by decide) q2531 dX14_init_5960 (Or.inl rfl) rfl (fun _ => rfl) (fun _ => rfl) ?_
  have z220 := Zr_eS (o := 87) (f := 161) (t := 196) z219 (by decide) rfl (by decide)
  refine v_aload_n dX14_init_5963 0 rfl rfl ?_
  refine v_iconst dX14_init_5964 ?_
  refine v_nA24 z220 ⟨rfl, rfl, Or.inr ⟨rfl, rfl, show (88 : Nat) ≤ 197 from by decide⟩⟩ (by decide) rfl (rgl rfl) (by decide) (by decide) (And.intro (Or.inl (by decide)) (trivial)) (And.intro (Or.inl (by decide)) (trivial)) q459 dX14_init_5965 ?_
  have z221 := Zr_sA (c := 197) (x := (0, fun _ => 0)) (Zr_new z220 (by decide)) (by decide)
  refine v_putS (f := 162) (t := 197) cf14 (by decide) (by decide) rfl rfl rfl (by decide) q2532 dX14_init_5967 (Or.inl rfl) rfl (fun _ => rfl) (fun _ => rfl) ?_
  have z222 := Zr_eS (o := 87) (f := 162) (t := 197) z221 (by decide) rfl (by decide)
  exact v_cret (by decide) dX14_init_5970
