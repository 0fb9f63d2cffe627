set_option maxRecDepth 100000
/-! V-LAYER 3: rows, one an opcode (by tools/mkrows.py) -/
section
variable {cc : ByteArray} {own : String} {rv : Option vA} {σo : vS} {ret : Option FieldType} {F Lc nL : Nat} {tko : List (Nat × Nat)} {P : vP} {σ : vS} {pc : Nat} {L : List (Nat × vA)} {st : List vA}
/-- the frame of each proof -/
def v2 : vA → Bool
  | .inr (.inl _) => true
  | .inr (.inr (.inr v)) => v.category == 2
  | _ => false
theorem v2_dv (a : Nat → Nat) (q : vA) : ((dv a q).category == 2) = v2 q := by
  match q with
  | .inl x => rfl
  | .inr (.inl x) => rfl
  | .inr (.inr (.inl k)) => rfl
  | .inr (.inr (.inr v)) => rfl
/-- the locals behind a store of one slot, of two slots -/
def st1 (i : Nat) (v : vA) (L : List (Nat × vA)) : List (Nat × vA) := (i, v) :: L.filter (fun q => !(q.1 == i) && !(q.1 + 1 == i && v2 q.2))
def st2 (i : Nat) (v : vA) (L : List (Nat × vA)) : List (Nat × vA) := (i, v) :: L.filter (fun q => !(q.1 == i) && (!(q.1 == i + 1) && !(q.1 + 1 == i && v2 q.2)))
theorem dvl_st1 (a : Nat → Nat) (i : Nat) (v : vA) (L : List (Nat × vA)) : (i, dv a v) :: (dvl a L).filter (fun q => !(q.1 == i) && !(q.1 + 1 == i && q.2.category == 2)) = dvl a (st1 i v L) := by
  simp only [dvl, st1, List.map_cons, List.filter_map]
  congr 3
  funext q
  simp [Function.comp, v2_dv]
theorem dvl_st2 (a : Nat → Nat) (i : Nat) (v : vA) (L : List (Nat × vA)) : (i, dv a v) :: (dvl a L).filter (fun q => !(q.1 == i) && (!(q.1 == i + 1) && !(q.1 + 1 == i && q.2.category == 2))) = dvl a (st2 i v L) := by
  simp only [dvl, st2, List.map_cons, List.filter_map]
  congr 3
  funext q
  simp [Function.comp, v2_dv]
theorem v_iconst {n : Int} (hd : decode cc pc = .ok (.iconst n, 1)) (k : VW cc (own, rv, σo, ret, F, Lc, nL, tko) P σ (pc + 1) L (vI n :: st)) : VW cc (own, rv, σo, ret, F, Lc, nL, tko) P σ pc L (st) := by
  obtain ⟨k0, k⟩ := k
  refine And.intro k0 (fun M hX hR hM hN => ?_)
  have k := k M hX hR hM hN
  obtain ⟨⟨p, l, e, R, s, m, args, below, meth, c⟩, G, A, Q, b, o, nL0, l0, a0⟩ := M
  intro H locs a ls hP hD hS hl hj b1 b2
  have k := k H locs a ls hP hD hS hl hj b1 b2
  exact lv_iconst hX.1 hX.2.1 hd rfl k
theorem v_bipush {n : Int} (hd : decode cc pc = .ok (.bipush n, 2)) (hv : (Int8.ofInt n).toInt32 = Int32.ofInt n) (k : VW cc (own, rv, σo, ret, F, Lc, nL, tko) P σ (pc + 2) L (vI n :: st)) : VW cc (own, rv, σo, ret, F, Lc, nL, tko) P σ pc L (st) := by
  obtain ⟨k0, k⟩ := k
  refine And.intro k0 (fun M hX hR hM hN => ?_)
  have k := k M hX hR hM hN
  obtain ⟨⟨p, l, e, R, s, m, args, below, meth, c⟩, G, A, Q, b, o, nL0, l0, a0⟩ := M
  intro H locs a ls hP hD hS hl hj b1 b2
  have k := k H locs a ls hP hD hS hl hj b1 b2
  exact lv_bipush hX.1 hX.2.1 hd hv k
theorem v_sipush {n : Int} (hd : decode cc pc = .ok (.sipush n, 3)) (hv : (Int16.ofInt n).toInt32 = Int32.ofInt n) (k : VW cc (own, rv, σo, ret, F, Lc, nL, tko) P σ (pc + 3) L (vI n :: st)) : VW cc (own, rv, σo, ret, F, Lc, nL, tko) P σ pc L (st) := by
  obtain ⟨k0, k⟩ := k
  refine And.intro k0 (fun M hX hR hM hN => ?_)
  have k := k M hX hR hM hN
  obtain ⟨⟨p, l, e, R, s, m, args, below, meth, c⟩, G, A, Q, b, o, nL0, l0, a0⟩ := M
  intro H locs a ls hP hD hS hl hj b1 b2
  have k := k H locs a ls hP hD hS hl hj b1 b2
  exact lv_sipush hX.1 hX.2.1 hd hv k
theorem v_lconst {n : Int} {f : Fin 2} (hd : decode cc pc = .ok (.lconst f, 1)) (hv : Int64.ofNat (f : Nat) = Int64.ofInt n) (k : VW cc (own, rv, σo, ret, F, Lc, nL, tko) P σ (pc + 1) L (vL n :: st)) : VW cc (own, rv, σo, ret, F, Lc, nL, tko) P σ pc L (st) := by
  obtain ⟨k0, k⟩ := k
  refine And.intro k0 (fun M hX hR hM hN => ?_)
  have k := k M hX hR hM hN
  obtain ⟨⟨p, l, e, R, s, m, args, below, meth, c⟩, G, A, Q, b, o, nL0, l0, a0⟩ := M
  intro H locs a ls hP hD hS hl hj b1 b2
  have k := k H locs a ls hP hD hS hl hj b1 b2
  exact lv_lconst hX.1 hX.2.1 hd hv k
theorem v_ldc {n : Int} {i : Nat} {v : Int32} (hd : decode cc pc = .ok (.ldc i, 2)) (hc : Cond.constant own i v ∈ lw_all) (hv : Int32.ofInt n = v) (k : VW cc (own, rv, σo, ret, F, Lc, nL, tko) P σ (pc + 2) L (vI n :: st)) : VW cc (own, rv, σo, ret, F, Lc, nL, tko) P σ pc L (st) := by
  obtain ⟨k0, k⟩ := k
  refine And.intro k0 (fun M hX hR hM hN => ?_)
  have k := k M hX hR hM hN
  obtain ⟨⟨p, l, e, R, s, m, args, below, meth, c⟩, G, A, Q, b, o, nL0, l0, a0⟩ := M
  intro H locs a ls hP hD hS hl hj b1 b2
  have k := k H locs a ls hP hD hS hl hj b1 b2
  subst hv
  exact lv_ldc hX.1 hX.2.1 hX.2.2.2.1 (hX.2.2.2.2.1 _ hc) hd k
theorem v_ldcw {n : Int} {i : Nat} {v : Int32} (hd : decode cc pc = .ok (.ldc_w i, 3)) (hc : Cond.constant own i v ∈ lw_all) (hv : Int32.ofInt n = v) (k : VW cc (own, rv, σo, ret, F, Lc, nL, tko) P σ (pc + 3) L (vI n :: st)) : VW cc (own, rv, σo, ret, F, Lc, nL, tko) P σ pc L (st) := by
  obtain ⟨k0, k⟩ := k
  refine And.intro k0 (fun M hX hR hM hN => ?_)
  have k := k M hX hR hM hN
  obtain ⟨⟨p, l, e, R, s, m, args, below, meth, c⟩, G, A, Q, b, o, nL0, l0, a0⟩ := M
  intro H locs a ls hP hD hS hl hj b1 b2
  have k := k H locs a ls hP hD hS hl hj b1 b2
  subst hv
  exact lv_ldcw hX.1 hX.2.1 hX.2.2.2.1 (hX.2.2.2.2.1 _ hc) hd k
theorem v_ldc2 {n : Int} {i : Nat} {v : Int64} (hd : decode cc pc = .ok (.ldc2_w i, 3)) (hc : Cond.constantLong own i v ∈ lw_all) (hv : Int64.ofInt n = v) (k : VW cc (own, rv, σo, ret, F, Lc, nL, tko) P σ (pc + 3) L (vL n :: st)) : VW cc (own, rv, σo, ret, F, Lc, nL, tko) P σ pc L (st) := by
  obtain ⟨k0, k⟩ := k
  refine And.intro k0 (fun M hX hR hM hN => ?_)
  have k := k M hX hR hM hN
  obtain ⟨⟨p, l, e, R, s, m, args, below, meth, c⟩, G, A, Q, b, o, nL0, l0, a0⟩ := M
  intro H locs a ls hP hD hS hl hj b1 b2
  have k := k H locs a ls hP hD hS hl hj b1 b2
  subst hv
  exact lv_ldc2 hX.1 hX.2.1 hX.2.2.2.1 (hX.2.2.2.2.1 _ hc) hd k
theorem v_iload_n {n : Fin 4} {i : Nat} {x : Int} (hd : decode cc pc = .ok (.iload_n n, 1)) (j : Nat) (hi : (n : Nat) = i) (h : L[j]? = some (i, vI x)) (k : VW cc (own, rv, σo, ret, F, Lc, nL, tko) P σ (pc + 1) L (vI x :: st)) : VW cc (own, rv, σo, ret, F, Lc, nL, tko) P σ pc L st := by
  obtain ⟨k0, k⟩ := k
  refine And.intro k0 (fun M hX hR hM hN => ?_)
  have k := k M hX hR hM hN
  obtain ⟨⟨p, l, e, R, s, m, args, below, meth, c⟩, G, A, Q, b, o, nL0, l0, a0⟩ := M
  intro H locs a ls hP hD hS hl hj b1 b2
  have k := k H locs a ls hP hD hS hl hj b1 b2
  exact lv_iload_n hX.1 hX.2.1 hd hi (lv_at hl j (dvl_at h)) k
theorem v_iload {i : Nat} {x : Int} (hd : decode cc pc = .ok (.iload i, 2)) (j : Nat) (h : L[j]? = some (i, vI x)) (k : VW cc (own, rv, σo, ret, F, Lc, nL, tko) P σ (pc + 2) L (vI x :: st)) : VW cc (own, rv, σo, ret, F, Lc, nL, tko) P σ pc L st := by
  obtain ⟨k0, k⟩ := k
  refine And.intro k0 (fun M hX hR hM hN => ?_)
  have k := k M hX hR hM hN
  obtain ⟨⟨p, l, e, R, s, m, args, below, meth, c⟩, G, A, Q, b, o, nL0, l0, a0⟩ := M
  intro H locs a ls hP hD hS hl hj b1 b2
  have k := k H locs a ls hP hD hS hl hj b1 b2
  exact lv_iload hX.1 hX.2.1 hd (lv_at hl j (dvl_at h)) k
theorem v_lload_n {n : Fin 4} {i : Nat} {x : Int} (hd : decode cc pc = .ok (.lload_n n, 1)) (j : Nat) (hi : (n : Nat) = i) (h : L[j]? = some (i, vL x)) (k : VW cc (own, rv, σo, ret, F, Lc, nL, tko) P σ (pc + 1) L (vL x :: st)) : VW cc (own, rv, σo, ret, F, Lc, nL, tko) P σ pc L st := by
  obtain ⟨k0, k⟩ := k
  refine And.intro k0 (fun M hX hR hM hN => ?_)
  have k := k M hX hR hM hN
  obtain ⟨⟨p, l, e, R, s, m, args, below, meth, c⟩, G, A, Q, b, o, nL0, l0, a0⟩ := M
  intro H locs a ls hP hD hS hl hj b1 b2
  have k := k H locs a ls hP hD hS hl hj b1 b2
  exact lv_lload_n hX.1 hX.2.1 hd hi (lv_at hl j (dvl_at h)) k
theorem v_lload {i : Nat} {x : Int} (hd : decode cc pc = .ok (.lload i, 2)) (j : Nat) (h : L[j]? = some (i, vL x)) (k : VW cc (own, rv, σo, ret, F, Lc, nL, tko) P σ (pc + 2) L (vL x :: st)) : VW cc (own, rv, σo, ret, F, Lc, nL, tko) P σ pc L st := by
  obtain ⟨k0, k⟩ := k
  refine And.intro k0 (fun M hX hR hM hN => ?_)
  have k := k M hX hR hM hN
  obtain ⟨⟨p, l, e, R, s, m, args, below, meth, c⟩, G, A, Q, b, o, nL0, l0, a0⟩ := M
  intro H locs a ls hP hD hS hl hj b1 b2
  have k := k H locs a ls hP hD hS hl hj b1 b2
  exact lv_lload hX.1 hX.2.1 hd (lv_at hl j (dvl_at h)) k
theorem v_aload_n {n : Fin 4} {i : Nat} {x : Nat} (hd : decode cc pc = .ok (.aload_n n, 1)) (j : Nat) (hi : (n : Nat) = i) (h : L[j]? = some (i, vO x)) (k : VW cc (own, rv, σo, ret, F, Lc, nL, tko) P σ (pc + 1) L (vO x :: st)) : VW cc (own, rv, σo, ret, F, Lc, nL, tko) P σ pc L st := by
  obtain ⟨k0, k⟩ := k
  refine And.intro k0 (fun M hX hR hM hN => ?_)
  have k := k M hX hR hM hN
  obtain ⟨⟨p, l, e, R, s, m, args, below, meth, c⟩, G, A, Q, b, o, nL0, l0, a0⟩ := M
  intro H locs a ls hP hD hS hl hj b1 b2
  have k := k H locs a ls hP hD hS hl hj b1 b2
  exact lv_aload_n hX.1 hX.2.1 hd hi (lv_at hl j (dvl_at h)) k
theorem v_aload {i : Nat} {x : Nat} (hd : decode cc pc = .ok (.aload i, 2)) (j : Nat) (h : L[j]? = some (i, vO x)) (k : VW cc (own, rv, σo, ret, F, Lc, nL, tko) P σ (pc + 2) L (vO x :: st)) : VW cc (own, rv, σo, ret, F, Lc, nL, tko) P σ pc L st := by
  obtain ⟨k0, k⟩ := k
  refine And.intro k0 (fun M hX hR hM hN => ?_)
  have k := k M hX hR hM hN
  obtain ⟨⟨p, l, e, R, s, m, args, below, meth, c⟩, G, A, Q, b, o, nL0, l0, a0⟩ := M
  intro H locs a ls hP hD hS hl hj b1 b2
  have k := k H locs a ls hP hD hS hl hj b1 b2
  exact lv_aload hX.1 hX.2.1 hd (lv_at hl j (dvl_at h)) k
theorem v_istore_n {n : Fin 4} {i : Nat} {x : Int} {L1 : List (Nat × vA)} (hd : decode cc pc = .ok (.istore_n n, 1)) (hi : (n : Nat) = i) (hn : i < nL) (hL : st1 i (vI x) L = L1) (k : VW cc (own, rv, σo, ret, F, Lc, nL, tko) P σ (pc + 1) L1 st) : VW cc (own, rv, σo, ret, F, Lc, nL, tko) P σ pc L (vI x :: st) := by
  subst hL
  obtain ⟨k0, k⟩ := k
  refine And.intro k0 (fun M hX hR hM hN => ?_)
  have k := k M hX hR hM hN
  obtain ⟨⟨p, l, e, R, s, m, args, below, meth, c⟩, G, A, Q, b, o, nL0, l0, a0⟩ := M
  intro H locs a ls hP hD hS hl hj b1 b2
  exact lv_istore_n hX.1 hX.2.1 hd hi hl (by rw [show nL0 = nL from hN]; exact hn) (dvl_st1 a i (vI x) L) (fun ls1 hl1 => k H locs a ls1 hP hD hS hl1 hj b1 b2)
theorem v_istore {i : Nat} {x : Int} {L1 : List (Nat × vA)} (hd : decode cc pc = .ok (.istore i, 2)) (hn : i < nL) (hL : st1 i (vI x) L = L1) (k : VW cc (own, rv, σo, ret, F, Lc, nL, tko) P σ (pc + 2) L1 st) : VW cc (own, rv, σo, ret, F, Lc, nL, tko) P σ pc L (vI x :: st) := by
  subst hL
  obtain ⟨k0, k⟩ := k
  refine And.intro k0 (fun M hX hR hM hN => ?_)
  have k := k M hX hR hM hN
  obtain ⟨⟨p, l, e, R, s, m, args, below, meth, c⟩, G, A, Q, b, o, nL0, l0, a0⟩ := M
  intro H locs a ls hP hD hS hl hj b1 b2
  exact lv_istore hX.1 hX.2.1 hd hl (by rw [show nL0 = nL from hN]; exact hn) (dvl_st1 a i (vI x) L) (fun ls1 hl1 => k H locs a ls1 hP hD hS hl1 hj b1 b2)
theorem v_astore_n {n : Fin 4} {i : Nat} {x : Nat} {L1 : List (Nat × vA)} (hd : decode cc pc = .ok (.astore_n n, 1)) (hi : (n : Nat) = i) (hn : i < nL) (hL : st1 i (vO x) L = L1) (k : VW cc (own, rv, σo, ret, F, Lc, nL, tko) P σ (pc + 1) L1 st) : VW cc (own, rv, σo, ret, F, Lc, nL, tko) P σ pc L (vO x :: st) := by
  subst hL
  obtain ⟨k0, k⟩ := k
  refine And.intro k0 (fun M hX hR hM hN => ?_)
  have k := k M hX hR hM hN
  obtain ⟨⟨p, l, e, R, s, m, args, below, meth, c⟩, G, A, Q, b, o, nL0, l0, a0⟩ := M
  intro H locs a ls hP hD hS hl hj b1 b2
  exact lv_astore_n hX.1 hX.2.1 hd hi hl (by rw [show nL0 = nL from hN]; exact hn) (dvl_st1 a i (vO x) L) (fun ls1 hl1 => k H locs a ls1 hP hD hS hl1 hj b1 b2)
theorem v_astore {i : Nat} {x : Nat} {L1 : List (Nat × vA)} (hd : decode cc pc = .ok (.astore i, 2)) (hn : i < nL) (hL : st1 i (vO x) L = L1) (k : VW cc (own, rv, σo, ret, F, Lc, nL, tko) P σ (pc + 2) L1 st) : VW cc (own, rv, σo, ret, F, Lc, nL, tko) P σ pc L (vO x :: st) := by
  subst hL
  obtain ⟨k0, k⟩ := k
  refine And.intro k0 (fun M hX hR hM hN => ?_)
  have k := k M hX hR hM hN
  obtain ⟨⟨p, l, e, R, s, m, args, below, meth, c⟩, G, A, Q, b, o, nL0, l0, a0⟩ := M
  intro H locs a ls hP hD hS hl hj b1 b2
  exact lv_astore hX.1 hX.2.1 hd hl (by rw [show nL0 = nL from hN]; exact hn) (dvl_st1 a i (vO x) L) (fun ls1 hl1 => k H locs a ls1 hP hD hS hl1 hj b1 b2)
theorem v_lstore_n {n : Fin 4} {i : Nat} {x : Int} {L1 : List (Nat × vA)} (hd : decode cc pc = .ok (.lstore_n n, 1)) (hi : (n : Nat) = i) (hn : i + 1 < nL) (hL : st2 i (vL x) L = L1) (k : VW cc (own, rv, σo, ret, F, Lc, nL, tko) P σ (pc + 1) L1 st) : VW cc (own, rv, σo, ret, F, Lc, nL, tko) P σ pc L (vL x :: st) := by
  subst hL
  obtain ⟨k0, k⟩ := k
  refine And.intro k0 (fun M hX hR hM hN => ?_)
  have k := k M hX hR hM hN
  obtain ⟨⟨p, l, e, R, s, m, args, below, meth, c⟩, G, A, Q, b, o, nL0, l0, a0⟩ := M
  intro H locs a ls hP hD hS hl hj b1 b2
  exact lv_lstore_n hX.1 hX.2.1 hd hi hl (by rw [show nL0 = nL from hN]; exact hn) (dvl_st2 a i (vL x) L) (fun ls1 hl1 => k H locs a ls1 hP hD hS hl1 hj b1 b2)
theorem v_lstore {i : Nat} {x : Int} {L1 : List (Nat × vA)} (hd : decode cc pc = .ok (.lstore i, 2)) (hn : i + 1 < nL) (hL : st2 i (vL x) L = L1) (k : VW cc (own, rv, σo, ret, F, Lc, nL, tko) P σ (pc + 2) L1 st) : VW cc (own, rv, σo, ret, F, Lc, nL, tko) P σ pc L (vL x :: st) := by
  subst hL
  obtain ⟨k0, k⟩ := k
  refine And.intro k0 (fun M hX hR hM hN => ?_)
  have k := k M hX hR hM hN
  obtain ⟨⟨p, l, e, R, s, m, args, below, meth, c⟩, G, A, Q, b, o, nL0, l0, a0⟩ := M
  intro H locs a ls hP hD hS hl hj b1 b2
  exact lv_lstore hX.1 hX.2.1 hd hl (by rw [show nL0 = nL from hN]; exact hn) (dvl_st2 a i (vL x) L) (fun ls1 hl1 => k H locs a ls1 hP hD hS hl1 hj b1 b2)
theorem v_iinc {i : Nat} {n x : Int} {L1 : List (Nat × vA)} (hd : decode cc pc = .ok (.iinc i n, 3)) (j : Nat) (h : L[j]? = some (i, vI x)) (hn : i < nL) (hL : st1 i (vI (w32 (x + n))) L = L1) (k : VW cc (own, rv, σo, ret, F, Lc, nL, tko) P σ (pc + 3) L1 st) : VW cc (own, rv, σo, ret, F, Lc, nL, tko) P σ pc L st := by
  subst hL
  obtain ⟨k0, k⟩ := k
  refine And.intro k0 (fun M hX hR hM hN => ?_)
  have k := k M hX hR hM hN
  obtain ⟨⟨p, l, e, R, s, m, args, below, meth, c⟩, G, A, Q, b, o, nL0, l0, a0⟩ := M
  intro H locs a ls hP hD hS hl hj b1 b2
  exact lv_iinc hX.1 hX.2.1 hd hl (dvl_at h) (i32_add x n) (by rw [show nL0 = nL from hN]; exact hn) (dvl_st1 a i (vI (w32 (x + n))) L) (fun ls1 hl1 => k H locs a ls1 hP hD hS hl1 hj b1 b2)
theorem v_iincW {i : Nat} {n x : Int} {L1 : List (Nat × vA)} (hd : decode cc pc = .ok (.iinc i n, 6)) (j : Nat) (h : L[j]? = some (i, vI x)) (hn : i < nL) (hL : st1 i (vI (w32 (x + n))) L = L1) (k : VW cc (own, rv, σo, ret, F, Lc, nL, tko) P σ (pc + 6) L1 st) : VW cc (own, rv, σo, ret, F, Lc, nL, tko) P σ pc L st := by
  subst hL
  obtain ⟨k0, k⟩ := k
  refine And.intro k0 (fun M hX hR hM hN => ?_)
  have k := k M hX hR hM hN
  obtain ⟨⟨p, l, e, R, s, m, args, below, meth, c⟩, G, A, Q, b, o, nL0, l0, a0⟩ := M
  intro H locs a ls hP hD hS hl hj b1 b2
  exact lv_iincW hX.1 hX.2.1 hd hl (dvl_at h) (i32_add x n) (by rw [show nL0 = nL from hN]; exact hn) (dvl_st1 a i (vI (w32 (x + n))) L) (fun ls1 hl1 => k H locs a ls1 hP hD hS hl1 hj b1 b2)
theorem v_iadd {x y : Int} (hd : decode cc pc = .ok (.iadd, 1)) (k : VW cc (own, rv, σo, ret, F, Lc, nL, tko) P σ (pc + 1) L (vI (w32 (x + y)) :: st)) : VW cc (own, rv, σo, ret, F, Lc, nL, tko) P σ pc L (vI y :: vI x :: st) := by
  obtain ⟨k0, k⟩ := k
  refine And.intro k0 (fun M hX hR hM hN => ?_)
  have k := k M hX hR hM hN
  obtain ⟨⟨p, l, e, R, s, m, args, below, meth, c⟩, G, A, Q, b, o, nL0, l0, a0⟩ := M
  intro H locs a ls hP hD hS hl hj b1 b2
  have k := k H locs a ls hP hD hS hl hj b1 b2
  refine lv_iadd hX.1 hX.2.1 hd ?_
  rw [i32_add]
  exact k
theorem v_isub {x y : Int} (hd : decode cc pc = .ok (.isub, 1)) (k : VW cc (own, rv, σo, ret, F, Lc, nL, tko) P σ (pc + 1) L (vI (w32 (x - y)) :: st)) : VW cc (own, rv, σo, ret, F, Lc, nL, tko) P σ pc L (vI y :: vI x :: st) := by
  obtain ⟨k0, k⟩ := k
  refine And.intro k0 (fun M hX hR hM hN => ?_)
  have k := k M hX hR hM hN
  obtain ⟨⟨p, l, e, R, s, m, args, below, meth, c⟩, G, A, Q, b, o, nL0, l0, a0⟩ := M
  intro H locs a ls hP hD hS hl hj b1 b2
  have k := k H locs a ls hP hD hS hl hj b1 b2
  refine lv_isub hX.1 hX.2.1 hd ?_
  rw [i32_sub]
  exact k
theorem v_imul {x y : Int} (hd : decode cc pc = .ok (.imul, 1)) (k : VW cc (own, rv, σo, ret, F, Lc, nL, tko) P σ (pc + 1) L (vI (w32 (x * y)) :: st)) : VW cc (own, rv, σo, ret, F, Lc, nL, tko) P σ pc L (vI y :: vI x :: st) := by
  obtain ⟨k0, k⟩ := k
  refine And.intro k0 (fun M hX hR hM hN => ?_)
  have k := k M hX hR hM hN
  obtain ⟨⟨p, l, e, R, s, m, args, below, meth, c⟩, G, A, Q, b, o, nL0, l0, a0⟩ := M
  intro H locs a ls hP hD hS hl hj b1 b2
  have k := k H locs a ls hP hD hS hl hj b1 b2
  refine lv_imul hX.1 hX.2.1 hd ?_
  rw [i32_mul]
  exact k
theorem v_iand {x y : Int} (hd : decode cc pc = .ok (.iand, 1)) (k : VW cc (own, rv, σo, ret, F, Lc, nL, tko) P σ (pc + 1) L (vI (and32 x y) :: st)) : VW cc (own, rv, σo, ret, F, Lc, nL, tko) P σ pc L (vI y :: vI x :: st) := by
  obtain ⟨k0, k⟩ := k
  refine And.intro k0 (fun M hX hR hM hN => ?_)
  have k := k M hX hR hM hN
  obtain ⟨⟨p, l, e, R, s, m, args, below, meth, c⟩, G, A, Q, b, o, nL0, l0, a0⟩ := M
  intro H locs a ls hP hD hS hl hj b1 b2
  have k := k H locs a ls hP hD hS hl hj b1 b2
  refine lv_iand hX.1 hX.2.1 hd ?_
  have ev : Int32.ofInt x &&& Int32.ofInt y = Int32.ofInt (and32 x y) := (i32_of _).symm
  rw [ev]
  exact k
theorem v_ior {x y : Int} (hd : decode cc pc = .ok (.ior, 1)) (k : VW cc (own, rv, σo, ret, F, Lc, nL, tko) P σ (pc + 1) L (vI (or32 x y) :: st)) : VW cc (own, rv, σo, ret, F, Lc, nL, tko) P σ pc L (vI y :: vI x :: st) := by
  obtain ⟨k0, k⟩ := k
  refine And.intro k0 (fun M hX hR hM hN => ?_)
  have k := k M hX hR hM hN
  obtain ⟨⟨p, l, e, R, s, m, args, below, meth, c⟩, G, A, Q, b, o, nL0, l0, a0⟩ := M
  intro H locs a ls hP hD hS hl hj b1 b2
  have k := k H locs a ls hP hD hS hl hj b1 b2
  refine lv_ior hX.1 hX.2.1 hd ?_
  have ev : Int32.ofInt x ||| Int32.ofInt y = Int32.ofInt (or32 x y) := (i32_of _).symm
  rw [ev]
  exact k
theorem v_ixor {x y : Int} (hd : decode cc pc = .ok (.ixor, 1)) (k : VW cc (own, rv, σo, ret, F, Lc, nL, tko) P σ (pc + 1) L (vI (xor32 x y) :: st)) : VW cc (own, rv, σo, ret, F, Lc, nL, tko) P σ pc L (vI y :: vI x :: st) := by
  obtain ⟨k0, k⟩ := k
  refine And.intro k0 (fun M hX hR hM hN => ?_)
  have k := k M hX hR hM hN
  obtain ⟨⟨p, l, e, R, s, m, args, below, meth, c⟩, G, A, Q, b, o, nL0, l0, a0⟩ := M
  intro H locs a ls hP hD hS hl hj b1 b2
  have k := k H locs a ls hP hD hS hl hj b1 b2
  refine lv_ixor hX.1 hX.2.1 hd ?_
  have ev : Int32.ofInt x ^^^ Int32.ofInt y = Int32.ofInt (xor32 x y) := (i32_of _).symm
  rw [ev]
  exact k
theorem v_ishl {x y : Int} (hd : decode cc pc = .ok (.ishl, 1)) (k : VW cc (own, rv, σo, ret, F, Lc, nL, tko) P σ (pc + 1) L (vI (shl32 x y) :: st)) : VW cc (own, rv, σo, ret, F, Lc, nL, tko) P σ pc L (vI y :: vI x :: st) := by
  obtain ⟨k0, k⟩ := k
  refine And.intro k0 (fun M hX hR hM hN => ?_)
  have k := k M hX hR hM hN
  obtain ⟨⟨p, l, e, R, s, m, args, below, meth, c⟩, G, A, Q, b, o, nL0, l0, a0⟩ := M
  intro H locs a ls hP hD hS hl hj b1 b2
  have k := k H locs a ls hP hD hS hl hj b1 b2
  refine lv_ishl hX.1 hX.2.1 hd ?_
  have ev : Int32.ofInt x <<< (Int32.ofInt y &&& 31) = Int32.ofInt (shl32 x y) := (i32_of _).symm
  rw [ev]
  exact k
theorem v_ishr {x y : Int} (hd : decode cc pc = .ok (.ishr, 1)) (k : VW cc (own, rv, σo, ret, F, Lc, nL, tko) P σ (pc + 1) L (vI (shr32 x y) :: st)) : VW cc (own, rv, σo, ret, F, Lc, nL, tko) P σ pc L (vI y :: vI x :: st) := by
  obtain ⟨k0, k⟩ := k
  refine And.intro k0 (fun M hX hR hM hN => ?_)
  have k := k M hX hR hM hN
  obtain ⟨⟨p, l, e, R, s, m, args, below, meth, c⟩, G, A, Q, b, o, nL0, l0, a0⟩ := M
  intro H locs a ls hP hD hS hl hj b1 b2
  have k := k H locs a ls hP hD hS hl hj b1 b2
  refine lv_ishr hX.1 hX.2.1 hd ?_
  have ev : Int32.ofInt x >>> (Int32.ofInt y &&& 31) = Int32.ofInt (shr32 x y) := (i32_of _).symm
  rw [ev]
  exact k
theorem v_iushr {x y : Int} (hd : decode cc pc = .ok (.iushr, 1)) (k : VW cc (own, rv, σo, ret, F, Lc, nL, tko) P σ (pc + 1) L (vI (ushr32 x y) :: st)) : VW cc (own, rv, σo, ret, F, Lc, nL, tko) P σ pc L (vI y :: vI x :: st) := by
  obtain ⟨k0, k⟩ := k
  refine And.intro k0 (fun M hX hR hM hN => ?_)
  have k := k M hX hR hM hN
  obtain ⟨⟨p, l, e, R, s, m, args, below, meth, c⟩, G, A, Q, b, o, nL0, l0, a0⟩ := M
  intro H locs a ls hP hD hS hl hj b1 b2
  have k := k H locs a ls hP hD hS hl hj b1 b2
  refine lv_iushr hX.1 hX.2.1 hd (i32_of _).symm ?_
  exact k
theorem v_idiv {x y : Int} (hd : decode cc pc = .ok (.idiv, 1)) (hy : rg y) (h0 : y ≠ 0) (k : VW cc (own, rv, σo, ret, F, Lc, nL, tko) P σ (pc + 1) L (vI (d32 x y) :: st)) : VW cc (own, rv, σo, ret, F, Lc, nL, tko) P σ pc L (vI y :: vI x :: st) := by
  obtain ⟨k0, k⟩ := k
  refine And.intro k0 (fun M hX hR hM hN => ?_)
  have k := k M hX hR hM hN
  obtain ⟨⟨p, l, e, R, s, m, args, below, meth, c⟩, G, A, Q, b, o, nL0, l0, a0⟩ := M
  intro H locs a ls hP hD hS hl hj b1 b2
  have k := k H locs a ls hP hD hS hl hj b1 b2
  refine lv_idiv hX.1 hX.2.1 hd (fun z => h0 ((i32_eq hy rg_0).mp z)) ?_
  have ev : Int32.ofInt x / Int32.ofInt y = Int32.ofInt (d32 x y) := (i32_of _).symm
  rw [ev]
  exact k
theorem v_irem {x y : Int} (hd : decode cc pc = .ok (.irem, 1)) (hy : rg y) (h0 : y ≠ 0) (k : VW cc (own, rv, σo, ret, F, Lc, nL, tko) P σ (pc + 1) L (vI (m32 x y) :: st)) : VW cc (own, rv, σo, ret, F, Lc, nL, tko) P σ pc L (vI y :: vI x :: st) := by
  obtain ⟨k0, k⟩ := k
  refine And.intro k0 (fun M hX hR hM hN => ?_)
  have k := k M hX hR hM hN
  obtain ⟨⟨p, l, e, R, s, m, args, below, meth, c⟩, G, A, Q, b, o, nL0, l0, a0⟩ := M
  intro H locs a ls hP hD hS hl hj b1 b2
  have k := k H locs a ls hP hD hS hl hj b1 b2
  refine lv_irem hX.1 hX.2.1 hd (fun z => h0 ((i32_eq hy rg_0).mp z)) ?_
  have ev : Int32.ofInt x - Int32.ofInt x / Int32.ofInt y * Int32.ofInt y = Int32.ofInt (m32 x y) := (i32_of _).symm
  rw [ev]
  exact k
theorem v_ineg {x : Int} (hd : decode cc pc = .ok (.ineg, 1)) (k : VW cc (own, rv, σo, ret, F, Lc, nL, tko) P σ (pc + 1) L (vI (w32 (-x)) :: st)) : VW cc (own, rv, σo, ret, F, Lc, nL, tko) P σ pc L (vI x :: st) := by
  obtain ⟨k0, k⟩ := k
  refine And.intro k0 (fun M hX hR hM hN => ?_)
  have k := k M hX hR hM hN
  obtain ⟨⟨p, l, e, R, s, m, args, below, meth, c⟩, G, A, Q, b, o, nL0, l0, a0⟩ := M
  intro H locs a ls hP hD hS hl hj b1 b2
  have k := k H locs a ls hP hD hS hl hj b1 b2
  refine lv_ineg hX.1 hX.2.1 hd ?_
  rw [i32_neg]
  exact k
theorem v_i2l {x : Int} (hd : decode cc pc = .ok (.i2l, 1)) (hx : rg x) (k : VW cc (own, rv, σo, ret, F, Lc, nL, tko) P σ (pc + 1) L (vL x :: st)) : VW cc (own, rv, σo, ret, F, Lc, nL, tko) P σ pc L (vI x :: st) := by
  obtain ⟨k0, k⟩ := k
  refine And.intro k0 (fun M hX hR hM hN => ?_)
  have k := k M hX hR hM hN
  obtain ⟨⟨p, l, e, R, s, m, args, below, meth, c⟩, G, A, Q, b, o, nL0, l0, a0⟩ := M
  intro H locs a ls hP hD hS hl hj b1 b2
  have k := k H locs a ls hP hD hS hl hj b1 b2
  exact lv_i2l hX.1 hX.2.1 hd (i64_i32 hx) k
theorem v_l2i {x : Int} (hd : decode cc pc = .ok (.l2i, 1)) (k : VW cc (own, rv, σo, ret, F, Lc, nL, tko) P σ (pc + 1) L (vI (w32 x) :: st)) : VW cc (own, rv, σo, ret, F, Lc, nL, tko) P σ pc L (vL x :: st) := by
  obtain ⟨k0, k⟩ := k
  refine And.intro k0 (fun M hX hR hM hN => ?_)
  have k := k M hX hR hM hN
  obtain ⟨⟨p, l, e, R, s, m, args, below, meth, c⟩, G, A, Q, b, o, nL0, l0, a0⟩ := M
  intro H locs a ls hP hD hS hl hj b1 b2
  have k := k H locs a ls hP hD hS hl hj b1 b2
  exact lv_l2i hX.1 hX.2.1 hd (i32_i64 x) k
theorem v_i2b {x : Int} (hd : decode cc pc = .ok (.i2b, 1)) (k : VW cc (own, rv, σo, ret, F, Lc, nL, tko) P σ (pc + 1) L (vI (n8 x) :: st)) : VW cc (own, rv, σo, ret, F, Lc, nL, tko) P σ pc L (vI x :: st) := by
  obtain ⟨k0, k⟩ := k
  refine And.intro k0 (fun M hX hR hM hN => ?_)
  have k := k M hX hR hM hN
  obtain ⟨⟨p, l, e, R, s, m, args, below, meth, c⟩, G, A, Q, b, o, nL0, l0, a0⟩ := M
  intro H locs a ls hP hD hS hl hj b1 b2
  have k := k H locs a ls hP hD hS hl hj b1 b2
  exact lv_i2b hX.1 hX.2.1 hd (i32_of _).symm k
theorem v_ladd {x y : Int} (hd : decode cc pc = .ok (.ladd, 1)) (k : VW cc (own, rv, σo, ret, F, Lc, nL, tko) P σ (pc + 1) L (vL (w64 (x + y)) :: st)) : VW cc (own, rv, σo, ret, F, Lc, nL, tko) P σ pc L (vL y :: vL x :: st) := by
  obtain ⟨k0, k⟩ := k
  refine And.intro k0 (fun M hX hR hM hN => ?_)
  have k := k M hX hR hM hN
  obtain ⟨⟨p, l, e, R, s, m, args, below, meth, c⟩, G, A, Q, b, o, nL0, l0, a0⟩ := M
  intro H locs a ls hP hD hS hl hj b1 b2
  have k := k H locs a ls hP hD hS hl hj b1 b2
  refine lv_ladd hX.1 hX.2.1 hd ?_
  rw [i64_add]
  exact k
theorem v_lsub {x y : Int} (hd : decode cc pc = .ok (.lsub, 1)) (k : VW cc (own, rv, σo, ret, F, Lc, nL, tko) P σ (pc + 1) L (vL (w64 (x - y)) :: st)) : VW cc (own, rv, σo, ret, F, Lc, nL, tko) P σ pc L (vL y :: vL x :: st) := by
  obtain ⟨k0, k⟩ := k
  refine And.intro k0 (fun M hX hR hM hN => ?_)
  have k := k M hX hR hM hN
  obtain ⟨⟨p, l, e, R, s, m, args, below, meth, c⟩, G, A, Q, b, o, nL0, l0, a0⟩ := M
  intro H locs a ls hP hD hS hl hj b1 b2
  have k := k H locs a ls hP hD hS hl hj b1 b2
  refine lv_lsub hX.1 hX.2.1 hd ?_
  rw [i64_sub]
  exact k
theorem v_lmul {x y : Int} (hd : decode cc pc = .ok (.lmul, 1)) (k : VW cc (own, rv, σo, ret, F, Lc, nL, tko) P σ (pc + 1) L (vL (w64 (x * y)) :: st)) : VW cc (own, rv, σo, ret, F, Lc, nL, tko) P σ pc L (vL y :: vL x :: st) := by
  obtain ⟨k0, k⟩ := k
  refine And.intro k0 (fun M hX hR hM hN => ?_)
  have k := k M hX hR hM hN
  obtain ⟨⟨p, l, e, R, s, m, args, below, meth, c⟩, G, A, Q, b, o, nL0, l0, a0⟩ := M
  intro H locs a ls hP hD hS hl hj b1 b2
  have k := k H locs a ls hP hD hS hl hj b1 b2
  refine lv_lmul hX.1 hX.2.1 hd ?_
  rw [i64_mul]
  exact k
theorem v_land {x y : Int} (hd : decode cc pc = .ok (.land, 1)) (k : VW cc (own, rv, σo, ret, F, Lc, nL, tko) P σ (pc + 1) L (vL (and64 x y) :: st)) : VW cc (own, rv, σo, ret, F, Lc, nL, tko) P σ pc L (vL y :: vL x :: st) := by
  obtain ⟨k0, k⟩ := k
  refine And.intro k0 (fun M hX hR hM hN => ?_)
  have k := k M hX hR hM hN
  obtain ⟨⟨p, l, e, R, s, m, args, below, meth, c⟩, G, A, Q, b, o, nL0, l0, a0⟩ := M
  intro H locs a ls hP hD hS hl hj b1 b2
  have k := k H locs a ls hP hD hS hl hj b1 b2
  refine lv_land hX.1 hX.2.1 hd ?_
  have ev : Int64.ofInt x &&& Int64.ofInt y = Int64.ofInt (and64 x y) := (i64_of _).symm
  rw [ev]
  exact k
theorem v_lor {x y : Int} (hd : decode cc pc = .ok (.lor, 1)) (k : VW cc (own, rv, σo, ret, F, Lc, nL, tko) P σ (pc + 1) L (vL (or64 x y) :: st)) : VW cc (own, rv, σo, ret, F, Lc, nL, tko) P σ pc L (vL y :: vL x :: st) := by
  obtain ⟨k0, k⟩ := k
  refine And.intro k0 (fun M hX hR hM hN => ?_)
  have k := k M hX hR hM hN
  obtain ⟨⟨p, l, e, R, s, m, args, below, meth, c⟩, G, A, Q, b, o, nL0, l0, a0⟩ := M
  intro H locs a ls hP hD hS hl hj b1 b2
  have k := k H locs a ls hP hD hS hl hj b1 b2
  refine lv_lor hX.1 hX.2.1 hd ?_
  have ev : Int64.ofInt x ||| Int64.ofInt y = Int64.ofInt (or64 x y) := (i64_of _).symm
  rw [ev]
  exact k
theorem v_lshl {x y : Int} (hd : decode cc pc = .ok (.lshl, 1)) (k : VW cc (own, rv, σo, ret, F, Lc, nL, tko) P σ (pc + 1) L (vL (shl64 x y) :: st)) : VW cc (own, rv, σo, ret, F, Lc, nL, tko) P σ pc L (vI y :: vL x :: st) := by
  obtain ⟨k0, k⟩ := k
  refine And.intro k0 (fun M hX hR hM hN => ?_)
  have k := k M hX hR hM hN
  obtain ⟨⟨p, l, e, R, s, m, args, below, meth, c⟩, G, A, Q, b, o, nL0, l0, a0⟩ := M
  intro H locs a ls hP hD hS hl hj b1 b2
  have k := k H locs a ls hP hD hS hl hj b1 b2
  refine lv_lshl hX.1 hX.2.1 hd (i64_of _).symm ?_
  exact k
theorem v_lshr {x y : Int} (hd : decode cc pc = .ok (.lshr, 1)) (k : VW cc (own, rv, σo, ret, F, Lc, nL, tko) P σ (pc + 1) L (vL (shr64 x y) :: st)) : VW cc (own, rv, σo, ret, F, Lc, nL, tko) P σ pc L (vI y :: vL x :: st) := by
  obtain ⟨k0, k⟩ := k
  refine And.intro k0 (fun M hX hR hM hN => ?_)
  have k := k M hX hR hM hN
  obtain ⟨⟨p, l, e, R, s, m, args, below, meth, c⟩, G, A, Q, b, o, nL0, l0, a0⟩ := M
  intro H locs a ls hP hD hS hl hj b1 b2
  have k := k H locs a ls hP hD hS hl hj b1 b2
  refine lv_lshr hX.1 hX.2.1 hd (i64_of _).symm ?_
  exact k
theorem v_lushr {x y : Int} (hd : decode cc pc = .ok (.lushr, 1)) (k : VW cc (own, rv, σo, ret, F, Lc, nL, tko) P σ (pc + 1) L (vL (ushr64 x y) :: st)) : VW cc (own, rv, σo, ret, F, Lc, nL, tko) P σ pc L (vI y :: vL x :: st) := by
  obtain ⟨k0, k⟩ := k
  refine And.intro k0 (fun M hX hR hM hN => ?_)
  have k := k M hX hR hM hN
  obtain ⟨⟨p, l, e, R, s, m, args, below, meth, c⟩, G, A, Q, b, o, nL0, l0, a0⟩ := M
  intro H locs a ls hP hD hS hl hj b1 b2
  have k := k H locs a ls hP hD hS hl hj b1 b2
  refine lv_lushr hX.1 hX.2.1 hd (i64_of _).symm ?_
  exact k
theorem v_lcmp {x y : Int} (hd : decode cc pc = .ok (.lcmp, 1)) (hx : rgL x) (hy : rgL y) (k : VW cc (own, rv, σo, ret, F, Lc, nL, tko) P σ (pc + 1) L (vI (cmp64 x y) :: st)) : VW cc (own, rv, σo, ret, F, Lc, nL, tko) P σ pc L (vL y :: vL x :: st) := by
  obtain ⟨k0, k⟩ := k
  refine And.intro k0 (fun M hX hR hM hN => ?_)
  have k := k M hX hR hM hN
  obtain ⟨⟨p, l, e, R, s, m, args, below, meth, c⟩, G, A, Q, b, o, nL0, l0, a0⟩ := M
  intro H locs a ls hP hD hS hl hj b1 b2
  have k := k H locs a ls hP hD hS hl hj b1 b2
  refine W.lcmp hX.1 hX.2.1 hd ?_
  rw [lg_cmp64 hx hy]
  exact k
theorem v_dupI {x : Int} (hd : decode cc pc = .ok (.dup, 1)) (k : VW cc (own, rv, σo, ret, F, Lc, nL, tko) P σ (pc + 1) L (vI x :: vI x :: st)) : VW cc (own, rv, σo, ret, F, Lc, nL, tko) P σ pc L (vI x :: st) := by
  obtain ⟨k0, k⟩ := k
  refine And.intro k0 (fun M hX hR hM hN => ?_)
  have k := k M hX hR hM hN
  obtain ⟨⟨p, l, e, R, s, m, args, below, meth, c⟩, G, A, Q, b, o, nL0, l0, a0⟩ := M
  intro H locs a ls hP hD hS hl hj b1 b2
  have k := k H locs a ls hP hD hS hl hj b1 b2
  exact lv_dup hX.1 hX.2.1 hd rfl k
theorem v_popI {x : Int} (hd : decode cc pc = .ok (.pop, 1)) (k : VW cc (own, rv, σo, ret, F, Lc, nL, tko) P σ (pc + 1) L (st)) : VW cc (own, rv, σo, ret, F, Lc, nL, tko) P σ pc L (vI x :: st) := by
  obtain ⟨k0, k⟩ := k
  refine And.intro k0 (fun M hX hR hM hN => ?_)
  have k := k M hX hR hM hN
  obtain ⟨⟨p, l, e, R, s, m, args, below, meth, c⟩, G, A, Q, b, o, nL0, l0, a0⟩ := M
  intro H locs a ls hP hD hS hl hj b1 b2
  have k := k H locs a ls hP hD hS hl hj b1 b2
  exact lv_pop hX.1 hX.2.1 hd rfl k
theorem v_dupO {x : Nat} (hd : decode cc pc = .ok (.dup, 1)) (k : VW cc (own, rv, σo, ret, F, Lc, nL, tko) P σ (pc + 1) L (vO x :: vO x :: st)) : VW cc (own, rv, σo, ret, F, Lc, nL, tko) P σ pc L (vO x :: st) := by
  obtain ⟨k0, k⟩ := k
  refine And.intro k0 (fun M hX hR hM hN => ?_)
  have k := k M hX hR hM hN
  obtain ⟨⟨p, l, e, R, s, m, args, below, meth, c⟩, G, A, Q, b, o, nL0, l0, a0⟩ := M
  intro H locs a ls hP hD hS hl hj b1 b2
  have k := k H locs a ls hP hD hS hl hj b1 b2
  exact lv_dup hX.1 hX.2.1 hd rfl k
theorem v_popO {x : Nat} (hd : decode cc pc = .ok (.pop, 1)) (k : VW cc (own, rv, σo, ret, F, Lc, nL, tko) P σ (pc + 1) L (st)) : VW cc (own, rv, σo, ret, F, Lc, nL, tko) P σ pc L (vO x :: st) := by
  obtain ⟨k0, k⟩ := k
  refine And.intro k0 (fun M hX hR hM hN => ?_)
  have k := k M hX hR hM hN
  obtain ⟨⟨p, l, e, R, s, m, args, below, meth, c⟩, G, A, Q, b, o, nL0, l0, a0⟩ := M
  intro H locs a ls hP hD hS hl hj b1 b2
  have k := k H locs a ls hP hD hS hl hj b1 b2
  exact lv_pop hX.1 hX.2.1 hd rfl k
theorem v_dup2IO {x : Int} {y : Nat} (hd : decode cc pc = .ok (.dup2, 1)) (k : VW cc (own, rv, σo, ret, F, Lc, nL, tko) P σ (pc + 1) L (vI x :: vO y :: vI x :: vO y :: st)) : VW cc (own, rv, σo, ret, F, Lc, nL, tko) P σ pc L (vI x :: vO y :: st) := by
  obtain ⟨k0, k⟩ := k
  refine And.intro k0 (fun M hX hR hM hN => ?_)
  have k := k M hX hR hM hN
  obtain ⟨⟨p, l, e, R, s, m, args, below, meth, c⟩, G, A, Q, b, o, nL0, l0, a0⟩ := M
  intro H locs a ls hP hD hS hl hj b1 b2
  have k := k H locs a ls hP hD hS hl hj b1 b2
  exact lv_dup2_11 hX.1 hX.2.1 hd rfl rfl k
theorem v_icmp_eq {x y : Int} {off : Int} {tgt : Nat} (hd : decode cc pc = .ok (.if_icmp .eq off, 3)) (hx : rg x) (hy : rg y) (ht : (pc : Int) + off = (tgt : Int)) (kt : x = y → VW cc (own, rv, σo, ret, F, Lc, nL, tko) P σ tgt L st) (kf : ¬ x = y → VW cc (own, rv, σo, ret, F, Lc, nL, tko) P σ (pc + 3) L st) : VW cc (own, rv, σo, ret, F, Lc, nL, tko) P σ pc L (vI y :: vI x :: st) := by
  have k0 : Pc P σ ≤ Pc (P0 tko) σo ∧ Ps P σ ≤ Ps (P0 tko) σo ∧ rvOk rv := by
    by_cases z : x = y
    · exact (kt z).1
    · exact (kf z).1
  refine And.intro k0 (fun M hX hR hM hN => ?_)
  have kt := fun z => (kt z).2 M hX hR hM hN
  have kf := fun z => (kf z).2 M hX hR hM hN
  obtain ⟨⟨p, l, e, R, s, m, args, below, meth, c⟩, G, A, Q, b, o, nL0, l0, a0⟩ := M
  intro H locs a ls hP hD hS hl hj b1 b2
  have kt := fun z => kt z H locs a ls hP hD hS hl hj b1 b2
  have kf := fun z => kf z H locs a ls hP hD hS hl hj b1 b2
  exact lv_icmp_eq hX.1 hX.2.1 hd ht (fun z => kt ((i32_eq hx hy).mp z)) (fun z => kf (fun w => z ((i32_eq hx hy).mpr w)))
theorem v_if_eq {x : Int} {off : Int} {tgt : Nat} (hd : decode cc pc = .ok (.ifCond .eq off, 3)) (hx : rg x) (ht : (pc : Int) + off = (tgt : Int)) (kt : x = 0 → VW cc (own, rv, σo, ret, F, Lc, nL, tko) P σ tgt L st) (kf : ¬ x = 0 → VW cc (own, rv, σo, ret, F, Lc, nL, tko) P σ (pc + 3) L st) : VW cc (own, rv, σo, ret, F, Lc, nL, tko) P σ pc L (vI x :: st) := by
  have k0 : Pc P σ ≤ Pc (P0 tko) σo ∧ Ps P σ ≤ Ps (P0 tko) σo ∧ rvOk rv := by
    by_cases z : x = 0
    · exact (kt z).1
    · exact (kf z).1
  refine And.intro k0 (fun M hX hR hM hN => ?_)
  have kt := fun z => (kt z).2 M hX hR hM hN
  have kf := fun z => (kf z).2 M hX hR hM hN
  obtain ⟨⟨p, l, e, R, s, m, args, below, meth, c⟩, G, A, Q, b, o, nL0, l0, a0⟩ := M
  intro H locs a ls hP hD hS hl hj b1 b2
  have kt := fun z => kt z H locs a ls hP hD hS hl hj b1 b2
  have kf := fun z => kf z H locs a ls hP hD hS hl hj b1 b2
  exact lv_if_eq hX.1 hX.2.1 hd ht (fun z => kt ((i32_eq hx rg_0).mp z)) (fun z => kf (fun w => z ((i32_eq hx rg_0).mpr w)))
theorem v_icmp_ne {x y : Int} {off : Int} {tgt : Nat} (hd : decode cc pc = .ok (.if_icmp .ne off, 3)) (hx : rg x) (hy : rg y) (ht : (pc : Int) + off = (tgt : Int)) (kt : ¬ x = y → VW cc (own, rv, σo, ret, F, Lc, nL, tko) P σ tgt L st) (kf : x = y → VW cc (own, rv, σo, ret, F, Lc, nL, tko) P σ (pc + 3) L st) : VW cc (own, rv, σo, ret, F, Lc, nL, tko) P σ pc L (vI y :: vI x :: st) := by
  have k0 : Pc P σ ≤ Pc (P0 tko) σo ∧ Ps P σ ≤ Ps (P0 tko) σo ∧ rvOk rv := by
    by_cases z : x = y
    · exact (kf z).1
    · exact (kt z).1
  refine And.intro k0 (fun M hX hR hM hN => ?_)
  have kt := fun z => (kt z).2 M hX hR hM hN
  have kf := fun z => (kf z).2 M hX hR hM hN
  obtain ⟨⟨p, l, e, R, s, m, args, below, meth, c⟩, G, A, Q, b, o, nL0, l0, a0⟩ := M
  intro H locs a ls hP hD hS hl hj b1 b2
  have kt := fun z => kt z H locs a ls hP hD hS hl hj b1 b2
  have kf := fun z => kf z H locs a ls hP hD hS hl hj b1 b2
  exact lv_icmp_ne hX.1 hX.2.1 hd ht (fun z => kt (fun w => z ((i32_eq hx hy).mpr w))) (fun z => kf ((i32_eq hx hy).mp z))
theorem v_if_ne {x : Int} {off : Int} {tgt : Nat} (hd : decode cc pc = .ok (.ifCond .ne off, 3)) (hx : rg x) (ht : (pc : Int) + off = (tgt : Int)) (kt : ¬ x = 0 → VW cc (own, rv, σo, ret, F, Lc, nL, tko) P σ tgt L st) (kf : x = 0 → VW cc (own, rv, σo, ret, F, Lc, nL, tko) P σ (pc + 3) L st) : VW cc (own, rv, σo, ret, F, Lc, nL, tko) P σ pc L (vI x :: st) := by
  have k0 : Pc P σ ≤ Pc (P0 tko) σo ∧ Ps P σ ≤ Ps (P0 tko) σo ∧ rvOk rv := by
    by_cases z : x = 0
    · exact (kf z).1
    · exact (kt z).1
  refine And.intro k0 (fun M hX hR hM hN => ?_)
  have kt := fun z => (kt z).2 M hX hR hM hN
  have kf := fun z => (kf z).2 M hX hR hM hN
  obtain ⟨⟨p, l, e, R, s, m, args, below, meth, c⟩, G, A, Q, b, o, nL0, l0, a0⟩ := M
  intro H locs a ls hP hD hS hl hj b1 b2
  have kt := fun z => kt z H locs a ls hP hD hS hl hj b1 b2
  have kf := fun z => kf z H locs a ls hP hD hS hl hj b1 b2
  exact lv_if_ne hX.1 hX.2.1 hd ht (fun z => kt (fun w => z ((i32_eq hx rg_0).mpr w))) (fun z => kf ((i32_eq hx rg_0).mp z))
theorem v_icmp_lt {x y : Int} {off : Int} {tgt : Nat} (hd : decode cc pc = .ok (.if_icmp .lt off, 3)) (hx : rg x) (hy : rg y) (ht : (pc : Int) + off = (tgt : Int)) (kt : x < y → VW cc (own, rv, σo, ret, F, Lc, nL, tko) P σ tgt L st) (kf : ¬ x < y → VW cc (own, rv, σo, ret, F, Lc, nL, tko) P σ (pc + 3) L st) : VW cc (own, rv, σo, ret, F, Lc, nL, tko) P σ pc L (vI y :: vI x :: st) := by
  have k0 : Pc P σ ≤ Pc (P0 tko) σo ∧ Ps P σ ≤ Ps (P0 tko) σo ∧ rvOk rv := by
    by_cases z : x < y
    · exact (kt z).1
    · exact (kf z).1
  refine And.intro k0 (fun M hX hR hM hN => ?_)
  have kt := fun z => (kt z).2 M hX hR hM hN
  have kf := fun z => (kf z).2 M hX hR hM hN
  obtain ⟨⟨p, l, e, R, s, m, args, below, meth, c⟩, G, A, Q, b, o, nL0, l0, a0⟩ := M
  intro H locs a ls hP hD hS hl hj b1 b2
  have kt := fun z => kt z H locs a ls hP hD hS hl hj b1 b2
  have kf := fun z => kf z H locs a ls hP hD hS hl hj b1 b2
  exact lv_icmp_lt hX.1 hX.2.1 hd ht (fun z => kt ((i32_lt hx hy).mp z)) (fun z => kf (fun w => z ((i32_lt hx hy).mpr w)))
theorem v_if_lt {x : Int} {off : Int} {tgt : Nat} (hd : decode cc pc = .ok (.ifCond .lt off, 3)) (hx : rg x) (ht : (pc : Int) + off = (tgt : Int)) (kt : x < 0 → VW cc (own, rv, σo, ret, F, Lc, nL, tko) P σ tgt L st) (kf : ¬ x < 0 → VW cc (own, rv, σo, ret, F, Lc, nL, tko) P σ (pc + 3) L st) : VW cc (own, rv, σo, ret, F, Lc, nL, tko) P σ pc L (vI x :: st) := by
  have k0 : Pc P σ ≤ Pc (P0 tko) σo ∧ Ps P σ ≤ Ps (P0 tko) σo ∧ rvOk rv := by
    by_cases z : x < 0
    · exact (kt z).1
    · exact (kf z).1
  refine And.intro k0 (fun M hX hR hM hN => ?_)
  have kt := fun z => (kt z).2 M hX hR hM hN
  have kf := fun z => (kf z).2 M hX hR hM hN
  obtain ⟨⟨p, l, e, R, s, m, args, below, meth, c⟩, G, A, Q, b, o, nL0, l0, a0⟩ := M
  intro H locs a ls hP hD hS hl hj b1 b2
  have kt := fun z => kt z H locs a ls hP hD hS hl hj b1 b2
  have kf := fun z => kf z H locs a ls hP hD hS hl hj b1 b2
  exact lv_if_lt hX.1 hX.2.1 hd ht (fun z => kt ((i32_lt hx rg_0).mp z)) (fun z => kf (fun w => z ((i32_lt hx rg_0).mpr w)))
theorem v_icmp_ge {x y : Int} {off : Int} {tgt : Nat} (hd : decode cc pc = .ok (.if_icmp .ge off, 3)) (hx : rg x) (hy : rg y) (ht : (pc : Int) + off = (tgt : Int)) (kt : y ≤ x → VW cc (own, rv, σo, ret, F, Lc, nL, tko) P σ tgt L st) (kf : ¬ y ≤ x → VW cc (own, rv, σo, ret, F, Lc, nL, tko) P σ (pc + 3) L st) : VW cc (own, rv, σo, ret, F, Lc, nL, tko) P σ pc L (vI y :: vI x :: st) := by
  have k0 : Pc P σ ≤ Pc (P0 tko) σo ∧ Ps P σ ≤ Ps (P0 tko) σo ∧ rvOk rv := by
    by_cases z : y ≤ x
    · exact (kt z).1
    · exact (kf z).1
  refine And.intro k0 (fun M hX hR hM hN => ?_)
  have kt := fun z => (kt z).2 M hX hR hM hN
  have kf := fun z => (kf z).2 M hX hR hM hN
  obtain ⟨⟨p, l, e, R, s, m, args, below, meth, c⟩, G, A, Q, b, o, nL0, l0, a0⟩ := M
  intro H locs a ls hP hD hS hl hj b1 b2
  have kt := fun z => kt z H locs a ls hP hD hS hl hj b1 b2
  have kf := fun z => kf z H locs a ls hP hD hS hl hj b1 b2
  exact lv_icmp_ge hX.1 hX.2.1 hd ht (fun z => kt ((i32_le hy hx).mp z)) (fun z => kf (fun w => z ((i32_le hy hx).mpr w)))
theorem v_if_ge {x : Int} {off : Int} {tgt : Nat} (hd : decode cc pc = .ok (.ifCond .ge off, 3)) (hx : rg x) (ht : (pc : Int) + off = (tgt : Int)) (kt : 0 ≤ x → VW cc (own, rv, σo, ret, F, Lc, nL, tko) P σ tgt L st) (kf : ¬ 0 ≤ x → VW cc (own, rv, σo, ret, F, Lc, nL, tko) P σ (pc + 3) L st) : VW cc (own, rv, σo, ret, F, Lc, nL, tko) P σ pc L (vI x :: st) := by
  have k0 : Pc P σ ≤ Pc (P0 tko) σo ∧ Ps P σ ≤ Ps (P0 tko) σo ∧ rvOk rv := by
    by_cases z : 0 ≤ x
    · exact (kt z).1
    · exact (kf z).1
  refine And.intro k0 (fun M hX hR hM hN => ?_)
  have kt := fun z => (kt z).2 M hX hR hM hN
  have kf := fun z => (kf z).2 M hX hR hM hN
  obtain ⟨⟨p, l, e, R, s, m, args, below, meth, c⟩, G, A, Q, b, o, nL0, l0, a0⟩ := M
  intro H locs a ls hP hD hS hl hj b1 b2
  have kt := fun z => kt z H locs a ls hP hD hS hl hj b1 b2
  have kf := fun z => kf z H locs a ls hP hD hS hl hj b1 b2
  exact lv_if_ge hX.1 hX.2.1 hd ht (fun z => kt ((i32_le rg_0 hx).mp z)) (fun z => kf (fun w => z ((i32_le rg_0 hx).mpr w)))
theorem v_icmp_gt {x y : Int} {off : Int} {tgt : Nat} (hd : decode cc pc = .ok (.if_icmp .gt off, 3)) (hx : rg x) (hy : rg y) (ht : (pc : Int) + off = (tgt : Int)) (kt : y < x → VW cc (own, rv, σo, ret, F, Lc, nL, tko) P σ tgt L st) (kf : ¬ y < x → VW cc (own, rv, σo, ret, F, Lc, nL, tko) P σ (pc + 3) L st) : VW cc (own, rv, σo, ret, F, Lc, nL, tko) P σ pc L (vI y :: vI x :: st) := by
  have k0 : Pc P σ ≤ Pc (P0 tko) σo ∧ Ps P σ ≤ Ps (P0 tko) σo ∧ rvOk rv := by
    by_cases z : y < x
    · exact (kt z).1
    · exact (kf z).1
  refine And.intro k0 (fun M hX hR hM hN => ?_)
  have kt := fun z => (kt z).2 M hX hR hM hN
  have kf := fun z => (kf z).2 M hX hR hM hN
  obtain ⟨⟨p, l, e, R, s, m, args, below, meth, c⟩, G, A, Q, b, o, nL0, l0, a0⟩ := M
  intro H locs a ls hP hD hS hl hj b1 b2
  have kt := fun z => kt z H locs a ls hP hD hS hl hj b1 b2
  have kf := fun z => kf z H locs a ls hP hD hS hl hj b1 b2
  exact lv_icmp_gt hX.1 hX.2.1 hd ht (fun z => kt ((i32_lt hy hx).mp z)) (fun z => kf (fun w => z ((i32_lt hy hx).mpr w)))
theorem v_if_gt {x : Int} {off : Int} {tgt : Nat} (hd : decode cc pc = .ok (.ifCond .gt off, 3)) (hx : rg x) (ht : (pc : Int) + off = (tgt : Int)) (kt : 0 < x → VW cc (own, rv, σo, ret, F, Lc, nL, tko) P σ tgt L st) (kf : ¬ 0 < x → VW cc (own, rv, σo, ret, F, Lc, nL, tko) P σ (pc + 3) L st) : VW cc (own, rv, σo, ret, F, Lc, nL, tko) P σ pc L (vI x :: st) := by
  have k0 : Pc P σ ≤ Pc (P0 tko) σo ∧ Ps P σ ≤ Ps (P0 tko) σo ∧ rvOk rv := by
    by_cases z : 0 < x
    · exact (kt z).1
    · exact (kf z).1
  refine And.intro k0 (fun M hX hR hM hN => ?_)
  have kt := fun z => (kt z).2 M hX hR hM hN
  have kf := fun z => (kf z).2 M hX hR hM hN
  obtain ⟨⟨p, l, e, R, s, m, args, below, meth, c⟩, G, A, Q, b, o, nL0, l0, a0⟩ := M
  intro H locs a ls hP hD hS hl hj b1 b2
  have kt := fun z => kt z H locs a ls hP hD hS hl hj b1 b2
  have kf := fun z => kf z H locs a ls hP hD hS hl hj b1 b2
  exact lv_if_gt hX.1 hX.2.1 hd ht (fun z => kt ((i32_lt rg_0 hx).mp z)) (fun z => kf (fun w => z ((i32_lt rg_0 hx).mpr w)))
theorem v_icmp_le {x y : Int} {off : Int} {tgt : Nat} (hd : decode cc pc = .ok (.if_icmp .le off, 3)) (hx : rg x) (hy : rg y) (ht : (pc : Int) + off = (tgt : Int)) (kt : x ≤ y → VW cc (own, rv, σo, ret, F, Lc, nL, tko) P σ tgt L st) (kf : ¬ x ≤ y → VW cc (own, rv, σo, ret, F, Lc, nL, tko) P σ (pc + 3) L st) : VW cc (own, rv, σo, ret, F, Lc, nL, tko) P σ pc L (vI y :: vI x :: st) := by
  have k0 : Pc P σ ≤ Pc (P0 tko) σo ∧ Ps P σ ≤ Ps (P0 tko) σo ∧ rvOk rv := by
    by_cases z : x ≤ y
    · exact (kt z).1
    · exact (kf z).1
  refine And.intro k0 (fun M hX hR hM hN => ?_)
  have kt := fun z => (kt z).2 M hX hR hM hN
  have kf := fun z => (kf z).2 M hX hR hM hN
  obtain ⟨⟨p, l, e, R, s, m, args, below, meth, c⟩, G, A, Q, b, o, nL0, l0, a0⟩ := M
  intro H locs a ls hP hD hS hl hj b1 b2
  have kt := fun z => kt z H locs a ls hP hD hS hl hj b1 b2
  have kf := fun z => kf z H locs a ls hP hD hS hl hj b1 b2
  exact lv_icmp_le hX.1 hX.2.1 hd ht (fun z => kt ((i32_le hx hy).mp z)) (fun z => kf (fun w => z ((i32_le hx hy).mpr w)))
theorem v_if_le {x : Int} {off : Int} {tgt : Nat} (hd : decode cc pc = .ok (.ifCond .le off, 3)) (hx : rg x) (ht : (pc : Int) + off = (tgt : Int)) (kt : x ≤ 0 → VW cc (own, rv, σo, ret, F, Lc, nL, tko) P σ tgt L st) (kf : ¬ x ≤ 0 → VW cc (own, rv, σo, ret, F, Lc, nL, tko) P σ (pc + 3) L st) : VW cc (own, rv, σo, ret, F, Lc, nL, tko) P σ pc L (vI x :: st) := by
  have k0 : Pc P σ ≤ Pc (P0 tko) σo ∧ Ps P σ ≤ Ps (P0 tko) σo ∧ rvOk rv := by
    by_cases z : x ≤ 0
    · exact (kt z).1
    · exact (kf z).1
  refine And.intro k0 (fun M hX hR hM hN => ?_)
  have kt := fun z => (kt z).2 M hX hR hM hN
  have kf := fun z => (kf z).2 M hX hR hM hN
  obtain ⟨⟨p, l, e, R, s, m, args, below, meth, c⟩, G, A, Q, b, o, nL0, l0, a0⟩ := M
  intro H locs a ls hP hD hS hl hj b1 b2
  have kt := fun z => kt z H locs a ls hP hD hS hl hj b1 b2
  have kf := fun z => kf z H locs a ls hP hD hS hl hj b1 b2
  exact lv_if_le hX.1 hX.2.1 hd ht (fun z => kt ((i32_le hx rg_0).mp z)) (fun z => kf (fun w => z ((i32_le hx rg_0).mpr w)))
theorem v_goto {off : Int} {tgt : Nat} (hd : decode cc pc = .ok (.goto off, 3)) (ht : (pc : Int) + off = (tgt : Int)) (k : VW cc (own, rv, σo, ret, F, Lc, nL, tko) P σ tgt L (st)) : VW cc (own, rv, σo, ret, F, Lc, nL, tko) P σ pc L (st) := by
  obtain ⟨k0, k⟩ := k
  refine And.intro k0 (fun M hX hR hM hN => ?_)
  have k := k M hX hR hM hN
  obtain ⟨⟨p, l, e, R, s, m, args, below, meth, c⟩, G, A, Q, b, o, nL0, l0, a0⟩ := M
  intro H locs a ls hP hD hS hl hj b1 b2
  have k := k H locs a ls hP hD hS hl hj b1 b2
  exact lv_goto hX.1 hX.2.1 hd ht k
end
