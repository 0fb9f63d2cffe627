set_option maxRecDepth 100000
/-! THE LAW'S ENTRY: what is made, then the loop; the claim out of one plain fact about l_law -/
def z0 : vS := (fun _ _ => 0, fun _ => (0, fun _ => 0), fun _ _ => 0)
def e00 : Nat → Nat → Bool := fun _ _ => false
theorem Zr_0 : Zr 0 e00 z0 := ⟨fun _ _ _ => ⟨fun _ => ⟨rfl, rfl⟩, rfl⟩, fun _ _ _ => rfl, fun _ _ h => absurd h (by omega)⟩
/-- the state at the law's loop -/
def s00 : vS := sA (bmp (i_87 (bmp (i_0 z0)))) 198 (1, fun _ => 0)
theorem e00_all : eAll (e_87 (e_0 e00)) = true := by decide +kernel
theorem wl_entry {n : Nat} {S : Int → Int} (h384 : n ≤ 384) (hr : ∀ j, rg (S j)) {s9 : vS} {m : Nat} (h : l_law n S m 0 s00 = some s9) : VW code (R_law, some (vV (.long 0)), lawS s9 n S, ret, 8192, 104096, 7, []) (pK 0 e00) z0 0 [(0, vO 1200)] [] := by
  have g : ∀ K, gw (some (vV (.long 0))) (lawS s9 n S) K := fun _ => ⟨rfl, rfl, Or.inl ⟨rfl, rfl⟩⟩
  refine v_newO cf1 df1 Zr_0 (g 0) (by decide) rfl q326 q327 q298 (And.intro (Or.inr (by decide)) trivial) trivial dL_law_0 ?_
  have z1 := Zr_new Zr_0 (by decide)
  refine v_dupO dL_law_3 ?_
  refine v_callI (st := [vO 0]) (k_0 z1) (zz_0 z1) (by decide) (by decide) (g 1) (And.intro (Or.inr (by decide)) trivial) (And.intro (Or.inl ⟨by decide, by decide⟩) trivial) rfl q330 q298 q328 q329 rfl yk_X1_init (by decide) (by decide) dL_law_4 ?_
  have z2 := Zr_bmp (zz_0 z1)
  refine v_astore_n (L1 := [(1, vO 0), (0, vO 1200)]) dL_law_7 rfl (by decide) rfl ?_
  refine v_newO cf14 df14 z2 (g 87) (by decide) rfl q2363 q2364 q311 (And.intro (Or.inl (by decide)) (And.intro (Or.inr (by decide)) trivial)) trivial dL_law_8 ?_
  have z3 := Zr_new z2 (by decide)
  refine v_dupO dL_law_11 ?_
  refine v_callI (st := [vO 87]) (k_87 z3) (zz_87 z3) (by decide) (by decide) (g 88) (And.intro (Or.inl ⟨by decide, by decide⟩) (And.intro (Or.inr (by decide)) trivial)) (And.intro (Or.inl ⟨by decide, by decide⟩) trivial) rfl q2367 q311 q2365 q2366 rfl yk_X14_init (by decide) (by decide) dL_law_12 ?_
  have z4 := Zr_bmp (zz_87 z3)
  refine v_astore_n (L1 := [(2, vO 87), (1, vO 0), (0, vO 1200)]) dL_law_15 rfl (by decide) rfl ?_
  refine v_iconst dL_law_16 ?_
  refine v_nA27 z4 (g 198) (by decide) rfl (rgl rfl) (by decide) (by decide) (And.intro (Or.inl (by decide)) (And.intro (Or.inl (by decide)) (And.intro (Or.inr (by decide)) trivial))) trivial q2860 dL_law_17 ?_
  refine v_full e00_all ?_
  refine v_astore_n (L1 := [(3, vO 198), (2, vO 87), (1, vO 0), (0, vO 1200)]) dL_law_19 rfl (by decide) rfl ?_
  refine v_iconst dL_law_20 ?_
  refine v_istore (L1 := [(4, vI 0), (3, vO 198), (2, vO 87), (1, vO 0), (0, vO 1200)]) dL_law_21 (by decide) rfl ?_
  refine v_sub [4, 3, 2, 1, 0] (L1 := [(0, vO 1200), (1, vO 0), (2, vO 87), (3, vO 198), (4, vI 0)]) rfl ?_
  exact wl_law h384 hr m 0 s00 h (by decide) (by decide)
/-- what is left: a plain fact -/
def PureLaw : Prop := ∀ (n : Nat) (S : Int → Int), n ≤ 384 → (∀ j, rg (S j)) → ∃ (m : Nat) (s9 : vS), l_law n S m 0 s00 = some s9 ∧ Pc (P0 []) s9 ≤ 165161 ∧ Ps (P0 []) s9 ≤ 8591919
theorem lw_all_of {A : Array Value} {s : State} (hts : ∀ w ∈ lw_tbl, w.before A s = true) : ∀ w ∈ lw_all, w.before A s = true := fun w h => hts w (List.mem_filter.mp h).1
theorem whole_of (hp : PureLaw) {p : Program} {e : Env} {s : State} {m : MethodId} {below : List Frame} {meth : Method} {c : Code} (l : Launch) (hflags : l.flags = flags0) {b L : Nat} {xs : Nat → Int32} (hL : L ≤ 384) (C0 : lw_At p s m meth c b L xs) : W p l e room_1 s m #[Value.ref b] below meth c s.heap [] 0 0 (lw_Z below #[Value.ref b] s) (entryFrame m ([Value.ref b] : List Value).toArray 7) := by
  obtain ⟨hx, hb, hr, hml, hown, hts, hX, hlt, hlk, hgv⟩ := C0
  have hall := lw_all_of hts
  obtain ⟨m0, s9, h9, hc, hs⟩ := hp L (fun j => (xs j.toNat).toInt) hL (fun j => ⟨Int32.le_toInt _, Int.le_of_lt_add_one (Int32.toInt_lt _)⟩)
  obtain ⟨G, a, ha, hK, hN⟩ := st_VN hflags (br hgv) hts hall
  have hW := wl_entry hL (fun j => ⟨Int32.le_toInt _, Int.le_of_lt_add_one (Int32.toInt_lt _)⟩) h9
  have e1 := lawS_Pc s9 L (fun j => (xs j.toNat).toInt)
  have e2 := lawS_Ps s9 L (fun j => (xs j.toNat).toInt)
  have W0 := hW.2 ((p, l, e, room_1, s, m, #[Value.ref b], below, meth, c), G, (fun q => s.heap.size ≤ q), lw_Z below #[Value.ref b] s, (0, 0), (Pc (P0 []) (lawS s9 L (fun j => (xs j.toNat).toInt)), Ps (P0 []) (lawS s9 L (fun j => (xs j.toNat).toInt))), 7, (fun _ => 0), a)
    ⟨hx, hb, hml, hown, hall, hK, hlk, fun q h => h, by rw [e1]; exact hc, by rw [e2]; exact hs, hN⟩ ⟨z0, rfl, rfl, rfl, rfl, hr, by rw [ha], rfl, ?_, by rw [ha]; exact hlt⟩ ⟨rfl, rfl⟩ rfl
  · have hl := lv_entry [Value.ref b] (n := 7) (show 1 ≤ 7 by decide)
    rw [lg_entry_eq]
    have hws : vws G (pK 0 e00) z0 a = [] := rfl
    have W1 := W0 s.heap [] a _ (by rw [hws]; intro k q h; simp at h) (by rw [hws]; exact And.intro (fun i j p q h => by simp at h) (fun k q h => by simp at h)) va_S.rf (by
      have : dvl a [(0, vO 1200)] = [(0, Value.ref b)] := by show [(0, Value.ref (a 1200))] = _; rw [ha]
      rw [this]; exact hl) ⟨fun _ _ => Or.inl rfl, fun _ _ => rfl⟩ (Nat.zero_le _) (Nat.zero_le _)
    exact W1
  · rw [ha]
    show va_X b L (fun j => Int32.ofInt ((xs ((j : Int)).toNat).toInt)) s s.heap
    have e3 : (fun j : Nat => Int32.ofInt ((xs ((j : Int)).toNat).toInt)) = xs := by
      funext j
      rw [Int32.ofInt_toInt]
      rfl
    rw [e3]
    exact hX
