set_option maxRecDepth 100000
/-! V-LAYER 10: an array that was made is put into a field: it and the old one change places -/
def swp (x y k : Nat) : Nat := if k = x then y else if k = y then x else k
theorem swp_swp (x y k : Nat) : swp x y (swp x y k) = k := by
  unfold swp
  by_cases h1 : k = x
  · subst h1
    rw [if_pos rfl]
    by_cases h2 : y = k
    · rw [if_pos h2]; exact h2
    · rw [if_neg h2, if_pos rfl]
  · rw [if_neg h1]
    by_cases h2 : k = y
    · subst h2
      rw [if_pos rfl, if_pos rfl]
    · rw [if_neg h2, if_neg h1, if_neg h2]
def rnA (x y : Nat) : vA → vA
  | .inr (.inr (.inl k)) => vO (swp x y k)
  | v => v
theorem rnA_dv (a : Nat → Nat) (x y : Nat) (v : vA) : dv (fun k => a (swp x y k)) (rnA x y v) = dv a v := by
  match v with
  | .inl z => rfl
  | .inr (.inl z) => rfl
  | .inr (.inr (.inl k)) => simp only [rnA, dv, swp_swp]
  | .inr (.inr (.inr w)) => rfl
theorem rnA_map (a : Nat → Nat) (x y : Nat) (l : List vA) : (l.map (rnA x y)).map (dv (fun k => a (swp x y k))) = l.map (dv a) := by
  rw [List.map_map]
  apply List.map_congr_left
  intro v _
  exact rnA_dv a x y v
def rnL (x y : Nat) (L : List (Nat × vA)) : List (Nat × vA) := L.map (fun q => (q.1, rnA x y q.2))
theorem rnL_dvl (a : Nat → Nat) (x y : Nat) (L : List (Nat × vA)) : dvl (fun k => a (swp x y k)) (rnL x y L) = dvl a L := by
  unfold dvl rnL
  rw [List.map_map]
  apply List.map_congr_left
  intro q _
  simp only [Function.comp, rnA_dv]
/-- two arrays change places -/
def sw2 (σ : vS) (x y : Nat) : vS := (σ.1, (fun k => σ.2.1 (swp x y k)), σ.2.2)
theorem perm_P {D : va_G} {w w1 : va_W} {H : Heap} (f : Nat → Nat) (hf : ∀ (k : Nat) (q : Nat × va_E), w[k]? = some q → w1[f k]? = some q) (h : va_P D vcl w1 H) : va_P D vcl w H := fun k q hk => h (f k) q (hf k q hk)
theorem perm_D {A : Nat → Prop} {w w1 : va_W} (f : Nat → Nat) (hi : ∀ i j, f i = f j → i = j) (hf : ∀ (k : Nat) (q : Nat × va_E), w[k]? = some q → w1[f k]? = some q) (h : va_D A w1) : va_D A w :=
  ⟨fun i j p q h1 h2 e => hi i j (h.1 _ _ p q (hf i p h1) (hf j q h2) e), fun k q hk => h.2 _ q (hf k q hk)⟩
theorem swp_inj {x y : Nat} : ∀ i j, swp x y i = swp x y j → i = j := fun i j h => by rw [← swp_swp x y i, h, swp_swp]
theorem getD_set {tk : List (Nat × Nat)} {i j : Nat} {x : Nat × Nat} (h : i ≠ j) : (tk.set i x).getD j (99, 0) = tk.getD j (99, 0) := by
  rw [List.getD_eq_getElem?_getD, List.getD_eq_getElem?_getD, List.getElem?_set_ne h]
theorem getD_set_self {tk : List (Nat × Nat)} {i : Nat} {x : Nat × Nat} (h : i < tk.length) : (tk.set i x).getD i (99, 0) = x := by
  rw [List.getD_eq_getElem?_getD, List.getElem?_set_self h]
  rfl
theorem vkd_set {tk : List (Nat × Nat)} {i t w w' : Nat} (h : tk[i]? = some (t, w)) (k : Nat) : vkd (P0 (tk.set i (t, w'))) k = vkd (P0 tk) k := by
  by_cases z : k < KF
  · rw [vkd_P0 _ z, vkd_P0 _ z]
  · obtain ⟨j, rfl⟩ : ∃ j, k = KF + j := ⟨k - KF, by omega⟩
    rw [vkd_tmp, vkd_tmp]
    by_cases hj : i = j
    · subst hj
      rw [getD_set_self (List.getElem?_eq_some_iff.mp h).1, List.getD_eq_getElem?_getD, h]
      rfl
    · rw [getD_set hj]
theorem log_grow {m n : Nat} (h : 2 * m ≤ n) (h2 : 2 ≤ n) : lgc m + 1 ≤ lgc n := by
  unfold lgc
  by_cases hm : m = 0
  · subst hm
    have e0 : Nat.log2 0 = 0 := rfl
    have : 1 ≤ Nat.log2 n := (Nat.le_log2 (by omega)).mpr (by omega)
    omega
  · have : Nat.log2 m + 1 ≤ Nat.log2 n := (Nat.le_log2 (by omega)).mpr (by
      have := Nat.log2_self_le hm
      rw [Nat.pow_succ]
      omega)
    omega
/-- the accounts behind a move: the new array of weight 1 becomes the static one, the old one has weight 0 -/
theorem acc_swap {tk : List (Nat × Nat)} {i t t0 : Nat} {σ : vS} (h : tk[i]? = some (t, 1)) (ht : 14 ≤ t) (ht0 : t0 < KF) (hk : 14 ≤ kd t0) (hg : 2 * (σ.2.1 t0).1 ≤ (σ.2.1 (KF + i)).1) (h2 : 2 ≤ (σ.2.1 (KF + i)).1) :
    Pc (P0 tk) σ ≤ Pc (P0 (tk.set i (t, 0))) (sw2 σ t0 (KF + i)) ∧ Ps (P0 tk) σ ≤ Ps (P0 (tk.set i (t, 0))) (sw2 σ t0 (KF + i)) := by
  have hil := (List.getElem?_eq_some_iff.mp h).1
  have e : (P0 (tk.set i (t, 0))).1 = (P0 tk).1 := by unfold P0; simp
  have hK : (P0 tk).1 = KF + tk.length := rfl
  -- through a middle state: first the temporary loses its weight
  have hgd : ∀ j : Nat, j ≠ i → ((P0 (tk.set i (t, 0))).2.2.getD j (99, 0)) = ((P0 tk).2.2.getD j (99, 0)) := fun j hj => getD_set (fun q => hj q.symm)
  have hgi : ((P0 (tk.set i (t, 0))).2.2.getD i (99, 0)) = (t, 0) := getD_set_self hil
  have hgo : ((P0 tk).2.2.getD i (99, 0)) = (t, 1) := by show tk.getD i (99, 0) = _; rw [List.getD_eq_getElem?_getD, h]; rfl
  have swk : ∀ k : Nat, k ≠ t0 → k ≠ KF + i → (sw2 σ t0 (KF + i)).2.1 k = σ.2.1 k := fun k h1 h2 => by show σ.2.1 (swp t0 (KF + i) k) = _; unfold swp; rw [if_neg h1, if_neg h2]
  have swt : (sw2 σ t0 (KF + i)).2.1 t0 = σ.2.1 (KF + i) := by show σ.2.1 (swp t0 (KF + i) t0) = _; unfold swp; rw [if_pos rfl]
  have hvk : vkd (P0 tk) (KF + i) = t := (ok_tmp h).2
  constructor
  · unfold Pc
    show _ ≤ _ + σ.2.2 300 500
    rw [e]
    let g : Nat → Nat := fun k => if k = t0 then pcW (P0 (tk.set i (t, 0))) (sw2 σ t0 (KF + i)) t0 else pcW (P0 tk) σ k
    have s1 := sumTo_one (n := (P0 tk).1) (f := g) (g := pcW (P0 tk) σ) (j := t0) (by rw [hK]; omega) (fun k hk => by simp only [g]; rw [if_neg hk])
    have s2 := sumTo_one (n := (P0 tk).1) (f := pcW (P0 (tk.set i (t, 0))) (sw2 σ t0 (KF + i))) (g := g) (j := KF + i) (by rw [hK]; omega) (fun k hk => by
      simp only [g]
      by_cases z : k = t0
      · rw [if_pos z, z]
      · rw [if_neg z]
        unfold pcW
        rw [vkd_set h, swk k z hk]
        by_cases zk : k < KF
        · rw [if_pos zk, if_pos zk]
        · rw [hgd (k - KF) (by omega)])
    have v1 : g t0 = lgc (σ.2.1 (KF + i)).1 := by
      simp only [g]
      rw [if_pos trivial]
      unfold pcW
      rw [vkd_P0 _ ht0, if_neg (by omega), if_pos ht0, swt]
    have v2 : pcW (P0 tk) σ t0 = lgc (σ.2.1 t0).1 := by
      unfold pcW
      rw [vkd_P0 _ ht0, if_neg (by omega), if_pos ht0]
    have v3 : g (KF + i) = 1 := by
      simp only [g]
      rw [if_neg (by omega)]
      unfold pcW
      rw [hvk, if_neg (by omega), if_neg (by omega), Nat.add_sub_cancel_left, hgo]
    have v4 : pcW (P0 (tk.set i (t, 0))) (sw2 σ t0 (KF + i)) (KF + i) = 0 := by
      unfold pcW
      rw [vkd_set h, hvk, if_neg (by omega), if_neg (by omega), Nat.add_sub_cancel_left, hgi]
    have := log_grow hg h2
    omega
  · unfold Ps
    show _ ≤ _ + 6 * σ.2.2 300 500
    rw [e]
    let g : Nat → Nat := fun k => if k = t0 then psW (P0 (tk.set i (t, 0))) (sw2 σ t0 (KF + i)) t0 else psW (P0 tk) σ k
    have s1 := sumTo_one (n := (P0 tk).1) (f := g) (g := psW (P0 tk) σ) (j := t0) (by rw [hK]; omega) (fun k hk => by simp only [g]; rw [if_neg hk])
    have s2 := sumTo_one (n := (P0 tk).1) (f := psW (P0 (tk.set i (t, 0))) (sw2 σ t0 (KF + i))) (g := g) (j := KF + i) (by rw [hK]; omega) (fun k hk => by
      simp only [g]
      by_cases z : k = t0
      · rw [if_pos z, z]
      · rw [if_neg z]
        unfold psW
        rw [vkd_set h, swk k z hk]
        by_cases zk : k < KF
        · rw [if_pos zk, if_pos zk]
        · rw [hgd (k - KF) (by omega)])
    have v1 : g t0 = 2 * (σ.2.1 (KF + i)).1 := by
      simp only [g]
      rw [if_pos trivial]
      unfold psW
      rw [vkd_P0 _ ht0, if_neg (by omega), if_pos ht0, swt]
    have v2 : psW (P0 tk) σ t0 = 2 * (σ.2.1 t0).1 := by
      unfold psW
      rw [vkd_P0 _ ht0, if_neg (by omega), if_pos ht0]
    have v3 : g (KF + i) = (σ.2.1 (KF + i)).1 := by
      simp only [g]
      rw [if_neg (by omega)]
      unfold psW
      rw [hvk, if_neg (by omega), if_neg (by omega), Nat.add_sub_cancel_left, hgo]
      omega
    have v4 : psW (P0 (tk.set i (t, 0))) (sw2 σ t0 (KF + i)) (KF + i) = 0 := by
      unfold psW
      rw [vkd_set h, hvk, if_neg (by omega), if_neg (by omega), Nat.add_sub_cancel_left, hgi]
      omega
    omega
theorem fk_out {ci g N : Nat} (h : nf ci = N) (hc : ci < 14) (hg : ¬ g < N) : fk ci g = 9 := by
  have hall : ((List.range 14).all fun c => decide ((fkT.getD c []).length = nf c)) = true := by decide +kernel
  have h1 := List.all_eq_true.mp hall ci (List.mem_range.mpr hc)
  simp only [decide_eq_true_eq] at h1
  unfold fk
  rw [List.getD_eq_getElem?_getD, List.getElem?_eq_none (by omega)]
  rfl
