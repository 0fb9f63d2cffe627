set_option maxRecDepth 100000
/-! V-LAYER 14: x.f = grown(x.f, n): the array itself, or a longer one -/
/-- what comes out: 0: the same array; else the new one (at 199) is put in its place -/
def grw (σ : vS) (t0 : Nat) (r : Int) : vS := if r = 0 then σ else rs (sw2 σ t0 199)
theorem rn_ob {p c t0 : Nat} (h : okB p c) (hc : c < 14) (ht : 14 ≤ kd t0) : swp t0 199 p = p := by
  have h1 := h.1
  have h2 := h.2
  unfold swp
  rw [if_neg (fun z => by rw [z] at h2; omega), if_neg (fun z => by rw [z] at h1; exact absurd h1 (by decide))]
section
variable {cc bytes : ByteArray} {own : String} {rv : Option vA} {σo : vS} {ret : Option FieldType} {F Lc nL rf rl maxL i j : Nat} {tko : List (Nat × Nat)} {σ σ1 : vS} {pc : Nat} {L : List (Nat × vA)} {st stk : List vA} {y : MethodName} {r n : Int} {o ci f N t0 : Nat} {C : String} {T : u_T} {ty : Nat → FieldType}
theorem v_regrow (hC : VC y bytes maxL (some (.array .int)) rf rl [vO t0, vI n] σ (some (vO (if r = 0 then t0 else 199))) σ1 (if r = 0 then [] else [(24, 1)])) (hw : GoodIn lw_all (va_wsS own i y (ws_ y bytes maxL (some (.array .int))))) (hy : yOk y 2) (hrm : rf + 1 ≤ F ∧ 8 + (maxL + 11) + rl ≤ Lc) (hk : KP σ σ1 (vO o :: st)) (hkL : KP σ σ1 (L.map (fun q => q.2))) (h8 : vc8 (vO o :: st) ≤ 8) (hd : decode cc pc = .ok (.invokestatic i, 3))
    (cf : CF ci C T N ty) (ho : okB o ci) (hf : fk ci f = 2) (hN : f < N) (ht0 : ft ci f o = t0) (hk0 : kd t0 = 24) (g : r = 0 ∨ (2 * gN σ1 t0 ≤ gN σ1 199 ∧ 2 ≤ gN σ1 199)) (hl : Cond.fieldLink own j (T f).1 (T f).2.1 (T f).2.2.1 ∈ lw_all) (hd2 : decode cc (pc + 3) = .ok (.putfield j, 3)) (hfin : (T f).2.2.2 = false) (ht : ty f = .array .int) (hL : rnL t0 199 L = L) (hs : st.map (rnA t0 199) = st) (hLT : LT KF (L.map (fun q => q.2))) (hsT : LT KF st)
    (k : VW cc (own, rv, σo, ret, F, Lc, nL, tko) (P0 []) (grw σ1 t0 r) (pc + 6) L st) : VW cc (own, rv, σo, ret, F, Lc, nL, tko) (P0 []) σ pc L (vI n :: vO t0 :: vO o :: st) := by
  refine v_callS (st := vO o :: st) hC hw hy hrm hk hkL h8 rfl hd ?_
  by_cases z : r = 0
  · rw [if_pos z, if_pos z]
    unfold grw at k
    rw [if_pos z] at k
    exact v_ps (f := f) cf (okB_ok ho) hf rfl ht0 hN hl hd2 hfin ht k
  · rw [if_neg z, if_neg z]
    unfold grw at k
    rw [if_neg z] at k
    have g := g.resolve_left z
    refine v_pa (i := 0) (K := 199) (t0 := t0) (f := f) (tk1 := [(24, 0)]) (L1 := L) (st1 := st) rfl rfl (by decide) cf ho hf hN ht0 hk0 (by decide) rfl g hl hd2 hfin ht hL hs ?_
    exact v_dr (by decide) (by decide) hLT hsT k
end
