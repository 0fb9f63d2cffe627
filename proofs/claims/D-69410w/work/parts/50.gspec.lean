set_option maxRecDepth 100000 set_option linter.unusedVariables false set_option linter.unusedSimpArgs false
/-! PURE 50: the grammar, as it is. Tables by class: 0 types, 1 tags, 2 items, 3 components, 4 limits, 5 ranges, 6 values, 7 parts, 8 assignments, 9 assigned types, 11 the class's nodes.
  Rows (the last number of each is the node that the class has for it):
  0 base first tagsFrom tagCount ref itemsFrom itemCount child childCount element limit node
  1 bracket class number how node;  2 name lexeme minus number node;  3 name type how value next node
  4 bracket size rangesFrom rangeCount next node;  5 low lowMinus high highMinus node lowNode highNode
  6 kind first lexeme minus partsFrom partCount type node;  7 name number node;  8 name type value node isType;  9 assignment
  11 the nine columns of a node -/
abbrev Mt : Type := Nat → List (List Int)
abbrev Lx : Type := List (Int × Int × Int)
def apM (M : Mt) (c : Nat) (r : List Int) : Mt := fun d => if d = c then M c ++ [r] else M d
def upM (M : Mt) (c : Nat) (i : Int) (col : Nat) (v : Int) : Mt := fun d => if d = c then (M c).modify i.toNat (fun r => r.set col v) else M d
def lnM (M : Mt) (c : Nat) : Int := (M c).length
def clM (M : Mt) (c : Nat) (i : Int) (col : Nat) : Int := ((M c).getD i.toNat []).getD col 0
/-- kind, beginning and end of a lexeme -/
def kdL (L : Lx) (a : Int) : Int := if 0 ≤ a ∧ a < L.length then (L.getD a.toNat (0, 0, 0)).1 else -1
def stL' (L : Lx) (X : List Int) (a : Int) : Int := if 0 ≤ a ∧ a < L.length then (L.getD a.toNat (0, 0, 0)).2.1 else X.length
def enL (L : Lx) (a : Int) : Int := (L.getD a.toNat (0, 0, 0)).2.2
/-- the number that digits say -/
def dvL (L : Lx) (X : List Int) (a : Int) : Int := dvA 0 (slc X (L.getD a.toNat (0, 0, 0)).2.1 (enL L a))
def unsK : List Int := [11, 13, 14, 26, 101, 102, 104, 107, 110, 112, 114, 119, 122, 124, 126, 128, 129, 131, 136, 137, 138, 140, 141, 146, 151, 157, 158, 164, 167, 168, 173, 174, 175, 176]
/-- a fault: its number, its place -/
abbrev Ft : Type := Int × Int
def flt (L : Lx) (X : List Int) (a : Int) : Ft := (if kdL L a ∈ unsK then 3 else 2, stL' L X a)
def bE {α β : Type} (m : Ft ⊕ α) (k : α → Ft ⊕ β) : Ft ⊕ β := match m with | .inl e => .inl e | .inr x => k x
/-- one of a kind has to be here: behind it -/
def tkE (L : Lx) (X : List Int) (K a : Int) : Ft ⊕ Int := if kdL L a = K then .inr (a + 1) else .inl (flt L X a)
/-- where it is, all tables -/
abbrev Pg : Type := Int × Mt
/-- nodes: how many; one more; a column set; one more at a list's end -/
def nN (M : Mt) : Int := lnM M 11
def adN (M : Mt) (k x : Int) : Mt := apM M 11 [k, x, -1, -1, -1, -1, 0, 0, -1]
def stN (M : Mt) (k : Int) (c : Nat) (v : Int) : Mt := upM M 11 k c v
def chN (M : Mt) (o : Int) (c : Nat) (l k : Int) : Mt := if l = -1 then stN M o c k else stN M l 8 k
def gTag (L : Lx) (X : List Int) (t : Int) (p : Pg) : Ft ⊕ Pg :=
  let n := nN p.2
  let a1 := p.1 + 1
  let c : Int := if kdL L a1 = 170 then 0 else if kdL L a1 = 103 then 1 else if kdL L a1 = 155 then 3 else 2
  let a2 := if c = 2 then a1 else a1 + 1
  if kdL L a2 ≠ 2 ∨ 268435455 < dvL L X a2 then .inl (flt L X a2) else
  let M3 := stN (stN (adN p.2 20 p.1) n 5 c) n 6 (dvL L X a2)
  bE (tkE L X 18 (a2 + 1)) fun a4 =>
  let h : Int := if kdL L a4 = 134 then 1 else if kdL L a4 = 123 then 2 else 0
  let M4 := if h = 0 then M3 else stN M3 n 7 h
  .inr (if h = 0 then a4 else a4 + 1, upM (apM M4 1 [p.1, c, dvL L X a2, h, n]) 0 t 3 (clM p.2 0 t 3 + 1))
def gTags (L : Lx) (X : List Int) (t tn : Int) : Nat → Int → Pg → Ft ⊕ Pg
  | 0, _, p => .inr p
  | k + 1, last, p => if kdL L p.1 = 17 then bE (gTag L X t p) fun q => gTags L X t tn k (nN p.2) (q.1, chN q.2 tn 2 last (nN p.2)) else .inr p
def gItem (L : Lx) (X : List Int) (t kind : Int) (p : Pg) : Ft ⊕ Pg :=
  let n := nN p.2
  let M1 := adN p.2 21 p.1
  bE (tkE L X 0 p.1) fun a1 =>
  if kind = 3 ∧ kdL L a1 ≠ 19 then .inr (a1, upM (apM M1 2 [p.1, -1, 0, -1, n]) 0 t 6 (clM p.2 0 t 6 + 1)) else
  bE (tkE L X 19 a1) fun a2 =>
  let m : Int := if kind ≠ 4 ∧ kdL L a2 = 25 then 1 else 0
  let a3 := a2 + m
  if kind = 4 ∧ kdL L a3 = 2 ∧ 63 < dvL L X a3 then .inl (flt L X a3) else
  let M2 := stN (if m = 0 then M1 else stN M1 n 6 1) n 5 a3
  bE (tkE L X 2 a3) fun a4 => bE (tkE L X 20 a4) fun a5 =>
  .inr (a5, upM (apM M2 2 [p.1, a3, m, -1, n]) 0 t 6 (clM p.2 0 t 6 + 1))
def gItems (L : Lx) (X : List Int) (t tn kind : Int) : Nat → Int → Pg → Ft ⊕ Pg
  | 0, _, p => .inr p
  | k + 1, last, p => bE (gItem L X t kind p) fun q =>
    let M1 := chN q.2 tn 3 last (nN p.2)
    if kdL L q.1 = 21 then gItems L X t tn kind k (nN p.2) (q.1 + 1, M1) else bE (tkE L X 16 q.1) fun a => .inr (a, M1)
/-- items, behind the bracket that opens them -/
def gItemsOf (L : Lx) (X : List Int) (t tn kind : Int) (p : Pg) : Ft ⊕ Pg := gItems L X t tn kind (L.length + 1) (-1) (p.1, upM p.2 0 t 5 (lnM p.2 2))
/-- a bound: its lexeme, whether it has a minus; behind it -/
def gBound (L : Lx) (X : List Int) (p : Pg) : Ft ⊕ (Int × Int × Pg) :=
  let n := nN p.2
  let M1 := adN p.2 25 p.1
  if kdL L p.1 = 143 then .inr (p.1, 0, p.1 + 1, stN M1 n 5 0) else
  if kdL L p.1 = 142 then .inr (p.1, 0, p.1 + 1, stN M1 n 5 1) else
  if kdL L p.1 = 0 then .inr (p.1, 0, p.1 + 1, stN M1 n 5 3) else
  let m : Int := if kdL L p.1 = 25 then 1 else 0
  let M2 := stN (stN (if m = 0 then M1 else stN M1 n 6 1) n 5 2) n 7 (p.1 + m)
  bE (tkE L X 2 (p.1 + m)) fun a2 => .inr (p.1 + m, m, a2, M2)
def gRange (L : Lx) (X : List Int) (l lnd last : Int) (p : Pg) : Ft ⊕ Pg :=
  let rn := nN p.2
  let M1 := chN (adN p.2 24 p.1) lnd 3 last rn
  let bn := rn + 1
  bE (gBound L X (p.1, M1)) fun b =>
  let M2 := stN b.2.2.2 rn 3 bn
  if kdL L b.2.2.1 = 12 then
    let hn := rn + 1 + 1
    bE (gBound L X (b.2.2.1 + 1, M2)) fun c => .inr (c.2.2.1, upM (apM (stN c.2.2.2 bn 8 hn) 5 [b.1, b.2.1, c.1, c.2.1, rn, bn, hn]) 4 l 3 (clM p.2 4 l 3 + 1))
  else .inr (b.2.2.1, upM (apM M2 5 [b.1, b.2.1, b.1, b.2.1, rn, bn, -1]) 4 l 3 (clM p.2 4 l 3 + 1))
def gRanges (L : Lx) (X : List Int) (l lnd : Int) : Nat → Int → Pg → Ft ⊕ Pg
  | 0, _, p => .inr p
  | k + 1, last, p => bE (gRange L X l lnd last p) fun q => if kdL L q.1 = 24 then gRanges L X l lnd k (nN p.2) (q.1 + 1, q.2) else .inr q
/-- a limit more: behind the others of its type -/
def lastL (M : Mt) : Nat → Int → Int
  | 0, l => l
  | k + 1, l => if 0 ≤ clM M 4 l 4 then lastL M k (clM M 4 l 4) else l
def addL (M : Mt) (t b z node : Int) : Mt :=
  let l := lnM M 4
  let M1 := apM M 4 [b, z, lnM M 5, 0, -1, node]
  if clM M 0 t 10 < 0 then upM M1 0 t 10 l else upM M1 4 (lastL M (lnM M 4).toNat (clM M 0 t 10)) 4 l
/-- ( ranges ) behind SIZE, which is here -/
def gSizes (L : Lx) (X : List Int) (t b node : Int) (p : Pg) : Ft ⊕ Pg :=
  bE (tkE L X 19 (p.1 + 1)) fun a2 =>
  bE (gRanges L X (lnM p.2 4) node (L.length + 1) (-1) (a2, stN (addL p.2 t b 1 node) node 5 1)) fun q =>
  bE (tkE L X 20 q.1) fun a => .inr (a, q.2)
def gLimit (L : Lx) (X : List Int) (t : Int) (p : Pg) : Ft ⊕ Pg :=
  let n := nN p.2
  let M1 := adN p.2 23 p.1
  if kdL L (p.1 + 1) = 161 then bE (gSizes L X t p.1 n (p.1 + 1, M1)) fun q => bE (tkE L X 20 q.1) fun a => .inr (a, q.2)
  else bE (gRanges L X (lnM p.2 4) n (L.length + 1) (-1) (p.1 + 1, stN (addL M1 t p.1 0 n) n 5 0)) fun q => bE (tkE L X 20 q.1) fun a => .inr (a, q.2)
def gLimits (L : Lx) (X : List Int) (t tn : Int) : Nat → Int → Pg → Ft ⊕ Pg
  | 0, _, p => .inr p
  | k + 1, last, p => if kdL L p.1 = 19 then bE (gLimit L X t p) fun q => gLimits L X t tn k (nN p.2) (q.1, chN q.2 tn 4 last (nN p.2)) else .inr p
/-- a part of a list, which begins here (an identifier, or a number) -/
def gPart (L : Lx) (X : List Int) (vn last : Int) (p : Pg) : Ft ⊕ Pg :=
  let n := nN p.2
  let M1 := chN (adN p.2 27 p.1) vn 3 last n
  if kdL L p.1 = 2 then .inr (p.1 + 1, apM (stN (stN M1 n 5 p.1) n 6 0) 7 [-1, p.1, n])
  else if kdL L (p.1 + 1) = 19 then bE (tkE L X 2 (p.1 + 1 + 1)) fun a => bE (tkE L X 20 a) fun b => .inr (b, apM (stN (stN M1 n 5 (p.1 + 1 + 1)) n 6 1) 7 [p.1, p.1 + 1 + 1, n])
  else .inr (p.1 + 1, apM (stN M1 n 6 1) 7 [p.1, -1, n])
def gParts (L : Lx) (X : List Int) (vn : Int) : Nat → Int → Pg → Ft ⊕ Pg
  | 0, _, p => .inr p
  | k + 1, last, p => if kdL L p.1 = 0 ∨ kdL L p.1 = 2 then bE (gPart L X vn last p) fun q =>
      if kdL L q.1 = 21 then (if kdL L (q.1 + 1) = 0 ∨ kdL L (q.1 + 1) = 2 then gParts L X vn k (nN p.2) (q.1 + 1, q.2) else .inl (flt L X (q.1 + 1)))
      else gParts L X vn k (nN p.2) q
    else .inr p
/-- which sort of value begins with a kind -/
def vSort (K : Int) : Int := if K = 166 then 0 else if K = 127 then 1 else if K = 145 then 2 else if K = 0 then 4 else if K = 3 then 5 else if K = 4 then 6 else if K = 5 then 7 else if K = 15 then 8 else 3
/-- a value of a type -/
def gValue (L : Lx) (X : List Int) (t : Int) (p : Pg) : Ft ⊕ Pg :=
  let n := nN p.2
  let so := vSort (kdL L p.1)
  let M2 := stN (adN p.2 26 p.1) n 5 so
  if so = 3 then
    let m : Int := if kdL L p.1 = 25 then 1 else 0
    let M3 := stN (stN (if m = 0 then M2 else stN M2 n 6 1) n 5 3) n 7 (p.1 + m)
    bE (tkE L X 2 (p.1 + m)) fun a => .inr (a, apM M3 6 [km 2, p.1, p.1 + m, m, lnM p.2 7, 0, t, n])
  else if so = 8 then
    bE (gParts L X n (L.length + 1) (-1) (p.1 + 1, M2)) fun q => bE (tkE L X 16 q.1) fun a =>
    .inr (a, apM q.2 6 [km 15, p.1, p.1, 0, lnM p.2 7, lnM q.2 7 - lnM p.2 7, t, n])
  else .inr (p.1 + 1, apM M2 6 [km (kdL L p.1), p.1, p.1, 0, lnM p.2 7, 0, t, n])
/-- components or alternatives, behind the bracket that opens them; the last one, its node (-1: none yet) -/
def gComps (L : Lx) (X : List Int) (ty : Pg → Ft ⊕ Pg) (t tn : Int) (lack : Int) : Nat → Int → Int → Pg → Ft ⊕ Pg
  | 0, _, _, p => .inr p
  | k + 1, last, lastN, p =>
    let n := nN p.2
    bE (tkE L X 0 p.1) fun a1 =>
    let c := lnM p.2 3
    let M0 := stN (adN p.2 22 p.1) n 5 0
    let M1 := upM (apM M0 3 [p.1, -7, 0, -1, -1, n]) 0 t 8 (clM p.2 0 t 8 + 1)
    let M2 := if last < 0 then upM M1 0 t 7 c else upM M1 3 last 4 c
    let u := lnM p.2 0
    bE (ty (a1, M2)) fun q =>
    let M3 := upM (stN q.2 n 3 (n + 1)) 3 c 1 u
    let fin := fun (r : Pg) =>
      let M5 := chN r.2 tn 3 lastN n
      if kdL L r.1 = 21 then gComps L X ty t tn lack k c n (r.1 + 1, M5) else bE (tkE L X 16 r.1) fun a => .inr (a, M5)
    if lack ≠ 0 ∧ kdL L q.1 = 150 then fin (q.1 + 1, upM (stN M3 n 5 1) 3 c 2 1)
    else if lack ≠ 0 ∧ kdL L q.1 = 116 then
      let M4 := upM (stN M3 n 5 2) 3 c 2 2
      bE (gValue L X u (q.1 + 1, M4)) fun r => fin (r.1, upM (stN r.2 n 4 (nN M4)) 3 c 3 (lnM M4 6))
    else fin (q.1, M3)
def gMany (L : Lx) (X : List Int) (ty : Pg → Ft ⊕ Pg) (t tn kind lkind : Int) (p : Pg) : Ft ⊕ Pg :=
  let M1 := upM p.2 0 t 0 kind
  if kdL L p.1 = 15 then
    let M2 := stN M1 tn 0 kind
    if kdL L (p.1 + 1) = 16 then .inr (p.1 + 1 + 1, M2) else gComps L X ty t tn 1 (L.length + 1) (-1) (-1) (p.1 + 1, M2)
  else
    let M2 := stN M1 tn 0 lkind
    let n := nN p.2
    let M3 := stN (adN M2 23 p.1) tn 4 n
    let lim : Ft ⊕ Pg := if kdL L p.1 = 161 then gSizes L X t (p.1 + 1) n (p.1, M3)
      else if kdL L p.1 = 19 then (if kdL L (p.1 + 1) = 161 then bE (gSizes L X t p.1 n (p.1 + 1, M3)) fun q => bE (tkE L X 20 q.1) fun a => .inr (a, q.2) else .inl (flt L X (p.1 + 1)))
      else .inr (p.1, M2)
    bE lim fun q => bE (tkE L X 149 q.1) fun a =>
    let u := lnM q.2 0
    bE (ty (a, upM q.2 0 t 0 lkind)) fun r => .inr (r.1, upM (stN r.2 tn 3 (nN q.2)) 0 t 9 u)
def gBase (L : Lx) (X : List Int) (ty : Pg → Ft ⊕ Pg) (t tn : Int) (p : Pg) : Ft ⊕ Pg :=
  let K := kdL L p.1
  let a := p.1 + 1
  let st := fun (b : Int) => stN (upM p.2 0 t 0 b) tn 0 b
  if K = 1 then (if kdL L a = 15 then .inl (3, stL' L X a) else .inr (a, stN (upM (upM p.2 0 t 0 17) 0 t 4 p.1) tn 7 p.1))
  else if K = 106 then bE (tkE L X 162 a) fun a => if kdL L a = 15 then gItemsOf L X t tn 4 (a + 1, st 4) else .inr (a, st 4)
  else if K = 108 then .inr (a, st 0)
  else if K = 111 then bE (tkE L X 15 a) fun a => gComps L X ty t tn 0 (L.length + 1) (-1) (-1) (a, st 16)
  else if K = 121 then bE (tkE L X 15 a) fun a => gItemsOf L X t tn 3 (a, st 3)
  else if K = 130 then .inr (a, st 11)
  else if K = 132 then .inr (a, st 9)
  else if K = 139 then (if kdL L a = 15 then gItemsOf L X t tn 2 (a + 1, st 2) else .inr (a, st 2))
  else if K = 145 then .inr (a, st 1)
  else if K = 147 then bE (tkE L X 133 a) fun a => .inr (a, st 6)
  else if K = 148 then bE (tkE L X 162 a) fun a => .inr (a, st 5)
  else if K = 156 then .inr (a, st 8)
  else if K = 159 then gMany L X ty t tn 12 14 (a, p.2)
  else if K = 160 then gMany L X ty t tn 13 15 (a, p.2)
  else if K = 171 then .inr (a, st 10)
  else if K = 172 then .inr (a, st 7)
  else .inl (flt L X p.1)
/-- nodes as rows; the last one of a list that begins with one -/
def rwT (R : List (List Int)) : Int → Int → Int := fun k c => (R.getD k.toNat []).getD c.toNat 0
def wlk (T : Int → Int → Int) : Nat → Int → Int
  | 0, v => v
  | k + 1, v => if v = -1 then v else if T v 8 = -1 then v else wlk T k (T v 8)
/-- a type, so many deep at most -/
def gType (L : Lx) (X : List Int) : Nat → Pg → Ft ⊕ Pg
  | 0, p => .inl (4, stL' L X p.1)
  | d + 1, p =>
    let t := lnM p.2 0
    let tn := nN p.2
    bE (gTags L X t tn (L.length + 1) (-1) (p.1, apM (adN p.2 17 p.1) 0 [1, p.1, lnM p.2 1, 0, -1, 0, 0, -1, 0, -1, -1, tn])) fun q =>
    bE (gBase L X (gType L X d) t tn q) fun r => gLimits L X t tn (L.length + 1) (wlk (rwT (r.2 11)) (r.2 11).length (rwT (r.2 11) tn 4)) r
def gAssigns (L : Lx) (X : List Int) : Nat → Int → Pg → Ft ⊕ Pg
  | 0, _, p => .inr p
  | k + 1, last, p =>
    let n := nN p.2
    let u := lnM p.2 0
    let a := p.1 + 1
    let fin := fun (M : Mt) => if last = -1 then M else stN M last 8 n
    if kdL L p.1 = 1 then
      (if kdL L a = 15 then .inl (3, stL' L X a) else
      bE (tkE L X 10 a) fun a =>
      bE (gType L X 100 (a, adN p.2 28 p.1)) fun q =>
      gAssigns L X k n (q.1, fin (apM (apM (stN q.2 n 3 (n + 1)) 9 [lnM q.2 8]) 8 [p.1, u, -1, n, 1])))
    else if kdL L p.1 = 0 then
      bE (gType L X 100 (a, adN p.2 29 p.1)) fun q =>
      bE (tkE L X 10 q.1) fun a =>
      let v := lnM q.2 6
      bE (gValue L X u (a, stN q.2 n 3 (n + 1))) fun r =>
      gAssigns L X k n (r.1, fin (apM (stN r.2 n 4 (nN q.2)) 8 [p.1, u, v, n, 0]))
    else .inr p
/-- the heading: whether tags are implicit; behind it -/
def gHead (L : Lx) (X : List Int) : Ft ⊕ (Int × Int) :=
  bE (tkE L X 1 0) fun a1 =>
  bE (if kdL L a1 = 15 then tkE L X 16 (scan (fun i => kdL L i ≠ -1 ∧ kdL L i ≠ 15 ∧ kdL L i ≠ 16) (L.length + 1) (a1 + 1)) else .inr a1) fun a2 =>
  bE (tkE L X 118 a2) fun a3 =>
  bE (if kdL L a3 = 123 ∨ kdL L a3 = 134 then tkE L X 165 (a3 + 1) else .inr a3) fun a4 =>
  bE (tkE L X 10 a4) fun a5 => bE (tkE L X 105 a5) fun a6 => .inr (b2i (kdL L a3 = 134), a6)
/-- a module: whether tags are implicit, and all tables -/
def gModule (L : Lx) (X : List Int) : Ft ⊕ (Int × Mt) :=
  bE (gHead L X) fun h => bE (gAssigns L X (L.length + 1) (-1) (h.2, fun _ => [])) fun p =>
  bE (tkE L X 120 p.1) fun a => if kdL L a = -1 then .inr (h.1, p.2) else .inl (flt L X a)
