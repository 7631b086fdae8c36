/-! a machine without places: values are trees, references are roots and paths -/
abbrev VL : Type := Nat × (Int64 × Int64) × Fo
def flo : Fo → List VL
  | .leaf => []
  | .inner k x _ c n => (k, x, c) :: flo n
def fof : List VL → Fo
  | [] => .leaf
  | v :: l => .inner v.1 v.2.1 () v.2.2 (fof l)
theorem fof_flo : ∀ c : Fo, fof (flo c) = c
  | .leaf => rfl
  | .inner k x u c n => by
    show Std.DTreeMap.Internal.Impl.inner k x () c (fof (flo n)) = _
    rw [fof_flo n]
theorem flo_fof : ∀ l : List VL, flo (fof l) = l
  | [] => rfl
  | v :: l => by
    show (v.1, v.2.1, v.2.2) :: flo (fof l) = v :: l
    rw [flo_fof l]
theorem flo_len : ∀ c : Fo, (flo c).length = fln c
  | .leaf => rfl
  | .inner k x u c n => by
    show (flo n).length + 1 = fln (.inner k x u c n)
    rw [flo_len n]
    simp [fln]
    omega
theorem flo_ap : ∀ b g : Fo, flo (fap b g) = flo b ++ flo g
  | .leaf, g => rfl
  | .inner k x u c n, g => by
    show (k, x, c) :: flo (fap n g) = (k, x, c) :: (flo n ++ flo g)
    rw [flo_ap n g]
/-- a value within a value -/
def vgt : VL → List Nat → Option VL
  | v, [] => some v
  | v, i :: p => match (flo v.2.2)[i]? with
    | some w => vgt w p
    | none => none
def vst : VL → List Nat → VL → VL
  | _, [], w => w
  | v, i :: p, w => match (flo v.2.2)[i]? with
    | some a => (v.1, v.2.1, fof ((flo v.2.2).set i (vst a p w)))
    | none => v
def vsz (v : VL) : Nat := 1 + fsz v.2.2
abbrev Rx : Type := (Nat × Nat) × List Nat
abbrev It : Type := VL ⊕ Rx
/-- module and function, the next instruction, locals, the stack from its top on -/
abbrev Fm : Type := (Nat × Nat) × Nat × (Nat → Option It) × List It
abbrev Pc : Type := Nat × Int64 × Nat
/-- what lies at a place: whether it is there, a balance, a sequence, a value -/
abbrev Cn : Type := Bool × Int64 × Int64 × Option VL
/-- place, what lay there at first, what lies there, whether it was changed -/
abbrev En : Type := Pc × Cn × Cn × Bool
/-- how many frames, frames, entries, how many were asked for, gas -/
abbrev Ms : Type := Nat × (Nat → Fm) × List En × Nat × Nat
def tpf (s : Ms) : Fm := s.2.1 (s.1 - 1)
def stk (s : Ms) : List It := (tpf s).2.2.2
def lcs (s : Ms) : Nat → Option It := (tpf s).2.2.1
def ens (s : Ms) : List En := s.2.2.1
def gas (s : Ms) : Nat := s.2.2.2.2
def uF (F : Nat → Fm) (j : Nat) (f : Fm) : Nat → Fm := fun i => if i = j then f else F i
def uLc (l : Nat → Option It) (k : Nat) (v : Option It) : Nat → Option It := fun i => if i = k then v else l i
def sF (s : Ms) (f : Fm) : Ms := (s.1, uF s.2.1 (s.1 - 1) f, s.2.2)
def sK (s : Ms) (k : List It) : Ms := sF s ((tpf s).1, (tpf s).2.1, (tpf s).2.2.1, k)
def sLK (s : Ms) (l : Nat → Option It) (k : List It) : Ms := sF s ((tpf s).1, (tpf s).2.1, l, k)
def sE (s : Ms) (e : List En) : Ms := (s.1, s.2.1, e, s.2.2.2)
def sG (s : Ms) (g : Nat) : Ms := (s.1, s.2.1, s.2.2.1, s.2.2.2.1, g)
/-- references that are alive -/
def rfI : It → List Rx
  | .inl _ => []
  | .inr r => [r]
def rfO : Option It → List Rx
  | some i => rfI i
  | none => []
def rfF (f : Fm) : List Rx := f.2.2.2.flatMap rfI ++ (List.range 40).flatMap fun k => rfO (f.2.2.1 k)
def rfs (s : Ms) : List Rx := (List.range s.1).flatMap fun j => rfF (s.2.1 j)
/-- q lies below r -/
def blw (r q : Rx) : Bool := q.1 == r.1 && (r.2.isPrefixOf q.2 && r.2 != q.2)
def nlw (s : Ms) (r : Rx) : Bool := (rfs s).all fun q => !blw r q
def nrr (s : Ms) (r : Nat × Nat) : Bool := (rfs s).all fun q => q.1 != r
/-- roots: (0, entry), (frame + 1, local) -/
def rtv (s : Ms) (r : Nat × Nat) : Option VL := match r.1 with
  | 0 => (match (ens s)[r.2]? with
    | some e => e.2.2.1.2.2.2
    | none => none)
  | j + 1 => (match (s.2.1 j).2.2.1 r.2 with
    | some (.inl v) => some v
    | _ => none)
def rst (s : Ms) (r : Nat × Nat) (v : VL) : Ms := match r.1 with
  | 0 => (match (ens s)[r.2]? with
    | some e => sE s ((ens s).set r.2 (e.1, e.2.1, (e.2.2.1.1, e.2.2.1.2.1, e.2.2.1.2.2.1, some v), e.2.2.2))
    | none => s)
  | j + 1 => (s.1, uF s.2.1 j ((s.2.1 j).1, (s.2.1 j).2.1, uLc (s.2.1 j).2.2.1 r.2 (some (.inl v)), (s.2.1 j).2.2.2), s.2.2)
def drf (s : Ms) (r : Rx) : Option VL := match rtv s r.1 with
  | some v => vgt v r.2
  | none => none
def wrf (s : Ms) (r : Rx) (w : VL) : Ms := match rtv s r.1 with
  | some v => rst s r.1 (vst v r.2 w)
  | none => s
/-- stuck, or an end (outcome, code, what is then), or what is next -/
abbrev Rz : Type := Option (Except (Nat × Int64 × Ms) Ms)
def mgo (s : Ms) : Rz := some (.ok s)
def mst (o : Nat) (c : Int64) (s : Ms) : Rz := some (.error (o, c, s))
def rb (r : Rz) (f : Ms → Rz) : Rz := match r with
  | some (.ok s) => f s
  | x => x
def mpay (lim n : Nat) (s : Ms) (k : Ms → Rz) : Rz := if gas s + n ≤ lim then k (sG s (gas s + n)) else mst 2 5 (sG s lim)
def mnd (b : Bool) (w : Int64) (s : Ms) (k : Rz) : Rz := if b then k else mst 2 w s
def mre (b : Bool) (k : Rz) : Rz := if b then k else none
def vI (k : Nat) (x y : Int64) : It := .inl (k, (x, y), .leaf)
def vT (b : Bool) : It := vI 1 0 (if b then 1 else 0)
def mpu (s : Ms) (i : It) : Ms := sK s (i :: stk s)
/-- the entry of a place -/
def mask (env : Pc → Cn) (c : Bool) (p : Pc) (s : Ms) (k : Nat → Ms → Rz) : Rz := match (ens s).findIdx? (fun e => e.1 == p) with
  | some i => k i s
  | none => if c && s.2.2.2.1 == 24 then mst 2 4 s else k (ens s).length (s.1, s.2.1, ens s ++ [(p, env p, env p, false)], (if c then s.2.2.2.1 + 1 else s.2.2.2.1), gas s)
def fgl (L : Ls) (l : Nat → Option It) : Nat → Option It := fun k => match l k with
  | some (.inr r) => if (lgt L k).isSome then some (.inr r) else none
  | x => x
/-- on to an instruction: references that are not noted there are forgotten -/
def nx (m : Md) (u : Ux) (i : Nat) (s : Ms) : Ms := sF s ((tpf s).1, i, fgl (lnt m u i) (lcs s), stk s)
def isz : It → Nat
  | .inl v => vsz v
  | .inr _ => 1
def oLoc (lim o k : Nat) (s : Ms) : Rz :=
  if o = 13 then (match stk s with
    | x :: t => mre (nrr (sK s t) (s.1, k)) (mgo (sLK s (uLc (lcs s) k (some x)) t))
    | [] => none)
  else match lcs s k with
    | none => none
    | some x =>
      if o = 11 then mpay lim (isz x) s fun s => mgo (mpu s x)
      else if o = 12 then mre (nrr s (s.1, k)) (mgo (sLK s (uLc (lcs s) k none) (x :: stk s)))
      else (match x with
        | .inl _ => mgo (mpu s (.inr ((s.1, k), [])))
        | .inr _ => none)
def oRef (lim o b : Nat) (s : Ms) : Rz := match stk s with
  | .inr r :: t => (match drf s r with
    | none => none
    | some v =>
      if o < 18 then (match (flo v.2.2)[b]? with
        | some _ => mre (v.1 == 6) (mgo (sK s (.inr (r.1, r.2 ++ [b]) :: t)))
        | none => none)
      else if o = 18 then mpay lim (vsz v) s fun s => mgo (sK s (.inl v :: t))
      else if o = 19 then (match t with
        | .inl w :: t => mre (w.1 == v.1 && nlw (sK s t) r) (mgo (wrf (sK s t) r w))
        | _ => none)
      else mgo s)
  | _ => none
/-- values on top, the topmost first -/
def tkV : Nat → List It → Option (List VL × List It)
  | 0, t => some ([], t)
  | n + 1, .inl v :: t => (match tkV n t with
    | some (l, r) => some (v :: l, r)
    | none => none)
  | _ + 1, _ => none
def oPck (m : Md) (k : Nat) (s : Ms) : Rz := match tkV (fdl m k).length (stk s) with
  | some (l, t) => mgo (sK s (.inl (6, (lN m.1, lN k), fof l.reverse) :: t))
  | none => none
def oUnp (m : Md) (k : Nat) (s : Ms) : Rz := match stk s with
  | .inl v :: t => mre (v.1 == 6 && (v.2.1.1 == lN m.1 && v.2.1.2 == lN k)) (mgo (sK s ((flo v.2.2).reverse.map .inl ++ t)))
  | _ => none
def msh (o k n : Nat) (x : Int64 × Int64) : Int64 × Int64 := (wcutH k (lN ((if o = 32 then (w128 x.1 x.2 * 2 ^ n) % 340282366920938463463374607431768211456 else w128 x.1 x.2 / 2 ^ n) / 18446744073709551616)), wcutL k (lN ((if o = 32 then (w128 x.1 x.2 * 2 ^ n) % 340282366920938463463374607431768211456 else w128 x.1 x.2 / 2 ^ n) % 18446744073709551616)))
def oNum (lim o : Nat) (s : Ms) : Rz :=
  if o = 35 then mgo s
  else if o = 34 then (match stk s with
    | .inl v :: t => mre (v.1 == 1) (mgo (sK s (vI 1 v.2.1.1 (v.2.1.2 ^^^ 1) :: t)))
    | _ => none)
  else if 41 < o then (match stk s with
    | .inl v :: t => mre (decide (2 ≤ v.1 ∧ v.1 ≤ 4)) (mnd (decide (w128 v.2.1.1 v.2.1.2 < 2 ^ mbits (o - 40))) 1 s (mgo (sK s (vI (o - 40) v.2.1.1 v.2.1.2 :: t))))
    | _ => none)
  else match stk s with
    | .inl b :: .inl a :: t =>
      if o < 29 then mre (a.1 == b.1 && decide (2 ≤ a.1 ∧ a.1 ≤ 4)) (match rkb (mbits a.1) (rkn o a.2.1.1 a.2.1.2 b.2.1.1 b.2.1.2) with
        | some x => mgo (sK s (vI a.1 x.1 x.2 :: t))
        | none => mst 2 1 s)
      else if o < 32 then mre (a.1 == b.1 && decide (1 ≤ a.1 ∧ a.1 ≤ 4)) (mgo (sK s (vI a.1 (if o = 29 then a.2.1.1 &&& b.2.1.1 else if o = 30 then a.2.1.1 ||| b.2.1.1 else a.2.1.1 ^^^ b.2.1.1) (if o = 29 then a.2.1.2 &&& b.2.1.2 else if o = 30 then a.2.1.2 ||| b.2.1.2 else a.2.1.2 ^^^ b.2.1.2) :: t)))
      else if o < 34 then mre (b.1 == 2 && decide (2 ≤ a.1 ∧ a.1 ≤ 4)) (mnd (decide (un b.2.1.2 < mbits a.1)) 1 s (mgo (sK s (.inl (a.1, msh o a.1 (un b.2.1.2) a.2.1, .leaf) :: t))))
      else if o < 38 then mre (a.1 == b.1) (mpay lim (vsz a + vsz b) s fun s => mgo (sK s (vT (vsm a.1 b.1 a.2.1 b.2.1 a.2.2 b.2.2 == (o == 36)) :: t)))
      else mre (a.1 == b.1 && decide (2 ≤ a.1 ∧ a.1 ≤ 4)) (mgo (sK s (vT (if o = 38 then decide (w128 a.2.1.1 a.2.1.2 < w128 b.2.1.1 b.2.1.2) else if o = 39 then decide (w128 a.2.1.1 a.2.1.2 ≤ w128 b.2.1.1 b.2.1.2) else if o = 40 then decide (w128 b.2.1.1 b.2.1.2 < w128 a.2.1.1 a.2.1.2) else decide (w128 b.2.1.1 b.2.1.2 ≤ w128 a.2.1.1 a.2.1.2)) :: t)))
    | _ => none
def oCon (snd : Int64) (o a b : Nat) (s : Ms) : Rz := mgo (mpu s (if o = 5 then vI 2 0 (lN a) else if o = 6 then vI 3 0 (lN a) else if o = 7 then vI 4 (lN a) (lN b) else if o = 10 then vI 5 0 (lN a) else if o = 46 then vI 5 0 snd else vT (o == 8)))
def sEn (s : Ms) (e : Nat) (f : En → En) : Ms := match (ens s)[e]? with
  | some x => sE s ((ens s).set e (f x))
  | none => s
/-- what lies at an entry becomes so -/
def cEn (c : Cn) (ch : Bool) (x : En) : En := (x.1, x.2.1, c, x.2.2.2 || ch)
def oRes (snd : Int64) (env : Pc → Cn) (lim o : Nat) (m : Md) (k : Nat) (s : Ms) : Rz := match stk s with
  | .inl v :: t => mre (v.1 == if o = 47 then 6 else 5) (mask env true (3, (if o = 47 then snd else v.2.1.2), 256 * m.1 + k) s fun e s => match (ens s)[e]? with
    | none => none
    | some x =>
      if o = 47 then mnd (!x.2.2.1.1) 3 s (mpay lim (10 + vsz v) s fun s => mgo (sEn (sK s t) e (cEn (true, x.2.2.1.2.1, x.2.2.1.2.2.1, some v) true)))
      else if o = 49 then mpay lim 10 s fun s => mgo (sK s (vT x.2.2.1.1 :: t))
      else mnd x.2.2.1.1 3 s (mpay lim 10 s fun s =>
        if o = 48 then (match x.2.2.1.2.2.2 with
          | some w => mre (nrr s (0, e)) (mgo (sEn (sK s (.inl w :: t)) e (cEn (false, x.2.2.1.2.1, x.2.2.1.2.2.1, none) true)))
          | none => none)
        else mgo (sEn (sK s (.inr ((0, e), []) :: t)) e (cEn x.2.2.1 (o == 51)))))
  | _ => none
def lsw (l : List VL) (i j : Nat) : List VL := match l[i]?, l[j]? with
  | some a, some b => (l.set i b).set j a
  | _, _ => l
def hby (c : Fo) : List VL := (List.range 32).map fun k => (2, (0, lN (dby ((flo c).map fun v => i8 v.2.1.2.toInt32) k)), .leaf)
def oVec (lim o b : Nat) (s : Ms) : Rz :=
  if o = 52 then mpay lim b s fun s => (match tkV b (stk s) with
    | some (l, t) => mgo (sK s (.inl (7, (0, 0), fof l.reverse) :: t))
    | none => none)
  else if o = 59 then (match stk s with
    | .inl v :: t => mre (v.1 == 7) (mpay lim (32 + fln v.2.2) s fun s => mgo (sK s (.inl (7, (0, 0), fof (hby v.2.2)) :: t)))
    | _ => none)
  else if o = 53 then (match stk s with
    | .inr r :: t => (match drf s r with
      | some v => mre (v.1 == 7) (mgo (sK s (vI 3 0 (lN (fln v.2.2)) :: t)))
      | none => none)
    | _ => none)
  else if o = 54 ∨ o = 55 then (match stk s with
    | .inl i :: .inr r :: t => (match drf s r with
      | some v => mre (i.1 == 3 && v.1 == 7) (mnd (decide (un i.2.1.2 < fln v.2.2)) 2 s (mgo (sK s (.inr (r.1, r.2 ++ [un i.2.1.2]) :: t))))
      | none => none)
    | _ => none)
  else if o = 56 then (match stk s with
    | .inl w :: .inr r :: t => (match drf s r with
      | some v => mre (v.1 == 7) (mnd (decide (fln v.2.2 < 256)) 4 s (mgo (wrf (sK s t) r (v.1, v.2.1, fof (flo v.2.2 ++ [w])))))
      | none => none)
    | _ => none)
  else if o = 57 then (match stk s with
    | .inr r :: t => (match drf s r with
      | some v => mre (v.1 == 7) (match (flo v.2.2).getLast? with
        | some w => mre (nlw (sK s t) r) (mgo (mpu (wrf (sK s t) r (v.1, v.2.1, fof (flo v.2.2).dropLast)) (.inl w)))
        | none => mst 2 2 s)
      | none => none)
    | _ => none)
  else match stk s with
    | .inl a :: .inl b :: .inr r :: t => (match drf s r with
      | some v => mre (a.1 == 3 && (b.1 == 3 && v.1 == 7)) (mnd (decide (un a.2.1.2 < fln v.2.2 ∧ un b.2.1.2 < fln v.2.2)) 2 s (mre (nlw (sK s t) r) (mgo (wrf (sK s t) r (v.1, v.2.1, fof (lsw (flo v.2.2) (un a.2.1.2) (un b.2.1.2)))))))
      | none => none)
    | _ => none
/-- a coin -/
def vC (x : Int64) : It := .inl (6, (0, 0), fof [(3, (0, x), .leaf)])
def cvl (v : VL) : Option Int64 := if v.1 = 6 then ((flo v.2.2)[0]?).map fun w => w.2.1.2 else none
def oCoi (snd : Int64) (env : Pc → Cn) (lim n : Nat) (s : Ms) : Rz :=
  if n = 0 then (match stk s with
    | .inl v :: t => mre (v.1 == 3) (mask env true (1, snd, 0) s fun e s => mpay lim 5 s fun s => (match (ens s)[e]? with
      | some x => if v.2.1.2 < 0 ∨ x.2.2.1.2.1 < v.2.1.2 then mst 1 1 s else mgo (sEn (sK s (vC v.2.1.2 :: t)) e (cEn (x.2.2.1.1, x.2.2.1.2.1 - v.2.1.2, x.2.2.1.2.2) true))
      | none => none))
    | _ => none)
  else if n = 1 then (match stk s with
    | .inl c :: .inl a :: t => mre (a.1 == 5) (match cvl c with
      | some y => mask env true (1, a.2.1.2, 0) s fun e s => mpay lim 5 s fun s => (match (ens s)[e]? with
        | some x => mgo (sEn (sK s t) e (cEn (true, x.2.2.1.2.1 + y, x.2.2.1.2.2) true))
        | none => none)
      | none => none)
    | _ => none)
  else if n = 2 then (match stk s with
    | .inr r :: t => (match drf s r with
      | some c => (match cvl c with
        | some y => mpay lim 5 s fun s => mgo (sK s (vI 3 0 y :: t))
        | none => none)
      | none => none)
    | _ => none)
  else if n = 3 then (match stk s with
    | .inl b :: .inl a :: t => (match cvl a, cvl b with
      | some x, some y => mpay lim 5 s fun s => mgo (sK s (vC (x + y) :: t))
      | _, _ => none)
    | _ => none)
  else if n = 4 then (match stk s with
    | .inl v :: .inl c :: t => mre (v.1 == 3) (match cvl c with
      | some x => mpay lim 5 s fun s => if un x < un v.2.1.2 then mst 1 2 s else mgo (sK s (vC v.2.1.2 :: vC (x - v.2.1.2) :: t))
      | none => none)
    | _ => none)
  else if n = 5 then (match stk s with
    | .inl a :: t => mre (a.1 == 5) (mask env true (1, a.2.1.2, 0) s fun e s => mpay lim 5 s fun s => (match (ens s)[e]? with
      | some x => mgo (sK s (vI 3 0 x.2.2.1.2.1 :: t))
      | none => none))
    | _ => none)
  else none
abbrev Wd : Type := Nat → Option Md
/-- a frame begins -/
def ent (g : Nat × Nat) (l : List It) : Fm := (g, 0, fun k => l[k]?, [])
def mcall (W : Wd) (lim : Nat) (m : Md) (u : Ux) (i : Nat) (g : Nat × Nat) (s : Ms) : Rz := match W g.1 with
  | none => none
  | some m' => (match m'.2.2.2.2.2[g.2]? with
    | none => none
    | some u' => mnd (decide (s.1 < 32)) 4 s (mpay lim 5 s fun s => mre (decide (u'.2.1.length ≤ (stk s).length)) (
      let s1 := nx m u (i + 1) (sK s ((stk s).drop u'.2.1.length))
      mgo (s1.1 + 1, uF s1.2.1 s1.1 (ent g ((stk s).take u'.2.1.length).reverse), s1.2.2))))
def mor (es : List En) : Int := (es.map fun e => if e.1.1 = 1 ∨ e.1.1 = 3 then (if e.2.2.1.1 then 1 else 0) - (if e.2.1.1 then 1 else 0) else 0).sum
def tlg (es : List En) : Bool := es.any fun e => e.1.1 == 3 && (e.2.2.2 && (e.2.2.1.1 && (match e.2.2.1.2.2.2 with
  | some v => decide (64 < vsz v)
  | none => false)))
/-- at a call's end -/
def mset (env : Pc → Cn) (s : Ms) : Rz := if tlg (ens s) then mst 2 4 s
  else if mor (ens s) = 0 then mst 0 0 s
  else mask env false (4, 0, 0) s fun e s => match (ens s)[e]? with
    | none => none
    | some x => if x.2.2.1.2.1.toInt + mor (ens s) ≤ 256 then mst 0 0 (sEn s e (cEn (x.2.2.1.1, Int64.ofInt (x.2.2.1.2.1.toInt + mor (ens s)), x.2.2.1.2.2) true)) else mst 2 4 s
def mend (env : Pc → Cn) (u : Ux) (s : Ms) : Rz := mre ((stk s).length == u.2.2.1.length) (
  if s.1 = 1 then mset env s
  else let s1 : Ms := (s.1 - 1, s.2.1, s.2.2)
    mre ((rfs (sK s1 (stk s ++ stk s1))).all fun q => q.1.1 != s.1) (mgo (sK s1 (stk s ++ stk s1))))
/-- what the instruction does, but for going on; calls, branches and ends are others -/
def mop (snd : Int64) (env : Pc → Cn) (lim : Nat) (m : Md) (x : Ix) (s : Ms) : Rz :=
  if x.1 = 0 then (match stk s with
    | _ :: t => mgo (sK s t)
    | [] => none)
  else if x.1 < 11 ∨ x.1 = 46 then oCon snd x.1 x.2.1 x.2.2.1 s
  else if x.1 < 16 then oLoc lim x.1 x.2.1 s
  else if x.1 < 21 then oRef lim x.1 x.2.2.1 s
  else if x.1 = 21 then oPck m x.2.1 s
  else if x.1 = 22 then oUnp m x.2.1 s
  else if x.1 < 45 then oNum lim x.1 s
  else if x.1 < 52 then oRes snd env lim x.1 m x.2.1 s
  else oVec lim x.1 x.2.2.1 s
def mstp (W : Wd) (snd : Int64) (lim : Nat) (env : Pc → Cn) (s : Ms) : Rz := match W (tpf s).1.1 with
  | none => none
  | some m => (match m.2.2.2.2.2[(tpf s).1.2]? with
    | none => none
    | some u => (match (ui u)[(tpf s).2.1]? with
      | none => none
      | some x => mpay lim 1 s fun s =>
        if x.1 = 1 then mend env u s
        else if x.1 = 45 then (match stk s with
          | .inl v :: _ => mre (v.1 == 3) (mst 1 v.2.1.2 s)
          | _ => none)
        else if x.1 = 2 then mgo (nx m u x.2.1 s)
        else if x.1 < 5 ∧ 2 < x.1 then (match stk s with
          | .inl v :: t => mre (v.1 == 1) (mgo (nx m u (if (v.2.1.2 == 1) == (x.1 == 3) then x.2.1 else (tpf s).2.1 + 1) (sK s t)))
          | _ => none)
        else if x.1 = 23 then (if x.2.1 < m.2.2.2.2.2.length then mcall W lim m u (tpf s).2.1 (m.1, x.2.1) s
          else match m.2.2.2.1[x.2.1 - m.2.2.2.2.2.length]? with
            | none => none
            | some c => if c.1 = 0 then rb (oCoi snd env lim c.2.1 s) fun s => mgo (nx m u ((tpf s).2.1 + 1) s)
              else mask env true (2, lN c.1, 0) s fun _ s => mcall W lim m u (tpf s).2.1 (c.1, c.2.1) s)
        else rb (mop snd env lim m x s) fun s => mgo (nx m u ((tpf s).2.1 + 1) s)))
