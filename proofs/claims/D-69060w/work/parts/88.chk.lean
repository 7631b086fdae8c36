/-! the checker, as a function: a state is a stack (its top first) and what is there in locals -/
abbrev Og : Type := Nat × Bool
abbrev Sk : Type := List (Ty × Og)
abbrev Ls : Type := List (Option Og)
abbrev Cs : Type := Sk × Ls
def EQ {α : Type} (r : Except Nat α) (ok : α → Prop) (er : Nat → Prop) : Prop := match r with
  | .ok x => ok x
  | .error w => er w
def eb {α β : Type} (r : Except Nat α) (f : α → Except Nat β) : Except Nat β := match r with
  | .ok x => f x
  | .error w => .error w
theorem EQ_eb {α β : Type} {r : Except Nat α} {f : α → Except Nat β} {ok : β → Prop} {er : Nat → Prop} : EQ (eb r f) ok er ↔ EQ r (fun a => EQ (f a) ok er) er := by cases r <;> exact Iff.rfl
theorem EQ_k {α : Type} {a : α} {ok : α → Prop} {er : Nat → Prop} : EQ (.ok a : Except Nat α) ok er ↔ ok a := Iff.rfl
theorem EQ_e {α : Type} {w : Nat} {ok : α → Prop} {er : Nat → Prop} : EQ (.error w : Except Nat α) ok er ↔ er w := Iff.rfl
theorem EQ.mono {α : Type} {r : Except Nat α} {ok ok' : α → Prop} {er er' : Nat → Prop} (h : EQ r ok er) (h1 : ∀ a, r = .ok a → ok a → ok' a) (h2 : ∀ w, er w → er' w) : EQ r ok' er' := by
  cases r with
  | ok x => exact h1 _ rfl h
  | error e => exact h2 _ h
theorem eb_ok {α β : Type} {r : Except Nat α} {f : α → Except Nat β} {b : β} (h : eb r f = .ok b) : ∃ a, r = .ok a ∧ f a = .ok b := by
  cases r with
  | ok x => exact ⟨x, rfl, h⟩
  | error e => cases h
theorem eb_k {α β : Type} {a : α} {f : α → Except Nat β} : eb (.ok a) f = f a := rfl
def nee (b : Bool) (w : Nat) : Except Nat Unit := if b then .ok () else .error w
theorem EQ_nt {w : Nat} {ok : Unit → Prop} {er : Nat → Prop} : EQ (nee true w) ok er ↔ ok () := Iff.rfl
theorem EQ_nf {w : Nat} {ok : Unit → Prop} {er : Nat → Prop} : EQ (nee false w) ok er ↔ er w := Iff.rfl
/-- abilities of a type -/
def abl (m : Md) : Ty → Nat
  | [] => 7
  | b :: t => if b = 7 then abl m t &&& 7 else if b = 8 ∨ b = 9 then 3 else if b = 6 then (match t with | k :: _ => sab m k | [] => 7) else 7
def hsA (m : Md) (t : Ty) (a : Nat) : Bool := abl m t &&& a != 0
def tk : Sk → Except Nat ((Ty × Og) × Sk)
  | [] => .error 1
  | x :: s => .ok (x, s)
def tkT (t : Ty) (s : Sk) : Except Nat ((Ty × Og) × Sk) := eb (tk s) fun r => eb (nee (r.1.1 == t) 3) fun _ => .ok r
def tkR (t : Ty) (w : Bool) (s : Sk) : Except Nat ((Ty × Og) × Sk) := eb (tk s) fun r => eb (nee (isRf r.1.1 && r.1.1.tail == t) 3) fun _ => eb (nee (!w || isWr r.1.1) 7) fun _ => .ok r
def tkN (s : Sk) : Except Nat ((Ty × Og) × Sk) := eb (tk s) fun r => eb (nee (isNu r.1.1) 3) fun _ => .ok r
def pt (t : Ty) (o : Og) (s : Sk) : Except Nat Sk := eb (nee (decide (s.length < 64)) 2) fun _ => .ok ((t, o) :: s)
/-- whether a reference counts: any, one that writes, one beside which another one is not sole -/
def cnts (w : Nat) (t : Ty) (i : Bool) : Bool := if w = 0 then true else if w = 1 then isWr t else !isWr t || i
def lv1 (f w : Nat) (t : Ty) (o : Og) : Bool := isRf t && ((o.1 &&& f) != 0 && cnts w t o.2)
def lvo (f w : Nat) (t : Ty) : Option Og → Bool
  | some o => lv1 f w t o
  | none => false
def liv (lt : List Ty) (s : Sk) (l : Ls) (f w : Nat) : Bool := (s.any fun x => lv1 f w x.1 x.2) || ((lt.zip l).any fun x => lvo f w x.1 x.2)
def lgt (l : Ls) (k : Nat) : Option Og := (l[k]?).getD none
def tgt (lt : List Ty) (k : Nat) : Ty := (lt[k]?).getD []
/-- origins of a value of a local: none but of references -/
def ogr (t : Ty) (o : Og) : Og := if isRf t then o else (0, false)
def cLoc (m : Md) (lt : List Ty) (o k : Nat) (c : Cs) : Except Nat Cs :=
  if o = 13 then eb (tkT (tgt lt k) c.1) fun r => eb (nee ((lgt c.2 k).isNone || hsA m (tgt lt k) 2) 4) fun _ => eb (nee (isRf (tgt lt k) || !liv lt r.2 c.2 (2 ^ k) 0) 6) fun _ => .ok (r.2, c.2.set k (some r.1.2))
  else match lgt c.2 k with
    | none => .error 5
    | some og =>
      if o = 11 then eb (nee (hsA m (tgt lt k) 1) 4) fun _ => eb (nee (isRf (tgt lt k) || !liv lt c.1 c.2 (2 ^ k) 1) 6) fun _ => eb (pt (tgt lt k) (ogr (tgt lt k) og) c.1) fun s => .ok (s, c.2)
      else if o = 12 then eb (nee (isRf (tgt lt k) || !liv lt c.1 c.2 (2 ^ k) 0) 6) fun _ => eb (pt (tgt lt k) (ogr (tgt lt k) og) c.1) fun s => .ok (s, c.2.set k none)
      else eb (nee (!isRf (tgt lt k)) 3) fun _ => eb (nee (!liv lt c.1 c.2 (2 ^ k) (if o = 14 then 1 else 0)) 6) fun _ => eb (pt ((if o = 14 then 8 else 9) :: tgt lt k) (2 ^ k, false) c.1) fun s => .ok (s, c.2)
def cRef (m : Md) (lt : List Ty) (o : Nat) (c : Cs) : Except Nat Cs := eb (tk c.1) fun r => eb (nee (isRf r.1.1) 3) fun _ =>
  if o = 18 then eb (nee (hsA m r.1.1.tail 1) 4) fun _ => eb (pt r.1.1.tail (0, false) r.2) fun s => .ok (s, c.2)
  else eb (nee (isWr r.1.1) 7) fun _ =>
    if o = 20 then eb (pt (8 :: r.1.1.tail) r.1.2 r.2) fun s => .ok (s, c.2)
    else eb (tkT r.1.1.tail r.2) fun q => eb (nee (hsA m r.1.1.tail 2) 4) fun _ => eb (nee (!liv lt q.2 c.2 r.1.2.1 2) 6) fun _ => .ok (q.2, c.2)
def fdt (m : Md) (k i : Nat) : Ty := match m.2.1[k]? with
  | some s => (match s.2.2[i]? with | some x => x.1 | none => [])
  | none => []
def fdl (m : Md) (k : Nat) : List Ty := match m.2.1[k]? with
  | some s => s.2.2.map Prod.fst
  | none => []
def cFld (m : Md) (w : Bool) (k i : Nat) (c : Cs) : Except Nat Cs := eb (tkR [6, k] w c.1) fun r => eb (pt ((if w then 9 else 8) :: fdt m k i) (r.1.2.1, true) r.2) fun s => .ok (s, c.2)
/-- values of these types, the last one on top -/
def tkL : List Ty → Sk → Except Nat (Sk × Sk)
  | [], s => .ok ([], s)
  | t :: l, s => eb (tkT t s) fun r => eb (tkL l r.2) fun q => .ok (q.1 ++ [r.1], q.2)
def ptL : List (Ty × Og) → Sk → Except Nat Sk
  | [], s => .ok s
  | x :: l, s => eb (pt x.1 x.2 s) fun s => ptL l s
def cPack (m : Md) (k : Nat) (c : Cs) : Except Nat Cs := eb (tkL (fdl m k).reverse c.1) fun q => eb (pt [6, k] (0, false) q.2) fun s => .ok (s, c.2)
def cUnp (m : Md) (k : Nat) (c : Cs) : Except Nat Cs := eb (tkT [6, k] c.1) fun r => eb (ptL ((fdl m k).map fun t => (t, (0, false))) r.2) fun s => .ok (s, c.2)
def hsR (f : Nat) : Bool := f &&& 4 != 0
def gAll (g : Sk) : Nat := g.foldl (fun a x => a ||| x.2.1) 0
def gWr (g : Sk) : Nat := g.foldl (fun a x => if isWr x.1 then a ||| x.2.1 else a) 0
/-- each writing one is alone -/
def gAl (lt : List Ty) (s : Sk) (l : Ls) (g : Sk) : Bool := g.zipIdx.all fun x => !isWr x.1.1 || (!liv lt s l x.1.2.1 2 && g.zipIdx.all fun y => y.2 == x.2 || (y.1.2.1 &&& x.1.2.1) == 0)
def GLB : Nat := 32767 * 2 ^ 48
def cCall (m : Md) (u : Ux) (lt : List Ty) (g : Nat) (c : Cs) : Except Nat Cs := eb (tkL ((fls m g 0).map Prod.fst).reverse c.1) fun q => eb (nee (!hsR (fgs m g) || hsR u.1) 15) fun _ =>
  eb (nee (gAl lt q.2 c.2 q.1) 6) fun _ => eb (nee (!hsR (fgs m g) || ((gAll q.1 &&& GLB) == 0 && !liv lt q.2 c.2 GLB 0)) 6) fun _ =>
  eb (ptL ((fls m g 1).map fun x => (x.1, if isRf x.1 then (if isWr x.1 then gWr q.1 else gAll q.1, true) else (0, false))) q.2) fun s => .ok (s, c.2)
def cRes (m : Md) (u : Ux) (lt : List Ty) (o k : Nat) (c : Cs) : Except Nat Cs := eb (tkT (if o = 47 then [6, k] else [5]) c.1) fun r => eb (nee (hsR u.1) 15) fun _ => eb (nee (hsA m [6, k] 8) 4) fun _ =>
  if o = 47 then .ok (r.2, c.2)
  else if o = 48 then eb (nee (!liv lt r.2 c.2 (2 ^ (48 + k % 15)) 0) 6) fun _ => eb (pt [6, k] (0, false) r.2) fun s => .ok (s, c.2)
  else if o = 49 then eb (pt [1] (0, false) r.2) fun s => .ok (s, c.2)
  else eb (nee (!liv lt r.2 c.2 (2 ^ (48 + k % 15)) (if o = 50 then 1 else 0)) 6) fun _ => eb (pt [if o = 50 then 8 else 9, 6, k] (2 ^ (48 + k % 15), false) r.2) fun s => .ok (s, c.2)
def elt (m : Md) (k : Nat) : Ty := match m.2.2.2.2.1[k]? with
  | some x => x.1
  | none => []
def cVec (m : Md) (lt : List Ty) (o a b : Nat) (c : Cs) : Except Nat Cs :=
  if o = 52 then eb (tkL (List.replicate b (elt m a)) c.1) fun q => eb (pt (7 :: elt m a) (0, false) q.2) fun s => .ok (s, c.2)
  else if o = 53 then eb (tkR (7 :: elt m a) false c.1) fun r => eb (pt [3] (0, false) r.2) fun s => .ok (s, c.2)
  else if o = 54 ∨ o = 55 then eb (tkT [3] c.1) fun r => eb (tkR (7 :: elt m a) (o == 55) r.2) fun q => eb (pt ((if o = 55 then 9 else 8) :: elt m a) (q.1.2.1, true) q.2) fun s => .ok (s, c.2)
  else if o = 56 then eb (tkT (elt m a) c.1) fun r => eb (tkR (7 :: elt m a) true r.2) fun q => eb (nee (!liv lt q.2 c.2 q.1.2.1 2) 6) fun _ => .ok (q.2, c.2)
  else if o = 57 then eb (tkR (7 :: elt m a) true c.1) fun q => eb (nee (!liv lt q.2 c.2 q.1.2.1 2) 6) fun _ => eb (pt (elt m a) (0, false) q.2) fun s => .ok (s, c.2)
  else eb (tkT [3] c.1) fun r => eb (tkT [3] r.2) fun p => eb (tkR (7 :: elt m a) true p.2) fun q => eb (nee (!liv lt q.2 c.2 q.1.2.1 2) 6) fun _ => .ok (q.2, c.2)
def cNum (m : Md) (o : Nat) (c : Cs) : Except Nat Cs :=
  if o < 32 then eb (tk c.1) fun r => eb (nee (isNu r.1.1 || (decide (28 < o) && r.1.1 == [1])) 3) fun _ => eb (tkT r.1.1 r.2) fun q => eb (pt r.1.1 (0, false) q.2) fun s => .ok (s, c.2)
  else if o < 34 then eb (tkT [2] c.1) fun r => eb (tkN r.2) fun q => eb (pt q.1.1 (0, false) q.2) fun s => .ok (s, c.2)
  else if o = 34 then eb (tkT [1] c.1) fun r => eb (pt [1] (0, false) r.2) fun s => .ok (s, c.2)
  else if 41 < o then eb (tkN c.1) fun r => eb (pt [o - 40] (0, false) r.2) fun s => .ok (s, c.2)
  else if 37 < o then eb (tkN c.1) fun r => eb (tkT r.1.1 r.2) fun q => eb (pt [1] (0, false) q.2) fun s => .ok (s, c.2)
  else if 35 < o then eb (tk c.1) fun r => eb (nee (!isRf r.1.1) 3) fun _ => eb (tkT r.1.1 r.2) fun q => eb (nee (hsA m r.1.1 2) 4) fun _ => eb (pt [1] (0, false) q.2) fun s => .ok (s, c.2)
  else .ok c
def cEnd (m : Md) (u : Ux) (lt : List Ty) (c : Cs) : Except Nat Cs := eb (nee (c.1.reverse.map Prod.fst == u.2.2.1.map Prod.fst) 12) fun _ => eb (nee (c.1.all fun x => !isRf x.1 || (x.2.1 &&& (2 ^ 40 - 1 + GLB)) == 0) 14) fun _ =>
  eb (nee ((lt.zip c.2).all fun x => x.2.isNone || hsA m x.1 2) 13) fun _ => .ok c
/-- what an instruction does, but for going on -/
def cOp (m : Md) (u : Ux) (lt : List Ty) (o a b : Nat) (c : Cs) : Except Nat Cs :=
  if o = 0 then eb (tk c.1) fun r => eb (nee (hsA m r.1.1 2) 4) fun _ => .ok (r.2, c.2)
  else if o = 1 then cEnd m u lt c
  else if o = 2 then eb (nee c.1.isEmpty 8) fun _ => .ok c
  else if o < 5 then eb (tkT [1] c.1) fun r => eb (nee r.2.isEmpty 8) fun _ => .ok (r.2, c.2)
  else if o < 8 then eb (pt [o - 3] (0, false) c.1) fun s => .ok (s, c.2)
  else if o < 10 then eb (pt [1] (0, false) c.1) fun s => .ok (s, c.2)
  else if o = 10 ∨ o = 46 then eb (pt [5] (0, false) c.1) fun s => .ok (s, c.2)
  else if o < 16 then cLoc m lt o a c
  else if o < 18 then cFld m (o == 17) a b c
  else if o < 21 then cRef m lt o c
  else if o = 21 then cPack m a c
  else if o = 22 then cUnp m a c
  else if o = 23 then cCall m u lt a c
  else if o < 45 then cNum m o c
  else if o = 45 then eb (tkT [3] c.1) fun r => .ok (r.2, c.2)
  else if o < 52 then cRes m u lt o a c
  else if o < 59 then cVec m lt o a b c
  else eb (tkT [7, 2] c.1) fun r => eb (pt [7, 2] (0, false) r.2) fun s => .ok (s, c.2)
/-- two ways meet -/
def jn1 (a b : Option Og) : Option Og := match a, b with
  | some x, some y => some (x.1 ||| y.1, x.2 || y.2)
  | _, _ => none
def cJoin (m : Md) : List Ty → Ls → Ls → Except Nat Ls
  | t :: lt, a :: l, b :: k => eb (nee ((a.isSome == b.isSome) || hsA m t 2) 9) fun _ => eb (cJoin m lt l k) fun r => .ok (jn1 a b :: r)
  | _, _, _ => .ok []
def bk1 (m : Md) (t : Ty) (a b : Option Og) : Bool := match a with
  | none => b.isNone || hsA m t 2
  | some x => (match b with
    | some y => (y.1 &&& x.1) == y.1 && (!y.2 || x.2)
    | none => false)
def cBack (m : Md) : List Ty → Ls → Ls → Except Nat Unit
  | t :: lt, a :: l, b :: k => eb (nee (bk1 m t a b) 9) fun _ => cBack m lt l k
  | _, _, _ => .ok ()
/-- what was noted of instructions -/
abbrev Tb : Type := List (Option Ls)
def tat (tb : Tb) (j : Nat) : Option Ls := (tb[j]?).getD none
def cCome (m : Md) (lt : List Ty) (i j : Nat) (l : Ls) (tb : Tb) : Except Nat Tb :=
  if j ≤ i then eb (cBack m lt ((tat tb j).getD []) l) fun _ => .ok tb
  else match tat tb j with
    | some a => eb (cJoin m lt a l) fun r => .ok (tb.set j (some r))
    | none => .ok (tb.set j (some l))
def leds (u : Ux) (i : Nat) : Bool := (ui u).any fun x => decide (2 ≤ x.1 ∧ x.1 ≤ 4) && x.2.1 == i
/-- one instruction -/
def cLook (m : Md) (u : Ux) (lt : List Ty) (i : Nat) (x : Ix) (c : Sk × Tb) : Except Nat (Sk × Tb) := match tat c.2 i with
  | none => .error 10
  | some l => eb (nee (!leds u i || c.1.isEmpty) 8) fun _ => eb (cOp m u lt x.1 x.2.1 x.2.2.1 (c.1, l)) fun d =>
    eb (if 1 < x.1 ∧ x.1 < 5 then cCome m lt i x.2.1 d.2 c.2 else .ok c.2) fun tb =>
    if x.1 = 1 ∨ x.1 = 2 ∨ x.1 = 45 then .ok ([], tb)
    else eb (nee (decide (i + 1 < (ui u).length)) 11) fun _ => eb (cCome m lt i (i + 1) d.2 tb) fun tb => .ok (d.1, tb)
def cAll (m : Md) (u : Ux) (lt : List Ty) : List Ix → Nat → Sk × Tb → Except (Nat × Nat) (Sk × Tb)
  | [], _, c => .ok c
  | x :: l, i, c => match cLook m u lt i x c with
    | .error w => .error (w, i)
    | .ok c' => cAll m u lt l (i + 1) c'
def lty (u : Ux) : List Ty := u.2.1.map Prod.fst ++ u.2.2.2.1.map Prod.fst
/-- locals at first -/
def ls0 (u : Ux) : Ls := (List.range (nlo u)).map fun k => if k < u.2.1.length then some (if isRf (tgt (lty u) k) then 2 ^ (40 + k) else 0, false) else none
def tb0 (u : Ux) : Tb := some (ls0 u) :: List.replicate ((ui u).length - 1) none
/-- the first fault in a function, and its instruction -/
def chk (m : Md) (u : Ux) : Except (Nat × Nat) (Sk × Tb) := cAll m u (lty u) (ui u) 0 ([], tb0 u)
