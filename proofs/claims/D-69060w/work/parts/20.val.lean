/-! forests: a node's kind, its number, its parts, the nodes beside it; located ones bear addresses -/
abbrev Fo : Type := Std.DTreeMap.Internal.Impl (Int64 × Int64) (fun _ => Unit)
abbrev LF : Type := Std.DTreeMap.Internal.Impl (Nat × Int64 × Int64) (fun _ => Unit)
def fsz {α : Type} : Std.DTreeMap.Internal.Impl α (fun _ => Unit) → Nat
  | .leaf => 0
  | .inner _ _ _ c r => 1 + fsz c + fsz r
def fln {α : Type} : Std.DTreeMap.Internal.Impl α (fun _ => Unit) → Nat
  | .leaf => 0
  | .inner _ _ _ _ r => 1 + fln r
def fdp {α : Type} : Std.DTreeMap.Internal.Impl α (fun _ => Unit) → Nat
  | .leaf => 0
  | .inner _ _ _ c r => max (1 + fdp c) (fdp r)
def fad : LF → List Nat
  | .leaf => []
  | .inner _ x _ c r => x.1 :: (fad c ++ fad r)
def fer : LF → Fo
  | .leaf => .leaf
  | .inner k x _ c r => .inner k x.2 () (fer c) (fer r)
theorem fer_sz : ∀ g : LF, fsz (fer g) = fsz g
  | .leaf => rfl
  | .inner _ _ _ c r => by simp only [fer, fsz, fer_sz c, fer_sz r]
theorem fer_ln : ∀ g : LF, fln (fer g) = fln g
  | .leaf => rfl
  | .inner _ _ _ c r => by simp only [fer, fln, fer_ln r]
theorem fer_dp : ∀ g : LF, fdp (fer g) = fdp g
  | .leaf => rfl
  | .inner _ _ _ c r => by simp only [fer, fdp, fer_dp c, fer_dp r]
theorem fad_len : ∀ g : LF, (fad g).length = fsz g
  | .leaf => rfl
  | .inner _ _ _ c r => by simp only [fad, fsz, List.length_cons, List.length_append, fad_len c, fad_len r]; omega
/-! what may have changed between two heaps: P says which fields (10000 and more: arrays) at which addresses -/
def Fr (P : Nat → Nat → Prop) (h h' : AH) : Prop :=
  ((∀ f a, ¬ P f a → h'.I f a = h.I f a) ∧ (∀ f a, ¬ P f a → h'.J f a = h.J f a) ∧ (∀ f a, ¬ P f a → h'.R f a = h.R f a)) ∧
  ((∀ t a, ¬ P (10000 + t) a → ∀ i, h'.EI t a i = h.EI t a i) ∧ (∀ t a, ¬ P (10000 + t) a → ∀ i, h'.EJ t a i = h.EJ t a i) ∧ (∀ t a, ¬ P (10000 + t) a → ∀ i, h'.ER t a i = h.ER t a i)) ∧
  (∀ a x, h.tag a = some x → h'.tag a = some x) ∧ h.n ≤ h'.n ∧ h'.z + 7 * h.n = h.z + 7 * h'.n
theorem Fr.refl {P : Nat → Nat → Prop} (h : AH) : Fr P h h := ⟨⟨fun _ _ _ => rfl, fun _ _ _ => rfl, fun _ _ _ => rfl⟩, ⟨fun _ _ _ _ => rfl, fun _ _ _ _ => rfl, fun _ _ _ _ => rfl⟩, fun _ _ e => e, Nat.le_refl _, rfl⟩
theorem Fr.I {P : Nat → Nat → Prop} {h h' : AH} (q : Fr P h h') {f a : Nat} (n : ¬ P f a) : h'.I f a = h.I f a := q.1.1 f a n
theorem Fr.J {P : Nat → Nat → Prop} {h h' : AH} (q : Fr P h h') {f a : Nat} (n : ¬ P f a) : h'.J f a = h.J f a := q.1.2.1 f a n
theorem Fr.R {P : Nat → Nat → Prop} {h h' : AH} (q : Fr P h h') {f a : Nat} (n : ¬ P f a) : h'.R f a = h.R f a := q.1.2.2 f a n
theorem Fr.EI {P : Nat → Nat → Prop} {h h' : AH} (q : Fr P h h') {t a : Nat} (n : ¬ P (10000 + t) a) (i : Nat) : h'.EI t a i = h.EI t a i := q.2.1.1 t a n i
theorem Fr.EJ {P : Nat → Nat → Prop} {h h' : AH} (q : Fr P h h') {t a : Nat} (n : ¬ P (10000 + t) a) (i : Nat) : h'.EJ t a i = h.EJ t a i := q.2.1.2.1 t a n i
theorem Fr.ER {P : Nat → Nat → Prop} {h h' : AH} (q : Fr P h h') {t a : Nat} (n : ¬ P (10000 + t) a) (i : Nat) : h'.ER t a i = h.ER t a i := q.2.1.2.2 t a n i
theorem Fr.tag {P : Nat → Nat → Prop} {h h' : AH} (q : Fr P h h') {a : Nat} {x : Nat × Nat} (e : h.tag a = some x) : h'.tag a = some x := q.2.2.1 a x e
theorem Fr.n {P : Nat → Nat → Prop} {h h' : AH} (q : Fr P h h') : h.n ≤ h'.n := q.2.2.2.1
theorem Fr.z {P : Nat → Nat → Prop} {h h' : AH} (q : Fr P h h') : h'.z + 7 * h.n = h.z + 7 * h'.n := q.2.2.2.2
theorem Fr.trans {P : Nat → Nat → Prop} {h h1 h2 : AH} (p : Fr P h h1) (q : Fr P h1 h2) : Fr P h h2 :=
  ⟨⟨fun f a n => (q.I n).trans (p.I n), fun f a n => (q.J n).trans (p.J n), fun f a n => (q.R n).trans (p.R n)⟩, ⟨fun t a n i => (q.EI n i).trans (p.EI n i), fun t a n i => (q.EJ n i).trans (p.EJ n i), fun t a n i => (q.ER n i).trans (p.ER n i)⟩, fun a x e => q.tag (p.tag e), Nat.le_trans p.n q.n, by have := p.z; have := q.z; omega⟩
theorem Fr.mono {P Q : Nat → Nat → Prop} {h h' : AH} (p : Fr P h h') (m : ∀ f a, P f a → Q f a) : Fr Q h h' :=
  ⟨⟨fun f a n => p.I fun z => n (m _ _ z), fun f a n => p.J fun z => n (m _ _ z), fun f a n => p.R fun z => n (m _ _ z)⟩, ⟨fun t a n => p.EI fun z => n (m _ _ z), fun t a n => p.EJ fun z => n (m _ _ z), fun t a n => p.ER fun z => n (m _ _ z)⟩, p.2.2⟩
theorem Fr.sI {P : Nat → Nat → Prop} {h h' : AH} (q : Fr P h h') {f a : Nat} {v : Int32} (m : P f a) : Fr P h (h'.sI f a v) :=
  ⟨⟨fun g b n => (if_neg fun e => n (by rw [e.1, e.2]; exact m)).trans (q.I n), fun g b n => q.J n, fun g b n => q.R n⟩, q.2⟩
theorem Fr.sJ {P : Nat → Nat → Prop} {h h' : AH} (q : Fr P h h') {f a : Nat} {v : Int64} (m : P f a) : Fr P h (h'.sJ f a v) :=
  ⟨⟨fun g b n => q.I n, fun g b n => (if_neg fun e => n (by rw [e.1, e.2]; exact m)).trans (q.J n), fun g b n => q.R n⟩, q.2⟩
theorem Fr.sR {P : Nat → Nat → Prop} {h h' : AH} (q : Fr P h h') {f a : Nat} {v : Option Nat} (m : P f a) : Fr P h (h'.sR f a v) :=
  ⟨⟨fun g b n => q.I n, fun g b n => q.J n, fun g b n => (if_neg fun e => n (by rw [e.1, e.2]; exact m)).trans (q.R n)⟩, q.2⟩
theorem Fr.sEI {P : Nat → Nat → Prop} {h h' : AH} (q : Fr P h h') {t a i : Nat} {v : Int32} (m : P (10000 + t) a) : Fr P h (h'.sEI t a i v) :=
  ⟨q.1, ⟨fun g b n j => (if_neg fun e => n (by rw [e.1, e.2.1]; exact m)).trans (q.EI n j), fun g b n j => q.EJ n j, fun g b n j => q.ER n j⟩, q.2.2⟩
theorem Fr.sEJ {P : Nat → Nat → Prop} {h h' : AH} (q : Fr P h h') {t a i : Nat} {v : Int64} (m : P (10000 + t) a) : Fr P h (h'.sEJ t a i v) :=
  ⟨q.1, ⟨fun g b n j => q.EI n j, fun g b n j => (if_neg fun e => n (by rw [e.1, e.2.1]; exact m)).trans (q.EJ n j), fun g b n j => q.ER n j⟩, q.2.2⟩
theorem Fr.sER {P : Nat → Nat → Prop} {h h' : AH} (q : Fr P h h') {t a i : Nat} {v : Option Nat} (m : P (10000 + t) a) : Fr P h (h'.sER t a i v) :=
  ⟨q.1, ⟨fun g b n j => q.EI n j, fun g b n j => q.EJ n j, fun g b n j => (if_neg fun e => n (by rw [e.1, e.2.1]; exact m)).trans (q.ER n j)⟩, q.2.2⟩
theorem Fr.nwV {P : Nat → Nat → Prop} {h h' : AH} (q : Fr P h h') (hf : FR h') : Fr P h (h'.nw 29 0 7) :=
  ⟨q.1, q.2.1, fun a x e => by
    have e' := q.tag e
    have := hf.lt e'
    show (if a = h'.n then some (29, 0) else h'.tag a) = some x
    rw [if_neg (by omega)]; exact e', Nat.le_succ_of_le q.n, by have := q.z; show h'.z + 7 + _ = _ + 7 * (h'.n + 1); omega⟩
/-- room for values -/
def RM (G : Gt) (h : AH) : Prop := h.z + 7 * (G.ln - h.n) ≤ G.ls
theorem RM.fr {G : Gt} {P : Nat → Nat → Prop} {h h' : AH} (r : RM G h) (q : Fr P h h') (hn : h'.n ≤ G.ln) : RM G h' := by
  unfold RM at *; have := q.n; have := q.z; omega
/-- values change at own addresses and at new ones -/
def VP (O : List Nat) (n : Nat) (f a : Nat) : Prop := (3712 ≤ f ∧ f ≤ 3718 ∧ (a ∈ O ∨ n ≤ a)) ∨ f = 1280
theorem VP.fld {O : List Nat} {n f a : Nat} (h : f < 3712 ∨ 3718 < f) (h2 : f ≠ 1280) : ¬ VP O n f a := by unfold VP; omega
theorem VP.out {O : List Nat} {n f a : Nat} (h : a ∉ O) (h2 : a < n) (h3 : f ≠ 1280) : ¬ VP O n f a := fun q => by
  rcases q with ⟨_, _, q | q⟩ | q
  · exact h q
  · omega
  · exact h3 q
theorem VP.inn {O : List Nat} {n f a : Nat} (h : a ∈ O) (h1 : Nat.ble 3712 f = true) (h2 : Nat.ble f 3718 = true) : VP O n f a := Or.inl ⟨Nat.le_of_ble_eq_true h1, Nat.le_of_ble_eq_true h2, Or.inl h⟩
theorem VP.new {O : List Nat} {n f a : Nat} (h : n ≤ a) (h1 : Nat.ble 3712 f = true) (h2 : Nat.ble f 3718 = true) : VP O n f a := Or.inl ⟨Nat.le_of_ble_eq_true h1, Nat.le_of_ble_eq_true h2, Or.inr h⟩
theorem VP.mono {O O' : List Nat} {n n' : Nat} (h : ∀ a, (a ∈ O ∨ n ≤ a) → (a ∈ O' ∨ n' ≤ a)) : ∀ f a, VP O n f a → VP O' n' f a := fun f a q => by
  rcases q with ⟨h1, h2, q⟩ | q
  · exact Or.inl ⟨h1, h2, h a q⟩
  · exact Or.inr q
/-- what was owned, what is owned now: new cells come to it -/
def OW (n n' : Nat) (O O' : List Nat) : Prop := O'.Nodup ∧ ∀ x, x ∈ O' ↔ (x ∈ O ∨ (n ≤ x ∧ x < n'))
theorem OW.trans {n n1 n2 : Nat} {O O1 O2 : List Nat} (p : OW n n1 O O1) (q : OW n1 n2 O1 O2) (h1 : n ≤ n1) (h2 : n1 ≤ n2) : OW n n2 O O2 := by
  refine ⟨q.1, fun x => ?_⟩
  rw [q.2, p.2]
  constructor
  · rintro ((h | h) | h)
    · exact Or.inl h
    · exact Or.inr (by omega)
    · exact Or.inr (by omega)
  · rintro (h | h)
    · exact Or.inl (Or.inl h)
    · by_cases c : x < n1
      · exact Or.inl (Or.inr (by omega))
      · exact Or.inr (by omega)
/-- forests in the heap -/
def RF (h : AH) : LF → Option Nat → Prop
  | .leaf, p => p = none
  | .inner k x _ c r, p => p = some x.1 ∧ h.tag x.1 = some (29, 0) ∧ h.I 3712 x.1 = nI k ∧ h.J 3713 x.1 = x.2.1 ∧ h.J 3714 x.1 = x.2.2 ∧ h.I 3717 x.1 = nI (fln c) ∧ RF h c (h.R 3715 x.1) ∧ RF h r (h.R 3716 x.1)
/-- a value, without what lies beside it -/
def RV (h : AH) (a k : Nat) (x : Int64 × Int64) (c : LF) : Prop := h.tag a = some (29, 0) ∧ h.I 3712 a = nI k ∧ h.J 3713 a = x.1 ∧ h.J 3714 a = x.2 ∧ h.I 3717 a = nI (fln c) ∧ RF h c (h.R 3715 a)
def FL (h : AH) : List Nat → Option Nat → Prop
  | [], p => p = none
  | a :: l, p => p = some a ∧ h.tag a = some (29, 0) ∧ FL h l (h.R 3716 a)
theorem RF.fr {P : Nat → Nat → Prop} {h h' : AH} (q : Fr P h h') : ∀ {g : LF} {p : Option Nat}, RF h g p → (∀ f a, a ∈ fad g → 3712 ≤ f → f ≤ 3718 → ¬ P f a) → RF h' g p
  | .leaf, _, r, _ => r
  | .inner k x _ c r, p, ⟨e1, e2, e3, e4, e5, e6, e7, e8⟩, hp => by
    have hx : ∀ f, 3712 ≤ f → f ≤ 3718 → ¬ P f x.1 := fun f => hp f _ (by simp [fad])
    refine ⟨e1, q.tag e2, ?_, ?_, ?_, ?_, ?_, ?_⟩
    · rw [q.I (hx _ (by omega) (by omega))]; exact e3
    · rw [q.J (hx _ (by omega) (by omega))]; exact e4
    · rw [q.J (hx _ (by omega) (by omega))]; exact e5
    · rw [q.I (hx _ (by omega) (by omega))]; exact e6
    · rw [q.R (hx _ (by omega) (by omega))]; exact RF.fr q e7 fun f a m => hp f a (by simp [fad, m])
    · rw [q.R (hx _ (by omega) (by omega))]; exact RF.fr q e8 fun f a m => hp f a (by simp [fad, m])
theorem RV.fr {P : Nat → Nat → Prop} {h h' : AH} {a k : Nat} {x : Int64 × Int64} {c : LF} (q : Fr P h h') (r : RV h a k x c) (hp : ∀ f b, b ∈ a :: fad c → 3712 ≤ f → f ≤ 3718 → ¬ P f b) : RV h' a k x c := by
  obtain ⟨e2, e3, e4, e5, e6, e7⟩ := r
  have hx : ∀ f, 3712 ≤ f → f ≤ 3718 → ¬ P f a := fun f => hp f _ (by simp)
  refine ⟨q.tag e2, ?_, ?_, ?_, ?_, ?_⟩
  · rw [q.I (hx _ (by omega) (by omega))]; exact e3
  · rw [q.J (hx _ (by omega) (by omega))]; exact e4
  · rw [q.J (hx _ (by omega) (by omega))]; exact e5
  · rw [q.I (hx _ (by omega) (by omega))]; exact e6
  · rw [q.R (hx _ (by omega) (by omega))]; exact RF.fr q e7 fun f a m => hp f a (by simp [m])
theorem FL.fr {P : Nat → Nat → Prop} {h h' : AH} (q : Fr P h h') : ∀ {l : List Nat} {p : Option Nat}, FL h l p → (∀ a, a ∈ l → ¬ P 3716 a) → FL h' l p
  | [], _, r, _ => r
  | a :: l, p, ⟨e1, e2, e3⟩, hp => ⟨e1, q.tag e2, by rw [q.R (hp a (by simp))]; exact FL.fr q e3 fun b m => hp b (by simp [m])⟩
theorem RF.lt {h : AH} (hf : FR h) : ∀ {g : LF} {p : Option Nat}, RF h g p → ∀ a ∈ fad g, a < h.n
  | .leaf, _, _ => fun a m => by cases m
  | .inner k x _ c r, p, ⟨_, e2, _, _, _, _, e7, e8⟩ => fun a m => by
    rcases List.mem_cons.mp m with e | m
    · subst e; exact hf.lt e2
    · rcases List.mem_append.mp m with m | m
      · exact RF.lt hf e7 a m
      · exact RF.lt hf e8 a m
theorem FL.lt {h : AH} (hf : FR h) : ∀ {l : List Nat} {p : Option Nat}, FL h l p → ∀ a ∈ l, a < h.n
  | [], _, _ => fun a m => by cases m
  | b :: l, p, ⟨_, e2, e3⟩ => fun a m => by
    rcases List.mem_cons.mp m with e | m
    · subst e; exact hf.lt e2
    · exact FL.lt hf e3 a m
/-! how large -/
theorem size_loop : ∀ (g : LF) {X : Xt} (o : OK e_X30_size X) {K : Outcome → AH → Prop} {h : AH} {v : Value} {p : Option Nat} {n : Nat}, RF h g p → fdp g ≤ X.d → K (.returned (some (.int (nI (n + fsz g))))) h → V X K 7 [v, .int (nI n), va_rf p] [] h
  | .leaf, X, o, K, h, v, p, n, hr, hd, k => by
    cases hr
    exact k_X30_size_7 o (fun _ => k_X30_size_26 o k) (fun a c => nomatch c)
  | .inner kk x _ c r, X, o, K, h, v, p, n, ⟨e1, e2, e3, e4, e5, e6, e7, e8⟩, hd, k => by
    subst e1
    simp only [fdp] at hd
    refine k_X30_size_7 o (fun c => nomatch c) (fun a c => ?_)
    cases c
    refine k_X30_size_11 o (st_X30_size fun X' o' hG hD _ => k_X30_size_0 o' (size_loop c o' e7 (by omega) ?_))
    refine k_X30_size_16 o ?_
    rw [nI_add]
    refine size_loop r o e8 (by omega) ?_
    simp only [fsz] at k
    rw [show n + (1 + fsz c) + fsz r = n + (1 + fsz c + fsz r) by omega]; exact k
theorem size_ok {G : Gt} {d : Nat} {h : AH} {a k : Nat} {x : Int64 × Int64} {c : LF} {K : Outcome → AH → Prop} (hv : RV h a k x c) (hd : fdp c ≤ d) (kk : K (.returned (some (.int (nI (1 + fsz c))))) h) : MW G d e_X30_size [.ref a] h K := by
  obtain ⟨e2, e3, e4, e5, e6, e7⟩ := hv
  exact st_X30_size fun X o hG hD _ => k_X30_size_0 o (size_loop c o e7 (by omega) kk)
