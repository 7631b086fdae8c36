/-! locals: a list of values; a place that holds none, or a long's second half, bears retAddr 0 -/
def nov : Value := .retAddr 0
def asc (L : List Value) : List (Nat × Value) := (List.range L.length).filterMap fun i => match L[i]? with
  | some v => if v = nov then none else some (i, v)
  | none => none
theorem mem_asc {L : List Value} {i : Nat} {v : Value} : (i, v) ∈ asc L ↔ L[i]? = some v ∧ v ≠ nov := by
  unfold asc
  rw [List.mem_filterMap]
  constructor
  · rintro ⟨j, hj, hv⟩
    split at hv
    · next w hw =>
      split at hv
      · cases hv
      · next hne => cases hv; exact ⟨hw, hne⟩
    · cases hv
  · rintro ⟨h1, h2⟩
    refine ⟨i, List.mem_range.mpr (List.getElem?_eq_some_iff.mp h1).1, ?_⟩
    rw [h1]
    simp [h2]
/-- the machine's locals hold the list; longs lie at places of wd alone -/
def LR (wd : List Nat) (ls : Array Slot) (L : List Value) : Prop := lv_has ls L.length (asc L) ∧ ∀ i v, L[i]? = some v → v.category = 2 → wd.contains i = true
/-- a value of one place comes into local i -/
def ls1 (wd : List Nat) (L : List Value) (i : Nat) (v : Value) : List Value := if i ≠ 0 ∧ wd.contains (i - 1) = true then (L.set (i - 1) nov).set i v else L.set i v
def ls2 (wd : List Nat) (L : List Value) (i : Nat) (v : Value) : List Value := if i ≠ 0 ∧ wd.contains (i - 1) = true then ((L.set (i - 1) nov).set (i + 1) nov).set i v else (L.set (i + 1) nov).set i v
theorem lv_has.of {ls : Array Slot} {n : Nat} {l l' : List (Nat × Value)} (h : lv_has ls n l) (hl : ∀ q ∈ l', q ∈ l) : lv_has ls n l' := ⟨h.1, h.2.1, fun q hq => h.2.2 q (hl q hq)⟩
theorem ls1_len (wd : List Nat) (L : List Value) (i : Nat) (v : Value) : (ls1 wd L i v).length = L.length := by unfold ls1; split <;> simp
theorem ls2_len (wd : List Nat) (L : List Value) (i : Nat) (v : Value) : (ls2 wd L i v).length = L.length := by unfold ls2; split <;> simp
theorem set_is {L : List Value} {i : Nat} {v w : Value} (h : (L.set i v)[i]? = some w) : w = v := by
  obtain ⟨h1, h2⟩ := List.getElem?_eq_some_iff.mp h
  rw [List.getElem_set_self] at h2
  exact h2.symm
theorem ls1_at {wd : List Nat} {L : List Value} {i j : Nat} {v w : Value} (h : (ls1 wd L i v)[j]? = some w) (hw : w ≠ nov) : (j = i ∧ w = v) ∨ (j ≠ i ∧ L[j]? = some w ∧ (j + 1 = i → wd.contains j = false)) := by
  unfold ls1 at h
  by_cases hj : j = i
  · left
    subst hj
    split at h <;> exact ⟨rfl, set_is h⟩
  · right
    refine ⟨hj, ?_⟩
    split at h
    · next hc =>
      rw [List.getElem?_set_ne (Ne.symm hj)] at h
      by_cases hj2 : j = i - 1
      · subst hj2
        exact absurd (set_is h) hw
      · rw [List.getElem?_set_ne (Ne.symm hj2)] at h
        exact ⟨h, fun e => absurd (by omega) hj2⟩
    · next hc =>
      rw [List.getElem?_set_ne (Ne.symm hj)] at h
      refine ⟨h, fun e => ?_⟩
      cases hcc : wd.contains j with
      | false => rfl
      | true => exact absurd ⟨by omega, by rw [← e]; simpa using hcc⟩ hc
theorem ls2_at {wd : List Nat} {L : List Value} {i j : Nat} {v w : Value} (h : (ls2 wd L i v)[j]? = some w) (hw : w ≠ nov) : (j = i ∧ w = v) ∨ (j ≠ i ∧ j ≠ i + 1 ∧ L[j]? = some w ∧ (j + 1 = i → wd.contains j = false)) := by
  unfold ls2 at h
  by_cases hj : j = i
  · left
    subst hj
    split at h <;> exact ⟨rfl, set_is h⟩
  · right
    refine ⟨hj, ?_⟩
    split at h
    · next hc =>
      rw [List.getElem?_set_ne (Ne.symm hj)] at h
      by_cases hj1 : j = i + 1
      · subst hj1
        exact absurd (set_is h) hw
      · rw [List.getElem?_set_ne (Ne.symm hj1)] at h
        by_cases hj2 : j = i - 1
        · subst hj2
          exact absurd (set_is h) hw
        · rw [List.getElem?_set_ne (Ne.symm hj2)] at h
          exact ⟨hj1, h, fun e => absurd (by omega) hj2⟩
    · next hc =>
      rw [List.getElem?_set_ne (Ne.symm hj)] at h
      by_cases hj1 : j = i + 1
      · subst hj1
        exact absurd (set_is h) hw
      · rw [List.getElem?_set_ne (Ne.symm hj1)] at h
        refine ⟨hj1, h, fun e => ?_⟩
        cases hcc : wd.contains j with
        | false => rfl
        | true => exact absurd ⟨by omega, by rw [← e]; simpa using hcc⟩ hc
theorem nov_cat : nov.category = 1 := rfl
theorem LR.st1 {wd : List Nat} {ls ls' : Array Slot} {L : List Value} {i : Nat} {v : Value} (h : LR wd ls L) (hc : v.category = 1)
    (h' : lv_has ls' L.length ((i, v) :: (asc L).filter (fun q => !(q.1 == i) && !(q.1 + 1 == i && q.2.category == 2)))) : LR wd ls' (ls1 wd L i v) := by
  refine ⟨?_, fun j w hj hw => ?_⟩
  · rw [ls1_len]
    refine h'.of fun q hq => ?_
    obtain ⟨j, w⟩ := q
    obtain ⟨h1, h2⟩ := mem_asc.mp hq
    rcases ls1_at h1 h2 with ⟨e1, e2⟩ | ⟨e1, e2, e3⟩
    · subst e1; subst e2; exact List.mem_cons_self
    · refine List.mem_cons_of_mem _ (List.mem_filter.mpr ⟨mem_asc.mpr ⟨e2, h2⟩, ?_⟩)
      have hn : ¬ (j + 1 = i ∧ w.category = 2) := fun ⟨q1, q2⟩ => by
        have := h.2 j w e2 q2
        rw [e3 q1] at this; cases this
      simp only [Bool.and_eq_true, Bool.not_eq_true', beq_eq_false_iff_ne, ne_eq, Bool.and_eq_false_iff]
      refine ⟨e1, ?_⟩
      by_cases q1 : j + 1 = i
      · exact Or.inr fun q2 => hn ⟨q1, q2⟩
      · exact Or.inl q1
  · have hwn : w ≠ nov := fun e => by rw [e, nov_cat] at hw; cases hw
    rcases ls1_at hj hwn with ⟨e1, e2⟩ | ⟨e1, e2, e3⟩
    · subst e2; omega
    · exact h.2 j w e2 hw
theorem LR.st2 {wd : List Nat} {ls ls' : Array Slot} {L : List Value} {i : Nat} {v : Value} (h : LR wd ls L) (hwd : wd.contains i = true)
    (h' : lv_has ls' L.length ((i, v) :: (asc L).filter (fun q => !(q.1 == i) && (!(q.1 == i + 1) && !(q.1 + 1 == i && q.2.category == 2))))) : LR wd ls' (ls2 wd L i v) := by
  refine ⟨?_, fun j w hj hw => ?_⟩
  · rw [ls2_len]
    refine h'.of fun q hq => ?_
    obtain ⟨j, w⟩ := q
    obtain ⟨h1, h2⟩ := mem_asc.mp hq
    rcases ls2_at h1 h2 with ⟨e1, e2⟩ | ⟨e1, e0, e2, e3⟩
    · subst e1; subst e2; exact List.mem_cons_self
    · refine List.mem_cons_of_mem _ (List.mem_filter.mpr ⟨mem_asc.mpr ⟨e2, h2⟩, ?_⟩)
      have hn : ¬ (j + 1 = i ∧ w.category = 2) := fun ⟨q1, q2⟩ => by
        have := h.2 j w e2 q2
        rw [e3 q1] at this; cases this
      simp only [Bool.and_eq_true, Bool.not_eq_true', beq_eq_false_iff_ne, ne_eq, Bool.and_eq_false_iff]
      refine ⟨e1, e0, ?_⟩
      by_cases q1 : j + 1 = i
      · exact Or.inr fun q2 => hn ⟨q1, q2⟩
      · exact Or.inl q1
  · have hwn : w ≠ nov := fun e => by rw [e, nov_cat] at hw; cases hw
    rcases ls2_at hj hwn with ⟨e1, e2⟩ | ⟨e1, e0, e2, e3⟩
    · subst e1; exact hwd
    · exact h.2 j w e2 hw
theorem LR.at {wd : List Nat} {ls : Array Slot} {L : List Value} (h : LR wd ls L) {i : Nat} {v : Value} (hv : L[i]? = some v) (hn : v ≠ nov) : ls[i]? = some (.val v) := h.1.2.2 (i, v) (mem_asc.mpr ⟨hv, hn⟩)
def LX (wd : List Nat) (ml : Nat) (ls : Array Slot) (L : List Value) : Prop := LR wd ls L ∧ L.length = ml
theorem LX.at {wd : List Nat} {ml : Nat} {ls : Array Slot} {L : List Value} (h : LX wd ml ls L) {i : Nat} {v : Value} (hv : L[i]? = some v) (hn : v ≠ nov) : ls[i]? = some (.val v) := h.1.at hv hn
theorem LX.st1 {wd : List Nat} {ml : Nat} {ls ls' : Array Slot} {L : List Value} {i : Nat} {v : Value} (h : LX wd ml ls L) (hc : v.category = 1)
    (h' : lv_has ls' L.length ((i, v) :: (asc L).filter (fun q => !(q.1 == i) && !(q.1 + 1 == i && q.2.category == 2)))) : LX wd ml ls' (ls1 wd L i v) := ⟨h.1.st1 hc h', by rw [ls1_len]; exact h.2⟩
theorem LX.st2 {wd : List Nat} {ml : Nat} {ls ls' : Array Slot} {L : List Value} {i : Nat} {v : Value} (h : LX wd ml ls L) (hwd : wd.contains i = true)
    (h' : lv_has ls' L.length ((i, v) :: (asc L).filter (fun q => !(q.1 == i) && (!(q.1 == i + 1) && !(q.1 + 1 == i && q.2.category == 2))))) : LX wd ml ls' (ls2 wd L i v) := ⟨h.1.st2 hwd h', by rw [ls2_len]; exact h.2⟩
theorem LX.size {wd : List Nat} {ml : Nat} {ls : Array Slot} {L : List Value} (h : LX wd ml ls L) : ls.size = ml := h.1.1.1.trans h.2
/-! the frame of a walk -/
def Xt : Type := Gt × Program × Env × Room × State × MethodId × Array Value × List Frame × Method × Code × Nat × Nat × Nat × List Nat
def Xt.G (X : Xt) : Gt := X.1
def Xt.p (X : Xt) : Program := X.2.1
def Xt.e (X : Xt) : Env := X.2.2.1
def Xt.R (X : Xt) : Room := X.2.2.2.1
def Xt.s (X : Xt) : State := X.2.2.2.2.1
def Xt.m (X : Xt) : MethodId := X.2.2.2.2.2.1
def Xt.args (X : Xt) : Array Value := X.2.2.2.2.2.2.1
def Xt.below (X : Xt) : List Frame := X.2.2.2.2.2.2.2.1
def Xt.meth (X : Xt) : Method := X.2.2.2.2.2.2.2.2.1
def Xt.c (X : Xt) : Code := X.2.2.2.2.2.2.2.2.2.1
def Xt.n0 (X : Xt) : Nat := X.2.2.2.2.2.2.2.2.2.2.1
def Xt.z0 (X : Xt) : Nat := X.2.2.2.2.2.2.2.2.2.2.2.1
def Xt.d (X : Xt) : Nat := X.2.2.2.2.2.2.2.2.2.2.2.2.1
def Xt.wd (X : Xt) : List Nat := X.2.2.2.2.2.2.2.2.2.2.2.2.2
/-- what is fixed of a method: name, code, locals, answer, places of longs, handlers -/
def Et : Type := MethodName × ByteArray × Nat × Option FieldType × List Nat × List (Nat × Nat × Nat × Nat)
def Et.y (E : Et) : MethodName := E.1
def Et.cc (E : Et) : ByteArray := E.2.1
def Et.ml (E : Et) : Nat := E.2.2.1
def Et.ret (E : Et) : Option FieldType := E.2.2.2.1
def Et.wd (E : Et) : List Nat := E.2.2.2.2.1
def Et.hh (E : Et) : List (Nat × Nat × Nat × Nat) := E.2.2.2.2.2
/-- the end of a walk: outcome and heap as K says; nothing that was there before the run is written -/
def QF (X : Xt) (K : Outcome → AH → Prop) : State → Prop := fun t => ∃ o, t.status = .running ∧ Ended t X.below o ∧ X.s.WarmedH t.vm ∧ ∃ (h' : AH) (L : List Loc) (k n : Nat), HR X.G h' t.heap ∧ K o h' ∧ X.s.sameButNew ({ t with vm := X.s.vm } : State) L k n ∧ (∀ q ∈ L, X.G.b ≤ q.base) ∧ k + X.n0 = h'.n ∧ n + X.z0 = h'.z
/-- from pc, with these locals, this stack and this heap, the method comes to an end that K allows -/
def V (X : Xt) (K : Outcome → AH → Prop) (pc : Nat) (L st : List Value) (h : AH) : Prop :=
  ∀ (H : Heap) (locs : List Loc) (cells slots : Nat) (ls : Array Slot), HR X.G h H → LX X.wd X.c.maxLocals ls L → (∀ q ∈ locs, X.G.b ≤ q.base) → cells + X.n0 = h.n → slots + X.z0 = h.z →
    W X.p X.G.l X.e X.R X.s X.m X.args X.below X.meth X.c H locs cells slots (QF X K) (F0 X.m pc ls st)
def OK (E : Et) (X : Xt) : Prop :=
  (X.p.tables.exec = Jvm.exec ∧ X.c.code = E.cc ∧ X.c.maxLocals = E.ml ∧ X.meth.sig.returnType = E.ret ∧ X.meth.locks = false ∧ X.meth.name = E.y.name ∧ X.wd = E.wd) ∧
  (X.s.vm.findClass E.y.cls = some X.m.cls ∧ (∀ w ∈ lw_all, w.before X.args X.s = true) ∧ KW X.G X.s ∧ X.c.exceptionTable.toList = tableOf E.hh) ∧
  (X.d ≤ X.R.frames ∧ 96 * X.d ≤ X.R.locals ∧ X.G.ln ≤ X.n0 + X.R.cells ∧ X.G.ls ≤ X.z0 + X.R.slots)
theorem W.mono {p : Program} {l : Launch} {e : Env} {R : Room} {s : State} {m : MethodId} {args : Array Value} {below : List Frame} {meth : Method} {c : Code} {H : Heap} {locs : List Loc} {cells slots : Nat} {Q Q' : State → Prop} {g : JFrame}
    (h : W p l e R s m args below meth c H locs cells slots Q g) (hq : ∀ t, Q t → Q' t) : W p l e R s m args below meth c H locs cells slots Q' g := fun T hT X => by
  obtain ⟨t, a, b⟩ := h T hT X
  exact ⟨t, a, hq t b⟩
theorem V.mono {X : Xt} {K K' : Outcome → AH → Prop} {pc : Nat} {L st : List Value} {h : AH} (v : V X K pc L st h) (hk : ∀ o h', K o h' → K' o h') : V X K' pc L st h :=
  fun H locs cells slots ls h1 h2 h3 h4 h5 => (v H locs cells slots ls h1 h2 h3 h4 h5).mono fun t ⟨o, a1, a2, a3, h', L', k, n, b1, b2, b3⟩ => ⟨o, a1, a2, a3, h', L', k, n, b1, hk o h' b2, b3⟩
/-! pieces of code: what holds behind one (nx), at a target (jp), at the end (K) -/
def Ct : Type := List Value → List Value → AH → Prop
def Sm : Type := Gt → Nat → List Nat → Ct → (Nat → Ct) → (Outcome → AH → Prop) → Ct
def Snd (E : Et) (pc : Nat) (w : Sm) (pc' : Nat) : Prop := ∀ X : Xt, OK E X → ∀ (nx : Ct) (jp : Nat → Ct) (K : Outcome → AH → Prop), (∀ L st h, nx L st h → V X K pc' L st h) → (∀ t L st h, jp t L st h → V X K t L st h) → ∀ L st h, w X.G X.d E.wd nx jp K L st h → V X K pc L st h
/-- one piece behind another -/
def sq (w1 w2 : Sm) : Sm := fun G d wd nx jp K => w1 G d wd (w2 G d wd nx jp K) jp K
theorem Snd.sq {E : Et} {a b c : Nat} {w1 w2 : Sm} (h1 : Snd E a w1 b) (h2 : Snd E b w2 c) : Snd E a (sq w1 w2) c := fun X o nx jp K k1 k2 => h1 X o _ jp K (h2 X o nx jp K k1 k2) k2
theorem Snd.run {E : Et} {a b : Nat} {w : Sm} (h : Snd E a w b) {X : Xt} (o : OK E X) {K : Outcome → AH → Prop} {L st : List Value} {hh : AH} (v : w X.G X.d E.wd (V X K b) (V X K) K L st hh) : V X K a L st hh := h X o _ _ K (fun _ _ _ x => x) (fun _ _ _ _ x => x) L st hh v
