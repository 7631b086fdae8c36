/-! values with places: addresses of the component's, numbers of the twin's -/
abbrev LV : Type := Nat × Nat × (Int64 × Int64) × LF
def llo : LF → List LV
  | .leaf => []
  | .inner k x _ c n => (x.1, k, x.2, c) :: llo n
def lof : List LV → LF
  | [] => .leaf
  | v :: l => .inner v.2.1 (v.1, v.2.2.1) () v.2.2.2 (lof l)
theorem lof_llo : ∀ c : LF, lof (llo c) = c
  | .leaf => rfl
  | .inner k x u c n => by
    show Std.DTreeMap.Internal.Impl.inner k (x.1, x.2) () c (lof (llo n)) = _
    rw [lof_llo n]
theorem llo_lof : ∀ l : List LV, llo (lof l) = l
  | [] => rfl
  | v :: l => by
    show (v.1, v.2.1, v.2.2.1, v.2.2.2) :: llo (lof l) = v :: l
    rw [llo_lof l]
def lvE (x : LV) : VL := (x.2.1, x.2.2.1, fer x.2.2.2)
def adr (x : LV) : List Nat := x.1 :: fad x.2.2.2
theorem flo_fer : ∀ c : LF, flo (fer c) = (llo c).map lvE
  | .leaf => rfl
  | .inner k x u c n => by
    show (k, x.2, fer c) :: flo (fer n) = (k, x.2, fer c) :: (llo n).map lvE
    rw [flo_fer n]
theorem fer_lof : ∀ l : List LV, fer (lof l) = fof (l.map lvE)
  | [] => rfl
  | v :: l => by
    show Std.DTreeMap.Internal.Impl.inner v.2.1 v.2.2.1 () (fer v.2.2.2) (fer (lof l)) = Std.DTreeMap.Internal.Impl.inner v.2.1 v.2.2.1 () (fer v.2.2.2) (fof (l.map lvE))
    rw [fer_lof l]
theorem fad_llo : ∀ c : LF, fad c = (llo c).flatMap adr
  | .leaf => rfl
  | .inner k x u c n => by
    show x.1 :: (fad c ++ fad n) = (x.1 :: fad c) ++ (llo n).flatMap adr
    rw [fad_llo n]; rfl
theorem fad_lof (l : List LV) : fad (lof l) = l.flatMap adr := by rw [fad_llo, llo_lof]
theorem llo_len (c : LF) : (llo c).length = fln c := by
  have := flo_len (fer c)
  rw [flo_fer, List.length_map, fer_ln] at this
  exact this
theorem lof_ap : ∀ a b : List LV, lof (a ++ b) = fap (lof a) (lof b)
  | [], b => rfl
  | v :: a, b => by
    show Std.DTreeMap.Internal.Impl.inner v.2.1 (v.1, v.2.2.1) () v.2.2.2 (lof (a ++ b)) = Std.DTreeMap.Internal.Impl.inner v.2.1 (v.1, v.2.2.1) () v.2.2.2 (fap (lof a) (lof b))
    rw [lof_ap a b]
theorem llo_ap (a b : LF) : llo (fap a b) = llo a ++ llo b := by
  rw [← lof_llo a, ← lof_llo b, ← lof_ap, llo_lof, llo_lof, llo_lof]
/-- a part of a part -/
def lva : LV → List Nat → Option LV
  | v, [] => some v
  | v, i :: p => match (llo v.2.2.2)[i]? with
    | some w => lva w p
    | none => none
def lvw : LV → List Nat → LV → LV
  | _, [], w => w
  | v, i :: p, w => match (llo v.2.2.2)[i]? with
    | some a => (v.1, v.2.1, v.2.2.1, lof ((llo v.2.2.2).set i (lvw a p w)))
    | none => v
theorem lva_e : ∀ {p : List Nat} {x : LV}, (lva x p).map lvE = vgt (lvE x) p
  | [], x => rfl
  | i :: p, x => by
    show (match (llo x.2.2.2)[i]? with | some w => lva w p | none => none).map lvE = (match (flo (fer x.2.2.2))[i]? with | some w => vgt w p | none => none)
    rw [flo_fer, List.getElem?_map]
    cases (llo x.2.2.2)[i]? with
    | none => rfl
    | some w => exact lva_e
theorem lvs_e : ∀ {p : List Nat} {x w : LV}, lvE (lvw x p w) = vst (lvE x) p (lvE w)
  | [], x, w => rfl
  | i :: p, x, w => by
    show lvE (match (llo x.2.2.2)[i]? with | some a => (x.1, x.2.1, x.2.2.1, lof ((llo x.2.2.2).set i (lvw a p w))) | none => x) = (match (flo (fer x.2.2.2))[i]? with | some a => ((lvE x).1, (lvE x).2.1, fof ((flo (fer x.2.2.2)).set i (vst a p (lvE w)))) | none => lvE x)
    rw [flo_fer, List.getElem?_map]
    cases (llo x.2.2.2)[i]? with
    | none => rfl
    | some a =>
      show (x.2.1, x.2.2.1, fer (lof ((llo x.2.2.2).set i (lvw a p w)))) = (x.2.1, x.2.2.1, fof (((llo x.2.2.2).map lvE).set i (vst (lvE a) p (lvE w))))
      rw [fer_lof, List.map_set, lvs_e]
theorem lva_s {p : List Nat} {x : LV} {v : VL} (h : vgt (lvE x) p = some v) : ∃ y, lva x p = some y ∧ lvE y = v := by
  rw [← lva_e] at h
  cases hh : lva x p with
  | none => rw [hh] at h; cases h
  | some y => rw [hh] at h; exact ⟨y, rfl, Option.some.inj h⟩
theorem lvs_1 {p : List Nat} {x y w : LV} (h : lva x p = some y) (hw : w.1 = y.1) : (lvw x p w).1 = x.1 := by
  cases p with
  | nil => cases h; exact hw
  | cons i p =>
    show (match (llo x.2.2.2)[i]? with | some a => (x.1, x.2.1, x.2.2.1, lof ((llo x.2.2.2).set i (lvw a p w))) | none => x : LV).1 = x.1
    cases (llo x.2.2.2)[i]? <;> rfl
theorem lvs_c {i : Nat} {p : List Nat} {x a w : LV} (h : (llo x.2.2.2)[i]? = some a) : lvw x (i :: p) w = (x.1, x.2.1, x.2.2.1, lof ((llo x.2.2.2).set i (lvw a p w))) := by
  show (match (llo x.2.2.2)[i]? with | some a => (x.1, x.2.1, x.2.2.1, lof ((llo x.2.2.2).set i (lvw a p w))) | none => x) = _
  rw [h]
/-- addresses of what is not below stay -/
theorem lva_n : ∀ {p q : List Nat} {x y w z : LV}, lva x p = some y → w.1 = y.1 → ¬ (p <+: q ∧ p ≠ q) → lva x q = some z → ∃ z', lva (lvw x p w) q = some z' ∧ z'.1 = z.1
  | [], q, x, y, w, z, h, hw, hn, hq => by
    cases q with
    | nil => cases h; cases hq; exact ⟨w, rfl, hw⟩
    | cons j q => exact absurd ⟨List.nil_prefix, by simp⟩ hn
  | i :: p, [], x, y, w, z, h, hw, hn, hq => by
    cases hq
    exact ⟨_, rfl, lvs_1 h hw⟩
  | i :: p, j :: q, x, y, w, z, h, hw, hn, hq => by
    cases ha : (llo x.2.2.2)[i]? with
    | none =>
      have h : (match (llo x.2.2.2)[i]? with | some w => lva w p | none => none) = some y := h
      rw [ha] at h; cases h
    | some a =>
      have h2 : (match (llo x.2.2.2)[i]? with | some w => lva w p | none => none) = some y := h
      rw [ha] at h2
      have hq : (match (llo x.2.2.2)[j]? with | some w => lva w q | none => none) = some z := hq
      rw [lvs_c ha]
      show ∃ z', (match (llo (lof ((llo x.2.2.2).set i (lvw a p w))))[j]? with | some w => lva w q | none => none) = some z' ∧ _
      rw [llo_lof]
      by_cases c : j = i
      · subst c
        rw [ha] at hq
        rw [List.getElem?_set_self (get_lt ha)]
        exact lva_n h2 hw (fun z => hn ⟨List.cons_prefix_cons.mpr ⟨rfl, z.1⟩, fun z2 => z.2 (List.cons.inj z2).2⟩) hq
      · rw [List.getElem?_set_ne (fun z => c z.symm)]
        cases hb : (llo x.2.2.2)[j]? with
        | none => rw [hb] at hq; cases hq
        | some b => rw [hb] at hq; exact ⟨z, hq, rfl⟩
/-- where parts are added, the others stay -/
theorem lva_ap {p q : List Nat} {x y w : LV} (h : lva x p = some y) : lva x (p ++ q) = lva y q := by
  induction p generalizing x with
  | nil => cases h; rfl
  | cons i p ih =>
    have h : (match (llo x.2.2.2)[i]? with | some w => lva w p | none => none) = some y := h
    show (match (llo x.2.2.2)[i]? with | some w => lva w (p ++ q) | none => none) = _
    cases ha : (llo x.2.2.2)[i]? with
    | none => rw [ha] at h; cases h
    | some a => rw [ha] at h; exact ih h
theorem lva_w : ∀ {p : List Nat} {x y w : LV}, lva x p = some y → lva (lvw x p w) p = some w
  | [], x, y, w, h => rfl
  | i :: p, x, y, w, h => by
    cases ha : (llo x.2.2.2)[i]? with
    | none =>
      have h : (match (llo x.2.2.2)[i]? with | some w => lva w p | none => none) = some y := h
      rw [ha] at h; cases h
    | some a =>
      have h : (match (llo x.2.2.2)[i]? with | some w => lva w p | none => none) = some y := h
      rw [ha] at h
      rw [lvs_c ha]
      show (match (llo (lof ((llo x.2.2.2).set i (lvw a p w))))[i]? with | some w => lva w p | none => none) = _
      rw [llo_lof, List.getElem?_set_self (get_lt ha)]
      exact lva_w h
theorem adr_in : ∀ {p : List Nat} {x y : LV}, lva x p = some y → ∀ a ∈ adr y, a ∈ adr x
  | [], x, y, h, a, ha => by cases h; exact ha
  | i :: p, x, y, h, a, ha => by
    have h : (match (llo x.2.2.2)[i]? with | some w => lva w p | none => none) = some y := h
    cases hb : (llo x.2.2.2)[i]? with
    | none => rw [hb] at h; cases h
    | some b =>
      rw [hb] at h
      have := adr_in h a ha
      show a ∈ x.1 :: fad x.2.2.2
      rw [fad_llo]
      exact List.mem_cons_of_mem _ (List.mem_flatMap.mpr ⟨b, List.mem_of_getElem? hb, this⟩)
theorem fm_set {α β : Type} {f : α → List β} : ∀ {l : List α} {i : Nat} {x y : α}, l[i]? = some x → ∃ a b, l.flatMap f = a ++ (f x ++ b) ∧ (l.set i y).flatMap f = a ++ (f y ++ b)
  | [], i, x, y, h => by simp at h
  | z :: l, 0, x, y, h => by cases h; exact ⟨[], l.flatMap f, rfl, rfl⟩
  | z :: l, i + 1, x, y, h => by
    obtain ⟨a, b, e1, e2⟩ := fm_set (f := f) (y := y) (show l[i]? = some x from h)
    refine ⟨f z ++ a, b, ?_, ?_⟩
    · rw [List.flatMap_cons, e1, List.append_assoc]
    · rw [List.set_cons_succ, List.flatMap_cons, e2, List.append_assoc]
/-- which addresses there are when a part becomes another one -/
theorem adr_s : ∀ {p : List Nat} {x y w : LV}, lva x p = some y → ∃ a b, adr x = a ++ (adr y ++ b) ∧ adr (lvw x p w) = a ++ (adr w ++ b)
  | [], x, y, w, h => by cases h; exact ⟨[], [], by simp, by show adr w = _; simp⟩
  | i :: p, x, y, w, h => by
    have h : (match (llo x.2.2.2)[i]? with | some w => lva w p | none => none) = some y := h
    cases hb : (llo x.2.2.2)[i]? with
    | none => rw [hb] at h; cases h
    | some c =>
      rw [hb] at h
      obtain ⟨a, b, e1, e2⟩ := adr_s (w := w) h
      obtain ⟨a', b', f1, f2⟩ := fm_set (f := adr) (y := lvw c p w) hb
      refine ⟨x.1 :: (a' ++ a), b ++ b', ?_, ?_⟩
      · show x.1 :: fad x.2.2.2 = _
        rw [fad_llo, f1, e1]; simp
      · rw [lvs_c hb]
        show x.1 :: fad (lof ((llo x.2.2.2).set i (lvw c p w))) = _
        rw [fad_lof, f2, e2]; simp
theorem adr_nd {p : List Nat} {x y w : LV} (h : lva x p = some y) (hx : (adr x).Nodup) (hw : (adr w).Nodup) (hn : ∀ a ∈ adr w, a ∈ adr y ∨ a ∉ adr x) : (adr (lvw x p w)).Nodup ∧ ∀ a, a ∈ adr (lvw x p w) ↔ (a ∈ adr x ∧ a ∉ adr y) ∨ a ∈ adr w := by
  obtain ⟨a, b, e1, e2⟩ := adr_s (w := w) h
  rw [e1] at hx hn
  rw [e2, e1]
  simp only [List.nodup_append, List.mem_append] at hx hn ⊢
  constructor
  · grind
  · intro z; grind
/-! who owns which addresses -/
abbrev Sl : Type := Nat × Nat × Nat × Nat
abbrev Lc : Type := Sl → Option LV
def uO (o : Lc) (p : Sl) (x : Option LV) : Lc := fun q => if q = p then x else o q
def DJ (o : Lc) : Prop := (∀ p x, o p = some x → (adr x).Nodup) ∧ ∀ p q x y, p ≠ q → o p = some x → o q = some y → ∀ a ∈ adr x, a ∉ adr y
theorem uO_s {o : Lc} {p : Sl} {x : Option LV} : uO o p x p = x := if_pos rfl
theorem uO_n {o : Lc} {p q : Sl} {x : Option LV} (h : q ≠ p) : uO o p x q = o q := if_neg h
theorem DJ.del {o : Lc} (h : DJ o) (p : Sl) : DJ (uO o p none) := by
  refine ⟨fun q x hq => ?_, fun q r x y hn hq hr => ?_⟩
  · by_cases c : q = p
    · rw [c, uO_s] at hq; cases hq
    · rw [uO_n c] at hq; exact h.1 q x hq
  · by_cases c : q = p
    · rw [c, uO_s] at hq; cases hq
    · by_cases c2 : r = p
      · rw [c2, uO_s] at hr; cases hr
      · rw [uO_n c] at hq
        rw [uO_n c2] at hr
        exact h.2 q r x y hn hq hr
/-- what is new, or was there -/
theorem DJ.put {o : Lc} (h : DJ o) {p : Sl} {x : LV} (hx : (adr x).Nodup) (hn : ∀ q y, q ≠ p → o q = some y → ∀ a ∈ adr x, a ∉ adr y) : DJ (uO o p (some x)) := by
  refine ⟨fun q y hq => ?_, fun q r y z hne hq hr => ?_⟩
  · by_cases c : q = p
    · rw [c, uO_s] at hq; cases hq; exact hx
    · rw [uO_n c] at hq; exact h.1 q y hq
  · by_cases c : q = p
    · rw [c, uO_s] at hq
      cases hq
      have c2 : r ≠ p := fun z => hne (c.trans z.symm)
      rw [uO_n c2] at hr
      exact hn r z c2 hr
    · rw [uO_n c] at hq
      by_cases c2 : r = p
      · rw [c2, uO_s] at hr
        cases hr
        exact fun a ha ha2 => hn q y c hq a ha2 ha
      · rw [uO_n c2] at hr
        exact h.2 q r y z hne hq hr
/-- from one to another -/
theorem DJ.mov {o : Lc} (h : DJ o) {p q : Sl} {x : LV} (hp : o p = some x) : DJ (uO (uO o p none) q (some x)) := by
  refine (h.del p).put (h.1 p x hp) fun r y _ hy => ?_
  by_cases c : r = p
  · rw [c, uO_s] at hy; cases hy
  · rw [uO_n c] at hy
    exact h.2 p r x y (fun z => c z.symm) hp hy
