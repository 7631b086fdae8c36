/-! the twin's looker: what a call does to the state -/
theorem tkL_app : ∀ {l : List Ty} {s : Sk} {q : Sk × Sk}, tkL l s = .ok q → s = q.1.reverse ++ q.2 ∧ q.1.length = l.length
  | [], s, q, h => by cases h; exact ⟨rfl, rfl⟩
  | t :: l, s, q, h => by
    obtain ⟨r, h1, h2⟩ := eb_ok h
    obtain ⟨q', h3, h4⟩ := eb_ok h2
    cases h4
    obtain ⟨e1, e2⟩ := tkL_app h3
    cases s with
    | nil => cases h1
    | cons y s =>
      unfold tkT at h1
      simp only [tk, eb_k] at h1
      obtain ⟨_, _, h5⟩ := eb_ok h1
      cases h5
      simp only at e1 ⊢
      refine ⟨?_, by simp [e2]⟩
      simp only [List.reverse_append, List.reverse_singleton, List.singleton_append, List.cons_append]
      rw [List.nil_append, ← e1]
theorem and_glb {o : Nat} : (o &&& GLB) = 0 ↔ ∀ b, b < 15 → (o &&& 2 ^ (48 + b)) = 0 := by
  have tg : ∀ i, GLB.testBit i = (decide (48 ≤ i) && decide (i < 63)) := by
    intro i
    have : GLB = (2 ^ 15 - 1) * 2 ^ 48 := rfl
    rw [this, Nat.testBit_mul_two_pow]
    by_cases c : 48 ≤ i
    · rw [decide_eq_true c, Bool.true_and, Bool.true_and, Nat.testBit_two_pow_sub_one]
      by_cases c2 : i < 63
      · rw [decide_eq_true c2, decide_eq_true (by omega)]
      · rw [decide_eq_false c2, decide_eq_false (by omega)]
    · rw [decide_eq_false c, Bool.false_and, Bool.false_and]
  constructor
  · intro h b hb
    refine Nat.eq_of_testBit_eq fun i => ?_
    rw [Nat.testBit_and, Nat.testBit_two_pow, Nat.zero_testBit]
    by_cases c : 48 + b = i
    · subst c
      have := congrArg (fun x => x.testBit (48 + b)) h
      simp only [Nat.testBit_and, Nat.zero_testBit] at this
      rw [tg, decide_eq_true (by omega), decide_eq_true (by omega)] at this
      simp at this
      rw [this]; rfl
    · simp [c]
  · intro h
    refine Nat.eq_of_testBit_eq fun i => ?_
    rw [Nat.testBit_and, Nat.zero_testBit, tg]
    by_cases c : 48 ≤ i ∧ i < 63
    · have := congrArg (fun x => x.testBit i) (h (i - 48) (by omega))
      simp only [Nat.testBit_and, Nat.zero_testBit, Nat.testBit_two_pow] at this
      rw [show 48 + (i - 48) = i by omega] at this
      simp at this
      rw [this]; rfl
    · by_cases c1 : 48 ≤ i
      · rw [decide_eq_false (show ¬ i < 63 by omega)]; simp
      · rw [decide_eq_false c1]; simp
theorem glb_b {o : Nat} : ((o &&& GLB) != 0) = (List.range 15).any fun b => (o &&& 2 ^ (48 + b)) != 0 := by
  rw [Bool.eq_iff_iff, List.any_eq_true]
  constructor
  · intro h
    have h : ¬ (o &&& GLB) = 0 := by simpa using h
    rw [and_glb] at h
    have ⟨b, hb⟩ := Classical.not_forall.mp h
    have ⟨hb1, hb2⟩ := Classical.not_imp.mp hb
    exact ⟨b, List.mem_range.mpr hb1, by simpa using hb2⟩
  · rintro ⟨b, hb, h⟩
    have : ¬ (o &&& GLB) = 0 := fun z => by
      have := and_glb.mp z b (List.mem_range.mp hb)
      rw [this] at h; cases h
    simpa using this
theorem any_any {α β : Type} {l : List α} {k : List β} {p : α → β → Bool} : (l.any fun x => k.any fun y => p x y) = k.any fun y => l.any fun x => p x y := by
  rw [Bool.eq_iff_iff]
  simp only [List.any_eq_true]
  exact ⟨fun ⟨x, hx, y, hy, h⟩ => ⟨y, hy, x, hx, h⟩, fun ⟨y, hy, x, hx, h⟩ => ⟨x, hx, y, hy, h⟩⟩
theorem any_or' {α : Type} {l : List α} {p q : α → Bool} : (l.any fun x => p x || q x) = (l.any p || l.any q) := by
  induction l with
  | nil => rfl
  | cons x l ih =>
    simp only [List.any_cons, ih]
    cases p x <;> cases q x <;> cases l.any p <;> cases l.any q <;> rfl
theorem liv_glb {lt : List Ty} {s : Sk} {l : Ls} : liv lt s l GLB 0 = (List.range 15).any fun b => liv lt s l (2 ^ (48 + b)) 0 := by
  unfold liv
  rw [any_or', any_any (l := List.range 15), any_any (l := List.range 15)]
  have e1 : ∀ t og, lv1 GLB 0 t og = (List.range 15).any fun b => lv1 (2 ^ (48 + b)) 0 t og := fun t og => by
    unfold lv1
    rw [glb_b]
    cases isRf t with
    | false => simp
    | true => simp [cnts]
  have e2 : ∀ t og, lvo GLB 0 t og = (List.range 15).any fun b => lvo (2 ^ (48 + b)) 0 t og := fun t og => by
    cases og with
    | none => simp [lvo]
    | some og => exact e1 t og
  simp only [e1, e2]
theorem fN_fN {e : Except Nat Ts} {b c : Ts → Bool} {w : Nat} : eb (eb e (fN b w)) (fN c w) = eb e (fN (fun x => b x && c x) w) := by
  cases e with
  | error w => rfl
  | ok x =>
    show eb (fN b w x) (fN c w) = fN (fun x => b x && c x) w x
    unfold fN
    simp only
    cases b x <;> rfl
theorem fPL_o {t : Ty} {og : Og} {l : List (Ty × Og)} {e : Except Nat Ts} : eb e (fPL ((t, ogr t og) :: l)) = eb (eb (eb e (fPt t og)) fgt) (fPL l) := by
  rw [eb_a, eb_a]
  congr 1
  funext x
  unfold fPL fPt
  simp only [ptL]
  cases pt t (ogr t og) x.2.1 with
  | error w => rfl
  | ok r => rfl
/-- what a call gives -/
def gvs (m : Md) (g : Nat) (q : Sk) : List (Ty × Og) := (fls m g 1).map fun x => (x.1, ogr x.1 (if isWr x.1 then gWr q else gAll q, true))
theorem cCall_ok {m : Md} {u : Ux} {lt : List Ty} {g : Nat} {z : Ts} {q : Sk × Sk} (h : tkL ((fls m g 0).map Prod.fst).reverse z.2.1 = .ok q) : cO (cCall m u lt g) z = eb (eb (eb (eb (.ok (none, q.2, z.2.2)) (fN (fun _ => !hsR (fgs m g) || hsR u.1) 15)) (fN (fun _ => gAl lt q.2 z.2.2 q.1) 6)) (fN (fun _ => !hsR (fgs m g) || ((gAll q.1 &&& GLB) == 0 && !liv lt q.2 z.2.2 GLB 0)) 6)) (fPL (gvs m g q.1)) := by
  unfold cO cCall
  rw [h]
  simp only [eb_k]
  unfold fN
  simp only
  cases (!hsR (fgs m g) || hsR u.1) <;> simp only [neT, neF, eb_k, eb_e]
  cases (gAl lt q.2 z.2.2 q.1) <;> simp only [neT, neF, eb_k, eb_e]
  cases (!hsR (fgs m g) || ((gAll q.1 &&& GLB) == 0 && !liv lt q.2 z.2.2 GLB 0)) <;> simp only [neT, neF, eb_k, eb_e]
  unfold fPL gvs
  have : ((fls m g 1).map fun x => (x.1, if isRf x.1 then (if isWr x.1 then gWr q.1 else gAll q.1, true) else ((0, false) : Og))) = (fls m g 1).map fun x => (x.1, ogr x.1 (if isWr x.1 then gWr q.1 else gAll q.1, true)) := rfl
  rw [← this]
  simp only
  cases ptL ((fls m g 1).map fun x => (x.1, if isRf x.1 then (if isWr x.1 then gWr q.1 else gAll q.1, true) else ((0, false) : Og))) q.2 <;> rfl
theorem cCall_er {m : Md} {u : Ux} {lt : List Ty} {g w : Nat} {e : Except Nat Ts} (h : eb e (fTL ((fls m g 0).map Prod.fst).reverse) = .error w) : eb e (cO (cCall m u lt g)) = .error w := by
  cases e with
  | error v => exact h
  | ok z =>
    rw [eb_k] at h ⊢
    unfold fTL at h
    unfold cO cCall
    cases hq : tkL ((fls m g 0).map Prod.fst).reverse z.2.1 with
    | error v => rw [hq] at h; cases h; rfl
    | ok q => rw [hq] at h; cases h
theorem gAl_t {lt : List Ty} {s : Sk} {l : Ls} {g : Sk} : gAl lt s l g = (g.zipIdx.take g.length).all fun x => !isWr x.1.1 || (!liv lt s l x.1.2.1 2 && g.zipIdx.all fun y => y.2 == x.2 || (y.1.2.1 &&& x.1.2.1) == 0) := by
  rw [List.take_of_length_le (by simp)]; rfl
theorem all_take {α : Type} {p : α → Bool} {l : List α} {i : Nat} {x : α} (h : l[i]? = some x) : (l.take (i + 1)).all p = ((l.take i).all p && p x) := by
  rw [List.take_add_one, h, List.all_append]; simp
theorem fold_take {α β : Type} {f : β → α → β} {b : β} {l : List α} {i : Nat} {x : α} (h : l[i]? = some x) : (l.take (i + 1)).foldl f b = f ((l.take i).foldl f b) x := by
  rw [List.take_add_one, h, List.foldl_append]; rfl
