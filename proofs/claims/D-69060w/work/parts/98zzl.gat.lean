/-! a worker of the component's: values become parts -/
def CHN (h : AH) : List LV → Prop
  | [] => True
  | x :: r => h.R 3716 x.1 = (r.head?).map (fun y => y.1) ∧ CHN h r
theorem CHN.rf {h : AH} : ∀ {xs : List LV}, (∀ x ∈ xs, RVL h x) → CHN h xs → RF h (lof xs) (xs.head?.map fun y => y.1)
  | [], _, _ => rfl
  | x :: r, hv, ⟨h1, h2⟩ => by
    obtain ⟨e2, e3, e4, e5, e6, e7⟩ := hv x (by simp)
    refine ⟨rfl, e2, e3, e4, e5, e6, e7, ?_⟩
    rw [show h.R 3716 ((x.1, x.2.2.1) : Nat × Int64 × Int64).1 = _ from h1]
    exact CHN.rf (fun y hy => hv y (List.mem_cons_of_mem _ hy)) h2
theorem CHN.snoc {h h' : AH} {x : LV} : ∀ {l : List LV}, CHN h l → (∀ y ∈ l.dropLast, h'.R 3716 y.1 = h.R 3716 y.1) → (∀ y, l.getLast? = some y → h'.R 3716 y.1 = some x.1) → h'.R 3716 x.1 = none → CHN h' (l ++ [x])
  | [], _, _, _, h3 => ⟨h3, trivial⟩
  | [y], _, _, h2, h3 => ⟨h2 y rfl, h3, trivial⟩
  | y :: z :: r, ⟨c1, c2⟩, h1, h2, h3 => by
    refine ⟨?_, CHN.snoc (l := z :: r) c2 (fun u hu => h1 u ?_) (fun u hu => h2 u ?_) h3⟩
    · rw [h1 y (by simp [List.dropLast]), c1]; rfl
    · rw [List.dropLast_cons_of_ne_nil (by simp)]; exact List.mem_cons_of_mem _ hu
    · rw [List.getLast?_cons_cons]; exact hu
theorem RVL.nx {P : Nat → Nat → Prop} {h h' : AH} {x : LV} (q : Fr P h h') (r : RVL h x) (h1 : ∀ f, 3712 ≤ f → f ≤ 3718 → f ≠ 3716 → ¬ P f x.1) (h2 : ∀ f b, b ∈ fad x.2.2.2 → 3712 ≤ f → f ≤ 3718 → ¬ P f b) : RVL h' x := by
  obtain ⟨e2, e3, e4, e5, e6, e7⟩ := r
  refine ⟨q.tag e2, ?_, ?_, ?_, ?_, ?_⟩
  · rw [q.I (h1 _ (by omega) (by omega) (by decide))]; exact e3
  · rw [q.J (h1 _ (by omega) (by omega) (by decide))]; exact e4
  · rw [q.J (h1 _ (by omega) (by omega) (by decide))]; exact e5
  · rw [q.I (h1 _ (by omega) (by omega) (by decide))]; exact e6
  · rw [q.R (h1 _ (by omega) (by omega) (by decide))]; exact RF.fr q e7 h2
/-- values change owners -/
theorem VH.gen {P : Nat → Nat → Prop} {G : Gt} {B q : Nat} {h h' : AH} {l : List Nat} {o o' : Lc} (v : VH G B h q l o) (f : Fq P h h') (hfree : ∀ a, ¬ P 1280 a) (hl : ∀ a ∈ l, ¬ P 3716 a) (dj : DJ o') (cov : ∀ p x, o p = some x → ∀ a ∈ adr x, ∃ p' x', o' p' = some x' ∧ a ∈ adr x') (own : ∀ p x, o' p = some x → RVL h' x ∧ (∀ a ∈ adr x, ∃ p' x', o p' = some x' ∧ a ∈ adr x')) : VH G B h' q l o' := by
  obtain ⟨v1, v2, ⟨v3, v5⟩, v4⟩ := v
  obtain ⟨p1, p2, p3, p4, p5⟩ := v1
  refine ⟨⟨f.1.tag p1, ?_, p3, ?_, by rw [f.2.1]; exact p5⟩, dj, ⟨fun a ha => by rw [f.2.1]; exact v3 a ha, fun a h1 h2 => ?_⟩, fun p x hx => ?_⟩
  · rw [f.1.R (hfree _)]
    exact FL.fr f.1 p2 fun a ha => hl a ha
  · unfold RM at *
    rw [f.2.1, f.2.2]; exact p4
  · rcases v5 a h1 (by rw [← f.2.1]; exact h2) with c | ⟨p, x, c1, c2⟩
    · exact Or.inl c
    · exact Or.inr (cov p x c1 a c2)
  · obtain ⟨g1, g2⟩ := own p x hx
    refine ⟨g1, fun a ha => ?_, fun a ha => ?_⟩
    · obtain ⟨p', x', c1, c2⟩ := g2 a ha
      exact (v4 p' x' c1).2.1 a c2
    · obtain ⟨p', x', c1, c2⟩ := g2 a ha
      rw [f.2.1]
      exact (v4 p' x' c1).2.2 a c2
theorem nd_fm : ∀ {xs : List LV}, (∀ x ∈ xs, (adr x).Nodup) → (∀ (i j : Nat) (x y : LV), i ≠ j → xs[i]? = some x → xs[j]? = some y → ∀ a ∈ adr x, a ∉ adr y) → (xs.flatMap adr).Nodup
  | [], _, _ => List.nodup_nil
  | x :: r, h1, h2 => by
    rw [List.flatMap_cons]
    refine List.nodup_append.mpr ⟨h1 x (by simp), nd_fm (fun y hy => h1 y (List.mem_cons_of_mem _ hy)) (fun i j u w hij hu hw => h2 (i + 1) (j + 1) u w (by omega) hu hw), fun a ha b hb e => ?_⟩
    subst e
    obtain ⟨y, y1, y2⟩ := List.mem_flatMap.mp hb
    obtain ⟨j, hj⟩ := List.mem_iff_getElem?.mp y1
    exact h2 0 (j + 1) x y (by omega) rfl hj a ha y2
/-- values on top of a stack, the lowest first -/
theorem StR.top {h : AH} {o : Lc} {wi j F : Nat} : ∀ {n : Nat} {st : List It} {vs : List VL} {k : List It}, StR h o wi j F st → tkV n st = some (vs, k) → ∃ xs : List LV, xs.length = n ∧ xs.map lvE = vs.reverse ∧ st.length = k.length + n ∧ StR h o wi j F k ∧ ∀ (i : Nat) (x : LV), xs[i]? = some x → o (1, wi, j, k.length + i) = some x ∧ h.ER 747 (F + 2) (k.length + i) = some x.1
  | 0, st, vs, k, s, e => by
    cases e
    exact ⟨[], rfl, rfl, rfl, s, fun i x hx => by simp at hx⟩
  | n + 1, [], vs, k, s, e => by cases e
  | n + 1, .inr r :: st, vs, k, s, e => by cases e
  | n + 1, .inl v :: st, vs, k, ⟨⟨x, x1, x2, x3⟩, s⟩, e => by
    have e : (match tkV n st with
      | some (l, r) => some (v :: l, r)
      | none => none) = some (vs, k) := e
    cases ht : tkV n st with
    | none => rw [ht] at e; cases e
    | some p =>
      obtain ⟨l, r⟩ := p
      rw [ht] at e
      cases e
      obtain ⟨xs, a1, a2, a3, a4, a5⟩ := StR.top s ht
      have x3 : lvE x = v := x3
      refine ⟨xs ++ [x], by simp [a1], by simp [a2, x3], by simp [a3]; omega, a4, fun i y hy => ?_⟩
      rcases Nat.lt_or_ge i xs.length with c | c
      · rw [List.getElem?_append_left c] at hy
        exact a5 i y hy
      · rw [List.getElem?_append_right c] at hy
        have hi : i - xs.length = 0 := by
          rcases Nat.eq_zero_or_pos (i - xs.length) with z | z
          · exact z
          · rw [List.getElem?_eq_none (by simp; omega)] at hy; cases hy
        rw [hi] at hy
        cases hy
        rw [show k.length + i = st.length by omega]
        exact ⟨x1, x2⟩
def GP (a : Nat) (xs : List LV) (g b : Nat) : Prop := (g = 3716 ∧ ∃ x ∈ xs, b = x.1) ∨ (g = 3715 ∧ b = a)
theorem gather_lo {G : Gt} {d : Nat} {h : AH} {A F a hh n : Nat} {xs : List LV} {K : Outcome → AH → Prop} (t0 : h.tag A = some (0, 0)) (hf : h.R 28 A = some F) (s : SFr h F) (he : h.I 2565 F = nI (hh + n)) (h64 : hh + n ≤ 64) (ta : h.tag a = some (29, 0)) (fa : h.R 3715 a = none) (hn : xs.length = n) (hx : ∀ (i : Nat) (x : LV), xs[i]? = some x → h.ER 747 (F + 2) (hh + i) = some x.1 ∧ h.tag x.1 = some (29, 0)) (hd : ∀ (i j : Nat) (x y : LV), i ≠ j → xs[i]? = some x → xs[j]? = some y → x.1 ≠ y.1) (kk : ∀ h1, Fq (GP a xs) h h1 → CHN h1 xs → h1.R 3715 a = xs.head?.map (fun y => y.1) → K (.returned none) ((h1.sI 3717 a (nI n)).sI 2565 F (nI hh))) : MW G d e_X1_gather [.ref A, .ref a, .int (nI n)] h K := by
  refine st_X1_gather fun X oo hG hD _ => ?_
  subst hG; subst hD
  obtain ⟨f1, f2, f3, f4, f5⟩ := s
  have key : ∀ (m i : Nat) (hi : AH) (last : Option Nat) (v5 : Value), m + i = n → Fq (GP a xs) h hi → CHN hi (xs.take i) → hi.R 3715 a = (xs.take i).head?.map (fun y => y.1) → last = (xs.take i).getLast?.map (fun y => y.1) → V X K 5 [.ref A, .ref a, .int (nI n), va_rf last, .int (nI i), v5] [] hi := by
    intro m
    induction m with
    | zero =>
      intro i hi last v5 hm fq ch fs la
      have : i = n := by omega
      subst this
      rw [show xs.take i = xs by rw [← hn, List.take_length]] at ch fs
      have np : ∀ g b, g ≠ 3716 → g ≠ 3715 → ¬ GP a xs g b := fun g b h1 h2 z => by
        rcases z with z | z
        · exact h1 z.1
        · exact h2 z.1
      have q1 := fq.1.tag t0
      have q2 := fq.1.tag ta
      have q3 : hi.R 28 A = some F := by rw [fq.1.R (np _ _ (by decide) (by decide))]; exact hf
      have q4 := fq.1.tag f1
      have q5 : hi.I 2565 F = nI (hh + i) := by rw [fq.1.I (np _ _ (by decide) (by decide))]; exact he
      refine k_X1_gather_5 oo (fun _ => ?_) (fun c => absurd ((nI_leI (by omega) (by omega)).mpr (Nat.le_refl _)) c)
      refine k_X1_gather_67 oo ?_
      rw [nI_sub (by omega), Nat.add_sub_cancel]
      exact kk hi fq ch fs
    | succ m ih =>
      intro i hi last v5 hm fq ch fs la
      have np : ∀ g b, g ≠ 3716 → g ≠ 3715 → ¬ GP a xs g b := fun g b h1 h2 z => by
        rcases z with z | z
        · exact h1 z.1
        · exact h2 z.1
      obtain ⟨x, hxi⟩ : ∃ x, xs[i]? = some x := ⟨_, List.getElem?_eq_getElem (by omega)⟩
      obtain ⟨x1, x2⟩ := hx i x hxi
      have q1 := fq.1.tag t0
      have q2 := fq.1.tag ta
      have q3 : hi.R 28 A = some F := by rw [fq.1.R (np _ _ (by decide) (by decide))]; exact hf
      have q4 := fq.1.tag f1
      have q5 : hi.I 2565 F = nI (hh + n) := by rw [fq.1.I (np _ _ (by decide) (by decide))]; exact he
      have q6 : hi.R 2564 F = some (F + 2) := by rw [fq.1.R (np _ _ (by decide) (by decide))]; exact f3
      have q7 := fq.1.tag f5
      have q8 : hi.ER 747 (F + 2) (hh + i) = some x.1 := by rw [fq.1.ER (np _ _ (by decide) (by decide))]; exact x1
      have q9 := fq.1.tag x2
      have ix : IX ((nI (hh + n) - nI n) + nI i) 64 (hh + i) := by
        rw [nI_sub (by omega), Nat.add_sub_cancel, nI_add]; exact IX.mk (by omega) (by omega)
      have etk : xs.take (i + 1) = xs.take i ++ [x] := by rw [List.take_add_one, hxi]; rfl
      have fq1 : Fq (GP a xs) h (hi.sR 3716 x.1 none) := fq.sR (f := 3716) (a := x.1) (Or.inl ⟨rfl, x, List.mem_iff_getElem?.mpr ⟨i, hxi⟩, rfl⟩)
      have tk : ∀ (j : Nat) (y : LV), (xs.take i)[j]? = some y → j < i ∧ xs[j]? = some y := fun j y hj => by
        rw [List.getElem?_take] at hj
        split at hj
        · exact ⟨by assumption, hj⟩
        · cases hj
      refine k_X1_gather_5 oo (fun c => absurd ((nI_leI (by omega) (by omega)).mp c) (by omega)) (fun _ => ?_)
      refine k_X1_gather_11 (r10 := q5) (b14 := ix) (r16 := q8) oo (fun hl => ?_) (fun y hl => ?_)
      · -- the first one
        have e0 : xs.take i = [] := by
          rw [hl] at la
          cases h0 : (xs.take i).getLast? with
          | none => exact List.getLast?_eq_none_iff.mp h0
          | some u => rw [h0] at la; cases la
        have q2' : (hi.sR 3716 x.1 none).tag a = some (29, 0) := q2
        refine k_X1_gather_43 oo ?_
        have e1 : ((hi.sR 3716 x.1 none).sR 3715 a (some x.1)).R 3716 x.1 = none := by simp [n_sI, z_sI, tag_sI, I_sI, J_sI, R_sI, EI_sI, EJ_sI, ER_sI, n_sJ, z_sJ, tag_sJ, I_sJ, J_sJ, R_sJ, EI_sJ, EJ_sJ, ER_sJ, n_sR, z_sR, tag_sR, I_sR, J_sR, R_sR, EI_sR, EJ_sR, ER_sR, n_sEI, z_sEI, tag_sEI, I_sEI, J_sEI, R_sEI, EI_sEI, EJ_sEI, ER_sEI, n_sEJ, z_sEJ, tag_sEJ, I_sEJ, J_sEJ, R_sEJ, EI_sEJ, EJ_sEJ, ER_sEJ, n_sER, z_sER, tag_sER, I_sER, J_sER, R_sER, EI_sER, EJ_sER, ER_sER, n_nw, z_nw, tag_nw, I_nw, J_nw, R_nw, EI_nw, EJ_nw, ER_nw]
        have e2 : ((hi.sR 3716 x.1 none).sR 3715 a (some x.1)).R 3715 a = some x.1 := by simp [n_sI, z_sI, tag_sI, I_sI, J_sI, R_sI, EI_sI, EJ_sI, ER_sI, n_sJ, z_sJ, tag_sJ, I_sJ, J_sJ, R_sJ, EI_sJ, EJ_sJ, ER_sJ, n_sR, z_sR, tag_sR, I_sR, J_sR, R_sR, EI_sR, EJ_sR, ER_sR, n_sEI, z_sEI, tag_sEI, I_sEI, J_sEI, R_sEI, EI_sEI, EJ_sEI, ER_sEI, n_sEJ, z_sEJ, tag_sEJ, I_sEJ, J_sEJ, R_sEJ, EI_sEJ, EJ_sEJ, ER_sEJ, n_sER, z_sER, tag_sER, I_sER, J_sER, R_sER, EI_sER, EJ_sER, ER_sER, n_nw, z_nw, tag_nw, I_nw, J_nw, R_nw, EI_nw, EJ_nw, ER_nw]
        have fq2 : Fq (GP a xs) h ((hi.sR 3716 x.1 none).sR 3715 a (some x.1)) := fq1.sR (f := 3715) (a := a) (Or.inr ⟨rfl, rfl⟩)
        generalize (hi.sR 3716 x.1 none).sR 3715 a (some x.1) = h2 at *
        refine k_X1_gather_58 oo ?_
        rw [nI_add]
        refine ih (i + 1) h2 (some x.1) _ (by omega) fq2 ?_ ?_ ?_
        · rw [etk, e0]; exact ⟨e1, trivial⟩
        · rw [etk, e0, e2]; rfl
        · rw [etk, e0]; rfl
      · -- behind the last one
        rw [hl] at la
        obtain ⟨u, u1, u2⟩ := Option.map_eq_some_iff.mp la.symm
        have hu : ∃ j, j + 1 = i ∧ xs[j]? = some u := by
          have hlen : (xs.take i).length = i := by rw [List.length_take]; omega
          rw [List.getLast?_eq_getElem?, hlen] at u1
          obtain ⟨j1, j2⟩ := tk _ _ u1
          exact ⟨i - 1, by omega, j2⟩
        obtain ⟨j, j1, j2⟩ := hu
        have ux : u.1 ≠ x.1 := hd j i u x (by omega) j2 hxi
        have tu := fq.1.tag (hx j u j2).2
        rw [← u2]
        have tu' : (hi.sR 3716 x.1 none).tag u.1 = some (29, 0) := tu
        refine k_X1_gather_52 oo ?_
        have e1 : ((hi.sR 3716 x.1 none).sR 3716 u.1 (some x.1)).R 3716 x.1 = none := by simp [n_sI, z_sI, tag_sI, I_sI, J_sI, R_sI, EI_sI, EJ_sI, ER_sI, n_sJ, z_sJ, tag_sJ, I_sJ, J_sJ, R_sJ, EI_sJ, EJ_sJ, ER_sJ, n_sR, z_sR, tag_sR, I_sR, J_sR, R_sR, EI_sR, EJ_sR, ER_sR, n_sEI, z_sEI, tag_sEI, I_sEI, J_sEI, R_sEI, EI_sEI, EJ_sEI, ER_sEI, n_sEJ, z_sEJ, tag_sEJ, I_sEJ, J_sEJ, R_sEJ, EI_sEJ, EJ_sEJ, ER_sEJ, n_sER, z_sER, tag_sER, I_sER, J_sER, R_sER, EI_sER, EJ_sER, ER_sER, n_nw, z_nw, tag_nw, I_nw, J_nw, R_nw, EI_nw, EJ_nw, ER_nw, ux.symm]
        have e2 : ((hi.sR 3716 x.1 none).sR 3716 u.1 (some x.1)).R 3716 u.1 = some x.1 := by simp [n_sI, z_sI, tag_sI, I_sI, J_sI, R_sI, EI_sI, EJ_sI, ER_sI, n_sJ, z_sJ, tag_sJ, I_sJ, J_sJ, R_sJ, EI_sJ, EJ_sJ, ER_sJ, n_sR, z_sR, tag_sR, I_sR, J_sR, R_sR, EI_sR, EJ_sR, ER_sR, n_sEI, z_sEI, tag_sEI, I_sEI, J_sEI, R_sEI, EI_sEI, EJ_sEI, ER_sEI, n_sEJ, z_sEJ, tag_sEJ, I_sEJ, J_sEJ, R_sEJ, EI_sEJ, EJ_sEJ, ER_sEJ, n_sER, z_sER, tag_sER, I_sER, J_sER, R_sER, EI_sER, EJ_sER, ER_sER, n_nw, z_nw, tag_nw, I_nw, J_nw, R_nw, EI_nw, EJ_nw, ER_nw]
        have e3 : ∀ b, b ≠ x.1 → b ≠ u.1 → ((hi.sR 3716 x.1 none).sR 3716 u.1 (some x.1)).R 3716 b = hi.R 3716 b := fun b h1 h2 => by simp [n_sI, z_sI, tag_sI, I_sI, J_sI, R_sI, EI_sI, EJ_sI, ER_sI, n_sJ, z_sJ, tag_sJ, I_sJ, J_sJ, R_sJ, EI_sJ, EJ_sJ, ER_sJ, n_sR, z_sR, tag_sR, I_sR, J_sR, R_sR, EI_sR, EJ_sR, ER_sR, n_sEI, z_sEI, tag_sEI, I_sEI, J_sEI, R_sEI, EI_sEI, EJ_sEI, ER_sEI, n_sEJ, z_sEJ, tag_sEJ, I_sEJ, J_sEJ, R_sEJ, EI_sEJ, EJ_sEJ, ER_sEJ, n_sER, z_sER, tag_sER, I_sER, J_sER, R_sER, EI_sER, EJ_sER, ER_sER, n_nw, z_nw, tag_nw, I_nw, J_nw, R_nw, EI_nw, EJ_nw, ER_nw, h1, h2]
        have e4 : ((hi.sR 3716 x.1 none).sR 3716 u.1 (some x.1)).R 3715 a = hi.R 3715 a := by simp [n_sI, z_sI, tag_sI, I_sI, J_sI, R_sI, EI_sI, EJ_sI, ER_sI, n_sJ, z_sJ, tag_sJ, I_sJ, J_sJ, R_sJ, EI_sJ, EJ_sJ, ER_sJ, n_sR, z_sR, tag_sR, I_sR, J_sR, R_sR, EI_sR, EJ_sR, ER_sR, n_sEI, z_sEI, tag_sEI, I_sEI, J_sEI, R_sEI, EI_sEI, EJ_sEI, ER_sEI, n_sEJ, z_sEJ, tag_sEJ, I_sEJ, J_sEJ, R_sEJ, EI_sEJ, EJ_sEJ, ER_sEJ, n_sER, z_sER, tag_sER, I_sER, J_sER, R_sER, EI_sER, EJ_sER, ER_sER, n_nw, z_nw, tag_nw, I_nw, J_nw, R_nw, EI_nw, EJ_nw, ER_nw]
        have fq2 : Fq (GP a xs) h ((hi.sR 3716 x.1 none).sR 3716 u.1 (some x.1)) := fq1.sR (f := 3716) (a := u.1) (Or.inl ⟨rfl, u, List.mem_iff_getElem?.mpr ⟨j, j2⟩, rfl⟩)
        generalize (hi.sR 3716 x.1 none).sR 3716 u.1 (some x.1) = h2 at *
        refine k_X1_gather_58 oo ?_
        rw [nI_add]
        refine ih (i + 1) h2 (some x.1) _ (by omega) fq2 ?_ ?_ ?_
        · rw [etk]
          refine ch.snoc (fun y hy => ?_) (fun y hy => ?_) e1
          · obtain ⟨n', hn'⟩ := List.mem_iff_getElem?.mp hy
            rw [List.getElem?_dropLast] at hn'
            split at hn'
            · rename_i hlt
              obtain ⟨b1, b2⟩ := tk _ _ hn'
              rw [List.length_take] at hlt
              exact e3 y.1 (hd n' i y x (by omega) b2 hxi) (hd n' j y u (by omega) b2 j2)
            · cases hn'
          · rw [u1] at hy
            cases hy
            exact e2
        · rw [e4, fs, etk]
          cases h0 : xs.take i with
          | nil => rw [h0] at u1; cases u1
          | cons y r => rfl
        · rw [etk, List.getLast?_append]; rfl
  refine k_X1_gather_0 oo ?_
  exact key n 0 h none nov (by omega) (Fq.refl h) trivial (by rw [fa]; rfl) rfl
