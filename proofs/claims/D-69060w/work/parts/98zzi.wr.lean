/-! values: from one place to another, targets; what a reference leads to -/
theorem RF.fr6 {P : Nat → Nat → Prop} {h h' : AH} (q : Fr P h h') (hp : ∀ f a, 3712 ≤ f → f ≤ 3718 → f ≠ 3718 → ¬ P f a) : ∀ {g : LF} {p : Option Nat}, RF h g p → RF h' g p
  | .leaf, _, r => r
  | .inner k x _ c r, p, ⟨e1, e2, e3, e4, e5, e6, e7, e8⟩ => by
    refine ⟨e1, q.tag e2, ?_, ?_, ?_, ?_, ?_, ?_⟩
    · rw [q.I (hp _ _ (by omega) (by omega) (by decide))]; exact e3
    · rw [q.J (hp _ _ (by omega) (by omega) (by decide))]; exact e4
    · rw [q.J (hp _ _ (by omega) (by omega) (by decide))]; exact e5
    · rw [q.I (hp _ _ (by omega) (by omega) (by decide))]; exact e6
    · rw [q.R (hp _ _ (by omega) (by omega) (by decide))]; exact RF.fr6 q hp e7
    · rw [q.R (hp _ _ (by omega) (by omega) (by decide))]; exact RF.fr6 q hp e8
theorem RVL.fr6 {P : Nat → Nat → Prop} {h h' : AH} (q : Fr P h h') (hp : ∀ f a, 3712 ≤ f → f ≤ 3718 → f ≠ 3718 → ¬ P f a) {x : LV} (r : RVL h x) : RVL h' x := by
  obtain ⟨e2, e3, e4, e5, e6, e7⟩ := r
  refine ⟨q.tag e2, ?_, ?_, ?_, ?_, ?_⟩
  · rw [q.I (hp _ _ (by omega) (by omega) (by decide))]; exact e3
  · rw [q.J (hp _ _ (by omega) (by omega) (by decide))]; exact e4
  · rw [q.J (hp _ _ (by omega) (by omega) (by decide))]; exact e5
  · rw [q.I (hp _ _ (by omega) (by omega) (by decide))]; exact e6
  · rw [q.R (hp _ _ (by omega) (by omega) (by decide))]; exact RF.fr6 q hp e7
/-- values do not mind targets -/
theorem VH.oth6 {P : Nat → Nat → Prop} {G : Gt} {B q : Nat} {h h' : AH} {l : List Nat} {o : Lc} (v : VH G B h q l o) (f : Fq P h h') (hp : ∀ g a, VQ g a → g ≠ 3718 → ¬ P g a) : VH G B h' q l o := by
  obtain ⟨v1, v2, ⟨v3, v5⟩, v4⟩ := id v
  obtain ⟨p1, p2, p3, p4, p5⟩ := v1
  have nv : ∀ g a, 3712 ≤ g → g ≤ 3718 → g ≠ 3718 → ¬ P g a := fun g a h1 h2 => hp g a (Or.inl ⟨h1, h2⟩)
  refine ⟨⟨f.1.tag p1, ?_, p3, ?_, by rw [f.2.1]; exact p5⟩, v2, ⟨fun a ha => by rw [f.2.1]; exact v3 a ha, fun a h1 h2 => v5 a h1 (by rw [← f.2.1]; exact h2)⟩, fun p x hx => ?_⟩
  · rw [f.1.R (hp _ _ (Or.inr rfl) (by decide))]
    exact FL.fr f.1 p2 fun a _ => nv _ _ (by decide) (by decide) (by decide)
  · unfold RM at *
    rw [f.2.1, f.2.2]; exact p4
  · obtain ⟨g1, g2, g3⟩ := v4 p x hx
    exact ⟨g1.fr6 f.1 nv, g2, fun a ha => by rw [f.2.1]; exact g3 a ha⟩
theorem uO_u {o : Lc} {p : Sl} {x y : Option LV} : uO (uO o p x) p y = uO o p y := by
  funext q; unfold uO; split <;> rfl
theorem uO_c {o : Lc} {p r : Sl} {x y : Option LV} (h : p ≠ r) : uO (uO o p x) r y = uO (uO o r y) p x := by
  funext q; unfold uO
  by_cases c : q = r
  · rw [if_pos c, if_pos c, if_neg (fun e : q = p => h (e.symm.trans c))]
  · rw [if_neg c, if_neg c]
theorem uO_e {o : Lc} {p : Sl} {x : Option LV} (h : o p = x) : uO o p x = o := by
  funext q; unfold uO
  split
  · rename_i c; rw [c, h]
  · rfl
theorem VH.mov {G : Gt} {B q : Nat} {h : AH} {l : List Nat} {o : Lc} {p r : Sl} {x : LV} (v : VH G B h q l o) (hp : o p = some x) (hr : o r = none) : VH G B h q l (uO (uO o p none) r (some x)) := by
  obtain ⟨v1, v2, ⟨v3, v5⟩, v4⟩ := v
  refine ⟨v1, v2.mov hp, ⟨v3, fun a h1 h2 => ?_⟩, fun z y hz => ?_⟩
  · rcases v5 a h1 h2 with c | ⟨z, y, c1, c2⟩
    · exact Or.inl c
    · by_cases e : z = p
      · rw [e, hp] at c1
        cases c1
        exact Or.inr ⟨r, x, uO_s, c2⟩
      · exact Or.inr ⟨z, y, by rw [uO_n (fun e2 => by rw [e2, hr] at c1; cases c1), uO_n e]; exact c1, c2⟩
  · by_cases e : z = r
    · rw [e, uO_s] at hz
      cases hz
      exact v4 p x hp
    · rw [uO_n e] at hz
      by_cases e2 : z = p
      · rw [e2, uO_s] at hz; cases hz
      · rw [uO_n e2] at hz
        exact v4 z y hz
section
variable {h : AH} {o : Lc} {wi W A q BA X tt lim SP t : Nat} {snd : Int64} {MA : Ma} {s : Ms}
/-- a root's slot holds its value -/
theorem WkR.rt {z : LV} {r : Nat × Nat} {v : VL} (w : WkR h o wi W MA s) (hz : o (rsl' wi r) = some z) (hv : rtv s r = some v) : lvE z = v ∧ (∀ j, r.1 = j + 1 → j < s.1 ∧ r.2 < 40) ∧ (r.1 = 0 → r.2 < (ens s).length) := by
  obtain ⟨i, n⟩ := r
  cases i with
  | zero =>
    have hz : o (3, wi, n, 0) = some z := hz
    have hv : (match (ens s)[n]? with
      | some e => e.2.2.1.2.2.2
      | none => none) = some v := hv
    cases he : (ens s)[n]? with
    | none => rw [he] at hv; cases hv
    | some e =>
      rw [he] at hv
      have hv : e.2.2.1.2.2.2 = some v := hv
      have := (w.2.2.2.2.1 n e he).2.2.2.2
      rw [hv] at this
      obtain ⟨y, y1, y2, y3⟩ := this
      rw [hz] at y1
      cases y1
      exact ⟨y3, fun j hj => (by cases hj), fun _ => get_lt he⟩
  | succ j =>
    have hz : o (2, wi, j, n) = some z := hz
    have hv : (match (s.2.1 j).2.2.1 n with
      | some (.inl v) => some v
      | _ => none) = some v := hv
    have hj : j < s.1 := Nat.lt_of_not_le fun c => by
      rw [(w.2.2.1 j c n).2] at hz; cases hz
    obtain ⟨-, -, -, m8, m9⟩ := w.2.1 j hj
    have hn : n < 40 := Nat.lt_of_not_le fun c => by
      rw [m9 n c] at hz; cases hz
    have := m8 n hn
    cases hl : (s.2.1 j).2.2.1 n with
    | none => rw [hl] at hv; cases hv
    | some i =>
      rw [hl] at hv this
      cases i with
      | inr r => cases hv
      | inl v' =>
        cases hv
        obtain ⟨x, x1, x2, x3⟩ := this
        rw [hz] at x1
        cases x1
        exact ⟨x3, fun j' hj' => by cases hj'; exact ⟨hj, hn⟩, fun e => by cases e⟩
/-- what a reference leads to -/
theorem WkR.ref {x : LV} {r : Rx} {v : VL} (w : WkR h o wi W MA s) (hi : ItL h o wi (.inr r) x) (hv : drf s r = some v) : ∃ z y, o (rsl' wi r.1) = some z ∧ lva z r.2 = some y ∧ lvE y = v ∧ h.R 3718 x.1 = some y.1 ∧ rtv s r.1 = some (lvE z) := by
  obtain ⟨-, -, a, a1, a2⟩ := hi
  unfold rad at a1
  cases hz : o (rsl' wi r.1) with
  | none => rw [hz] at a1; cases a1
  | some z =>
    rw [hz] at a1
    have a1 : (lva z r.2).map (fun y => y.1) = some a := a1
    unfold drf at hv
    cases hr : rtv s r.1 with
    | none => rw [hr] at hv; cases hv
    | some v0 =>
      rw [hr] at hv
      have hv : vgt v0 r.2 = some v := hv
      obtain ⟨e1, -, -⟩ := w.rt hz hr
      rw [← e1] at hv
      obtain ⟨y, y1, y2⟩ := lva_s hv
      rw [y1] at a1
      cases a1
      exact ⟨z, y, rfl, y1, y2, a2, by rw [e1]⟩
/-- a value below a root becomes another one -/
theorem rad_w {z y y' : LV} {r : Rx} (hz : o (rsl' wi r.1) = some z) (hy : lva z r.2 = some y) (h1 : y'.1 = y.1) {q : Rx} (hq : blw r q = false) {a : Nat} (ha : rad o wi q = some a) (inj : rsl' wi q.1 = rsl' wi r.1 → q.1 = r.1) : rad (uO o (rsl' wi r.1) (some (lvw z r.2 y'))) wi q = some a := by
  by_cases e : rsl' wi q.1 = rsl' wi r.1
  · unfold rad at ha ⊢
    rw [e, uO_s]
    rw [e, hz] at ha
    have ha : (lva z q.2).map (fun y => y.1) = some a := ha
    cases hl : lva z q.2 with
    | none => rw [hl] at ha; cases ha
    | some u =>
      rw [hl] at ha
      cases ha
      have nb : ¬ (r.2 <+: q.2 ∧ r.2 ≠ q.2) := fun c => by
        unfold blw at hq
        rw [inj e] at hq
        have h2 : r.2.isPrefixOf q.2 = true := List.isPrefixOf_iff_prefix.mpr c.1
        rw [h2] at hq
        have h3 : (r.2 != q.2) = true := by simpa using c.2
        rw [h3] at hq
        simp at hq
      obtain ⟨z', z1, z2⟩ := lva_n hy h1 nb hl
      show (lva (lvw z r.2 y') q.2).map (fun y => y.1) = some u.1
      rw [z1]
      show some z'.1 = some u.1
      rw [z2]
  · rw [rad_u e]; exact ha
theorem rsl_i {r q : Nat × Nat} (h : rsl' wi q = rsl' wi r) : q = r := by
  obtain ⟨a, b⟩ := q
  obtain ⟨c, d⟩ := r
  cases a with
  | zero =>
    cases c with
    | zero => cases h; rfl
    | succ c => exact absurd (congrArg (fun p : Sl => p.1) h) (by show (3 : Nat) ≠ 2; omega)
  | succ a =>
    cases c with
    | zero => exact absurd (congrArg (fun p : Sl => p.1) h) (by show (2 : Nat) ≠ 3; omega)
    | succ c => cases h; rfl
theorem WkR.wr0 {h' : AH} {z y y' : LV} {r : Rx} (w : WkR h o wi W MA s) (hz : o (rsl' wi r.1) = some z) (hy : lva z r.2 = some y) (h1 : y'.1 = y.1) (hv : rtv s r.1 = some (lvE z)) (hrr : ∀ j, j < s.1 → ∀ q ∈ rfF (s.2.1 j), ∀ a, rad o wi q = some a → rad (uO o (rsl' wi r.1) (some (lvw z r.2 y'))) wi q = some a) (f1 : Fr VQ h h') (tg : TG o [] h h') : WkR h' (uO o (rsl' wi r.1) (some (lvw z r.2 y'))) wi W MA (wrf s r (lvE y')) := by
  have w1 := w.vq f1 tg
  obtain ⟨-, b1, b2⟩ := w.rt hz hv
  have ez : (lvw z r.2 y').1 = z.1 := lvs_1 hy h1
  have ev : wrf s r (lvE y') = rst s r.1 (lvE (lvw z r.2 y')) := by
    unfold wrf
    rw [hv, lvs_e]
  rw [ev]
  generalize hx' : lvw z r.2 y' = z' at *
  obtain ⟨⟨i, n⟩, p⟩ := r
  obtain ⟨u1, u2, u3, u4⟩ := w1
  have s1 : ∀ c j k, c = 1 → uO o (rsl' wi (i, n)) (some z') (c, wi, j, k) = o (c, wi, j, k) := fun c j k hc => uO_n fun e => by
    subst hc; exact rsl_1 e.symm
  cases i with
  | zero =>
    have hz : o (3, wi, n, 0) = some z := hz
    have hn' : n < (ens s).length := b2 rfl
    obtain ⟨en, he⟩ : ∃ en, (ens s)[n]? = some en := ⟨_, List.getElem?_eq_getElem hn'⟩
    have hv : (match (ens s)[n]? with
      | some e => e.2.2.1.2.2.2
      | none => none) = some (lvE z) := hv
    rw [he] at hv
    have hv2 : en.2.2.1.2.2.2 = some (lvE z) := hv
    show WkR h' (uO o (3, wi, n, 0) (some z')) wi W MA (match (ens s)[n]? with
      | some e => sE s ((ens s).set n (e.1, e.2.1, (e.2.2.1.1, e.2.2.1.2.1, e.2.2.1.2.2.1, some (lvE z')), e.2.2.2))
      | none => s)
    rw [he]
    refine ⟨u1, fun j hj => (u2 j hj).keep (Fr.refl h') (P := fun _ _ => False) (fun _ _ _ _ _ z => z) (fun c k hc => uO_n (by rcases hc with e | e <;> (subst e; intro e; cases e))) (fun _ _ _ _ _ => rfl) (fun q hq a ha => hrr j hj q hq a ha), fun j hj k => ?_, ⟨by show _ = nI ((ens s).set n _).length; rw [List.length_set]; exact u4.1.1, by show ((ens s).set n _).length ≤ 26; rw [List.length_set]; exact u4.1.2⟩, fun e x hx => ?_, fun e b he' => ?_⟩
    · rw [uO_n (by intro e; cases e), uO_n (by intro e; cases e)]
      exact u3 j hj k
    · have hx : ((ens s).set n (en.1, en.2.1, (en.2.2.1.1, en.2.2.1.2.1, en.2.2.1.2.2.1, some (lvE z')), en.2.2.2))[e]? = some x := hx
      by_cases c : e = n
      · subst c
        rw [List.getElem?_set_self hn'] at hx
        cases hx
        obtain ⟨a1, a2, a3, a4, a5⟩ := u4.2.1 e en he
        refine ⟨a1, a2, a3, a4, ?_⟩
        rw [hv2] at a5
        obtain ⟨y0, y1, y2, y3⟩ := a5
        rw [hz] at y1
        cases y1
        exact ⟨z', uO_s, by rw [ez]; exact y2, rfl⟩
      · rw [List.getElem?_set_ne (fun z => c z.symm)] at hx
        obtain ⟨a1, a2, a3, a4, a5⟩ := u4.2.1 e x hx
        refine ⟨a1, a2, a3, a4, ?_⟩
        rw [uO_n (fun z => c (congrArg (fun p : Sl => p.2.2.1) z))]
        exact a5
    · have he' : ((ens s).set n _).length ≤ e ∨ b ≠ 0 := he'
      rw [List.length_set] at he'
      rw [uO_n (fun z => by
        have z1 : e = n := congrArg (fun p : Sl => p.2.2.1) z
        have z2 : b = 0 := congrArg (fun p : Sl => p.2.2.2) z
        omega)]
      exact u4.2.2 e b he'
  | succ j0 =>
    have hz : o (2, wi, j0, n) = some z := hz
    obtain ⟨hj0, hn40⟩ : j0 < s.1 ∧ n < 40 := b1 j0 rfl
    have hv : (match (s.2.1 j0).2.2.1 n with
      | some (.inl v) => some v
      | _ => none) = some (lvE z) := hv
    show WkR h' (uO o (2, wi, j0, n) (some z')) wi W MA (s.1, uF s.2.1 j0 ((s.2.1 j0).1, (s.2.1 j0).2.1, uLc (s.2.1 j0).2.2.1 n (some (.inl (lvE z'))), (s.2.1 j0).2.2.2), s.2.2)
    refine ⟨u1, fun j hj => ?_, fun j hj k => ?_, u4.keep (Fr.refl h') (P := fun _ _ => False) (fun _ _ _ _ _ z => z) (fun e _ => uO_n (by intro e; cases e))⟩
    · have hj : j < s.1 := hj
      have rr := hrr j hj
      show FmR h' _ wi j (Fa W j) MA (uF s.2.1 j0 _ j)
      unfold uF
      by_cases c : j = j0
      · subst c
        rw [if_pos rfl]
        obtain ⟨m1, m2, m3, m4, m5⟩ := u2 j hj
        refine ⟨m1, m2.keep (fun i _ => uO_n (by intro e; cases e)) (fun _ _ => rfl) (fun _ _ _ _ => rfl) (fun q hq => rr q (List.mem_append_left _ hq)), fun i hi => by rw [uO_n (by intro e; cases e)]; exact m3 i hi, fun k hk => ?_, fun i hi => by rw [uO_n (fun e => by have : i = n := congrArg (fun p : Sl => p.2.2.2) e; omega)]; exact m5 i hi⟩
        have m4k := m4 k hk
        by_cases e : k = n
        · subst e
          show match uLc (s.2.1 j).2.2.1 k (some (.inl (lvE z'))) k with
            | some i => ∃ x, uO o (2, wi, j, k) (some z') (2, wi, j, k) = some x ∧ h'.ER 731 (Fa W j + 1) k = some x.1 ∧ ItL h' (uO o (2, wi, j, k) (some z')) wi i x
            | none => _
          rw [show uLc (s.2.1 j).2.2.1 k (some (.inl (lvE z'))) k = some (.inl (lvE z')) from if_pos rfl]
          refine ⟨z', uO_s, ?_, rfl⟩
          rw [ez]
          cases hl : (s.2.1 j).2.2.1 k with
          | none => rw [hl] at hv; cases hv
          | some i =>
            rw [hl] at m4k
            obtain ⟨x, x1, x2, x3⟩ := m4k
            rw [hz] at x1
            cases x1
            exact x2
        · show match uLc (s.2.1 j).2.2.1 n (some (.inl (lvE z'))) k with
            | some i => ∃ x, uO o (2, wi, j, n) (some z') (2, wi, j, k) = some x ∧ h'.ER 731 (Fa W j + 1) k = some x.1 ∧ ItL h' (uO o (2, wi, j, n) (some z')) wi i x
            | none => (uO o (2, wi, j, n) (some z') (2, wi, j, k) = none ∧ h'.ER 731 (Fa W j + 1) k = none) ∨ ∃ x, uO o (2, wi, j, n) (some z') (2, wi, j, k) = some x ∧ h'.ER 731 (Fa W j + 1) k = some x.1 ∧ x.2.1 = 8 ∧ x.2.2.2 = .leaf
          rw [show uLc (s.2.1 j).2.2.1 n (some (.inl (lvE z'))) k = (s.2.1 j).2.2.1 k from if_neg e, uO_n (fun z => e (congrArg (fun p : Sl => p.2.2.2) z))]
          cases hl : (s.2.1 j).2.2.1 k with
          | none => rw [hl] at m4k; exact m4k
          | some i =>
            rw [hl] at m4k
            obtain ⟨x, x1, x2, x3⟩ := m4k
            exact ⟨x, x1, x2, x3.keep rfl fun q hq a ha => rr q (rfF_i.mpr (Or.inr ⟨k, hk, by rw [hl, hq]⟩)) a ha⟩
      · rw [if_neg c]
        refine (u2 j hj).keep (Fr.refl h') (P := fun _ _ => False) (fun _ _ _ _ _ z => z) (fun cc k hc => uO_n ?_) (fun _ _ _ _ _ => rfl) (fun q hq a ha => rr q hq a ha)
        intro e
        exact c (congrArg (fun p : Sl => p.2.2.1) e)
    · have hj : s.1 ≤ j := hj
      rw [uO_n (by intro e; cases e), uO_n (fun e => by have : j = j0 := congrArg (fun p : Sl => p.2.2.1) e; omega)]
      exact u3 j hj k
theorem WkR.wr {h' : AH} {z y y' : LV} {r : Rx} (w : WkR h o wi W MA s) (hz : o (rsl' wi r.1) = some z) (hy : lva z r.2 = some y) (h1 : y'.1 = y.1) (hv : rtv s r.1 = some (lvE z)) (hn : nlw s r = true) (f1 : Fr VQ h h') (tg : TG o [] h h') : WkR h' (uO o (rsl' wi r.1) (some (lvw z r.2 y'))) wi W MA (wrf s r (lvE y')) := by
  refine w.wr0 hz hy h1 hv (fun j hj q hq a ha => ?_) f1 tg
  refine rad_w hz hy h1 ?_ ha rsl_i
  unfold nlw at hn
  rw [List.all_eq_true] at hn
  have := hn q (by
    unfold rfs
    rw [List.mem_flatMap]
    exact ⟨j, List.mem_range.mpr hj, hq⟩)
  simpa using this
theorem lva_add {z y w : LV} {p : List Nat} (hy : lva z p = some y) : ∀ {qq : List Nat} {u : LV}, lva z qq = some u → ∃ u', lva (lvw z p (y.1, y.2.1, y.2.2.1, lof (llo y.2.2.2 ++ [w]))) qq = some u' ∧ u'.1 = u.1 := fun {qq u} hu => by
  by_cases c : p <+: qq ∧ p ≠ qq
  · obtain ⟨⟨r, e⟩, ne⟩ := c
    subst e
    cases r with
    | nil => exact absurd (List.append_nil p).symm ne
    | cons i r =>
      rw [lva_ap (w := z) hy] at hu
      refine ⟨u, ?_, rfl⟩
      rw [lva_ap (w := z) (lva_w hy)]
      have hu : (match (llo y.2.2.2)[i]? with
        | some w => lva w r
        | none => none) = some u := hu
      show (match (llo (lof (llo y.2.2.2 ++ [w])))[i]? with
        | some w => lva w r
        | none => none) = some u
      rw [llo_lof]
      cases hi : (llo y.2.2.2)[i]? with
      | none => rw [hi] at hu; cases hu
      | some a =>
        rw [hi] at hu
        rw [List.getElem?_append_left (get_lt hi), hi]; exact hu
  · exact lva_n hy rfl c hu
theorem rad_a {z y w : LV} {r : Rx} (hz : o (rsl' wi r.1) = some z) (hy : lva z r.2 = some y) {q : Rx} {a : Nat} (ha : rad o wi q = some a) : rad (uO o (rsl' wi r.1) (some (lvw z r.2 (y.1, y.2.1, y.2.2.1, lof (llo y.2.2.2 ++ [w]))))) wi q = some a := by
  by_cases e : rsl' wi q.1 = rsl' wi r.1
  · unfold rad at ha ⊢
    rw [e, uO_s]
    rw [e, hz] at ha
    have ha : (lva z q.2).map (fun y => y.1) = some a := ha
    cases hl : lva z q.2 with
    | none => rw [hl] at ha; cases ha
    | some u =>
      rw [hl] at ha
      cases ha
      obtain ⟨z', z1, z2⟩ := lva_add (w := w) hy hl
      show (lva (lvw z r.2 _) q.2).map (fun y => y.1) = some u.1
      rw [z1]
      show some z'.1 = some u.1
      rw [z2]
  · rw [rad_u e]; exact ha
end
