/-! the component's values: parts that come and go -/
theorem PL.fr {G : Gt} {q : Nat} {h h' : AH} {l O : List Nat} (p : PL G h q l) (f1 : Fr (VP O h.n) h h') (hn : h'.n = h.n) (hz : h'.z = h.z) (hf : h'.R 1280 = h.R 1280) (hl : ∀ a ∈ l, a ∉ O ∧ a < h.n) : PL G h' q l := by
  obtain ⟨p1, p2, p3, p4, p5⟩ := p
  refine ⟨f1.tag p1, ?_, p3, ?_, by rw [hn]; exact p5⟩
  · rw [hf]
    exact FL.fr f1 p2 fun a ha => VP.no (by decide) (by decide) (hl a ha).1 (hl a ha).2
  · unfold RM at *
    rw [hn, hz]; exact p4
section
variable {G : Gt} {B d q : Nat} {h : AH} {l : List Nat} {o : Lc} {K : Outcome → AH → Prop}
theorem adr_1 (x : LV) : x.1 ∈ adr x := by show x.1 ∈ x.1 :: _; simp
theorem adr_2 {x : LV} {a : Nat} (h : a ∈ fad x.2.2.2) : a ∈ adr x := List.mem_cons_of_mem _ h
/-- x's own address is none of a part's, but where the part is all -/
theorem own_1 {x y : LV} {pa : List Nat} (hy : lva x pa = some y) (hx : (adr x).Nodup) (h : x.1 ∈ adr y) : y.1 = x.1 := by
  cases pa with
  | nil => cases hy; rfl
  | cons i pa =>
    exfalso
    have hy : (match (llo x.2.2.2)[i]? with | some w => lva w pa | none => none) = some y := hy
    cases hb : (llo x.2.2.2)[i]? with
    | none => rw [hb] at hy; cases hy
    | some b =>
      rw [hb] at hy
      have : x.1 ∈ fad x.2.2.2 := by rw [fad_llo]; exact List.mem_flatMap.mpr ⟨b, List.mem_of_getElem? hb, adr_in hy _ h⟩
      exact (List.nodup_cons.mp (show (x.1 :: fad x.2.2.2).Nodup from hx)).1 this
theorem ndp {x y : LV} {pa : List Nat} (hy : lva x pa = some y) (hx : (adr x).Nodup) : (adr y).Nodup := by
  obtain ⟨a, b, e1, -⟩ := adr_s (w := y) hy
  rw [e1] at hx
  exact (List.nodup_append.mp (List.nodup_append.mp hx).2.1).1
/-- a part changes, nothing else does: of the same addresses -/
theorem VH.same {h' : AH} {p : Sl} {x y w : LV} {pa : List Nat} {O : List Nat} (v : VH G B h q l o) (hp : o p = some x) (hy : lva x pa = some y) (hw : w.1 = y.1) (f1 : Fr (VP O h.n) h h') (hn : h'.n = h.n) (hz : h'.z = h.z) (hf : h'.R 1280 = h.R 1280) (hO : ∀ a ∈ O, a ∈ adr y) (hnw : (adr w).Nodup) (haw : ∀ a ∈ adr w, a ∈ adr y) (hya : ∀ a ∈ adr y, a ∈ adr w) (hr : RVL h' w) (hx : h'.R 3716 y.1 = h.R 3716 y.1) (ht : h'.R 3718 y.1 = h.R 3718 y.1) : VH G B h' q l (uO o p (some (lvw x pa w))) ∧ TG o [] h h' := by
  obtain ⟨v1, v2, ⟨v3, v5⟩, v4⟩ := id v
  obtain ⟨g1, g2, g3⟩ := v4 p x hp
  have yin := adr_in hy
  have ndx := v2.1 p x hp
  obtain ⟨s1, s2⟩ := adr_nd (w := w) hy ndx hnw fun a ha => Or.inl (haw a ha)
  have sx : ∀ a ∈ adr (lvw x pa w), a ∈ adr x := fun a ha => by
    rcases (s2 a).mp ha with z | z
    · exact z.1
    · exact yin a (haw a z)
  have hrl : RVL h' (lvw x pa w) := RVL.set f1 g1 hy hw hr hx ndx fun f a ha hay h1 h2 => VP.no h1 h2 (fun z => hay (hO a z)) (g3 a ha)
  have cv : CV B h' l (uO o p (some (lvw x pa w))) := fun z hz1 hz2 => by
    rw [hn] at hz2
    rcases v5 z hz1 hz2 with q1 | ⟨u, c, q1, q2⟩
    · exact Or.inl q1
    · by_cases e : u = p
      · rw [e, hp] at q1
        cases q1
        by_cases ey : z ∈ adr y
        · exact Or.inr ⟨p, _, uO_s, (s2 z).mpr (Or.inr (hya z ey))⟩
        · exact Or.inr ⟨p, _, uO_s, (s2 z).mpr (Or.inl ⟨q2, ey⟩)⟩
      · exact Or.inr ⟨u, c, by rw [uO_n e]; exact q1, q2⟩
  refine ⟨v.chg f1 (v1.fr f1 hn hz hf fun a ha => ⟨fun z => g2 a (yin a (hO a z)) ha, v3 a ha⟩) (fun a ha => by rw [hn]; exact v3 a ha) cv (v2.put s1 fun u c hu hc a ha ha2 => v2.2 u p c x hu hc hp a ha2 (sx a ha)) fun u c hc => ?_, fun u c _ hc => ?_⟩
  · by_cases e : u = p
    · rw [e, uO_s] at hc
      cases hc
      exact Or.inr ⟨hrl, fun a ha => g2 a (sx a ha), fun a ha => by rw [hn]; exact g3 a (sx a ha)⟩
    · rw [uO_n e] at hc
      exact Or.inl ⟨hc, fun a ha ha2 => v2.2 u p c x e hc hp a ha (yin a (hO a ha2)), (v4 u c hc).2.1⟩
  · by_cases e : u = p
    · subst e
      rw [hp] at hc
      cases hc
      by_cases ey : x.1 ∈ adr y
      · rw [← own_1 hy ndx ey]; exact ht
      · exact f1.R (VP.no (by decide) (by decide) (fun z => ey (hO _ z)) (g3 x.1 (adr_1 x)))
    · exact f1.R (VP.no (by decide) (by decide) (fun z => v2.2 u p c x e hc hp c.1 (adr_1 c) (yin _ (hO _ z))) ((v4 u c hc).2.2 c.1 (adr_1 c)))
theorem llo_1 (k a : Nat) (x : Int64 × Int64) (c : LF) : llo (.inner k (a, x) () c .leaf) = [(a, k, x, c)] := rfl
/-- a value comes behind the parts of another one -/
theorem vadd_ok {p r : Sl} {x y w : LV} {pa : List Nat} (v : VH G B h q l o) (hp : o p = some x) (hy : lva x pa = some y) (hr : o r = some w) (hpr : p ≠ r) (hb : fln y.2.2.2 < 2147483647) (hd : 2 ≤ d) (kk : ∀ h', Fr VQ h h' → h'.n = h.n → VH G B h' q l (uO (uO o r none) p (some (lvw x pa (y.1, y.2.1, y.2.2.1, lof (llo y.2.2.2 ++ [w]))))) → TG o [r] h h' → K (.returned none) h') : MW G d e_X30_add [.ref y.1, .ref w.1] h K := by
  obtain ⟨v1, v2, ⟨v3, v5⟩, v4⟩ := id v
  obtain ⟨g1, g2, g3⟩ := v4 p x hp
  obtain ⟨k1, k2, k3⟩ := v4 r w hr
  have yin := adr_in hy
  have ndx := v2.1 p x hp
  have ndw := v2.1 r w hr
  have ndy := ndp hy ndx
  have dxw := v2.2 p r x w hpr hp hr
  have hnd : (y.1 :: (fad y.2.2.2 ++ w.1 :: fad w.2.2.2)).Nodup := by
    rw [← List.cons_append]
    exact List.nodup_append.mpr ⟨ndy, ndw, fun a ha b hb e => dxw a (yin a ha) (e ▸ hb)⟩
  refine add_ok2 (g1.sub hy) k1 hnd hb hd fun h' f1 n1 z1 fr1 r1 x1 t1 => ?_
  have ef : fap y.2.2.2 (.inner w.2.1 (w.1, w.2.2.1) () w.2.2.2 .leaf) = lof (llo y.2.2.2 ++ [w]) := by
    rw [lof_ap, lof_llo]; rfl
  rw [ef] at r1
  have aw : ∀ a, a ∈ adr (y.1, y.2.1, y.2.2.1, lof (llo y.2.2.2 ++ [w])) ↔ a ∈ adr y ∨ a ∈ adr w := fun a => by
    show a ∈ y.1 :: fad (lof (llo y.2.2.2 ++ [w])) ↔ a ∈ y.1 :: fad y.2.2.2 ∨ _
    rw [fad_lof, List.flatMap_append, ← fad_llo, ← List.cons_append, List.mem_append]
    simp
  have nw : (adr (y.1, y.2.1, y.2.2.1, lof (llo y.2.2.2 ++ [w]))).Nodup := by
    show (y.1 :: fad (lof (llo y.2.2.2 ++ [w]))).Nodup
    rw [fad_lof, List.flatMap_append, ← fad_llo]
    simpa [adr] using hnd
  obtain ⟨s1, s2⟩ := adr_nd (w := (y.1, y.2.1, y.2.2.1, lof (llo y.2.2.2 ++ [w]))) hy ndx nw fun a ha => by
    rcases (aw a).mp ha with z | z
    · exact Or.inl z
    · exact Or.inr fun z2 => dxw a z2 z
  have sx : ∀ a ∈ adr (lvw x pa (y.1, y.2.1, y.2.2.1, lof (llo y.2.2.2 ++ [w]))), a ∈ adr x ∨ a ∈ adr w := fun a ha => by
    rcases (s2 a).mp ha with z | z
    · exact Or.inl z.1
    · rcases (aw a).mp z with z | z
      · exact Or.inl (yin a z)
      · exact Or.inr z
  have hO : ∀ a ∈ y.1 :: (fad y.2.2.2 ++ [w.1]), a ∈ adr y ∨ a = w.1 := fun a ha => by
    rw [← List.cons_append, List.mem_append] at ha
    rcases ha with z | z
    · exact Or.inl z
    · exact Or.inr (by simpa using z)
  have hrl : RVL h' (lvw x pa (y.1, y.2.1, y.2.2.1, lof (llo y.2.2.2 ++ [w]))) := RVL.set f1 g1 hy rfl r1 x1 ndx fun f a ha hay h1 h2 => VP.no h1 h2 (fun z => by
    rcases hO a z with z | z
    · exact hay z
    · exact dxw a ha (z ▸ adr_1 w)) (g3 a ha)
  have cv : CV B h' l (uO (uO o r none) p (some (lvw x pa (y.1, y.2.1, y.2.2.1, lof (llo y.2.2.2 ++ [w]))))) := fun z hz1 hz2 => by
    rw [n1] at hz2
    rcases v5 z hz1 hz2 with q1 | ⟨u, c, q1, q2⟩
    · exact Or.inl q1
    · by_cases e : u = p
      · rw [e, hp] at q1
        cases q1
        by_cases ey : z ∈ adr y
        · exact Or.inr ⟨p, _, uO_s, (s2 z).mpr (Or.inr ((aw z).mpr (Or.inl ey)))⟩
        · exact Or.inr ⟨p, _, uO_s, (s2 z).mpr (Or.inl ⟨q2, ey⟩)⟩
      · by_cases e2 : u = r
        · rw [e2, hr] at q1
          cases q1
          exact Or.inr ⟨p, _, uO_s, (s2 z).mpr (Or.inr ((aw z).mpr (Or.inr q2)))⟩
        · exact Or.inr ⟨u, c, by rw [uO_n e, uO_n e2]; exact q1, q2⟩
  refine kk h' (f1.mono VP.q) n1 (v.chg f1 (v1.fr f1 n1 z1 fr1 fun a ha => ⟨fun z => ?_, v3 a ha⟩) (fun a ha => by rw [n1]; exact v3 a ha) cv ((v2.del r).put s1 fun u c hu hc a ha ha2 => ?_) fun u c hc => ?_) fun u c hu hc => ?_
  · rcases hO a z with z | z
    · exact g2 a (yin a z) ha
    · exact k2 w.1 (adr_1 w) (z ▸ ha)
  · by_cases e : u = r
    · rw [e, uO_s] at hc; cases hc
    · rw [uO_n e] at hc
      rcases sx a ha with z | z
      · exact v2.2 u p c x hu hc hp a ha2 z
      · exact v2.2 u r c w e hc hr a ha2 z
  · by_cases e : u = p
    · rw [e, uO_s] at hc
      cases hc
      refine Or.inr ⟨hrl, fun a ha => ?_, fun a ha => ?_⟩
      · rcases sx a ha with z | z
        · exact g2 a z
        · exact k2 a z
      · rw [n1]
        rcases sx a ha with z | z
        · exact g3 a z
        · exact k3 a z
    · rw [uO_n e] at hc
      by_cases e2 : u = r
      · rw [e2, uO_s] at hc; cases hc
      · rw [uO_n e2] at hc
        refine Or.inl ⟨hc, fun a ha ha2 => ?_, (v4 u c hc).2.1⟩
        rcases hO a ha2 with z | z
        · exact v2.2 u p c x e hc hp a ha (yin a z)
        · exact v2.2 u r c w e2 hc hr a ha (z ▸ adr_1 w)
  · have hu : u ≠ r := by simpa using hu
    by_cases e : u = p
    · subst e
      rw [hp] at hc
      cases hc
      by_cases ey : x.1 ∈ adr y
      · rw [← own_1 hy ndx ey]; exact t1
      · refine f1.R (VP.no (by decide) (by decide) (fun z => ?_) (g3 x.1 (adr_1 x)))
        rcases hO _ z with z | z
        · exact ey z
        · exact dxw x.1 (adr_1 x) (z ▸ adr_1 w)
    · refine f1.R (VP.no (by decide) (by decide) (fun z => ?_) ((v4 u c hc).2.2 c.1 (adr_1 c)))
      rcases hO _ z with z | z
      · exact v2.2 u p c x e hc hp c.1 (adr_1 c) (yin _ z)
      · exact v2.2 u r c w hu hc hr c.1 (adr_1 c) (z ▸ adr_1 w)
/-- the last part of a value goes -/
theorem vrml_ok {p r : Sl} {x y w : LV} {pa : List Nat} {c0 : List LV} (v : VH G B h q l o) (hp : o p = some x) (hy : lva x pa = some y) (hc : llo y.2.2.2 = c0 ++ [w]) (hr : o r = none) (hb : c0.length < 2147483647) (hd : 2 ≤ d) (kk : ∀ h', Fr VQ h h' → h'.n = h.n → VH G B h' q l (uO (uO o p (some (lvw x pa (y.1, y.2.1, y.2.2.1, lof c0)))) r (some w)) → TG o [] h h' → K (.returned (some (.ref w.1))) h') : MW G d e_X30_removeLast [.ref y.1] h K := by
  obtain ⟨v1, v2, ⟨v3, v5⟩, v4⟩ := id v
  obtain ⟨g1, g2, g3⟩ := v4 p x hp
  have yin := adr_in hy
  have ndx := v2.1 p x hp
  have ndy := ndp hy ndx
  have hpr : r ≠ p := fun e => by rw [e, hp] at hr; cases hr
  have ef : y.2.2.2 = fap (lof c0) (.inner w.2.1 (w.1, w.2.2.1) () w.2.2.2 .leaf) := by
    rw [← lof_llo y.2.2.2, hc, lof_ap]; rfl
  have ea : fad y.2.2.2 = fad (lof c0) ++ adr w := by
    rw [fad_llo, hc, List.flatMap_append, fad_lof]; simp
  have hnd : (y.1 :: (fad (lof c0) ++ w.1 :: fad w.2.2.2)).Nodup := by
    have : (y.1 :: fad y.2.2.2).Nodup := ndy
    rw [ea] at this; exact this
  have ry := g1.sub hy
  have ry : RV h y.1 y.2.1 y.2.2.1 y.2.2.2 := ry
  rw [ef] at ry
  have hbl : fln (lof c0) < 2147483647 := by rw [← llo_len, llo_lof]; exact hb
  refine removeLast_ok2 ry hnd hbl hd fun h' f1 n1 z1 fr1 r1 r2 x1 t1 => ?_
  rw [← List.cons_append] at hnd
  have hap := List.nodup_append.mp hnd
  have yy : ∀ a, a ∈ adr y ↔ a ∈ y.1 :: fad (lof c0) ∨ a ∈ adr w := fun a => by
    show a ∈ y.1 :: fad y.2.2.2 ↔ _
    rw [ea, ← List.cons_append, List.mem_append]
  obtain ⟨s1, s2⟩ := adr_nd (w := (y.1, y.2.1, y.2.2.1, lof c0)) hy ndx hap.1 fun a ha => Or.inl ((yy a).mpr (Or.inl ha))
  have sx : ∀ a ∈ adr (lvw x pa (y.1, y.2.1, y.2.2.1, lof c0)), a ∈ adr x ∧ a ∉ adr w := fun a ha => by
    rcases (s2 a).mp ha with z | z
    · exact ⟨z.1, fun z2 => z.2 ((yy a).mpr (Or.inr z2))⟩
    · exact ⟨yin a ((yy a).mpr (Or.inl z)), fun z2 => hap.2.2 a z a z2 rfl⟩
  have wx : ∀ a ∈ adr w, a ∈ adr x := fun a ha => yin a ((yy a).mpr (Or.inr ha))
  have hO : ∀ a ∈ y.1 :: fad (lof c0), a ∈ adr y := fun a ha => (yy a).mpr (Or.inl ha)
  have hrl : RVL h' (lvw x pa (y.1, y.2.1, y.2.2.1, lof c0)) := RVL.set f1 g1 hy rfl r1 x1 ndx fun f a ha hay h1 h2 => VP.no h1 h2 (fun z => hay (hO a z)) (g3 a ha)
  have cv : CV B h' l (uO (uO o p (some (lvw x pa (y.1, y.2.1, y.2.2.1, lof c0)))) r (some w)) := fun z hz1 hz2 => by
    rw [n1] at hz2
    rcases v5 z hz1 hz2 with q1 | ⟨u, c, q1, q2⟩
    · exact Or.inl q1
    · have e2 : u ≠ r := fun e => by rw [e, hr] at q1; cases q1
      by_cases e : u = p
      · rw [e, hp] at q1
        cases q1
        by_cases ew : z ∈ adr w
        · exact Or.inr ⟨r, w, uO_s, ew⟩
        · refine Or.inr ⟨p, _, by rw [uO_n (fun e => hpr e.symm)]; exact uO_s, (s2 z).mpr ?_⟩
          by_cases ey : z ∈ adr y
          · rcases (yy z).mp ey with q3 | q3
            · exact Or.inr q3
            · exact absurd q3 ew
          · exact Or.inl ⟨q2, ey⟩
      · exact Or.inr ⟨u, c, by rw [uO_n e2, uO_n e]; exact q1, q2⟩
  refine kk h' (f1.mono VP.q) n1 (v.chg f1 (v1.fr f1 n1 z1 fr1 fun a ha => ⟨fun z => g2 a (yin a (hO a z)) ha, v3 a ha⟩) (fun a ha => by rw [n1]; exact v3 a ha) cv ((v2.put s1 fun u c hu hc a ha ha2 => v2.2 u p c x hu hc hp a ha2 (sx a ha).1).put hap.2.1 fun u c hu hc' a ha ha2 => ?_) fun u c hc' => ?_) fun u c _ hc' => ?_
  · by_cases e : u = p
    · rw [e, uO_s] at hc'
      cases hc'
      exact (sx a ha2).2 ha
    · rw [uO_n e] at hc'
      exact v2.2 u p c x e hc' hp a ha2 (wx a ha)
  · by_cases e2 : u = r
    · rw [e2, uO_s] at hc'
      cases hc'
      exact Or.inr ⟨r2, fun a ha => g2 a (wx a ha), fun a ha => by rw [n1]; exact g3 a (wx a ha)⟩
    · rw [uO_n e2] at hc'
      by_cases e : u = p
      · rw [e, uO_s] at hc'
        cases hc'
        exact Or.inr ⟨hrl, fun a ha => g2 a (sx a ha).1, fun a ha => by rw [n1]; exact g3 a (sx a ha).1⟩
      · rw [uO_n e] at hc'
        exact Or.inl ⟨hc', fun a ha ha2 => v2.2 u p c x e hc' hp a ha (yin a (hO a ha2)), (v4 u c hc').2.1⟩
  · by_cases e : u = p
    · subst e
      rw [hp] at hc'
      cases hc'
      by_cases ey : x.1 ∈ adr y
      · rw [← own_1 hy ndx ey]; exact t1
      · exact f1.R (VP.no (by decide) (by decide) (fun z => ey (hO _ z)) (g3 x.1 (adr_1 x)))
    · exact f1.R (VP.no (by decide) (by decide) (fun z => v2.2 u p c x e hc' hp c.1 (adr_1 c) (yin _ (hO _ z))) ((v4 u c hc').2.2 c.1 (adr_1 c)))
end
