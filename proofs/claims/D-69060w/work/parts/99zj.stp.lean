/-! all transactions at once: every step keeps it -/
section
variable {z : Cz} {g g' : Gg} {j : Nat}
theorem IVG.gmo {t : Nat} (e : g'.1 = g.1) : ∀ k, zf z ≤ k → k < t → GMO g g' k := fun k _ _ => GMO.refl (by rw [e])
theorem crn_e {t : Nat} (e : g'.1 = g.1) : ∀ y, crn (xL g) (xN g) (zf z) t y → crn (xL g') (xN g') (zf z) t y := fun y h => by
  have e1 : xL g' = xL g := by unfold xL; rw [e]
  have e2 : xN g' = xN g := by unfold xN xR; rw [e]
  rw [e1, e2]; exact h
theorem wk_o {i : Nat} (e : g'.2.1 i = g.2.1 i) : wK g' i = wK g i ∧ wT g' i = wT g i := ⟨by unfold wK; rw [e], by unfold wT; rw [e]⟩
/-- where transactions stay as they are -/
theorem IVG.st0 (h : IVG z g) (hj : j < zn z) (e : g'.1 = g.1) (ho : ∀ i, i ≠ j → g'.2.1 i = g.2.1 i) (hw : IVW z g' j) (hT : ∀ t, zf z ≤ t → t < zl z → (xS g t = 2 → qL g ≤ t → VLD z g' t) ∧ (xS g t = 0 → qR g ≤ t → qR g' ≤ t)) (hv : ∀ t, zf z ≤ t → t < zl z → xS g t = 2 → wK g j = 2 → wT g j = t → wN g j = xR g t → (∀ (i : Nat) (y : Pc × Int32 × Int32), i < wL g j → (xD g t)[i]? = some y → crn (xL g) (xN g) (zf z) t y) → VLD z g' t) (h1 : wK g j = 1 → wK g' j = 1 ∧ wT g' j = wT g j) (h1' : wK g' j = 1 → wK g j = 1 ∧ wT g' j = wT g j) (hb : zf z ≤ qR g' ∧ zf z ≤ qL g' ∧ qR g' ≤ zl z ∧ qL g' ≤ 32) : IVG z g' := by
  obtain ⟨a, b, c, d⟩ := h
  have eS : ∀ k, xS g' k = xS g k := fun k => by unfold xS; rw [e]
  have eR : ∀ k, xR g' k = xR g k := fun k => by unfold xR; rw [e]
  have eD : ∀ k, xD g' k = xD g k := fun k => by unfold xD; rw [e]
  have wk : ∀ i, wK g' i = 1 → wK g i = 1 ∧ wT g' i = wT g i := fun i hi => by
    by_cases ij : i = j
    · subst ij; exact h1' hi
    · obtain ⟨e1, e2⟩ := wk_o (ho i ij)
      rw [e1] at hi
      exact ⟨hi, e2⟩
  refine ⟨fun t h1t h2t => ?_, fun i hi => ?_, fun i i' hi hi' k k' q => ?_, hb⟩
  · obtain ⟨t1, t2⟩ := hT t h1t h2t
    refine (a t h1t h2t).mv (by rw [e]) (IVG.gmo e) (fun s2 v => v.mv (eD t) (eR t) (crn_e e) (t1 s2) (fun i hi k1 k2 k3 k4 => ?_)) t2 (fun _ y => by rw [eS]; exact y) (fun s1 y => ?_)
    · by_cases ij : i = j
      · subst ij; exact Or.inr (hv t h1t h2t s2 k1 k2 k3 k4)
      · exact Or.inl (ho i ij)
    · obtain ⟨i, i1, i2, i3⟩ := y
      by_cases ij : i = j
      · subst ij
        obtain ⟨w1, w2⟩ := h1 i2
        exact ⟨i, i1, w1, by rw [w2]; exact i3⟩
      · obtain ⟨e1, e2⟩ := wk_o (ho i ij)
        exact ⟨i, i1, by rw [e1]; exact i2, by rw [e2]; exact i3⟩
  · by_cases ij : i = j
    · subst ij; exact hw
    · refine (b i hi).mv (ho i ij) (fun _ => IVG.gmo e) (fun _ y => by rw [eS]; exact y) (fun _ => ⟨by rw [eR]; exact Nat.le_refl _, fun _ y => ⟨by rw [eS]; exact y, eD _⟩⟩)
  · obtain ⟨k1, k2⟩ := wk i k
    obtain ⟨k3, k4⟩ := wk i' k'
    exact c i i' hi hi' k1 k3 (by rw [← k2, ← k4]; exact q)
theorem IVG.k1 (h : IVG z g) (hj : j < zn z) (ho : ∀ i, i ≠ j → g'.2.1 i = g.2.1 i) (s : SK1 z g j g') : IVG z g' := by
  obtain ⟨s1, s2, s3, ⟨⟨s4, s5, s6, s7, s8⟩, s9, s10⟩, s11, s12⟩ := s
  have ew := wk_o s3
  have d := h.2.2.2
  refine h.st0 hj s2 ho ?_ (fun t h1 h2 => ⟨fun x y => Or.inl ?_, fun x y => ?_⟩) (fun t _ _ _ k => by omega) (fun k => by omega) (fun k => by omega) ⟨by omega, by omega, s8 d.2.2.1, s6⟩
  · exact (h.2.1 j hj).mv s3 (fun k => by omega) (fun k => by omega) (fun k => by omega)
  · rcases Nat.lt_or_ge t (qL g') with q | q
    · exact absurd x (s9 t y q)
    · exact q
  · rcases Nat.lt_or_ge t (qR g') with q | q
    · exact absurd x (s10 t y q)
    · exact q
theorem IVG.k2 (h : IVG z g) (hj : j < zn z) (ho : ∀ i, i ≠ j → g'.2.1 i = g.2.1 i) (s : SK2 z g j g') : IVG z g' := by
  obtain ⟨s1, s2, ⟨T, ⟨⟨s4, s5, s6, s7, s8⟩, s9, s10⟩, s11, s12, s13, s14, s15⟩, s16, s17⟩ := s
  have d := h.2.2.2
  have s8 := s8 d.2.2.1
  have eR : ∀ k, xR g' k = xR g k := fun k => by unfold xR; rw [s2]
  have eS : ∀ k, xS g' k = xS g k := fun k => by unfold xS; rw [s2]
  refine h.st0 hj s2 ho ?_ (fun t h1 h2 => ⟨fun x y => ?_, fun x y => ?_⟩) (fun t _ _ _ k => by omega) (fun k => by omega) (fun k => by omega) ⟨by omega, by omega, s8, by omega⟩
  · refine ⟨by omega, fun _ => ⟨by omega, by omega⟩, fun k => by omega, fun _ => ⟨by rw [s14, s15, eR]; exact Nat.le_refl _, fun _ => ⟨by rw [s14, eS]; exact s13, by rw [s17]; exact Nat.zero_le _⟩, by omega⟩⟩
  · rcases Nat.lt_trichotomy t T with q | q | q
    · exact absurd x (s9 t y q)
    · exact Or.inr (Or.inl ⟨j, hj, s16, by rw [s14, q], by rw [s15, eR, q], fun i y hi => by omega⟩)
    · exact Or.inl (by omega)
  · rcases Nat.lt_or_ge t (qR g') with q | q
    · exact absurd x (s10 t y q)
    · exact q
theorem IVG.k4 (h : IVG z g) (hj : j < zn z) (ho : ∀ i, i ≠ j → g'.2.1 i = g.2.1 i) (s : SK4 z g j g') : IVG z g' := by
  obtain ⟨s1, s2, ⟨s3, s4⟩, ⟨s5, s6, s7⟩, s8, s9, s10⟩ := s
  have d := h.2.2.2
  have eS : ∀ k, xS g' k = xS g k := fun k => by unfold xS; rw [s2]
  obtain ⟨w1, w2, w3, -⟩ := h.2.1 j hj
  obtain ⟨w4, w5⟩ := w3 s1
  obtain ⟨w6, w7⟩ := w2 (by omega)
  refine h.st0 hj s2 ho ?_ (fun t h1 h2 => ⟨fun x y => Or.inl (by omega), fun x y => by omega⟩) (fun t _ _ _ k => by omega) (fun _ => ⟨s5, s6⟩) (fun _ => ⟨s1, s6⟩) (by rw [s3, s4]; exact d)
  refine ⟨by omega, fun _ => by rw [s6]; exact ⟨w6, w7⟩, fun _ => ⟨by rw [s6, eS]; exact w4, fun _ => ⟨by rw [s6]; exact s8, ?_⟩⟩, fun k => by omega⟩
  rw [s6]
  refine (s9.sre ?_ (fun k k1 k2 => (h.1 k k1 (by omega)).2.1)).mv (IVG.gmo s2)
  intro i e he
  unfold esW at he
  cases hb : wB g j with
  | false => rw [hb] at he; simp at he
  | true =>
    rw [hb] at he
    exact (w5 hb).2 i e (by simpa using he)
theorem IVG.k7 (h : IVG z g) (hj : j < zn z) (ho : ∀ i, i ≠ j → g'.2.1 i = g.2.1 i) (s : SK7 g j g') : IVG z g' := by
  obtain ⟨s1, s2, s3, s4, s5, s6⟩ := s
  have d := h.2.2.2
  refine h.st0 hj s4 ho ⟨by omega, fun k => absurd s2 k, fun k => by omega, fun k => by omega⟩ (fun t h1 h2 => ⟨fun x y => Or.inl (by omega), fun x y => by omega⟩) (fun t h1 h2 x k1 k2 k3 k4 => ?_) (fun k => by omega) (fun k => by omega) (by rw [s5, s6]; exact d)
  subst k2
  have s3 : wL g j = (xD g (wT g j)).length := by
    rcases s3 with s3 | s3 | s3
    · exact absurd x s3
    · exact absurd k3.symm s3
    · exact s3
  refine Or.inr (Or.inr fun y hy => crn_e s4 y ?_)
  have eD : xD g' (wT g j) = xD g (wT g j) := by unfold xD; rw [s4]
  rw [eD] at hy
  obtain ⟨i, hi, e⟩ := List.mem_iff_getElem.mp hy
  exact k4 i y (by omega) (by rw [List.getElem?_eq_getElem hi, e])
theorem IVG.k8 (hF : ∀ t r, z.2.1 t r → r.2.2.1.length ≤ 26) (h : IVG z g) (hj : j < zn z) (ho : ∀ i, i ≠ j → g'.2.1 i = g.2.1 i) (s : SK8 z g j g') : IVG z g' := by
  obtain ⟨s1, ⟨s2, s3⟩, ⟨y, s4, s5⟩, s6, ⟨s7, s8, s9, s10⟩, s11, s12⟩ := s
  have d := h.2.2.2
  obtain ⟨w1, w2, -, w4⟩ := h.2.1 j hj
  obtain ⟨w6, w7⟩ := w2 (by omega)
  have eS : ∀ k, xS g' k = xS g k := fun k => by unfold xS; rw [s6]
  have eR : ∀ k, xR g' k = xR g k := fun k => by unfold xR; rw [s6]
  have eD : ∀ k, xD g' k = xD g k := fun k => by unfold xD; rw [s6]
  have hl := get_lt s4
  obtain ⟨⟨v1, -, v2, -⟩, -⟩ := (h.1 (wT g j) w6 w7).2.2.1 s2
  have l26 := hF _ _ v1
  refine h.st0 hj s6 ho ?_ (fun t h1 h2 => ⟨fun x y => Or.inl (by omega), fun x y => by omega⟩) (fun t h1 h2 x k1 k2 k3 k4 => ?_) (fun k => by omega) (fun k => by omega) (by rw [s11, s12]; exact d)
  · refine ⟨by omega, fun _ => by rw [s8]; exact ⟨w6, w7⟩, fun k => by omega, fun _ => ⟨by rw [s8, s9, eR]; omega, fun _ => ⟨by rw [s8, eS]; exact s2, by rw [s8, eD]; omega⟩, by omega⟩⟩
  · subst k2
    refine Or.inr (Or.inl ⟨j, hj, s7, s8, by rw [s9, eR]; exact k3, fun i y' hi hy => crn_e s6 y' ?_⟩)
    rw [eD] at hy
    by_cases c : i = wL g j
    · rw [c, s4] at hy
      rw [← Option.some.inj hy]; exact s5
    · exact k4 i y' (by omega) hy
end
