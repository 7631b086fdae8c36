/-! all transactions at once: steps that change a transaction -/
section
variable {z : Cz} {g g' : Gg} {j : Nat}
/-- a held or running one is guessed all over -/
theorem IVT.gs {t : Nat} (h : IVT z g t) (hs : xS g t ≠ 2) : ∀ y ∈ xL g t, y.2.2 = true := fun y hy => (h.2.1 y hy).mpr hs
/-- others than t stay, t is changed -/
theorem IVG.st1 {t : Nat} (h : IVG z g) (hj : j < zn z) (_h1 : zf z ≤ t) (_h2 : t < zl z) (e : ∀ k, k ≠ t → g'.1 k = g.1 k) (ho : ∀ i, i ≠ j → g'.2.1 i = g.2.1 i) (hm : GMO g g' t) (hT : IVT z g' t) (hw : IVW z g' j) (hq : ∀ k, zf z ≤ k → k < zl z → k ≠ t → (xS g k = 2 → qL g ≤ k → qL g' ≤ k) ∧ (xS g k = 0 → qR g ≤ k → qR g' ≤ k)) (hv : ∀ k, zf z ≤ k → k < zl z → k ≠ t → xS g k = 2 → VLD z g k → (∀ y, crn (xL g) (xN g) (zf z) k y → crn (xL g') (xN g') (zf z) k y) ∨ VLD z g' k) (h2t : xS g' t ≠ 2) (hjl : wK g j = 2 → wT g j = t) (hj1 : wK g j = 1 → wT g j = t) (s1 : ∀ i, i ≠ j → i < zn z → wK g i = 1 → wT g i ≠ t) (s2 : xR g t ≤ xR g' t ∧ (xR g' t = xR g t → xS g t ≠ 2)) (hj1' : wK g' j = 1 → wT g' j = t) (hb : zf z ≤ qR g' ∧ zf z ≤ qL g' ∧ qR g' ≤ zl z ∧ qL g' ≤ 32) : IVG z g' := by
  obtain ⟨a, b, c, d⟩ := h
  have eS : ∀ k, k ≠ t → xS g' k = xS g k := fun k hk => by unfold xS; rw [e k hk]
  have eR : ∀ k, k ≠ t → xR g' k = xR g k := fun k hk => by unfold xR; rw [e k hk]
  have eD : ∀ k, k ≠ t → xD g' k = xD g k := fun k hk => by unfold xD; rw [e k hk]
  have mo : ∀ k, GMO g g' k := fun k => by
    by_cases c : k = t
    · rw [c]; exact hm
    · exact GMO.refl (e k c)
  refine ⟨fun k k1 k2 => ?_, fun i hi => ?_, fun i i' hi hi' q q' r => ?_, hb⟩
  · by_cases kt : k = t
    · rw [kt]; exact hT
    obtain ⟨q1, q2⟩ := hq k k1 k2 kt
    refine (a k k1 k2).mv (e k kt) (fun k _ _ => mo k) (fun x v => ?_) q2 (fun x y => ?_) (fun x y => ?_)
    · rcases hv k k1 k2 kt x v with cc | cc
      · refine v.mv (eD k kt) (eR k kt) cc (fun y => Or.inl (q1 x y)) (fun i hi p1 p2 p3 p4 => Or.inl ?_)
        refine ho i fun ij => ?_
        subst ij
        exact kt (p2.symm.trans (hjl p1))
      · exact cc
    · by_cases c : xH g k = t
      · rw [c]; exact h2t
      · rw [eS _ c]; exact y
    · obtain ⟨i, i1, i2, i3⟩ := y
      have ij : i ≠ j := fun ij => by
        subst ij
        exact kt (i3.symm.trans (hj1 i2))
      obtain ⟨e1, e2⟩ := wk_o (ho i ij)
      exact ⟨i, i1, by rw [e1]; exact i2, by rw [e2]; exact i3⟩
  · by_cases ij : i = j
    · rw [ij]; exact hw
    refine (b i hi).mv (ho i ij) (fun _ k _ _ => mo k) (fun q y => ?_) (fun q => ?_)
    · rw [eS _ (s1 i ij hi q)]; exact y
    · by_cases c : wT g i = t
      · rw [c]
        exact ⟨s2.1, fun p1 p2 => absurd p2 (s2.2 p1)⟩
      · exact ⟨by rw [eR _ c]; exact Nat.le_refl _, fun _ y => ⟨by rw [eS _ c]; exact y, eD _ c⟩⟩
  · by_cases ij : i = j
    · by_cases ij' : i' = j
      · rw [ij, ij']
      · exfalso
        obtain ⟨e1, e2⟩ := wk_o (ho i' ij')
        refine s1 i' ij' hi' (by rw [← e1]; exact q') ?_
        rw [← e2, ← r, ij]
        exact hj1' (by rw [← ij]; exact q)
    · obtain ⟨e1, e2⟩ := wk_o (ho i ij)
      by_cases ij' : i' = j
      · exfalso
        refine s1 i ij hi (by rw [← e1]; exact q) ?_
        rw [← e2, r, ij']
        exact hj1' (by rw [← ij']; exact q')
      · obtain ⟨e3, e4⟩ := wk_o (ho i' ij')
        exact c i i' hi hi' (by rw [← e1]; exact q) (by rw [← e3]; exact q') (by rw [← e2, ← e4]; exact r)
theorem IVG.k3 (h : IVG z g) (hj : j < zn z) (ho : ∀ i, i ≠ j → g'.2.1 i = g.2.1 i) (s : SK3 z g j g') : IVG z g' := by
  obtain ⟨s1, ⟨R, ⟨⟨s4, s5, s6, s7, s8⟩, s9, s10⟩, s11, s12, s13, s14, s15, s16, s17⟩, s18, s19⟩ := s
  have d := h.2.2.2
  have oldR := h.1 R (by omega) s13
  have x1 : xS g' R = 1 := by unfold xS; rw [s16]
  have x2 : xR g' R = xR g R := by unfold xR; rw [s16]; rfl
  have x3 : xL g' R = xL g R := by unfold xL; rw [s16]
  have eL : xL g' = xL g := funext fun k => by
    by_cases c : k = R
    · rw [c]; exact x3
    · unfold xL; rw [s17 k c]
  have eN : xN g' = xN g := funext fun k => by
    unfold xN
    by_cases c : k = R
    · rw [c, x2]
    · unfold xR; rw [s17 k c]
  refine h.st1 (t := R) hj (by omega) s13 s17 ho (Or.inr ⟨x2, fun y => by omega⟩) ?_ ?_ (fun k k1 k2 k3 => ⟨fun x y => ?_, fun x y => ?_⟩) (fun k k1 k2 k3 x v => Or.inl fun y hy => by rw [eL, eN]; exact hy) (by omega) (fun k => by omega) (fun k => by omega) (fun i ij hi k => ?_) ⟨by omega, fun _ => by omega⟩ (fun _ => s15) ⟨by omega, by omega, by omega, s6⟩
  · refine ⟨⟨by omega, by rw [x2]; exact oldR.1.2⟩, fun y hy => ?_, fun k => by omega, fun k => by omega, fun k => by omega, fun _ => ⟨j, hj, s18, s15⟩⟩
    rw [x3] at hy
    have := oldR.2.1 y hy
    rw [this]
    omega
  · refine ⟨by omega, fun _ => by rw [s15]; omega, fun _ => ⟨by rw [s15]; exact x1, fun k => by rw [s19] at k; cases k⟩, fun k => by omega⟩
  · rcases Nat.lt_or_ge k (qL g') with q | q
    · exact absurd x (s9 k y q)
    · exact q
  · rcases Nat.lt_or_ge k R with q | q
    · exact absurd x (s10 k y q)
    · omega
  · intro c
    have := ((h.2.1 i hi).2.2.1 k).1
    rw [c] at this
    omega
theorem IVG.k6 (h : IVG z g) (hj : j < zn z) (ho : ∀ i, i ≠ j → g'.2.1 i = g.2.1 i) (s : SK6 z g j g') : IVG z g' := by
  obtain ⟨s1, s2, ⟨k, p, s3, s4⟩, s5, s6, s7⟩ := s
  have d := h.2.2.2
  obtain ⟨w1, w2, w3, -⟩ := h.2.1 j hj
  obtain ⟨w4, -⟩ := w3 s1
  obtain ⟨w6, w7⟩ := w2 (by omega)
  have old := h.1 _ w6 w7
  have x1 : xS g' (wT g j) = 3 := by unfold xS; rw [s4]
  have x2 : xR g' (wT g j) = xR g (wT g j) + 1 := by unfold xR; rw [s4]; rfl
  have x3 : xL g' (wT g j) = xL g (wT g j) := by unfold xL; rw [s4]
  have x4 : xH g' (wT g j) = k := by unfold xH; rw [s4]
  have eL : xL g' = xL g := funext fun k => by
    by_cases c : k = wT g j
    · rw [c]; exact x3
    · unfold xL; rw [s5 k c]
  have hk : k < wT g j ∧ zf z ≤ k ∧ xS g k ≠ 2 := by
    unfold gss at s3
    cases hb : bfr (xL g) p (zf z) (wT g j) with
    | none => rw [hb] at s3; cases s3
    | some k' =>
      obtain ⟨k1, k2, e, he⟩ := bfr_b hb
      obtain ⟨x, y1, y2⟩ := lfd_b he
      rw [hb] at s3
      simp only [y1] at s3
      cases hx : x.2 with
      | false => rw [hx] at s3; cases s3
      | true =>
        rw [hx] at s3
        have e : k' = k := Option.some.inj s3
        subst e
        exact ⟨k1, k2, ((h.1 k' k2 (by omega)).2.1 _ y2).mp hx⟩
  refine h.st1 (t := wT g j) hj w6 w7 s5 ho (Or.inl (by omega)) ?_ ⟨by omega, fun q => absurd s2 q, fun q => by omega, fun q => by omega⟩ (fun k' k1 k2 k3 => ⟨fun x y => by omega, fun x y => by omega⟩) (fun k' k1 k2 k3 x v => Or.inl fun y hy => ?_) (by omega) (fun q => by omega) (fun _ => rfl) (fun i ij hi q c => ij (h.2.2.1 i j hi hj q s1 c)) ⟨by omega, fun q => by omega⟩ (fun q => by omega) (by rw [s6, s7]; exact d)
  · refine ⟨⟨by omega, by omega⟩, fun y hy => ?_, fun q => by omega, fun q => by omega, fun _ => ?_, fun q => by omega⟩
    · rw [x3] at hy
      have := old.2.1 y hy
      rw [this]
      omega
    · rw [x4]
      refine ⟨hk.2.1, hk.1, ?_⟩
      have : xS g' k = xS g k := by unfold xS; rw [s5 k (by omega)]
      rw [this]; exact hk.2.2
  · rw [eL, crn_g (RN := xN g) (fun q q1 q2 => ?_)]
    · exact hy
    · by_cases c : q = wT g j
      · right
        rw [c]
        exact old.gs (by omega)
      · left
        unfold xN xR; rw [s5 q c]
theorem IVG.k9 (h : IVG z g) (hj : j < zn z) (ho : ∀ i, i ≠ j → g'.2.1 i = g.2.1 i) (s : SK9 z g j g') : IVG z g' := by
  obtain ⟨s1, s2, ⟨s3, s4⟩, ⟨y, s5, s6⟩, s7, s8, s9, s10⟩ := s
  have d := h.2.2.2
  obtain ⟨w1, w2, -, w3⟩ := h.2.1 j hj
  obtain ⟨w6, w7⟩ := w2 (by omega)
  have old := h.1 _ w6 w7
  have x1 : xS g' (wT g j) = 0 := by unfold xS; rw [s7]
  have x2 : xR g' (wT g j) = xR g (wT g j) + 1 := by unfold xR; rw [s7]; rfl
  have x3 : xL g' (wT g j) = (xL g (wT g j)).map fun x => (x.1, x.2.1, true) := by unfold xL; rw [s7]; rfl
  refine h.st1 (t := wT g j) hj w6 w7 s8 ho (Or.inl (by omega)) ?_ ⟨by omega, fun q => absurd s2 q, fun q => by omega, fun q => by omega⟩ (fun k' k1 k2 k3 => ⟨fun x y => by omega, fun x y => by omega⟩) (fun k' k1 k2 k3 x v => ?_) (by omega) (fun _ => rfl) (fun q => by omega) (fun i ij hi q c => ?_) ⟨by omega, fun q => by omega⟩ (fun q => by omega) ⟨by omega, by omega, by omega, by omega⟩
  · refine ⟨⟨by omega, by omega⟩, fun y hy => ?_, fun q => by omega, fun q => by omega, fun q => by omega, fun q => by omega⟩
    rw [x3, List.mem_map] at hy
    obtain ⟨x, -, e⟩ := hy
    rw [← e, x1]
    simp
  · rcases Nat.lt_or_ge k' (wT g j) with q | q
    · refine Or.inl fun y hy => ?_
      rw [crn_c (Lf := xL g) (RN := xN g) (fun k q1 q2 => ?_)]
      · exact hy
      · have e := s8 k (by omega)
        exact ⟨by unfold xL; rw [e], by unfold xN xR; rw [e]⟩
    · exact Or.inr (Or.inl (by omega))
  · have := ((h.2.1 i hi).2.2.1 q).1
    rw [c] at this
    omega
theorem IVG.k5 (h : IVG z g) (hj : j < zn z) (ho : ∀ i, i ≠ j → g'.2.1 i = g.2.1 i) (s : SK5 z g j g') : IVG z g' := by
  obtain ⟨s1, s2, ⟨r, MA', s3, s4, s5, s6⟩, s7, s8, s9, s10, s11⟩ := s
  have d := h.2.2.2
  obtain ⟨a, b, c, -⟩ := id h
  obtain ⟨w1, w2, w3, -⟩ := h.2.1 j hj
  obtain ⟨w4, w5⟩ := w3 s1
  obtain ⟨w6, w7⟩ := w2 (by omega)
  have old := h.1 _ w6 w7
  have x1 : xS g' (wT g j) = 2 := by unfold xS; rw [s5]
  have x2 : xR g' (wT g j) = xR g (wT g j) := by unfold xR; rw [s5]; rfl
  have x3 : xL g' (wT g j) = z.2.2.2 (wT g j) r := by unfold xL; rw [s5]
  have x4 : xD g' (wT g j) = r.2.2.1.mapIdx (fun e x => (x.1, MA'.2.2.2 e)) := by unfold xD; rw [s5]
  have x5 : xO g' (wT g j) = r := by unfold xO; rw [s5]
  have yS : ∀ k, k ≠ wT g j → xS g' k = if rlb (fun k => nI (xH g k)) (wT g j) (zl z) (xS g) k then 0 else xS g k := fun k hk => by unfold xS; rw [s7 k hk]; rfl
  have yR : ∀ k, k ≠ wT g j → xR g' k = xR g k := fun k hk => by unfold xR; rw [s7 k hk]; rfl
  have yL : ∀ k, k ≠ wT g j → xL g' k = xL g k := fun k hk => by unfold xL; rw [s7 k hk]
  have yD : ∀ k, k ≠ wT g j → xD g' k = xD g k := fun k hk => by unfold xD; rw [s7 k hk]
  have yn : ∀ k, k ≠ wT g j → xS g k ≠ 3 → xS g' k = xS g k := fun k hk h3 => by
    rw [yS k hk, if_neg (fun q => h3 q.2.2.1)]
  have mo : ∀ k, GMO g g' k := fun k => by
    by_cases e : k = wT g j
    · rw [e]; exact Or.inr ⟨x2, fun q => by omega⟩
    · exact Or.inr ⟨yR k e, fun q => ⟨by rw [yn k e (by omega)]; exact q, yL k e⟩⟩
  have sr : SRE z g (wT g j) r.2.2.1 MA' := by
    refine s4.sre ?_ (fun k k1 k2 => (h.1 k k1 (by omega)).2.1)
    intro i e he
    unfold esW at he
    cases hb : wB g j with
    | false => rw [hb] at he; simp at he
    | true =>
      rw [hb] at he
      exact (w5 hb).2 i e (by simpa using he)
  refine ⟨fun k k1 k2 => ?_, fun i hi => ?_, fun i i' hi hi' q q' r => ?_, by omega, by omega, by omega, by omega⟩
  · by_cases kt : k = wT g j
    · subst kt
      refine ⟨⟨by omega, by rw [x2]; exact old.1.2⟩, fun y hy => ?_, fun _ => ⟨⟨by rw [x5]; exact s3, by rw [x3, x5], by rw [x4, x5, List.length_mapIdx], fun i e q he hq => ?_⟩, Or.inl (by omega)⟩, fun q => by omega, fun q => by omega, fun q => by omega⟩
      · rw [x3] at hy
        rw [s6 y hy, x1]
        simp
      · rw [x5] at he
        rw [x4, List.getElem?_mapIdx, he] at hq
        have hq : (e.1, MA'.2.2.2 i) = q := Option.some.inj hq
        subst hq
        exact ⟨rfl, (sr i e he).keep fun k _ _ => mo k⟩
    have ok := a k k1 k2
    by_cases rl : rlb (fun k => nI (xH g k)) (wT g j) (zl z) (xS g) k
    · have e0 : xS g' k = 0 := by rw [yS k kt, if_pos rl]
      refine ⟨⟨by omega, by rw [yR k kt]; exact ok.1.2⟩, fun y hy => ?_, fun q => by omega, fun _ => s9 k rl, fun q => by omega, fun q => by omega⟩
      rw [yL k kt] at hy
      have := ok.2.1 y hy
      rw [this, e0, rl.2.2.1]
      decide
    · have e : g'.1 k = g.1 k := by rw [s7 k kt, if_neg rl]; rfl
      refine ok.mv e (fun k _ _ => mo k) (fun x v => ?_) (fun x y => by omega) (fun x y => ?_) (fun x y => ?_)
      · rcases Nat.lt_or_ge k (wT g j) with q | q
        · refine v.mv (yD k kt) (yR k kt) (fun y hy => ?_) (fun y => Or.inl (by omega)) (fun i hi p1 p2 p3 p4 => Or.inl (ho i fun ij => ?_))
          · rw [crn_c (Lf := xL g) (RN := xN g) (fun k q1 q2 => ⟨yL k (by omega), by unfold xN; rw [yR k (by omega)]⟩)]
            exact hy
          · subst ij; omega
        · exact Or.inl (by omega)
      · by_cases c : xH g k = wT g j
        · have := (ok.2.2.2.2.1 x).2.1
          exact absurd ⟨by omega, k2, x, by show nI (xH g k) = _; rw [c]⟩ rl
        · rw [yS _ c]
          split
          · decide
          · exact y
      · obtain ⟨i, i1, i2, i3⟩ := y
        have ij : i ≠ j := fun ij => by
          subst ij
          exact kt i3.symm
        obtain ⟨e1, e2⟩ := wk_o (ho i ij)
        exact ⟨i, i1, by rw [e1]; exact i2, by rw [e2]; exact i3⟩
  · by_cases ij : i = j
    · rw [ij]
      exact ⟨by omega, fun q => absurd s2 q, fun q => by omega, fun q => by omega⟩
    refine (b i hi).mv (ho i ij) (fun _ k _ _ => mo k) (fun q y => ?_) (fun q => ?_)
    · have e : wT g i ≠ wT g j := fun e => ij (c i j hi hj q s1 e)
      rw [yn _ e (by omega)]; exact y
    · by_cases e : wT g i = wT g j
      · rw [e]
        exact ⟨by omega, fun _ p2 => by omega⟩
      · exact ⟨by rw [yR _ e]; exact Nat.le_refl _, fun _ y => ⟨by rw [yn _ e (by omega)]; exact y, yD _ e⟩⟩
  · have ne : ∀ i, wK g' i = 1 → i ≠ j := fun i q e => by rw [e] at q; omega
    obtain ⟨e1, e2⟩ := wk_o (ho i (ne i q))
    obtain ⟨e3, e4⟩ := wk_o (ho i' (ne i' q'))
    exact c i i' hi hi' (by rw [← e1]; exact q) (by rw [← e3]; exact q') (by rw [← e2, ← e4]; exact r)
theorem IVG.step (hF : ∀ t r, z.2.1 t r → r.2.2.1.length ≤ 26) (h : IVG z g) (hj : j < zn z) (s : GST z g j g') : IVG z g' := by
  obtain ⟨ho, s | s | s | s | s | s | s | s | s⟩ := s
  · exact h.k1 hj ho s
  · exact h.k2 hj ho s
  · exact h.k3 hj ho s
  · exact h.k4 hj ho s
  · exact h.k5 hj ho s
  · exact h.k6 hj ho s
  · exact h.k7 hj ho s
  · exact h.k8 hF hj ho s
  · exact h.k9 hj ho s
end
