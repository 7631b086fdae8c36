/-! all transactions at once: each step brings the end nearer -/
section
variable {z : Cz} {g g' : Gg} {m u : Nat}
/-- one that is not touched: how far looking has come -/
theorem qL_m (p : PRE z g m) (h : IVG z g) (hu : u < zn z) (s : GST z g u g') (hn : ∀ k, wK g u = 1 → wT g u = k → k ≠ m) (hn2 : SK9 z g u g' → wT g u ≠ m) : m + 1 - qL g' ≤ m + 1 - qL g := by
  obtain ⟨w1, w2, w3, w4⟩ := h.2.1 u hu
  obtain ⟨ho, s | s | s | s | s | s | s | s | s⟩ := s
  · obtain ⟨-, -, -, ⟨⟨q, -⟩, -⟩, -⟩ := s
    omega
  · obtain ⟨-, -, ⟨T, ⟨⟨q, -⟩, -⟩, q2, -⟩, -⟩ := s
    omega
  · obtain ⟨-, ⟨R, ⟨⟨q, -⟩, -⟩, -⟩, -⟩ := s
    omega
  · rw [s.2.2.1.2]; exact Nat.le_refl _
  · obtain ⟨s1, s2, -, -, -, -, -, s3⟩ := s
    have := (w3 s1).1
    have ne := hn _ s1 rfl
    have ge : m ≤ wT g u := by
      rcases Nat.lt_or_ge (wT g u) m with q | q
      · have := (p _ (w2 (by omega)).1 q).1
        omega
      · exact q
    rw [s3]
    omega
  · rw [s.2.2.2.2.2]; exact Nat.le_refl _
  · rw [s.2.2.2.2.2]; exact Nat.le_refl _
  · rw [s.2.2.2.2.2.2]; exact Nat.le_refl _
  · have ne := hn2 s
    obtain ⟨s1, s2, ⟨s3, s4⟩, ⟨y, s5, s6⟩, -, -, -, s7⟩ := s
    have ge : m ≤ wT g u := by
      rcases Nat.lt_or_ge (wT g u) m with q | q
      · exact absurd ((p _ (w2 (by omega)).1 q).2 y (List.mem_of_getElem? s5)) s6
      · exact q
    rw [s7]
    omega
/-- what can happen to one that waits for a worker -/
theorem GST.m0 (h : IVG z g) (hu : u < zn z) (s : GST z g u g') (hs : xS g m = 0) : g'.1 m = g.1 m ∨ (wK g' u = 1 ∧ wT g' u = m ∧ wB g' u = false) := by
  obtain ⟨w1, w2, w3, w4⟩ := h.2.1 u hu
  obtain ⟨ho, s | s | s | s | s | s | s | s | s⟩ := s
  · left; rw [s.2.1]
  · left; rw [s.2.1]
  · obtain ⟨-, ⟨R, -, -, -, -, r1, r3, -, r2⟩, r4, r5⟩ := s
    by_cases e : m = R
    · right; exact ⟨r4, by rw [e]; exact r3, r5⟩
    · left; exact r2 m e
  · left; rw [s.2.1]
  · obtain ⟨s1, s2, -, s3, -⟩ := s
    have := (w3 s1).1
    left
    rw [s3 m (fun e => by rw [e] at hs; omega), if_neg (fun q => by have := q.2.2.1; omega)]
    rfl
  · obtain ⟨s1, s2, -, s3, -⟩ := s
    have := (w3 s1).1
    left
    exact s3 m (fun e => by rw [e] at hs; omega)
  · left; rw [s.2.2.2.1]
  · left; rw [s.2.2.2.1]
  · obtain ⟨s1, s2, s3, -, -, s6, -⟩ := s
    left
    exact s6 m (fun e => by rw [e] at hs; omega)
/-- what can happen to one that has ended -/
theorem GST.m2 (h : IVG z g) (hu : u < zn z) (s : GST z g u g') (hs : xS g m = 2) : g'.1 m = g.1 m ∨ xS g' m = 0 := by
  obtain ⟨w1, w2, w3, w4⟩ := h.2.1 u hu
  obtain ⟨ho, s | s | s | s | s | s | s | s | s⟩ := s
  · left; rw [s.2.1]
  · left; rw [s.2.1]
  · obtain ⟨-, ⟨R, -, -, -, -, r1, -, -, r2⟩, -⟩ := s
    left
    exact r2 m (fun e => by rw [e] at hs; omega)
  · left; rw [s.2.1]
  · obtain ⟨s1, s2, -, s3, -⟩ := s
    have := (w3 s1).1
    left
    rw [s3 m (fun e => by rw [e] at hs; omega), if_neg (fun q => by have := q.2.2.1; omega)]
    rfl
  · obtain ⟨s1, s2, -, s3, -⟩ := s
    have := (w3 s1).1
    left
    exact s3 m (fun e => by rw [e] at hs; omega)
  · left; rw [s.2.2.2.1]
  · left; rw [s.2.2.2.1]
  · obtain ⟨s1, s2, s3, -, s5, s6, -⟩ := s
    by_cases e : m = wT g u
    · right; unfold xS; rw [e, s5]
    · left; exact s6 m e
theorem lkt_le {S : Nat} (h32 : m < 32) (hS : (20002 + 28 * 33) * 8 + 8 ≤ S) : lkt g m * 8 + 8 ≤ S := by
  have := rm_le (g := g) (j := 0)
  unfold lkt; omega
/-- the first one that is not right comes nearer to its end -/
theorem STG.step {S w : Nat} (hF : ∀ t r, z.2.1 t r → r.2.2.1.length ≤ 26) (hG : ∀ t s, z.2.2.1 t s → gas s ≤ 20000) (h : IVG z g) (h' : IVG z g') (p : PRE z g m) (h1 : zf z ≤ m) (h2 : m < zl z) (h32 : zl z ≤ 32) (hu : u < zn z) (h8 : zn z ≤ 8) (hS : (20002 + 28 * 33) * 8 + 8 ≤ S) (s : GST z g u g') (hc : ¬ (xS g' m = 2 ∧ CUR z g' m)) (g0 : STG z g S u m w) : ∃ w', w' < w ∧ STG z g' S (nxt (zn z) u) m w' := by
  have e := p.e h hu s
  have d0 := dst_s hu
  have n8 : zn z - 1 ≤ 7 := by omega
  have dl : ∀ i, i < zn z → dst (zn z) (nxt (zn z) u) i < 8 := fun i hi => by have := dst_l (nxt_l hu) hi; omega
  have cr : ∀ y, crn (xL g') (xN g') (zf z) m y ↔ crn (xL g) (xN g) (zf z) m y := fun y => PRE.crn e (Nat.le_refl _) y
  obtain ⟨w1, w2, w3, w4⟩ := h.2.1 u hu
  -- a worker that runs m, other than the one at work, goes on
  have run : ∀ (f : Prop) (b j : Nat), j < zn z → wK g j = 1 → wT g j = m → j ≠ u → b + rmj g j * 8 + dst (zn z) u j ≤ w → wK g' j = 1 ∧ wT g' j = m ∧ b + rmj g' j * 8 + dst (zn z) (nxt (zn z) u) j < w := fun _ b j j1 j2 j3 ju jw => by
    have ej := s.1 j ju
    obtain ⟨e1, e2⟩ := wk_o ej
    have := dst_n hu j1 ju
    rw [e1, e2, rm_e ej]
    exact ⟨j2, j3, by omega⟩
  -- the one at work runs m
  have own : wK g u = 1 → wT g u = m → (SK4 z g u g' ∧ rmj g' u < rmj g u) ∨ SK5 z g u g' := fun k1 k2 => by
    have rs := rm_s hF hG h hu (by omega) s
    obtain ⟨ho, s | s | s | s | s | s | s | s | s⟩ := s
    · have := s.1; omega
    · have := s.1; omega
    · have := s.1; omega
    · exact Or.inl ⟨s, rs⟩
    · exact Or.inr s
    · exfalso
      obtain ⟨-, -, ⟨k, p', s3, -⟩, -⟩ := s
      unfold gss at s3
      cases hb : bfr (xL g) p' (zf z) (wT g u) with
      | none => rw [hb] at s3; cases s3
      | some k' =>
        obtain ⟨q1, q2, e0, he⟩ := bfr_b hb
        obtain ⟨x, y1, y2⟩ := lfd_b he
        rw [hb] at s3
        simp only [y1] at s3
        have := (p k' q2 (by omega)).1
        cases hx : x.2 with
        | false => rw [hx] at s3; cases s3
        | true => exact ((h.1 k' q2 (by omega)).2.1 _ y2).mp hx this
    · have := s.1; omega
    · have := s.1; omega
    · have := s.1; omega
  rcases g0 with ⟨j, j1, j2, j3, j4, j5⟩ | ⟨s0, j5⟩ | ⟨s2, nc, j, j1, j2, j3, j4, j6, j5⟩ | ⟨s2, nc, jq, j5⟩ | ⟨j, j1, j2, j3, j5⟩
  · -- runs, and all is right
    by_cases ju : j = u
    · subst ju
      have ef : ∀ (es' : List En) (MA' : Ma), ENN z g (wT g j) (esW g j) (wM g j) es' MA' → ∀ (i : Nat) (e' : En), es'[i]? = some e' → crn (xL g) (xN g) (zf z) m (e'.1, MA'.2.2.2 i) := fun es' MA' en i e' he => by
        rcases en i e' he with ⟨e0, a1, a2, a3, a4⟩ | ⟨a1, a2, a3⟩
        · rw [a2, a4, ← j3]; exact j4 i e0 a1
        · rw [a3, ← j3]; exact crn_n a1
      rcases own j2 j3 with ⟨⟨s1, s2, s3, ⟨s5, s6, s7⟩, s8, s9, s10⟩, rs⟩ | s5
      · refine ⟨rmj g' j * 8 + dst (zn z) (nxt (zn z) j) j, by omega, Or.inl ⟨j, j1, s5, by rw [s6]; exact j3, fun i e' he => ?_, Nat.le_refl _⟩⟩
        rw [s6, j3, cr]
        refine ef _ _ s9 i e' ?_
        unfold esW at he
        rw [s7, if_pos rfl] at he
        exact he
      · exfalso
        obtain ⟨s1, s2, ⟨r, MA', s3, s4, s5, s6⟩, -⟩ := s5
        rw [j3] at s5
        refine hc ⟨by unfold xS; rw [s5], fun y hy => ?_⟩
        unfold xD at hy
        rw [s5] at hy
        obtain ⟨i, hi, ey⟩ := List.mem_iff_getElem.mp hy
        have hi2 : i < r.2.2.1.length := by simpa using hi
        have gi : r.2.2.1[i]? = some r.2.2.1[i] := List.getElem?_eq_getElem hi2
        have := ef _ _ s4 i _ gi
        rw [cr]
        rw [← ey]
        simpa using this
    · obtain ⟨r1, r2, r3⟩ := run True 0 j j1 j2 j3 ju (by omega)
      refine ⟨rmj g' j * 8 + dst (zn z) (nxt (zn z) u) j, by omega, Or.inl ⟨j, j1, r1, r2, fun i e' he => ?_, Nat.le_refl _⟩⟩
      have ej := s.1 j ju
      have e3 : esW g' j = esW g j := by unfold esW wB wS; rw [ej]
      have e4 : wM g' j = wM g j := by unfold wM; rw [ej]
      rw [r2, cr, e4, ← j3]
      rw [e3] at he
      exact j4 i e' he
  · -- waits for a worker
    rcases GST.m0 h hu s s0 with em | ⟨k1, k2, k3⟩
    · have s0' : xS g' m = 0 := by unfold xS at s0 ⊢; rw [em]; exact s0
      have ql := qL_m p h hu s (fun k k1 k2 e3 => by
        have := (w3 k1).1
        rw [k2, e3] at this
        omega) (fun q e3 => by
        have := q.2.2.1.1
        rw [e3] at this
        omega)
      have key : lkt g' m * 8 + dst (zn z) (nxt (zn z) u) 0 < lkt g m * 8 + dst (zn z) u 0 := by
        by_cases u0 : (0 : Nat) = u
        · subst u0
          by_cases k0 : wK g 0 = 0
          · have r0 := rm_0 k0
            obtain ⟨ho, s | s | s | s | s | s | s | s | s⟩ := s
            · exfalso
              obtain ⟨-, -, -, ⟨-, -, q⟩, -, q2⟩ := s
              exact q m ((h.1 m h1 h2).2.2.2.1 s0) (by omega) s0
            · obtain ⟨-, -, ⟨T, ⟨⟨q1, -⟩, -, q⟩, q2, q3, -⟩, k2, k3⟩ := s
              have le : qR g' ≤ m := by
                rcases Nat.lt_or_ge m (qR g') with y | y
                · exact absurd s0 (q m ((h.1 m h1 h2).2.2.2.1 s0) y)
                · exact y
              have r1 : rmj g' 0 = 27 := by unfold rmj; rw [k2, k3, if_neg (by decide), if_neg (by decide)]
              unfold lkt
              omega
            · exfalso
              obtain ⟨-, ⟨R, ⟨⟨-, q0, -⟩, -, q⟩, -, -, q1, q2, -, q4, -⟩, -⟩ := s
              have le : R ≤ m := by
                rcases Nat.lt_or_ge m R with y | y
                · exact absurd s0 (q m ((h.1 m h1 h2).2.2.2.1 s0) y)
                · exact y
              have ge : m ≤ R := by
                rcases Nat.lt_or_ge R m with y | y
                · have := (p R (by have := h.2.2.2.1; omega) y).1
                  omega
                · exact y
              have : R = m := by omega
              subst this
              unfold xS at s0'
              rw [q4] at s0'
              cases s0'
            · have := s.1; omega
            · have := s.1; omega
            · have := s.1; omega
            · have := s.1; omega
            · have := s.1; omega
            · have := s.1; omega
          · have := rm_s hF hG h hu k0 s
            unfold lkt
            omega
        · have e3 := rm_e (s.1 0 u0)
          have := dst_n hu (show 0 < zn z by omega) u0
          unfold lkt
          omega
      exact ⟨S + lkt g' m * 8 + dst (zn z) (nxt (zn z) u) 0, by omega, Or.inr (Or.inl ⟨s0', Nat.le_refl _⟩)⟩
    · have := rm_le (g := g') (j := u)
      have := dl u hu
      refine ⟨rmj g' u * 8 + dst (zn z) (nxt (zn z) u) u, by omega, Or.inl ⟨u, hu, k1, k2, fun i e' he => ?_, Nat.le_refl _⟩⟩
      unfold esW at he
      rw [k3] at he
      simp at he
  · -- is looked at
    rcases GST.m2 h hu s s2 with em | s0'
    · have s2' : xS g' m = 2 := by unfold xS at s2 ⊢; rw [em]; exact s2
      have eD : xD g' m = xD g m := by unfold xD; rw [em]
      have eR : xR g' m = xR g m := by unfold xR; rw [em]
      have nc' : ¬ CUR z g' m := fun q => hc ⟨s2', q⟩
      by_cases ju : j = u
      · subst ju
        have rs := rm_s hF hG h hu (by omega) s
        obtain ⟨ho, s | s | s | s | s | s | s | s | s⟩ := s
        · have := s.1; omega
        · have := s.1; omega
        · have := s.1; omega
        · have := s.1; omega
        · have := s.1; omega
        · have := s.1; omega
        · exfalso
          obtain ⟨-, -, s3, -⟩ := s
          rw [j3] at s3
          rcases s3 with s3 | s3 | s3
          · exact s3 s2
          · exact s3 j4.symm
          · refine nc fun y hy => ?_
            obtain ⟨i, hi, ey⟩ := List.mem_iff_getElem.mp hy
            exact j6 i y (by omega) (by rw [List.getElem?_eq_getElem hi, ey])
        · obtain ⟨t1, ⟨t2, t3⟩, ⟨y, t4, t5⟩, t6, ⟨t7, t8, t9, t10⟩, -⟩ := s
          rw [j3] at t4 t5
          refine ⟨2 * S + rmj g' j * 8 + dst (zn z) (nxt (zn z) j) j, by omega, Or.inr (Or.inr (Or.inl ⟨s2', nc', j, j1, t7, by rw [t8]; exact j3, by rw [t9, eR]; exact j4, fun i y' hi hy => ?_, Nat.le_refl _⟩))⟩
          rw [eD] at hy
          rw [cr]
          by_cases c : i = wL g j
          · rw [c, t4] at hy
            rw [← Option.some.inj hy]; exact t5
          · exact j6 i y' (by omega) hy
        · exfalso
          obtain ⟨-, -, -, -, s5, -⟩ := s
          rw [j3] at s5
          unfold xS at s2'
          rw [s5] at s2'
          cases s2'
      · have ej := s.1 j ju
        obtain ⟨e1, e2⟩ := wk_o ej
        have := dst_n hu j1 ju
        have e3 : wN g' j = wN g j := by unfold wN; rw [ej]
        have e4 : wL g' j = wL g j := by unfold wL; rw [ej]
        have e5 := rm_e ej
        refine ⟨2 * S + rmj g' j * 8 + dst (zn z) (nxt (zn z) u) j, by omega, Or.inr (Or.inr (Or.inl ⟨s2', nc', j, j1, by rw [e1]; exact j2, by rw [e2]; exact j3, by rw [e3, eR]; exact j4, fun i y' hi hy => ?_, Nat.le_refl _⟩))⟩
        rw [eD] at hy
        rw [cr]
        exact j6 i y' (by omega) hy
    · have := lkt_le (g := g') (m := m) (by omega) hS
      have := dl 0 (by omega)
      exact ⟨S + lkt g' m * 8 + dst (zn z) (nxt (zn z) u) 0, by omega, Or.inr (Or.inl ⟨s0', Nat.le_refl _⟩)⟩
  · -- waits to be looked at
    rcases GST.m2 h hu s s2 with em | s0'
    · have s2' : xS g' m = 2 := by unfold xS at s2 ⊢; rw [em]; exact s2
      have nc' : ¬ CUR z g' m := fun q => hc ⟨s2', q⟩
      rcases ((h'.1 m h1 h2).2.2.1 s2').2 with v | ⟨j, j1, j2, j3, j4, j6⟩ | v
      · -- still
        have ql := qL_m p h hu s (fun k k1 k2 e3 => by
          have := (w3 k1).1
          rw [k2, e3] at this
          omega) (fun q e3 => by
          obtain ⟨-, -, -, -, s5, -⟩ := q
          rw [e3] at s5
          unfold xS at s2'
          rw [s5] at s2'
          cases s2')
        have key : lkt g' m * 8 + dst (zn z) (nxt (zn z) u) 0 < lkt g m * 8 + dst (zn z) u 0 := by
          by_cases u0 : (0 : Nat) = u
          · subst u0
            by_cases k0 : wK g 0 = 0
            · have r0 := rm_0 k0
              obtain ⟨ho, s | s | s | s | s | s | s | s | s⟩ := s
              · exfalso
                obtain ⟨-, -, -, -, q1, q2⟩ := s
                omega
              · obtain ⟨-, -, ⟨T, ⟨⟨q1, -⟩, -, q⟩, q2, q3, -⟩, k2, k3⟩ := s
                have r1 : rmj g' 0 = 27 := by unfold rmj; rw [k2, k3, if_neg (by decide), if_neg (by decide)]
                unfold lkt
                omega
              · exfalso
                obtain ⟨-, ⟨R, ⟨⟨-, q0, -⟩, -, q⟩, -, q3, q1, q2, -, q4, -⟩, -⟩ := s
                have : R ≤ m := by omega
                by_cases c : R = m
                · rw [c] at q2; omega
                · have := (p R (by have := h.2.2.2.1; omega) (by omega)).1
                  omega
              · have := s.1; omega
              · have := s.1; omega
              · have := s.1; omega
              · have := s.1; omega
              · have := s.1; omega
              · have := s.1; omega
            · have := rm_s hF hG h hu k0 s
              unfold lkt
              omega
          · have e3 := rm_e (s.1 0 u0)
            have := dst_n hu (show 0 < zn z by omega) u0
            unfold lkt
            omega
        exact ⟨3 * S + lkt g' m * 8 + dst (zn z) (nxt (zn z) u) 0, by omega, Or.inr (Or.inr (Or.inr (Or.inl ⟨s2', nc', v, Nat.le_refl _⟩)))⟩
      · have := rm_le (g := g') (j := j)
        have := dl j j1
        exact ⟨2 * S + rmj g' j * 8 + dst (zn z) (nxt (zn z) u) j, by omega, Or.inr (Or.inr (Or.inl ⟨s2', nc', j, j1, j2, j3, j4, j6, Nat.le_refl _⟩))⟩
      · exact absurd v nc'
    · have := lkt_le (g := g') (m := m) (by omega) hS
      have := dl 0 (by omega)
      exact ⟨S + lkt g' m * 8 + dst (zn z) (nxt (zn z) u) 0, by omega, Or.inr (Or.inl ⟨s0', Nat.le_refl _⟩)⟩
  · -- runs, and something is not right
    by_cases ju : j = u
    · subst ju
      rcases own j2 j3 with ⟨⟨s1, s2, s3, ⟨s5, s6, s7⟩, s8, s9, s10⟩, rs⟩ | s5
      · exact ⟨4 * S + rmj g' j * 8 + dst (zn z) (nxt (zn z) j) j, by omega, Or.inr (Or.inr (Or.inr (Or.inr ⟨j, j1, s5, by rw [s6]; exact j3, Nat.le_refl _⟩)))⟩
      · obtain ⟨s1, s2, ⟨r, MA', s3, s4, s5, s6⟩, -, -, -, -, s7⟩ := s5
        rw [j3] at s5 s7
        have s2' : xS g' m = 2 := by unfold xS; rw [s5]
        have := lkt_le (g := g') (m := m) (by omega) hS
        have := dl 0 (by omega)
        exact ⟨3 * S + lkt g' m * 8 + dst (zn z) (nxt (zn z) j) 0, by omega, Or.inr (Or.inr (Or.inr (Or.inl ⟨s2', fun q => hc ⟨s2', q⟩, by omega, Nat.le_refl _⟩)))⟩
    · obtain ⟨r1, r2, r3⟩ := run True (4 * S) j j1 j2 j3 ju j5
      exact ⟨4 * S + rmj g' j * 8 + dst (zn z) (nxt (zn z) u) j, by omega, Or.inr (Or.inr (Or.inr (Or.inr ⟨j, j1, r1, r2, Nat.le_refl _⟩)))⟩
end
