/-! all transactions at once: the end -/
def smr (g : Gg) : Nat → Nat
  | 0 => 0
  | k + 1 => smr g k + rmj g k
def TOT (z : Cz) (g : Gg) : Nat := smr g (zn z) + 28 * (zl z - qL g) + (zl z - qR g)
/-- all are right: workers come to rest -/
def FNG (z : Cz) (g : Gg) (u w : Nat) : Prop := (∃ j, j < zn z ∧ wK g j ≠ 0 ∧ TOT z g * 8 + dst (zn z) u j ≤ w) ∨ ((∀ j, j < zn z → wK g j = 0) ∧ TOT z g * 8 ≤ w)
section
variable {z : Cz} {g g' : Gg} {m u : Nat}
theorem smr_e {j : Nat} (h : ∀ i, i ≠ j → rmj g' i = rmj g i) : ∀ k, if j < k then smr g' k + rmj g j = smr g k + rmj g' j else smr g' k = smr g k
  | 0 => by rw [if_neg (Nat.not_lt_zero _)]; rfl
  | k + 1 => by
    have ih := smr_e h k
    show if j < k + 1 then smr g' k + rmj g' k + rmj g j = smr g k + rmj g k + rmj g' j else smr g' k + rmj g' k = smr g k + rmj g k
    by_cases c : j = k
    · subst c
      rw [if_neg (Nat.lt_irrefl _)] at ih
      rw [if_pos (by omega)]
      omega
    · have e := h k (fun z => c z.symm)
      by_cases c2 : j < k
      · rw [if_pos c2] at ih
        rw [if_pos (by omega)]
        omega
      · rw [if_neg c2] at ih
        rw [if_neg (by omega)]
        omega
theorem smr_le {b : Nat} : ∀ k, (∀ i, i < k → rmj g i ≤ b) → smr g k ≤ k * b
  | 0, _ => Nat.zero_le _
  | k + 1, h => by
    have ih := smr_le k (fun i hi => h i (by omega))
    have := h k (by omega)
    rw [Nat.succ_mul]
    show smr g k + rmj g k ≤ _
    omega
theorem PRE.nr (p : PRE z g (zl z)) (h : IVG z g) {j : Nat} (hj : j < zn z) : wK g j ≠ 1 := fun k => by
  obtain ⟨-, w2, w3, -⟩ := h.2.1 j hj
  have := (w3 k).1
  obtain ⟨a, b⟩ := w2 (by omega)
  have := (p _ a b).1
  omega
theorem FNG.ex {S : Nat} (h : IVG z g) (p : PRE z g (zl z)) (h32 : zl z ≤ 32) (hu : u < zn z) (h8 : zn z ≤ 8) (hS : (20002 + 28 * 33) * 8 + 8 ≤ S) : ∃ w, w < 5 * S ∧ FNG z g u w := by
  have r27 : ∀ j, j < zn z → rmj g j ≤ 27 := fun j hj => by
    have := p.nr h hj
    unfold rmj
    by_cases k : wK g j = 0
    · rw [if_pos k]; omega
    · rw [if_neg k, if_neg this]; omega
  have sm := smr_le (zn z) r27
  have sb : zn z * 27 ≤ 216 := by omega
  have tt : TOT z g ≤ 1200 := by unfold TOT; omega
  by_cases c : ∃ j, j < zn z ∧ wK g j ≠ 0
  · obtain ⟨j, j1, j2⟩ := c
    have := dst_l hu j1
    exact ⟨TOT z g * 8 + dst (zn z) u j, by omega, Or.inl ⟨j, j1, j2, Nat.le_refl _⟩⟩
  · exact ⟨TOT z g * 8, by omega, Or.inr ⟨fun j hj => by
      by_cases k : wK g j = 0
      · exact k
      · exact absurd ⟨j, hj, k⟩ c, Nat.le_refl _⟩⟩
/-- whatever stands now -/
theorem FNG.mk {w : Nat} (hu : u < zn z) (h8 : zn z ≤ 8) (ht : TOT z g * 8 + 8 ≤ w) : ∃ w', w' < w ∧ FNG z g u w' := by
  by_cases c : ∃ j, j < zn z ∧ wK g j ≠ 0
  · obtain ⟨j, j1, j2⟩ := c
    have := dst_l hu j1
    exact ⟨TOT z g * 8 + dst (zn z) u j, by omega, Or.inl ⟨j, j1, j2, Nat.le_refl _⟩⟩
  · exact ⟨TOT z g * 8, by omega, Or.inr ⟨fun j hj => by
      by_cases k : wK g j = 0
      · exact k
      · exact absurd ⟨j, hj, k⟩ c, Nat.le_refl _⟩⟩
theorem FNG.step {w : Nat} (hF : ∀ t r, z.2.1 t r → r.2.2.1.length ≤ 26) (hG : ∀ t s, z.2.2.1 t s → gas s ≤ 20000) (h : IVG z g) (p : PRE z g (zl z)) (hu : u < zn z) (h8 : zn z ≤ 8) (s : GST z g u g') (hl : (∃ j, j < zn z ∧ wK g j ≠ 0) ∨ qR g < zl z ∨ qL g < zl z) (g0 : FNG z g u w) : ∃ w', w' < w ∧ FNG z g' (nxt (zn z) u) w' := by
  have tw : TOT z g * 8 ≤ w := by
    rcases g0 with ⟨j, -, -, q⟩ | ⟨-, q⟩ <;> omega
  have sm : smr g' (zn z) + rmj g u = smr g (zn z) + rmj g' u := by
    have := smr_e (g := g) (g' := g') (j := u) (fun i hi => rm_e (s.1 i hi)) (zn z)
    rw [if_pos hu] at this
    exact this
  obtain ⟨w1, w2, w3, w4⟩ := h.2.1 u hu
  have d := h.2.2.2
  have rs := fun k => rm_s hF hG h hu k s
  obtain ⟨ho, s | s | s | s | s | s | s | s | s⟩ := s
  · obtain ⟨s1, s2, s3, ⟨⟨q1, q2, -⟩, -⟩, q3, q4⟩ := s
    have e := rm_e s3
    by_cases c : ∃ j, j < zn z ∧ wK g j ≠ 0
    · have cj : ∃ j, j < zn z ∧ wK g j ≠ 0 ∧ TOT z g * 8 + dst (zn z) u j ≤ w := by
        rcases g0 with q | ⟨q, -⟩
        · exact q
        · obtain ⟨j, j1, j2⟩ := c
          exact absurd (q j j1) j2
      obtain ⟨j, j1, j2, j3⟩ := cj
      have ju : j ≠ u := fun q => by rw [q] at j2; exact j2 s1
      obtain ⟨e1, e2⟩ := wk_o (ho j ju)
      have := dst_n hu j1 ju
      refine ⟨TOT z g' * 8 + dst (zn z) (nxt (zn z) u) j, ?_, Or.inl ⟨j, j1, by rw [e1]; exact j2, Nat.le_refl _⟩⟩
      have : TOT z g' ≤ TOT z g := by unfold TOT; omega
      omega
    · have : TOT z g' + 1 ≤ TOT z g := by
        have := hl.resolve_left c
        unfold TOT; omega
      exact FNG.mk (nxt_l hu) h8 (by omega)
  · obtain ⟨s1, s2, ⟨T, ⟨⟨q1, q2, -, -, q5⟩, -⟩, q3, q4, -⟩, k2, k3⟩ := s
    have r0 := rm_0 s1
    have r1 : rmj g' u = 27 := by unfold rmj; rw [k2, k3, if_neg (by decide), if_neg (by decide)]
    have q5 := q5 d.2.2.1
    have : TOT z g' + 1 ≤ TOT z g := by unfold TOT; omega
    exact FNG.mk (nxt_l hu) h8 (by omega)
  · exfalso
    obtain ⟨-, ⟨R, ⟨⟨-, q0, -⟩, -⟩, -, -, q1, q2, -⟩, -⟩ := s
    have := (p R (by omega) q1).1
    omega
  · exact absurd s.1 (p.nr h hu)
  · exact absurd s.1 (p.nr h hu)
  · exact absurd s.1 (p.nr h hu)
  · have r := rs (by have := s.1; omega)
    obtain ⟨-, -, -, -, q1, q2⟩ := s
    have : TOT z g' + 1 ≤ TOT z g := by unfold TOT; omega
    exact FNG.mk (nxt_l hu) h8 (by omega)
  · have r := rs (by have := s.1; omega)
    obtain ⟨-, -, -, -, -, q1, q2⟩ := s
    have : TOT z g' + 1 ≤ TOT z g := by unfold TOT; omega
    exact FNG.mk (nxt_l hu) h8 (by omega)
  · exfalso
    obtain ⟨s1, -, -, ⟨y, s5, s6⟩, -⟩ := s
    obtain ⟨a, b⟩ := w2 (by omega)
    exact s6 ((p _ a b).2 y (List.mem_of_getElem? s5))
/-- how far the end is -/
def MSN (z : Cz) (g : Gg) (S u v : Nat) : Prop := ∃ m w, zf z ≤ m ∧ m ≤ zl z ∧ PRE z g m ∧ (zl z - m) * (5 * S) + w ≤ v ∧ w < 5 * S ∧ ((m < zl z ∧ STG z g S u m w) ∨ (m = zl z ∧ FNG z g u w))
theorem MSN.ex {S : Nat} (h : IVG z g) (h32 : zl z ≤ 32) (hu : u < zn z) (h8 : zn z ≤ 8) (hS : (20002 + 28 * 33) * 8 + 8 ≤ S) : ∀ (k m : Nat), k + m = zl z → zf z ≤ m → PRE z g m → ∃ v, v < (zl z - m) * (5 * S) + 5 * S ∧ MSN z g S u v := by
  intro k
  induction k with
  | zero =>
    intro m hm h1 p
    have e : m = zl z := by omega
    subst e
    obtain ⟨w, w1, w2⟩ := FNG.ex h p h32 hu h8 hS
    exact ⟨_, by omega, zl z, w, h1, Nat.le_refl _, p, Nat.le_refl _, w1, Or.inr ⟨rfl, w2⟩⟩
  | succ k ih =>
    intro m hm h1 p
    have e : zl z - m = (zl z - (m + 1)) + 1 := by omega
    by_cases c : xS g m = 2 ∧ CUR z g m
    · obtain ⟨v, v1, v2⟩ := ih (m + 1) (by omega) (by omega) (fun t t1 t2 => by
        by_cases q : t = m
        · rw [q]; exact c
        · exact p t t1 (by omega))
      refine ⟨v, ?_, v2⟩
      rw [e, Nat.succ_mul]
      omega
    · obtain ⟨w, w1, w2⟩ := STG.ex (S := S) (u := u) h p h1 (by omega) h32 hu h8 hS c
      exact ⟨_, by omega, m, w, h1, by omega, p, Nat.le_refl _, w1, Or.inl ⟨by omega, w2⟩⟩
theorem MSN.step {S v : Nat} (hF : ∀ t r, z.2.1 t r → r.2.2.1.length ≤ 26) (hG : ∀ t s, z.2.2.1 t s → gas s ≤ 20000) (h : IVG z g) (h32 : zl z ≤ 32) (hu : u < zn z) (h8 : zn z ≤ 8) (hS : (20002 + 28 * 33) * 8 + 8 ≤ S) (s : GST z g u g') (hl : (∃ j, j < zn z ∧ wK g j ≠ 0) ∨ qR g < zl z ∨ qL g < zl z) (g0 : MSN z g S u v) : ∃ v', v' < v ∧ MSN z g' S (nxt (zn z) u) v' := by
  have h' := h.step hF hu s
  obtain ⟨m, w, m1, m2, p, m3, m4, m5⟩ := g0
  have e := p.e h hu s
  have p' := p.st e
  rcases m5 with ⟨m5, m6⟩ | ⟨m5, m6⟩
  · by_cases c : xS g' m = 2 ∧ CUR z g' m
    · have ee : zl z - m = (zl z - (m + 1)) + 1 := by omega
      obtain ⟨v', v1, v2⟩ := MSN.ex (S := S) h' h32 (nxt_l hu) h8 hS (zl z - (m + 1)) (m + 1) (by omega) (by omega) (fun t t1 t2 => by
        by_cases q : t = m
        · rw [q]; exact c
        · exact p' t t1 (by omega))
      refine ⟨v', ?_, v2⟩
      rw [ee, Nat.succ_mul] at m3
      omega
    · obtain ⟨w', w1, w2⟩ := STG.step hF hG h h' p m1 m5 h32 hu h8 hS s c m6
      exact ⟨(zl z - m) * (5 * S) + w', by omega, m, w', m1, m2, p', Nat.le_refl _, by omega, Or.inl ⟨m5, w2⟩⟩
  · subst m5
    obtain ⟨w', w1, w2⟩ := FNG.step hF hG h p hu h8 s hl m6
    exact ⟨(zl z - zl z) * (5 * S) + w', by omega, zl z, w', m1, m2, p', Nat.le_refl _, by omega, Or.inr ⟨rfl, w2⟩⟩
/-- runs are counted one by one -/
theorem GST.xr {j : Nat} (s : GST z g j g') (k : Nat) : xR g' k ≤ xR g k + 1 := by
  obtain ⟨ho, s | s | s | s | s | s | s | s | s⟩ := s
  · unfold xR; rw [s.2.1]; omega
  · unfold xR; rw [s.2.1]; omega
  · obtain ⟨-, ⟨R, -, -, -, -, -, -, r1, r2⟩, -⟩ := s
    by_cases e : k = R
    · unfold xR; rw [e, r1]; show (g.1 R).1.2.1 ≤ _; omega
    · unfold xR; rw [r2 k e]; omega
  · unfold xR; rw [s.2.1]; omega
  · obtain ⟨s1, s2, ⟨r, MA', -, -, s5, -⟩, s3, -⟩ := s
    by_cases e : k = wT g j
    · unfold xR; rw [e, s5]; show (g.1 (wT g j)).1.2.1 ≤ _; omega
    · unfold xR; rw [s3 k e]; show (g.1 k).1.2.1 ≤ _; omega
  · obtain ⟨s1, s2, ⟨q, p, -, s5⟩, s3, -⟩ := s
    by_cases e : k = wT g j
    · unfold xR; rw [e, s5]; exact Nat.le_refl _
    · unfold xR; rw [s3 k e]; omega
  · unfold xR; rw [s.2.2.2.1]; omega
  · unfold xR; rw [s.2.2.2.1]; omega
  · obtain ⟨s1, s2, -, -, s5, s6, -⟩ := s
    by_cases e : k = wT g j
    · unfold xR; rw [e, s5]; exact Nat.le_refl _
    · unfold xR; rw [s6 k e]; omega
/-- when nothing is left to do, all are right -/
theorem IVG.end (h : IVG z g) (hi : ∀ j, j < zn z → wK g j = 0) (h1 : zl z ≤ qR g) (h2 : zl z ≤ qL g) : PRE z g (zl z) := by
  intro t
  induction t using Nat.strongRecOn with
  | _ t ih =>
    intro t1 t2
    obtain ⟨⟨a1, a2⟩, -, a3, a4, a5, a6⟩ := h.1 t t1 t2
    have c : xS g t = 0 ∨ xS g t = 1 ∨ xS g t = 2 ∨ xS g t = 3 := by omega
    rcases c with c | c | c | c
    · have := a4 c; omega
    · obtain ⟨j, j1, j2, -⟩ := a6 c
      have := hi j j1
      omega
    · refine ⟨c, ?_⟩
      rcases (a3 c).2 with v | ⟨j, j1, j2, -⟩ | v
      · omega
      · have := hi j j1
        omega
      · exact v
    · obtain ⟨q1, q2, q3⟩ := a5 c
      exact absurd (ih _ q2 q1 (by omega)).1 q3
/-- what one that is right has read is what lies there -/
theorem IVG.res {t : Nat} (h : IVG z g) (h32 : zl z ≤ 32) (hb : ∀ k, zf z ≤ k → k < zl z → xR g k < 2147483648) (p : PRE z g (zl z)) (h1 : zf z ≤ t) (h2 : t < zl z) : z.2.1 t (xO g t) ∧ xL g t = z.2.2.2 t (xO g t) ∧ ∀ e ∈ (xO g t).2.2.1, vew (zst z) (xL g) (zf z) t e.1 = e.2.1 := by
  obtain ⟨p1, p2⟩ := p t h1 h2
  obtain ⟨a, b, c, d⟩ := ((h.1 t h1 h2).2.2.1 p1).1
  refine ⟨a, b, fun e he => ?_⟩
  obtain ⟨i, hi, ei⟩ := List.mem_iff_getElem.mp he
  have hi2 : i < (xD g t).length := by omega
  obtain ⟨d1, d2⟩ := d i e ((xD g t)[i]) (by rw [List.getElem?_eq_getElem hi, ei]) (List.getElem?_eq_getElem hi2)
  refine d2.cur (by omega) (fun k k1 k2 => hb k k1 (by omega)) ?_
  have := p2 _ (List.getElem_mem hi2)
  rw [← d1]
  exact this
end
