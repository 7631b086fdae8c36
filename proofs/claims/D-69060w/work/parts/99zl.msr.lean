/-! all transactions at once: how long it takes -/
/-- how long a worker's task lasts at most -/
def rmj (g : Gg) (j : Nat) : Nat := if wK g j = 0 then 0 else if wK g j = 1 then (if wB g j = true then 20001 - gas (wS g j) else 20002) else 27 - wL g j
/-- how far it is from worker u to worker i -/
def dst (n u i : Nat) : Nat := if u ≤ i then i - u else i + n - u
def nxt (n u : Nat) : Nat := if u + 1 = n then 0 else u + 1
theorem dst_s {n u : Nat} (hu : u < n) : dst n u u = 0 ∧ dst n (nxt n u) u = n - 1 := by
  unfold dst nxt
  refine ⟨by rw [if_pos (Nat.le_refl _)]; omega, ?_⟩
  split <;> split <;> omega
theorem dst_n {n u i : Nat} (hu : u < n) (hi : i < n) (h : i ≠ u) : dst n (nxt n u) i + 1 = dst n u i := by
  unfold dst nxt
  split <;> split <;> split <;> omega
theorem dst_l {n u i : Nat} (hu : u < n) (hi : i < n) : dst n u i < n := by
  unfold dst
  split <;> omega
theorem nxt_l {n u : Nat} (hu : u < n) : nxt n u < n := by
  unfold nxt
  split <;> omega
section
variable {z : Cz} {g g' : Gg} {j m : Nat}
theorem rm_0 (h : wK g j = 0) : rmj g j = 0 := by unfold rmj; rw [if_pos h]
theorem rm_e (e : g'.2.1 j = g.2.1 j) : rmj g' j = rmj g j := by unfold rmj wK wB wS wL; rw [e]
theorem rm_le : rmj g j ≤ 20002 := by
  unfold rmj
  split
  · omega
  · split
    · split <;> omega
    · omega
/-- a busy worker's task gets shorter -/
theorem rm_s (hF : ∀ t r, z.2.1 t r → r.2.2.1.length ≤ 26) (hG : ∀ t s, z.2.2.1 t s → gas s ≤ 20000) (h : IVG z g) (hj : j < zn z) (hk : wK g j ≠ 0) (s : GST z g j g') : rmj g' j < rmj g j := by
  obtain ⟨w1, w2, w3, w4⟩ := h.2.1 j hj
  have pos : 1 ≤ rmj g j := by
    unfold rmj
    rw [if_neg hk]
    split
    · rename_i k1
      split
      · rename_i hb
        have := hG _ _ ((w3 k1).2 hb).1
        omega
      · omega
    · have := (w4 (by omega)).2.2
      omega
  obtain ⟨ho, s | s | s | s | s | s | s | s | s⟩ := s
  · exact absurd s.1 hk
  · exact absurd s.1 hk
  · exact absurd s.1 hk
  · obtain ⟨s1, s2, -, ⟨s5, s6, s7⟩, s8, s9, s10⟩ := s
    have := hG _ _ s8
    unfold rmj
    rw [s5, s1, s7, if_neg (by decide), if_pos rfl, if_pos rfl, if_neg (by decide), if_pos rfl]
    split
    · rename_i hb
      have := s10 hb
      omega
    · omega
  · rw [rm_0 s.2.1]; exact pos
  · rw [rm_0 s.2.1]; exact pos
  · rw [rm_0 s.2.1]; exact pos
  · obtain ⟨s1, ⟨s2, s3⟩, ⟨y, s4, s5⟩, s6, ⟨s7, s8, s9, s10⟩, -⟩ := s
    obtain ⟨w6, w7⟩ := w2 (by omega)
    have hl := get_lt s4
    obtain ⟨⟨v1, -, v2, -⟩, -⟩ := (h.1 (wT g j) w6 w7).2.2.1 s2
    have l26 := hF _ _ v1
    unfold rmj
    rw [s7, s1, s10, if_neg (by decide), if_neg (by decide), if_neg (by decide), if_neg (by decide)]
    omega
  · rw [rm_0 s.2.1]; exact pos
/-- those before m are right -/
def PRE (z : Cz) (g : Gg) (m : Nat) : Prop := ∀ t, zf z ≤ t → t < m → xS g t = 2 ∧ CUR z g t
/-- they stay as they are -/
theorem PRE.e (p : PRE z g m) (h : IVG z g) (hj : j < zn z) (s : GST z g j g') : ∀ t, zf z ≤ t → t < m → g'.1 t = g.1 t := fun t t1 t2 => by
  obtain ⟨p1, p2⟩ := p t t1 t2
  obtain ⟨w1, w2, w3, w4⟩ := h.2.1 j hj
  obtain ⟨ho, s | s | s | s | s | s | s | s | s⟩ := s
  · rw [s.2.1]
  · rw [s.2.1]
  · obtain ⟨-, ⟨R, -, -, -, -, r1, -, -, r2⟩, -⟩ := s
    exact r2 t (fun e => by rw [e, r1] at p1; cases p1)
  · rw [s.2.1]
  · obtain ⟨s1, s2, -, s3, -⟩ := s
    have := (w3 s1).1
    rw [s3 t (fun e => by rw [e] at p1; omega), if_neg (fun q => by have := q.2.2.1; omega)]
    rfl
  · obtain ⟨s1, s2, -, s3, -⟩ := s
    have := (w3 s1).1
    exact s3 t (fun e => by rw [e] at p1; omega)
  · rw [s.2.2.2.1]
  · rw [s.2.2.2.1]
  · obtain ⟨s1, s2, s3, ⟨y, s4, s5⟩, -, s6, -⟩ := s
    refine s6 t (fun e => ?_)
    rw [← e] at s4 s5
    exact s5 (p2 y (List.mem_of_getElem? s4))
theorem PRE.crn {t : Nat} (e : ∀ t, zf z ≤ t → t < m → g'.1 t = g.1 t) (ht : t ≤ m) (y : Pc × Int32 × Int32) : crn (xL g') (xN g') (zf z) t y ↔ crn (xL g) (xN g) (zf z) t y :=
  crn_c (fun k k1 k2 => by
    have := e k k1 (by omega)
    exact ⟨by unfold xL; rw [this], by unfold xN xR; rw [this]⟩)
theorem PRE.st (p : PRE z g m) (e : ∀ t, zf z ≤ t → t < m → g'.1 t = g.1 t) : PRE z g' m := fun t t1 t2 => by
  obtain ⟨p1, p2⟩ := p t t1 t2
  have et := e t t1 t2
  refine ⟨by unfold xS at p1 ⊢; rw [et]; exact p1, fun y hy => ?_⟩
  rw [PRE.crn e (by omega)]
  unfold xD at hy
  rw [et] at hy
  exact p2 y hy
/-- all that a run has read is right -/
def FRS (z : Cz) (g : Gg) (j : Nat) : Prop := ∀ (i : Nat) (e : En), (esW g j)[i]? = some e → crn (xL g) (xN g) (zf z) (wT g j) (e.1, (wM g j).2.2.2 i)
def lkt (g : Gg) (m : Nat) : Nat := rmj g 0 + 28 * (m + 1 - qL g)
/-- the stages of the first one that is not right -/
def STG (z : Cz) (g : Gg) (S u m w : Nat) : Prop :=
  (∃ j, j < zn z ∧ wK g j = 1 ∧ wT g j = m ∧ FRS z g j ∧ rmj g j * 8 + dst (zn z) u j ≤ w) ∨
  (xS g m = 0 ∧ S + lkt g m * 8 + dst (zn z) u 0 ≤ w) ∨
  (xS g m = 2 ∧ ¬ CUR z g m ∧ ∃ j, j < zn z ∧ wK g j = 2 ∧ wT g j = m ∧ wN g j = xR g m ∧ (∀ (i : Nat) (y : Pc × Int32 × Int32), i < wL g j → (xD g m)[i]? = some y → crn (xL g) (xN g) (zf z) m y) ∧ 2 * S + rmj g j * 8 + dst (zn z) u j ≤ w) ∨
  (xS g m = 2 ∧ ¬ CUR z g m ∧ qL g ≤ m ∧ 3 * S + lkt g m * 8 + dst (zn z) u 0 ≤ w) ∨
  ∃ j, j < zn z ∧ wK g j = 1 ∧ wT g j = m ∧ 4 * S + rmj g j * 8 + dst (zn z) u j ≤ w
/-- there is a stage -/
theorem STG.ex {S u : Nat} (h : IVG z g) (p : PRE z g m) (h1 : zf z ≤ m) (h2 : m < zl z) (h32 : zl z ≤ 32) (hu : u < zn z) (h8 : zn z ≤ 8) (hS : (20002 + 28 * 33) * 8 + 8 ≤ S) (hc : ¬ (xS g m = 2 ∧ CUR z g m)) : ∃ w, w < 5 * S ∧ STG z g S u m w := by
  obtain ⟨⟨a1, a2⟩, -, a3, a4, a5, a6⟩ := h.1 m h1 h2
  have lk : lkt g m ≤ 20002 + 28 * 33 := by
    have := rm_le (g := g) (j := 0)
    unfold lkt; omega
  have d0 := dst_l (i := 0) hu (by omega)
  have c : xS g m = 0 ∨ xS g m = 1 ∨ xS g m = 2 ∨ xS g m = 3 := by omega
  rcases c with c | c | c | c
  · exact ⟨S + lkt g m * 8 + dst (zn z) u 0, by omega, Or.inr (Or.inl ⟨c, Nat.le_refl _⟩)⟩
  · obtain ⟨j, j1, j2, j3⟩ := a6 c
    have := rm_le (g := g) (j := j)
    have dj := dst_l (i := j) hu j1
    exact ⟨4 * S + rmj g j * 8 + dst (zn z) u j, by omega, Or.inr (Or.inr (Or.inr (Or.inr ⟨j, j1, j2, j3, Nat.le_refl _⟩)))⟩
  · have nc : ¬ CUR z g m := fun q => hc ⟨c, q⟩
    rcases (a3 c).2 with v | ⟨j, j1, j2, j3, j4, j5⟩ | v
    · exact ⟨3 * S + lkt g m * 8 + dst (zn z) u 0, by omega, Or.inr (Or.inr (Or.inr (Or.inl ⟨c, nc, v, Nat.le_refl _⟩)))⟩
    · have := rm_le (g := g) (j := j)
      have dj := dst_l (i := j) hu j1
      exact ⟨2 * S + rmj g j * 8 + dst (zn z) u j, by omega, Or.inr (Or.inr (Or.inl ⟨c, nc, j, j1, j2, j3, j4, j5, Nat.le_refl _⟩))⟩
    · exact absurd v nc
  · obtain ⟨q1, q2, q3⟩ := a5 c
    exact absurd (p _ q1 q2).1 q3
end
