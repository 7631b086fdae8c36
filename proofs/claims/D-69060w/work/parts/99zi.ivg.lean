/-! all transactions at once: what stays true -/
/-- (state, first, last, workers), ended runs, runs under way, what is left behind -/
abbrev Cz : Type := (Lw × Nat × Nat × Nat) × (Nat → TxR → Prop) × (Nat → Ms → Prop) × (Nat → TxR → Lw)
abbrev zst (z : Cz) : Lw := z.1.1
abbrev zf (z : Cz) : Nat := z.1.2.1
abbrev zl (z : Cz) : Nat := z.1.2.2.1
abbrev zn (z : Cz) : Nat := z.1.2.2.2
def CUR (z : Cz) (g : Gg) (t : Nat) : Prop := ∀ y ∈ xD g t, crn (xL g) (xN g) (zf z) t y
def SEL (z : Cz) (g : Gg) (t : Nat) : Prop := z.2.1 t (xO g t) ∧ xL g t = z.2.2.2 t (xO g t) ∧ (xD g t).length = (xO g t).2.2.1.length ∧ ∀ (i : Nat) (e : En) (q : Pc × Int32 × Int32), (xO g t).2.2.1[i]? = some e → (xD g t)[i]? = some q → q.1 = e.1 ∧ SRq (zst z) (zf z) t g e.1 e.2.1 q.2
def VLD (z : Cz) (g : Gg) (t : Nat) : Prop := qL g ≤ t ∨ (∃ j, j < zn z ∧ wK g j = 2 ∧ wT g j = t ∧ wN g j = xR g t ∧ ∀ (i : Nat) (y : Pc × Int32 × Int32), i < wL g j → (xD g t)[i]? = some y → crn (xL g) (xN g) (zf z) t y) ∨ CUR z g t
def IVT (z : Cz) (g : Gg) (t : Nat) : Prop := (xS g t < 4 ∧ 1 ≤ xR g t) ∧ (∀ y ∈ xL g t, (y.2.2 = true ↔ xS g t ≠ 2)) ∧ (xS g t = 2 → SEL z g t ∧ VLD z g t) ∧ (xS g t = 0 → qR g ≤ t) ∧ (xS g t = 3 → zf z ≤ xH g t ∧ xH g t < t ∧ xS g (xH g t) ≠ 2) ∧ (xS g t = 1 → ∃ j, j < zn z ∧ wK g j = 1 ∧ wT g j = t)
def SRE (z : Cz) (g : Gg) (t : Nat) (es : List En) (MA : Ma) : Prop := ∀ (i : Nat) (e : En), es[i]? = some e → SRq (zst z) (zf z) t g e.1 e.2.1 (MA.2.2.2 i)
def IVW (z : Cz) (g : Gg) (j : Nat) : Prop := wK g j < 3 ∧ (wK g j ≠ 0 → zf z ≤ wT g j ∧ wT g j < zl z) ∧ (wK g j = 1 → xS g (wT g j) = 1 ∧ (wB g j = true → z.2.2.1 (wT g j) (wS g j) ∧ SRE z g (wT g j) (ens (wS g j)) (wM g j))) ∧ (wK g j = 2 → wN g j ≤ xR g (wT g j) ∧ (wN g j = xR g (wT g j) → xS g (wT g j) = 2 ∧ wL g j ≤ (xD g (wT g j)).length) ∧ wL g j ≤ 26)
def IVG (z : Cz) (g : Gg) : Prop := (∀ t, zf z ≤ t → t < zl z → IVT z g t) ∧ (∀ j, j < zn z → IVW z g j) ∧ (∀ i j, i < zn z → j < zn z → wK g i = 1 → wK g j = 1 → wT g i = wT g j → i = j) ∧ (zf z ≤ qR g ∧ zf z ≤ qL g ∧ qR g ≤ zl z ∧ qL g ≤ 32)
section
variable {z : Cz} {g g' : Gg} {t : Nat}
/-- what was right is right; a worker that looks on is the same, or has looked -/
theorem VLD.mv (h : VLD z g t) (eD : xD g' t = xD g t) (eR : xR g' t = xR g t) (cc : ∀ y, crn (xL g) (xN g) (zf z) t y → crn (xL g') (xN g') (zf z) t y) (q : qL g ≤ t → VLD z g' t) (w : ∀ j, j < zn z → wK g j = 2 → wT g j = t → wN g j = xR g t → (∀ (i : Nat) (y : Pc × Int32 × Int32), i < wL g j → (xD g t)[i]? = some y → crn (xL g) (xN g) (zf z) t y) → g'.2.1 j = g.2.1 j ∨ VLD z g' t) : VLD z g' t := by
  rcases h with h | ⟨j, h1, h2, h3, h4, h5⟩ | h
  · exact q h
  · rcases w j h1 h2 h3 h4 h5 with e2 | e2
    · refine Or.inr (Or.inl ⟨j, h1, by unfold wK; rw [e2]; exact h2, by unfold wT; rw [e2]; exact h3, by unfold wN; rw [e2, eR]; exact h4, fun i y hi hy => cc y ?_⟩)
      rw [eD] at hy
      exact h5 i y (by unfold wL at hi ⊢; rw [← e2]; exact hi) hy
    · exact e2
  · refine Or.inr (Or.inr fun y hy => cc y ?_)
    rw [eD] at hy
    exact h y hy
theorem SEL.mv (h : SEL z g t) (e : g'.1 t = g.1 t) (mo : ∀ k, zf z ≤ k → k < t → GMO g g' k) : SEL z g' t := by
  obtain ⟨a, b, c, d⟩ := h
  have e1 : xO g' t = xO g t := by unfold xO; rw [e]
  have e2 : xL g' t = xL g t := by unfold xL; rw [e]
  have e3 : xD g' t = xD g t := by unfold xD; rw [e]
  refine ⟨by rw [e1]; exact a, by rw [e1, e2]; exact b, by rw [e1, e3]; exact c, fun i x q hx hq => ?_⟩
  rw [e1] at hx
  rw [e3] at hq
  obtain ⟨d1, d2⟩ := d i x q hx hq
  exact ⟨d1, d2.keep mo⟩
theorem SRE.mv {es : List En} {MA : Ma} (h : SRE z g t es MA) (mo : ∀ k, zf z ≤ k → k < t → GMO g g' k) : SRE z g' t es MA := fun i e he => (h i e he).keep mo
theorem IVT.mv (h : IVT z g t) (e : g'.1 t = g.1 t) (mo : ∀ k, zf z ≤ k → k < t → GMO g g' k) (vl : xS g t = 2 → VLD z g t → VLD z g' t) (rr : xS g t = 0 → qR g ≤ t → qR g' ≤ t) (hl : xS g t = 3 → xS g (xH g t) ≠ 2 → xS g' (xH g t) ≠ 2) (wk : xS g t = 1 → (∃ j, j < zn z ∧ wK g j = 1 ∧ wT g j = t) → ∃ j, j < zn z ∧ wK g' j = 1 ∧ wT g' j = t) : IVT z g' t := by
  obtain ⟨⟨a1, a2⟩, b, c, d, f, w⟩ := h
  have e0 : xS g' t = xS g t := by unfold xS; rw [e]
  have e2 : xL g' t = xL g t := by unfold xL; rw [e]
  have e3 : xR g' t = xR g t := by unfold xR; rw [e]
  have e4 : xH g' t = xH g t := by unfold xH; rw [e]
  refine ⟨⟨by rw [e0]; exact a1, by rw [e3]; exact a2⟩, by rw [e2, e0]; exact b, fun y => ?_, fun y => ?_, fun y => ?_, fun y => ?_⟩
  · rw [e0] at y
    obtain ⟨c1, c2⟩ := c y
    exact ⟨c1.mv e mo, vl y c2⟩
  · rw [e0] at y; exact rr y (d y)
  · rw [e0] at y
    obtain ⟨f1, f2, f3⟩ := f y
    rw [e4]
    exact ⟨f1, f2, hl y f3⟩
  · rw [e0] at y; exact wk y (w y)
theorem IVW.mv {i : Nat} (h : IVW z g i) (e : g'.2.1 i = g.2.1 i) (mo : wK g i = 1 → ∀ k, zf z ≤ k → k < wT g i → GMO g g' k) (s1 : wK g i = 1 → xS g (wT g i) = 1 → xS g' (wT g i) = 1) (s2 : wK g i = 2 → xR g (wT g i) ≤ xR g' (wT g i) ∧ (xR g' (wT g i) = xR g (wT g i) → xS g (wT g i) = 2 → xS g' (wT g i) = 2 ∧ xD g' (wT g i) = xD g (wT g i))) : IVW z g' i := by
  obtain ⟨a, b, c, d⟩ := h
  have e0 : wK g' i = wK g i := by unfold wK; rw [e]
  have e1 : wT g' i = wT g i := by unfold wT; rw [e]
  have e2 : wN g' i = wN g i := by unfold wN; rw [e]
  have e3 : wL g' i = wL g i := by unfold wL; rw [e]
  have e4 : wB g' i = wB g i := by unfold wB; rw [e]
  have e5 : wS g' i = wS g i := by unfold wS; rw [e]
  have e6 : wM g' i = wM g i := by unfold wM; rw [e]
  refine ⟨by rw [e0]; exact a, by rw [e0, e1]; exact b, fun y => ?_, fun y => ?_⟩
  · rw [e0] at y
    obtain ⟨c1, c2⟩ := c y
    rw [e1, e4, e5, e6]
    refine ⟨s1 y c1, fun yb => ?_⟩
    obtain ⟨c3, c4⟩ := c2 yb
    exact ⟨c3, c4.mv (mo y)⟩
  · rw [e0] at y
    obtain ⟨d1, d2, d3⟩ := d y
    obtain ⟨s3, s4⟩ := s2 y
    rw [e1, e2, e3]
    refine ⟨by omega, fun q => ?_, d3⟩
    obtain ⟨d4, d5⟩ := d2 (by omega)
    obtain ⟨s5, s6⟩ := s4 (by omega) d4
    exact ⟨s5, by rw [s6]; exact d5⟩
/-! the steps -/
/-- entries of a run that goes on: as they were, or read just now -/
def ENN (z : Cz) (g : Gg) (t : Nat) (es : List En) (MA : Ma) (es' : List En) (MA' : Ma) : Prop := ∀ (i : Nat) (e' : En), es'[i]? = some e' → (∃ e, es[i]? = some e ∧ e'.1 = e.1 ∧ e'.2.1 = e.2.1 ∧ MA'.2.2.2 i = MA.2.2.2 i) ∨ (gss (xL g) (zf z) t e'.1 = none ∧ e'.2.1 = vew (zst z) (xL g) (zf z) t e'.1 ∧ MA'.2.2.2 i = sce (xL g) (xN g) (zf z) t e'.1)
def esW (g : Gg) (j : Nat) : List En := if wB g j = true then ens (wS g j) else []
def SK1 (z : Cz) (g : Gg) (j : Nat) (g' : Gg) : Prop := wK g j = 0 ∧ g'.1 = g.1 ∧ g'.2.1 j = g.2.1 j ∧ TKf (zl z) (xS g) (qL g) (qR g) (qL g') (qR g') ∧ qR g' ≤ qL g' ∧ zl z ≤ qR g'
def SK2 (z : Cz) (g : Gg) (j : Nat) (g' : Gg) : Prop := wK g j = 0 ∧ g'.1 = g.1 ∧ (∃ T, TKf (zl z) (xS g) (qL g) (qR g) T (qR g') ∧ qL g' = T + 1 ∧ T < qR g' ∧ xS g T = 2 ∧ wT g' j = T ∧ wN g' j = xR g T) ∧ wK g' j = 2 ∧ wL g' j = 0
def SK3 (z : Cz) (g : Gg) (j : Nat) (g' : Gg) : Prop := wK g j = 0 ∧ (∃ R, TKf (zl z) (xS g) (qL g) (qR g) (qL g') R ∧ qR g' = R + 1 ∧ R ≤ qL g' ∧ R < zl z ∧ xS g R = 0 ∧ wT g' j = R ∧ g'.1 R = ((1, xR g R, xH g R), (g.1 R).2) ∧ ∀ k, k ≠ R → g'.1 k = g.1 k) ∧ wK g' j = 1 ∧ wB g' j = false
def SK4 (z : Cz) (g : Gg) (j : Nat) (g' : Gg) : Prop := wK g j = 1 ∧ g'.1 = g.1 ∧ (qR g' = qR g ∧ qL g' = qL g) ∧ (wK g' j = 1 ∧ wT g' j = wT g j ∧ wB g' j = true) ∧ z.2.2.1 (wT g j) (wS g' j) ∧ ENN z g (wT g j) (esW g j) (wM g j) (ens (wS g' j)) (wM g' j) ∧ (wB g j = true → gas (wS g j) < gas (wS g' j))
def SK5 (z : Cz) (g : Gg) (j : Nat) (g' : Gg) : Prop := wK g j = 1 ∧ wK g' j = 0 ∧ (∃ r MA', z.2.1 (wT g j) r ∧ ENN z g (wT g j) (esW g j) (wM g j) r.2.2.1 MA' ∧ g'.1 (wT g j) = ((2, xR g (wT g j), xH g (wT g j)), z.2.2.2 (wT g j) r, r.2.2.1.mapIdx (fun e x => (x.1, MA'.2.2.2 e)), r) ∧ ∀ y ∈ z.2.2.2 (wT g j) r, y.2.2 = false) ∧ (∀ k, k ≠ wT g j → g'.1 k = ((if rlb (fun k => nI (xH g k)) (wT g j) (zl z) (xS g) k then 0 else xS g k, xR g k, xH g k), (g.1 k).2)) ∧ qR g' ≤ qR g ∧ (∀ k, rlb (fun k => nI (xH g k)) (wT g j) (zl z) (xS g) k → qR g' ≤ k) ∧ (wT g j < qR g' ∨ qR g' = qR g) ∧ qL g' = min (qL g) (wT g j)
def SK6 (z : Cz) (g : Gg) (j : Nat) (g' : Gg) : Prop := wK g j = 1 ∧ wK g' j = 0 ∧ (∃ k p, gss (xL g) (zf z) (wT g j) p = some k ∧ g'.1 (wT g j) = ((3, xR g (wT g j) + 1, k), (g.1 (wT g j)).2)) ∧ (∀ k, k ≠ wT g j → g'.1 k = g.1 k) ∧ qR g' = qR g ∧ qL g' = qL g
def SK7 (g : Gg) (j : Nat) (g' : Gg) : Prop := wK g j = 2 ∧ wK g' j = 0 ∧ (xS g (wT g j) ≠ 2 ∨ xR g (wT g j) ≠ wN g j ∨ wL g j = (xD g (wT g j)).length) ∧ g'.1 = g.1 ∧ qR g' = qR g ∧ qL g' = qL g
def SK8 (z : Cz) (g : Gg) (j : Nat) (g' : Gg) : Prop := wK g j = 2 ∧ (xS g (wT g j) = 2 ∧ xR g (wT g j) = wN g j) ∧ (∃ y, (xD g (wT g j))[wL g j]? = some y ∧ crn (xL g) (xN g) (zf z) (wT g j) y) ∧ g'.1 = g.1 ∧ (wK g' j = 2 ∧ wT g' j = wT g j ∧ wN g' j = wN g j ∧ wL g' j = wL g j + 1) ∧ qR g' = qR g ∧ qL g' = qL g
def SK9 (z : Cz) (g : Gg) (j : Nat) (g' : Gg) : Prop := wK g j = 2 ∧ wK g' j = 0 ∧ (xS g (wT g j) = 2 ∧ xR g (wT g j) = wN g j) ∧ (∃ y, (xD g (wT g j))[wL g j]? = some y ∧ ¬ crn (xL g) (xN g) (zf z) (wT g j) y) ∧ g'.1 (wT g j) = ((0, xR g (wT g j) + 1, xH g (wT g j)), (xL g (wT g j)).map (fun x => (x.1, x.2.1, true)), (g.1 (wT g j)).2.2) ∧ (∀ k, k ≠ wT g j → g'.1 k = g.1 k) ∧ qR g' = min (qR g) (wT g j) ∧ qL g' = min (qL g) (wT g j + 1)
def GST (z : Cz) (g : Gg) (j : Nat) (g' : Gg) : Prop := (∀ i, i ≠ j → g'.2.1 i = g.2.1 i) ∧ (SK1 z g j g' ∨ SK2 z g j g' ∨ SK3 z g j g' ∨ SK4 z g j g' ∨ SK5 z g j g' ∨ SK6 z g j g' ∨ SK7 g j g' ∨ SK8 z g j g' ∨ SK9 z g j g')
/-- new entries have a source that stands -/
theorem ENN.sre {es es' : List En} {MA MA' : Ma} (h : ENN z g t es MA es' MA') (h0 : SRE z g t es MA) (h2 : ∀ k, zf z ≤ k → k < t → ∀ y ∈ xL g k, (y.2.2 = true ↔ xS g k ≠ 2)) : SRE z g t es' MA' := fun i e' he => by
  rcases h i e' he with ⟨e, a1, a2, a3, a4⟩ | ⟨a1, a2, a3⟩
  · rw [a2, a3, a4]; exact h0 i e a1
  · rw [a2, a3]; exact SRq.new a1 h2
end
