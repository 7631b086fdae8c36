/-! all transactions at once: what stands behind the heap -/
/-- (state, run, holder), what was left, what was read, the result -/
abbrev Tg : Type := (Nat × Nat × Nat) × Lw × List (Pc × Int32 × Int32) × TxR
/-- (task, transaction, run, looked, begun), sources, the machine -/
abbrev Wg : Type := (Nat × Nat × Nat × Nat × Bool) × Ma × Ms
/-- transactions, workers, toRun, toLook -/
abbrev Gg : Type := (Nat → Tg) × (Nat → Wg) × Nat × Nat
def xS (g : Gg) (k : Nat) : Nat := (g.1 k).1.1
def xR (g : Gg) (k : Nat) : Nat := (g.1 k).1.2.1
def xH (g : Gg) (k : Nat) : Nat := (g.1 k).1.2.2
def xL (g : Gg) (k : Nat) : Lw := (g.1 k).2.1
def xD (g : Gg) (k : Nat) : List (Pc × Int32 × Int32) := (g.1 k).2.2.1
def xO (g : Gg) (k : Nat) : TxR := (g.1 k).2.2.2
def xN (g : Gg) (k : Nat) : Int32 := nI (xR g k)
def wK (g : Gg) (j : Nat) : Nat := (g.2.1 j).1.1
def wT (g : Gg) (j : Nat) : Nat := (g.2.1 j).1.2.1
def wN (g : Gg) (j : Nat) : Nat := (g.2.1 j).1.2.2.1
def wL (g : Gg) (j : Nat) : Nat := (g.2.1 j).1.2.2.2.1
def wB (g : Gg) (j : Nat) : Bool := (g.2.1 j).1.2.2.2.2
def wM (g : Gg) (j : Nat) : Ma := (g.2.1 j).2.1
def wS (g : Gg) (j : Nat) : Ms := (g.2.1 j).2.2
def qR (g : Gg) : Nat := g.2.2.1
def qL (g : Gg) : Nat := g.2.2.2
/-- from where something was read, and whether that still stands -/
def SRq (st : Lw) (fs t : Nat) (g : Gg) (p : Pc) (c : Cn) (q : Int32 × Int32) : Prop := (q.1 = -1 ∧ c = acf st (-1) p (lfc st p)) ∨ ∃ k r, q = (nI k, nI r) ∧ fs ≤ k ∧ k < t ∧ r ≤ xR g k ∧ (r = xR g k → xS g k = 2 ∧ lfc (xL g k) p = c)
/-- a transaction that left something runs anew, or nothing of it changes -/
def GMO (g g' : Gg) (k : Nat) : Prop := xR g k < xR g' k ∨ (xR g' k = xR g k ∧ (xS g k = 2 → xS g' k = 2 ∧ xL g' k = xL g k))
section
variable {st : Lw} {fs t : Nat} {g g' : Gg} {p : Pc} {c : Cn} {q : Int32 × Int32}
theorem GMO.refl {k : Nat} (e : g'.1 k = g.1 k) : GMO g g' k := Or.inr ⟨by unfold xR; rw [e], fun z => ⟨by unfold xS at z ⊢; rw [e]; exact z, by unfold xL; rw [e]⟩⟩
theorem SRq.keep (h : SRq st fs t g p c q) (m : ∀ k, fs ≤ k → k < t → GMO g g' k) : SRq st fs t g' p c q := by
  rcases h with h | ⟨k, r, a1, a2, a3, a4, a5⟩
  · exact Or.inl h
  · refine Or.inr ⟨k, r, a1, a2, a3, ?_, fun e => ?_⟩
    · rcases m k a2 a3 with z | z
      · omega
      · rw [z.1]; exact a4
    · rcases m k a2 a3 with z | ⟨z1, z2⟩
      · omega
      · obtain ⟨b1, b2⟩ := a5 (by omega)
        obtain ⟨b3, b4⟩ := z2 b1
        exact ⟨b3, by rw [b4]; exact b2⟩
theorem lfd_b {l : Lw} {e : Nat} (h : (l.findIdx? fun x => x.1 == p) = some e) : ∃ x, lfd l p = some x ∧ (p, x) ∈ l := by
  obtain ⟨x, hx⟩ := fidx_at h
  exact ⟨x, by unfold lfd; rw [h]; simp only [hx]; rfl, List.mem_of_getElem? hx⟩
/-- what was read just now -/
theorem SRq.new (hg : gss (xL g) fs t p = none) (h2 : ∀ k, fs ≤ k → k < t → ∀ y ∈ xL g k, (y.2.2 = true ↔ xS g k ≠ 2)) : SRq st fs t g p (vew st (xL g) fs t p) (sce (xL g) (xN g) fs t p) := by
  cases hb : bfr (xL g) p fs t with
  | none =>
    left
    unfold sce vew
    rw [hb]
    exact ⟨rfl, rfl⟩
  | some k =>
    obtain ⟨k1, k2, e, he⟩ := bfr_b hb
    obtain ⟨x, x1, x2⟩ := lfd_b he
    have xf : x.2 = false := by
      unfold gss at hg
      rw [hb] at hg
      simp only [x1] at hg
      cases hx : x.2 with
      | false => rfl
      | true => rw [hx] at hg; cases hg
    have s2 : xS g k = 2 := by
      by_cases z : xS g k = 2
      · exact z
      · have := (h2 k k2 k1 _ x2).mpr z
        have : x.2 = true := this
        rw [xf] at this; cases this
    refine Or.inr ⟨k, xR g k, ?_, k2, k1, Nat.le_refl _, fun _ => ⟨s2, ?_⟩⟩
    · unfold sce; rw [hb]; rfl
    · unfold vew; rw [hb]
/-- what was read and is still right is what lies there -/
theorem SRq.cur (h : SRq st fs t g p c q) (ht : t ≤ 32) (hb : ∀ k, fs ≤ k → k < t → xR g k < 2147483648) (hc : crn (xL g) (xN g) fs t (p, q)) : vew st (xL g) fs t p = c := by
  obtain ⟨c1, c2⟩ := hc
  have c1 : bfI (bfr (xL g) p fs t) = q.1 := c1
  have c2 : ∀ k, bfr (xL g) p fs t = some k → gss (xL g) fs t p = none ∧ xN g k = q.2 := c2
  cases hf : bfr (xL g) p fs t with
  | none =>
    rw [hf] at c1
    rcases h with ⟨a1, a2⟩ | ⟨k, r, a1, a2, a3, a4, a5⟩
    · unfold vew; rw [hf]; exact a2.symm
    · rw [a1] at c1
      have c1 : (-1 : Int32) = nI k := c1
      exact absurd (show nI k < 0 by rw [← c1]; decide) (nI_nn (by omega))
  | some j =>
    obtain ⟨j1, j2, -⟩ := bfr_b hf
    rw [hf] at c1
    have c1 : nI j = q.1 := c1
    rcases h with ⟨a1, a2⟩ | ⟨k, r, a1, a2, a3, a4, a5⟩
    · rw [a1] at c1
      exact absurd (show nI j < 0 by rw [c1]; decide) (nI_nn (by omega))
    · rw [a1] at c1
      have e : j = k := (nI_eq (by omega) (by omega)).mp c1
      subst e
      obtain ⟨-, c3⟩ := c2 j hf
      rw [a1] at c3
      have b := hb j a2 a3
      have e : xR g j = r := (nI_eq (by omega) (by omega)).mp c3
      unfold vew; rw [hf]
      exact (a5 e.symm).2
/-- whether something read is still right depends on those before alone -/
theorem bfr_c {Lf Lf' : Nat → Lw} {fs : Nat} : ∀ {t : Nat}, (∀ k, fs ≤ k → k < t → Lf' k = Lf k) → bfr Lf' p fs t = bfr Lf p fs t
  | 0, _ => rfl
  | t + 1, h => by
    rw [bfr_s, bfr_s]
    by_cases c1 : t < fs
    · rw [if_pos c1, if_pos c1]
    · rw [if_neg c1, if_neg c1, h t (by omega) (by omega), bfr_c (fun k h1 h2 => h k h1 (by omega))]
theorem gss_c {Lf Lf' : Nat → Lw} (h : ∀ k, fs ≤ k → k < t → Lf' k = Lf k) : gss Lf' fs t p = gss Lf fs t p := by
  unfold gss
  rw [bfr_c h]
  cases hb : bfr Lf p fs t with
  | none => rfl
  | some k =>
    obtain ⟨k1, k2, -⟩ := bfr_b hb
    simp only [h k k2 k1]
theorem vew_c {Lf Lf' : Nat → Lw} (h : ∀ k, fs ≤ k → k < t → Lf' k = Lf k) : vew st Lf' fs t p = vew st Lf fs t p := by
  unfold vew
  rw [bfr_c h]
  cases hb : bfr Lf p fs t with
  | none => rfl
  | some k =>
    obtain ⟨k1, k2, -⟩ := bfr_b hb
    simp only [h k k2 k1]
theorem crn_c {Lf Lf' : Nat → Lw} {RN RN' : Nat → Int32} {y : Pc × Int32 × Int32} (h : ∀ k, fs ≤ k → k < t → Lf' k = Lf k ∧ RN' k = RN k) : crn Lf' RN' fs t y ↔ crn Lf RN fs t y := by
  have h1 : ∀ k, fs ≤ k → k < t → Lf' k = Lf k := fun k a b => (h k a b).1
  unfold crn
  rw [bfr_c h1, gss_c h1]
  refine and_congr Iff.rfl (forall_congr' fun k => ?_)
  refine imp_congr_right fun hk => ?_
  obtain ⟨k1, k2, -⟩ := bfr_b hk
  rw [(h k k2 k1).2]
/-- a run's number does not matter where all is guessed -/
theorem crn_g {Lf : Nat → Lw} {RN RN' : Nat → Int32} {y : Pc × Int32 × Int32} (h : ∀ k, fs ≤ k → k < t → RN' k = RN k ∨ ∀ y ∈ Lf k, y.2.2 = true) : crn Lf RN' fs t y ↔ crn Lf RN fs t y := by
  unfold crn
  refine and_congr Iff.rfl (forall_congr' fun k => ?_)
  refine imp_congr_right fun hk => ?_
  obtain ⟨k1, k2, e, he⟩ := bfr_b hk
  rcases h k k2 k1 with z | z
  · rw [z]
  · obtain ⟨x, x1, x2⟩ := lfd_b he
    have xt : x.2 = true := z _ x2
    have : gss Lf fs t y.1 = some k := by
      unfold gss
      rw [hk]
      simp only [x1, xt]
      rfl
    rw [this]
    exact ⟨fun w => absurd w.1 (by simp), fun w => absurd w.1 (by simp)⟩
/-- what was read just now is right -/
theorem crn_n {Lf : Nat → Lw} {RN : Nat → Int32} (hg : gss Lf fs t p = none) : crn Lf RN fs t (p, sce Lf RN fs t p) := by
  unfold crn
  cases hb : bfr Lf p fs t with
  | none => exact ⟨by show bfI none = _; unfold sce; rw [hb]; rfl, fun k z => by cases z⟩
  | some k => exact ⟨by show bfI (some k) = _; unfold sce; rw [hb]; rfl, fun j z => by
      have z : k = j := Option.some.inj z
      subst z
      exact ⟨hg, by unfold sce; rw [hb]⟩⟩
end
