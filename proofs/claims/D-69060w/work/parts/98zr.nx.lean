/-! what holds while a transaction goes on: the whole -/
def WV (W : Wd) : Prop := fdi W 0 = [[3]] ∧ ∀ M m, W M = some m → m.1 = M ∧ gM m ∧ m.2.1.length ≤ 32 ∧ M < 65536 ∧
  (M ≠ 0 → ∀ u ∈ m.2.2.2.2.2, (∀ x ∈ ui u, gX m u x) ∧ 1 ≤ (ui u).length ∧ ∃ r, chk m u = .ok r) ∧
  ∀ c ∈ m.2.2.2.1, if c.1 = 0 then c.2.1 < 6 ∧ c.2.2.2.1.map (fun x => rty m x.1) = (cft c.2.1).1 ∧ c.2.2.2.2.map (fun x => rty m x.1) = (cft c.2.1).2
    else ∃ m' u', W c.1 = some m' ∧ m'.2.2.2.2.2[c.2.1]? = some u' ∧ hsR c.2.2.1 = hsR u'.1 ∧ c.2.2.2.1.map (fun x => rty m x.1) = u'.2.1.map (fun x => rty m' x.1) ∧ c.2.2.2.2.map (fun x => rty m x.1) = u'.2.2.1.map (fun x => rty m' x.1)
/-- what a frame that waits gets: types, and where references in it come from -/
def rsl (m : Md) (g : Nat) (q : Sk) : Sk := (fls m g 1).map fun x => (x.1, if isRf x.1 then (if isWr x.1 then gWr q else gAll q, true) else (0, false))
def Rtf (W : Wd) (gs : Sg) (A : Nat → Nat → Rx) (MM : Nat → Md) (UU : Nat → Ux) (j : Nat) (sk kk : Sk) : Prop := ∃ g q, kk = (rsl (MM j) g q).reverse ++ sk ∧ (fls (MM j) g 1).map (fun x => rty (MM j) x.1) = (UU (j + 1)).2.2.1.map (fun x => rty (MM (j + 1)) x.1) ∧
  ∀ a, a < (UU (j + 1)).2.1.length → isRf (tgt (lty (UU (j + 1))) a) = true → ∃ x, q[a]? = some x ∧ isWr x.1 = isWr (tgt (lty (UU (j + 1))) a) ∧ RfT W gs A j (MM j) (UU j) x.1 x.2 (A (j + 1) a)
def Inv (W : Wd) (s : Ms) : Prop := ∃ (A : Nat → Nat → Rx) (MM : Nat → Md) (UU : Nat → Ux) (SS : Nat → Sk) (LL : Nat → Ls) (KK : Nat → Sk) (SJ : Nat → Nat → Sk), Cor W s A MM UU SS LL ∧ (∀ j, j < s.1 → Lkf s A UU j) ∧
  (∀ j, j < s.1 → (MM j).1 ≠ 0 ∧ Ann (MM j) (UU j) (SJ j) (lnt (MM j) (UU j)) ∧ (s.2.1 j).2.1 < (ui (UU j)).length ∧ LL j = lnt (MM j) (UU j) (s.2.1 j).2.1 ∧ SJ j (s.2.1 j).2.1 = (if j + 1 = s.1 then SS j else KK j) ∧ (SJ j (s.2.1 j).2.1).length ≤ 64) ∧
  ∀ j, j + 1 < s.1 → Rtf W (sgn s) A MM UU j (SS j) (KK j)
theorem fgl_v {L : Ls} {l : Nat → Option It} {k : Nat} : (match fgl L l k with | some (.inl v) => some v | _ => none) = (match l k with | some (.inl v) => some v | _ => (none : Option VL)) := by
  unfold fgl
  cases h : l k with
  | none => rfl
  | some i =>
    cases i with
    | inl v => rfl
    | inr r =>
      simp only
      cases (lgt L k).isSome <;> rfl
theorem fgl_r {L : Ls} {l : Nat → Option It} {k : Nat} {q : Rx} (h : fgl L l k = some (.inr q)) : l k = some (.inr q) := by
  unfold fgl at h
  cases hh : l k with
  | none => rw [hh] at h; cases h
  | some i =>
    rw [hh] at h
    cases i with
    | inl v => exact h
    | inr r =>
      simp only at h
      split at h
      · exact h
      · cases h
theorem rtv_G {s : Ms} {f : Fm} {L : Ls} (h : f.2.2.1 = fgl L (tpf s).2.2.1) (r : Nat × Nat) : rtv (sF s f) r = rtv s r := by
  obtain ⟨a, k⟩ := r
  cases a with
  | zero => rfl
  | succ j =>
    show (match (uF s.2.1 (s.1 - 1) f j).2.2.1 k with | some (.inl v) => some v | _ => none) = (match (s.2.1 j).2.2.1 k with | some (.inl v) => some v | _ => none)
    by_cases c : j = s.1 - 1
    · rw [c, uF_s, h, fgl_v]; rfl
    · rw [uF_n c]
section
variable {W : Wd} {s : Ms} {A : Nat → Nat → Rx} {MM : Nat → Md} {UU : Nat → Ux} {SS : Nat → Sk} {LL : Nat → Ls} {t : Nat}
theorem drf_nx {m : Md} {u : Ux} {i : Nat} {r : Rx} : drf (nx m u i s) r = drf s r := by
  unfold drf
  rw [show rtv (nx m u i s) r.1 = rtv s r.1 from rtv_G rfl _]
theorem sgn_nx {m : Md} {u : Ux} {i : Nat} : sgn (nx m u i s) = sgn s := sgn_F rfl
theorem nx_fr (ht : t + 1 = s.1) {m : Md} {u : Ux} {i j : Nat} : (nx m u i s).2.1 j = if j = t then ((s.2.1 t).1, i, fgl (lnt m u i) (s.2.1 t).2.2.1, (s.2.1 t).2.2.2) else s.2.1 j := by
  show uF s.2.1 (s.1 - 1) ((tpf s).1, i, fgl (lnt m u i) (lcs s), stk s) j = _
  unfold lcs stk
  rw [tpt ht, show s.1 - 1 = t by omega]
  rfl
theorem Cor.on (h : Cor W s A MM UU SS LL) (ht : t + 1 = s.1) {i : Nat} (hl : lsl (LL t) (lnt (MM t) (UU t) i)) : Cor W (nx (MM t) (UU t) i s) A MM UU SS (uS LL t (lnt (MM t) (UU t) i)) := by
  obtain ⟨c1, c2, c3, c4⟩ := id h
  refine ⟨c1, c2, fun j hj => ?_, fun j hj q hq => ?_⟩
  · rw [sgn_nx, nx_fr ht]
    have := c3 j hj
    by_cases c : j = t
    · subst c
      rw [if_pos rfl, uS_s]
      exact ⟨this.1, this.2.1, this.2.2.1.nx hl, by rw [← hl.1]; exact this.2.2.2⟩
    · rw [if_neg c, uS_n c]; exact this
  · rw [drf_nx]
    rw [nx_fr ht] at hq
    by_cases c : j = t
    · subst c
      rw [if_pos rfl] at hq
      refine c4 j hj q (rfF_i.mpr ?_)
      rcases rfF_i.mp hq with z | ⟨k, k1, k2⟩
      · exact Or.inl z
      · exact Or.inr ⟨k, k1, fgl_r k2⟩
    · rw [if_neg c] at hq
      exact c4 j hj q hq
/-- on from an operation to an instruction -/
theorem Inv.on {KK : Nat → Sk} {SJ : Nat → Nat → Sk} (hk : ∀ j, j < s.1 → Lkf s A UU j) (ha : ∀ j, j < s.1 → (MM j).1 ≠ 0 ∧ Ann (MM j) (UU j) (SJ j) (lnt (MM j) (UU j)) ∧ (s.2.1 j).2.1 < (ui (UU j)).length ∧ LL j = lnt (MM j) (UU j) (s.2.1 j).2.1 ∧ SJ j (s.2.1 j).2.1 = (if j + 1 = s.1 then SS j else KK j) ∧ (SJ j (s.2.1 j).2.1).length ≤ 64) (hr : ∀ j, j + 1 < s.1 → Rtf W (sgn s) A MM UU j (SS j) (KK j)) (ht : t + 1 = s.1) {d : Cs} {s1 : Ms} (ho : OpG W s A MM UU SS LL t d s1) {i : Nat} (hi : i < (ui (UU t)).length) (hs : SJ t i = d.1) (hl : lsl d.2 (lnt (MM t) (UU t) i)) (h64 : d.1.length ≤ 64) : Inv W (nx (MM t) (UU t) i s1) := by
  obtain ⟨o1, o2, o3, o4, o5⟩ := ho
  have ht1 : t + 1 = s1.1 := by rw [o1]; exact ht
  have c := o2.on ht1 (i := i) (by rw [uS_s]; exact hl)
  rw [uS_u] at c
  refine ⟨A, MM, UU, uS SS t d.1, uS LL t (lnt (MM t) (UU t) i), KK, SJ, c, fun j hj => ?_, fun j hj => ?_, fun j hj => ?_⟩
  · have hj : j < s.1 := by rw [← o1]; exact hj
    obtain ⟨k1, k2, k3, k4⟩ := hk j hj
    have same : ∀ x, x < j → rfF ((nx (MM t) (UU t) i s1).2.1 x) = rfF (s.2.1 x) := fun x hx => by
      show rfF ((nx (MM t) (UU t) i s1).2.1 x) = _
      rw [nx_fr ht1, if_neg (by omega)]
      exact o5 x (by omega)
    exact ⟨k1, fun a h1 h2 h3 x hx q hq => k2 a h1 h2 h3 x hx q (by rw [← same x hx]; exact hq), k3, fun z => ⟨fun x hx q hq => (k4 z).1 x hx q (by rw [← same x hx]; exact hq), (k4 z).2⟩⟩
  · have hj : j < s.1 := by rw [← o1]; exact hj
    obtain ⟨a0, a1, a2, a3, a4, a5⟩ := ha j hj
    rw [nx_fr ht1]
    have e1 : (nx (MM t) (UU t) i s1).1 = s.1 := o1
    rw [e1]
    by_cases cc : j = t
    · subst cc
      rw [if_pos rfl, uS_s, uS_s, if_pos ht]
      exact ⟨a0, a1, hi, rfl, hs, by rw [hs]; exact h64⟩
    · rw [if_neg cc, uS_n cc, uS_n cc]
      have := o4 j hj
      rw [this]
      exact ⟨a0, a1, a2, a3, a4, a5⟩
  · have hj : j + 1 < s.1 := by rw [← o1]; exact hj
    rw [uS_n (by omega), sgn_nx]
    obtain ⟨g, q, e1, e2, e3⟩ := hr j hj
    refine ⟨g, q, e1, e2, fun a h1 h2 => ?_⟩
    obtain ⟨x, x1, x2, x3⟩ := e3 a h1 h2
    exact ⟨x, x1, x2, x3.m o3 (by omega) rfl⟩
end
