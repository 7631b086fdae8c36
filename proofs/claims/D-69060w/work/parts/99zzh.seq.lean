/-! the state, as a map -/
abbrev plw (st : Lw) : List Pc := st.map fun x => x.1
/-- each place once; all are there -/
def STW (st : Lw) : Prop := (plw st).Nodup ∧ ∀ y ∈ st, (y.2.1.1 = true ∧ y.2.2 = false) ∧ y.1.1 < 4
theorem lfd_m {st : Lw} {p : Pc} {x : Cn × Bool} (h : lfd st p = some x) : (p, x) ∈ st := by
  unfold lfd at h
  cases hf : st.findIdx? fun y => y.1 == p with
  | none => rw [hf] at h; cases h
  | some e =>
    rw [hf] at h
    obtain ⟨y, hy⟩ := fidx_at hf
    simp only [hy] at h
    rw [← Option.some.inj h]
    exact List.mem_of_getElem? hy
theorem lfd_n {st : Lw} {p : Pc} : lfd st p = none ↔ p ∉ plw st := by
  unfold lfd
  cases hf : st.findIdx? fun y => y.1 == p with
  | none =>
    refine ⟨fun _ => ?_, fun _ => rfl⟩
    rw [List.findIdx?_eq_none_iff] at hf
    intro hm
    obtain ⟨y, y1, y2⟩ := List.mem_map.mp hm
    have := hf y y1
    rw [y2] at this
    simp at this
  | some e =>
    obtain ⟨y, hy⟩ := fidx_at hf
    refine ⟨fun h => (by simp only [hy] at h; cases h), fun h => ?_⟩
    exact absurd (List.mem_map.mpr ⟨_, List.mem_of_getElem? hy, rfl⟩) h
theorem lfd_i {st : Lw} {p : Pc} {x : Cn × Bool} (nd : (plw st).Nodup) : lfd st p = some x ↔ (p, x) ∈ st := by
  refine ⟨lfd_m, fun h => ?_⟩
  cases hl : lfd st p with
  | none => exact absurd (List.mem_map.mpr ⟨_, h, rfl⟩) (lfd_n.mp hl)
  | some y =>
    have h2 := lfd_m hl
    obtain ⟨i, hi, ei⟩ := List.mem_iff_getElem.mp h
    obtain ⟨j, hj, ej⟩ := List.mem_iff_getElem.mp h2
    have : i = j := by
      have hi' : i < (plw st).length := by rw [List.length_map]; exact hi
      have hj' : j < (plw st).length := by rw [List.length_map]; exact hj
      refine (List.getElem_inj (h₀ := hi') (h₁ := hj') nd).mp ?_
      rw [List.getElem_map, List.getElem_map, ei, ej]
    subst this
    rw [ei] at ej
    have := congrArg Prod.snd ej
    exact congrArg some this.symm
theorem lfd_e {st st' : Lw} (nd : (plw st).Nodup) (nd' : (plw st').Nodup) {p : Pc} (h : ∀ x, (p, x) ∈ st' ↔ (p, x) ∈ st) : lfd st' p = lfd st p := by
  cases hl : lfd st p with
  | none =>
    rw [lfd_n] at hl ⊢
    intro hm
    obtain ⟨y, y1, y2⟩ := List.mem_map.mp hm
    obtain ⟨y0, y3⟩ := y
    have y2 : y0 = p := y2
    subst y2
    exact hl (List.mem_map.mpr ⟨_, (h y3).mp y1, rfl⟩)
  | some x => exact (lfd_i nd').mpr ((h x).mpr (lfd_m hl))
/-- the place at i goes -/
theorem rmI_p {st : Lw} {i : Nat} {x : Pc × Cn × Bool} (hx : (st)[i]? = some x) : (x :: rmI st i).Perm st := by
  have hi := get_lt hx
  unfold rmI
  have hm : st.length - 1 < st.length := by omega
  rw [List.getElem?_eq_getElem hm]
  show (x :: (st.set i st[st.length - 1]).dropLast).Perm st
  have ne : st ≠ [] := fun e => by rw [e] at hi; exact absurd hi (Nat.not_lt_zero _)
  have es : st = st.dropLast ++ [st[st.length - 1]] := by
    conv => lhs; rw [← List.dropLast_concat_getLast ne]
    rw [List.getLast_eq_getElem]
  by_cases c : i = st.length - 1
  · have ex : st[st.length - 1] = x := by
      rw [List.getElem?_eq_getElem hi] at hx
      have := Option.some.inj hx
      simp only [c] at this
      exact this
    have : (st.set i st[st.length - 1]).dropLast = st.dropLast := by
      refine List.ext_getElem? fun e => ?_
      rw [List.getElem?_dropLast, List.getElem?_dropLast, List.length_set]
      by_cases q : e < st.length - 1
      · rw [if_pos q, if_pos q, List.getElem?_set_ne (by omega)]
      · rw [if_neg q, if_neg q]
    rw [this]
    conv => rhs; rw [es, ex]
    exact (List.perm_append_singleton x st.dropLast).symm
  · have hd : i < st.dropLast.length := by rw [List.length_dropLast]; omega
    have e1 : (st.set i st[st.length - 1]).dropLast = st.dropLast.set i st[st.length - 1] := by
      refine List.ext_getElem? fun e => ?_
      rw [List.getElem?_dropLast, List.length_set]
      by_cases q : e < st.length - 1
      · rw [if_pos q]
        by_cases q2 : e = i
        · subst q2
          rw [List.getElem?_set_self hi, List.getElem?_set_self hd]
        · rw [List.getElem?_set_ne (fun z => q2 z.symm), List.getElem?_set_ne (fun z => q2 z.symm), List.getElem?_dropLast, if_pos q]
      · rw [if_neg q, eq_comm, List.getElem?_eq_none_iff, List.length_set, List.length_dropLast]; omega
    rw [e1]
    have xd : st.dropLast[i]? = some x := by rw [List.getElem?_dropLast, if_pos (by omega)]; exact hx
    have p1 : (x :: st.dropLast.set i st[st.length - 1]).Perm (st[st.length - 1] :: st.dropLast) := by
      obtain ⟨l1, l2, e2, e3⟩ : ∃ l1 l2, st.dropLast = l1 ++ x :: l2 ∧ l1.length = i := by
        refine ⟨st.dropLast.take i, st.dropLast.drop (i + 1), ?_, by rw [List.length_take]; omega⟩
        have := List.getElem?_eq_some_iff.mp xd
        obtain ⟨h1, h2⟩ := this
        rw [← h2, ← List.drop_eq_getElem_cons h1, List.take_append_drop]
      rw [e2, List.set_append_right _ _ (by omega), e3, Nat.sub_self]
      show (x :: (l1 ++ st[st.length - 1] :: l2)).Perm (st[st.length - 1] :: (l1 ++ x :: l2))
      refine ((List.perm_middle (a := st[st.length - 1])).cons x).trans ?_
      refine (List.Perm.swap _ _ _).trans ?_
      exact (List.perm_middle (a := x)).symm.cons _
    refine p1.trans ?_
    conv => rhs; rw [es]
    exact (List.perm_append_singleton _ _).symm
