/-! the state, as a map: what is taken over -/
abbrev rmx (x : Pc × Cn × Bool) : Prop := ¬ (x.2.1.1 = true ∨ 4 ≤ x.1.1)
abbrev adx (x : Pc × Cn × Bool) : Prop := x.1.1 < 4 ∧ x.2.1.1 = true
/-- there or not, as a number -/
def tn1 (st : Lw) (p : Pc) : Nat := if lfd st p = none then 0 else 1
section
variable {st ls : Lw} {x : Pc × Cn × Bool} {p : Pc}
theorem fidx_n (h : (st.findIdx? fun y => y.1 == p) = none) : lfd st p = none := by unfold lfd; rw [h]
theorem fidx_s {i : Nat} (h : (st.findIdx? fun y => y.1 == p) = some i) : ∃ y, lfd st p = some y ∧ (st)[i]? = some (p, y) := by
  obtain ⟨y, hy⟩ := fidx_at h
  exact ⟨y, by unfold lfd; rw [h]; simp only [hy]; rfl, hy⟩
theorem tk1_w (w : STW st) : STW (tk1 st x) ∧ (∀ p, lfd (tk1 st x) p = if p = x.1 ∧ rmx x then none else lfd st p) ∧ (tk1 st x).length + (if rmx x then tn1 st x.1 else 0) = st.length := by
  by_cases c : rmx x
  · cases hf : st.findIdx? fun y => y.1 == x.1 with
    | none =>
      have e := tk1_0 c hf
      have hn := fidx_n hf
      refine ⟨by rw [e]; exact w, fun p => ?_, ?_⟩
      · rw [e]
        by_cases q : p = x.1
        · rw [if_pos ⟨q, c⟩, q]; exact hn
        · rw [if_neg (fun z => q z.1)]
      · rw [e, if_pos c]
        unfold tn1
        rw [if_pos hn]; rfl
    | some i =>
      have e := tk1_1 c hf
      obtain ⟨y, y1, y2⟩ := fidx_s hf
      have pm := rmI_p y2
      have nd : (plw ((x.1, y) :: rmI st i)).Nodup := (pm.map fun x => x.1).nodup_iff.mpr w.1
      have nd2 : (x.1 :: plw (rmI st i)).Nodup := nd
      rw [List.nodup_cons] at nd2
      refine ⟨by rw [e]; exact ⟨nd2.2, fun z hz => w.2 z (rmI_mem hz)⟩, fun p => ?_, ?_⟩
      · rw [e]
        by_cases q : p = x.1
        · rw [if_pos ⟨q, c⟩, q, lfd_n]; exact nd2.1
        · rw [if_neg (fun z => q z.1)]
          refine lfd_e w.1 nd2.2 fun v => ?_
          rw [← pm.mem_iff, List.mem_cons]
          refine ⟨Or.inr, fun z => z.resolve_left fun z => q (congrArg Prod.fst z)⟩
      · rw [e, if_pos c, rmI_len (get_lt y2)]
        unfold tn1
        rw [if_neg (by rw [y1]; simp)]
        have := get_lt y2
        omega
  · have e := tk1_s (st := st) (Classical.not_not.mp c)
    refine ⟨by rw [e]; exact w, fun p => by rw [e, if_neg (fun z => c z.2)], by rw [e, if_neg c]; rfl⟩
theorem tk2_w (w : STW st) : STW (tk2 st x) ∧ (∀ p, lfd (tk2 st x) p = if p = x.1 ∧ adx x then some (x.2.1, false) else lfd st p) ∧ (tk2 st x).length + (if adx x then tn1 st x.1 else 0) = st.length + (if adx x then 1 else 0) := by
  by_cases c : adx x
  · cases hf : st.findIdx? fun y => y.1 == x.1 with
    | none =>
      have e := tk2_0 c hf
      have hn := fidx_n hf
      have nd : (plw (st ++ [(x.1, x.2.1, false)])).Nodup := by
        show (List.map (fun x => x.1) (st ++ [(x.1, x.2.1, false)])).Nodup
        rw [List.map_append, List.nodup_append]
        refine ⟨w.1, by simp, fun a ha b hb => ?_⟩
        have hb : b = x.1 := by simpa using hb
        rw [hb]
        intro z
        rw [z] at ha
        exact lfd_n.mp hn ha
      refine ⟨by
        rw [e]
        refine ⟨nd, fun z hz => ?_⟩
        rcases List.mem_append.mp hz with q | q
        · exact w.2 z q
        · have : z = (x.1, x.2.1, false) := by simpa using q
          rw [this]; exact ⟨⟨c.2, rfl⟩, c.1⟩, fun p => ?_, ?_⟩
      · rw [e]
        by_cases q : p = x.1
        · rw [if_pos ⟨q, c⟩, q]
          exact (lfd_i nd).mpr (by simp)
        · rw [if_neg (fun z => q z.1)]
          refine lfd_e w.1 nd fun v => ?_
          rw [List.mem_append]
          refine ⟨fun z => z.resolve_right fun z => ?_, Or.inl⟩
          have z : (p, v) = (x.1, x.2.1, false) := by simpa using z
          exact q (congrArg Prod.fst z)
      · rw [e, if_pos c, if_pos c, List.length_append]
        unfold tn1
        rw [if_pos hn]; rfl
    | some i =>
      have e := tk2_1 c hf
      obtain ⟨y, y1, y2⟩ := fidx_s hf
      have hi := get_lt y2
      have ep : plw (st.set i (x.1, x.2.1, false)) = plw st := by
        refine List.ext_getElem? fun k => ?_
        rw [List.getElem?_map, List.getElem?_map]
        by_cases q : k = i
        · subst q
          rw [List.getElem?_set_self hi, y2]; rfl
        · rw [List.getElem?_set_ne (fun z => q z.symm)]
      have nd : (plw (st.set i (x.1, x.2.1, false))).Nodup := by rw [ep]; exact w.1
      refine ⟨by
        rw [e]
        refine ⟨nd, fun z hz => ?_⟩
        rcases List.mem_or_eq_of_mem_set hz with q | q
        · exact w.2 z q
        · rw [q]; exact ⟨⟨c.2, rfl⟩, c.1⟩, fun p => ?_, ?_⟩
      · rw [e]
        by_cases q : p = x.1
        · rw [if_pos ⟨q, c⟩, q]
          refine (lfd_i nd).mpr ?_
          exact List.mem_of_getElem? (List.getElem?_set_self hi)
        · rw [if_neg (fun z => q z.1)]
          refine lfd_e w.1 nd fun v => ?_
          constructor
          · intro z
            rcases List.mem_or_eq_of_mem_set z with z | z
            · exact z
            · exact absurd (congrArg Prod.fst z) q
          · intro z
            obtain ⟨k, hk, ek⟩ := List.mem_iff_getElem.mp z
            have ki : k ≠ i := fun z2 => by
              subst z2
              rw [List.getElem?_eq_getElem hk] at y2
              rw [ek] at y2
              exact q (congrArg Prod.fst (Option.some.inj y2))
            have : (st.set i (x.1, x.2.1, false))[k]? = some (p, v) := by
              rw [List.getElem?_set_ne (fun z => ki z.symm), List.getElem?_eq_getElem hk, ek]
            exact List.mem_of_getElem? this
      · rw [e, if_pos c, if_pos c, List.length_set]
        unfold tn1
        rw [if_neg (by rw [y1]; simp)]
  · have e := tk2_s (st := st) c
    refine ⟨by rw [e]; exact w, fun p => by rw [e, if_neg (fun z => c z.2)], by rw [e, if_neg c, if_neg c]⟩
theorem tk1_fw (w : STW st) (nd : (plw ls).Nodup) : STW (ls.foldl tk1 st) ∧ (∀ p, lfd (ls.foldl tk1 st) p = if (∃ x ∈ ls, x.1 = p ∧ rmx x) then none else lfd st p) ∧ (ls.foldl tk1 st).length + (ls.map fun x => if rmx x then tn1 st x.1 else 0).sum = st.length := by
  induction ls generalizing st with
  | nil => exact ⟨w, fun p => by rw [if_neg (by simp)]; rfl, by simp⟩
  | cons a ls ih =>
    obtain ⟨w1, w2, w3⟩ := tk1_w (x := a) w
    have nd : (a.1 :: plw ls).Nodup := nd
    rw [List.nodup_cons] at nd
    obtain ⟨i1, i2, i3⟩ := ih w1 nd.2
    refine ⟨i1, fun p => ?_, ?_⟩
    · show lfd (ls.foldl tk1 (tk1 st a)) p = _
      rw [i2, w2]
      by_cases c : ∃ x ∈ ls, x.1 = p ∧ rmx x
      · obtain ⟨x, x1, x2⟩ := c
        rw [if_pos ⟨x, x1, x2⟩, if_pos ⟨x, List.mem_cons_of_mem _ x1, x2⟩]
      · rw [if_neg c]
        by_cases q : p = a.1 ∧ rmx a
        · rw [if_pos q, if_pos ⟨a, List.mem_cons_self .., q.1.symm, q.2⟩]
        · rw [if_neg q, if_neg]
          rintro ⟨x, x1, x2⟩
          rcases List.mem_cons.mp x1 with z | z
          · rw [z] at x2; exact q ⟨x2.1.symm, x2.2⟩
          · exact c ⟨x, z, x2⟩
    · have e : (ls.map fun x => if rmx x then tn1 (tk1 st a) x.1 else 0) = ls.map fun x => if rmx x then tn1 st x.1 else 0 := List.map_congr_left fun x hx => by
        have ne : ¬ (x.1 = a.1 ∧ rmx a) := fun z => nd.1 (by rw [← z.1]; exact List.mem_map.mpr ⟨x, hx, rfl⟩)
        have : tn1 (tk1 st a) x.1 = tn1 st x.1 := by
          unfold tn1
          rw [w2, if_neg ne]
        rw [this]
      rw [e] at i3
      rw [List.map_cons, List.sum_cons]
      show (ls.foldl tk1 (tk1 st a)).length + _ = _
      omega
theorem tk2_fw (w : STW st) (nd : (plw ls).Nodup) : STW (ls.foldl tk2 st) ∧ (∀ p, lfd (ls.foldl tk2 st) p = match lfd ls p with
    | some x => if p.1 < 4 ∧ x.1.1 = true then some (x.1, false) else lfd st p
    | none => lfd st p) ∧ (ls.foldl tk2 st).length + (ls.map fun x => if adx x then tn1 st x.1 else 0).sum = st.length + (ls.map fun x => if adx x then 1 else 0).sum := by
  induction ls generalizing st with
  | nil => exact ⟨w, fun p => rfl, by simp⟩
  | cons a ls ih =>
    obtain ⟨w1, w2, w3⟩ := tk2_w (x := a) w
    have nd0 := nd
    have nd : (a.1 :: plw ls).Nodup := nd
    rw [List.nodup_cons] at nd
    obtain ⟨i1, i2, i3⟩ := ih w1 nd.2
    refine ⟨i1, fun p => ?_, ?_⟩
    · show lfd (ls.foldl tk2 (tk2 st a)) p = _
      rw [i2]
      by_cases q : p = a.1
      · have h1 : lfd ls p = none := by rw [lfd_n, q]; exact nd.1
        have h2 : lfd (a :: ls) p = some a.2 := (lfd_i nd0).mpr (by rw [q]; simp)
        rw [h1, h2]
        simp only
        rw [w2]
        by_cases c : adx a
        · rw [if_pos ⟨q, c⟩, if_pos ⟨by rw [q]; exact c.1, c.2⟩]
        · rw [if_neg (fun z => c z.2), if_neg (fun z => c ⟨by rw [← q]; exact z.1, z.2⟩)]
      · have h2 : lfd (a :: ls) p = lfd ls p := lfd_e nd.2 nd0 fun v => by
          rw [List.mem_cons]
          refine ⟨fun z => z.resolve_left fun z => q (congrArg Prod.fst z), Or.inr⟩
        rw [h2, w2, if_neg (fun z => q z.1)]
    · have e : (ls.map fun x => if adx x then tn1 (tk2 st a) x.1 else 0) = ls.map fun x => if adx x then tn1 st x.1 else 0 := List.map_congr_left fun x hx => by
        have ne : ¬ (x.1 = a.1 ∧ adx a) := fun z => nd.1 (by rw [← z.1]; exact List.mem_map.mpr ⟨x, hx, rfl⟩)
        have : tn1 (tk2 st a) x.1 = tn1 st x.1 := by
          unfold tn1
          rw [w2, if_neg ne]
        rw [this]
      rw [e] at i3
      rw [List.map_cons, List.sum_cons, List.map_cons, List.sum_cons]
      show (ls.foldl tk2 (tk2 st a)).length + _ = _
      omega
/-- what a place holds behind it -/
theorem tkO_w (w : STW st) (nd : (plw ls).Nodup) : STW (tkOv st ls) ∧ (∀ p, p.1 < 4 → lfc (tkOv st ls) p = match lfd ls p with
    | some x => nrm x.1
    | none => lfc st p) ∧ (tkOv st ls).length + (ls.map fun x => if x.1.1 < 4 then tn1 st x.1 else 0).sum = st.length + (ls.map fun x => if adx x then 1 else 0).sum := by
  obtain ⟨a1, a2, a3⟩ := tk1_fw w nd
  obtain ⟨b1, b2, b3⟩ := tk2_fw a1 nd
  refine ⟨b1, fun p hp => ?_, ?_⟩
  · unfold tkOv lfc
    rw [b2]
    cases hl : lfd ls p with
    | none =>
      simp only
      rw [a2, if_neg]
      rintro ⟨x, x1, x2, x3⟩
      exact lfd_n.mp hl (List.mem_map.mpr ⟨x, x1, x2⟩)
    | some x =>
      simp only
      by_cases c : x.1.1 = true
      · rw [if_pos ⟨hp, c⟩]
      · rw [if_neg (fun z => c z.2), a2, if_pos ⟨(p, x), lfd_m hl, rfl, fun z => by
          rcases z with z | z
          · exact c z
          · have z : 4 ≤ p.1 := z
            omega⟩]
        exact (cff (by simpa using c)).symm
  · have e : ∀ x ∈ ls, (if adx x then tn1 (ls.foldl tk1 st) x.1 else 0) = if adx x then tn1 st x.1 else 0 := fun x hx => by
      by_cases c : adx x
      · have ne : ¬ ∃ y ∈ ls, y.1 = x.1 ∧ rmx y := by
          rintro ⟨y, y1, y2, y3⟩
          have : (y.1, y.2) = (x.1, x.2) := by
            have h1 := (lfd_i nd).mpr (show (x.1, y.2) ∈ ls by rw [← y2]; exact y1)
            have h2 := (lfd_i nd).mpr (show (x.1, x.2) ∈ ls from hx)
            rw [h1] at h2
            rw [y2, Option.some.inj h2]
          have : y = x := this
          rw [this] at y3
          exact y3 (Or.inl c.2)
        rw [if_pos c, if_pos c]
        unfold tn1
        rw [a2, if_neg ne]
      · rw [if_neg c, if_neg c]
    rw [List.map_congr_left e] at b3
    have s : ∀ l : Lw, (l.map fun x => if x.1.1 < 4 then tn1 st x.1 else 0).sum = (l.map fun x => if rmx x then tn1 st x.1 else 0).sum + (l.map fun x => if adx x then tn1 st x.1 else 0).sum := fun l => by
      induction l with
      | nil => rfl
      | cons x l ih =>
        rw [List.map_cons, List.sum_cons, List.map_cons, List.sum_cons, List.map_cons, List.sum_cons, ih]
        have : (if x.1.1 < 4 then tn1 st x.1 else 0) = (if rmx x then tn1 st x.1 else 0) + if adx x then tn1 st x.1 else 0 := by
          by_cases c4 : x.1.1 < 4
          · rw [if_pos c4]
            by_cases ct : x.2.1.1 = true
            · rw [if_neg (fun z => z (Or.inl ct)), if_pos ⟨c4, ct⟩, Nat.zero_add]
            · rw [if_pos (fun z => by rcases z with z | z; exact ct z; omega), if_neg (fun z => ct z.2)]; rfl
          · rw [if_neg c4, if_neg (fun z => z (Or.inr (by omega))), if_neg (fun z => c4 z.1)]
        omega
    rw [s]
    unfold tkOv
    omega
end
