/-! ends and calls of coins: types -/
section
variable {W : Wd} {D : Nat → Nat} {s : Ms} {m : Md} {u : Ux} {x : Ix}
theorem cEnd_i {m : Md} {u : Ux} {lt : List Ty} {o a b : Nat} {c d : Cs} (h : cOp m u lt o a b c = .ok d) (h1 : o = 1) : c.1.reverse.map Prod.fst = u.2.2.1.map Prod.fst := by
  unfold cOp at h
  rw [if_neg (by omega), if_pos h1] at h
  unfold cEnd at h
  obtain ⟨_, b1, -⟩ := eb_ok h
  simpa using nee_i b1
/-- at the end of a call all is plain -/
theorem i_elo (hW : WV W) (hI : Inv W s) (hp : PL0 W s) (hs1 : s.1 = 1) (h1 : W (tpf s).1.1 = some m) (h2 : m.2.2.2.2.2[(tpf s).1.2]? = some u) (h3 : (ui u)[(tpf s).2.1]? = some x) (hx : x.1 = 1) : (∀ i ∈ stk s, ∃ v, i = .inl v) ∧ (stk s).length ≤ 8 := by
  obtain ⟨A, MM, UU, SS, LL, KK, SJ, h, hk, ha, hr⟩ := id hI
  have ht : 0 + 1 = s.1 := by omega
  have e0 := tpt ht
  obtain ⟨hf, st, -, -⟩ := h.tp ht
  obtain ⟨a0, a1, a2, a3, a4, a5⟩ := ha 0 (by omega)
  rw [if_pos ht] at a4
  have em : MM 0 = m := by rw [e0] at h1; rw [hf.1] at h1; exact Option.some.inj h1
  have eu : UU 0 = u := by rw [e0] at h2; rw [← em, hf.2] at h2; exact Option.some.inj h2
  obtain ⟨n1, n2, d, n3, n4, n5⟩ := a1.2 (s.2.1 0).2.1 x (by rw [eu, ← e0]; exact h3)
  rw [a4, ← a3] at n3
  have hg := cEnd_i n3 hx
  obtain ⟨m0, u0, p1, p2, p3⟩ := hp
  have eu0 : u0 = UU 0 := by
    rw [hf.1] at p1
    cases p1
    rw [hf.2] at p2
    exact (Option.some.inj p2).symm
  subst eu0
  have gu := ((hW.2 _ _ hf.1).2.1.2.2.2.2.1 _ (List.mem_of_getElem? hf.2)).2
  have hl : (SS 0).length = (UU 0).2.2.1.length := by
    have := congrArg List.length hg
    simpa using this
  refine ⟨fun i hi => ?_, by rw [st.len, hl]; exact gu.2.1⟩
  obtain ⟨y, y1, y2⟩ := st.mem i hi
  have : y.1 ∈ (SS 0).reverse.map Prod.fst := List.mem_map_of_mem (List.mem_reverse.mpr y1)
  rw [hg] at this
  obtain ⟨z, z1, z2⟩ := List.mem_map.mp this
  have hz := p3 z z1
  rw [z2] at hz
  cases i with
  | inl v => exact ⟨v, rfl⟩
  | inr r =>
    have y2 : RfT W (sgn s) A 0 (MM 0) (UU 0) y.1 y.2 r := y2
    have y21 : isRf y.1 = true := y2.1
    rw [hz] at y21
    cases y21
/-- what a frame gives finds room -/
theorem i_ehi (hI : Inv W s) {t1 : Nat} (ht1 : t1 + 2 = s.1) (h1 : W (tpf s).1.1 = some m) (h2 : m.2.2.2.2.2[(tpf s).1.2]? = some u) (h3 : (ui u)[(tpf s).2.1]? = some x) (hx : x.1 = 1) : (s.2.1 t1).2.2.2.length + (stk s).length ≤ 64 := by
  obtain ⟨A, MM, UU, SS, LL, KK, SJ, h, hk, ha, hr⟩ := id hI
  have ht : (t1 + 1) + 1 = s.1 := by omega
  have e0 := tpt ht
  obtain ⟨hf, st, -, -⟩ := h.tp ht
  obtain ⟨a0, a1, a2, a3, a4, a5⟩ := ha (t1 + 1) (by omega)
  rw [if_pos ht] at a4
  have em : MM (t1 + 1) = m := by rw [e0] at h1; rw [hf.1] at h1; exact Option.some.inj h1
  have eu : UU (t1 + 1) = u := by rw [e0] at h2; rw [← em, hf.2] at h2; exact Option.some.inj h2
  obtain ⟨n1, n2, d, n3, n4, n5⟩ := a1.2 (s.2.1 (t1 + 1)).2.1 x (by rw [eu, ← e0]; exact h3)
  rw [a4, ← a3] at n3
  have hg := cEnd_i n3 hx
  have hl : (SS (t1 + 1)).length = (UU (t1 + 1)).2.2.1.length := by
    have := congrArg List.length hg
    simpa using this
  obtain ⟨b0, b1, b2, b3, b4, b5⟩ := ha t1 (by omega)
  rw [if_neg (by omega)] at b4
  obtain ⟨g, q, e1, e2, -⟩ := hr t1 (by omega)
  rw [b4, e1, List.length_append, List.length_reverse] at b5
  have e3 : (rsl (MM t1) g q).length = (UU (t1 + 1)).2.2.1.length := by
    unfold rsl
    rw [List.length_map]
    have := congrArg List.length e2
    simpa using this
  have st1 := (h.2.2.1 t1 (by omega)).2.1
  rw [st.len, st1.len, hl]
  omega
/-- coins that a function of coins takes -/
theorem i_coi (hW : WV W) (hI : Inv W s) (h1 : W (tpf s).1.1 = some m) (h2 : m.2.2.2.2.2[(tpf s).1.2]? = some u) (h3 : (ui u)[(tpf s).2.1]? = some x) (hx : x.1 = 23) {c : Cx} (hc : m.2.2.2.1[x.2.1 - m.2.2.2.2.2.length]? = some c) (hn : m.2.2.2.2.2.length ≤ x.2.1) (c0 : c.1 = 0) (hk : c.2.1 = 1 ∨ c.2.1 = 3 ∨ c.2.1 = 4) {v : VL} {y : Int64} (hv : ((stk s)[0]? = some (.inl v) ∧ c.2.1 ≠ 4) ∨ ((stk s)[1]? = some (.inl v) ∧ c.2.1 ≠ 1)) (hy : cvl v = some y) : v = vCv y := by
  obtain ⟨A, MM, UU, SS, LL, KK, SJ, h, hk', ha, hr⟩ := id hI
  obtain ⟨t, ht⟩ : ∃ t, t + 1 = s.1 := ⟨s.1 - 1, by have := h.1.1; omega⟩
  have e0 := tpt ht
  obtain ⟨hf, st, -, -⟩ := h.tp ht
  obtain ⟨a0, a1, a2, a3, a4, a5⟩ := ha t (by omega)
  rw [if_pos ht] at a4
  have em : MM t = m := by rw [e0] at h1; rw [hf.1] at h1; exact Option.some.inj h1
  have eu : UU t = u := by rw [e0] at h2; rw [← em, hf.2] at h2; exact Option.some.inj h2
  obtain ⟨n1, n2, d, n3, n4, n5⟩ := a1.2 (s.2.1 t).2.1 x (by rw [eu, ← e0]; exact h3)
  rw [a4, ← a3] at n3
  have hcc : cCall (MM t) (UU t) (lty (UU t)) x.2.1 (SS t, LL t) = .ok d := by
    unfold cOp at n3
    rw [if_neg (by omega), if_neg (by omega), if_neg (by omega), if_neg (by omega), if_neg (by omega), if_neg (by omega), if_neg (by omega), if_neg (by omega), if_neg (by omega), if_neg (by omega), if_neg (by omega), if_neg (by omega), if_pos hx] at n3
    exact n3
  unfold cCall at hcc
  obtain ⟨q, b1, -⟩ := eb_ok hcc
  obtain ⟨e1, e2⟩ := tkL_len b1
  have e1 : SS t = q.1.reverse ++ q.2 := e1
  rw [List.reverse_reverse] at e2
  have w6 := (hW.2 _ _ h1).2.2.2.2.2 c (List.mem_of_getElem? hc)
  rw [if_pos c0] at w6
  obtain ⟨-, l2, -⟩ := w6
  obtain ⟨g1, -, -⟩ := fls_f hc (by omega)
  rw [em] at e2 st
  rw [g1] at e2
  have qt : q.1.map (fun y => rty m y.1) = (cft c.2.1).1 := by
    rw [← l2]
    have := congrArg (List.map (rty m)) e2
    rw [List.map_map, List.map_map] at this
    exact this
  have at_ : ∀ (i : Nat) (w : VL) (T : List Nat), (stk s)[i]? = some (.inl w) → ((q.1.map fun y => rty m y.1).reverse)[i]? = some T → VT W T w := fun i w T hw hT => by
    rw [← List.map_reverse, List.getElem?_map] at hT
    cases hq : q.1.reverse[i]? with
    | none => rw [hq] at hT; cases hT
    | some z =>
      rw [hq] at hT
      have hT : rty m z.1 = T := Option.some.inj hT
      have hz : (SS t)[i]? = some z := by rw [e1, List.getElem?_append_left (get_lt hq)]; exact hq
      have := st.nth i _ z hw hz
      rw [← hT]
      exact this.2
  rw [qt] at at_
  refine VT.coin hW.1 ?_ hy
  rcases hk with z | z | z
  · rw [z] at at_
    rcases hv with ⟨hv, -⟩ | ⟨hv, hn1⟩
    · exact at_ 0 v _ hv rfl
    · exact absurd z hn1
  · rw [z] at at_
    rcases hv with ⟨hv, -⟩ | ⟨hv, -⟩
    · exact at_ 0 v _ hv rfl
    · exact at_ 1 v _ hv rfl
  · rw [z] at at_
    rcases hv with ⟨hv, hn4⟩ | ⟨hv, -⟩
    · exact absurd z hn4
    · exact at_ 1 v _ hv rfl
theorem rsv_i : ∀ {k : List It}, (∀ i ∈ k, ∃ v, i = .inl v) → k = ((k.reverse.filterMap fun i => match i with | .inl v => some v | .inr _ => none).map Sum.inl).reverse := fun {k} h => by
  have a : ∀ k : List It, (∀ i ∈ k, ∃ v, i = .inl v) → k = (k.filterMap fun i => match i with | .inl v => some v | .inr _ => none).map Sum.inl := fun k => by
    induction k with
    | nil => exact fun _ => rfl
    | cons i k ih =>
      intro hh
      obtain ⟨v, hv⟩ := hh i List.mem_cons_self
      subst hv
      have := ih fun j hj => hh j (List.mem_cons_of_mem _ hj)
      rw [List.filterMap_cons]
      simp only [List.map_cons]
      rw [← this]
  have := a k.reverse (fun i hi => h i (List.mem_reverse.mp hi))
  rw [← this, List.reverse_reverse]
end
