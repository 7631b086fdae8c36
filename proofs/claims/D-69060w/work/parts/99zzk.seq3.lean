/-! calls one behind the other -/
theorem lfc_t {st : Lw} {p : Pc} (w : STW st) : (lfc st p).1 = true ↔ lfd st p ≠ none := by
  unfold lfc
  cases hl : lfd st p with
  | none => simp
  | some x =>
    simp only
    have := (w.2 _ (lfd_m hl)).1.1
    rw [ctf this]
    exact ⟨fun _ => by simp, fun _ => this⟩
theorem tn1_c {st : Lw} {p : Pc} (w : STW st) : tn1 st p = if (lfc st p).1 = true then 1 else 0 := by
  unfold tn1
  by_cases c : lfd st p = none
  · rw [if_pos c, if_neg (fun z => (lfc_t w).mp z c)]
  · rw [if_neg c, if_pos ((lfc_t w).mpr c)]
/-- one entry's share -/
def dl1 (st : Lw) (x : Pc × Cn × Bool) : Int := (if adx x then 1 else 0) - (if x.1.1 < 4 then (tn1 st x.1 : Int) else 0)
theorem dl_sum {st : Lw} : ∀ l : Lw, (((l.map fun x => if adx x then 1 else 0).sum : Nat) : Int) - ((l.map fun x => if x.1.1 < 4 then tn1 st x.1 else 0).sum : Nat) = (l.map (dl1 st)).sum
  | [] => rfl
  | x :: l => by
    have ih := dl_sum (st := st) l
    rw [List.map_cons, List.sum_cons, List.map_cons, List.sum_cons, List.map_cons, List.sum_cons, ← ih]
    have : dl1 st x = ((if adx x then 1 else 0 : Nat) : Int) - ((if x.1.1 < 4 then tn1 st x.1 else 0 : Nat) : Int) := by
      unfold dl1
      split <;> split <;> rfl
    rw [this]
    omega
theorem tkO_len {st ls : Lw} (w : STW st) (nd : (plw ls).Nodup) : ((tkOv st ls).length : Int) = st.length + (ls.map (dl1 st)).sum := by
  have h := (tkO_w w nd).2.2
  have s := dl_sum (st := st) ls
  omega
section
variable {W : Wd} {x : TxC} {st : Lw} {lim : Nat}
/-- what a changed entry adds -/
theorem dl_en {snd : Int64} {es : List En} (w : STW st) (hq : ENQ W snd lim es) (hc : ∀ e ∈ es, e.1.1 < 4 → e.2.1 = lfc st e.1) {i : Nat} {e : En} (he : es[i]? = some e) (b : Bool) (bal sq : Int64) (v : Option VL) : dl1 st (e.1, (e.2.2.1.1, bal, sq, v), b) = if e.1.1 = 2 then dl1 st (e.1, (e.2.2.1.1, bal, sq, v), b) else mo1 e := by
  obtain ⟨-, -, q5⟩ := hq
  obtain ⟨⟨⟨a1, a2⟩, -⟩, -, -, -⟩ := q5 i e he
  have em := List.mem_of_getElem? he
  by_cases c2 : e.1.1 = 2
  · rw [if_pos c2]
  · rw [if_neg c2]
    unfold dl1 mo1
    by_cases c4 : e.1.1 < 4
    · rw [if_pos c4, tn1_c w, ← hc e em c4, if_pos (show e.1.1 = 1 ∨ e.1.1 = 3 by omega)]
      have : (if adx (e.1, (e.2.2.1.1, bal, sq, v), b) then (1 : Int) else 0) = if e.2.2.1.1 = true then 1 else 0 := by
        by_cases ct : e.2.2.1.1 = true
        · rw [if_pos ⟨c4, ct⟩, if_pos ct]
        · rw [if_neg (fun z => ct z.2), if_neg ct]
      rw [this]
      cases e.2.1.1 <;> simp
    · rw [if_neg c4, if_neg (fun z => c4 z.1), if_neg (show ¬ (e.1.1 = 1 ∨ e.1.1 = 3) by omega)]
      rfl
theorem mo1_u {snd : Int64} {es : List En} (hq : ENQ W snd lim es) {i : Nat} {e : En} (he : es[i]? = some e) (hi : i ≠ 0) (hc : e.2.2.2 = false) : mo1 e = 0 := by
  obtain ⟨-, -, q5⟩ := hq
  obtain ⟨-, -, b2, -⟩ := q5 i e he
  have eb : bsE lim i e = (e.1, e.2.1, e.2.1, false) := by unfold bsE; rw [if_neg hi]
  rw [eb] at b2
  have := b2.2.2.2.1 hc
  have this : e.2.2.1 = e.2.1 := this
  unfold mo1
  rw [this]
  split
  · omega
  · rfl
theorem k2_u {snd : Int64} {es : List En} (hq : ENQ W snd lim es) {i : Nat} {e : En} (he : es[i]? = some e) (hi : i ≠ 0) (h2 : e.1.1 = 2) : e.2.2.2 = false := by
  obtain ⟨-, -, q5⟩ := hq
  obtain ⟨-, -, b2, -⟩ := q5 i e he
  have eb : bsE lim i e = (e.1, e.2.1, e.2.1, false) := by unfold bsE; rw [if_neg hi]
  rw [eb] at b2
  have := congrArg Prod.snd (b2.2.2.2.2.1 h2)
  exact this
/-- the places that a done call leaves -/
theorem lfl_nd {es : List En} {all : Bool} (h : (es.map fun x => x.1).Nodup) : (plw (lfl all es)).Nodup := by
  unfold lfl
  show (List.map (fun x : Pc × Cn × Bool => x.1) (List.map _ (es.filter _))).Nodup
  rw [List.map_map]
  exact h.sublist ((List.filter_sublist).map _)
theorem lfl_p {es : List En} {all : Bool} {p : Pc} (h : p ∈ plw (lfl all es)) : p ∈ es.map fun x => x.1 := by
  obtain ⟨y, y1, y2⟩ := List.mem_map.mp h
  unfold lfl at y1
  obtain ⟨e, e1, e2⟩ := List.mem_map.mp y1
  rw [← y2, ← e2]
  exact List.mem_map.mpr ⟨e, (List.mem_filter.mp e1).1, rfl⟩
theorem lfl_dl {snd : Int64} {e0 : En} {es : List En} (w : STW st) (hq : ENQ W snd lim (e0 :: es)) (hc : ∀ e ∈ e0 :: es, e.1.1 < 4 → e.2.1 = lfc st e.1) : ((lfl true es).map (dl1 st)).sum = (es.map mo1).sum := by
  have key : ∀ l : List En, (∀ e ∈ l, ∃ i, i ≠ 0 ∧ (e0 :: es)[i]? = some e) → ((lfl true l).map (dl1 st)).sum = (l.map mo1).sum := fun l => by
    induction l with
    | nil => exact fun _ => rfl
    | cons e l ih =>
      intro hm
      obtain ⟨i, hi, he⟩ := hm e (List.mem_cons_self ..)
      have ih := ih (fun e' h' => hm e' (List.mem_cons_of_mem _ h'))
      rw [List.map_cons, List.sum_cons, ← ih]
      cases hb : e.2.2.2 with
      | true =>
        have el : lfl true (e :: l) = (e.1, e.2.2.1, false) :: lfl true l := by
          unfold lfl
          rw [List.filter_cons_of_pos (by rw [hb]; rfl)]; rfl
        rw [el, List.map_cons, List.sum_cons]
        have d := dl_en w hq hc he false e.2.2.1.2.1 e.2.2.1.2.2.1 e.2.2.1.2.2.2
        rw [if_neg (fun z => by rw [k2_u hq he hi z] at hb; cases hb)] at d
        have : dl1 st (e.1, e.2.2.1, false) = mo1 e := d
        rw [this]
      | false =>
        have el : lfl true (e :: l) = lfl true l := by
          unfold lfl
          rw [List.filter_cons_of_neg (by rw [hb]; simp)]
        rw [el, mo1_u hq he hi hb]
        omega
  refine key es fun e he => ?_
  obtain ⟨i, hi, ei⟩ := List.mem_iff_getElem.mp he
  exact ⟨i + 1, by omega, by rw [List.getElem?_cons_succ, List.getElem?_eq_getElem hi, ei]⟩
/-- how many places there are behind a call -/
theorem seq_len {r : TxR} (w : STW st) (hr : r.1 < 4) (he : ∃ e0 es, r.2.2.1 = e0 :: es) (z : RTZ W x r) (hc : ∀ e ∈ r.2.2.1, e.1.1 < 4 → e.2.1 = lfc st e.1) : (plw (lR1 x.2.2.1 false r)).Nodup ∧ ((tkOv st (lR1 x.2.2.1 false r)).length : Int) = st.length + (if r.1 = 0 then mor r.2.2.1 else 0) := by
  obtain ⟨e0, es, he⟩ := he
  obtain ⟨z1, z2⟩ := z
  by_cases c3 : r.1 = 3
  · have : lR1 x.2.2.1 false r = [] := by unfold lR1 lfE; rw [he]; simp only; rw [if_pos c3]
    rw [this, if_neg (by omega)]
    refine ⟨List.nodup_nil, ?_⟩
    show ((st.length : Nat) : Int) = _
    omega
  · have hq := z1 c3
    rw [he] at hq hc
    obtain ⟨q1, ⟨x0, q2, q3, q4⟩, q5⟩ := id hq
    have e00 : x0 = e0 := (Option.some.inj q2).symm
    subst e00
    have nd : (x0.1 :: es.map fun x => x.1).Nodup := q1
    rw [List.nodup_cons] at nd
    obtain ⟨L, hL⟩ : ∃ cn, lR1 x.2.2.1 false r = (x0.1, cn, false) :: lfl (decide (r.1 = 0)) es ∧ cn.1 = x0.2.2.1.1 := by
      unfold lR1 lfE
      rw [he]
      simp only
      rw [if_neg c3]
      exact ⟨_, rfl, rfl⟩
    have n1 : (plw (lR1 x.2.2.1 false r)).Nodup := by
      rw [hL.1]
      show (x0.1 :: plw (lfl (decide (r.1 = 0)) es)).Nodup
      rw [List.nodup_cons]
      exact ⟨fun h => nd.1 (lfl_p h), lfl_nd nd.2⟩
    refine ⟨n1, ?_⟩
    rw [tkO_len w n1, hL.1, List.map_cons, List.sum_cons]
    have d := dl_en w hq hc (i := 0) (e := x0) rfl false L.2.1 L.2.2.1 L.2.2.2
    rw [if_neg (by rw [q3]; show (1 : Nat) ≠ 2; decide)] at d
    have d0 : dl1 st (x0.1, L, false) = mo1 x0 := by
      rw [← d, ← hL.2]
    rw [d0]
    by_cases c0 : r.1 = 0
    · rw [if_pos c0, decide_eq_true c0, lfl_dl w hq hc, he, mor_s, List.map_cons, List.sum_cons]
    · rw [if_neg c0, decide_eq_false c0]
      have el : lfl false es = [] := by unfold lfl; simp
      rw [el]
      have : mo1 x0 = 0 := by
        obtain ⟨-, -, b2, -⟩ := q5 0 x0 rfl
        have hk : (bsE x.2.2.1 0 x0).1.1 = 1 := by unfold bsE; rw [if_pos rfl]; show x0.1.1 = 1; rw [q3]
        have ht := (b2.2.2.2.2.2.1 hk).1 (by unfold bsE; rw [if_pos rfl]; exact q4)
        unfold mo1
        rw [ht, q4]
        split <;> rfl
      rw [this]
      simp
end
