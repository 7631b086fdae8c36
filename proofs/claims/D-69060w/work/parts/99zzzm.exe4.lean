/-! execute: the state behind calls -/
theorem lR1_nd {x : TxC} {r : TxR} {pub : Bool} (he : ∃ e0 es, r.2.2.1 = e0 :: es) (nd : r.1 ≠ 3 → (r.2.2.1.map fun x => x.1).Nodup) : (plw (lR1 x.2.2.1 pub r)).Nodup := by
  obtain ⟨e0, es, he⟩ := he
  unfold lR1 lfE
  rw [he]
  simp only
  by_cases c3 : r.1 = 3
  · rw [if_pos c3]; exact List.nodup_nil
  · rw [if_neg c3]
    have nd := nd c3
    rw [he] at nd
    have nd : (e0.1 :: es.map fun x => x.1).Nodup := nd
    rw [List.nodup_cons] at nd
    show (e0.1 :: plw (lfl (decide (r.1 = 0)) es)).Nodup
    rw [List.nodup_cons]
    exact ⟨fun h => nd.1 (lfl_p h), lfl_nd nd.2⟩
/-- the state between runs -/
def STI (W : Wd) (st : Lw) : Prop := (STW st ∧ st.length ≤ 256) ∧ EVW W (vsw st) ∧ ∀ x ∈ st, ∀ v, x.2.1.2.2.2 = some v → vsz v ≤ 64
theorem lfd_mem {ls : Lw} {p : Pc} {x : Cn × Bool} (h : lfd ls p = some x) : (p, x) ∈ ls := by
  unfold lfd at h
  cases hf : ls.findIdx? (fun x => x.1 == p) with
  | none => rw [hf] at h; cases h
  | some i =>
    rw [hf] at h
    simp only at h
    rw [List.findIdx?_eq_some_iff_getElem] at hf
    obtain ⟨i1, i2, -⟩ := hf
    rw [List.getElem?_eq_getElem i1] at h
    have h : ls[i].2 = x := Option.some.inj h
    have i2 : ls[i].1 = p := by simpa using i2
    rw [← h, ← i2]
    exact List.getElem_mem i1
theorem vsw_o {st : Lw} {p : Pc} (h : 4 ≤ p.1) : vsw st p = (true, lN (if p.1 = 4 then st.length else mdn st), 0, none) := by
  unfold vsw acf
  rw [if_pos ⟨by decide, h⟩]
theorem CKn.nr {W : Wd} {p : Pc} (h3 : p.1 ≠ 3) {b q : Int64} : CKn W p (true, b, q, none) := ⟨fun z => (by cases z), fun _ => rfl, fun z => absurd z h3⟩
section
variable {W : Wd} {st ls : Lw} {lo : Int}
/-- the state when calls' leavings were taken over -/
theorem EVW.tk (w : STW st) (nd : (plw ls).Nodup) (hE : EVW W (vsw st)) (hl : LWV W lo ls) (h256 : (tkOv st ls).length ≤ 256) : EVW W (vsw (tkOv st ls)) := by
  obtain ⟨-, t2, -⟩ := tkO_w w nd
  have key : ∀ p : Pc, p.1 < 4 → vsw (tkOv st ls) p = vsw st p ∨ ∃ x ∈ ls, x.1 = p ∧ vsw (tkOv st ls) p = nrm x.2.1 := fun p hp => by
    rw [vsw_3 hp, vsw_3 hp, t2 p hp]
    cases hf : lfd ls p with
    | none => exact Or.inl rfl
    | some x => exact Or.inr ⟨(p, x), lfd_mem hf, rfl, rfl⟩
  have k2 : ∀ n : Nat, vsw (tkOv st ls) (2, lN n, 0) = vsw st (2, lN n, 0) := fun n => by
    rcases key (2, lN n, 0) (by show 2 < 4; omega) with e | ⟨x, x1, x2, -⟩
    · exact e
    · exact absurd (by rw [x2]) (hl x x1).2.1
  refine ⟨fun p => ?_, fun n m hm hn => by rw [k2]; exact hE.2.1 n m hm hn, fun n hn ht => by rw [k2] at ht; exact hE.2.2.1 n hn ht, ?_⟩
  · rcases Nat.lt_or_ge p.1 4 with c | c
    · rcases key p c with e | ⟨x, x1, x2, e⟩
      · rw [e]; exact hE.1 p
      · rw [e, ← x2]; exact (hl x x1).1
    · rw [vsw_o c]
      exact CKn.nr (by omega)
  · rw [vsw_4]
    have : (lN (tkOv st ls).length).toInt = ((tkOv st ls).length : Int) := lN_toI (by omega)
    show -100000 ≤ (lN (tkOv st ls).length).toInt ∧ (lN (tkOv st ls).length).toInt ≤ 100000
    rw [this]
    omega
theorem tkO_sz (h : ∀ x ∈ st, ∀ v, x.2.1.2.2.2 = some v → vsz v ≤ 64) (h2 : ∀ x ∈ ls, ∀ v, x.2.1.2.2.2 = some v → vsz v ≤ 64) : ∀ x ∈ tkOv st ls, ∀ v, x.2.1.2.2.2 = some v → vsz v ≤ 64 := by
  have key : ∀ (l : Lw) (S : Lw), (∀ x ∈ l, x ∈ ls) → (∀ x ∈ S, ∀ v, x.2.1.2.2.2 = some v → vsz v ≤ 64) → ∀ x ∈ l.foldl tk2 S, ∀ v, x.2.1.2.2.2 = some v → vsz v ≤ 64 := fun l => by
    induction l with
    | nil => exact fun S _ hS => hS
    | cons a l ih =>
      intro S hl hS
      rw [List.foldl_cons]
      refine ih _ (fun x hx => hl x (List.mem_cons_of_mem _ hx)) fun x hx v hv => ?_
      rcases tk2_mem hx with q | ⟨q, -⟩
      · exact hS x q v hv
      · rw [q] at hv
        exact h2 a (hl a (List.mem_cons_self ..)) v hv
  exact key ls _ (fun x hx => hx) fun x hx => h x (tk1_fm hx)
end
