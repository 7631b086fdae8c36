/-! a value comes to a key of the component's tree -/
theorem chg_p (k v : F4) : ∀ t : PT, nds (chg k v t) = nds t ∧ rtn (chg k v t) = rtn t
  | .leaf => ⟨rfl, rfl⟩
  | .inner lv x _ l r => by
    unfold chg
    by_cases c : lv = 256
    · rw [if_pos c]; exact ⟨rfl, rfl⟩
    · rw [if_neg c]
      by_cases c2 : bt k lv = 0
      · rw [if_pos c2]; simp only [nds, rtn, (chg_p k v l).1, and_self]
      · rw [if_neg c2]; simp only [nds, rtn, (chg_p k v r).1, and_self]
theorem nrt_nd (k : F4) : ∀ {t : PT} {b : Nat}, WFp t b → (nrt k t).2 ∈ nds t
  | .inner lv x _ l r, b, ⟨_, h⟩ => by
    unfold nrt nds
    by_cases c : lv = 256
    · rw [if_pos c]; exact List.mem_cons_self
    · rw [if_neg c]
      rcases h with h | ⟨_, h3, h4, _⟩
      · exact absurd h.1 c
      · by_cases c2 : bt k lv = 0
        · rw [if_pos c2]; exact List.mem_cons_of_mem _ (List.mem_append_left _ (nrt_nd k h3))
        · rw [if_neg c2]; exact List.mem_cons_of_mem _ (List.mem_append_right _ (nrt_nd k h4))
theorem nrt_key {h : AH} {T : Nat} (k : F4) : ∀ {t : PT} {b : Nat} {ab : Int32}, WFp t b → RP h T t ab → r4 h (T + 7) (nrt k t).2 = (nrt k t).1
  | .inner lv x _ l r, b, ab, ⟨_, h⟩, ⟨⟨e1, e2, e3, e4⟩, _, _, e7, e8⟩ => by
    unfold nrt
    by_cases c : lv = 256
    · rw [if_pos c]; exact e4
    · rw [if_neg c]
      rcases h with h | ⟨_, h3, h4, _⟩
      · exact absurd h.1 c
      · by_cases c2 : bt k lv = 0
        · rw [if_pos c2]; exact nrt_key k h3 e7
        · rw [if_neg c2]; exact nrt_key k h4 e8
theorem nrt_self (k : F4) : ∀ {t : PT} {b : Nat}, WFp t b → (∃ e ∈ els t, e.1 = k) → (nrt k t).1 = k
  | .inner lv x _ l r, b, ⟨_, h⟩, ⟨e, he, hk⟩ => by
    unfold nrt
    unfold els at he
    by_cases c : lv = 256
    · rw [if_pos c] at he ⊢; rw [List.mem_singleton.mp he] at hk; exact hk
    · rw [if_neg c] at he ⊢
      rcases h with h | ⟨_, h3, h4, h5, h6⟩
      · exact absurd h.1 c
      · rcases List.mem_append.mp he with q | q
        · have := (h5 e q).1
          rw [hk] at this
          rw [if_pos this]; exact nrt_self k h3 ⟨e, q, hk⟩
        · have := (h6 e q).1
          rw [hk] at this
          rw [if_neg (by omega)]; exact nrt_self k h4 ⟨e, q, hk⟩
theorem els_chg (k v : F4) : ∀ {t : PT} {b : Nat}, WFp t b → (nrt k t).1 = k → (els (chg k v t)).Perm ((k, v) :: (els t).filter fun e => decide (e.1 ≠ k))
  | .inner lv x _ l r, b, ⟨_, h⟩, hk => by
    unfold nrt at hk
    unfold chg
    by_cases c : lv = 256
    · rw [if_pos c] at hk ⊢
      have hk : x.2.1 = k := hk
      simp only [els, if_pos c, hk]
      simp
    · rw [if_neg c] at hk ⊢
      rcases h with h | ⟨_, h3, h4, h5, h6⟩
      · exact absurd h.1 c
      · have e : els (.inner lv x () l r) = els l ++ els r := by simp only [els]; rw [if_neg c]
        by_cases c2 : bt k lv = 0
        · rw [if_pos c2] at hk ⊢
          have e2 : els (.inner lv x () (chg k v l) r) = els (chg k v l) ++ els r := by simp only [els]; rw [if_neg c]
          have f : (els r).filter (fun e => decide (e.1 ≠ k)) = els r := List.filter_eq_self.mpr fun e he => decide_eq_true fun q => by have := (h6 e he).1; rw [q] at this; omega
          rw [e, e2, List.filter_append, f]
          exact (els_chg k v h3 hk).append_right _
        · rw [if_neg c2] at hk ⊢
          have e2 : els (.inner lv x () l (chg k v r)) = els l ++ els (chg k v r) := by simp only [els]; rw [if_neg c]
          have f : (els l).filter (fun e => decide (e.1 ≠ k)) = els l := List.filter_eq_self.mpr fun e he => decide_eq_true fun q => by have := (h5 e he).1; rw [q] at this; omega
          rw [e, e2, List.filter_append, f]
          exact ((els_chg k v h4 hk).append_left _).trans List.perm_middle
theorem chg_wf (k v : F4) : ∀ {t : PT} {b : Nat}, WFp t b → (nrt k t).1 = k → WFp (chg k v t) b
  | .inner lv x _ l r, b, ⟨hb, h⟩, hk => by
    unfold nrt at hk
    unfold chg
    by_cases c : lv = 256
    · rw [if_pos c]
      rcases h with h | h
      · exact ⟨hb, Or.inl h⟩
      · omega
    · rw [if_neg c] at hk ⊢
      rcases h with h | ⟨h2, h3, h4, h5, h6⟩
      · exact absurd h.1 c
      · by_cases c2 : bt k lv = 0
        · rw [if_pos c2] at hk ⊢
          refine ⟨hb, Or.inr ⟨h2, chg_wf k v h3 hk, h4, fun e he => ?_, h6⟩⟩
          rcases List.mem_cons.mp ((els_chg k v h3 hk).mem_iff.mp he) with q | q
          · obtain ⟨w, hw⟩ := nrt_in k h3
            rw [hk] at hw
            rw [q]; exact (h5 _ hw : bt k lv = 0 ∧ agr lv k x.2.1)
          · exact h5 e (List.mem_filter.mp q).1
        · rw [if_neg c2] at hk ⊢
          refine ⟨hb, Or.inr ⟨h2, h3, chg_wf k v h4 hk, h5, fun e he => ?_⟩⟩
          rcases List.mem_cons.mp ((els_chg k v h4 hk).mem_iff.mp he) with q | q
          · obtain ⟨w, hw⟩ := nrt_in k h4
            rw [hk] at hw
            rw [q]; exact (h6 _ hw : bt k lv = 1 ∧ agr lv k x.2.1)
          · exact h6 e (List.mem_filter.mp q).1
theorem RP.chgP {h h' : AH} {T : Nat} {k v : F4} (hA : (∀ j, h'.EI 608 (T + 15) j = h.EI 608 (T + 15) j) ∧ (∀ j, h'.EI 656 (T + 18) j = h.EI 656 (T + 18) j) ∧ (∀ j, r4 h' (T + 7) j = r4 h (T + 7) j) ∧ (∀ j, h'.EI 624 (T + 16) j = h.EI 624 (T + 16) j) ∧ ∀ j, h'.EI 640 (T + 17) j = h.EI 640 (T + 17) j) :
    ∀ {t : PT} {b : Nat} {ab : Int32}, WFp t b → RP h T t ab → (nds t).Nodup → (∀ j ∈ nds t, j ≠ (nrt k t).2 → r4 h' (T + 9) j = r4 h (T + 9) j) → r4 h' (T + 9) (nrt k t).2 = v → RP h' T (chg k v t) ab
  | .inner lv x _ l r, b, ab, ⟨_, hw⟩, ⟨⟨e1, e2, e3, e4⟩, e5, e6, e7, e8⟩, hn, hV, hv => by
    obtain ⟨a1, a2, a3, a4, a5⟩ := id hA
    have same : ∀ {t : PT} {a : Int32}, RP h T t a → (∀ j ∈ nds t, r4 h' (T + 9) j = r4 h (T + 9) j) → RP h' T t a := by
      intro t
      induction t with
      | leaf => intro a _ _; trivial
      | inner lv x u l r ihl ihr =>
        intro a ⟨⟨e1, e2, e3, e4⟩, e5, e6, e7, e8⟩ hV
        exact ⟨⟨e1, (a1 _).trans e2, (a2 _).trans e3, (a3 _).trans e4⟩, fun c => (hV x.1 (by simp [nds])).trans (e5 c), fun c => ⟨(a4 _).trans (e6 c).1, (a5 _).trans (e6 c).2⟩, ihl e7 fun j hj => hV j (by simp [nds, hj]), ihr e8 fun j hj => hV j (by simp [nds, hj])⟩
    have nx := (List.nodup_cons.mp hn).1
    have nd := List.nodup_append.mp (List.nodup_cons.mp hn).2
    unfold nrt at hV hv
    unfold chg
    by_cases c : lv = 256
    · rw [if_pos c] at hV hv ⊢
      rcases hw with hw | hw
      · obtain ⟨-, c2, c3⟩ := hw
        subst c2; subst c3
        exact ⟨⟨e1, (a1 _).trans e2, (a2 _).trans e3, (a3 _).trans e4⟩, fun _ => hv, fun z => by omega, trivial, trivial⟩
      · omega
    · rw [if_neg c] at hV hv ⊢
      rcases hw with hw | ⟨h2, h3, h4, h5, h6⟩
      · exact absurd hw.1 c
      · by_cases c2 : bt k lv = 0
        · rw [if_pos c2] at hV hv ⊢
          have hin := nrt_nd k h3
          exact ⟨⟨e1, (a1 _).trans e2, (a2 _).trans e3, (a3 _).trans e4⟩, fun z => absurd z c, fun z => ⟨by rw [(chg_p k v l).2]; exact (a4 _).trans (e6 z).1, (a5 _).trans (e6 z).2⟩, RP.chgP hA h3 e7 nd.1 (fun j hj => hV j (by simp [nds, hj])) hv, same e8 fun j hj => hV j (by simp [nds, hj]) fun q => nd.2.2 _ hin j hj q.symm⟩
        · rw [if_neg c2] at hV hv ⊢
          have hin := nrt_nd k h4
          exact ⟨⟨e1, (a1 _).trans e2, (a2 _).trans e3, (a3 _).trans e4⟩, fun z => absurd z c, fun z => ⟨(a4 _).trans (e6 z).1, by rw [(chg_p k v r).2]; exact (a5 _).trans (e6 z).2⟩, same e7 fun j hj => hV j (by simp [nds, hj]) fun q => nd.2.2 j hj _ hin q, RP.chgP hA h4 e8 nd.2.1 (fun j hj => hV j (by simp [nds, hj])) hv⟩
