/-! the root of a set of keys and values, by levels -/
def bytes4 (q : F4) : List Int32 := nb q.1 8 ++ nb q.2.1 8 ++ nb q.2.2.1 8 ++ nb q.2.2.2 8
def hmsg (b : Nat) (x y : F4) : List Int32 := [i8 (nI b)] ++ bytes4 x ++ bytes4 y
def q4 (bs : List Int32) : F4 := (digq bs 0, digq bs 1, digq bs 2, digq bs 3)
def hsh (b : Nat) (x y : F4) : F4 := q4 (hmsg b x y)
def z4 : F4 := (0, 0, 0, 0)
def leafh (x : F4 × F4) : F4 := hsh 0 x.1 x.2
/-- at level 256 - m, of keys that agree in all bits before it -/
def Rt : Nat → List (F4 × F4) → F4
  | 0, S => match S with
    | [x] => leafh x
    | _ => z4
  | m + 1, S => match S with
    | [] => z4
    | [x] => leafh x
    | x :: y :: r => hsh 1 (Rt m ((x :: y :: r).filter fun e => bt e.1 (255 - m) == 0)) (Rt m ((x :: y :: r).filter fun e => bt e.1 (255 - m) == 1))
theorem Rt_nil (m : Nat) : Rt m [] = z4 := by cases m <;> rfl
theorem Rt_one (m : Nat) (x : F4 × F4) : Rt m [x] = leafh x := by cases m <;> rfl
theorem Rt_two {m : Nat} {S : List (F4 × F4)} (h : 2 ≤ S.length) : Rt (m + 1) S = hsh 1 (Rt m (S.filter fun e => bt e.1 (255 - m) == 0)) (Rt m (S.filter fun e => bt e.1 (255 - m) == 1)) := by
  match S, h with
  | x :: y :: r, _ => rfl
theorem Rt_perm : ∀ (m : Nat) {S S' : List (F4 × F4)}, S.Perm S' → Rt m S = Rt m S'
  | m, S, S', h => by
    match S, h with
    | [], h => rw [List.nil_perm.mp h]
    | [x], h => rw [List.singleton_perm.mp h]
    | x :: y :: r, h =>
      have hl : 2 ≤ S'.length := by rw [← h.length_eq]; simp
      cases m with
      | zero => match S', hl with
        | _ :: _ :: _, _ => rfl
      | succ m => rw [Rt_two (by simp), Rt_two hl, Rt_perm m (h.filter _), Rt_perm m (h.filter _)]
/-- all keys have one bit there -/
theorem Rt_same {m : Nat} {S : List (F4 × F4)} (h : 2 ≤ S.length) {b : Nat} (hb : ∀ e ∈ S, bt e.1 (255 - m) = b) : Rt (m + 1) S = if b = 0 then hsh 1 (Rt m S) z4 else if b = 1 then hsh 1 z4 (Rt m S) else hsh 1 z4 z4 := by
  rw [Rt_two h]
  have f : ∀ c, S.filter (fun e => bt e.1 (255 - m) == c) = if b = c then S else [] := fun c => by
    by_cases q : b = c
    · rw [if_pos q, List.filter_eq_self]; intro e he; rw [hb e he, q]; simp
    · rw [if_neg q, List.filter_eq_nil_iff]; intro e he; rw [hb e he]; simpa using q
  rw [f, f]
  by_cases c0 : b = 0
  · rw [if_pos c0, if_pos c0, if_neg (by omega), Rt_nil]
  · rw [if_neg c0, if_neg c0]
    by_cases c1 : b = 1
    · rw [if_pos c1, if_pos c1, Rt_nil]
    · rw [if_neg c1, if_neg c1, Rt_nil]
/-! trees that pass over levels: a node's level (256 for a leaf), its number, a key below it, a value -/
abbrev PT : Type := Std.DTreeMap.Internal.Impl (Nat × F4 × F4) (fun _ => Unit)
def els : PT → List (F4 × F4)
  | .leaf => []
  | .inner lv x _ l r => if lv = 256 then [(x.2.1, x.2.2)] else els l ++ els r
def agr (l : Nat) (q q' : F4) : Prop := ∀ i, i < l → bt q i = bt q' i
def WFp : PT → Nat → Prop
  | .leaf, _ => False
  | .inner lv x _ l r, b => b ≤ lv ∧ ((lv = 256 ∧ l = .leaf ∧ r = .leaf) ∨ (lv < 256 ∧ WFp l (lv + 1) ∧ WFp r (lv + 1) ∧ (∀ e ∈ els l, bt e.1 lv = 0 ∧ agr lv e.1 x.2.1) ∧ (∀ e ∈ els r, bt e.1 lv = 1 ∧ agr lv e.1 x.2.1)))
theorem WFp.mono : ∀ {t : PT} {b b' : Nat}, WFp t b → b' ≤ b → WFp t b'
  | .inner lv x _ l r, b, b', h, hb => ⟨Nat.le_trans hb h.1, h.2⟩
theorem els_pos : ∀ {t : PT} {b : Nat}, WFp t b → 1 ≤ (els t).length
  | .inner lv x _ l r, b, ⟨_, h⟩ => by
    unfold els
    split
    · simp
    · next c =>
      rcases h with h | h
      · exact absurd h.1 c
      · have := els_pos h.2.1; simp; omega
/-- a node's hash at a level from above its own on -/
theorem Rt_fork {lv n : Nat} {k v : F4} {l r : PT} {b : Nat} (h : WFp (.inner lv (n, k, v) () l r) b) (hl : lv < 256) : Rt (256 - lv) (els (.inner lv (n, k, v) () l r)) = hsh 1 (Rt (255 - lv) (els l)) (Rt (255 - lv) (els r)) := by
  obtain ⟨h1, h2⟩ := h
  rcases h2 with h2 | ⟨_, h3, h4, h5, h6⟩
  · omega
  have e : els (.inner lv (n, k, v) () l r) = els l ++ els r := by simp only [els]; rw [if_neg (by omega)]
  rw [e, show 256 - lv = 255 - lv + 1 by omega, Rt_two (by have := els_pos h3; have := els_pos h4; simp; omega)]
  have e2 : 255 - (255 - lv) = lv := by omega
  rw [e2, List.filter_append, List.filter_append]
  have f1 : (els l).filter (fun e => bt e.1 lv == 0) = els l := List.filter_eq_self.mpr fun e he => by rw [(h5 e he).1]; rfl
  have f2 : (els r).filter (fun e => bt e.1 lv == 0) = [] := List.filter_eq_nil_iff.mpr fun e he => by rw [(h6 e he).1]; simp
  have f3 : (els l).filter (fun e => bt e.1 lv == 1) = [] := List.filter_eq_nil_iff.mpr fun e he => by rw [(h5 e he).1]; simp
  have f4 : (els r).filter (fun e => bt e.1 lv == 1) = els r := List.filter_eq_self.mpr fun e he => by rw [(h6 e he).1]; rfl
  rw [f1, f2, f3, f4, List.append_nil, List.nil_append]
theorem Rt_up {lv n : Nat} {k v : F4} {l r : PT} {b j : Nat} (h : WFp (.inner lv (n, k, v) () l r) b) (hl : lv < 256) (hj : j < lv) : Rt (256 - j) (els (.inner lv (n, k, v) () l r)) = if bt k j = 0 then hsh 1 (Rt (255 - j) (els (.inner lv (n, k, v) () l r))) z4 else hsh 1 z4 (Rt (255 - j) (els (.inner lv (n, k, v) () l r))) := by
  obtain ⟨h1, h2⟩ := h
  rcases h2 with h2 | ⟨_, h3, h4, h5, h6⟩
  · omega
  have e : els (.inner lv (n, k, v) () l r) = els l ++ els r := by simp only [els]; rw [if_neg (by omega)]
  rw [e, show 256 - j = 255 - j + 1 by omega]
  rw [Rt_same (b := bt k j) (by have := els_pos h3; have := els_pos h4; simp; omega) (fun x hx => by
    rw [show 255 - (255 - j) = j by omega]
    rcases List.mem_append.mp hx with q | q
    · exact (h5 x q).2 j hj
    · exact (h6 x q).2 j hj)]
  have := bt_lt k j
  by_cases c : bt k j = 0
  · rw [if_pos c, if_pos c]
  · rw [if_neg c, if_neg c, if_pos (by omega)]
/-! a key comes to a tree -/
def nrt (k : F4) : PT → F4 × Nat
  | .leaf => (z4, 0)
  | .inner lv x _ l r => if lv = 256 then (x.2.1, x.1) else if bt k lv = 0 then nrt k l else nrt k r
/-- a leaf of the key beside another: nf, nl the numbers of the new fork and leaf -/
def ins (k v : F4) (nf nl L : Nat) : PT → PT
  | .leaf => .leaf
  | .inner lv x _ l r => if lv < L then (if bt k lv = 0 then .inner lv x () (ins k v nf nl L l) r else .inner lv x () l (ins k v nf nl L r))
    else if bt k L = 0 then .inner L (nf, k, z4) () (.inner 256 (nl, k, v) () .leaf .leaf) (.inner lv x () l r) else .inner L (nf, k, z4) () (.inner lv x () l r) (.inner 256 (nl, k, v) () .leaf .leaf)
def chg (k v : F4) : PT → PT
  | .leaf => .leaf
  | .inner lv x _ l r => if lv = 256 then .inner lv (x.1, x.2.1, v) () l r else if bt k lv = 0 then .inner lv x () (chg k v l) r else .inner lv x () l (chg k v r)
theorem nrt_in (k : F4) : ∀ {t : PT} {b : Nat}, WFp t b → ∃ v, ((nrt k t).1, v) ∈ els t
  | .inner lv x _ l r, b, ⟨_, h⟩ => by
    unfold nrt els
    by_cases c : lv = 256
    · rw [if_pos c, if_pos c]; exact ⟨x.2.2, by simp⟩
    · rw [if_neg c, if_neg c]
      rcases h with h | ⟨_, h3, h4, _⟩
      · exact absurd h.1 c
      · by_cases c2 : bt k lv = 0
        · rw [if_pos c2]
          obtain ⟨v, hv⟩ := nrt_in k h3
          exact ⟨v, List.mem_append_left _ hv⟩
        · rw [if_neg c2]
          obtain ⟨v, hv⟩ := nrt_in k h4
          exact ⟨v, List.mem_append_right _ hv⟩
/-- the key agrees with all of a subtree up to where it forks from the nearest -/
theorem nrt_agr (k : F4) : ∀ {t : PT} {b L : Nat}, WFp t b → agr L k (nrt k t).1 → (∀ lv x l r, t = .inner lv x () l r → L ≤ lv → ∀ e ∈ els t, agr L k e.1)
  | .inner lv x _ l r, b, L, ⟨hb, h⟩, ha => by
    rintro lv' x' l' r' ⟨⟩ hL e he
    unfold els at he
    unfold nrt at ha
    by_cases c : lv = 256
    · rw [if_pos c] at he ha
      rw [List.mem_singleton.mp he]; exact ha
    · rw [if_neg c] at he ha
      rcases h with h | ⟨_, h3, h4, h5, h6⟩
      · exact absurd h.1 c
      · have hx : agr L k x.2.1 := by
          by_cases c2 : bt k lv = 0
          · rw [if_pos c2] at ha
            obtain ⟨v, hv⟩ := nrt_in k h3
            intro i hi
            rw [ha i hi]; exact (h5 _ hv).2 i (by omega)
          · rw [if_neg c2] at ha
            obtain ⟨v, hv⟩ := nrt_in k h4
            intro i hi
            rw [ha i hi]; exact (h6 _ hv).2 i (by omega)
        intro i hi
        rw [hx i hi]
        rcases List.mem_append.mp he with q | q
        · exact ((h5 e q).2 i (by omega)).symm
        · exact ((h6 e q).2 i (by omega)).symm
theorem els_ins (k v : F4) {nf nl L : Nat} (hL : L < 256) : ∀ {t : PT} {b : Nat}, WFp t b → (els (ins k v nf nl L t)).Perm ((k, v) :: els t)
  | .inner lv x _ l r, b, ⟨_, h⟩ => by
    unfold ins
    by_cases c : lv < L
    · rw [if_pos c]
      rcases h with h | ⟨_, h3, h4, _⟩
      · omega
      · have e : els (.inner lv x () l r) = els l ++ els r := by simp only [els]; rw [if_neg (by omega)]
        rw [e]
        by_cases c2 : bt k lv = 0
        · rw [if_pos c2]
          have e2 : els (.inner lv x () (ins k v nf nl L l) r) = els (ins k v nf nl L l) ++ els r := by simp only [els]; rw [if_neg (by omega)]
          rw [e2]; exact (els_ins k v hL h3).append_right _
        · rw [if_neg c2]
          have e2 : els (.inner lv x () l (ins k v nf nl L r)) = els l ++ els (ins k v nf nl L r) := by simp only [els]; rw [if_neg (by omega)]
          rw [e2]
          refine ((els_ins k v hL h4).append_left _).trans ?_
          exact List.perm_middle
    · rw [if_neg c]
      by_cases c2 : bt k L = 0
      · rw [if_pos c2]
        have e2 : els (.inner L (nf, k, z4) () (.inner 256 (nl, k, v) () .leaf .leaf) (.inner lv x () l r)) = [(k, v)] ++ els (.inner lv x () l r) := by
          conv => lhs; unfold els
          rw [if_neg (by omega)]; rfl
        rw [e2]; exact List.Perm.refl _
      · rw [if_neg c2]
        have e2 : els (.inner L (nf, k, z4) () (.inner lv x () l r) (.inner 256 (nl, k, v) () .leaf .leaf)) = els (.inner lv x () l r) ++ [(k, v)] := by
          conv => lhs; unfold els
          rw [if_neg (by omega)]; rfl
        rw [e2]; exact List.perm_append_comm
theorem WFp_ins (k v : F4) {nf nl L : Nat} (hL : L < 256) : ∀ {t : PT} {b : Nat}, WFp t b → b ≤ L → agr L k (nrt k t).1 → bt k L ≠ bt (nrt k t).1 L → WFp (ins k v nf nl L t) b
  | .inner lv x () l r, b, h, hb, ha, hd => by
    obtain ⟨hb1, h0⟩ := id h
    unfold ins
    by_cases c : lv < L
    · rw [if_pos c]
      rcases h0 with h0 | ⟨h2, h3, h4, h5, h6⟩
      · omega
      · unfold nrt at ha hd
        rw [if_neg (by omega)] at ha hd
        by_cases c2 : bt k lv = 0
        · rw [if_pos c2] at ha hd ⊢
          refine ⟨hb1, Or.inr ⟨h2, WFp_ins k v hL h3 (by omega) ha hd, h4, fun e he => ?_, h6⟩⟩
          rcases List.mem_cons.mp ((els_ins k v hL h3).mem_iff.mp he) with q | q
          · rw [q]
            refine ⟨c2, fun i hi => ?_⟩
            obtain ⟨w, hw⟩ := nrt_in k h3
            show bt k i = _
            rw [ha i (by omega)]; exact (h5 _ hw).2 i hi
          · exact h5 e q
        · rw [if_neg c2] at ha hd ⊢
          refine ⟨hb1, Or.inr ⟨h2, h3, WFp_ins k v hL h4 (by omega) ha hd, h5, fun e he => ?_⟩⟩
          rcases List.mem_cons.mp ((els_ins k v hL h4).mem_iff.mp he) with q | q
          · rw [q]
            refine ⟨by show bt k lv = 1; have := bt_lt k lv; omega, fun i hi => ?_⟩
            obtain ⟨w, hw⟩ := nrt_in k h4
            show bt k i = _
            rw [ha i (by omega)]; exact (h6 _ hw).2 i hi
          · exact h6 e q
    · rw [if_neg c]
      have al := nrt_agr k h ha lv x l r rfl (by omega)
      have hlv : L < lv := by
        rcases Nat.lt_or_ge L lv with q | q
        · exact q
        · exfalso
          have : lv = L := by omega
          subst this
          rcases h0 with h0 | ⟨h2, h3, h4, h5, h6⟩
          · omega
          · unfold nrt at hd
            rw [if_neg (by omega)] at hd
            by_cases c2 : bt k lv = 0
            · rw [if_pos c2] at hd
              obtain ⟨w, hw⟩ := nrt_in k h3
              exact hd (by rw [c2, (h5 _ hw).1])
            · rw [if_neg c2] at hd
              obtain ⟨w, hw⟩ := nrt_in k h4
              exact hd (by rw [(h6 _ hw).1]; have := bt_lt k lv; omega)
      obtain ⟨w, hw⟩ := nrt_in k h
      have dif : ∀ e ∈ els (.inner lv x () l r), bt e.1 L = bt (nrt k (.inner lv x () l r)).1 L := fun e he => by
        by_cases q : lv = 256
        · simp only [els, if_pos q, List.mem_singleton] at he
          simp only [nrt, if_pos q, he]
        · have ag : ∀ e ∈ els (.inner lv x () l r), agr lv e.1 x.2.1 := fun e he => by
            rcases h0 with h0 | ⟨h2, h3, h4, h5, h6⟩
            · exact absurd h0.1 q
            · simp only [els, if_neg q] at he
              rcases List.mem_append.mp he with z | z
              · exact (h5 e z).2
              · exact (h6 e z).2
          rw [ag e he L hlv]; exact (ag _ hw L hlv).symm
      have wl : WFp (.inner 256 (nl, k, v) () .leaf .leaf) (L + 1) := ⟨by omega, Or.inl ⟨rfl, rfl, rfl⟩⟩
      have wt : WFp (.inner lv x () l r) (L + 1) := ⟨by omega, h0⟩
      have hk := bt_lt k L
      have hn := bt_lt (nrt k (.inner lv x () l r)).1 L
      by_cases c2 : bt k L = 0
      · rw [if_pos c2]
        refine ⟨hb, Or.inr ⟨hL, wl, wt, fun e he => ?_, fun e he => ⟨?_, fun i hi => (al e he i hi).symm⟩⟩⟩
        · simp only [els, if_true, List.mem_singleton] at he
          rw [he]; exact ⟨c2, fun i _ => rfl⟩
        · rw [dif e he]; omega
      · rw [if_neg c2]
        refine ⟨hb, Or.inr ⟨hL, wt, wl, fun e he => ⟨?_, fun i hi => (al e he i hi).symm⟩, fun e he => ?_⟩⟩
        · rw [dif e he]; omega
        · simp only [els, if_true, List.mem_singleton] at he
          rw [he]; exact ⟨by show bt k L = 1; omega, fun i _ => rfl⟩
