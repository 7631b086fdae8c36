/-! what the checker notes of a function: stacks and locals at each instruction -/
def le1 (a b : Option Og) : Prop := ∀ x, b = some x → ∃ y, a = some y ∧ y.1 &&& x.1 = y.1 ∧ (y.2 = true → x.2 = true)
def lsl (a b : Ls) : Prop := a.length = b.length ∧ ∀ k, le1 (lgt a k) (lgt b k)
theorem le1.rfl' (a : Option Og) : le1 a a := fun x hx => ⟨x, hx, Nat.and_self _, fun h => h⟩
theorem sub_tr {a b c : Nat} (h1 : a &&& b = a) (h2 : b &&& c = b) : a &&& c = a := by
  rw [← h1, Nat.and_assoc, h2]
theorem le1.trans {a b c : Option Og} (h1 : le1 a b) (h2 : le1 b c) : le1 a c := fun x hx => by
  obtain ⟨y, hy, e1, e2⟩ := h2 x hx
  obtain ⟨z, hz, f1, f2⟩ := h1 y hy
  exact ⟨z, hz, sub_tr f1 e1, fun h => e2 (f2 h)⟩
theorem lsl.rfl' (a : Ls) : lsl a a := ⟨rfl, fun k => le1.rfl' _⟩
theorem lsl.trans {a b c : Ls} (h1 : lsl a b) (h2 : lsl b c) : lsl a c := ⟨h1.1.trans h2.1, fun k => (h1.2 k).trans (h2.2 k)⟩
theorem jn1_l (a b : Option Og) : le1 a (jn1 a b) := fun x hx => by
  cases a with
  | none => cases hx
  | some p =>
    cases b with
    | none => cases hx
    | some q =>
      cases hx
      refine ⟨p, rfl, ?_, fun h => by show (p.2 || q.2) = true; rw [h]; rfl⟩
      show p.1 &&& (p.1 ||| q.1) = p.1
      refine Nat.eq_of_testBit_eq fun i => ?_
      rw [Nat.testBit_and, Nat.testBit_or]
      cases p.1.testBit i <;> simp
theorem jn1_c (a b : Option Og) : jn1 a b = jn1 b a := by
  cases a with
  | none => cases b <;> rfl
  | some p =>
    cases b with
    | none => rfl
    | some q =>
      show some (p.1 ||| q.1, p.2 || q.2) = some (q.1 ||| p.1, q.2 || p.2)
      rw [Nat.or_comm, Bool.or_comm]
theorem jn1_r (a b : Option Og) : le1 b (jn1 a b) := by rw [jn1_c]; exact jn1_l b a
theorem cBack_le {m : Md} : ∀ {lt : List Ty} {a b : Ls} {v : Unit}, a.length = lt.length → b.length = lt.length → cBack m lt a b = .ok v → ∀ k, le1 (lgt b k) (lgt a k)
  | [], a, b, v, ha, hb, _, k => by
    have : a = [] := List.length_eq_zero_iff.mp ha
    subst this
    intro x hx
    simp [lgt] at hx
  | t :: lt, [], b, v, ha, hb, _, k => by simp at ha
  | t :: lt, x :: a, [], v, ha, hb, _, k => by simp at hb
  | t :: lt, x :: a, y :: b, v, ha, hb, h, k => by
    obtain ⟨_, h1, h2⟩ := eb_ok h
    cases k with
    | zero =>
      show le1 y x
      intro p hp
      subst hp
      have h1 : nee (bk1 m t (some p) y) 9 = .ok _ := h1
      cases y with
      | none => cases h1
      | some q =>
        have hb : ((q.1 &&& p.1) == q.1 && (!q.2 || p.2)) = true := by
          cases hh : ((q.1 &&& p.1) == q.1 && (!q.2 || p.2)) with
          | true => rfl
          | false =>
            have h1 : nee ((q.1 &&& p.1) == q.1 && (!q.2 || p.2)) 9 = .ok _ := h1
            rw [hh] at h1; cases h1
        rw [Bool.and_eq_true] at hb
        refine ⟨q, rfl, by simpa using hb.1, fun hq => ?_⟩
        have := hb.2
        rw [hq] at this; simpa using this
    | succ k => exact cBack_le (by simpa using ha) (by simpa using hb) h2 k
/-- an operation keeps how many locals there are -/
theorem cOp_len {m : Md} {u : Ux} {lt : List Ty} {o a b : Nat} {c d : Cs} (h : cOp m u lt o a b c = .ok d) : d.2.length = c.2.length := by
  have e1 : ∀ {α : Type} {r : Except Nat α} {f : α → Sk}, eb r (fun x => .ok (f x, c.2)) = .ok d → d.2 = c.2 := fun {α r f} z => by
    obtain ⟨_, _, z⟩ := eb_ok z
    cases z; rfl
  unfold cOp at h
  by_cases c0 : o = 0
  · rw [if_pos c0] at h
    obtain ⟨_, _, h⟩ := eb_ok h
    obtain ⟨_, _, h⟩ := eb_ok h
    cases h; rfl
  rw [if_neg c0] at h
  by_cases c1 : o = 1
  · rw [if_pos c1] at h
    unfold cEnd at h
    obtain ⟨_, _, h⟩ := eb_ok h
    obtain ⟨_, _, h⟩ := eb_ok h
    obtain ⟨_, _, h⟩ := eb_ok h
    cases h; rfl
  rw [if_neg c1] at h
  by_cases c2 : o = 2
  · rw [if_pos c2] at h
    obtain ⟨_, _, h⟩ := eb_ok h
    cases h; rfl
  rw [if_neg c2] at h
  by_cases c3 : o < 5
  · rw [if_pos c3] at h
    obtain ⟨_, _, h⟩ := eb_ok h
    obtain ⟨_, _, h⟩ := eb_ok h
    cases h; rfl
  rw [if_neg c3] at h
  by_cases c4 : o < 8
  · rw [if_pos c4] at h
    rw [e1 h]
  rw [if_neg c4] at h
  by_cases c5 : o < 10
  · rw [if_pos c5] at h
    rw [e1 h]
  rw [if_neg c5] at h
  by_cases c6 : o = 10 ∨ o = 46
  · rw [if_pos c6] at h
    rw [e1 h]
  rw [if_neg c6] at h
  by_cases c7 : o < 16
  · rw [if_pos c7] at h
    unfold cLoc at h
    split at h
    · obtain ⟨_, _, h⟩ := eb_ok h
      obtain ⟨_, _, h⟩ := eb_ok h
      obtain ⟨_, _, h⟩ := eb_ok h
      cases h; exact List.length_set
    · split at h
      · cases h
      · split at h
        · obtain ⟨_, _, h⟩ := eb_ok h
          obtain ⟨_, _, h⟩ := eb_ok h
          rw [e1 h]
        · split at h
          · obtain ⟨_, _, h⟩ := eb_ok h
            obtain ⟨_, _, h⟩ := eb_ok h
            cases h; exact List.length_set
          · obtain ⟨_, _, h⟩ := eb_ok h
            obtain ⟨_, _, h⟩ := eb_ok h
            rw [e1 h]
  rw [if_neg c7] at h
  by_cases c8 : o < 18
  · rw [if_pos c8] at h
    unfold cFld at h
    obtain ⟨_, _, h⟩ := eb_ok h
    rw [e1 h]
  rw [if_neg c8] at h
  by_cases c9 : o < 21
  · rw [if_pos c9] at h
    unfold cRef at h
    obtain ⟨_, _, h⟩ := eb_ok h
    obtain ⟨_, _, h⟩ := eb_ok h
    split at h
    · obtain ⟨_, _, h⟩ := eb_ok h
      rw [e1 h]
    · obtain ⟨_, _, h⟩ := eb_ok h
      split at h
      · rw [e1 h]
      · obtain ⟨_, _, h⟩ := eb_ok h
        obtain ⟨_, _, h⟩ := eb_ok h
        obtain ⟨_, _, h⟩ := eb_ok h
        cases h; rfl
  rw [if_neg c9] at h
  by_cases c10 : o = 21
  · rw [if_pos c10] at h
    unfold cPack at h
    obtain ⟨_, _, h⟩ := eb_ok h
    rw [e1 h]
  rw [if_neg c10] at h
  by_cases c11 : o = 22
  · rw [if_pos c11] at h
    unfold cUnp at h
    obtain ⟨_, _, h⟩ := eb_ok h
    rw [e1 h]
  rw [if_neg c11] at h
  by_cases c12 : o = 23
  · rw [if_pos c12] at h
    unfold cCall at h
    obtain ⟨_, _, h⟩ := eb_ok h
    obtain ⟨_, _, h⟩ := eb_ok h
    obtain ⟨_, _, h⟩ := eb_ok h
    obtain ⟨_, _, h⟩ := eb_ok h
    rw [e1 h]
  rw [if_neg c12] at h
  by_cases c13 : o < 45
  · rw [if_pos c13] at h
    unfold cNum at h
    split at h
    · obtain ⟨_, _, h⟩ := eb_ok h
      obtain ⟨_, _, h⟩ := eb_ok h
      obtain ⟨_, _, h⟩ := eb_ok h
      rw [e1 h]
    split at h
    · obtain ⟨_, _, h⟩ := eb_ok h
      obtain ⟨_, _, h⟩ := eb_ok h
      rw [e1 h]
    split at h
    · obtain ⟨_, _, h⟩ := eb_ok h
      rw [e1 h]
    split at h
    · obtain ⟨_, _, h⟩ := eb_ok h
      rw [e1 h]
    split at h
    · obtain ⟨_, _, h⟩ := eb_ok h
      obtain ⟨_, _, h⟩ := eb_ok h
      rw [e1 h]
    split at h
    · obtain ⟨_, _, h⟩ := eb_ok h
      obtain ⟨_, _, h⟩ := eb_ok h
      obtain ⟨_, _, h⟩ := eb_ok h
      obtain ⟨_, _, h⟩ := eb_ok h
      rw [e1 h]
    · cases h; rfl
  rw [if_neg c13] at h
  by_cases c14 : o = 45
  · rw [if_pos c14] at h
    obtain ⟨_, _, h⟩ := eb_ok h
    cases h; rfl
  rw [if_neg c14] at h
  by_cases c15 : o < 52
  · rw [if_pos c15] at h
    unfold cRes at h
    obtain ⟨_, _, h⟩ := eb_ok h
    obtain ⟨_, _, h⟩ := eb_ok h
    obtain ⟨_, _, h⟩ := eb_ok h
    split at h
    · cases h; rfl
    split at h
    · obtain ⟨_, _, h⟩ := eb_ok h
      rw [e1 h]
    split at h
    · rw [e1 h]
    · obtain ⟨_, _, h⟩ := eb_ok h
      rw [e1 h]
  rw [if_neg c15] at h
  by_cases c16 : o < 59
  · rw [if_pos c16] at h
    unfold cVec at h
    split at h
    · obtain ⟨_, _, h⟩ := eb_ok h
      rw [e1 h]
    split at h
    · obtain ⟨_, _, h⟩ := eb_ok h
      rw [e1 h]
    split at h
    · obtain ⟨_, _, h⟩ := eb_ok h
      obtain ⟨_, _, h⟩ := eb_ok h
      rw [e1 h]
    split at h
    · obtain ⟨_, _, h⟩ := eb_ok h
      obtain ⟨_, _, h⟩ := eb_ok h
      obtain ⟨_, _, h⟩ := eb_ok h
      cases h; rfl
    split at h
    · obtain ⟨_, _, h⟩ := eb_ok h
      obtain ⟨_, _, h⟩ := eb_ok h
      rw [e1 h]
    · obtain ⟨_, _, h⟩ := eb_ok h
      obtain ⟨_, _, h⟩ := eb_ok h
      obtain ⟨_, _, h⟩ := eb_ok h
      obtain ⟨_, _, h⟩ := eb_ok h
      cases h; rfl
  · rw [if_neg c16] at h
    obtain ⟨_, _, h⟩ := eb_ok h
    rw [e1 h]
/-- rows of the table grow -/
def trl (a b : Option Ls) : Prop := ∀ l, a = some l → ∃ l', b = some l' ∧ lsl l l'
theorem trl.rfl' (a : Option Ls) : trl a a := fun l hl => ⟨l, hl, lsl.rfl' l⟩
theorem trl.trans {a b c : Option Ls} (h1 : trl a b) (h2 : trl b c) : trl a c := fun l hl => by
  obtain ⟨l1, e1, f1⟩ := h1 l hl
  obtain ⟨l2, e2, f2⟩ := h2 l1 e1
  exact ⟨l2, e2, f1.trans f2⟩
def tbl (lt : List Ty) (tb : Tb) : Prop := ∀ j l, tat tb j = some l → l.length = lt.length
theorem cCome_le {m : Md} {lt : List Ty} {i j : Nat} {l : Ls} {tb tb' : Tb} (h : cCome m lt i j l tb = .ok tb') (ht : tbl lt tb) (hl : l.length = lt.length) (hj : j < tb.length) (hc : j ≤ i → (tat tb j).isSome = true) : tbl lt tb' ∧ tb'.length = tb.length ∧ (∀ q, q ≤ i → tat tb' q = tat tb q) ∧ (∀ q, trl (tat tb q) (tat tb' q)) ∧ ∃ l', tat tb' j = some l' ∧ lsl l l' := by
  unfold cCome at h
  by_cases c : j ≤ i
  · rw [if_pos c] at h
    obtain ⟨_, h1, h2⟩ := eb_ok h
    cases h2
    cases hta : tat tb j with
    | none => have := hc c; rw [hta] at this; cases this
    | some a =>
      rw [hta] at h1
      refine ⟨ht, rfl, fun q _ => rfl, fun q => trl.rfl' _, a, rfl, ?_, ?_⟩
      · rw [hl, ht j a hta]
      · exact cBack_le (ht j a hta) hl h1
  · rw [if_neg c] at h
    have put : ∀ r : Ls, r.length = lt.length → trl (tat tb j) (some r) → lsl l r → tbl lt (tb.set j (some r)) ∧ (tb.set j (some r)).length = tb.length ∧ (∀ q, q ≤ i → tat (tb.set j (some r)) q = tat tb q) ∧ (∀ q, trl (tat tb q) (tat (tb.set j (some r)) q)) ∧ ∃ l', tat (tb.set j (some r)) j = some l' ∧ lsl l l' := fun r hr h1 h2 => by
      refine ⟨fun q y hy => ?_, by simp, fun q hq => ?_, fun q => ?_, r, ?_, h2⟩
      · rw [tat_set hj] at hy
        by_cases z : q = j
        · rw [if_pos z] at hy; cases hy; exact hr
        · rw [if_neg z] at hy; exact ht q y hy
      · rw [tat_set hj, if_neg (by omega)]
      · rw [tat_set hj]
        by_cases z : q = j
        · rw [if_pos z, z]; exact h1
        · rw [if_neg z]; exact trl.rfl' _
      · rw [tat_set hj, if_pos rfl]
    cases hta : tat tb j with
    | none =>
      rw [hta] at h
      cases h
      exact put l hl (fun y hy => by rw [hta] at hy; cases hy) (lsl.rfl' l)
    | some a =>
      rw [hta] at h
      obtain ⟨r, h1, h2⟩ := eb_ok h
      cases h2
      have ha := ht j a hta
      obtain ⟨q1, q2⟩ := cJoin_len ha hl h1
      refine put r q1 (fun y hy => ?_) ⟨by omega, fun k => by rw [q2 k]; exact jn1_r _ _⟩
      rw [hta] at hy
      cases hy
      exact ⟨r, rfl, by omega, fun k => by rw [q2 k]; exact jn1_l _ _⟩
theorem cAll_c {m : Md} {u : Ux} {lt : List Ty} : ∀ {l : List Ix} {i : Nat} {c r : Sk × Tb}, cAll m u lt l i c = .ok r → ∃ C : Nat → Sk × Tb, C i = c ∧ C (i + l.length) = r ∧ ∀ j x, l[j]? = some x → cLook m u lt (i + j) x (C (i + j)) = .ok (C (i + j + 1))
  | [], i, c, r, h => ⟨fun _ => c, rfl, by cases h; rfl, fun j x hx => by simp at hx⟩
  | x :: l, i, c, r, h => by
    have h : (match cLook m u lt i x c with | .error w => (.error (w, i) : Except (Nat × Nat) (Sk × Tb)) | .ok c' => cAll m u lt l (i + 1) c') = .ok r := h
    cases hc : cLook m u lt i x c with
    | error w => rw [hc] at h; cases h
    | ok c' =>
      rw [hc] at h
      obtain ⟨C, h1, h0, h2⟩ := cAll_c h
      refine ⟨fun k => if k = i then c else C k, by simp, ?_, fun j y hy => ?_⟩
      · show (if i + (x :: l).length = i then c else C (i + (x :: l).length)) = r
        rw [List.length_cons, if_neg (by omega), show i + (l.length + 1) = i + 1 + l.length by omega]; exact h0
      cases j with
      | zero =>
        cases hy
        show cLook m u lt i x (if i = i then c else C i) = .ok (if i + 1 = i then c else C (i + 1))
        rw [if_pos rfl, if_neg (by omega), h1]; exact hc
      | succ j =>
        have := h2 j y (by simpa using hy)
        show cLook m u lt (i + (j + 1)) y (if i + (j + 1) = i then c else C (i + (j + 1))) = .ok (if i + (j + 1) + 1 = i then c else C (i + (j + 1) + 1))
        rw [if_neg (by omega), if_neg (by omega), show i + (j + 1) = i + 1 + j by omega]; exact this
/-- one look: what it asks, and what it leaves -/
theorem cLook_le {m : Md} {u : Ux} {lt : List Ty} {i : Nat} {x : Ix} {c c' : Sk × Tb} (h : cLook m u lt i x c = .ok c') (ht : tbl lt c.2) (hn : c.2.length = (ui u).length) (hb : 1 < x.1 → x.1 < 5 → x.2.1 < (ui u).length) (hc : ∀ j, j < i → (tat c.2 j).isSome = true) :
    tbl lt c'.2 ∧ c'.2.length = (ui u).length ∧ (∀ q, q ≤ i → tat c'.2 q = tat c.2 q) ∧ (∀ q, trl (tat c.2 q) (tat c'.2 q)) ∧ ∃ l, tat c.2 i = some l ∧ (leds u i = true → c.1 = []) ∧ ∃ d, cOp m u lt x.1 x.2.1 x.2.2.1 (c.1, l) = .ok d ∧ (1 < x.1 → x.1 < 5 → ∃ l', tat c'.2 x.2.1 = some l' ∧ lsl d.2 l') ∧ (¬ (x.1 = 1 ∨ x.1 = 2 ∨ x.1 = 45) → i + 1 < (ui u).length ∧ c'.1 = d.1 ∧ ∃ l', tat c'.2 (i + 1) = some l' ∧ lsl d.2 l') := by
  unfold cLook at h
  cases hti : tat c.2 i with
  | none => rw [hti] at h; cases h
  | some l =>
    rw [hti] at h
    obtain ⟨_, h1, h⟩ := eb_ok h
    obtain ⟨d, h2, h⟩ := eb_ok h
    obtain ⟨tb, h3, h⟩ := eb_ok h
    have hled : leds u i = true → c.1 = [] := fun z => by
      rw [z] at h1
      cases hs : c.1 with
      | nil => rfl
      | cons a s => rw [hs] at h1; cases h1
    have hdl : d.2.length = lt.length := by rw [cOp_len h2]; exact ht i l hti
    have st : tbl lt tb ∧ tb.length = (ui u).length ∧ (∀ q, q ≤ i → tat tb q = tat c.2 q) ∧ (∀ q, trl (tat c.2 q) (tat tb q)) ∧ (1 < x.1 → x.1 < 5 → ∃ l', tat tb x.2.1 = some l' ∧ lsl d.2 l') := by
      by_cases cb : 1 < x.1 ∧ x.1 < 5
      · rw [if_pos cb] at h3
        have hx := hb cb.1 cb.2
        obtain ⟨a1, a2, a3, a4, a5⟩ := cCome_le h3 ht hdl (by omega) (fun z => by
          rcases Nat.lt_or_ge x.2.1 i with q | q
          · exact hc _ q
          · rw [show x.2.1 = i by omega, hti]; rfl)
        exact ⟨a1, by omega, a3, a4, fun _ _ => a5⟩
      · rw [if_neg cb] at h3
        cases h3
        exact ⟨ht, hn, fun q _ => rfl, fun q => trl.rfl' _, fun z1 z2 => absurd ⟨z1, z2⟩ cb⟩
    obtain ⟨s1, s2, s3, s4, s5⟩ := st
    by_cases ce : x.1 = 1 ∨ x.1 = 2 ∨ x.1 = 45
    · rw [if_pos ce] at h
      cases h
      exact ⟨s1, s2, s3, s4, l, rfl, hled, d, h2, s5, fun z => absurd ce z⟩
    · rw [if_neg ce] at h
      obtain ⟨_, h4, h⟩ := eb_ok h
      obtain ⟨tb2, h5, h⟩ := eb_ok h
      cases h
      have hi1 : i + 1 < (ui u).length := by
        cases hh : decide (i + 1 < (ui u).length) with
        | true => exact of_decide_eq_true hh
        | false => rw [hh] at h4; cases h4
      obtain ⟨a1, a2, a3, a4, a5⟩ := cCome_le h5 s1 hdl (by omega) (fun z => by omega)
      refine ⟨a1, by show tb2.length = _; omega, fun q hq => by rw [a3 q hq, s3 q hq], fun q => (s4 q).trans (a4 q), l, rfl, hled, d, h2, fun z1 z2 => ?_, fun _ => ⟨hi1, rfl, a5⟩⟩
      obtain ⟨l1, e1, f1⟩ := s5 z1 z2
      obtain ⟨l2, e2, f2⟩ := a4 x.2.1 l1 e1
      exact ⟨l2, e2, f1.trans f2⟩
/-- stacks and locals at each instruction -/
def Ann (m : Md) (u : Ux) (S : Nat → Sk) (L : Nat → Ls) : Prop := (S 0 = [] ∧ L 0 = ls0 u) ∧ ∀ i x, (ui u)[i]? = some x → (leds u i = true → S i = []) ∧ (L i).length = nlo u ∧ ∃ d, cOp m u (lty u) x.1 x.2.1 x.2.2.1 (S i, L i) = .ok d ∧ (1 < x.1 → x.1 < 5 → S x.2.1 = [] ∧ lsl d.2 (L x.2.1)) ∧ (¬ (x.1 = 1 ∨ x.1 = 2 ∨ x.1 = 45) → i + 1 < (ui u).length ∧ S (i + 1) = d.1 ∧ lsl d.2 (L (i + 1)))
theorem leds_t {u : Ux} {i : Nat} {x : Ix} (hx : (ui u)[i]? = some x) (h : 1 < x.1 ∧ x.1 < 5) : leds u x.2.1 = true := by
  unfold leds
  rw [List.any_eq_true]
  refine ⟨x, List.mem_of_getElem? hx, ?_⟩
  rw [decide_eq_true (by omega)]; simp
/-- locals noted at an instruction -/
def lnt (m : Md) (u : Ux) (i : Nat) : Ls := match chk m u with
  | .ok r => (tat r.2 i).getD []
  | .error _ => []
theorem chk_ann {m : Md} {u : Ux} {r : Sk × Tb} (h : chk m u = .ok r) (hb : ∀ x ∈ ui u, 1 < x.1 → x.1 < 5 → x.2.1 < (ui u).length) (h1 : 1 ≤ (ui u).length) : ∃ S, Ann m u S (lnt m u) := by
  obtain ⟨C, hC0, hCn, hC⟩ := cAll_c h
  rw [Nat.zero_add] at hCn
  have hC : ∀ j x, (ui u)[j]? = some x → cLook m u (lty u) j x (C j) = .ok (C (j + 1)) := fun j x hx => by have := hC j x hx; rw [Nat.zero_add] at this; exact this
  have t0 : tbl (lty u) (tb0 u) := fun j l hl => by
    cases j with
    | zero => cases hl; rw [ls0_len, lty_len]
    | succ j =>
      unfold tat tb0 at hl
      rw [List.getElem?_cons_succ, List.getElem?_replicate] at hl
      split at hl <;> cases hl
  -- what holds of each state
  have inv : ∀ i, i ≤ (ui u).length → tbl (lty u) (C i).2 ∧ (C i).2.length = (ui u).length ∧ ∀ j, j < i → (tat (C i).2 j).isSome = true := by
    intro i
    induction i with
    | zero =>
      intro _
      rw [hC0]
      exact ⟨t0, by show (tb0 u).length = _; unfold tb0; simp; omega, fun j hj => by omega⟩
    | succ i ih =>
      intro hi
      obtain ⟨a1, a2, a3⟩ := ih (by omega)
      have hx : (ui u)[i]? = some (ui u)[i] := List.getElem?_eq_getElem (by omega)
      have hl := hC i _ hx
      obtain ⟨b1, b2, b3, b4, l, b5, -⟩ := cLook_le hl a1 a2 (hb _ (List.getElem_mem (by omega))) a3
      refine ⟨b1, b2, fun j hj => ?_⟩
      rw [b3 j (by omega)]
      rcases Nat.lt_or_ge j i with z | z
      · exact a3 j z
      · rw [show j = i by omega, b5]; rfl
  have lk := fun i (hi : i < (ui u).length) => cLook_le (hC i _ (List.getElem?_eq_getElem hi)) (inv i (by omega)).1 (inv i (by omega)).2.1 (hb _ (List.getElem_mem hi)) (inv i (by omega)).2.2
  -- rows stay, or grow
  have grow : ∀ k i q, i + k ≤ (ui u).length → trl (tat (C i).2 q) (tat (C (i + k)).2 q) := by
    intro k
    induction k with
    | zero => intro i q _; exact trl.rfl' _
    | succ k ih =>
      intro i q hi
      exact (ih i q (by omega)).trans ((lk (i + k) (by omega)).2.2.2.1 q)
  have stay : ∀ k i q, q ≤ i → i + k ≤ (ui u).length → tat (C (i + k)).2 q = tat (C i).2 q := by
    intro k
    induction k with
    | zero => intro i q _ _; rfl
    | succ k ih =>
      intro i q hq hi
      rw [← ih i q hq (by omega)]
      exact (lk (i + k) (by omega)).2.2.1 q (by omega)
  have row : ∀ i, i < (ui u).length → ∃ l, tat (C i).2 i = some l := fun i hi => by
    obtain ⟨-, -, -, -, l, e, -⟩ := lk i hi
    exact ⟨l, e⟩
  -- what comes is noted
  have flow : ∀ i j d, i < (ui u).length → j < (ui u).length → (∃ l', tat (C (i + 1)).2 j = some l' ∧ lsl d l') → lsl d ((tat (C j).2 j).getD []) := fun i j d hi hj ⟨l', e1, e2⟩ => by
    rcases Nat.lt_or_ge i j with z | z
    · obtain ⟨l2, f1, f2⟩ := grow (j - (i + 1)) (i + 1) j (by omega) l' e1
      rw [show i + 1 + (j - (i + 1)) = j by omega] at f1
      rw [f1]; exact e2.trans f2
    · have := stay (i + 1 - j) j j (by omega) (by omega)
      rw [show j + (i + 1 - j) = i + 1 by omega] at this
      rw [← this, e1]; exact e2
  have elnt : ∀ i, i < (ui u).length → lnt m u i = (tat (C i).2 i).getD [] := fun i hi => by
    have := stay ((ui u).length - i) i i (Nat.le_refl _) (by omega)
    rw [show i + ((ui u).length - i) = (ui u).length by omega, hCn] at this
    unfold lnt
    rw [h]
    show (tat r.2 i).getD [] = _
    rw [this]
  refine ⟨fun i => (C i).1, ⟨by show (C 0).1 = []; rw [hC0], by rw [elnt 0 (by omega), hC0]; rfl⟩, fun i x hx => ?_⟩
  have hi := get_lt hx
  have ex : (ui u)[i] = x := by rw [List.getElem?_eq_getElem hi] at hx; exact Option.some.inj hx
  obtain ⟨-, -, -, -, l, e1, e2, d, e3, e4, e5⟩ := lk i hi
  rw [ex] at e3 e4 e5
  refine ⟨e2, ?_, d, ?_, fun z1 z2 => ⟨?_, ?_⟩, fun z => ?_⟩
  · rw [elnt i hi, e1, ← lty_len]
    exact (inv i (by omega)).1 i l e1
  · show cOp m u (lty u) x.1 x.2.1 x.2.2.1 ((C i).1, lnt m u i) = .ok d
    rw [elnt i hi, e1]; exact e3
  · have hj := hb x (List.mem_of_getElem? hx) z1 z2
    obtain ⟨-, -, -, -, l2, -, f2, -⟩ := lk _ hj
    exact f2 (leds_t hx ⟨z1, z2⟩)
  · have hj := hb x (List.mem_of_getElem? hx) z1 z2
    rw [elnt _ hj]
    exact flow i _ _ hi hj (e4 z1 z2)
  · obtain ⟨f1, f2, f3⟩ := e5 z
    rw [elnt _ f1]
    exact ⟨f1, f2, flow i _ _ hi f1 f3⟩
