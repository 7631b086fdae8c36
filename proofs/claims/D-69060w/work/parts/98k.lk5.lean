/-! the twin's looker: what is live -/
theorem TKr.at {h : AH} {O : Nat} : ∀ {s : Sk}, TKr h O s → ∀ i x, s.reverse[i]? = some x → h.EJ 1811 (O + 7) i = lN (tyc x.1) ∧ h.EJ 1827 (O + 8) i = lN x.2.1 ∧ h.EI 1842 (O + 9) i = bI x.2.2
  | [], _, i, x, hx => by simp at hx
  | y :: s, hs, i, x, hx => by
    rw [List.reverse_cons] at hx
    by_cases c : i < s.length
    · rw [List.getElem?_append_left (by simpa using c)] at hx
      exact TKr.at hs.2 i x hx
    · have hi : i = s.length := by have := get_lt hx; simp at this; omega
      subst hi
      rw [List.getElem?_append_right (by simp)] at hx
      simp at hx
      subst hx
      exact hs.1
theorem any_take {α : Type} {p : α → Bool} {l : List α} {i : Nat} {x : α} (h : l[i]? = some x) : (l.take (i + 1)).any p = ((l.take i).any p || p x) := by
  rw [List.take_add_one, h, List.any_append]; simp
theorem lv1_nf {f w : Nat} {t : Ty} {og : Og} (h : isRf t = false → og = (0, false)) : lv1 f w t og = ((og.1 &&& f) != 0 && cnts w t og.2) := by
  unfold lv1
  cases hr : isRf t with
  | true => rfl
  | false => rw [h hr]; simp
/-- bit of an origin -/
theorem og_bit {a b : Nat} (ha : a < 9223372036854775808) (hb : b < 63) : ((lN a >>> ((nI b).toInt64 &&& 63)) &&& (1 : Int64)) = (1 : Int64) ↔ (a &&& 2 ^ b) ≠ 0 := by
  have e : un ((lN a >>> ((nI b).toInt64 &&& 63)) &&& (1 : Int64)) = a >>> b &&& 1 := by
    rw [un_and, un_shr _ (by omega) (by rw [un_l (by omega)]; omega), un_l (by omega)]; rfl
  have k : (a &&& 2 ^ b) ≠ 0 ↔ a.testBit b = true := by
    constructor
    · intro z
      cases hh : a.testBit b with
      | true => rfl
      | false =>
        refine absurd (Nat.eq_of_testBit_eq fun i => ?_) z
        rw [Nat.testBit_and, Nat.testBit_two_pow, Nat.zero_testBit]
        by_cases c : b = i
        · subst c; rw [hh]; rfl
        · simp [c]
    · intro z y
      have := congrArg (fun x => x.testBit b) y
      simp [Nat.testBit_and, z, Nat.testBit_two_pow] at this
  rw [k]
  have t : a >>> b &&& 1 = if a.testBit b then 1 else 0 := by
    rw [Nat.testBit, Nat.and_comm]
    have : 1 &&& a >>> b = (a >>> b) % 2 := by rw [Nat.and_comm, Nat.and_one_is_mod]
    rw [this]
    rcases Nat.mod_two_eq_zero_or_one (a >>> b) with z | z <;> simp [z]
  constructor
  · intro z
    have := congrArg un z
    rw [e, t] at this
    cases hh : a.testBit b with
    | true => rfl
    | false => rw [hh] at this; exact absurd this (by decide)
  · intro z
    exact un_inj (by rw [e, t, z]; rfl)
theorem og_meet {a : Nat} {x : Int64} (ha : a < 9223372036854775808) : (lN a &&& x) = (0 : Int64) ↔ (a &&& un x) = 0 := by
  have e : un (lN a &&& x) = a &&& un x := by rw [un_and, un_l (by omega)]
  constructor
  · intro z
    have := congrArg un z
    rw [e] at this; exact this
  · intro z; exact un_inj (by rw [e, z]; rfl)
theorem lptd_ok {G : Gt} {d : Nat} {h : AH} {K : Outcome → AH → Prop} {O U n f bit : Nat} {B : Nat → Nat} {m : Md} {u : Ux} {e : Except Nat Ts} {w : Bool} (hs : LC h O U n B m f u) (hu : gU m u) (hr : TRs h O m (lty u) e) (hb : bit < 63) (hd : 2 ≤ d) (kk : ∀ b, (∀ x, e = .ok x → b = liv (lty u) x.2.1 x.2.2 (2 ^ bit) (if w then 1 else 0)) → K (.returned (some (.int (bI b)))) h) : MW G d e_X25_isPointed [.ref O, .int (nI bit), .int (bI w)] h K := by
  refine st_X25_isPointed fun X o hG hD _ => ?_
  subst hG; subst hD
  obtain ⟨s0, ⟨a1, a2, a3, a4, a5, a6⟩, ⟨b1, b2, b3, b4, b5, b6⟩, ⟨c1, c2, c3, c4, c5, c6⟩, d1, d2, d3, d4, d5, d6⟩ := id hs.1.1
  obtain ⟨-, ⟨v1, v2, v3, v4⟩, v5⟩ := id hs
  have hn := hu.n
  have hlt : (lty u).length = nlo u := lty_len u
  have ec : ∀ t i, cnts (if w then 1 else 0) t i = (!w || isWr t) := fun t i => by cases w <;> rfl
  obtain ⟨ht, hh, h65, hgood⟩ : ∃ ht, h.I 3086 O = nI ht ∧ ht ≤ 65 ∧ ∀ x, e = .ok x → ht = x.2.1.length := by
    cases e with
    | ok x =>
      obtain ⟨s1, ⟨s2, s3, s4⟩, -⟩ := id (hr : TGd h O m _ x)
      exact ⟨_, s2, by have := s4.1; omega, fun y hy => by cases hy; rfl⟩
    | error v =>
      obtain ⟨s1, s2, k, hk, s3⟩ := id (hr : TBd h O v)
      exact ⟨k, s3, hk, fun y hy => by cases hy⟩
  have good : ∀ x, e = .ok x → TGd h O m (lty u) x := fun x hx => by subst hx; exact hr
  -- locals
  have loop2 : ∀ j i b, j + i = nlo u → (∀ x, e = .ok x → b = ((x.2.1.any fun y => lv1 (2 ^ bit) (if w then 1 else 0) y.1 y.2) || (((lty u).zip x.2.2).take i).any fun y => lvo (2 ^ bit) (if w then 1 else 0) y.1 y.2)) → V X K 66 [.ref O, .int (nI bit), .int (bI w), .int (bI b), .int (nI i)] [] h := by
    intro j
    induction j with
    | zero =>
      intro i b hi hb'
      refine k_X25_isPointed_66 o (fun _ => ?_) (fun c => ?_)
      rotate_left
      · exact absurd ((nI_leI (by omega) (by omega)).mpr (by omega)) c
      refine k_X25_isPointed_134 o ?_
      refine kk b fun x hx => ?_
      rw [hb' x hx, List.take_of_length_le (by simp [List.length_zip]; omega)]
      rfl
    | succ j ih =>
      intro i b hi hb'
      have ixi : IX (nI i) 40 i := IX.mk (by omega) (by omega)
      refine k_X25_isPointed_66 o (fun c => ?_) (fun _ => ?_)
      · exact absurd ((nI_leI (by omega) (by omega)).mp c) (by omega)
      have nx : ∀ b', (∀ x, e = .ok x → b' = (b || lvo (2 ^ bit) (if w then 1 else 0) (tgt (lty u) i) (lgt x.2.2 i))) → V X K 127 [.ref O, .int (nI bit), .int (bI w), .int (bI b), .int (nI i)] [.int (bI b')] h := by
        intro b' hb2
        refine k_X25_isPointed_127 o ?_
        rw [nI_add]
        refine ih (i + 1) b' (by omega) fun x hx => ?_
        rw [hb2 x hx, hb' x hx]
        have hl := (good x hx).2.2.1.2.2.1
        have hx2 : ((lty u).zip x.2.2)[i]? = some (tgt (lty u) i, lgt x.2.2 i) := by
          unfold tgt lgt
          rw [List.getElem?_zip_eq_some, List.getElem?_eq_getElem (by omega), List.getElem?_eq_getElem (by omega)]
          exact ⟨rfl, rfl⟩
        rw [any_take hx2, Bool.or_assoc]
      cases b with
      | true =>
        refine k_X25_isPointed_75 o (fun _ => ?_) (fun c => absurd (show bI true = 0 from c) (by decide))
        refine k_X25_isPointed_122 o ?_
        exact nx true fun x hx => by simp
      | false =>
        refine k_X25_isPointed_75 o (fun c => absurd rfl c) (fun _ => ?_)
        have r1 : h.EI 1858 (O + 10) i = h.EI 1858 (O + 10) i := rfl
        have r2 : h.EJ 1875 (O + 11) i = h.EJ 1875 (O + 11) i := rfl
        have r3 := v5 i (by omega)
        have tv := (hu.lt (k := i) (by omega)).ok.tv.1
        have fact : ∀ x, e = .ok x → (h.EI 1858 (O + 10) i = bI (lgt x.2.2 i).isSome ∧ ∀ og, lgt x.2.2 i = some og → h.EJ 1875 (O + 11) i = lN og.1 ∧ og.1 < 9223372036854775808 ∧ lvo (2 ^ bit) (if w then 1 else 0) (tgt (lty u) i) (lgt x.2.2 i) = ((og.1 &&& 2 ^ bit) != 0 && (!w || isWr (tgt (lty u) i)))) := fun x hx => by
          obtain ⟨-, -, ⟨g1, g2, g3, g4'⟩, -⟩ := good x hx
          refine ⟨g1 i (by omega), fun og ho => ?_⟩
          have hq : x.2.2[i]? = some (some og) := by
            unfold lgt at ho
            rw [List.getElem?_eq_getElem (show i < x.2.2.length by omega)] at ho ⊢
            exact congrArg some ho
          refine ⟨(g2 i og hq).1, (g4' i og hq).1, ?_⟩
          rw [ho]
          show lv1 _ _ _ og = _
          rw [lv1_nf (g4' i og hq).2, ec]
        refine k_X25_isPointed_79 o (fun c => ?_) (fun c => ?_)
        · refine k_X25_isPointed_126 o ?_
          refine nx false fun x hx => ?_
          have f1 := (fact x hx).1
          rw [c] at f1
          have f1 := bI_0.mp f1.symm
          cases hh : lgt x.2.2 i with
          | none => rfl
          | some og => rw [hh] at f1; cases f1
        · have fs : ∀ x, e = .ok x → ∃ og, lgt x.2.2 i = some og := fun x hx => by
            have f1 := (fact x hx).1
            cases hh : lgt x.2.2 i with
            | none => rw [hh] at f1; exact absurd f1 c
            | some og => exact ⟨og, rfl⟩
          refine k_X25_isPointed_89 o (fun c2 => ?_) (fun c2 => ?_)
          · refine k_X25_isPointed_126 o ?_
            refine nx false fun x hx => ?_
            obtain ⟨og, ho⟩ := fs x hx
            obtain ⟨f2, f3, f4⟩ := (fact x hx).2 og ho
            rw [f4]
            rw [f2] at c2
            have : (og.1 &&& 2 ^ bit) = 0 := Decidable.byContradiction fun z => c2 ((og_bit f3 hb).mpr z)
            rw [this]; rfl
          · have f5 : ∀ x, e = .ok x → lvo (2 ^ bit) (if w then 1 else 0) (tgt (lty u) i) (lgt x.2.2 i) = (!w || isWr (tgt (lty u) i)) := fun x hx => by
              obtain ⟨og, ho⟩ := fs x hx
              obtain ⟨f2, f3, f4⟩ := (fact x hx).2 og ho
              rw [f4]
              rw [f2] at c2
              have : ((og.1 &&& 2 ^ bit) != 0) = true := by simpa using (og_bit f3 hb).mp c2
              rw [this]; rfl
            cases w with
            | false =>
              refine k_X25_isPointed_105 o (fun _ => ?_) (fun c => absurd rfl c)
              refine k_X25_isPointed_122 o ?_
              exact nx true fun x hx => by rw [f5 x hx]; rfl
            | true =>
              refine k_X25_isPointed_105 o (fun c => absurd (show bI true = 0 from c) (by decide)) (fun _ => ?_)
              refine k_X25_isPointed_109 o ?_
              refine lwri_ok tv (by omega) ?_
              cases hw : isWr (tgt (lty u) i) with
              | false =>
                refine k_X25_isPointed_119 o (fun _ => ?_) (fun c => absurd rfl c)
                refine k_X25_isPointed_126 o ?_
                exact nx false fun x hx => by rw [f5 x hx, hw]; rfl
              | true =>
                refine k_X25_isPointed_119 o (fun c => absurd (show bI true = 0 from c) (by decide)) (fun _ => ?_)
                refine k_X25_isPointed_122 o ?_
                exact nx true fun x hx => by rw [f5 x hx, hw]; rfl
  -- the stack
  have loop1 : ∀ j i b, j + i = ht → (∀ x, e = .ok x → b = (x.2.1.reverse.take i).any fun y => lv1 (2 ^ bit) (if w then 1 else 0) y.1 y.2) → V X K 5 [.ref O, .int (nI bit), .int (bI w), .int (bI b), .int (nI i)] [] h := by
    intro j
    induction j with
    | zero =>
      intro i b hi hb'
      refine k_X25_isPointed_5 o (fun _ => ?_) (fun c => ?_)
      rotate_left
      · exact absurd ((nI_leI (by omega) (by omega)).mpr (by omega)) c
      refine k_X25_isPointed_63 o ?_
      refine loop2 (nlo u) 0 b rfl fun x hx => ?_
      rw [hb' x hx, List.take_of_length_le (by have := hgood x hx; simp; omega), List.any_reverse]
      simp
    | succ j ih =>
      intro i b hi hb'
      have ixi : IX (nI i) 200 i := IX.mk (by omega) (by omega)
      refine k_X25_isPointed_5 o (fun c => ?_) (fun _ => ?_)
      · exact absurd ((nI_leI (by omega) (by omega)).mp c) (by omega)
      have fact : ∀ x, e = .ok x → ∃ y, x.2.1.reverse[i]? = some y ∧ h.EJ 1811 (O + 7) i = lN (tyc y.1) ∧ h.EJ 1827 (O + 8) i = lN y.2.1 ∧ y.2.1 < 9223372036854775808 ∧ tOK m y.1 ∧ lv1 (2 ^ bit) (if w then 1 else 0) y.1 y.2 = ((y.2.1 &&& 2 ^ bit) != 0 && (!w || isWr y.1)) := fun x hx => by
        obtain ⟨-, ⟨-, g1, -, g2⟩, -⟩ := good x hx
        have hl := hgood x hx
        have hx2 : x.2.1.reverse[i]? = some (x.2.1.reverse[i]'(by simp; omega)) := List.getElem?_eq_getElem _
        obtain ⟨q1, q2, -⟩ := g1.at _ _ hx2
        have hm := List.mem_of_getElem? hx2
        obtain ⟨p1, p2, p3⟩ := g2 _ (List.mem_reverse.mp hm)
        exact ⟨_, hx2, q1, q2, p2, p1, by rw [lv1_nf p3, ec]⟩
      have nx : ∀ b', (∀ x, e = .ok x → ∀ y, x.2.1.reverse[i]? = some y → b' = (b || lv1 (2 ^ bit) (if w then 1 else 0) y.1 y.2)) → V X K 56 [.ref O, .int (nI bit), .int (bI w), .int (bI b), .int (nI i)] [.int (bI b')] h := by
        intro b' hb2
        refine k_X25_isPointed_56 o ?_
        rw [nI_add]
        refine ih (i + 1) b' (by omega) fun x hx => ?_
        obtain ⟨y, hy, -⟩ := fact x hx
        rw [hb2 x hx y hy, hb' x hx, any_take hy]
      cases b with
      | true =>
        refine k_X25_isPointed_14 o (fun _ => ?_) (fun c => absurd (show bI true = 0 from c) (by decide))
        refine k_X25_isPointed_51 o ?_
        exact nx true fun x hx y hy => by simp
      | false =>
        refine k_X25_isPointed_14 o (fun c => absurd rfl c) (fun _ => ?_)
        have r1 : h.EJ 1811 (O + 7) i = h.EJ 1811 (O + 7) i := rfl
        have r2 : h.EJ 1827 (O + 8) i = h.EJ 1827 (O + 8) i := rfl
        refine k_X25_isPointed_18 o (fun c2 => ?_) (fun c2 => ?_)
        · refine k_X25_isPointed_55 o ?_
          refine nx false fun x hx y hy => ?_
          obtain ⟨y', hy', q1, q2, p2, p1, p4⟩ := fact x hx
          rw [hy] at hy'; cases hy'
          rw [p4]
          rw [q2] at c2
          have : (y.2.1 &&& 2 ^ bit) = 0 := Decidable.byContradiction fun z => c2 ((og_bit p2 hb).mpr z)
          rw [this]; rfl
        · have f5 : ∀ x, e = .ok x → ∀ y, x.2.1.reverse[i]? = some y → lv1 (2 ^ bit) (if w then 1 else 0) y.1 y.2 = (!w || isWr y.1) := fun x hx y hy => by
            obtain ⟨y', hy', q1, q2, p2, p1, p4⟩ := fact x hx
            rw [hy] at hy'; cases hy'
            rw [p4]
            rw [q2] at c2
            have : ((y.2.1 &&& 2 ^ bit) != 0) = true := by simpa using (og_bit p2 hb).mp c2
            rw [this]; rfl
          cases w with
          | false =>
            refine k_X25_isPointed_34 o (fun _ => ?_) (fun c => absurd rfl c)
            refine k_X25_isPointed_51 o ?_
            exact nx true fun x hx y hy => by rw [f5 x hx y hy]; rfl
          | true =>
            refine k_X25_isPointed_34 o (fun c => absurd (show bI true = 0 from c) (by decide)) (fun _ => ?_)
            refine k_X25_isPointed_38 o ?_
            refine lwri_m (by omega) fun bw hbw => ?_
            have hw : ∀ x, e = .ok x → ∀ y, x.2.1.reverse[i]? = some y → isWr y.1 = bw := fun x hx y hy => by
              obtain ⟨y', hy', q1, q2, p2, p1, p4⟩ := fact x hx
              rw [hy] at hy'; cases hy'
              exact (hbw y.1 p1.tv.1 q1).symm
            cases bw with
            | false =>
              refine k_X25_isPointed_48 o (fun _ => ?_) (fun c => absurd rfl c)
              refine k_X25_isPointed_55 o ?_
              exact nx false fun x hx y hy => by rw [f5 x hx y hy, hw x hx y hy]; rfl
            | true =>
              refine k_X25_isPointed_48 o (fun c => absurd (show bI true = 0 from c) (by decide)) (fun _ => ?_)
              refine k_X25_isPointed_51 o ?_
              exact nx true fun x hx y hy => by rw [f5 x hx y hy, hw x hx y hy]; rfl
  refine k_X25_isPointed_0 o ?_
  exact loop1 ht 0 false rfl fun x hx => rfl
