theorem lsol_ok {G : Gt} {d : Nat} {h : AH} {K : Outcome → AH → Prop} {O U n f : Nat} {B : Nat → Nat} {m : Md} {u : Ux} {e : Except Nat Ts} {fr : Int64} (hs : LC h O U n B m f u) (hu : gU m u) (hr : TRs h O m (lty u) e) (hd : 2 ≤ d) (kk : ∀ b, (∀ x, e = .ok x → b = !liv (lty u) x.2.1 x.2.2 (un fr) 2) → K (.returned (some (.int (bI b)))) h) : MW G d e_X25_isSole [.ref O, .long fr] h K := by
  refine st_X25_isSole fun X o hG hD _ => ?_
  subst hG; subst hD
  obtain ⟨s0, ⟨a1, a2, a3, a4, a5, a6⟩, ⟨b1, b2, b3, b4, b5, b6⟩, ⟨c1, c2, c3, c4, c5, c6⟩, d1, d2, d3, d4, d5, d6⟩ := id hs.1.1
  obtain ⟨-, ⟨v1, v2, v3, v4⟩, v5⟩ := id hs
  have hn := hu.n
  have hlt : (lty u).length = nlo u := lty_len u
  obtain ⟨ht, hh, h65, hgood⟩ : ∃ ht, h.I 3086 O = nI ht ∧ ht ≤ 65 ∧ ∀ x, e = .ok x → ht = x.2.1.length := by
    cases e with
    | ok x =>
      obtain ⟨s1, ⟨s2, s3, s4⟩, -⟩ := id (hr : TGd h O m _ x)
      exact ⟨_, s2, by have := s4.1; omega, fun y hy => by cases hy; rfl⟩
    | error v =>
      obtain ⟨s1, s2, k, hk, s3⟩ := id (hr : TBd h O v)
      exact ⟨k, s3, hk, fun y hy => by cases hy⟩
  have good : ∀ x, e = .ok x → TGd h O m (lty u) x := fun x hx => by subst hx; exact hr
  -- locals
  have loop2 : ∀ j i b, j + i = nlo u → (∀ x, e = .ok x → b = !((x.2.1.any fun y => lv1 (un fr) 2 y.1 y.2) || (((lty u).zip x.2.2).take i).any fun y => lvo (un fr) 2 y.1 y.2)) → V X K 70 [.ref O, .long fr, nov, .int (bI b), .int (nI i)] [] h := by
    intro j
    induction j with
    | zero =>
      intro i b hi hb'
      refine k_X25_isSole_70 o (fun _ => ?_) (fun c => ?_)
      rotate_left
      · exact absurd ((nI_leI (by omega) (by omega)).mpr (by omega)) c
      refine k_X25_isSole_142 o ?_
      refine kk b fun x hx => ?_
      rw [hb' x hx, List.take_of_length_le (by simp [List.length_zip]; omega)]
      rfl
    | succ j ih =>
      intro i b hi hb'
      have ixi : IX (nI i) 40 i := IX.mk (by omega) (by omega)
      refine k_X25_isSole_70 o (fun c => ?_) (fun _ => ?_)
      · exact absurd ((nI_leI (by omega) (by omega)).mp c) (by omega)
      have nx : ∀ b', (∀ x, e = .ok x → b' = (b && !lvo (un fr) 2 (tgt (lty u) i) (lgt x.2.2 i))) → V X K 136 [.ref O, .long fr, nov, .int (bI b'), .int (nI i)] [] h := by
        intro b' hb2
        refine k_X25_isSole_136 o ?_
        rw [nI_add]
        refine ih (i + 1) b' (by omega) fun x hx => ?_
        rw [hb2 x hx, hb' x hx]
        have hl := (good x hx).2.2.1.2.2.1
        have hx2 : ((lty u).zip x.2.2)[i]? = some (tgt (lty u) i, lgt x.2.2 i) := by
          unfold tgt lgt
          rw [List.getElem?_zip_eq_some, List.getElem?_eq_getElem (by omega), List.getElem?_eq_getElem (by omega)]
          exact ⟨rfl, rfl⟩
        rw [any_take hx2, ← Bool.or_assoc, ← Bool.not_or]
      have nx2 : ∀ b', (∀ x, e = .ok x → b' = (b && !lvo (un fr) 2 (tgt (lty u) i) (lgt x.2.2 i))) → V X K 135 [.ref O, .long fr, nov, .int (bI b), .int (nI i)] [.int (bI b')] h := by
        intro b' hb2
        refine k_X25_isSole_135 o ?_
        exact nx b' hb2
      have r1 : h.EI 1858 (O + 10) i = h.EI 1858 (O + 10) i := rfl
      have r2 : h.EJ 1875 (O + 11) i = h.EJ 1875 (O + 11) i := rfl
      have r4 : h.EI 1890 (O + 12) i = h.EI 1890 (O + 12) i := rfl
      have r3 := v5 i (by omega)
      have tv := (hu.lt (k := i) (by omega)).ok.tv.1
      have fact : ∀ x, e = .ok x → (h.EI 1858 (O + 10) i = bI (lgt x.2.2 i).isSome ∧ ∀ og, lgt x.2.2 i = some og → h.EJ 1875 (O + 11) i = lN og.1 ∧ h.EI 1890 (O + 12) i = bI og.2 ∧ og.1 < 9223372036854775808 ∧ lvo (un fr) 2 (tgt (lty u) i) (lgt x.2.2 i) = ((og.1 &&& un fr) != 0 && (!isWr (tgt (lty u) i) || og.2))) := fun x hx => by
        obtain ⟨-, -, ⟨g1, g2, g3, g4'⟩, -⟩ := good x hx
        refine ⟨g1 i (by omega), fun og ho => ?_⟩
        have hq : x.2.2[i]? = some (some og) := by
          unfold lgt at ho
          rw [List.getElem?_eq_getElem (show i < x.2.2.length by omega)] at ho ⊢
          exact congrArg some ho
        refine ⟨(g2 i og hq).1, (g2 i og hq).2, (g4' i og hq).1, ?_⟩
        rw [ho]
        show lv1 _ _ _ og = _
        rw [lv1_nf (g4' i og hq).2]; rfl
      refine k_X25_isSole_79 o (fun c => ?_) (fun c => ?_)
      · refine nx b fun x hx => ?_
        have f1 := (fact x hx).1
        rw [c] at f1
        have f1 := bI_0.mp f1.symm
        cases hh : lgt x.2.2 i with
        | none => simp [lvo]
        | some og => rw [hh] at f1; cases f1
      · have fs : ∀ x, e = .ok x → ∃ og, lgt x.2.2 i = some og := fun x hx => by
          have f1 := (fact x hx).1
          cases hh : lgt x.2.2 i with
          | none => rw [hh] at f1; exact absurd f1 c
          | some og => exact ⟨og, rfl⟩
        refine k_X25_isSole_89 o (fun c2 => ?_) (fun c2 => ?_)
        · refine nx b fun x hx => ?_
          obtain ⟨og, ho⟩ := fs x hx
          obtain ⟨f2, f6, f3, f4⟩ := (fact x hx).2 og ho
          rw [f4]
          rw [f2] at c2
          have : (og.1 &&& un fr) = 0 := (og_meet f3).mp c2
          rw [this]; simp
        · have f5 : ∀ x, e = .ok x → ∃ og : Og, h.EI 1890 (O + 12) i = bI og.2 ∧ lvo (un fr) 2 (tgt (lty u) i) (lgt x.2.2 i) = (!isWr (tgt (lty u) i) || og.2) := fun x hx => by
            obtain ⟨og, ho⟩ := fs x hx
            obtain ⟨f2, f6, f3, f4⟩ := (fact x hx).2 og ho
            refine ⟨og, f6, ?_⟩
            rw [f4]
            rw [f2] at c2
            have : ((og.1 &&& un fr) != 0) = true := by
              have : ¬ (og.1 &&& un fr) = 0 := fun z => c2 ((og_meet f3).mpr z)
              simpa using this
            rw [this]; rfl
          cases b with
          | false =>
            refine k_X25_isSole_103 o (fun _ => ?_) (fun c => absurd rfl c)
            refine k_X25_isSole_134 o ?_
            exact nx2 false fun x hx => rfl
          | true =>
            refine k_X25_isSole_103 o (fun c => absurd (show bI true = 0 from c) (by decide)) (fun _ => ?_)
            refine k_X25_isSole_107 o ?_
            refine lwri_ok tv (by omega) ?_
            cases hw : isWr (tgt (lty u) i) with
            | false =>
              refine k_X25_isSole_117 o (fun _ => ?_) (fun c => absurd rfl c)
              refine k_X25_isSole_134 o ?_
              exact nx2 false fun x hx => by obtain ⟨og, f6, f7⟩ := f5 x hx; rw [f7, hw]; rfl
            | true =>
              refine k_X25_isSole_117 o (fun c => absurd (show bI true = 0 from c) (by decide)) (fun _ => ?_)
              refine k_X25_isSole_120 o (fun c3 => ?_) (fun c3 => ?_)
              · refine k_X25_isSole_134 o ?_
                refine nx2 false fun x hx => ?_
                obtain ⟨og, f6, f7⟩ := f5 x hx
                rw [f7, hw]
                rw [f6] at c3
                cases hh : og.2 with
                | true => rfl
                | false => rw [hh] at c3; exact absurd rfl c3
              · refine k_X25_isSole_130 o ?_
                refine nx2 true fun x hx => ?_
                obtain ⟨og, f6, f7⟩ := f5 x hx
                rw [f7, hw]
                rw [f6] at c3
                rw [bI_0.mp c3]; rfl
  -- the stack
  have loop1 : ∀ j i b, j + i = ht → (∀ x, e = .ok x → b = !(x.2.1.reverse.take i).any fun y => lv1 (un fr) 2 y.1 y.2) → V X K 5 [.ref O, .long fr, nov, .int (bI b), .int (nI i)] [] h := by
    intro j
    induction j with
    | zero =>
      intro i b hi hb'
      refine k_X25_isSole_5 o (fun _ => ?_) (fun c => ?_)
      rotate_left
      · exact absurd ((nI_leI (by omega) (by omega)).mpr (by omega)) c
      refine k_X25_isSole_67 o ?_
      refine loop2 (nlo u) 0 b rfl fun x hx => ?_
      rw [hb' x hx, List.take_of_length_le (by have := hgood x hx; simp; omega), List.any_reverse]
      simp
    | succ j ih =>
      intro i b hi hb'
      have ixi : IX (nI i) 200 i := IX.mk (by omega) (by omega)
      refine k_X25_isSole_5 o (fun c => ?_) (fun _ => ?_)
      · exact absurd ((nI_leI (by omega) (by omega)).mp c) (by omega)
      have fact : ∀ x, e = .ok x → ∃ y, x.2.1.reverse[i]? = some y ∧ h.EJ 1811 (O + 7) i = lN (tyc y.1) ∧ h.EJ 1827 (O + 8) i = lN y.2.1 ∧ h.EI 1842 (O + 9) i = bI y.2.2 ∧ y.2.1 < 9223372036854775808 ∧ tOK m y.1 ∧ lv1 (un fr) 2 y.1 y.2 = ((y.2.1 &&& un fr) != 0 && (!isWr y.1 || y.2.2)) := fun x hx => by
        obtain ⟨-, ⟨-, g1, -, g2⟩, -⟩ := good x hx
        have hl := hgood x hx
        have hx2 : x.2.1.reverse[i]? = some (x.2.1.reverse[i]'(by simp; omega)) := List.getElem?_eq_getElem _
        obtain ⟨q1, q2, q3⟩ := g1.at _ _ hx2
        have hm := List.mem_of_getElem? hx2
        obtain ⟨p1, p2, p3⟩ := g2 _ (List.mem_reverse.mp hm)
        exact ⟨_, hx2, q1, q2, q3, p2, p1, by rw [lv1_nf p3]; rfl⟩
      have nx : ∀ b', (∀ x, e = .ok x → ∀ y, x.2.1.reverse[i]? = some y → b' = (b && !lv1 (un fr) 2 y.1 y.2)) → V X K 60 [.ref O, .long fr, nov, .int (bI b), .int (nI i)] [.int (bI b')] h := by
        intro b' hb2
        refine k_X25_isSole_60 o ?_
        rw [nI_add]
        refine ih (i + 1) b' (by omega) fun x hx => ?_
        obtain ⟨y, hy, -⟩ := fact x hx
        rw [hb2 x hx y hy, hb' x hx, any_take hy, ← Bool.not_or]
      cases b with
      | false =>
        refine k_X25_isSole_14 o (fun _ => ?_) (fun c => absurd rfl c)
        refine k_X25_isSole_59 o ?_
        exact nx false fun x hx y hy => rfl
      | true =>
        refine k_X25_isSole_14 o (fun c => absurd (show bI true = 0 from c) (by decide)) (fun _ => ?_)
        have r1 : h.EJ 1811 (O + 7) i = h.EJ 1811 (O + 7) i := rfl
        have r2 : h.EJ 1827 (O + 8) i = h.EJ 1827 (O + 8) i := rfl
        have r3 : h.EI 1842 (O + 9) i = h.EI 1842 (O + 9) i := rfl
        refine k_X25_isSole_18 o (fun c2 => ?_) (fun c2 => ?_)
        · refine k_X25_isSole_55 o ?_
          refine nx true fun x hx y hy => ?_
          obtain ⟨y', hy', q1, q2, q3, p2, p1, p4⟩ := fact x hx
          rw [hy] at hy'; cases hy'
          rw [p4]
          rw [q2] at c2
          have : (y.2.1 &&& un fr) = 0 := (og_meet p2).mp c2
          rw [this]; simp
        · have f5 : ∀ x, e = .ok x → ∀ y, x.2.1.reverse[i]? = some y → h.EI 1842 (O + 9) i = bI y.2.2 ∧ lv1 (un fr) 2 y.1 y.2 = (!isWr y.1 || y.2.2) := fun x hx y hy => by
            obtain ⟨y', hy', q1, q2, q3, p2, p1, p4⟩ := fact x hx
            rw [hy] at hy'; cases hy'
            refine ⟨q3, ?_⟩
            rw [p4]
            rw [q2] at c2
            have : ((y.2.1 &&& un fr) != 0) = true := by
              have : ¬ (y.2.1 &&& un fr) = 0 := fun z => c2 ((og_meet p2).mpr z)
              simpa using this
            rw [this]; rfl
          refine k_X25_isSole_32 o ?_
          refine lwri_m (by omega) fun bw hbw => ?_
          have hw : ∀ x, e = .ok x → ∀ y, x.2.1.reverse[i]? = some y → isWr y.1 = bw := fun x hx y hy => by
            obtain ⟨y', hy', q1, q2, q3, p2, p1, p4⟩ := fact x hx
            rw [hy] at hy'; cases hy'
            exact (hbw y.1 p1.tv.1 q1).symm
          cases bw with
          | false =>
            refine k_X25_isSole_42 o (fun _ => ?_) (fun c => absurd rfl c)
            refine k_X25_isSole_59 o ?_
            exact nx false fun x hx y hy => by rw [(f5 x hx y hy).2, hw x hx y hy]; rfl
          | true =>
            refine k_X25_isSole_42 o (fun c => absurd (show bI true = 0 from c) (by decide)) (fun _ => ?_)
            refine k_X25_isSole_45 o (fun c3 => ?_) (fun c3 => ?_)
            · refine k_X25_isSole_59 o ?_
              refine nx false fun x hx y hy => ?_
              obtain ⟨f6, f7⟩ := f5 x hx y hy
              rw [f7, hw x hx y hy]
              rw [f6] at c3
              cases hh : y.2.2 with
              | true => rfl
              | false => rw [hh] at c3; exact absurd rfl c3
            · refine k_X25_isSole_55 o ?_
              refine nx true fun x hx y hy => ?_
              obtain ⟨f6, f7⟩ := f5 x hx y hy
              rw [f7, hw x hx y hy]
              rw [f6] at c3
              rw [bI_0.mp c3]; rfl
  refine k_X25_isSole_0 o ?_
  exact loop1 ht 0 true rfl fun x hx => rfl
