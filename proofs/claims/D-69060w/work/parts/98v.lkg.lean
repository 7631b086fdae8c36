/-! the twin's looker: the end of a function -/
theorem fN_t {e : Except Nat Ts} {w : Nat} : eb e (fN (fun _ => true) w) = e := by cases e <;> rfl
theorem lgbk_ok {G : Gt} {d : Nat} {h : AH} {K : Outcome → AH → Prop} {O U n f : Nat} {B : Nat → Nat} {m : Md} {u : Ux} {x : Ts} (hs : LC h O U n B m f u) (g : gM m) (hr : TGd h O m (lty u) x) (hd : 6 ≤ d) (kk : ∀ h', Fq (FS trF) h h' → TRs h' O m (lty u) (cO (cEnd m u (lty u)) x) → K (.returned none) h') : MW G d e_X25_giveBack [.ref O] h K := by
  refine st_X25_giveBack fun X o hG hD _ => ?_
  subst hG; subst hD
  obtain ⟨s0, ⟨a1, a2, a3, a4, a5, a6⟩, ⟨b1, b2, b3, b4, b5, b6⟩, ⟨c1, c2, c3, c4, c5, c6⟩, d1, d2, d3, d4, d5, d6⟩ := id hs.1.1
  have r0 := hs.1.2.1
  have u0 := hs.1.2.2.1.1.1
  obtain ⟨-, ⟨v1, v2, v3, v4⟩, v5⟩ := id hs
  have hu := (g.2.2.2.2.1 u (List.mem_of_getElem? v1)).2
  have hn := hu.n
  obtain ⟨pt', s, l⟩ := x
  obtain ⟨p1, ⟨p2, p3, p4, p5⟩, p6, -⟩ := id hr
  simp only at p2 p3 p4 p5 p6
  have hf : f < m.2.2.2.2.2.length + m.2.2.2.1.length := by have := get_lt v1; omega
  have e1 : fls m f 1 = u.2.2.1 := by unfold fls; rw [if_pos (get_lt v1), v1]; rfl
  have h8 := hu.2.1
  have hlt : (lty u).length = nlo u := lty_len u
  have hll : l.length = nlo u := by rw [p6.2.2.1, hlt]
  refine k_X25_giveBack_0 o ?_
  refine umny_ok hs.1.2.2.1 hs.1.2.2.2 hf (by omega) (by omega) ?_
  rw [e1]
  -- what is at the end
  have egoal : cO (cEnd m u (lty u)) (pt', s, l) = eb (eb (eb (.ok (none, s, l)) (fN (fun _ => s.reverse.map Prod.fst == u.2.2.1.map Prod.fst) 12)) (fN (fun _ => s.reverse.all fun x => (x.2.1 &&& (2 ^ 40 - 1 + GLB)) == 0) 14)) (fN (fun _ => ((lty u).zip l).all fun x => x.2.isNone || hsA m x.1 2) 13) := by
    have ea : (s.all fun x => !isRf x.1 || (x.2.1 &&& (2 ^ 40 - 1 + GLB)) == 0) = s.reverse.all fun x => (x.2.1 &&& (2 ^ 40 - 1 + GLB)) == 0 := by
      rw [List.all_reverse, Bool.eq_iff_iff, List.all_eq_true, List.all_eq_true]
      constructor
      · intro h y hy
        have := h y hy
        cases hrf : isRf y.1 with
        | true => rw [hrf] at this; exact this
        | false => rw [(p5 y hy).2.2 hrf]; rfl
      · intro h y hy
        rw [h y hy]; simp
    unfold cO cEnd
    simp only
    rw [ea]
    cases (s.reverse.map Prod.fst == u.2.2.1.map Prod.fst) <;> simp only [fN, neT, neF, eb_k, eb_e]
    cases (s.reverse.all fun x => (x.2.1 &&& (2 ^ 40 - 1 + GLB)) == 0) <;> simp only [neT, neF, eb_k, eb_e]
    cases (((lty u).zip l).all fun x => x.2.isNone || hsA m x.1 2) <;> rfl
  rw [egoal] at kk
  -- locals
  have loop3 : ∀ j i h1 E, j + i = nlo u → Fq (FS [3090]) h h1 → TRs h1 O m (lty u) E → (∀ x, E = .ok x → x = (none, s, l)) → (∀ h', Fq (FS trF) h h' → TRs h' O m (lty u) (eb E (fN (fun _ => (((lty u).zip l).drop i).all fun x => x.2.isNone || hsA m x.1 2) 13)) → K (.returned none) h') → ∀ b, V X K 132 [.ref O, b, .int (nI i)] [] h1 := by
    intro j
    induction j with
    | zero =>
      intro i h1 E hi f1 r1 st1 k1 b
      have l1 : LC h1 O U n B m f u := hs.fr f1.1 (FS.no rfl)
      have s1 := l1.1.1.1
      have v3' := l1.2.1.2.2.1
      refine k_X25_giveBack_132 o (fun _ => ?_) (fun c => ?_)
      rotate_left
      · exact absurd ((nI_leI (by omega) (by omega)).mpr (by omega)) c
      refine k_X25_giveBack_187 o ?_
      refine k1 h1 (f1.mono (FS.mono rfl)) ?_
      rw [List.drop_eq_nil_iff.mpr (by simp [List.length_zip]; omega)]
      rw [show eb E (fN (fun _ => ([] : List (Ty × Option Og)).all fun x => x.2.isNone || hsA m x.1 2) 13) = E from fN_t]
      exact r1
    | succ j ih =>
      intro i h1 E hi f1 r1 st1 k1 b
      have l1 : LC h1 O U n B m f u := hs.fr f1.1 (FS.no rfl)
      obtain ⟨s1, ⟨q1, -⟩, ⟨-, -, -, q4, -⟩, ⟨w1, -⟩, -, -, -, w4, -⟩ := id l1.1.1
      obtain ⟨-, ⟨-, -, v3', -⟩, v5'⟩ := id l1
      refine k_X25_giveBack_132 o (fun c => ?_) (fun _ => ?_)
      · exact absurd ((nI_leI (by omega) (by omega)).mp c) (by omega)
      have hzz : ((lty u).zip l).drop i = (tgt (lty u) i, lgt l i) :: ((lty u).zip l).drop (i + 1) := by
        rw [List.drop_eq_getElem_cons (by simp [List.length_zip]; omega), List.getElem_zip]
        unfold tgt lgt
        rw [List.getElem?_eq_getElem (by omega), List.getElem?_eq_getElem (by omega)]; rfl
      cases E with
      | error w =>
        obtain ⟨z1, z2, -⟩ := id (r1 : TBd h1 O w)
        refine k_X25_giveBack_140 o (fun _ => ?_) (fun c => absurd c (nI_nz z2))
        refine k_X25_giveBack_187 o ?_
        exact k1 h1 (f1.mono (FS.mono rfl)) r1
      | ok x =>
        cases st1 x rfl
        have g1 := id (r1 : TGd h1 O m _ (none, s, l))
        have z1 := g1.1
        have ixi : IX (nI i) 40 i := IX.mk (by omega) (by omega)
        have th := g1.2.2.1.1 i (by show i < l.length; omega)
        have t5 := v5' i (by omega)
        have hgt := hu.lt (k := i) (by omega)
        refine k_X25_giveBack_140 o (fun c => absurd rfl c) (fun _ => ?_)
        have nx : ∀ bb, bb = ((lgt l i).isNone || hsA m (tgt (lty u) i) 2) → V X K 176 [.ref O, b, .int (nI i)] [.int (bI bb), .ref O] h1 := by
          intro bb hb
          refine k_X25_giveBack_176 o ?_
          refine lnee_ok (e := .ok (none, s, l)) (b := fun _ => bb) s1 r1 (fun _ _ => rfl) (by decide) (by omega) fun h2 f2 r2 => ?_
          refine k_X25_giveBack_181 o ?_
          rw [nI_add]
          refine ih (i + 1) h2 _ (by omega) (f1.trans f2) r2 (fun x hx => ?_) (fun h' f' r' => k1 h' f' ?_) _
          · exact (Except.ok.inj (fN_ok hx).1).symm
          · rw [fN_fN] at r'
            rw [hzz]
            simp only [List.all_cons]
            rw [← hb]
            exact r'
        cases hlg : lgt l i with
        | none =>
          have th' : h1.EI 1858 (O + 10) i = bI false := by rw [th]; show bI (lgt l i).isSome = _; rw [hlg]; rfl
          refine k_X25_giveBack_147 o (r8 := th') (fun _ => ?_) (fun c => absurd rfl c)
          refine k_X25_giveBack_171 o ?_
          exact nx true (by rw [hlg]; rfl)
        | some og =>
          have th' : h1.EI 1858 (O + 10) i = bI true := by rw [th]; show bI (lgt l i).isSome = _; rw [hlg]; rfl
          refine k_X25_giveBack_147 o (r8 := th') (fun c => absurd (show bI true = 0 from c) (by decide)) (fun _ => ?_)
          refine k_X25_giveBack_157 o ?_
          refine lhas_ok l1.1 g.1 hgt.ok (by omega) (by omega) ?_
          cases hA : hsA m (tgt (lty u) i) 2 with
          | false =>
            refine k_X25_giveBack_168 o (fun _ => ?_) (fun c => absurd rfl c)
            refine k_X25_giveBack_175 o ?_
            exact nx false (by rw [hlg, hA]; rfl)
          | true =>
            refine k_X25_giveBack_168 o (fun c => absurd (show bI true = 0 from c) (by decide)) (fun _ => ?_)
            refine k_X25_giveBack_171 o ?_
            exact nx true (by rw [hlg, hA]; rfl)
  -- origins
  have loop2 : ∀ post pre h1 E, s.reverse = pre ++ post → Fq (FS [3090]) h h1 → TRs h1 O m (lty u) E → (∀ x, E = .ok x → x = (none, s, l)) → (∀ h', Fq (FS trF) h h' → TRs h' O m (lty u) (eb (eb E (fN (fun _ => post.all fun x => (x.2.1 &&& (2 ^ 40 - 1 + GLB)) == 0) 14)) (fN (fun _ => ((lty u).zip l).all fun x => x.2.isNone || hsA m x.1 2) 13)) → K (.returned none) h') → ∀ b, V X K 83 [.ref O, b, .int (nI pre.length)] [] h1 := by
    intro post
    induction post with
    | nil =>
      intro pre h1 E ep f1 r1 st1 k1 b
      have hpl : pre.length = s.length := by have := congrArg List.length ep; simp at this; omega
      have l1 : LC h1 O U n B m f u := hs.fr f1.1 (FS.no rfl)
      have s1 := l1.1.1.1
      have ph : h1.I 3086 O = nI s.length := by rw [f1.1.I (FS.n rfl)]; exact p2
      refine k_X25_giveBack_83 o (fun _ => ?_) (fun c => ?_)
      rotate_left
      · exact absurd ((nI_leI (by omega) (by omega)).mpr (by omega)) c
      refine k_X25_giveBack_130 o ?_
      refine loop3 (nlo u) 0 h1 E rfl f1 r1 st1 (fun h' f' r' => k1 h' f' ?_) _
      rw [show eb E (fN (fun _ => ([] : Sk).all fun x => (x.2.1 &&& (2 ^ 40 - 1 + GLB)) == 0) 14) = E from fN_t]
      exact r'
    | cons y post ih =>
      intro pre h1 E ep f1 r1 st1 k1 b
      have hpl : pre.length < s.length := by have := congrArg List.length ep; simp at this; omega
      have l1 : LC h1 O U n B m f u := hs.fr f1.1 (FS.no rfl)
      obtain ⟨s1, -, ⟨-, q2, -⟩, -, -, w2, -⟩ := id l1.1.1
      have ph : h1.I 3086 O = nI s.length := by rw [f1.1.I (FS.n rfl)]; exact p2
      refine k_X25_giveBack_83 o (fun c => ?_) (fun _ => ?_)
      · exact absurd ((nI_leI (by omega) (by omega)).mp c) (by omega)
      cases E with
      | error w =>
        obtain ⟨z1, z2, -⟩ := id (r1 : TBd h1 O w)
        refine k_X25_giveBack_91 o (fun _ => ?_) (fun c => absurd c (nI_nz z2))
        refine k_X25_giveBack_130 o ?_
        exact loop3 (nlo u) 0 h1 (.error w) rfl f1 r1 (fun x hx => by cases hx) k1 _
      | ok x =>
        cases st1 x rfl
        have g1 := id (r1 : TGd h1 O m _ (none, s, l))
        have z1 := g1.1
        have hy : s.reverse[pre.length]? = some y := by rw [ep]; simp
        obtain ⟨-, w3, -⟩ := g1.2.1.2.1.at _ _ hy
        have hym : y ∈ s := by have := List.mem_of_getElem? hy; simpa using this
        obtain ⟨y1, y2, y3⟩ := p5 y hym
        have ixi : IX (nI pre.length) 200 pre.length := IX.mk (by omega) (by omega)
        have em : (lN y.2.1 &&& (-280375465082881 : Int64)) = (0 : Int64) ↔ (y.2.1 &&& (2 ^ 40 - 1 + GLB)) = 0 := by
          rw [og_meet y2]
          have e1 : un (-280375465082881 : Int64) = (2 ^ 40 - 1 + GLB) ||| 2 ^ 63 := rfl
          rw [e1, Nat.and_or_distrib_left]
          have e2 : y.2.1 &&& 2 ^ 63 = 0 := by
            refine Nat.eq_of_testBit_eq fun i => ?_
            rw [Nat.testBit_and, Nat.testBit_two_pow, Nat.zero_testBit]
            by_cases c : 63 = i
            · subst c
              rw [Nat.testBit_lt_two_pow (show y.2.1 < 2 ^ 63 from y2)]; rfl
            · simp [c]
          rw [e2, Nat.or_zero]
        have nx : ∀ bb, bb = ((y.2.1 &&& (2 ^ 40 - 1 + GLB)) == 0) → V X K 119 [.ref O, b, .int (nI pre.length)] [.int (bI bb), .ref O] h1 := by
          intro bb hb
          refine k_X25_giveBack_119 o ?_
          refine lnee_ok (e := .ok (none, s, l)) (b := fun _ => bb) s1 r1 (fun _ _ => rfl) (by decide) (by omega) fun h2 f2 r2 => ?_
          refine k_X25_giveBack_124 o ?_
          rw [nI_add]
          have := ih (pre ++ [y]) h2 _ (by rw [ep]; simp) (f1.trans f2) r2 (fun x hx => (Except.ok.inj (fN_ok hx).1).symm) (fun h' f' r' => k1 h' f' (by
            rw [fN_fN] at r'
            simp only [List.all_cons]
            rw [← hb]
            exact r')) b
          rw [List.length_append] at this
          exact this
        refine k_X25_giveBack_91 o (fun c => absurd rfl c) (fun _ => ?_)
        refine k_X25_giveBack_98 o (fun c => ?_) (fun c => ?_)
        · have c : ¬ (y.2.1 &&& (2 ^ 40 - 1 + GLB)) = 0 := fun z => c (em.mpr z)
          refine k_X25_giveBack_118 o ?_
          exact nx false (beq_eq_false_iff_ne.mpr c).symm
        · have c := em.mp c
          refine k_X25_giveBack_114 o ?_
          exact nx true (by rw [c]; rfl)
  -- the need about types
  have fin1 : ∀ b i, b = (s.reverse.map Prod.fst == u.2.2.1.map Prod.fst) → V X K 74 [.ref O, .int (bI b), i] [] h := by
    intro b i hb
    refine k_X25_giveBack_74 o ?_
    refine lnee_ok (e := .ok (none, s, l)) (b := fun _ => b) s0 (show TGd h O m _ (none, s, l) from ⟨hr.1, hr.2.1, hr.2.2.1, trivial⟩) (fun _ _ => rfl) (by decide) (by omega) fun h2 f2 r2 => ?_
    refine k_X25_giveBack_81 o ?_
    refine loop2 s.reverse [] h2 _ rfl f2 r2 (fun x hx => (Except.ok.inj (fN_ok hx).1).symm) (fun h' f' r' => kk h' f' ?_) _
    rw [hb] at r'
    exact r'
  have loop1 : ∀ j i b, j + i = s.length → s.length ≤ u.2.2.1.length ∨ b = false → b = ((s.reverse.take i).map Prod.fst == (u.2.2.1.take i).map Prod.fst && s.length == u.2.2.1.length) → V X K 27 [.ref O, .int (bI b), .int (nI i)] [] h := by
    intro j
    induction j with
    | zero =>
      intro i b hi hle hb
      refine k_X25_giveBack_27 o (fun _ => ?_) (fun c => ?_)
      rotate_left
      · exact absurd ((nI_leI (by omega) (by omega)).mpr (by omega)) c
      refine fin1 b _ ?_
      rw [hb, List.take_of_length_le (by simp; omega)]
      by_cases c : s.length = u.2.2.1.length
      · rw [List.take_of_length_le (by omega), c]; simp
      · have : (s.length == u.2.2.1.length) = false := by simpa using c
        rw [this, Bool.and_false]
        symm
        rw [beq_eq_false_iff_ne]
        intro z
        have := congrArg List.length z
        simp at this; omega
    | succ j ih =>
      intro i b hi hle hb
      refine k_X25_giveBack_27 o (fun c => ?_) (fun _ => ?_)
      · exact absurd ((nI_leI (by omega) (by omega)).mp c) (by omega)
      cases b with
      | false =>
        refine k_X25_giveBack_35 o (fun _ => ?_) (fun c => absurd rfl c)
        refine fin1 false _ ?_
        symm
        rw [beq_eq_false_iff_ne]
        intro z
        have zl := congrArg List.length z
        simp at zl
        have : ((s.reverse.take i).map Prod.fst == (u.2.2.1.take i).map Prod.fst) = true := by
          rw [List.map_take, List.map_take, z]; simp
        rw [this, zl] at hb
        simp at hb
      | true =>
        have hle : s.length ≤ u.2.2.1.length := by rcases hle with z | z; exact z; cases z
        have hb2 : s.length = u.2.2.1.length := by
          have := hb.symm
          rw [Bool.and_eq_true] at this
          simpa using this.2
        have hb1 : (s.reverse.take i).map Prod.fst = (u.2.2.1.take i).map Prod.fst := by
          have := hb.symm
          rw [Bool.and_eq_true] at this
          simpa using this.1
        have hxs : s.reverse[i]? = some (s.reverse[i]'(by simp; omega)) := List.getElem?_eq_getElem _
        have hxu : u.2.2.1[i]? = some (u.2.2.1[i]'(by omega)) := List.getElem?_eq_getElem _
        generalize (s.reverse[i]'(by simp; omega)) = ys at *
        generalize (u.2.2.1[i]'(by omega)) = yu at *
        obtain ⟨w1, -⟩ := p3.at _ _ hxs
        have hgt := hu.2.2.2.2.1 yu (List.mem_of_getElem? hxu)
        have hys := (p5 ys (by have := List.mem_of_getElem? hxs; simpa using this)).1
        have ixi : IX (nI i) 200 i := IX.mk (by omega) (by omega)
        refine k_X25_giveBack_35 o (fun c => absurd (show bI true = 0 from c) (by decide)) (fun _ => ?_)
        refine k_X25_giveBack_39 o ?_
        refine ulst_ok hs.1.2.2.1 hs.1.2.2.2 hf (by omega) (by rw [e1]; exact hxu) (by omega) ?_
        have nx : ∀ bb, bb = (ys.1 == yu.1) → V X K 67 [.ref O, .int (bI true), .int (nI i)] [.int (bI bb)] h := by
          intro bb hbb
          refine k_X25_giveBack_67 o ?_
          rw [nI_add]
          refine ih (i + 1) bb (by omega) (Or.inl hle) ?_
          rw [hbb, List.take_add_one, List.take_add_one, hxs, hxu, List.map_append, List.map_append, hb1, hb2]
          simp only [Option.toList_some, List.map_cons, List.map_nil, BEq.rfl, Bool.and_true]
          rw [Bool.eq_iff_iff, beq_iff_eq, beq_iff_eq]
          constructor
          · intro z; rw [z]
          · intro z; simpa using z
        refine k_X25_giveBack_58 o (fun c => ?_) (fun c => ?_)
        · have c : ¬ ys.1 = yu.1 := fun z => c ((lN_ty hys hgt.ok.tv.1).mpr z)
          refine k_X25_giveBack_66 o ?_
          exact nx false (by symm; simpa using c)
        · have c := (lN_ty hys hgt.ok.tv.1).mp c
          refine k_X25_giveBack_62 o ?_
          exact nx true (by symm; simpa using c)
  refine k_X25_giveBack_16 o (fun c => ?_) (fun c => ?_)
  · have c : ¬ s.length = u.2.2.1.length := fun z => c (by rw [z])
    refine k_X25_giveBack_23 o ?_
    refine k_X25_giveBack_24 o ?_
    refine loop1 s.length 0 false rfl (Or.inr rfl) ?_
    simp [c]
  · have c := (nI_eq (by omega) (by omega)).mp c
    refine k_X25_giveBack_19 o ?_
    refine k_X25_giveBack_24 o ?_
    refine loop1 s.length 0 true rfl (Or.inl (by omega)) ?_
    simp [c]
