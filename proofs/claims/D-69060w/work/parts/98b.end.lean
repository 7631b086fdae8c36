/-! the component's checker: going on -/
theorem ccom_ok {G : Gt} {d : Nat} {h : AH} {K : Outcome → AH → Prop} {C W T F i j n : Nat} {m : Md} {u : Ux} {l : Ls} {tb : Tb} (hs : CTb h C W T F m u) (hu : gU m u) (h4 : ab4 m) (hl : LSh h C (lty u) l) (ht : TBh h C n (lty u) tb) (hn : n ≤ 1024) (hj : j < n) (hat : h.I 1539 C = nI i) (hi : i < n) (hcm : j ≤ i → (tat tb j).isSome) (hd : 9 ≤ d) (kk : EQ (cCome m (lty u) i j l tb) (fun tb' => ∀ h', Fq (FS tbF') h h' → TBh h' C n (lty u) tb' → K (.returned none) h') (CE K C W h)) : MW G d e_X13_come [.ref C, .int (nI j)] h K := by
  refine st_X13_come fun X o hG hD _ => ?_
  subst hG; subst hD
  obtain ⟨⟨a1, a2, a3, a4, a5, a6⟩, ⟨b1, b2, b3, b4, b5, b6, b7⟩, c1, c2, c3, c4, c5, c6, c7, c8, c9⟩ := id hs.1
  have ixj : IX (nI j) 1024 j := IX.mk (by omega) (by omega)
  unfold cCome at kk
  by_cases c : j ≤ i
  · rw [if_pos c] at kk
    have hc := hcm c
    refine k_X13_come_0 o (fun z => ?_) (fun _ => ?_)
    · exact absurd ((nI_ltI (by omega) (by omega)).mp z) (by omega)
    cases hta : tat tb j with
    | none => rw [hta] at hc; cases hc
    | some a =>
      rw [hta] at kk
      have kk := EQ_eb.mp kk
      refine k_X13_come_8 o ?_
      refine cbak_ok hs hu h4 hl ht hn hj hta (by omega) (kk.mono (fun _ _ k => ?_) (fun w t => t))
      refine k_X13_come_13 o ?_
      refine k_X13_come_41 o ?_
      exact k h (Fq.refl h) ht
  · rw [if_neg c] at kk
    refine k_X13_come_0 o (fun _ => ?_) (fun z => ?_)
    rotate_left
    · exact absurd ((nI_ltI (by omega) (by omega)).mpr (by omega)) z
    have hcj := (ht.2 j hj).1
    cases hta : tat tb j with
    | none =>
      rw [hta] at kk hcj
      refine k_X13_come_16 o (fun _ => ?_) (fun c => absurd rfl c)
      refine k_X13_come_36 o ?_
      refine cfst_ok hs hu hl ht hn hj (by omega) fun h' f' t' => ?_
      refine k_X13_come_41 o ?_
      exact kk h' f' t'
    | some a =>
      rw [hta] at kk hcj
      have kk := EQ_eb.mp kk
      refine k_X13_come_16 o (fun c => absurd (show bI true = 0 from c) (by decide)) (fun _ => ?_)
      refine k_X13_come_28 o ?_
      refine cjon_ok hs hu h4 hl ht hn hj hta (by omega) (kk.mono (fun r _ k h' f' t' => ?_) (fun w t => t))
      refine k_X13_come_33 o ?_
      refine k_X13_come_41 o ?_
      exact k h' f' t'
theorem enc_msk {o : Og} {x : Int64} (h : o.1 < 9223372036854775808) (hx : un x < 9223372036854775808) : (enc o &&& x) = 0 ↔ (o.1 &&& un x) = 0 := by
  have e : un (enc o &&& x) = o.1 &&& un x := by
    have e3 : (9223372036854775808 : Nat) = 2 ^ 63 := rfl
    have hlt : ogn o &&& un x < 2 ^ 63 := Nat.lt_of_le_of_lt Nat.and_le_right hx
    have e1 : ogn o &&& un x = (ogn o &&& un x) % 2 ^ 63 := (Nat.mod_eq_of_lt hlt).symm
    rw [un_and, un_enc h, e1, Nat.and_mod_two_pow, ← e3, ogn_m h, Nat.mod_eq_of_lt hx]
  constructor
  · intro z
    have := congrArg un z
    rw [e] at this; exact this
  · intro z
    exact un_inj (by rw [e, z]; rfl)
theorem cend_ok {G : Gt} {d : Nat} {h : AH} {K : Outcome → AH → Prop} {C W T F : Nat} {m : Md} {u : Ux} {s : Sk} {l : Ls} (hs : CTb h C W T F m u) (hu : gU m u) (h4 : ab4 m) (hk : SKh h C m s) (hl : LSh h C (lty u) l) (hd : 8 ≤ d) (kk : EQ (cEnd m u (lty u) (s, l)) (fun _ => K (.returned none) h) (CE K C W h)) : MW G d e_X13_end [.ref C] h K := by
  refine st_X13_end fun X o hG hD _ => ?_
  subst hG; subst hD
  obtain ⟨s1, ⟨s2, s3⟩, ⟨s4, s5, s6, s7⟩, ⟨s8, s9, s10, s11, s12, s13, s14⟩, ⟨s15, s16, s17, s18, s19⟩⟩ := id hs
  obtain ⟨⟨a1, a2, a3, a4, a5, a6⟩, ⟨b1, b2, b3, b4, b5, b6, b7⟩, c1, c2, c3, c4, c5, c6, c7, c8, c9⟩ := id s1
  obtain ⟨⟨g1, g2, g3, g4', g5, g6⟩, ⟨p1, p2, p3, p4, p5, p6, p7, p8⟩, -⟩ := id s4
  obtain ⟨k1, k2, k3, k4⟩ := id hk
  have hT := hu.2.2.2.2.2.2
  have n1 := hu.2.1
  have hn40 := hu.n
  have hlt : (lty u).length = nlo u := lty_len u
  have hll : l.length = nlo u := by rw [hl.2.2.1, lty_len]
  have hcnt : h.I 513 (F + 2) = nI u.2.2.1.length := by obtain ⟨a, b, z1, z2, z3⟩ := s17; exact z3
  unfold cEnd at kk
  have kk := EQ_eb.mp kk
  -- locals that are left
  have ph3 : EQ (eb (nee (((lty u).zip l).all fun x => x.2.isNone || hsA m x.1 2) 13) fun _ => .ok ((s, l) : Cs)) (fun _ => K (.returned none) h) (CE K C W h) → V X K 137 [.ref C, .int (nI s.length)] [] h := fun k => by
    have loop : ∀ j i, j + i = nlo u → EQ (nee ((((lty u).zip l).drop i).all fun x => x.2.isNone || hsA m x.1 2) 13) (fun _ => K (.returned none) h) (CE K C W h) → V X K 139 [.ref C, .int (nI i)] [] h := by
      intro j
      induction j with
      | zero =>
        intro i hi k
        rw [List.drop_eq_nil_iff.mpr (by simp [List.length_zip]; omega)] at k
        refine k_X13_end_139 o ?_
        refine clct_ok hs ?_
        refine k_X13_end_147 o (fun _ => ?_) (fun c => absurd ((nI_leI (by omega) (by omega)).mpr (by omega)) c)
        refine k_X13_end_188 o ?_
        exact k
      | succ j ih =>
        intro i hi k
        have hi' : i < nlo u := by omega
        have hz : i < ((lty u).zip l).length := by simp [List.length_zip]; omega
        have ez : ((lty u).zip l)[i] = (tgt (lty u) i, lgt l i) := by
          rw [List.getElem_zip]; unfold tgt lgt; rw [List.getElem?_eq_getElem (by omega), List.getElem?_eq_getElem (by omega)]; rfl
        rw [List.drop_eq_getElem_cons hz, ez, List.all_cons] at k
        have key : ∀ b, ((lgt l i).isNone || hsA m (tgt (lty u) i) 2) = b → V X K 177 [.ref C, .int (nI i)] [.int (bI b), .ref C] h := fun b hb => by
          have k : EQ (nee (((lgt l i).isNone || hsA m (tgt (lty u) i) 2) && _) 13) _ _ := k
          rw [hb] at k
          refine k_X13_end_177 o ?_
          cases b with
          | false => exact cneed_ok (b := false) hs.1 (by omega) k
          | true =>
            refine cneed_ok (b := true) hs.1 (by omega) ?_
            refine k_X13_end_182 o ?_
            rw [nI_add]
            rw [Bool.true_and] at k
            exact ih (i + 1) (by omega) k
        refine k_X13_end_139 o ?_
        refine clct_ok hs ?_
        refine k_X13_end_147 o (fun c => absurd ((nI_leI (by omega) (by omega)).mp c) (by omega)) (fun _ => ?_)
        refine k_X13_end_150 o ?_
        refine cith_ok hs.1 hl (by omega) ?_
        cases h2 : lgt l i with
        | none =>
          refine k_X13_end_156 o (fun _ => ?_) (fun c => absurd rfl c)
          refine k_X13_end_172 o ?_
          exact key true (by rw [h2]; rfl)
        | some y =>
          refine k_X13_end_156 o (fun c => absurd (show bI true = 0 from c) (by decide)) (fun _ => ?_)
          refine k_X13_end_159 o ?_
          refine cloc_ok hs hu hi' (by omega) ?_
          refine k_X13_end_165 o ?_
          refine chas_ok hs h4 (hu.lt hi').ok (by omega) (by omega) ?_
          cases hd2 : hsA m (tgt (lty u) i) 2 with
          | false =>
            refine k_X13_end_169 o (fun _ => ?_) (fun c => absurd rfl c)
            refine k_X13_end_176 o ?_
            exact key false (by rw [h2, hd2]; rfl)
          | true =>
            refine k_X13_end_169 o (fun c => absurd (show bI true = 0 from c) (by decide)) (fun _ => ?_)
            refine k_X13_end_172 o ?_
            exact key true (by rw [h2, hd2]; rfl)
    refine k_X13_end_137 o ?_
    exact loop (nlo u) 0 (by omega) ((EQ_eb.mp k).mono (fun _ _ z => z) (fun _ z => z))
  -- origins
  have ph2 : EQ (eb (nee (s.all fun x => !isRf x.1 || (x.2.1 &&& (2 ^ 40 - 1 + GLB)) == 0) 14) fun _ => eb (nee (((lty u).zip l).all fun x => x.2.isNone || hsA m x.1 2) 13) fun _ => .ok ((s, l) : Cs)) (fun _ => K (.returned none) h) (CE K C W h) → V X K 83 [.ref C, .int (nI s.length)] [] h := fun k => by
    have loop : ∀ post pre, s.reverse = pre ++ post → EQ (eb (nee (post.all fun x => !isRf x.1 || (x.2.1 &&& (2 ^ 40 - 1 + GLB)) == 0) 14) fun _ => eb (nee (((lty u).zip l).all fun x => x.2.isNone || hsA m x.1 2) 13) fun _ => .ok ((s, l) : Cs)) (fun _ => K (.returned none) h) (CE K C W h) → V X K 85 [.ref C, .int (nI pre.length)] [] h := by
      intro post
      induction post with
      | nil =>
        intro pre ep k
        have hpl : pre.length = s.length := by have := congrArg List.length ep; simp at this; omega
        refine k_X13_end_85 o (fun _ => ?_) (fun c => ?_)
        rotate_left
        · exact absurd ((nI_leI (by omega) (by omega)).mpr (by omega)) c
        rw [hpl]
        exact ph3 k
      | cons x post ih =>
        intro pre ep k
        have hpl : pre.length < s.length := by have := congrArg List.length ep; simp at this; omega
        have hx : s.reverse[pre.length]? = some x := by rw [ep]; simp
        obtain ⟨e1, e2⟩ := k2.at _ _ hx
        obtain ⟨q0, q1, q2⟩ := k4 x (by have := List.mem_of_getElem? hx; simpa using this)
        have ix : IX (nI pre.length) 64 pre.length := IX.mk (by omega) (by omega)
        rw [List.all_cons] at k
        have key : ∀ b, (!isRf x.1 || (x.2.1 &&& (2 ^ 40 - 1 + GLB)) == 0) = b → V X K 126 [.ref C, .int (nI pre.length)] [.int (bI b), .ref C] h := fun b hb => by
          rw [hb] at k
          refine k_X13_end_126 o ?_
          cases b with
          | false => exact cneed_ok (b := false) hs.1 (by omega) (EQ_eb.mp k)
          | true =>
            refine cneed_ok (b := true) hs.1 (by omega) ?_
            refine k_X13_end_131 o ?_
            rw [nI_add]
            rw [Bool.true_and] at k
            have := ih (pre ++ [x]) (by rw [ep]; simp) k
            rw [List.length_append] at this
            exact this
        refine k_X13_end_85 o (fun c => ?_) (fun _ => ?_)
        · exact absurd ((nI_leI (by omega) (by omega)).mp c) (by omega)
        refine k_X13_end_93 o ?_
        refine isReference_ok q0.tv.1 (by omega) ?_
        cases hrf : isRf x.1 with
        | false =>
          refine k_X13_end_103 o (fun _ => ?_) (fun c => absurd rfl c)
          refine k_X13_end_121 o ?_
          exact key true (by rw [hrf]; rfl)
        | true =>
          refine k_X13_end_103 o (fun c => absurd (show bI true = 0 from c) (by decide)) (fun _ => ?_)
          have em := enc_msk (x := (9223091661389692927 : Int64)) q1 (by decide)
          have eu : un (9223091661389692927 : Int64) = 2 ^ 40 - 1 + GLB := rfl
          rw [eu] at em
          refine k_X13_end_106 o (fun c => ?_) (fun c => ?_)
          · have c : ¬ (x.2.1 &&& (2 ^ 40 - 1 + GLB)) = 0 := fun z => c (em.mpr z)
            refine k_X13_end_125 o ?_
            refine key false ?_
            have : ((x.2.1 &&& (2 ^ 40 - 1 + GLB)) == 0) = false := by simpa using c
            rw [hrf, this]; rfl
          · have c := em.mp c
            refine k_X13_end_121 o ?_
            refine key true ?_
            rw [hrf, c]; rfl
    refine k_X13_end_83 o ?_
    refine loop s.reverse [] rfl ?_
    rw [List.all_reverse]; exact k
  -- types
  have ph1 : ∀ post pre postG preG, s.reverse = pre ++ post → u.2.2.1 = preG ++ postG → pre.length = preG.length → post.length = postG.length → EQ (nee (post.map Prod.fst == postG.map Prod.fst) 12) (fun _ => EQ (eb (nee (s.all fun x => !isRf x.1 || (x.2.1 &&& (2 ^ 40 - 1 + GLB)) == 0) 14) fun _ => eb (nee (((lty u).zip l).all fun x => x.2.isNone || hsA m x.1 2) 13) fun _ => .ok ((s, l) : Cs)) (fun _ => K (.returned none) h) (CE K C W h)) (CE K C W h) → V X K 30 [.ref C, .int (nI pre.length)] [] h := by
    intro post
    induction post with
    | nil =>
      intro pre postG preG ep eg el elp k
      have hpl : pre.length = s.length := by have := congrArg List.length ep; simp at this; omega
      have : postG = [] := List.length_eq_zero_iff.mp elp.symm
      subst this
      refine k_X13_end_30 o (fun _ => ?_) (fun c => ?_)
      rotate_left
      · exact absurd ((nI_leI (by omega) (by omega)).mpr (by omega)) c
      rw [hpl]
      exact ph2 k
    | cons x post ih =>
      intro pre postG preG ep eg el elp k
      cases postG with
      | nil => simp at elp
      | cons y postG =>
        have hpl : pre.length < s.length := by have := congrArg List.length ep; simp at this; omega
        have hx : s.reverse[pre.length]? = some x := by rw [ep]; simp
        have hy : u.2.2.1[pre.length]? = some y := by rw [eg, el]; simp
        obtain ⟨e1, e2⟩ := k2.at _ _ hx
        obtain ⟨q0, q1, q2⟩ := k4 x (by have := List.mem_of_getElem? hx; simpa using this)
        have hgy := hu.2.2.2.2.1 y (List.mem_of_getElem? hy)
        have ix : IX (nI pre.length) 64 pre.length := IX.mk (by omega) (by omega)
        have key : ∀ b, (x.1 == y.1) = b → V X K 72 [.ref C, .int (nI pre.length)] [.int (bI b), .ref C] h := fun b hb => by
          have ec : ((x :: post).map Prod.fst == (y :: postG).map Prod.fst) = (b && post.map Prod.fst == postG.map Prod.fst) := by
            rw [← hb]; rfl
          rw [ec] at k
          refine k_X13_end_72 o ?_
          cases b with
          | false => exact cneed_ok (b := false) hs.1 (by omega) k
          | true =>
            refine cneed_ok (b := true) hs.1 (by omega) ?_
            refine k_X13_end_77 o ?_
            rw [nI_add]
            rw [Bool.true_and] at k
            have := ih (pre ++ [x]) postG (preG ++ [y]) (by rw [ep]; simp) (by rw [eg]; simp) (by simp [el]) (by simpa using elp) k
            rw [List.length_append] at this
            exact this
        refine k_X13_end_30 o (fun c => ?_) (fun _ => ?_)
        · exact absurd ((nI_leI (by omega) (by omega)).mp c) (by omega)
        refine k_X13_end_38 o ?_
        refine spget_ok s13 s4 s5 hT s17 (by omega) ?_
        rw [hy]
        refine k_X13_end_63 o (fun c => ?_) (fun c => ?_)
        · refine k_X13_end_71 o ?_
          refine key false ?_
          have : ¬ x.1 = y.1 := fun z => c (by rw [z])
          simpa using this
        · refine k_X13_end_67 o ?_
          refine key true ?_
          simpa using (lN_ty q0 hgy.ok.tv.1).mp c
  have key : ∀ b, decide (s.length = u.2.2.1.length) = b → V X K 23 [.ref C, nov] [.int (bI b), .ref C] h := fun b hb => by
    refine k_X13_end_23 o ?_
    cases b with
    | false =>
      have hne : ¬ s.length = u.2.2.1.length := of_decide_eq_false hb
      have : ((s, l).1.reverse.map Prod.fst == u.2.2.1.map Prod.fst) = false := by
        cases hh : ((s, l).1.reverse.map Prod.fst == u.2.2.1.map Prod.fst) with
        | false => rfl
        | true =>
          have e : s.reverse.map Prod.fst = u.2.2.1.map Prod.fst := by simpa using hh
          have := congrArg List.length e
          simp at this
          exact absurd this hne
      rw [this] at kk
      exact cneed_ok (b := false) hs.1 (by omega) kk
    | true =>
      have heq : s.length = u.2.2.1.length := of_decide_eq_true hb
      refine cneed_ok (b := true) hs.1 (by omega) ?_
      refine k_X13_end_28 o ?_
      exact ph1 s.reverse [] u.2.2.1 [] rfl rfl rfl (by simp [heq]) kk
  refine k_X13_end_0 o (fun c => ?_) (fun c => ?_)
  · refine k_X13_end_22 o ?_
    exact key false (decide_eq_false fun z => c (by rw [z]))
  · refine k_X13_end_18 o ?_
    exact key true (decide_eq_true ((nI_eq (by omega) (by omega)).mp c))
