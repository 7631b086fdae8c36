/-! the component's checker: locals, what is live -/
theorem lty_len (u : Ux) : (lty u).length = nlo u := by simp [lty, nlo]
theorem tgt_t {u : Ux} {k : Nat} (h : k < u.2.1.length) : tgt (lty u) k = (u.2.1[k]).1 := by
  unfold tgt lty
  rw [List.getElem?_append_left (by simpa using h), List.getElem?_map, List.getElem?_eq_getElem h]; rfl
theorem tgt_l {u : Ux} {k : Nat} (h1 : u.2.1.length ≤ k) (h2 : k - u.2.1.length < u.2.2.2.1.length) : tgt (lty u) k = (u.2.2.2.1[k - u.2.1.length]).1 := by
  unfold tgt lty
  rw [List.getElem?_append_right (by simpa using h1), List.getElem?_map, List.length_map, List.getElem?_eq_getElem h2]; rfl
/-- a function that may be looked at -/
def gU (m : Md) (u : Ux) : Prop := u.2.1.length ≤ 8 ∧ u.2.2.1.length ≤ 8 ∧ u.2.2.2.1.length ≤ 32 ∧ (∀ x ∈ u.2.1, gT m x.1) ∧ (∀ x ∈ u.2.2.1, gT m x.1) ∧ (∀ x ∈ u.2.2.2.1, gT m x.1) ∧ (mts m).length ≤ 2048
theorem gU.lt {m : Md} {u : Ux} (h : gU m u) {k : Nat} (hk : k < nlo u) : gT m (tgt (lty u) k) := by
  unfold nlo at hk
  by_cases c : k < u.2.1.length
  · rw [tgt_t c]; exact h.2.2.2.1 _ (List.getElem_mem c)
  · rw [tgt_l (by omega) (by omega)]; exact h.2.2.2.2.2.1 _ (List.getElem_mem _)
theorem gU.n {m : Md} {u : Ux} (h : gU m u) : nlo u ≤ 40 := by unfold nlo; have := h.1; have := h.2.2.1; omega
theorem cloc_ok {G : Gt} {d : Nat} {h : AH} {K : Outcome → AH → Prop} {C W T F k : Nat} {m : Md} {u : Ux} (hs : CTb h C W T F m u) (hu : gU m u) (hk : k < nlo u) (hd : 1 ≤ d) (kk : K (.returned (some (.long (lN (tyc (tgt (lty u) k)))))) h) : MW G d e_X13_localType [.ref C, .int (nI k)] h K := by
  refine st_X13_localType fun X o hG hD hf => ?_
  subst hG; subst hD
  obtain ⟨s1, ⟨s2, s3⟩, ⟨s4, s5, s6, s7⟩, ⟨s8, s9, s10, s11, s12, s13, s14⟩, ⟨s15, s16, s17, s18, s19⟩⟩ := id hs
  have t0 := s1.1.1
  obtain ⟨⟨g1, g2, g3, g4', g5, g6⟩, ⟨p1, p2, p3, p4, p5, p6, p7, p8⟩, -⟩ := id s4
  have hn := hu.n
  have hT := hu.2.2.2.2.2.2
  have l1 := hu.1
  have l2 := hu.2.2.1
  have u6 : h.I 513 (F + 1) = nI u.2.1.length := by obtain ⟨a, b, z1, z2, z3⟩ := s16; exact z3
  unfold nlo at hk
  by_cases c : k < u.2.1.length
  · rw [tgt_t c] at kk
    refine k_X13_localType_0 o (fun z => ?_) (fun _ => ?_)
    · exact absurd ((nI_leI (by omega) (by omega)).mp z) (by omega)
    refine k_X13_localType_14 o ?_
    refine spget_ok s12 s4 s5 hT s16 (by omega) ?_
    rw [List.getElem?_eq_getElem c]
    refine k_X13_localType_32 o ?_
    exact k_X13_localType_64 o kk
  · have c2 : k - u.2.1.length < u.2.2.2.1.length := by omega
    rw [tgt_l (by omega) c2] at kk
    refine k_X13_localType_0 o (fun _ => ?_) (fun z => ?_)
    rotate_left
    · exact absurd ((nI_leI (by omega) (by omega)).mpr (by omega)) z
    refine k_X13_localType_35 o ?_
    rw [nI_sub (by omega)]
    refine spget_ok s14 s4 s5 hT s18 (by omega) ?_
    rw [List.getElem?_eq_getElem c2]
    exact k_X13_localType_64 o kk
theorem clct_ok {G : Gt} {d : Nat} {h : AH} {K : Outcome → AH → Prop} {C W T F : Nat} {m : Md} {u : Ux} (hs : CTb h C W T F m u) (kk : K (.returned (some (.int (nI (nlo u))))) h) : MW G d e_X8_localCount [.ref F] h K := by
  refine st_X8_localCount fun X o hG hD hf => ?_
  subst hG; subst hD
  obtain ⟨s1, ⟨s2, s3⟩, ⟨s4, s5, s6, s7⟩, ⟨s8, s9, s10, s11, s12, s13, s14⟩, ⟨s15, s16, s17, s18, s19⟩⟩ := id hs
  have u6 : h.I 513 (F + 1) = nI u.2.1.length := by obtain ⟨a, b, z1, z2, z3⟩ := s16; exact z3
  have u7 : h.I 513 (F + 3) = nI u.2.2.2.1.length := by obtain ⟨a, b, z1, z2, z3⟩ := s18; exact z3
  refine k_X8_localCount_0 o ?_
  rw [nI_add]
  exact kk
theorem cfld_ok {G : Gt} {d : Nat} {h : AH} {K : Outcome → AH → Prop} {C W T F k i : Nat} {m : Md} {u : Ux} {s : Sx} (hs : CTb h C W T F m u) (hT : (mts m).length ≤ 2048) (hk : m.2.1[k]? = some s) (hi : i < s.2.2.length) (hd : 1 ≤ d) (kk : K (.returned (some (.long (lN (tyc (fdt m k i)))))) h) : MW G d e_X13_fieldOf [.ref C, .int (nI k), .int (nI i)] h K := by
  refine st_X13_fieldOf fun X o hG hD hf => ?_
  subst hG; subst hD
  obtain ⟨s1, ⟨s2, s3⟩, ⟨s4, s5, s6, s7⟩, -⟩ := id hs
  have t0 := s1.1.1
  obtain ⟨⟨g1, g2, g3, g4', g5, g6⟩, ⟨p1, p2, p3, p4, p5, p6, p7, p8⟩, -, dS, -⟩ := id s4
  have hk' := get_lt hk
  have b1 := s7.2.1.2.1
  obtain ⟨d1, d2, d3, d4⟩ := dS k (by omega)
  have ix : IX (nI k) 64 k := IX.mk (by omega) (by omega)
  have hsp := (s7.2.2.1 k s hk).2.2
  rw [show T + 12 + 2 * k + 1 = T + 13 + 2 * k by omega] at hsp
  have hl : s.2.2.length ≤ (mts m).length := by obtain ⟨a, b, z1, z2, z3⟩ := hsp; rw [z1]; simp; omega
  refine k_X13_fieldOf_0 o ?_
  refine spget_ok d4 s4 s5 hT hsp (by omega) ?_
  rw [List.getElem?_eq_getElem hi]
  unfold fdt at kk
  rw [hk] at kk
  simp only at kk
  rw [List.getElem?_eq_getElem hi] at kk
  exact k_X13_fieldOf_23 o kk
theorem ccnt_ok {G : Gt} {d : Nat} {h : AH} {K : Outcome → AH → Prop} {w : Nat} {t : Ty} {og : Og} (ht : TV t) (ho : og.1 < 9223372036854775808) (hw : w ≤ 2) (hd : 5 ≤ d) (kk : K (.returned (some (.int (bI (cnts w t og.2))))) h) : MW G d e_X13_counts [.long (lN (tyc t)), .long (enc og), .int (nI w)] h K := by
  refine st_X13_counts fun X o hG hD hf => ?_
  subst hG; subst hD
  unfold cnts at kk
  rcases (show w = 0 ∨ w = 1 ∨ w = 2 by omega) with e | e | e <;> subst e
  · refine k_X13_counts_0 o (fun c => absurd rfl c) (fun _ => ?_)
    refine k_X13_counts_5 o ?_
    exact kk
  · refine k_X13_counts_0 o (fun _ => ?_) (fun c => absurd c (by decide))
    refine k_X13_counts_7 o (fun c => absurd rfl c) (fun _ => ?_)
    refine k_X13_counts_13 o ?_
    refine isWriting_ok ht (by omega) ?_
    exact k_X13_counts_17 o kk
  · refine k_X13_counts_0 o (fun _ => ?_) (fun c => absurd c (by decide))
    refine k_X13_counts_7 o (fun _ => ?_) (fun c => absurd c (by decide))
    refine k_X13_counts_18 o ?_
    refine isWriting_ok ht (by omega) ?_
    rw [if_neg (by decide), if_neg (by decide)] at kk
    cases hwr : isWr t with
    | false =>
      rw [hwr] at kk
      refine k_X13_counts_22 o (fun _ => ?_) (fun c => absurd rfl c)
      refine k_X13_counts_31 o ?_
      refine k_X13_counts_36 o ?_
      exact kk
    | true =>
      rw [hwr] at kk
      refine k_X13_counts_22 o (fun c => absurd (show bI true = 0 from c) (by decide)) (fun _ => ?_)
      refine k_X13_counts_25 o (fun c => ?_) (fun c => ?_)
      · have : og.2 = false := by
          cases hh : og.2 with
          | false => rfl
          | true => exact absurd ((enc_neg ho).mpr hh) (Int64.not_lt.mpr c)
        rw [this] at kk
        refine k_X13_counts_35 o ?_
        refine k_X13_counts_36 o ?_
        exact kk
      · have : og.2 = true := (enc_neg ho).mp (Int64.not_le.mp c)
        rw [this] at kk
        refine k_X13_counts_31 o ?_
        refine k_X13_counts_36 o ?_
        exact kk
theorem SKr.at {h : AH} {C : Nat} : ∀ {s : Sk}, SKr h C s → ∀ i x, s.reverse[i]? = some x → h.EJ 387 (C + 5) i = lN (tyc x.1) ∧ h.EJ 403 (C + 6) i = enc x.2
  | [], _, i, x, hx => by simp at hx
  | y :: s, hs, i, x, hx => by
    rw [List.reverse_cons] at hx
    by_cases c : i < s.length
    · rw [List.getElem?_append_left (by simpa using c)] at hx
      exact SKr.at hs.2 i x hx
    · have hi : i = s.length := by have := get_lt hx; simp at this; omega
      subst hi
      rw [List.getElem?_append_right (by simp)] at hx
      simp at hx
      subst hx
      exact hs.1
theorem cliv_ok {G : Gt} {d : Nat} {h : AH} {K : Outcome → AH → Prop} {C W T F f w : Nat} {m : Md} {u : Ux} {s : Sk} {l : Ls} {fr : Int64} (hs : CTb h C W T F m u) (hu : gU m u) (hk : SKh h C m s) (hl : LSh h C (lty u) l) (hf : un fr % 9223372036854775808 = f) (hw : w ≤ 2) (hd : 6 ≤ d) (kk : K (.returned (some (.int (bI (liv (lty u) s l f w))))) h) : MW G d e_X13_isLive [.ref C, .long fr, .int (nI w)] h K := by
  refine st_X13_isLive fun X o hG hD _ => ?_
  subst hG; subst hD
  obtain ⟨s1, ⟨s2, s3⟩, ⟨s4, s5, s6, s7⟩, ⟨s8, s9, s10, s11, s12, s13, s14⟩, -⟩ := id hs
  have t0 := s1.1.1
  obtain ⟨k1, k2, k3, k4⟩ := id hk
  obtain ⟨l1, l2, l3, l4⟩ := id hl
  have hn := hu.n
  have t1 := s1.2.1.1
  have t2 := s1.2.1.2.1
  have t3 := s1.2.1.2.2.1
  have t5 := s1.2.2.2.2.2.1
  have t6 := s1.2.2.2.2.2.2.1
  have t7 := s1.2.2.2.2.2.2.2.1
  have hlt : (lty u).length = nlo u := lty_len u
  -- locals
  have loop2 : ∀ j i b v6 v7, j + i = nlo u → K (.returned (some (.int (bI (b || (((lty u).zip l).drop i).any fun x => lvo f w x.1 x.2))))) h → V X K 88 [.ref C, .long fr, nov, .int (nI w), .int (bI b), .int (nI i), v6, v7] [] h := by
    intro j
    induction j with
    | zero =>
      intro i b v6 v7 hi k
      refine k_X13_isLive_88 o ?_
      refine clct_ok hs ?_
      refine k_X13_isLive_97 o (fun _ => ?_) (fun c => absurd ((nI_leI (by omega) (by omega)).mpr (by omega)) c)
      refine k_X13_isLive_182 o ?_
      rw [List.drop_eq_nil_iff.mpr (by simp [List.length_zip]; omega)] at k
      simpa using k
    | succ j ih =>
      intro i b v6 v7 hi k
      have hi' : i < nlo u := by omega
      have hz : i < ((lty u).zip l).length := by simp [List.length_zip]; omega
      have hil : i < l.length := by omega
      have hdz : ((lty u).zip l).drop i = ((lty u)[i]'(by omega), l[i]) :: ((lty u).zip l).drop (i + 1) := by
        rw [List.drop_eq_getElem_cons hz, List.getElem_zip]
      have etg : (lty u)[i]'(by omega) = tgt (lty u) i := by unfold tgt; rw [List.getElem?_eq_getElem (by omega)]; rfl
      have hli : l[i]? = some l[i] := List.getElem?_eq_getElem hil
      have elg : lgt l i = l[i] := by unfold lgt; rw [hli]; rfl
      rw [hdz, List.any_cons, etg] at k
      have hgt := hu.lt hi'
      refine k_X13_isLive_88 o ?_
      refine clct_ok hs ?_
      refine k_X13_isLive_97 o (fun c => ?_) (fun _ => ?_)
      · exact absurd ((nI_leI (by omega) (by omega)).mp c) (by omega)
      cases b with
      | true =>
        refine k_X13_isLive_100 o (fun _ => ?_) (fun c => absurd (show bI true = 0 from c) (by decide))
        refine k_X13_isLive_182 o ?_
        simpa using k
      | false =>
        refine k_X13_isLive_100 o (fun c => absurd rfl c) (fun _ => ?_)
        refine k_X13_isLive_105 o ?_
        refine cloc_ok hs hu hi' (by omega) ?_
        have nxt : ∀ b', lvo f w (tgt (lty u) i) l[i] = b' → V X K 174 [.ref C, .long fr, nov, .int (nI w), .int (bI false), .int (nI i), .long (lN (tyc (tgt (lty u) i))), nov] [.int (bI b')] h := fun b' hb' => by
          refine k_X13_isLive_174 o ?_
          rw [nI_add]
          refine ih (i + 1) b' _ _ (by omega) ?_
          rw [hb'] at k
          simpa using k
        have hbt := l1.at (k := i) (by omega)
        rw [elg] at hbt
        refine k_X13_isLive_111 o (fun c => ?_) (fun c => ?_)
        · rw [hbt] at c
          have e : l[i] = none := by
            cases hh : l[i] with
            | none => rfl
            | some og => rw [hh] at c; exact absurd rfl c
          refine k_X13_isLive_173 o ?_
          exact nxt false (by rw [e]; rfl)
        · rw [hbt] at c
          obtain ⟨og, e⟩ : ∃ og, l[i] = some og := by
            cases hh : l[i] with
            | none => rw [hh] at c; exact absurd c (by decide)
            | some og => exact ⟨og, rfl⟩
          have hio := hli
          rw [e] at hio
          obtain ⟨q1, q2⟩ := l4 i og hio
          have eor := l2 i og hio
          have ixi : IX (nI i) 40 i := IX.mk (by omega) (by omega)
          refine k_X13_isLive_127 o ?_
          refine isReference_ok hgt.ok.tv.1 (by omega) ?_
          cases hrf : isRf (tgt (lty u) i) with
          | false =>
            refine k_X13_isLive_132 o (fun _ => ?_) (fun c => absurd rfl c)
            refine k_X13_isLive_173 o ?_
            exact nxt false (by rw [e]; unfold lvo lv1; rw [hrf]; rfl)
          | true =>
            refine k_X13_isLive_132 o (fun c => absurd (show bI true = 0 from c) (by decide)) (fun _ => ?_)
            refine k_X13_isLive_135 o (fun c => ?_) (fun c => ?_)
            · have c := (enc_and q1 hf).mp c
              refine k_X13_isLive_173 o ?_
              exact nxt false (by rw [e]; show lv1 f w _ og = false; unfold lv1; rw [hrf, c]; rfl)
            · have c : ¬ (og.1 &&& f) = 0 := fun z => c ((enc_and q1 hf).mpr z)
              refine k_X13_isLive_153 o ?_
              refine ccnt_ok hgt.ok.tv.1 q1 hw (by omega) ?_
              have ev : lvo f w (tgt (lty u) i) l[i] = cnts w (tgt (lty u) i) og.2 := by
                rw [e]; show lv1 f w _ og = _; unfold lv1; rw [hrf]
                have : ((og.1 &&& f) != 0) = true := by simp [c]
                rw [this]; rfl
              cases hcn : cnts w (tgt (lty u) i) og.2 with
              | false =>
                refine k_X13_isLive_166 o (fun _ => ?_) (fun c => absurd rfl c)
                refine k_X13_isLive_173 o ?_
                exact nxt false (by rw [ev, hcn])
              | true =>
                refine k_X13_isLive_166 o (fun c => absurd (show bI true = 0 from c) (by decide)) (fun _ => ?_)
                refine k_X13_isLive_169 o ?_
                exact nxt true (by rw [ev, hcn])
  -- the stack
  have loop1 : ∀ post pre b v6 v7, s.reverse = pre ++ post → K (.returned (some (.int (bI ((b || post.any fun x => lv1 f w x.1 x.2) || ((lty u).zip l).any fun x => lvo f w x.1 x.2))))) h → V X K 6 [.ref C, .long fr, nov, .int (nI w), .int (bI b), .int (nI pre.length), v6, v7] [] h := by
    intro post
    induction post with
    | nil =>
      intro pre b v6 v7 ep k
      have hpl : pre.length = s.length := by have := congrArg List.length ep; simp at this; omega
      refine k_X13_isLive_6 o (fun _ => ?_) (fun c => ?_)
      rotate_left
      · exact absurd ((nI_leI (by omega) (by omega)).mpr (by omega)) c
      refine k_X13_isLive_85 o ?_
      refine loop2 (nlo u) 0 b _ _ (by omega) ?_
      simpa using k
    | cons x post ih =>
      intro pre b v6 v7 ep k
      have hpl : pre.length < s.length := by have := congrArg List.length ep; simp at this; omega
      have hx : s.reverse[pre.length]? = some x := by rw [ep]; simp
      obtain ⟨e1, e2⟩ := k2.at _ _ hx
      obtain ⟨q0, q1, q2⟩ := k4 x (by have := List.mem_of_getElem? hx; simpa using this)
      have ix : IX (nI pre.length) 64 pre.length := IX.mk (by omega) (by omega)
      refine k_X13_isLive_6 o (fun c => ?_) (fun _ => ?_)
      · exact absurd ((nI_leI (by omega) (by omega)).mp c) (by omega)
      cases b with
      | true =>
        refine k_X13_isLive_15 o (fun _ => ?_) (fun c => absurd (show bI true = 0 from c) (by decide))
        refine k_X13_isLive_85 o ?_
        refine loop2 (nlo u) 0 true _ _ (by omega) ?_
        simpa using k
      | false =>
        refine k_X13_isLive_15 o (fun c => absurd rfl c) (fun _ => ?_)
        have nxt : ∀ b' v6 v7, lv1 f w x.1 x.2 = b' → V X K 77 [.ref C, .long fr, nov, .int (nI w), .int (bI false), .int (nI pre.length), v6, v7] [.int (bI b')] h := fun b' v6 v7 hb' => by
          refine k_X13_isLive_77 o ?_
          rw [nI_add]
          have := ih (pre ++ [x]) b' v6 v7 (by rw [ep]; simp) (by rw [List.any_cons, hb'] at k; simpa using k)
          rw [List.length_append] at this
          exact this
        refine k_X13_isLive_20 o ?_
        refine isReference_ok q0.tv.1 (by omega) ?_
        cases hrf : isRf x.1 with
        | false =>
          refine k_X13_isLive_30 o (fun _ => ?_) (fun c => absurd rfl c)
          refine k_X13_isLive_76 o ?_
          exact nxt false _ _ (by unfold lv1; rw [hrf]; rfl)
        | true =>
          refine k_X13_isLive_30 o (fun c => absurd (show bI true = 0 from c) (by decide)) (fun _ => ?_)
          refine k_X13_isLive_33 o (fun c => ?_) (fun c => ?_)
          · have c := (enc_and q1 hf).mp c
            refine k_X13_isLive_76 o ?_
            exact nxt false _ _ (by unfold lv1; rw [hrf, c]; rfl)
          · have c : ¬ (x.2.1 &&& f) = 0 := fun z => c ((enc_and q1 hf).mpr z)
            refine k_X13_isLive_51 o ?_
            refine ccnt_ok q0.tv.1 q1 hw (by omega) ?_
            have ev : lv1 f w x.1 x.2 = cnts w x.1 x.2.2 := by
              unfold lv1; rw [hrf]
              have : ((x.2.1 &&& f) != 0) = true := by simp [c]
              rw [this]; rfl
            cases hcn : cnts w x.1 x.2.2 with
            | false =>
              refine k_X13_isLive_69 o (fun _ => ?_) (fun c => absurd rfl c)
              refine k_X13_isLive_76 o ?_
              exact nxt false _ _ (by rw [ev, hcn])
            | true =>
              refine k_X13_isLive_69 o (fun c => absurd (show bI true = 0 from c) (by decide)) (fun _ => ?_)
              refine k_X13_isLive_72 o ?_
              exact nxt true _ _ (by rw [ev, hcn])
  refine k_X13_isLive_0 o ?_
  refine loop1 s.reverse [] false _ _ rfl ?_
  unfold liv at kk
  rw [List.any_reverse]
  simpa using kk
theorem cith_ok {G : Gt} {d : Nat} {h : AH} {K : Outcome → AH → Prop} {C W k : Nat} {lt : List Ty} {l : Ls} (hs : SCk h C W) (hl : LSh h C lt l) (hk : k < 64) (kk : K (.returned (some (.int (bI (lgt l k).isSome)))) h) : MW G d e_X13_isThere [.ref C, .int (nI k)] h K := by
  refine st_X13_isThere fun X o hG hD _ => ?_
  subst hG; subst hD
  have t0 := hs.1.1
  have hbt := hl.1.at (k := k) hk
  refine k_X13_isThere_0 o (fun c => ?_) (fun c => ?_)
  · rw [hbt] at c
    cases hh : (lgt l k).isSome with
    | true => rw [hh] at c; exact absurd rfl c
    | false =>
      rw [hh] at kk
      refine k_X13_isThere_17 o ?_
      refine k_X13_isThere_18 o ?_
      exact kk
  · rw [hbt] at c
    cases hh : (lgt l k).isSome with
    | false => rw [hh] at c; exact absurd c (by decide)
    | true =>
      rw [hh] at kk
      refine k_X13_isThere_13 o ?_
      refine k_X13_isThere_18 o ?_
      exact kk
theorem csol_ok {G : Gt} {d : Nat} {h : AH} {K : Outcome → AH → Prop} {C W T F f : Nat} {m : Md} {u : Ux} {s : Sk} {l : Ls} (hs : CTb h C W T F m u) (hu : gU m u) (hk : SKh h C m s) (hl : LSh h C (lty u) l) (hf : un (h.J 1546 C) % 9223372036854775808 = f) (hd : 7 ≤ d) (kk : EQ (nee (!liv (lty u) s l f 2) 6) (fun _ => K (.returned none) h) (CE K C W h)) : MW G d e_X13_needSole [.ref C] h K := by
  refine st_X13_needSole fun X o hG hD _ => ?_
  subst hG; subst hD
  have t0 := hs.1.1.1
  refine k_X13_needSole_0 o ?_
  refine cliv_ok hs hu hk hl hf (by omega) (by omega) ?_
  have key : ∀ b, (!liv (lty u) s l f 2) = b → V X K 18 [.ref C] [.int (bI b), .ref C] h := fun b hb => by
    rw [hb] at kk
    refine k_X13_needSole_18 o ?_
    refine cneed_ok hs.1 (by omega) (kk.mono (fun _ _ k => ?_) (fun w t => t))
    exact k_X13_needSole_23 o k
  cases hh : liv (lty u) s l f 2 with
  | true =>
    refine k_X13_needSole_10 o (fun _ => ?_) (fun c => absurd (show bI true = 0 from c) (by decide))
    refine k_X13_needSole_17 o ?_
    exact key false (by rw [hh]; rfl)
  | false =>
    refine k_X13_needSole_10 o (fun c => absurd rfl c) (fun _ => ?_)
    refine k_X13_needSole_13 o ?_
    exact key true (by rw [hh]; rfl)
