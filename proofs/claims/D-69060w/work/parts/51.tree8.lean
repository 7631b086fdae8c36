/-! values, roots -/
theorem find_none {G : Gt} {d : Nat} {h : AH} {K : Outcome → AH → Prop} {T : Nat} (hs : SHt h T) (ht : TT h T none) (hd : 1 ≤ d) (kk : K (.returned (some (.int (-1)))) h) : MW G d e_X15_find [.ref T] h K := by
  refine st_X15_find fun X o hG hD hf => ?_
  subst hG; subst hD
  obtain ⟨g1, g2, g3, g4, g5⟩ := ht
  have e1 := hs.1.1
  refine k_X15_find_0 o ?_
  refine st_X15_near fun X' o' hG' hD' _ => ?_
  refine k_X15_near_0 o' ?_
  refine k_X15_near_5 o' (fun _ => ?_) (fun c => absurd rfl c)
  refine k_X15_near_50 o' ?_
  refine k_X15_find_4 o (fun c => ?_) (fun c => ?_)
  · refine k_X15_find_33 o ?_
    refine k_X15_find_34 o ?_
    refine (kk)
  · exact absurd rfl c
theorem find_some {G : Gt} {d : Nat} {h : AH} {K : Outcome → AH → Prop} {T : Nat} {k : F4} {t : PT} (hs : SHt h T) (hw : WFp t 0) (hr : RP h T t (-1)) (ht : h.I 1794 T = nI (rtn t)) (ha : r4 h (T + 20) 0 = k) (hd : 2 ≤ d) (kk : K (.returned (some (.int (if (nrt k t).1 = k then nI (nrt k t).2 else -1)))) h) : MW G d e_X15_find [.ref T] h K := by
  refine st_X15_find fun X o hG hD hf => ?_
  subst hG; subst hD
  obtain ⟨⟨e1, e2, e3, e4, e5, e6⟩, tw, sd, sn, sa, sz⟩ := id hs
  obtain ⟨⟨j1, j2, j3, j4, j5, j6, j7, j8, j9, j10⟩, -, s1, s2, s3, s4⟩ := id sn
  have ta := sa.1
  have nb1 := RP.lt hr _ (nrt_nd k hw)
  have nk : r4 h (T + 6 + 1) (nrt k t).2 = (nrt k t).1 := nrt_key k hw hr
  refine k_X15_find_0 o ?_
  refine near_ok hs hw hr ht ha (by omega) ?_
  refine k_X15_find_4 o (fun c => ?_) (fun c => ?_)
  · exact absurd c (nI_m1 (by omega))
  refine k_X15_find_10 o ?_
  refine fsame_ok sa s1 (by omega) nb1 ?_
  rw [ha, nk]
  by_cases q : (nrt k t).1 = k
  · rw [decide_eq_true q.symm]
    rw [if_pos q] at kk
    refine k_X15_find_26 o (fun c2 => ?_) (fun c2 => ?_)
    · exact absurd c2 (by decide)
    refine k_X15_find_29 o ?_
    refine k_X15_find_34 o ?_
    refine (kk)
  · rw [decide_eq_false fun z => q z.symm]
    rw [if_neg q] at kk
    refine k_X15_find_26 o (fun c2 => ?_) (fun c2 => ?_)
    rotate_left
    · exact absurd rfl c2
    refine k_X15_find_33 o ?_
    refine k_X15_find_34 o ?_
    refine (kk)
theorem key_ok {G : Gt} {d : Nat} {h : AH} {K : Outcome → AH → Prop} {T : Nat} {q : F4} (hs : SHt h T) (hd : 1 ≤ d) (kk : ∀ h', Fq (P1 (10000 + 691) (T + 21)) h h' → r4 h' (T + 20) 0 = q → K (.returned none) h') : MW G d e_X15_key [.ref T, .long q.1, .long q.2.1, .long q.2.2.1, .long q.2.2.2] h K := by
  refine st_X15_key fun X o hG hD hf => ?_
  subst hG; subst hD
  obtain ⟨⟨e1, e2, e3, e4, e5, e6⟩, tw, sd, sn, sa, sz⟩ := id hs
  have ta := sa.1
  refine k_X15_key_0 o ?_
  refine fset_ok sa (by omega) fun h1 f1 r1 => ?_
  refine k_X15_key_14 o ?_
  refine (kk h1 f1.1 r1)
/-- what a tree rests on -/
def ttF : List Nat := [10000 + 691, 10000 + 608, 10000 + 656, 10000 + 624, 10000 + 640, 10000 + 674, 2058, 2057, 1794, 1795]
theorem TT.fr {P : Nat → Nat → Prop} {h h' : AH} {T : Nat} {o : Option PT} (q : Fr P h h') (np : ∀ f a, ttF.contains f = true → f ≠ 10000 + 691 → ¬ P f a) (nr : ∀ a, a = T + 8 ∨ a = T + 10 ∨ a = T + 24 → ¬ P (10000 + 691) a) (s : TT h T o) : TT h' T o := by
  obtain ⟨s1, s2, s3⟩ := s
  refine ⟨by rw [q.I (np _ _ (by decide) (by decide))]; exact s1, by rw [r4_fr q (nr _ (by omega))]; exact s2, ?_⟩
  cases o with
  | none =>
    obtain ⟨g1, g2, g3⟩ := s3
    exact ⟨by rw [q.I (np _ _ (by decide) (by decide))]; exact g1, by rw [q.I (np _ _ (by decide) (by decide))]; exact g2, by rw [q.I (np _ _ (by decide) (by decide))]; exact g3⟩
  | some t =>
    obtain ⟨g1, g2, g3, g4, ⟨m, g5, g6, g7⟩, g8, g9⟩ := s3
    exact ⟨by rw [q.I (np _ _ (by decide) (by decide))]; exact g1, g2, g3.fr q ⟨np _ _ (by decide) (by decide), np _ _ (by decide) (by decide), nr _ (by omega), nr _ (by omega), np _ _ (by decide) (by decide), np _ _ (by decide) (by decide)⟩, g4, ⟨m, by rw [q.I (np _ _ (by decide) (by decide))]; exact g5, g6, g7⟩, by rw [q.I (np _ _ (by decide) (by decide))]; exact g8, fun n hn => by rw [q.EI (np _ _ (by decide) (by decide))]; exact g9 n hn⟩
theorem els_len (k v : F4) : ∀ {t : PT} {b : Nat}, WFp t b → (nrt k t).1 = k → (els (chg k v t)).length = (els t).length
  | .inner lv x _ l r, b, ⟨_, h⟩, hk => by
    unfold nrt at hk
    unfold chg
    by_cases c : lv = 256
    · rw [if_pos c]; simp only [els, if_pos c, List.length_cons]
    · rw [if_neg c] at hk ⊢
      rcases h with h | ⟨_, h3, h4, h5, h6⟩
      · exact absurd h.1 c
      · by_cases c2 : bt k lv = 0
        · rw [if_pos c2] at hk ⊢
          simp only [els, if_neg c, List.length_append, els_len k v h3 hk]
        · rw [if_neg c2] at hk ⊢
          simp only [els, if_neg c, List.length_append, els_len k v h4 hk]
theorem hset_ok {G : Gt} {d : Nat} {h : AH} {K : Outcome → AH → Prop} {T : Nat} {k v : F4} {o' : Option PT} (hs : SHt h T) (ht : TT h T o') (ha : r4 h (T + 20) 0 = k) (hn : (elo o').length < 400) (hd : 5 ≤ d)
    (kk : ∀ h' t' r, Fq (FS thF) h h' → TT h' T (some t') → (els t').Perm ((k, v) :: (elo o').filter fun e => decide (e.1 ≠ k)) → K (.returned (some (.int (r)))) h') : MW G d e_X15_set [.ref T, .long v.1, .long v.2.1, .long v.2.2.1, .long v.2.2.2] h K := by
  refine st_X15_set fun X o hG hD hf => ?_
  subst hG; subst hD
  have e1 := hs.1.1
  -- the end: at 80
  have fin : ∀ h3 t' v9 (b : Bool), Fq (FS thF) h h3 → TT h3 T (some t') → (els t').Perm ((k, v) :: (elo o').filter fun e => decide (e.1 ≠ k)) → V X K 80 [.ref T, .long v.1, nov, .long v.2.1, nov, .long v.2.2.1, nov, .long v.2.2.2, nov, v9, .int (bI b)] [] h3 := fun h3 t' v9 b f3 t3 p3 => by
    refine k_X15_set_80 o (fun c => ?_) (fun c => ?_)
    · refine k_X15_set_89 o ?_
      refine k_X15_set_90 o ?_
      refine (kk h3 t' _ f3 t3 p3)
    · refine k_X15_set_85 o ?_
      refine k_X15_set_90 o ?_
      refine (kk h3 t' _ f3 t3 p3)
  -- a new key: behind insert
  have new : ∀ h1 nl, TI h T k o' h1 nl → (∀ e ∈ elo o', e.1 ≠ k) → h.I 1795 T = nI (elo o').length → V X K 41 [.ref T, .long v.1, nov, .long v.2.1, nov, .long v.2.2.1, nov, .long v.2.2.2, nov, .int (-1), .int (bI true)] [.int (nI nl)] h1 := fun h1 nl ti hne hcnt => by
    obtain ⟨f1, ⟨i1, i2, i3, i4⟩, i5, i6⟩ := ti
    have hs1 := hs.fr f1.1 thF.np
    have t1 := hs1.1.1
    refine k_X15_set_41 o ?_
    rw [hcnt, nI_add]
    generalize hh : h1.sI 1795 T (nI ((elo o').length + 1)) = h2
    have f12 : Fq (FS [1795]) h1 h2 := by rw [← hh]; exact (Fq.refl h1).sI rfl
    have f2 : Fq (FS thF) h h2 := f1.trans (f12.mono (FS.mono rfl))
    have hs2 := hs.fr f2.1 thF.np
    obtain ⟨⟨e1, e2, e3, e4, e5, e6⟩, tw, sd, sn, sa, sz⟩ := id hs2
    obtain ⟨⟨j1, j2, j3, j4, j5, j6, j7, j8, j9, j10⟩, -, s1, s2, s3, s4⟩ := id sn
    have tv := s2.1
    refine k_X15_set_53 o ?_
    refine fset_ok s2 i5 fun h3 f3 r3 => ?_
    have f3' : Fq (FS thF) h h3 := f2.trans (f3.1.mono (FS.p1 rfl))
    have hs3 := hs.fr f3'.1 thF.np
    obtain ⟨⟨e1, e2, e3, e4, e5, e6⟩, -, -, sn3, -⟩ := id hs3
    have tn3 := sn3.1.1
    obtain ⟨t', q1, q2, q3, q4, q5, ⟨m, q6, q7, q8⟩, q9, q10⟩ := i6 v h3 (fun j => by rw [f3.1.1.EI (by simp [P1]), f12.1.EI (FS.n (by decide))]) (fun j => by rw [f3.1.1.EI (by simp [P1]), f12.1.EI (FS.n (by decide))]) (fun j => by rw [r4_fr f3.1.1 (by simp [P1]), r4_fr f12.1 (FS.n (by decide))]) (fun j => by rw [f3.1.1.EI (by simp [P1]), f12.1.EI (FS.n (by decide))]) (fun j => by rw [f3.1.1.EI (by simp [P1]), f12.1.EI (FS.n (by decide))]) (fun j hj => by rw [show r4 h3 (T + 9) j = r4 h2 (T + 9) j from f3.2 j hj, r4_fr f12.1 (FS.n (by decide))]) r3
    obtain ⟨cl, hcl⟩ := RP.ch (l := []) q3 rfl nl q5
    refine k_X15_set_71 o ?_
    refine touch_ok sn3 hcl fun h4 f4 g4 => ?_
    have hfil : (elo o').filter (fun e => decide (e.1 ≠ k)) = elo o' := List.filter_eq_self.mpr fun e he => decide_eq_true (hne e he)
    have hlen : (els t').length = (elo o').length + 1 := by rw [q9.length_eq]; simp
    refine fin h4 t' _ true (f3'.trans (f4.mono (FS.mono rfl))) ⟨?_, ?_, ?_, q2, RP.fr f4.1 ⟨FS.n (by decide), FS.n (by decide), FS.n (by decide), FS.n (by decide), FS.n (by decide), FS.n (by decide)⟩ q3, q4, ⟨m, ?_, q7, q8⟩, ?_, fun n hn2 => ?_⟩ (by rw [hfil]; exact q9)
    · rw [f4.1.I (FS.n (by decide)), f3.1.1.I (by simp [P1]), f12.1.I (FS.n (by decide))]; exact i1
    · rw [r4_fr f4.1 (FS.n (by decide)), r4_fr f3.1.1 (by simp [P1]), r4_fr f12.1 (FS.n (by decide))]; exact i2
    · rw [f4.1.I (FS.n (by decide)), f3.1.1.I (by simp [P1]), f12.1.I (FS.n (by decide))]; exact q1
    · rw [f4.1.I (FS.n (by decide)), f3.1.1.I (by simp [P1]), f12.1.I (FS.n (by decide))]; exact q6
    · rw [f4.1.I (FS.n (by decide)), f3.1.1.I (by simp [P1]), hlen, ← hh]; simp [n_sI, z_sI, tag_sI, I_sI, J_sI, R_sI, EI_sI, EJ_sI, ER_sI, n_sJ, z_sJ, tag_sJ, I_sJ, J_sJ, R_sJ, EI_sJ, EJ_sJ, ER_sJ, n_sR, z_sR, tag_sR, I_sR, J_sR, R_sR, EI_sR, EJ_sR, ER_sR, n_sEI, z_sEI, tag_sEI, I_sEI, J_sEI, R_sEI, EI_sEI, EJ_sEI, ER_sEI, n_sEJ, z_sEJ, tag_sEJ, I_sEJ, J_sEJ, R_sEJ, EI_sEJ, EJ_sEJ, ER_sEJ, n_sER, z_sER, tag_sER, I_sER, J_sER, R_sER, EI_sER, EJ_sER, ER_sER, n_nw, z_nw, tag_nw, I_nw, J_nw, R_nw, EI_nw, EJ_nw, ER_nw]
    · rcases g4 n with z | z
      · exact z
      · rw [z, f3.1.1.EI (by simp [P1]), f12.1.EI (FS.n (by decide))]; exact q10 n hn2
  cases o' with
  | none =>
    refine k_X15_set_0 o ?_
    refine find_none hs ht (by omega) ?_
    obtain ⟨g1, g2, g3, g4, g5⟩ := id ht
    refine k_X15_set_4 o (fun c => ?_) (fun c => ?_)
    · exact absurd rfl c
    refine k_X15_set_12 o ?_
    refine k_X15_set_17 o (fun c2 => ?_) (fun c2 => ?_)
    · exact absurd c2 (by decide)
    refine k_X15_set_24 o (fun c3 => ?_) (fun c3 => ?_)
    rotate_left
    · exact absurd c3 (by decide)
    refine k_X15_set_37 o ?_
    refine insert_none hs ht ha (by omega) fun h1 nl ti => ?_
    exact new h1 nl ti (fun e he => by cases he) g5
  | some t =>
    obtain ⟨g1, g2, g3, g4, g5, g6, ⟨m, g7, g8, g9⟩, g10, g11⟩ := id ht
    have hn : (els t).length < 400 := hn
    refine k_X15_set_0 o ?_
    refine find_some hs g4 g5 g3 ha (by omega) ?_
    by_cases q : (nrt k t).1 = k
    · rw [if_pos q]
      have nd := nrt_nd k g4
      have nlt := RP.lt g5 _ nd
      refine k_X15_set_4 o (fun c => ?_) (fun c => ?_)
      rotate_left
      · exact absurd c (nI_m1 (by omega))
      refine k_X15_set_16 o ?_
      refine k_X15_set_17 o (fun c2 => ?_) (fun c2 => ?_)
      rotate_left
      · exact absurd rfl c2
      obtain ⟨⟨e1, e2, e3, e4, e5, e6⟩, tw, sd, sn, sa, sz⟩ := id hs
      obtain ⟨⟨j1, j2, j3, j4, j5, j6, j7, j8, j9, j10⟩, -, s1, s2, s3, s4⟩ := id sn
      have tv := s2.1
      refine k_X15_set_53 o ?_
      refine fset_ok s2 nlt fun h3 f3 r3 => ?_
      have f3' : Fq (FS thF) h h3 := f3.1.mono (FS.p1 rfl)
      have hs3 := hs.fr f3'.1 thF.np
      obtain ⟨⟨e1, e2, e3, e4, e5, e6⟩, -, -, sn3, -⟩ := id hs3
      have tn3 := sn3.1.1
      have cp := chg_p k v t
      have RP3 : RP h3 T (chg k v t) (-1) := RP.chgP (h := h) ⟨fun j => f3.1.1.EI (by simp [P1]) j, fun j => f3.1.1.EI (by simp [P1]) j, fun j => r4_fr f3.1.1 (by simp [P1]) j, fun j => f3.1.1.EI (by simp [P1]) j, fun j => f3.1.1.EI (by simp [P1]) j⟩ g4 g5 g6 (fun j _ hj => f3.2 j hj) r3
      obtain ⟨cl, hcl⟩ := RP.ch (l := []) RP3 rfl (nrt k t).2 (by rw [cp.1]; exact nd)
      refine k_X15_set_71 o ?_
      refine touch_ok sn3 hcl fun h4 f4 q4 => ?_
      have pe := els_chg k v g4 q
      have hlen : (els (chg k v t)).length = (els t).length := els_len k v g4 q
      refine fin h4 (chg k v t) _ false (f3'.trans (f4.mono (FS.mono rfl))) ⟨?_, ?_, ?_, chg_wf k v g4 q, RP.fr f4.1 ⟨FS.n (by decide), FS.n (by decide), FS.n (by decide), FS.n (by decide), FS.n (by decide), FS.n (by decide)⟩ RP3, by rw [cp.1]; exact g6, ⟨m, ?_, by rw [hlen]; exact g8, by rw [cp.1]; exact g9⟩, ?_, fun n hn2 => ?_⟩ pe
      · rw [f4.1.I (FS.n (by decide)), f3.1.1.I (by simp [P1])]; exact g1
      · rw [r4_fr f4.1 (FS.n (by decide)), r4_fr f3.1.1 (by simp [P1])]; exact g2
      · rw [f4.1.I (FS.n (by decide)), f3.1.1.I (by simp [P1]), cp.2]; exact g3
      · rw [f4.1.I (FS.n (by decide)), f3.1.1.I (by simp [P1])]; exact g7
      · rw [f4.1.I (FS.n (by decide)), f3.1.1.I (by simp [P1]), hlen]; exact g10
      · rw [cp.1] at hn2
        rcases q4 n with z | z
        · exact z
        · rw [z, f3.1.1.EI (by simp [P1])]; exact g11 n hn2
    · rw [if_neg q]
      refine k_X15_set_4 o (fun c => ?_) (fun c => ?_)
      · exact absurd rfl c
      refine k_X15_set_12 o ?_
      refine k_X15_set_17 o (fun c2 => ?_) (fun c2 => ?_)
      · exact absurd c2 (by decide)
      refine k_X15_set_24 o (fun c3 => ?_) (fun c3 => ?_)
      rotate_left
      · exact absurd ((nI_eq (by omega) (by omega)).mp c3) (by omega)
      refine k_X15_set_37 o ?_
      refine insert_some hs ht ha q hn (by omega) fun h1 nl ti => ?_
      exact new h1 nl ti (fun e he z => q (nrt_self k g4 ⟨e, he, z⟩)) g10
