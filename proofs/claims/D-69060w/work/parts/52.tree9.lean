/-! the root of the component's tree -/
theorem hbegin_ok {G : Gt} {d : Nat} {h : AH} {K : Outcome → AH → Prop} {T : Nat} (hs : SHt h T) (hz : r4 h (T + 23) 0 = z4) (kk : ∀ h', Fq (FS [1794, 1795, 2057, 2058]) h h' → TT h' T none → K (.returned none) h') : MW G d e_X15_begin [.ref T] h K := by
  refine st_X15_begin fun X o hG hD hf => ?_
  obtain ⟨⟨e1, e2, e3, e4, e5, e6⟩, tw, sd, sn, sa, sz⟩ := id hs
  have tn := sn.1.1
  refine k_X15_begin_0 o ?_
  refine kk _ (by refine (Fq.sI (Fq.sI (Fq.sI (Fq.sI (Fq.refl h) ?_) ?_) ?_) ?_) <;> exact rfl) ⟨by simp [n_sI, z_sI, tag_sI, I_sI, J_sI, R_sI, EI_sI, EJ_sI, ER_sI, n_sJ, z_sJ, tag_sJ, I_sJ, J_sJ, R_sJ, EI_sJ, EJ_sJ, ER_sJ, n_sR, z_sR, tag_sR, I_sR, J_sR, R_sR, EI_sR, EJ_sR, ER_sR, n_sEI, z_sEI, tag_sEI, I_sEI, J_sEI, R_sEI, EI_sEI, EJ_sEI, ER_sEI, n_sEJ, z_sEJ, tag_sEJ, I_sEJ, J_sEJ, R_sEJ, EI_sEJ, EJ_sEJ, ER_sEJ, n_sER, z_sER, tag_sER, I_sER, J_sER, R_sER, EI_sER, EJ_sER, ER_sER, n_nw, z_nw, tag_nw, I_nw, J_nw, R_nw, EI_nw, EJ_nw, ER_nw], hz, by simp [n_sI, z_sI, tag_sI, I_sI, J_sI, R_sI, EI_sI, EJ_sI, ER_sI, n_sJ, z_sJ, tag_sJ, I_sJ, J_sJ, R_sJ, EI_sJ, EJ_sJ, ER_sJ, n_sR, z_sR, tag_sR, I_sR, J_sR, R_sR, EI_sR, EJ_sR, ER_sR, n_sEI, z_sEI, tag_sEI, I_sEI, J_sEI, R_sEI, EI_sEI, EJ_sEI, ER_sEI, n_sEJ, z_sEJ, tag_sEJ, I_sEJ, J_sEJ, R_sEJ, EI_sEJ, EJ_sEJ, ER_sEJ, n_sER, z_sER, tag_sER, I_sER, J_sER, R_sER, EI_sER, EJ_sER, ER_sER, n_nw, z_nw, tag_nw, I_nw, J_nw, R_nw, EI_nw, EJ_nw, ER_nw], by simp [n_sI, z_sI, tag_sI, I_sI, J_sI, R_sI, EI_sI, EJ_sI, ER_sI, n_sJ, z_sJ, tag_sJ, I_sJ, J_sJ, R_sJ, EI_sJ, EJ_sJ, ER_sJ, n_sR, z_sR, tag_sR, I_sR, J_sR, R_sR, EI_sR, EJ_sR, ER_sR, n_sEI, z_sEI, tag_sEI, I_sEI, J_sEI, R_sEI, EI_sEI, EJ_sEI, ER_sEI, n_sEJ, z_sEJ, tag_sEJ, I_sEJ, J_sEJ, R_sEJ, EI_sEJ, EJ_sEJ, ER_sEJ, n_sER, z_sER, tag_sER, I_sER, J_sER, R_sER, EI_sER, EJ_sER, ER_sER, n_nw, z_nw, tag_nw, I_nw, J_nw, R_nw, EI_nw, EJ_nw, ER_nw], by simp [n_sI, z_sI, tag_sI, I_sI, J_sI, R_sI, EI_sI, EJ_sI, ER_sI, n_sJ, z_sJ, tag_sJ, I_sJ, J_sJ, R_sJ, EI_sJ, EJ_sJ, ER_sJ, n_sR, z_sR, tag_sR, I_sR, J_sR, R_sR, EI_sR, EJ_sR, ER_sR, n_sEI, z_sEI, tag_sEI, I_sEI, J_sEI, R_sEI, EI_sEI, EJ_sEI, ER_sEI, n_sEJ, z_sEJ, tag_sEJ, I_sEJ, J_sEJ, R_sEJ, EI_sEJ, EJ_sEJ, ER_sEJ, n_sER, z_sER, tag_sER, I_sER, J_sER, R_sER, EI_sER, EJ_sER, ER_sER, n_nw, z_nw, tag_nw, I_nw, J_nw, R_nw, EI_nw, EJ_nw, ER_nw]⟩
/-- a tree, and the root that it gives: its hashes are not made yet, or all are -/
def TR (h : AH) (T : Nat) (o : Option PT) (r : F4) : Prop := (TT h T o ∧ r = Rt 256 (elo o)) ∨ ∃ t, o = some t ∧ h.I 1794 T = nI (rtn t) ∧ rtn t < 1024 ∧ h.EI 674 (T + 19) (rtn t) = nI 1 ∧ r4 h (T + 13) (rtn t) = r
theorem TR.fr {P : Nat → Nat → Prop} {h h' : AH} {T : Nat} {o : Option PT} {r : F4} (q : Fr P h h') (np : ∀ f a, ttF.contains f = true → f ≠ 10000 + 691 → ¬ P f a) (nr : ∀ a, a = T + 8 ∨ a = T + 10 ∨ a = T + 14 ∨ a = T + 24 → ¬ P (10000 + 691) a) (s : TR h T o r) : TR h' T o r := by
  rcases s with ⟨s1, s2⟩ | ⟨t, s1, s2, s3, s4, s5⟩
  · exact Or.inl ⟨s1.fr q np (fun a ha => nr a (by omega)), s2⟩
  · exact Or.inr ⟨t, s1, by rw [q.I (np _ _ (by decide) (by decide))]; exact s2, s3, by rw [q.EI (np _ _ (by decide) (by decide))]; exact s4, by rw [r4_fr q (nr _ (by omega))]; exact s5⟩
theorem refresh_ok {G : Gt} {d : Nat} {h : AH} {K : Outcome → AH → Prop} {T : Nat} {t : PT} {r : F4} (hs : SHt h T) (hc : CR G h) (hr : TR h T (some t) r) (hn : (els t).length < 400) (hd : 9 ≤ d)
    (kk : ∀ h', Fq (HQ T) h h' → TR h' T (some t) r → h'.I 1794 T = nI (rtn t) → rtn t < 1024 → r4 h' (T + 13) (rtn t) = r → K (.returned none) h') : MW G d e_X15_refresh [.ref T, .int (nI (rtn t))] h K := by
  refine st_X15_refresh fun X o hG hD hf => ?_
  subst hG; subst hD
  obtain ⟨⟨e1, e2, e3, e4, e5, e6⟩, tw, sd, sn, sa, sz⟩ := id hs
  have ix0 : IX (nI 0) 1024 0 := IX.mk (by omega) (by omega)
  refine k_X15_refresh_0 o ?_
  rw [nI_add]
  generalize hh : h.sEI 528 (T + 22) 0 (nI (rtn t)) = h1
  have f1 : Fq (HQ T) h h1 := by rw [← hh]; exact (Fq.refl h).sEI (Or.inr (Or.inr rfl))
  have hs1 := hs.fr f1.1 HQ.np
  have w1 : h1.EI 528 (T + 22) 0 = nI (rtn t) := by rw [← hh]; exact EI_same ..
  rcases hr with ⟨s1, s2⟩ | ⟨t', s1, s2, s3, s4, s5⟩
  · obtain ⟨g1, g2, g3, g4, g5, g6, ⟨m, g7, g8, g9⟩, g10, g11⟩ := s1
    have fe : ∀ j, h1.EI 674 (T + 19) j = h.EI 674 (T + 19) j := fun j => by rw [← hh, EI_sEI, if_neg (by omega)]
    refine refresh_t t X o K h1 0 0 (-1) _ _ _ g4 (g5.fr f1.1 (HQ.rp T)) (Or.inl ⟨rfl, rfl⟩) (fun n hn2 => by rw [fe]; exact g11 n hn2) g6 (by omega) (by omega) w1 (by rw [r4_fr f1.1 (HQ.row (by omega))]; exact g2) hs1 (hc.fr f1.1 (HQ.fld (by decide) (by decide))) hd fun h2 v3 v4 v5 f2 z2 r2 => ?_
    have tp : h2.I 1794 T = nI (rtn t) := by rw [f2.1.1.I (HQ.fld (by decide) (by decide)), f1.1.I (HQ.fld (by decide) (by decide))]; exact g3
    have lt := RP.lt g5 _ (rtn_in g4)
    refine k_X15_refresh_12 o (fun c => ?_) (fun c => ?_)
    rotate_left
    · exact absurd (by decide) c
    refine k_X15_refresh_210 o ?_
    refine (kk h2 (f1.trans f2.1) (Or.inr ⟨t, rfl, tp, lt, z2, by rw [s2]; exact r2⟩) tp lt (by rw [s2]; exact r2))
  · cases s1
    obtain ⟨⟨e1, e2, e3, e4, e5, e6⟩, tw, sd, sn, sa, sz⟩ := id hs1
    obtain ⟨⟨i1, i2, i3, i4, i5, i6, i7, i8, i9, i10⟩, ⟨t1, t2, t3, t4, t5⟩, -⟩ := id sn
    have ix : IX (nI (rtn t)) 1024 (rtn t) := IX.mk s3 (by omega)
    have ixs : IX (nI (0 + 1) - nI 1) 1024 0 := by rw [nI_sub (by omega)]; exact ix0
    have y4 : h1.EI 674 (T + 6 + 13) (rtn t) = nI 1 := by rw [← hh, EI_sEI, if_neg (by omega)]; exact s4
    have tp : h1.I 1794 T = nI (rtn t) := by rw [f1.1.I (HQ.fld (by decide) (by decide))]; exact s2
    have r5 : r4 h1 (T + 13) (rtn t) = r := by rw [← hh]; exact s5
    refine k_X15_refresh_12 o (fun c => ?_) (fun c => ?_)
    · exact absurd c (by decide)
    refine k_X15_refresh_16 o (fun c2 => ?_) (fun c2 => ?_)
    · exact absurd c2 (by decide)
    refine k_X15_refresh_59 o ?_
    refine k_X15_refresh_207 o ?_
    refine k_X15_refresh_12 o (fun c => ?_) (fun c => ?_)
    rotate_left
    · exact absurd (by decide) c
    refine k_X15_refresh_210 o ?_
    refine (kk h1 f1 (Or.inr ⟨t, rfl, tp, s3, y4, r5⟩) tp s3 r5)
/-- what is answered: a part of the root, or 0 -/
def rta (r : F4) (i : Int32) : Int64 := if i < 0 ∨ nI 4 ≤ i then 0 else g4 r (um i)
theorem hroot_ok {G : Gt} {d : Nat} {h : AH} {K : Outcome → AH → Prop} {T : Nat} {ot : Option PT} {r : F4} {i : Int32} (hs : SHt h T) (hc : CR G h) (hr : TR h T ot r) (hn : (elo ot).length < 400) (hd : 10 ≤ d)
    (kk : ∀ h', Fq (HQ T) h h' → TR h' T ot r → K (.returned (some (.long (rta r i)))) h') : MW G d e_X15_root [.ref T, .int i] h K := by
  refine st_X15_root fun X o hG hD hf => ?_
  subst hG; subst hD
  obtain ⟨⟨e1, e2, e3, e4, e5, e6⟩, tw, sd, sn, sa, sz⟩ := id hs
  refine k_X15_root_0 o ?_
  refine st_X15_isNumber fun X' o' hG' hD' _ => ?_
  have bad : i < 0 ∨ nI 4 ≤ i → V X K 4 [.ref T, .int i] [.int (nI 0)] h := fun q => by
    refine k_X15_root_4 o (fun c => ?_) (fun c => ?_)
    rotate_left
    · exact absurd rfl c
    refine k_X15_root_15 o ?_
    refine ((by have := kk h (Fq.refl h) hr; unfold rta at this; rw [if_pos q] at this; exact this))
  refine k_X15_isNumber_0 o' (fun c => ?_) (fun c => ?_)
  · refine k_X15_isNumber_13 o' ?_
    refine k_X15_isNumber_14 o' ?_
    exact bad (Or.inl c)
  refine k_X15_isNumber_4 o' (fun c2 => ?_) (fun c2 => ?_)
  · refine k_X15_isNumber_13 o' ?_
    refine k_X15_isNumber_14 o' ?_
    exact bad (Or.inr c2)
  refine k_X15_isNumber_9 o' ?_
  refine k_X15_isNumber_14 o' ?_
  have nb : ¬ (i < 0 ∨ nI 4 ≤ i) := fun q => by rcases q with q | q; exact c q; exact c2 q
  have hi : um i < 4 := by
    have h1 : ¬ 2147483648 ≤ um i := fun q => c (um_neg.mpr q)
    rcases Nat.lt_or_ge (um i) 4 with q | q
    · exact q
    · exfalso
      refine c2 ?_
      rw [← nI_um i]
      exact (nI_leI (by omega) (by omega)).mpr q
  unfold rta at kk
  rw [if_neg nb] at kk
  refine k_X15_root_4 o (fun c3 => ?_) (fun c3 => ?_)
  · exact absurd c3 (by decide)
  cases ot with
  | none =>
    have hr' := hr
    rcases hr' with ⟨⟨g1, g2, g3, g9, g5⟩, s2⟩ | ⟨t, s1, _⟩
    · have s2 : r = z4 := s2
      subst s2
      refine k_X15_root_7 o (fun c4 => ?_) (fun c4 => ?_)
      · exact absurd rfl c4
      refine k_X15_root_15 o ?_
      have := kk h (Fq.refl h) hr
      have z : ∀ j, g4 z4 j = 0 := fun j => by unfold g4 z4; simp
      rw [z] at this; exact this
    · cases s1
  | some t =>
    have tp : h.I 1794 T = nI (rtn t) := by
      rcases hr with ⟨⟨g1, g2, g3, _⟩, s2⟩ | ⟨t', s1, s2, _⟩
      · exact g3
      · cases s1; exact s2
    have lt : rtn t < 1024 := by
      rcases hr with ⟨⟨g1, g2, g3, g4, g5, _⟩, s2⟩ | ⟨t', s1, s2, s3, _⟩
      · exact RP.lt g5 _ (rtn_in g4)
      · cases s1; exact s3
    refine k_X15_root_7 o (fun c4 => ?_) (fun c4 => ?_)
    rotate_left
    · exact absurd c4 (nI_m1 (by omega))
    refine k_X15_root_17 o ?_
    refine refresh_ok hs hc hr hn (by omega) fun h1 f1 t1 p1 l1 r1 => ?_
    have hs1 := hs.fr f1.1 HQ.np
    obtain ⟨⟨e1, e2, e3, e4, e5, e6⟩, tw, sd, sn, sa, sz⟩ := id hs1
    obtain ⟨⟨i1, i2, i3, i4, i5, i6, i7, i8, i9, i10⟩, -, s1, s2, s3, s4⟩ := id sn
    have tt := s4.1
    refine k_X15_root_25 o ?_
    have e : i = nI (um i) := (nI_um i).symm
    rw [e]
    refine fget_ok s4 l1 hi ?_
    rw [show r4 h1 (T + 6 + 7) (rtn t) = r from r1]
    refine k_X15_root_40 o ?_
    refine (kk h1 f1 t1)
