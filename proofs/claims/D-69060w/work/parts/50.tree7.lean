/-! the component's tree as a whole -/
def thF : List Nat := [10000 + 691, 10000 + 608, 10000 + 656, 10000 + 624, 10000 + 640, 10000 + 674, 2058, 1794, 1795]
theorem thF.np : ∀ f a, htR.contains f = true → ¬ FS thF f a := fun f a hf q => by
  have : htR.all (fun f => !thF.contains f) = true := by decide
  rw [List.all_eq_true] at this
  have h2 := this f (List.contains_iff_mem.mp hf)
  unfold FS at q
  rw [q] at h2; cases h2
/-- a tree of which no hash is made yet -/
def TT (h : AH) (T : Nat) (o : Option PT) : Prop := h.I 2057 (T + 6) = -1 ∧ r4 h (T + 23) 0 = z4 ∧ match o with
  | none => h.I 1794 T = -1 ∧ h.I 2058 (T + 6) = nI 0 ∧ h.I 1795 T = nI 0
  | some t => h.I 1794 T = nI (rtn t) ∧ WFp t 0 ∧ RP h T t (-1) ∧ (nds t).Nodup ∧ (∃ m, h.I 2058 (T + 6) = nI m ∧ m ≤ 2 * (els t).length ∧ ∀ n ∈ nds t, n < m) ∧ h.I 1795 T = nI (els t).length ∧ ∀ n ∈ nds t, h.EI 674 (T + 19) n = nI 0
def elo : Option PT → List (F4 × F4)
  | none => []
  | some t => els t
/-- of the new tree: all but its count, and but the new value -/
def TI (h : AH) (T : Nat) (k : F4) (o : Option PT) (h' : AH) (nl : Nat) : Prop := Fq (FS thF) h h' ∧ (h'.I 2057 (T + 6) = -1 ∧ r4 h' (T + 23) 0 = z4 ∧ r4 h' (T + 20) 0 = k ∧ h'.I 1795 T = h.I 1795 T) ∧ nl < 1024 ∧ ∀ v h2, (∀ j, h2.EI 608 (T + 15) j = h'.EI 608 (T + 15) j) → (∀ j, h2.EI 656 (T + 18) j = h'.EI 656 (T + 18) j) → (∀ j, r4 h2 (T + 7) j = r4 h' (T + 7) j) → (∀ j, h2.EI 624 (T + 16) j = h'.EI 624 (T + 16) j) → (∀ j, h2.EI 640 (T + 17) j = h'.EI 640 (T + 17) j) → (∀ j, j ≠ nl → r4 h2 (T + 9) j = r4 h' (T + 9) j) → r4 h2 (T + 9) nl = v →
  ∃ t', h'.I 1794 T = nI (rtn t') ∧ WFp t' 0 ∧ RP h2 T t' (-1) ∧ (nds t').Nodup ∧ nl ∈ nds t' ∧ (∃ m, h'.I 2058 (T + 6) = nI m ∧ m ≤ 2 * (els t').length ∧ ∀ n ∈ nds t', n < m) ∧ (els t').Perm ((k, v) :: elo o) ∧ ∀ n ∈ nds t', h'.EI 674 (T + 19) n = nI 0
theorem ins_nds {k v : F4} {nf nl L : Nat} (hL : L < 256) : ∀ {t : PT} {b : Nat}, WFp t b → (nds (ins k v nf nl L t)).Perm (nf :: nl :: nds t)
  | .inner lv x _ l r, b, ⟨_, h⟩ => by
    unfold ins
    by_cases c : lv < L
    · rw [if_pos c]
      rcases h with h | ⟨_, h3, h4, _⟩
      · omega
      · by_cases c2 : bt k lv = 0
        · rw [if_pos c2]
          have p := ins_nds (k := k) (v := v) (nf := nf) (nl := nl) hL h3
          simp only [nds]
          refine ((p.append_right _).cons _).trans ?_
          exact (List.Perm.swap _ _ _).trans ((List.Perm.swap _ _ _).cons _)
        · rw [if_neg c2]
          have p := ins_nds (k := k) (v := v) (nf := nf) (nl := nl) hL h4
          simp only [nds]
          refine ((p.append_left _).cons _).trans ?_
          refine ((List.perm_middle.trans (List.perm_middle.cons _)).cons _).trans ?_
          exact (List.Perm.swap _ _ _).trans ((List.Perm.swap _ _ _).cons _)
    · rw [if_neg c]
      by_cases c2 : bt k L = 0
      · rw [if_pos c2]; simp [nds]
      · rw [if_neg c2]
        simp only [nds, List.append_nil]
        exact (List.perm_append_comm.cons _)
theorem prn_lv {h : AH} {T : Nat} (k : F4) {L : Nat} (hL : L < 256) : ∀ {t : PT} {b : Nat} {ab : Int32}, WFp t b → RP h T t ab → prn k L t ab = ab ∨ ∃ a ∈ nds t, prn k L t ab = nI a ∧ ∃ lv, lv < L ∧ h.EI 608 (T + 15) a = nI lv
  | .inner lv x _ l r, b, ab, ⟨_, h⟩, ⟨⟨e1, e2, e3, e4⟩, _, _, e7, e8⟩ => by
    unfold prn
    by_cases c : lv < L
    · rw [if_pos c]
      rcases h with h | ⟨_, h3, h4, _⟩
      · omega
      · right
        by_cases c2 : bt k lv = 0
        · rw [if_pos c2]
          rcases prn_lv k hL h3 e7 with q | ⟨a, q1, q2, q3⟩
          · exact ⟨x.1, by simp [nds], q, lv, c, e2⟩
          · exact ⟨a, by simp [nds, q1], q2, q3⟩
        · rw [if_neg c2]
          rcases prn_lv k hL h4 e8 with q | ⟨a, q1, q2, q3⟩
          · exact ⟨x.1, by simp [nds], q, lv, c, e2⟩
          · exact ⟨a, by simp [nds, q1], q2, q3⟩
    · rw [if_neg c]; exact Or.inl rfl
theorem rtn_top {k v : F4} {nf nl L : Nat} (hL : L < 256) : ∀ {t : PT} {b : Nat}, WFp t b → (∀ n ∈ nds t, n < 24576) → prn k L t (-1) = -1 → rtn (ins k v nf nl L t) = nf
  | .inner lv x _ l r, b, hw, hn, hp => by
    rw [rtn_ins (by simp)]
    by_cases c9 : lv < L
    · obtain ⟨a, z1, z2⟩ := nds_in_prn k hL hw c9 (ab := -1)
      rw [hp] at z2
      exact absurd z2.symm (nI_m1 (hn a z1))
    · simp [c9]
theorem rtn_sub {k v : F4} {nf nl L a : Nat} (ha : a < 24576) : ∀ {t : PT}, t ≠ .leaf → prn k L t (-1) = nI a → rtn (ins k v nf nl L t) = rtn t
  | .leaf, h, _ => absurd rfl h
  | .inner lv x _ l r, _, hp => by
    rw [rtn_ins (by simp)]
    by_cases c9 : lv < L
    · simp only [if_pos c9]; rfl
    · have : prn k L (.inner lv x () l r) (-1) = -1 := by simp only [prn, if_neg c9]
      rw [hp] at this
      exact absurd this (nI_m1 ha)
theorem insert_none {G : Gt} {d : Nat} {h : AH} {K : Outcome → AH → Prop} {T : Nat} {k : F4} (hs : SHt h T) (ht : TT h T none) (ha : r4 h (T + 20) 0 = k) (hd : 2 ≤ d) (kk : ∀ h' nl, TI h T k none h' nl → K (.returned (some (.int (nI nl)))) h') : MW G d e_X15_insert [.ref T] h K := by
  refine st_X15_insert fun X o hG hD hf => ?_
  subst hG; subst hD
  obtain ⟨g1, g2, g3, g4, g5⟩ := ht
  obtain ⟨⟨e1, e2, e3, e4, e5, e6⟩, tw, sd, sn, sa, sz⟩ := id hs
  have tn := sn.1.1
  refine k_X15_insert_0 o ?_
  refine st_X15_near fun X' o' hG' hD' _ => ?_
  refine k_X15_near_0 o' ?_
  refine k_X15_near_5 o' (fun _ => ?_) (fun c => absurd rfl c)
  refine k_X15_near_50 o' ?_
  refine k_X15_insert_4 o (fun c => ?_) (fun c => ?_)
  · exact absurd rfl c
  refine k_X15_insert_10 o ?_
  refine nmake_ok sn g1 g4 (by omega) fun h1 f1 a1 a2 a3 a4 a5 a6 => ?_
  have F1 : Fq (FS thF) h h1 := f1.mono (FS.mono rfl)
  have hs1 := hs.fr F1.1 thF.np
  obtain ⟨⟨m1, m2, m3, m4, m5, m6⟩, -, -, sn1, sa1, sz1⟩ := id hs1
  obtain ⟨⟨j1, j2, j3, j4, j5, j6, j7, j8, j9, j10⟩, -, s1, s2, s3, s4⟩ := id sn1
  have tk := s1.1
  have n1 : (h1.sI 1794 T (nI 0)).I 1794 T = nI 0 := by simp [n_sI, z_sI, tag_sI, I_sI, J_sI, R_sI, EI_sI, EJ_sI, ER_sI, n_sJ, z_sJ, tag_sJ, I_sJ, J_sJ, R_sJ, EI_sJ, EJ_sJ, ER_sJ, n_sR, z_sR, tag_sR, I_sR, J_sR, R_sR, EI_sR, EJ_sR, ER_sR, n_sEI, z_sEI, tag_sEI, I_sEI, J_sEI, R_sEI, EI_sEI, EJ_sEI, ER_sEI, n_sEJ, z_sEJ, tag_sEJ, I_sEJ, J_sEJ, R_sEJ, EI_sEJ, EJ_sEJ, ER_sEJ, n_sER, z_sER, tag_sER, I_sER, J_sER, R_sER, EI_sER, EJ_sER, ER_sER, n_nw, z_nw, tag_nw, I_nw, J_nw, R_nw, EI_nw, EJ_nw, ER_nw]
  refine k_X15_insert_22 o ?_
  generalize hh : h1.sI 1794 T (nI 0) = h2 at n1
  have F2 : Fq (FS thF) h h2 := by rw [← hh]; exact F1.sI rfl
  have F12 : Fq (FS [1794]) h1 h2 := by rw [← hh]; exact (Fq.refl h1).sI rfl
  have hs2 := hs.fr F2.1 thF.np
  obtain ⟨-, -, -, sn2, sa2, sz2⟩ := id hs2
  refine fcopy_ok sn2.2.2.1 sa2 (by omega) (by omega) (by omega) fun h3 f3 r3 => ?_
  have F3 : Fq (FS thF) h h3 := F2.trans (f3.1.mono (FS.p1 rfl))
  have hs3 := hs.fr F3.1 thF.np
  have t3 := hs3.1.1
  have rk : ∀ F j, (F = T + 20 ∨ F = T + 23 ∨ F = T + 9) → r4 h3 F j = r4 h F j := fun F j hF => by
    rw [r4_fr f3.1.1 (by simp [P1]; omega), r4_fr F12.1 (FS.n (by decide)), r4_fr f1.1 (FS.n (by decide))]
  have top3 : h3.I 1794 T = nI 0 := by rw [f3.1.1.I (by simp [P1])]; exact n1
  refine k_X15_insert_44 o ?_
  refine kk h3 0 ⟨F3, ⟨?_, ?_, ?_, ?_⟩, by omega, fun v hX y1 y2 y3 y4 y5 y6 y7 => ⟨.inner 256 (0, k, v) () .leaf .leaf, top3, ⟨by omega, Or.inl ⟨rfl, rfl, rfl⟩⟩, ⟨⟨by omega, ?_, ?_, ?_⟩, fun _ => y7, fun z => by omega, trivial, trivial⟩, by simp [nds], by simp [nds], ⟨1, ?_, by simp [els], by simp [nds]⟩, by simp [els, elo], fun n hn => ?_⟩⟩
  · rw [f3.1.1.I (by simp [P1]), F12.1.I (FS.n (by decide)), f1.1.I (FS.n (by decide))]; exact g1
  · rw [rk _ _ (by omega)]; exact g2
  · rw [rk _ _ (by omega)]; exact ha
  · rw [f3.1.1.I (by simp [P1]), F12.1.I (FS.n (by decide)), f1.1.I (FS.n (by decide))]
  · rw [y1, f3.1.1.EI (by simp [P1]), F12.1.EI (FS.n (by decide)), a1, if_pos rfl]
  · rw [y2, f3.1.1.EI (by simp [P1]), F12.1.EI (FS.n (by decide)), a2, if_pos rfl]
  · rw [y3]
    show r4 h3 (T + 7) 0 = k
    rw [show r4 h3 (T + 7) 0 = r4 h2 (T + 20) 0 from r3, r4_fr F12.1 (FS.n (by decide)), r4_fr f1.1 (FS.n (by decide))]; exact ha
  · rw [f3.1.1.I (by simp [P1]), F12.1.I (FS.n (by decide))]; exact a6
  · have hn : n = 0 := by simpa [nds] using hn
    rw [hn, f3.1.1.EI (by simp [P1]), F12.1.EI (FS.n (by decide)), a5, if_pos rfl]
theorem insert_some {G : Gt} {d : Nat} {h : AH} {K : Outcome → AH → Prop} {T : Nat} {k : F4} {t : PT} (hs : SHt h T) (ht : TT h T (some t)) (ha : r4 h (T + 20) 0 = k) (hk : (nrt k t).1 ≠ k) (hn : (els t).length < 400) (hd : 4 ≤ d) (kk : ∀ h' nl, TI h T k (some t) h' nl → K (.returned (some (.int (nI nl)))) h') : MW G d e_X15_insert [.ref T] h K := by
  refine st_X15_insert fun X o hG hD hf => ?_
  subst hG; subst hD
  obtain ⟨g1, g2, g3, g4, g5, g6, ⟨m, g7, g8, g9⟩, g10, g11⟩ := ht
  obtain ⟨⟨e1, e2, e3, e4, e5, e6⟩, tw, sd, sn, sa, sz⟩ := id hs
  obtain ⟨⟨j1, j2, j3, j4, j5, j6, j7, j8, j9, j10⟩, ⟨t1, t2, t3, t4, t5⟩, s1, s2, s3, s4⟩ := id sn
  have ta := sa.1
  have nb1 := RP.lt g5 _ (nrt_nd k g4)
  refine k_X15_insert_0 o ?_
  refine near_ok hs g4 g5 g3 ha (by omega) ?_
  refine k_X15_insert_4 o (fun c => ?_) (fun c => ?_)
  rotate_left
  · exact absurd c (nI_m1 (by omega))
  refine k_X15_insert_49 o ?_
  refine ffork_ok sa s1 (by omega) nb1 (by omega) ?_
  have nk : r4 h (T + 6 + 1) (nrt k t).2 = (nrt k t).1 := nrt_key k g4 g5
  rw [ha, nk]
  obtain ⟨p1, p2, p3, p4⟩ := frk_spec k (nrt k t).1 4 0 rfl (fun j hj => by omega)
  generalize hL : frk k (nrt k t).1 4 0 = L at p1 p2 p3 p4
  have hL2 : L < 256 := by
    rcases Nat.lt_or_ge L 256 with q | q
    · exact q
    · exact absurd (p3 (by omega)).symm hk
  have agr1 : agr L k (nrt k t).1 := fun i hi => p1 i hi (by omega)
  have dif1 := p2 hL2
  have loop : ∀ (s : PT) (b : Nat) (ab : Int32) v1, WFp s b → RP h T s ab → V X K 113 [.ref T, v1, .int (nI L), .int (nI (stp k L s)), nov, nov, nov, nov] [] h → V X K 71 [.ref T, v1, .int (nI L), .int (nI (rtn s)), nov, nov, nov, nov] [] h := by
    intro s
    induction s with
    | leaf => intro b ab v1 hw; exact absurd hw id
    | inner lv x u l r ihl ihr =>
      intro b ab v1 hw hr kk
      obtain ⟨⟨q1, q2, q3, q4⟩, q5, q6, q7, q8⟩ := id hr
      obtain ⟨w1, w2⟩ := id hw
      have ix : IX (nI x.1) 1024 x.1 := IX.mk q1 (by omega)
      have q2' : h.EI 608 (T + 6 + 9) x.1 = nI lv := q2
      show V X K 71 [.ref T, v1, .int (nI L), .int (nI x.1), nov, nov, nov, nov] [] h
      unfold stp at kk
      have hlv : lv ≤ 256 := by rcases w2 with w2 | w2; omega; omega
      refine k_X15_insert_71 o (fun c => ?_) (fun c => ?_)
      · have c := (nI_leI (by omega) (by omega)).mp c
        rw [if_neg (by omega)] at kk
        exact kk
      · have c : lv < L := by
          rcases Nat.lt_or_ge lv L with z | z
          · exact z
          · exact absurd ((nI_leI (by omega) (by omega)).mpr z) c
        rw [if_pos c] at kk
        rcases w2 with w2 | ⟨c1, c2, c3, c4, c5⟩
        · omega
        refine k_X15_insert_84 o ?_
        refine fbit_ok sa (by omega) c1 ?_
        rw [ha]
        refine k_X15_insert_106 o ?_
        refine child_ok sn q1 (bt_lt k lv) ?_
        obtain ⟨l1, l2⟩ := q6 c1
        by_cases cb : bt k lv = 0
        · rw [if_pos cb] at kk ⊢
          rw [l1]
          refine k_X15_insert_109 o ?_
          exact ihl _ _ _ c2 q7 kk
        · rw [if_neg cb] at kk ⊢
          rw [l2]
          refine k_X15_insert_109 o ?_
          exact ihr _ _ _ c3 q8 kk
  refine k_X15_insert_65 o ?_
  refine loop t 0 (-1) _ g4 g5 ?_
  have sin := stp_in k hL2 g4
  have slt := g9 _ sin
  have hsp := stp_ab k hL2 g4 g5
  generalize hst : stp k L t = sp at *
  have hpl := prn_lv k hL2 g4 g5
  generalize hp : prn k L t (-1) = p at *
  have ixs : IX (nI sp) 1024 sp := IX.mk (by omega) (by omega)
  have hsp' : h.EI 656 (T + 6 + 12) sp = p := hsp
  refine k_X15_insert_113 o ?_
  refine nmake_ok sn g1 g7 (by omega) fun h1 f1 a1 a2 a3 a4 a5 a6 => ?_
  have F1 : Fq (FS thF) h h1 := f1.mono (FS.mono rfl)
  have hs1 := hs.fr F1.1 thF.np
  obtain ⟨⟨m1, m2, m3, m4, m5, m6⟩, -, -, sn1, sa1, sz1⟩ := id hs1
  obtain ⟨⟨x1, x2, x3, x4, x5, x6, x7, x8, x9, x10⟩, -, y1, y2, y3, y4⟩ := id sn1
  have tk1 := y1.1
  refine k_X15_insert_134 o ?_
  refine fcopy_ok y1 sa1 (by omega) (by omega) (by omega) fun h2 f2 r2 => ?_
  have F2 : Fq (FS thF) h h2 := F1.trans (f2.1.mono (FS.p1 rfl))
  have r2 : r4 h2 (T + 7) m = k := by rw [show r4 h2 (T + 7) m = r4 h1 (T + 20) 0 from r2, r4_fr f1.1 (FS.n (by decide))]; exact ha
  -- what holds where the two ways meet
  have meet : ∀ h3 v4, Fq (FS thF) h h3 → Fq (FS [10000 + 656, 10000 + 624, 10000 + 640, 1794]) h2 h3 → (∀ j, h3.EI 656 (T + 18) j = h2.EI 656 (T + 18) j) →
      (∀ j, p ≠ nI j → h3.EI 624 (T + 16) j = h2.EI 624 (T + 16) j ∧ h3.EI 640 (T + 17) j = h2.EI 640 (T + 17) j) →
      (∀ j, j ∈ nds t → ∀ lv, p = nI j → h.EI 608 (T + 15) j = nI lv → lv < 256 → if bt k lv = 0 then h3.EI 624 (T + 16) j = nI m ∧ h3.EI 640 (T + 17) j = h2.EI 640 (T + 17) j else h3.EI 624 (T + 16) j = h2.EI 624 (T + 16) j ∧ h3.EI 640 (T + 17) j = nI m) →
      h3.I 1794 T = nI (rtn (ins k z4 m (m + 1) L t)) → V X K 197 [.ref T, .int (nI (nrt k t).2), .int (nI L), .int (nI sp), v4, .int (nI m), nov, nov] [] h3 := by
    intro h3 v4 F3 f3 ab3 ch3 pr3 top3
    have hs3 := hs.fr F3.1 thF.np
    obtain ⟨⟨m1, m2, m3, m4, m5, m6⟩, -, -, sn3, sa3, sz3⟩ := id hs3
    have tn3 := sn3.1.1
    have mk3 : h3.I 2058 (T + 6) = nI (m + 1) := by rw [f3.1.I (FS.n (by decide)), f2.1.1.I (by simp [P1])]; exact a6
    have fr3 : h3.I 2057 (T + 6) = -1 := by rw [f3.1.I (FS.n (by decide)), f2.1.1.I (by simp [P1]), f1.1.I (FS.n (by decide))]; exact g1
    refine k_X15_insert_197 o ?_
    refine nmake_ok sn3 fr3 mk3 (by omega) fun h4 f4 b1 b2 b3 b4 b5 b6 => ?_
    have F4' : Fq (FS thF) h h4 := F3.trans (f4.mono (FS.mono rfl))
    have hs4 := hs.fr F4'.1 thF.np
    obtain ⟨⟨m1, m2, m3, m4, m5, m6⟩, -, -, sn4, sa4, sz4⟩ := id hs4
    obtain ⟨⟨x1, x2, x3, x4, x5, x6, x7, x8, x9, x10⟩, -, y1, y2, y3, y4⟩ := id sn4
    have tk4 := y1.1
    refine k_X15_insert_209 o ?_
    refine fcopy_ok y1 sa4 (by omega) (by omega) (by omega) fun h5 f5 r5 => ?_
    have F5 : Fq (FS thF) h h5 := F4'.trans (f5.1.mono (FS.p1 rfl))
    have hs5 := hs.fr F5.1 thF.np
    obtain ⟨⟨m1, m2, m3, m4, m5, m6⟩, -, -, sn5, sa5, sz5⟩ := id hs5
    have ta5 := sa5.1
    have tn5 := sn5.1.1
    have rk : ∀ F j, (F = T + 20 ∨ F = T + 23 ∨ F = T + 9) → r4 h5 F j = r4 h F j := fun F j hF => by
      rw [r4_fr f5.1.1 (by simp [P1]; omega), r4_fr f4.1 (FS.n (by decide)), r4_fr f3.1 (FS.n (by decide)), r4_fr f2.1.1 (by simp [P1]; omega), r4_fr f1.1 (FS.n (by decide))]
    have ask5 : r4 h5 (T + 20) 0 = k := by rw [rk _ _ (by omega)]; exact ha
    refine k_X15_insert_228 o ?_
    refine fbit_ok sa5 (by omega) hL2 ?_
    rw [ask5]
    have hb := bt_lt k L
    refine k_X15_insert_237 o ?_
    refine setChild_ok sn5 (by omega) (by omega) hb fun h6 f6 c1 c2 c3 => ?_
    have F6 : Fq (FS thF) h h6 := F5.trans (f6.mono (FS.mono rfl))
    have hs6 := hs.fr F6.1 thF.np
    obtain ⟨⟨m1, m2, m3, m4, m5, m6⟩, -, -, sn6, -⟩ := id hs6
    have tn6 := sn6.1.1
    refine k_X15_insert_252 o ?_
    rw [nI_sub (by omega)]
    refine setChild_ok sn6 (by omega) (by omega) (by omega) fun h7 f7 d1 d2 d3 => ?_
    have F7 : Fq (FS thF) h h7 := F6.trans (f7.mono (FS.mono rfl))
    have hs7 := hs.fr F7.1 thF.np
    obtain ⟨⟨m1, m2, m3, m4, m5, m6⟩, -, -, sn7, -⟩ := id hs7
    have tn7 := sn7.1.1
    -- all rows now
    have lev : ∀ j, h7.EI 608 (T + 15) j = if j = m + 1 then nI 256 else if j = m then nI L else h.EI 608 (T + 15) j := fun j => by
      rw [f7.1.EI (FS.n (by decide)), f6.1.EI (FS.n (by decide)), f5.1.1.EI (by simp [P1]), b1, f3.1.EI (FS.n (by decide)), f2.1.1.EI (by simp [P1]), a1]
    have abv : ∀ j, h7.EI 656 (T + 18) j = if j = sp then nI m else if j = m + 1 then nI m else if j = m then p else h.EI 656 (T + 18) j := fun j => by
      rw [d3, c3, f5.1.1.EI (by simp [P1]), b2, ab3, f2.1.1.EI (by simp [P1]), a2]
      by_cases z1 : j = sp
      · rw [if_pos z1, if_pos z1]
      · rw [if_neg z1, if_neg z1]
        by_cases z2 : j = m + 1
        · rw [if_pos z2, if_pos z2]
        · rw [if_neg z2, if_neg z2]
    have ky : ∀ j, r4 h7 (T + 7) j = if j = m + 1 then k else if j = m then k else r4 h (T + 7) j := fun j => by
      rw [r4_fr f7.1 (FS.n (by decide)), r4_fr f6.1 (FS.n (by decide))]
      by_cases z : j = m + 1
      · rw [if_pos z, z, show r4 h5 (T + 7) (m + 1) = r4 h4 (T + 20) 0 from r5, r4_fr f4.1 (FS.n (by decide)), r4_fr f3.1 (FS.n (by decide)), r4_fr f2.1.1 (by simp [P1]), r4_fr f1.1 (FS.n (by decide))]; exact ha
      · rw [if_neg z, show r4 h5 (T + 7) j = r4 h4 (T + 7) j from f5.2 j z, r4_fr f4.1 (FS.n (by decide)), r4_fr f3.1 (FS.n (by decide))]
        by_cases z2 : j = m
        · rw [if_pos z2, z2]; exact r2
        · rw [if_neg z2, show r4 h2 (T + 7) j = r4 h1 (T + 7) j from f2.2 j z2, r4_fr f1.1 (FS.n (by decide))]
    have vl : ∀ F j, (F = T + 20 ∨ F = T + 23 ∨ F = T + 9) → r4 h7 F j = r4 h F j := fun F j hF => by
      rw [r4_fr f7.1 (FS.n (by decide)), r4_fr f6.1 (FS.n (by decide)), rk F j hF]
    have lf : ∀ j, j < m → h7.EI 624 (T + 16) j = h3.EI 624 (T + 16) j := fun j hj => by
      rw [d1, if_neg (by omega), c1, if_neg (by omega), f5.1.1.EI (by simp [P1]), b3, if_neg (by omega)]
    have rg : ∀ j, j < m → h7.EI 640 (T + 17) j = h3.EI 640 (T + 17) j := fun j hj => by
      rw [d2, if_neg (by omega), c2, if_neg (by omega), f5.1.1.EI (by simp [P1]), b4, if_neg (by omega)]
    have lf2 : ∀ j, j < m → h2.EI 624 (T + 16) j = h.EI 624 (T + 16) j := fun j hj => by
      rw [f2.1.1.EI (by simp [P1]), a3, if_neg (by omega)]
    have rg2 : ∀ j, j < m → h2.EI 640 (T + 17) j = h.EI 640 (T + 17) j := fun j hj => by
      rw [f2.1.1.EI (by simp [P1]), a4, if_neg (by omega)]
    have nfc : if bt k L = 0 then h7.EI 624 (T + 16) m = nI (m + 1) ∧ h7.EI 640 (T + 17) m = nI sp else h7.EI 624 (T + 16) m = nI sp ∧ h7.EI 640 (T + 17) m = nI (m + 1) := by
      by_cases z : bt k L = 0
      · rw [if_pos z]
        refine ⟨?_, ?_⟩
        · rw [d1, if_neg (by omega), c1, if_pos ⟨z, rfl⟩]
        · rw [d2, if_pos ⟨by omega, rfl⟩]
      · rw [if_neg z]
        refine ⟨?_, ?_⟩
        · rw [d1, if_pos ⟨by omega, rfl⟩]
        · rw [d2, if_neg (by omega), c2, if_pos ⟨by omega, rfl⟩]
    have main : ∀ v hX, (∀ j, hX.EI 608 (T + 15) j = h7.EI 608 (T + 15) j) → (∀ j, hX.EI 656 (T + 18) j = h7.EI 656 (T + 18) j) → (∀ j, r4 hX (T + 7) j = r4 h7 (T + 7) j) → (∀ j, hX.EI 624 (T + 16) j = h7.EI 624 (T + 16) j) → (∀ j, hX.EI 640 (T + 17) j = h7.EI 640 (T + 17) j) → (∀ j, j ≠ m + 1 → r4 hX (T + 9) j = r4 h7 (T + 9) j) → r4 hX (T + 9) (m + 1) = v → RP hX T (ins k v m (m + 1) L t) (-1) := by
      intro v hX u1 u2 u3 u4 u5 u6 u7
      refine RP.insP hL2 (by omega) (by omega) ?_ ?_ ?_ ?_ u7 ?_ g4 g5 g6 (fun n hn2 q => nI_m1 (a := n) (by have := g9 n hn2; omega) q.symm) ?_ ?_ (fun j hj => ?_) (fun j hj z => ?_) ?_ (fun j hj z => ?_) (fun j hj lv z1 z2 z3 => ?_)
      · rw [u1, lev, if_neg (by omega), if_pos rfl]
      · rw [u3, ky, if_neg (by omega), if_pos rfl]
      · rw [u1, lev, if_pos rfl]
      · rw [u3, ky, if_pos rfl]
      · rw [u2, abv, if_neg (by omega), if_pos rfl]
      · rw [hp, u2, abv, if_neg (by omega), if_neg (by omega), if_pos rfl]
      · rw [hst, u4, u5]; exact nfc
      · have := g9 j hj
        refine ⟨?_, ?_, ?_⟩
        · rw [u1, lev, if_neg (by omega), if_neg (by omega)]
        · rw [u3, ky, if_neg (by omega), if_neg (by omega)]
        · rw [u6 j (by omega), vl _ _ (by omega)]
      · have := g9 j hj
        rw [hst] at z
        rw [u2, abv, if_neg z, if_neg (by omega), if_neg (by omega)]
      · rw [hst, u2, abv, if_pos rfl]
      · have := g9 j hj
        rw [hp] at z
        obtain ⟨z1, z2⟩ := ch3 j z
        exact ⟨by rw [u4, lf j this, z1, lf2 j this], by rw [u5, rg j this, z2, rg2 j this]⟩
      · have := g9 j hj
        rw [hp] at z1
        have q := pr3 j hj lv z1 z2 z3
        rw [u4, u5, lf j this, rg j this, ← lf2 j this, ← rg2 j this]
        exact q
    have RP7 := main (r4 h7 (T + 9) (m + 1)) h7 (fun _ => rfl) (fun _ => rfl) (fun _ => rfl) (fun _ => rfl) (fun _ => rfl) (fun _ _ => rfl) rfl
    have hperm := fun v => ins_nds (k := k) (v := v) (nf := m) (nl := m + 1) hL2 g4
    obtain ⟨cl, hcl⟩ := RP.ch (l := []) RP7 rfl sp ((hperm _).mem_iff.mpr (by simp [sin]))
    refine k_X15_insert_266 o ?_
    refine touch_ok sn7 hcl fun h8 f8 q8 => ?_
    have F8 : Fq (FS thF) h h8 := F7.trans (f8.mono (FS.mono rfl))
    have top8 : h8.I 1794 T = h3.I 1794 T := by rw [f8.1.I (FS.n (by decide)), f7.1.I (FS.n (by decide)), f6.1.I (FS.n (by decide)), f5.1.1.I (by simp [P1]), f4.1.I (FS.n (by decide))]
    have fre8 : ∀ n, n ∈ nds t ∨ n = m ∨ n = m + 1 → h8.EI 674 (T + 19) n = nI 0 := fun n hn2 => by
      rcases q8 n with z | z
      · exact z
      · rw [z, f7.1.EI (FS.n (by decide)), f6.1.EI (FS.n (by decide)), f5.1.1.EI (by simp [P1]), b5]
        by_cases z1 : n = m + 1
        · rw [if_pos z1]
        · rw [if_neg z1, f3.1.EI (FS.n (by decide)), f2.1.1.EI (by simp [P1]), a5]
          by_cases z2 : n = m
          · rw [if_pos z2]
          · rw [if_neg z2]
            rcases hn2 with z3 | z3 | z3
            · exact g11 n z3
            · exact absurd z3 z2
            · exact absurd z3 z1
    refine k_X15_insert_274 o ?_
    refine kk h8 (m + 1) ⟨F8, ⟨?_, ?_, ?_, ?_⟩, by omega, fun v hX u1 u2 u3 u4 u5 u6 u7 => ⟨ins k v m (m + 1) L t, ?_, WFp_ins k v hL2 g4 (by omega) agr1 dif1, main v hX (fun j => by rw [u1, f8.1.EI (FS.n (by decide))]) (fun j => by rw [u2, f8.1.EI (FS.n (by decide))]) (fun j => by rw [u3, r4_fr f8.1 (FS.n (by decide))]) (fun j => by rw [u4, f8.1.EI (FS.n (by decide))]) (fun j => by rw [u5, f8.1.EI (FS.n (by decide))]) (fun j hj => by rw [u6 j hj, r4_fr f8.1 (FS.n (by decide))]) u7, ?_, (hperm v).mem_iff.mpr (by simp), ⟨m + 2, ?_, ?_, fun n hn2 => ?_⟩, els_ins k v hL2 g4, fun n hn2 => ?_⟩⟩
    · rw [f8.1.I (FS.n (by decide)), f7.1.I (FS.n (by decide)), f6.1.I (FS.n (by decide)), f5.1.1.I (by simp [P1]), f4.1.I (FS.n (by decide))]; exact fr3
    · rw [r4_fr f8.1 (FS.n (by decide)), vl _ _ (by omega)]; exact g2
    · rw [r4_fr f8.1 (FS.n (by decide)), vl _ _ (by omega)]; exact ha
    · rw [f8.1.I (FS.n (by decide)), f7.1.I (FS.n (by decide)), f6.1.I (FS.n (by decide)), f5.1.1.I (by simp [P1]), f4.1.I (FS.n (by decide)), f3.1.I (FS.n (by decide)), f2.1.1.I (by simp [P1]), f1.1.I (FS.n (by decide))]
    · rw [top8, top3]
      have tne : t ≠ .leaf := fun q => by subst q; exact absurd g4 id
      rw [rtn_ins tne, rtn_ins tne]
    · refine (hperm v).nodup_iff.mpr ?_
      simp only [List.nodup_cons, List.mem_cons]
      exact ⟨fun q => by rcases q with q | q; omega; have := g9 _ q; omega, fun q => by have := g9 _ q; omega, g6⟩
    · rw [f8.1.I (FS.n (by decide)), f7.1.I (FS.n (by decide)), f6.1.I (FS.n (by decide)), f5.1.1.I (by simp [P1])]; exact b6
    · rw [(els_ins k v hL2 g4).length_eq]; simp; omega
    · have := (hperm v).mem_iff.mp hn2
      simp only [List.mem_cons] at this
      rcases this with q | q | q
      · omega
      · omega
      · have := g9 n q; omega
    · have := (hperm v).mem_iff.mp hn2
      simp only [List.mem_cons] at this
      exact fre8 n (by rcases this with q | q | q; exact Or.inr (Or.inl q); exact Or.inr (Or.inr q); exact Or.inl q)
  have tne : t ≠ .leaf := fun q => by subst q; exact absurd g4 id
  rcases hpl with hpl | ⟨a, hain, hpa, lva, hla, hlv⟩
  · subst hpl
    have t2' := F2.1.tag e1
    refine k_X15_insert_153 o (fun c => ?_) (fun c => ?_)
    · exact absurd rfl c
    refine k_X15_insert_159 o ?_
    refine meet _ _ (F2.sI rfl) ((Fq.refl h2).sI rfl) (fun j => rfl) (fun j _ => ⟨rfl, rfl⟩) (fun j hj lv z => absurd z.symm (nI_m1 (by have := g9 j hj; omega))) ?_
    rw [rtn_top hL2 g4 (fun n hn2 => by have := g9 n hn2; omega) hp]; simp [n_sI, z_sI, tag_sI, I_sI, J_sI, R_sI, EI_sI, EJ_sI, ER_sI, n_sJ, z_sJ, tag_sJ, I_sJ, J_sJ, R_sJ, EI_sJ, EJ_sJ, ER_sJ, n_sR, z_sR, tag_sR, I_sR, J_sR, R_sR, EI_sR, EJ_sR, ER_sR, n_sEI, z_sEI, tag_sEI, I_sEI, J_sEI, R_sEI, EI_sEI, EJ_sEI, ER_sEI, n_sEJ, z_sEJ, tag_sEJ, I_sEJ, J_sEJ, R_sEJ, EI_sEJ, EJ_sEJ, ER_sEJ, n_sER, z_sER, tag_sER, I_sER, J_sER, R_sER, EI_sER, EJ_sER, ER_sER, n_nw, z_nw, tag_nw, I_nw, J_nw, R_nw, EI_nw, EJ_nw, ER_nw]
  · subst hpa
    have alt := g9 a hain
    have hs2 := hs.fr F2.1 thF.np
    obtain ⟨⟨m1, m2, m3, m4, m5, m6⟩, -, -, sn2, sa2, sz2⟩ := id hs2
    obtain ⟨⟨x1, x2, x3, x4, x5, x6, x7, x8, x9, x10⟩, ⟨u1, u2, u3, u4, u5⟩, -⟩ := id sn2
    have ta2 := sa2.1
    have ixa : IX (nI a) 1024 a := IX.mk (by omega) (by omega)
    have la2 : h2.EI 608 (T + 6 + 9) a = nI lva := by rw [show T + 6 + 9 = T + 15 from rfl, f2.1.1.EI (by simp [P1]), a1, if_neg (by omega)]; exact hlv
    have ask2 : r4 h2 (T + 20) 0 = k := by rw [r4_fr f2.1.1 (by simp [P1]), r4_fr f1.1 (FS.n (by decide))]; exact ha
    refine k_X15_insert_153 o (fun c => ?_) (fun c => ?_)
    rotate_left
    · exact absurd c (nI_m1 (by omega))
    refine k_X15_insert_168 o ?_
    refine fbit_ok sa2 (by omega) (by omega) ?_
    rw [ask2]
    refine k_X15_insert_192 o ?_
    refine setChild_ok sn2 (by omega) (by omega) (bt_lt k lva) fun h3 f3 c1 c2 c3 => ?_
    refine meet h3 _ (F2.trans (f3.mono (FS.mono rfl))) (f3.mono (FS.mono rfl)) (fun j => ?_) (fun j z => ?_) (fun j hj lv z1 z2 z3 => ?_) ?_
    · rw [c3]
      by_cases z : j = m
      · rw [if_pos z, f2.1.1.EI (by simp [P1]), a2, if_pos z]
      · rw [if_neg z]
    · have : j ≠ a := fun q => z (by rw [q])
      exact ⟨by rw [c1, if_neg fun q => this q.2], by rw [c2, if_neg fun q => this q.2]⟩
    · have hja : a = j := (nI_eq (by omega) (by have := g9 j hj; omega)).mp z1
      subst hja
      rw [hlv] at z2
      have hlve : lva = lv := (nI_eq (by omega) (by omega)).mp z2
      subst hlve
      have hb := bt_lt k lva
      by_cases z : bt k lva = 0
      · rw [if_pos z]
        exact ⟨by rw [c1, if_pos ⟨z, rfl⟩], by rw [c2, if_neg (by omega)]⟩
      · rw [if_neg z]
        exact ⟨by rw [c1, if_neg (by omega)], by rw [c2, if_pos ⟨by omega, rfl⟩]⟩
    · rw [f3.1.I (FS.n (by decide)), f2.1.1.I (by simp [P1]), f1.1.I (FS.n (by decide)), g3, rtn_sub (a := a) (by omega) (fun q => by subst q; exact absurd g4 id) hp]
