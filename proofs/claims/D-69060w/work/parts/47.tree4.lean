/-! keys come to the component's tree -/
theorem nmake_ok {G : Gt} {d : Nat} {h : AH} {K : Outcome → AH → Prop} {T n L : Nat} {ab : Int32} (hs : SNd h (T + 6)) (hf0 : h.I 2057 (T + 6) = -1) (hm : h.I 2058 (T + 6) = nI n) (hn : n < 1024)
    (kk : ∀ h', Fq (FS [10000 + 608, 10000 + 656, 10000 + 624, 10000 + 640, 10000 + 674, 2058]) h h' → (∀ j, h'.EI 608 (T + 15) j = if j = n then nI L else h.EI 608 (T + 15) j) → (∀ j, h'.EI 656 (T + 18) j = if j = n then ab else h.EI 656 (T + 18) j) →
      (∀ j, h'.EI 624 (T + 16) j = if j = n then -1 else h.EI 624 (T + 16) j) → (∀ j, h'.EI 640 (T + 17) j = if j = n then -1 else h.EI 640 (T + 17) j) → (∀ j, h'.EI 674 (T + 19) j = if j = n then nI 0 else h.EI 674 (T + 19) j) → h'.I 2058 (T + 6) = nI (n + 1) → K (.returned (some (.int (nI n)))) h') : MW G d e_X17_make [.ref (T + 6), .int (nI L), .int ab] h K := by
  refine st_X17_make fun X o hG hD hf => ?_
  obtain ⟨⟨e1, e2, e3, e4, e5, e6, e7, e8, e9, e10⟩, ⟨t1, t2, t3, t4, t5⟩, s1, s2, s3, s4⟩ := id hs
  have ix : IX (nI n) 1024 n := IX.mk hn (by omega)
  refine k_X17_make_0 o (fun c => ?_) (fun c => ?_)
  · exact absurd rfl c
  refine k_X17_make_10 o ?_
  rw [nI_add]
  refine k_X17_make_38 o ?_
  refine k_X17_make_73 o ?_
  refine kk _ (by refine (Fq.sEI (Fq.sEI (Fq.sEI (Fq.sEI (Fq.sEI (Fq.sI (Fq.refl h) ?_) ?_) ?_) ?_) ?_) ?_) <;> exact rfl) (fun j => ?_) (fun j => ?_) (fun j => ?_) (fun j => ?_) (fun j => ?_) (by simp [n_sI, z_sI, tag_sI, I_sI, J_sI, R_sI, EI_sI, EJ_sI, ER_sI, n_sJ, z_sJ, tag_sJ, I_sJ, J_sJ, R_sJ, EI_sJ, EJ_sJ, ER_sJ, n_sR, z_sR, tag_sR, I_sR, J_sR, R_sR, EI_sR, EJ_sR, ER_sR, n_sEI, z_sEI, tag_sEI, I_sEI, J_sEI, R_sEI, EI_sEI, EJ_sEI, ER_sEI, n_sEJ, z_sEJ, tag_sEJ, I_sEJ, J_sEJ, R_sEJ, EI_sEJ, EJ_sEJ, ER_sEJ, n_sER, z_sER, tag_sER, I_sER, J_sER, R_sER, EI_sER, EJ_sER, ER_sER, n_nw, z_nw, tag_nw, I_nw, J_nw, R_nw, EI_nw, EJ_nw, ER_nw])
  all_goals simp [n_sI, z_sI, tag_sI, I_sI, J_sI, R_sI, EI_sI, EJ_sI, ER_sI, n_sJ, z_sJ, tag_sJ, I_sJ, J_sJ, R_sJ, EI_sJ, EJ_sJ, ER_sJ, n_sR, z_sR, tag_sR, I_sR, J_sR, R_sR, EI_sR, EJ_sR, ER_sR, n_sEI, z_sEI, tag_sEI, I_sEI, J_sEI, R_sEI, EI_sEI, EJ_sEI, ER_sEI, n_sEJ, z_sEJ, tag_sEJ, I_sEJ, J_sEJ, R_sEJ, EI_sEJ, EJ_sEJ, ER_sEJ, n_sER, z_sER, tag_sER, I_sER, J_sER, R_sER, EI_sER, EJ_sER, ER_sER, n_nw, z_nw, tag_nw, I_nw, J_nw, R_nw, EI_nw, EJ_nw, ER_nw]
theorem setChild_ok {G : Gt} {d : Nat} {h : AH} {K : Outcome → AH → Prop} {T n c b : Nat} (hs : SNd h (T + 6)) (hn : n < 1024) (hc : c < 1024) (hb : b < 2)
    (kk : ∀ h', Fq (FS [10000 + 656, 10000 + 624, 10000 + 640]) h h' → (∀ j, h'.EI 624 (T + 16) j = if b = 0 ∧ j = n then nI c else h.EI 624 (T + 16) j) → (∀ j, h'.EI 640 (T + 17) j = if b = 1 ∧ j = n then nI c else h.EI 640 (T + 17) j) → (∀ j, h'.EI 656 (T + 18) j = if j = c then nI n else h.EI 656 (T + 18) j) → K (.returned none) h') : MW G d e_X17_setChild [.ref (T + 6), .int (nI n), .int (nI b), .int (nI c)] h K := by
  refine st_X17_setChild fun X o hG hD hf => ?_
  obtain ⟨⟨e1, e2, e3, e4, e5, e6, e7, e8, e9, e10⟩, ⟨t1, t2, t3, t4, t5⟩, s1, s2, s3, s4⟩ := id hs
  have ix : IX (nI n) 1024 n := IX.mk hn (by omega)
  have ixc : IX (nI c) 1024 c := IX.mk hc (by omega)
  refine k_X17_setChild_0 o (fun q => ?_) (fun q => ?_)
  · have q : b = 1 := by
      have : b ≠ 0 := fun z => q (by rw [z]; rfl)
      omega
    refine k_X17_setChild_14 o ?_
    refine k_X17_setChild_21 o ?_
    refine kk _ (by refine (Fq.sEI (Fq.sEI (Fq.refl h) ?_) ?_) <;> exact rfl) (fun j => ?_) (fun j => ?_) (fun j => ?_)
    all_goals simp [n_sI, z_sI, tag_sI, I_sI, J_sI, R_sI, EI_sI, EJ_sI, ER_sI, n_sJ, z_sJ, tag_sJ, I_sJ, J_sJ, R_sJ, EI_sJ, EJ_sJ, ER_sJ, n_sR, z_sR, tag_sR, I_sR, J_sR, R_sR, EI_sR, EJ_sR, ER_sR, n_sEI, z_sEI, tag_sEI, I_sEI, J_sEI, R_sEI, EI_sEI, EJ_sEI, ER_sEI, n_sEJ, z_sEJ, tag_sEJ, I_sEJ, J_sEJ, R_sEJ, EI_sEJ, EJ_sEJ, ER_sEJ, n_sER, z_sER, tag_sER, I_sER, J_sER, R_sER, EI_sER, EJ_sER, ER_sER, n_nw, z_nw, tag_nw, I_nw, J_nw, R_nw, EI_nw, EJ_nw, ER_nw, q]
  · have q := (nI_eq (b := 0) (by omega) (by omega)).mp q
    refine k_X17_setChild_4 o ?_
    refine k_X17_setChild_21 o ?_
    refine kk _ (by refine (Fq.sEI (Fq.sEI (Fq.refl h) ?_) ?_) <;> exact rfl) (fun j => ?_) (fun j => ?_) (fun j => ?_)
    all_goals simp [n_sI, z_sI, tag_sI, I_sI, J_sI, R_sI, EI_sI, EJ_sI, ER_sI, n_sJ, z_sJ, tag_sJ, I_sJ, J_sJ, R_sJ, EI_sJ, EJ_sJ, ER_sJ, n_sR, z_sR, tag_sR, I_sR, J_sR, R_sR, EI_sR, EJ_sR, ER_sR, n_sEI, z_sEI, tag_sEI, I_sEI, J_sEI, R_sEI, EI_sEI, EJ_sEI, ER_sEI, n_sEJ, z_sEJ, tag_sEJ, I_sEJ, J_sEJ, R_sEJ, EI_sEJ, EJ_sEJ, ER_sEJ, n_sER, z_sER, tag_sER, I_sER, J_sER, R_sER, EI_sER, EJ_sER, ER_sER, n_nw, z_nw, tag_nw, I_nw, J_nw, R_nw, EI_nw, EJ_nw, ER_nw, q]
def CH (h : AH) (T : Nat) : List Nat → Int32 → Prop
  | [], p => p = -1
  | a :: l, p => (p = nI a ∧ a < 1024) ∧ CH h T l (h.EI 656 (T + 18) a)
theorem touch_ok {G : Gt} {d : Nat} {h : AH} {K : Outcome → AH → Prop} {T : Nat} {l : List Nat} {p : Int32} (hs : SNd h (T + 6)) (hl : CH h T l p)
    (kk : ∀ h', Fq (FS [10000 + 674]) h h' → (∀ j, h'.EI 674 (T + 19) j = nI 0 ∨ h'.EI 674 (T + 19) j = h.EI 674 (T + 19) j) → K (.returned none) h') : MW G d e_X17_touch [.ref (T + 6), .int p] h K := by
  refine st_X17_touch fun X o hG hD hf => ?_
  have loop : ∀ (l : List Nat) (p : Int32) h1 v1, CH h T l p → Fq (FS [10000 + 674]) h h1 → (∀ j, h1.EI 674 (T + 19) j = nI 0 ∨ h1.EI 674 (T + 19) j = h.EI 674 (T + 19) j) → V X K 2 [.ref (T + 6), v1, .int p] [] h1 := by
    intro l
    induction l with
    | nil =>
      intro p h1 v1 hl f1 g1
      have hl : p = -1 := hl
      subst hl
      refine k_X17_touch_2 o (fun c => ?_) (fun c => ?_)
      · refine k_X17_touch_24 o ?_
        refine (kk h1 f1 g1)
      · exact absurd rfl c
    | cons a l ih =>
      intro p h1 v1 hl f1 g1
      obtain ⟨⟨rfl, p2⟩, p3⟩ := hl
      obtain ⟨⟨e1, e2, e3, e4, e5, e6, e7, e8, e9, e10⟩, ⟨t1, t2, t3, t4, t5⟩, -⟩ := hs.fr f1.1 (fun f a hf q => by
        have : f = 10000 + 674 := by simpa [FS] using q
        rw [this] at hf; exact absurd hf (by decide))
      have ix : IX (nI a) 1024 a := IX.mk p2 (by omega)
      have y : h1.EI 656 (T + 6 + 12) a = h.EI 656 (T + 18) a := f1.1.EI (FS.n (by decide)) a
      refine k_X17_touch_2 o (fun c => ?_) (fun c => ?_)
      · exact absurd c (nI_m1 (by omega))
      refine k_X17_touch_7 o ?_
      refine ih _ _ _ p3 (f1.sEI rfl) fun j => ?_
      rw [EI_sEI]
      split
      · exact Or.inl rfl
      · exact g1 j
  refine k_X17_touch_0 o ?_
  exact loop l p h _ hl (Fq.refl h) fun j => Or.inr rfl
theorem RP.ch {h : AH} {T : Nat} : ∀ {t : PT} {ab : Int32} {l : List Nat}, RP h T t ab → CH h T l ab → ∀ n ∈ nds t, ∃ l', CH h T l' (nI n)
  | .leaf, _, _, _, _ => fun n m => by cases m
  | .inner lv x _ l r, ab, ll, ⟨⟨e1, e2, e3, e4⟩, _, _, e7, e8⟩, hc => fun n m => by
    have h0 : CH h T (x.1 :: ll) (nI x.1) := ⟨⟨rfl, e1⟩, by rw [e3]; exact hc⟩
    rcases List.mem_cons.mp m with q | q
    · exact ⟨_, by rw [q]; exact h0⟩
    · rcases List.mem_append.mp q with q | q
      · exact RP.ch e7 h0 n q
      · exact RP.ch e8 h0 n q
theorem near_ok {G : Gt} {d : Nat} {h : AH} {K : Outcome → AH → Prop} {T : Nat} {k : F4} {t : PT} (hs : SHt h T) (hw : WFp t 0) (hr : RP h T t (-1)) (ht : h.I 1794 T = nI (rtn t)) (ha : r4 h (T + 20) 0 = k) (hd : 1 ≤ d) (kk : K (.returned (some (.int (nI (nrt k t).2)))) h) : MW G d e_X15_near [.ref T] h K := by
  refine st_X15_near fun X o hG hD hf => ?_
  subst hG; subst hD
  obtain ⟨⟨e1, e2, e3, e4, e5, e6⟩, tw, sd, sn, sa, sz⟩ := id hs
  obtain ⟨⟨i1, i2, i3, i4, i5, i6, i7, i8, i9, i10⟩, ⟨t1, t2, t3, t4, t5⟩, s1, s2, s3, s4⟩ := id sn
  have ta := sa.1
  have loop : ∀ (t : PT) (b : Nat) (ab : Int32), WFp t b → RP h T t ab → K (.returned (some (.int (nI (nrt k t).2)))) h → V X K 5 [.ref T, .int (nI (rtn t))] [] h := by
    intro t
    induction t with
    | leaf => intro b ab hw; exact absurd hw id
    | inner lv x u l r ihl ihr =>
      intro b ab hw hr kk
      obtain ⟨⟨q1, q2, q3, q4⟩, q5, q6, q7, q8⟩ := id hr
      obtain ⟨w1, w2⟩ := id hw
      have hlv : lv ≤ 256 := by rcases w2 with w2 | w2; omega; omega
      have ix : IX (nI x.1) 1024 x.1 := IX.mk q1 (by omega)
      have q2' : h.EI 608 (T + 6 + 9) x.1 = nI lv := q2
      show V X K 5 [.ref T, .int (nI x.1)] [] h
      unfold nrt at kk
      refine k_X15_near_5 o (fun c => ?_) (fun c => ?_)
      · exact absurd c (nI_m1 (by omega))
      refine k_X15_near_10 o ?_
      refine isLeaf_ok sn q1 q2 hlv ?_
      by_cases c256 : lv = 256
      · rw [decide_eq_true c256, if_pos c256] at *
        refine k_X15_near_18 o (fun c2 => ?_) (fun c2 => ?_)
        · refine k_X15_near_50 o ?_
          refine (kk)
        · exact absurd c2 (by decide)
      · rw [decide_eq_false c256]
        rw [if_neg c256] at kk
        rcases w2 with w2 | ⟨c1, c2, c3, c4, c5⟩
        · exact absurd w2.1 c256
        refine k_X15_near_18 o (fun c2 => ?_) (fun c2 => ?_)
        · exact absurd rfl c2
        refine k_X15_near_21 o ?_
        refine fbit_ok sa (by omega) c1 ?_
        rw [ha]
        refine k_X15_near_43 o ?_
        refine child_ok sn q1 (bt_lt k lv) ?_
        obtain ⟨l1, l2⟩ := q6 c1
        by_cases cb : bt k lv = 0
        · rw [if_pos cb] at kk ⊢
          rw [l1]
          refine k_X15_near_46 o ?_
          exact ihl _ _ ‹WFp l (lv + 1)› q7 kk
        · rw [if_neg cb] at kk ⊢
          rw [l2]
          refine k_X15_near_46 o ?_
          exact ihr _ _ ‹WFp r (lv + 1)› q8 kk
  refine k_X15_near_0 o ?_
  exact loop t 0 (-1) hw hr kk
