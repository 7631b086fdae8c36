/-! the component's tree: hashes of nodes -/
def rtn : PT → Nat
  | .leaf => 0
  | .inner _ x _ _ _ => x.1
def nds : PT → List Nat
  | .leaf => []
  | .inner _ x _ l r => x.1 :: (nds l ++ nds r)
def RP (h : AH) (T : Nat) : PT → Int32 → Prop
  | .leaf, _ => True
  | .inner lv x _ l r, ab => (x.1 < 1024 ∧ h.EI 608 (T + 15) x.1 = nI lv ∧ h.EI 656 (T + 18) x.1 = ab ∧ r4 h (T + 7) x.1 = x.2.1) ∧ (lv = 256 → r4 h (T + 9) x.1 = x.2.2) ∧ (lv < 256 → h.EI 624 (T + 16) x.1 = nI (rtn l) ∧ h.EI 640 (T + 17) x.1 = nI (rtn r)) ∧ RP h T l (nI x.1) ∧ RP h T r (nI x.1)
/-- what a tree's shape rests on is not written -/
def RPn (T : Nat) (P : Nat → Nat → Prop) : Prop := ¬ P (10000 + 608) (T + 15) ∧ ¬ P (10000 + 656) (T + 18) ∧ ¬ P (10000 + 691) (T + 8) ∧ ¬ P (10000 + 691) (T + 10) ∧ ¬ P (10000 + 624) (T + 16) ∧ ¬ P (10000 + 640) (T + 17)
theorem RP.fr {P : Nat → Nat → Prop} {h h' : AH} {T : Nat} (q : Fr P h h') (np : RPn T P) : ∀ {t : PT} {ab : Int32}, RP h T t ab → RP h' T t ab
  | .leaf, _, _ => trivial
  | .inner lv x _ l r, ab, ⟨⟨e1, e2, e3, e4⟩, e5, e6, e7, e8⟩ => by
    obtain ⟨n1, n2, n3, n4, n5, n6⟩ := np
    refine ⟨⟨e1, by rw [q.EI n1]; exact e2, by rw [q.EI n2]; exact e3, by rw [r4_fr q n3]; exact e4⟩, fun c => by rw [r4_fr q n4]; exact e5 c, fun c => ⟨by rw [q.EI n5]; exact (e6 c).1, by rw [q.EI n6]; exact (e6 c).2⟩, RP.fr q ⟨n1, n2, n3, n4, n5, n6⟩ e7, RP.fr q ⟨n1, n2, n3, n4, n5, n6⟩ e8⟩
theorem RP.lt {h : AH} {T : Nat} : ∀ {t : PT} {ab : Int32}, RP h T t ab → ∀ n ∈ nds t, n < 1024
  | .leaf, _, _ => fun n m => by cases m
  | .inner lv x _ l r, ab, ⟨⟨e1, _⟩, _, _, e7, e8⟩ => fun n m => by
    rcases List.mem_cons.mp m with q | q
    · rw [q]; exact e1
    · rcases List.mem_append.mp q with q | q
      · exact RP.lt e7 n q
      · exact RP.lt e8 n q
theorem rtn_in : ∀ {t : PT} {b : Nat}, WFp t b → rtn t ∈ nds t
  | .inner _ _ _ _ _, _, _ => by simp [rtn, nds]
theorem isLeaf_ok {G : Gt} {d : Nat} {h : AH} {K : Outcome → AH → Prop} {T n lv : Nat} (hs : SNd h (T + 6)) (hn : n < 1024) (hl : h.EI 608 (T + 15) n = nI lv) (hv : lv ≤ 256) (kk : K (.returned (some (.int (bI (decide (lv = 256)))))) h) : MW G d e_X17_isLeaf [.ref (T + 6), .int (nI n)] h K := by
  refine st_X17_isLeaf fun X o hG hD hf => ?_
  obtain ⟨⟨e1, e2, e3, e4, e5, e6, e7, e8, e9, e10⟩, ⟨t1, t2, t3, t4, t5⟩, s1, s2, s3, s4⟩ := id hs
  have ix : IX (nI n) 1024 n := IX.mk hn (by omega)
  refine k_X17_isLeaf_0 o (fun c => ?_) (fun c => ?_)
  · have c : lv ≠ 256 := fun q => c (by rw [q])
    rw [decide_eq_false c] at kk
    refine k_X17_isLeaf_16 o ?_
    refine k_X17_isLeaf_17 o ?_
    refine (kk)
  · have c := (nI_eq (by omega) (by omega)).mp c
    rw [decide_eq_true c] at kk
    refine k_X17_isLeaf_12 o ?_
    refine k_X17_isLeaf_17 o ?_
    refine (kk)
theorem child_ok {G : Gt} {d : Nat} {h : AH} {K : Outcome → AH → Prop} {T n b : Nat} (hs : SNd h (T + 6)) (hn : n < 1024) (hb : b < 2) (kk : K (.returned (some (.int (if b = 0 then h.EI 624 (T + 16) n else h.EI 640 (T + 17) n)))) h) : MW G d e_X17_child [.ref (T + 6), .int (nI n), .int (nI b)] h K := by
  refine st_X17_child fun X o hG hD hf => ?_
  obtain ⟨⟨e1, e2, e3, e4, e5, e6, e7, e8, e9, e10⟩, ⟨t1, t2, t3, t4, t5⟩, s1, s2, s3, s4⟩ := id hs
  have ix : IX (nI n) 1024 n := IX.mk hn (by omega)
  refine k_X17_child_0 o (fun c => ?_) (fun c => ?_)
  · have c : b ≠ 0 := fun q => c (by rw [q]; rfl)
    rw [if_neg c] at kk
    refine k_X17_child_13 o ?_
    refine k_X17_child_19 o ?_
    refine (kk)
  · have c := (nI_eq (b := 0) (by omega) (by omega)).mp c
    rw [if_pos c] at kk
    refine k_X17_child_4 o ?_
    refine k_X17_child_19 o ?_
    refine (kk)
theorem toInt_n {n : Nat} (h : n < 2147483648) : (nI n).toInt = (n : Int) := by rw [toInt_um, um_n (by omega), if_pos h]
theorem toInt_pred {m : Nat} (h : m < 2147483648) : (nI m + (-1)).toInt = (m : Int) - 1 := by
  rw [toInt_um, um_add, um_n (by omega), show um (-1 : Int32) = 4294967295 from rfl]
  split <;> omega
theorem pred_lt {m b : Nat} (hm : m < 2147483648) (hb : b < 2147483648) : nI m + (-1) < nI b ↔ m ≤ b := by
  rw [Int32.lt_iff_toInt_lt, toInt_pred hm, toInt_n hb]; omega
theorem pred_s (m : Nat) : nI (m + 1) + (-1) = nI m := by rw [← nI_add]; show nI m + 1 + -1 = nI m; rw [Int32.add_assoc]; show nI m + 0 = nI m; rw [Int32.add_zero]
/-- where the level above a node lies -/
def TLv (h : AH) (T : Nat) (ab : Int32) (b : Nat) : Prop := (ab = -1 ∧ b = 0) ∨ ∃ a lv, ab = nI a ∧ a < 1024 ∧ h.EI 608 (T + 15) a = nI lv ∧ lv + 1 = b ∧ lv < 256
theorem topLevel_ok {G : Gt} {d : Nat} {h : AH} {K : Outcome → AH → Prop} {T n b : Nat} {ab : Int32} (hs : SNd h (T + 6)) (hn : n < 1024) (ha : h.EI 656 (T + 18) n = ab) (ht : TLv h T ab b) (kk : K (.returned (some (.int (nI b)))) h) : MW G d e_X17_topLevel [.ref (T + 6), .int (nI n)] h K := by
  refine st_X17_topLevel fun X o hG hD hf => ?_
  obtain ⟨⟨e1, e2, e3, e4, e5, e6, e7, e8, e9, e10⟩, ⟨t1, t2, t3, t4, t5⟩, s1, s2, s3, s4⟩ := id hs
  have ix : IX (nI n) 1024 n := IX.mk hn (by omega)
  rcases ht with ⟨q1, q2⟩ | ⟨a, lv, q1, q2, q3, q4, q5⟩
  · subst q1; subst q2
    refine k_X17_topLevel_0 o (fun c => ?_) (fun c => ?_)
    · exact absurd rfl c
    refine k_X17_topLevel_10 o ?_
    refine k_X17_topLevel_27 o ?_
    refine (kk)
  · subst q1
    have ixa : IX (nI a) 1024 a := IX.mk q2 (by omega)
    have hne : nI a ≠ (-1 : Int32) := nI_m1 (by omega)
    refine k_X17_topLevel_0 o (fun c => ?_) (fun c => ?_)
    rotate_left
    · exact absurd c hne
    refine k_X17_topLevel_14 o ?_
    rw [nI_add, q4]
    refine k_X17_topLevel_27 o ?_
    refine (kk)
/-- a node's hash goes up to a level -/
theorem raise_ok {G : Gt} {d : Nat} {h : AH} {K : Outcome → AH → Prop} {T n lv b : Nat} {k x y : F4} {S : List (F4 × F4)} (hs : SHt h T) (hc : CR G h) (hn : n < 1024) (hl : h.EI 608 (T + 15) n = nI lv) (hv : lv ≤ 256) (hk : r4 h (T + 7) n = k) (hz : r4 h (T + 23) 0 = z4) (hx : r4 h (T + 11) n = x) (hy : lv = 256 → y = x) (hb : b < 1024)
    (hu : lv < 256 → (b ≤ lv ∧ x = Rt (256 - lv) S ∧ y = Rt (256 - b) S) ∧ ∀ j, j < lv → Rt (256 - j) S = if bt k j = 0 then hsh 1 (Rt (255 - j) S) z4 else hsh 1 z4 (Rt (255 - j) S)) (hd : 7 ≤ d)
    (kk : ∀ h', Fq (HW [T + 14]) h h' → (∀ i, i ≠ n → r4 h' (T + 13) i = r4 h (T + 13) i) → r4 h' (T + 13) n = y → K (.returned none) h') : MW G d e_X15_raise [.ref T, .int (nI n), .int (nI b), .ref (T + 13), .int (nI n)] h K := by
  refine st_X15_raise fun X o hG hD hf => ?_
  subst hG; subst hD
  have lift : ∀ {h1}, Fq (HW [T + 14]) h h1 → SHt h1 T ∧ CR X.G h1 ∧ h1.EI 608 (T + 15) n = nI lv ∧ r4 h1 (T + 7) n = k ∧ r4 h1 (T + 23) 0 = z4 := fun {h1} f1 =>
    ⟨hs.fr f1.1 HW.np, hc.fr f1.1 (HW.fld (by decide) (by decide)), by rw [f1.1.EI (HW.fld (by decide) (by decide))]; exact hl, by rw [r4_fr f1.1 (HW.row (by simp))]; exact hk, by rw [r4_fr f1.1 (HW.row (by simp))]; exact hz⟩
  obtain ⟨⟨e1, e2, e3, e4, e5, e6⟩, tw, sd, sn, sa, sz⟩ := id hs
  obtain ⟨⟨i1, i2, i3, i4, i5, i6, i7, i8, i9, i10⟩, ⟨t1, t2, t3, t4, t5⟩, s1, s2, s3, s4⟩ := id sn
  have tf := s4.1
  refine k_X15_raise_0 o ?_
  refine fcopy_ok s4 s3 (by omega) hn hn fun h1 f1 r1 => ?_
  have F1 : Fq (HW [T + 14]) h h1 := f1.1.mono fun f a q => Or.inr ⟨q.1, by rw [q.2]; simp⟩
  rw [show r4 h (T + 6 + 5) n = x from hx] at r1
  obtain ⟨hs1, hc1, hl1, hk1, hz1⟩ := lift F1
  obtain ⟨⟨j1, j2, j3, j4, j5, j6⟩, -, -, sn1, -⟩ := id hs1
  have tn1 := sn1.1.1
  refine k_X15_raise_14 o ?_
  refine isLeaf_ok sn1 hn hl1 hv ?_
  by_cases c256 : lv = 256
  · rw [decide_eq_true c256]
    refine k_X15_raise_22 o (fun c => ?_) (fun c => ?_)
    · exact absurd c (by decide)
    refine k_X15_raise_25 o ?_
    refine (kk h1 F1 f1.2 (r1.trans (hy c256).symm))
  rw [decide_eq_false c256]
  obtain ⟨⟨u1, u2, u3⟩, u4⟩ := hu (by omega)
  have loop : ∀ m q h2, m + b = q → q ≤ lv → Fq (HW [T + 14]) h h2 → (∀ i, i ≠ n → r4 h2 (T + 13) i = r4 h (T + 13) i) → r4 h2 (T + 13) n = Rt (256 - q) S → V X K 39 [.ref T, .int (nI n), .int (nI b), .ref (T + 13), .int (nI n), .int (nI q + (-1))] [] h2 := by
    intro m
    induction m with
    | zero =>
      intro q h2 hq hql f2 g2 r2
      have : q = b := by omega
      subst this
      refine k_X15_raise_39 o (fun c => ?_) (fun c => ?_)
      · refine k_X15_raise_102 o ?_
        refine (kk h2 f2 g2 (by rw [r2, u3]))
      · exact absurd ((pred_lt (by omega) (by omega)).mpr (Nat.le_refl _)) c
    | succ m ih =>
      intro q h2 hq hql f2 g2 r2
      obtain ⟨q, rfl⟩ : ∃ q', q = q' + 1 := ⟨q - 1, by omega⟩
      obtain ⟨hs2, hc2, hl2, hk2, hz2⟩ := lift f2
      obtain ⟨⟨m1, m2, m3, m4, m5, m6⟩, -, sd2, sn2, sa2, sz2⟩ := id hs2
      obtain ⟨⟨n1, n2, n3, n4, n5, n6, n7, n8, n9, n10⟩, -, w1, w2, w3, w4⟩ := id sn2
      have tk := w1.1
      have uq := u4 q (by omega)
      have e255 : 256 - (q + 1) = 255 - q := by omega
      rw [e255] at r2
      refine k_X15_raise_39 o (fun c => ?_) (fun c => ?_)
      · exact absurd ((pred_lt (by omega) (by omega)).mp c) (by omega)
      rw [pred_s]
      refine k_X15_raise_45 o ?_
      refine fbit_ok w1 hn (by omega) ?_
      rw [show r4 h2 (T + 6 + 1) n = k from hk2]
      have fin : ∀ h3, Fq (HW [T + 13 + 1]) h2 h3 → (∀ i, i ≠ n → r4 h3 (T + 13) i = r4 h2 (T + 13) i) → r4 h3 (T + 13) n = Rt (256 - q) S → V X K 96 [.ref T, .int (nI n), .int (nI b), .ref (T + 13), .int (nI n), .int (nI q)] [] h3 := fun h3 f3 g3 r3 => by
        refine k_X15_raise_96 o ?_
        exact ih q h3 (by omega) (by omega) (f2.trans f3) (fun i hi => by rw [g3 i hi]; exact g2 i hi) r3
      refine k_X15_raise_58 o (fun c2 => ?_) (fun c2 => ?_)
      · have c2 : bt k q ≠ 0 := fun z => c2 (by rw [z]; rfl)
        rw [if_neg c2] at uq
        refine k_X15_raise_80 o ?_
        refine hash_ok hs2 hc2 sz2 w4 w4 (by omega) hn hn (by omega) fun h3 f3 g3 r3 => ?_
        refine fin h3 f3 g3 ?_
        rw [r3, uq, hz2]
        rw [show r4 h2 (T + 6 + 7) n = _ from r2]
      · have c2 : bt k q = 0 := (nI_eq (b := 0) (by have := bt_lt k q; omega) (by omega)).mp c2
        rw [if_pos c2] at uq
        refine k_X15_raise_61 o ?_
        refine hash_ok hs2 hc2 w4 sz2 w4 hn (by omega) hn (by omega) fun h3 f3 g3 r3 => ?_
        refine k_X15_raise_77 o ?_
        refine fin h3 f3 g3 ?_
        rw [r3, uq, hz2]
        rw [show r4 h2 (T + 6 + 7) n = _ from r2]
  obtain ⟨⟨n1, n2, n3, n4, n5, n6, n7, n8, n9, n10⟩, ⟨p1, p2, p3, p4, p5⟩, w1, w2, w3, w4⟩ := id sn1
  have ix : IX (nI n) 1024 n := IX.mk hn (by omega)
  refine k_X15_raise_22 o (fun c => ?_) (fun c => ?_)
  rotate_left
  · exact absurd rfl c
  refine k_X15_raise_26 o ?_
  rw [show nI lv - nI 1 = nI lv + (-1) from Int32.sub_eq_add_neg ..]
  exact loop (lv - b) lv h1 (by omega) (Nat.le_refl _) F1 f1.2 (by rw [r1, u2])
