/-! all hashes of a tree -/
def HQ (T f a : Nat) : Prop := HW [T + 12, T + 14] f a ∨ f = 10000 + 674 ∨ f = 10000 + 528
theorem HQ.np {T : Nat} : ∀ f a, htR.contains f = true → ¬ HQ T f a := fun f a hf q => by
  rcases q with q | q | q
  · exact HW.np f a hf q
  · rw [q] at hf; exact absurd hf (by decide)
  · rw [q] at hf; exact absurd hf (by decide)
theorem HQ.fld {T f a : Nat} (h : dgF.contains f = false) (h2 : f ≠ 10000 + 691 ∧ f ≠ 10000 + 674 ∧ f ≠ 10000 + 528) : ¬ HQ T f a := fun q => by
  rcases q with q | q | q
  · exact HW.fld h h2.1 q
  · exact h2.2.1 q
  · exact h2.2.2 q
theorem HQ.row {T a : Nat} (h : a ≠ T + 12 ∧ a ≠ T + 14) : ¬ HQ T (10000 + 691) a := fun q => by
  rcases q with q | q | q
  · exact HW.row (by simp; omega) q
  · exact absurd q (by decide)
  · exact absurd q (by decide)
theorem HQ.rp (T : Nat) : RPn T (HQ T) := ⟨HQ.fld (by decide) (by decide), HQ.fld (by decide) (by decide), HQ.row (by omega), HQ.row (by omega), HQ.fld (by decide) (by decide), HQ.fld (by decide) (by decide)⟩
/-- what making hashes of some nodes may change -/
def HN (T s : Nat) (O : List Nat) (h h' : AH) : Prop := Fq (HQ T) h h' ∧ (∀ j, j ∉ O → r4 h' (T + 11) j = r4 h (T + 11) j ∧ r4 h' (T + 13) j = r4 h (T + 13) j ∧ h'.EI 674 (T + 19) j = h.EI 674 (T + 19) j) ∧ ∀ i, i < s → h'.EI 528 (T + 22) i = h.EI 528 (T + 22) i
theorem HN.refl {T s : Nat} {O : List Nat} (h : AH) : HN T s O h h := ⟨Fq.refl h, fun _ _ => ⟨rfl, rfl, rfl⟩, fun _ _ => rfl⟩
theorem HN.trans {T s : Nat} {O : List Nat} {h h1 h2 : AH} (p : HN T s O h h1) (q : HN T s O h1 h2) : HN T s O h h2 := ⟨p.1.trans q.1, fun j hj => by
  obtain ⟨a1, a2, a3⟩ := p.2.1 j hj
  obtain ⟨b1, b2, b3⟩ := q.2.1 j hj
  exact ⟨b1.trans a1, b2.trans a2, b3.trans a3⟩, fun i hi => (q.2.2 i hi).trans (p.2.2 i hi)⟩
theorem HN.mono {T s s' : Nat} {O O' : List Nat} {h h' : AH} (p : HN T s O h h') (m : ∀ j, j ∈ O → j ∈ O') (hs : s' ≤ s) : HN T s' O' h h' := ⟨p.1, fun j hj => p.2.1 j fun z => hj (m j z), fun i hi => p.2.2 i (by omega)⟩
theorem settle_ok {G : Gt} {d : Nat} {h : AH} {K : Outcome → AH → Prop} {T n lv b s : Nat} {ab : Int32} {k x y : F4} {S : List (F4 × F4)} (hs : SHt h T) (hc : CR G h) (hn : n < 1024) (hl : h.EI 608 (T + 15) n = nI lv) (hv : lv ≤ 256) (ha : h.EI 656 (T + 18) n = ab) (ht : TLv h T ab b) (hk : r4 h (T + 7) n = k) (hz : r4 h (T + 23) 0 = z4) (hx : r4 h (T + 11) n = x) (hy : lv = 256 → y = x) (hb : b < 1024)
    (hu : lv < 256 → (b ≤ lv ∧ x = Rt (256 - lv) S ∧ y = Rt (256 - b) S) ∧ ∀ j, j < lv → Rt (256 - j) S = if bt k j = 0 then hsh 1 (Rt (255 - j) S) z4 else hsh 1 z4 (Rt (255 - j) S)) (hd : 8 ≤ d)
    (kk : ∀ h', HN T 1024 [n] h h' → r4 h' (T + 13) n = y → h'.EI 674 (T + 19) n = nI 1 → K (.returned (some (.int (nI s)))) h') : MW G d e_X15_settle [.ref T, .int (nI n), .int (nI (s + 1))] h K := by
  refine st_X15_settle fun X o hG hD hf => ?_
  subst hG; subst hD
  obtain ⟨⟨e1, e2, e3, e4, e5, e6⟩, tw, sd, sn, sa, sz⟩ := id hs
  obtain ⟨⟨i1, i2, i3, i4, i5, i6, i7, i8, i9, i10⟩, ⟨t1, t2, t3, t4, t5⟩, s1, s2, s3, s4⟩ := id sn
  refine k_X15_settle_0 o ?_
  refine topLevel_ok sn hn ha ht ?_
  refine k_X15_settle_10 o ?_
  refine raise_ok hs hc hn hl hv hk hz hx hy hb hu (by omega) fun h1 f1 g1 r1 => ?_
  have hs1 := hs.fr f1.1 HW.np
  obtain ⟨⟨j1, j2, j3, j4, j5, j6⟩, -, -, sn1, -⟩ := id hs1
  obtain ⟨⟨n1, n2, n3, n4, n5, n6, n7, n8, n9, n10⟩, ⟨p1, p2, p3, p4, p5⟩, -⟩ := id sn1
  have ix : IX (nI n) 1024 n := IX.mk hn (by omega)
  refine k_X15_settle_21 o ?_
  rw [nI_sub (by omega), Nat.add_sub_cancel]
  have F : Fq (HQ T) h (h1.sEI 674 (T + 6 + 13) n (nI 1)) := (f1.mono fun f a q => Or.inl (by
    rcases q with q | q
    · exact Or.inl q
    · exact Or.inr ⟨q.1, by have := q.2; simp at this; simp [this]⟩)).sEI (Or.inr (Or.inl rfl))
  refine kk _ ⟨F, fun j hj => ?_, fun i hi => ?_⟩ ?_ ?_
  · have hjn : j ≠ n := fun q => hj (by simp [q])
    refine ⟨?_, ?_, ?_⟩
    · show r4 h1 (T + 11) j = _
      exact r4_fr f1.1 (HW.row (by simp)) j
    · show r4 h1 (T + 13) j = _
      exact g1 j hjn
    · rw [EI_sEI, if_neg fun q => hjn q.2.2, f1.1.EI (HW.fld (by decide) (by decide))]
  · rw [EI_sEI, if_neg (by omega), f1.1.EI (HW.fld (by decide) (by decide))]
  · exact r1
  · rw [EI_sEI, if_pos ⟨rfl, rfl, rfl⟩]
theorem refresh_t {T : Nat} {v1 : Value} : ∀ (t : PT) (X : Xt) (_ : OK e_X15_refresh X) (K : Outcome → AH → Prop) (h : AH) (b s : Nat) (ab : Int32) (v3 v4 v5 : Value), WFp t b → RP h T t ab → TLv h T ab b → (∀ n ∈ nds t, h.EI 674 (T + 19) n = nI 0) → (nds t).Nodup → s + 257 ≤ 600 + b → b < 258 → h.EI 528 (T + 22) s = nI (rtn t) → r4 h (T + 23) 0 = z4 → SHt h T → CR X.G h → 9 ≤ X.d →
    (∀ h' v3 v4 v5, HN T s (nds t) h h' → h'.EI 674 (T + 19) (rtn t) = nI 1 → r4 h' (T + 13) (rtn t) = Rt (256 - b) (els t) → V X K 12 [.ref T, v1, .int (nI s), v3, v4, v5] [] h') → V X K 12 [.ref T, v1, .int (nI (s + 1)), v3, v4, v5] [] h
  | .leaf, X, o, K, h, b, s, ab, v3, v4, v5, hw, hr, htl, hu, hnd, hsb, hb, hwt, hz, hs, hc, hd, kk => absurd hw id
  | .inner lv (n, kq, vq) u l r, X, o, K, h, b, s, ab, v3, v4, v5, hw, hr, htl, hu, hnd, hsb, hb, hwt, hz, hs, hc, hd, kk => by
    obtain ⟨⟨q1, q2, q3, q4⟩, q5, q6, q7, q8⟩ := id hr
    have q1 : n < 1024 := q1
    obtain ⟨w1, w2⟩ := id hw
    have hlv : lv ≤ 256 := by rcases w2 with w2 | w2; omega; omega
    have hwt : h.EI 528 (T + 22) s = nI n := hwt
    -- one visit of the node, in a heap where it is not fresh
    have visit : ∀ h1 v3 v4 v5, HN T (s + 1) (nds l ++ nds r) h h1 → (V X K 65 [.ref T, v1, .int (nI (s + 1)), .int (nI n), .int (h.EI 624 (T + 16) n), .int (h.EI 640 (T + 17) n)] [] h1) → V X K 12 [.ref T, v1, .int (nI (s + 1)), v3, v4, v5] [] h1 := fun h1 v3 v4 v5 f1 k1 => by
      have hs1 := hs.fr f1.1.1 HQ.np
      obtain ⟨⟨e1, e2, e3, e4, e5, e6⟩, tw, sd, sn, sa, sz⟩ := id hs1
      obtain ⟨⟨i1, i2, i3, i4, i5, i6, i7, i8, i9, i10⟩, ⟨t1, t2, t3, t4, t5⟩, -⟩ := id sn
      have nd : n ∉ nds l ++ nds r := (List.nodup_cons.mp hnd).1
      have ix : IX (nI n) 1024 n := IX.mk q1 (by omega)
      have ixs : IX (nI (s + 1) - nI 1) 1024 s := by rw [nI_sub (by omega), Nat.add_sub_cancel]; exact IX.mk (by omega) (by omega)
      have y1 : h1.EI 528 (T + 22) s = nI n := by rw [f1.2.2 s (by omega)]; exact hwt
      have y2 : h1.EI 624 (T + 6 + 10) n = h.EI 624 (T + 16) n := f1.1.1.EI (HQ.fld (by decide) (by decide)) n
      have y3 : h1.EI 640 (T + 6 + 11) n = h.EI 640 (T + 17) n := f1.1.1.EI (HQ.fld (by decide) (by decide)) n
      have y4 : h1.EI 674 (T + 6 + 13) n = nI 0 := by rw [show T + 6 + 13 = T + 19 from rfl, (f1.2.1 n nd).2.2]; exact hu n (by simp [nds])
      refine k_X15_refresh_12 o (fun c => ?_) (fun c => ?_)
      · exact absurd ((nI_leI (b := 0) (by omega) (by omega)).mp c) (by omega)
      refine k_X15_refresh_16 o (fun c2 => ?_) (fun c2 => ?_)
      · exact k1
      · exact absurd rfl c2
    -- the end: its hash is there
    have done : ∀ h1 y (S : List (F4 × F4)) x, HN T (s + 1) (n :: (nds l ++ nds r)) h h1 → r4 h1 (T + 11) n = x → (lv = 256 → y = x) → (lv < 256 → (b ≤ lv ∧ x = Rt (256 - lv) S ∧ y = Rt (256 - b) S) ∧ ∀ j, j < lv → Rt (256 - j) S = if bt kq j = 0 then hsh 1 (Rt (255 - j) S) z4 else hsh 1 z4 (Rt (255 - j) S)) → y = Rt (256 - b) (els (.inner lv (n, kq, vq) () l r)) →
        ∀ KK : Outcome → AH → Prop, (∀ h', HN T s (n :: (nds l ++ nds r)) h h' → h'.EI 674 (T + 19) n = nI 1 → r4 h' (T + 13) n = Rt (256 - b) (els (.inner lv (n, kq, vq) () l r)) → KK (.returned (some (.int (nI s)))) h') → MW X.G (X.d - 1) e_X15_settle [.ref T, .int (nI n), .int (nI (s + 1))] h1 KK := fun h1 y S x f1 hx hy hu2 hfin KK k1 => by
      have hs1 := hs.fr f1.1.1 HQ.np
      have nl : ¬ HQ T (10000 + 608) (T + 15) := HQ.fld (by decide) (by decide)
      refine settle_ok (b := b) (ab := ab) (k := kq) hs1 (hc.fr f1.1.1 (HQ.fld (by decide) (by decide))) q1 (by rw [f1.1.1.EI nl]; exact q2) hlv (by rw [f1.1.1.EI (HQ.fld (by decide) (by decide))]; exact q3) ?_ (by rw [r4_fr f1.1.1 (HQ.row (by omega))]; exact q4) (by rw [r4_fr f1.1.1 (HQ.row (by omega))]; exact hz) hx hy (by omega) hu2 (by omega) fun h2 f2 r2 z2 => ?_
      · rcases htl with z | ⟨a, lv', z1, z2, z3, z4⟩
        · exact Or.inl z
        · exact Or.inr ⟨a, lv', z1, z2, by rw [f1.1.1.EI nl]; exact z3, z4⟩
      · exact k1 h2 ((f1.mono (fun j hj => hj) (by omega)).trans (f2.mono (fun j hj => by simp at hj; simp [hj]) (by omega))) z2 (r2.trans hfin)
    have kk : ∀ h' v3 v4 v5, HN T s (n :: (nds l ++ nds r)) h h' → h'.EI 674 (T + 19) n = nI 1 → r4 h' (T + 13) n = Rt (256 - b) (els (.inner lv (n, kq, vq) () l r)) → V X K 12 [.ref T, v1, .int (nI s), v3, v4, v5] [] h' := kk
    rcases w2 with ⟨c1, c2, c3⟩ | ⟨c1, c2, c3, c4, c5⟩
    · subst c1; subst c2; subst c3
      refine visit h v3 v4 v5 (HN.refl h) ?_
      obtain ⟨⟨e1, e2, e3, e4, e5, e6⟩, tw, sd, sn, sa, sz⟩ := id hs
      obtain ⟨⟨i1, i2, i3, i4, i5, i6, i7, i8, i9, i10⟩, -, s1, s2, s3, s4⟩ := id sn
      refine k_X15_refresh_65 o ?_
      refine isLeaf_ok sn q1 q2 (by omega) ?_
      rw [decide_eq_true rfl]
      refine k_X15_refresh_73 o (fun c => ?_) (fun c => ?_)
      · exact absurd c (by decide)
      refine k_X15_refresh_76 o ?_
      refine hash_ok hs hc s1 s2 s3 q1 q1 q1 (by omega) fun h1 f1 g1 r1 => ?_
      rw [show r4 h (T + 6 + 1) n = kq from q4, show r4 h (T + 6 + 3) n = vq from q5 rfl] at r1
      have t1 := f1.1.tag e1
      have F1 : HN T (s + 1) [n] h h1 := ⟨f1.mono fun f a q => Or.inl (by
        rcases q with q | q
        · exact Or.inl q
        · exact Or.inr ⟨q.1, by have := q.2; simp at this; simp [this]⟩), fun j hj => ⟨g1 j fun q => hj (by simp [q]), r4_fr f1.1 (HW.row (by simp)) j, f1.1.EI (HW.fld (by decide) (by decide)) j⟩, fun i _ => f1.1.EI (HW.fld (by decide) (by decide)) i⟩
      refine k_X15_refresh_105 o ?_
      refine done h1 (leafh (kq, vq)) [] (leafh (kq, vq)) F1 r1 (fun _ => rfl) (fun z => by omega) (by simp only [els, if_true]; rw [Rt_one]) _ fun h2 f2 z2 r2 => ?_
      refine k_X15_refresh_111 o ?_
      refine k_X15_refresh_207 o ?_
      exact kk h2 _ _ _ f2 z2 r2
    · obtain ⟨l1, l2⟩ := q6 c1
      have l1 : h.EI 624 (T + 16) n = nI (rtn l) := l1
      have l2 : h.EI 640 (T + 17) n = nI (rtn r) := l2
      have ndc : (nds l ++ nds r).Nodup := (List.nodup_cons.mp hnd).2
      have ndd := List.nodup_append.mp ndc
      have nn : n ∉ nds l ++ nds r := (List.nodup_cons.mp hnd).1
      have rl := rtn_in c2
      have rr' := rtn_in c3
      have ll := RP.lt q7 _ rl
      have lr := RP.lt q8 _ rr'
      have hlf : decide (lv = 256) = false := decide_eq_false (by omega)
      -- from 65 on, by which children are fresh
      have at115 : ∀ h1, HN T (s + 1) (nds l ++ nds r) h h1 → V X K 115 [.ref T, v1, .int (nI (s + 1)), .int (nI n), .int (nI (rtn l)), .int (nI (rtn r))] [] h1 → V X K 65 [.ref T, v1, .int (nI (s + 1)), .int (nI n), .int (h.EI 624 (T + 16) n), .int (h.EI 640 (T + 17) n)] [] h1 := fun h1 f1 k1 => by
        have hs1 := hs.fr f1.1.1 HQ.np
        obtain ⟨⟨e1, e2, e3, e4, e5, e6⟩, tw, sd, sn, sa, sz⟩ := id hs1
        have tn := sn.1.1
        rw [l1, l2]
        refine k_X15_refresh_65 o ?_
        refine isLeaf_ok sn q1 (by rw [f1.1.1.EI (HQ.fld (by decide) (by decide))]; exact q2) hlv ?_
        rw [hlf]
        refine k_X15_refresh_73 o (fun c => ?_) (fun c => ?_)
        · exact k1
        · exact absurd rfl c
      have tlv : ∀ h1, HN T (s + 1) (nds l ++ nds r) h h1 → TLv h1 T (nI n) (lv + 1) := fun h1 f1 => Or.inr ⟨n, lv, rfl, q1, by rw [f1.1.1.EI (HQ.fld (by decide) (by decide))]; exact q2, rfl, c1⟩
      refine visit h v3 v4 v5 (HN.refl h) (at115 h (HN.refl h) ?_)
      obtain ⟨⟨e1, e2, e3, e4, e5, e6⟩, tw, sd, sn, sa, sz⟩ := id hs
      obtain ⟨⟨i1, i2, i3, i4, i5, i6, i7, i8, i9, i10⟩, ⟨t1, t2, t3, t4, t5⟩, -⟩ := id sn
      have ixl : IX (nI (rtn l)) 1024 (rtn l) := IX.mk ll (by omega)
      have ixr : IX (nI (rtn r)) 1024 (rtn r) := IX.mk lr (by omega)
      have ixs : IX (nI (s + 1)) 1024 (s + 1) := IX.mk (by omega) (by omega)
      have fl : h.EI 674 (T + 6 + 13) (rtn l) = nI 0 := hu _ (by simp [nds, rl])
      refine k_X15_refresh_115 o (fun c => ?_) (fun c => ?_)
      · exact absurd rfl c
      refine k_X15_refresh_128 o ?_
      refine k_X15_refresh_207 o ?_
      rw [nI_add]
      have P1' : HN T (s + 1) (nds l) h (h.sEI 528 (T + 22) (s + 1) (nI (rtn l))) := ⟨(Fq.refl h).sEI (Or.inr (Or.inr rfl)), fun j hj => ⟨rfl, rfl, by rw [EI_sEI, if_neg (by omega)]⟩, fun i hi => by rw [EI_sEI, if_neg (by omega)]⟩
      have M1 := P1'.mono (O' := nds l ++ nds r) (fun j hj => List.mem_append_left _ hj) (Nat.le_refl _)
      refine refresh_t l X o K _ (lv + 1) (s + 1) (nI n) _ _ _ c2 (RP.fr P1'.1.1 (HQ.rp T) q7) (tlv _ M1) (fun m hm => by rw [EI_sEI, if_neg (by omega)]; exact hu m (by simp [nds, hm])) ndd.1 (by omega) (by omega) (by rw [EI_sEI, if_pos ⟨rfl, rfl, rfl⟩]) hz (hs.fr P1'.1.1 HQ.np) (hc.fr P1'.1.1 (HQ.fld (by decide) (by decide))) hd fun h1 v3 v4 v5 f1 z1 r1 => ?_
      have G1 : HN T (s + 1) (nds l) h h1 := P1'.trans f1
      have G1' := G1.mono (O' := nds l ++ nds r) (fun j hj => List.mem_append_left _ hj) (Nat.le_refl _)
      refine visit h1 v3 v4 v5 G1' (at115 h1 G1' ?_)
      have hs1 := hs.fr G1.1.1 HQ.np
      obtain ⟨⟨e1, e2, e3, e4, e5, e6⟩, tw, sd, sn, sa, sz⟩ := id hs1
      obtain ⟨⟨i1, i2, i3, i4, i5, i6, i7, i8, i9, i10⟩, ⟨t1, t2, t3, t4, t5⟩, -⟩ := id sn
      have nrl : rtn r ∉ nds l := fun q => ndd.2.2 _ q _ rr' rfl
      have fr1 : h1.EI 674 (T + 6 + 13) (rtn r) = nI 0 := by rw [show T + 6 + 13 = T + 19 from rfl, (G1.2.1 _ nrl).2.2]; exact hu _ (by simp [nds, rr'])
      have z1' : h1.EI 674 (T + 6 + 13) (rtn l) = nI 1 := z1
      refine k_X15_refresh_115 o (fun c => ?_) (fun c => ?_)
      rotate_left
      · exact absurd c (by decide)
      refine k_X15_refresh_142 o (fun c2 => ?_) (fun c2 => ?_)
      · exact absurd rfl c2
      refine k_X15_refresh_155 o ?_
      refine k_X15_refresh_207 o ?_
      rw [nI_add]
      have P2 : HN T (s + 1) (nds r) h1 (h1.sEI 528 (T + 22) (s + 1) (nI (rtn r))) := ⟨(Fq.refl h1).sEI (Or.inr (Or.inr rfl)), fun j hj => ⟨rfl, rfl, by rw [EI_sEI, if_neg (by omega)]⟩, fun i hi => by rw [EI_sEI, if_neg (by omega)]⟩
      have M2 : HN T (s + 1) (nds l ++ nds r) h (h1.sEI 528 (T + 22) (s + 1) (nI (rtn r))) := G1'.trans (P2.mono (fun j hj => List.mem_append_right _ hj) (Nat.le_refl _))
      refine refresh_t r X o K _ (lv + 1) (s + 1) (nI n) _ _ _ c3 (RP.fr M2.1.1 (HQ.rp T) q8) (tlv _ M2) (fun m hm => by rw [EI_sEI, if_neg (by omega), (G1.2.1 m fun q => ndd.2.2 m q m hm rfl).2.2]; exact hu m (by simp [nds, hm])) ndd.2.1 (by omega) (by omega) (by rw [EI_sEI, if_pos ⟨rfl, rfl, rfl⟩]) (by rw [r4_fr M2.1.1 (HQ.row (by omega))]; exact hz) (hs.fr M2.1.1 HQ.np) (hc.fr M2.1.1 (HQ.fld (by decide) (by decide))) hd fun h2 v3 v4 v5 f2 z2 r2 => ?_
      have G2 : HN T (s + 1) (nds r) h1 h2 := P2.trans f2
      have G2' : HN T (s + 1) (nds l ++ nds r) h h2 := G1'.trans (G2.mono (fun j hj => List.mem_append_right _ hj) (Nat.le_refl _))
      have nlr : rtn l ∉ nds r := fun q => ndd.2.2 _ rl _ q rfl
      have zl2 : h2.EI 674 (T + 6 + 13) (rtn l) = nI 1 := by rw [show T + 6 + 13 = T + 19 from rfl, (G2.2.1 _ nlr).2.2]; exact z1
      have rl2 : r4 h2 (T + 13) (rtn l) = Rt (256 - (lv + 1)) (els l) := by rw [(G2.2.1 _ nlr).2.1]; exact r1
      have zr2 : h2.EI 674 (T + 6 + 13) (rtn r) = nI 1 := z2
      refine visit h2 v3 v4 v5 G2' (at115 h2 G2' ?_)
      have hs2 := hs.fr G2'.1.1 HQ.np
      obtain ⟨⟨e1, e2, e3, e4, e5, e6⟩, tw, sd, sn, sa, sz⟩ := id hs2
      obtain ⟨⟨i1, i2, i3, i4, i5, i6, i7, i8, i9, i10⟩, ⟨t1, t2, t3, t4, t5⟩, s1, s2, s3, s4⟩ := id sn
      refine k_X15_refresh_115 o (fun c => ?_) (fun c => ?_)
      rotate_left
      · exact absurd c (by decide)
      refine k_X15_refresh_142 o (fun c2 => ?_) (fun c2 => ?_)
      rotate_left
      · exact absurd c2 (by decide)
      refine k_X15_refresh_169 o ?_
      refine hash_ok hs2 (hc.fr G2'.1.1 (HQ.fld (by decide) (by decide))) s4 s4 s3 ll lr q1 (by omega) fun h3 f3 g3 r3 => ?_
      rw [show r4 h2 (T + 6 + 7) (rtn l) = _ from rl2, show r4 h2 (T + 6 + 7) (rtn r) = _ from r2] at r3
      have t3' := f3.1.tag e1
      have F3 : HN T (s + 1) [n] h2 h3 := ⟨f3.mono fun f a q => Or.inl (by
        rcases q with q | q
        · exact Or.inl q
        · exact Or.inr ⟨q.1, by have := q.2; simp at this; simp [this]⟩), fun j hj => ⟨g3 j fun q => hj (by simp [q]), r4_fr f3.1 (HW.row (by simp)) j, f3.1.EI (HW.fld (by decide) (by decide)) j⟩, fun i _ => f3.1.EI (HW.fld (by decide) (by decide)) i⟩
      have G3 : HN T (s + 1) (n :: (nds l ++ nds r)) h h3 := (G2'.mono (fun j hj => List.mem_cons_of_mem _ hj) (Nat.le_refl _)).trans (F3.mono (fun j hj => by simp at hj; simp [hj]) (Nat.le_refl _))
      have rf := Rt_fork hw c1
      rw [show 255 - lv = 256 - (lv + 1) by omega] at rf
      refine k_X15_refresh_200 o ?_
      refine done h3 (Rt (256 - b) (els (.inner lv (n, kq, vq) () l r))) (els (.inner lv (n, kq, vq) () l r)) _ G3 r3 (fun z => by omega) (fun _ => ⟨⟨w1, rf.symm, rfl⟩, fun j hj => Rt_up hw c1 hj⟩) rfl _ fun h4 f4 z4 r4 => ?_
      refine k_X15_refresh_206 o ?_
      refine k_X15_refresh_207 o ?_
      exact kk h4 _ _ _ f4 z4 r4
