/-! coins -/
section
variable {G : Gt} {B d : Nat} {h : AH} {l : List Nat} {o : Lc} {wi W A q BA X tt lim SP t : Nat} {snd : Int64} {MA : Ma} {s : Ms} {K : Outcome → AH → Prop} {fs : Nat} {st : Lw} {Lf : Nat → Lw} {RN : Nat → Int32}
theorem wnumber_ok {kd : Nat} {ty x y : Int64} (H : OPR G B h A W q BA X tt snd lim SP wi MA l o s) (ht : ty.toInt32 = nI kd) (ha : 1 ≤ av G h l) (hd : 3 ≤ d) (kk : ∀ h' a l' sl, o (5, wi, sl, 1) = none → OUW [(5, wi, sl, 1)] wi W h h' o (uO o (5, wi, sl, 1) (some (a, kd, (x, y), .leaf))) → OPR G B h' A W q BA X tt snd lim SP wi MA l' (uO o (5, wi, sl, 1) (some (a, kd, (x, y), .leaf))) s → av G h' l' + 1 = av G h l → K (.returned (some (.ref a))) h') : MW G d e_X11_number [.ref q, .long ty, .long x, .long y] h K := by
  obtain ⟨c, v, w, hf, hg, hw⟩ := H
  obtain ⟨sl, hsl⟩ := v.slot wi
  refine vnumber_ok (kd := kd) v hsl ht ha hd fun h1 a l1 g1 v1 tg1 a1 => ?_
  have fi : Fr (IP W) h h1 := g1.mono VQ.ip
  exact kk h1 a l1 sl hsl (OUW.mk1 fi fun p y _ hy => tg1 p y (by simp) hy) ⟨c.ip fi, v1, (w.vq g1 tg1).tmp, by rw [g1.R (VQ.no (l := [28]) rfl _ _ rfl)]; exact hf, hg, hw.vq g1⟩ a1
/-- what lies aside becomes a part of what lies aside -/
theorem waddT_ok {s1 s2 : Nat} {y w : LV} (H : OPR G B h A W q BA X tt snd lim SP wi MA l o s) (h1 : o (5, wi, s1, 1) = some y) (h2 : o (5, wi, s2, 1) = some w) (hn : s1 ≠ s2) (hb : fln y.2.2.2 < 2147483647) (hd : 2 ≤ d) (kk : ∀ h' o', OUW [(5, wi, s1, 1), (5, wi, s2, 1)] wi W h h' o o' ∧ o' (5, wi, s2, 1) = none → OPR G B h' A W q BA X tt snd lim SP wi MA l o' s → o' (5, wi, s1, 1) = some (y.1, y.2.1, y.2.2.1, lof (llo y.2.2.2 ++ [w])) → av G h' l = av G h l → K (.returned none) h') : MW G d e_X30_add [.ref y.1, .ref w.1] h K := by
  obtain ⟨c, v, wk, hf, hg, hw⟩ := H
  refine vadd_ok (pa := []) v h1 rfl h2 (fun e => hn (congrArg (fun p : Sl => p.2.2.1) e)) hb hd fun h' f1 n1 v1 tg1 => ?_
  have fi : Fr (IP W) h h' := f1.mono VQ.ip
  have w0 := (wk.tmp (sl := s2) (y := none))
  have w1 := w0.vq f1 (fun p x hp hx => by
    by_cases c : p = (5, wi, s2, 1)
    · rw [c, uO_s] at hx; cases hx
    · rw [uO_n c] at hx
      exact tg1 p x (by simpa using c) hx)
  refine kk h' _ ⟨⟨fi, fun p hp hn => by
    have n1 : p ≠ (5, wi, s1, 1) := fun e => hn (by rw [e]; simp)
    have n2 : p ≠ (5, wi, s2, 1) := fun e => hn (by rw [e]; simp)
    exact ⟨by rw [uO_n n1, uO_n n2], fun x hx => tg1 p x (by simpa using n2) hx⟩⟩, by rw [uO_n (fun e => hn (congrArg (fun p : Sl => p.2.2.1) e).symm), uO_s]⟩ ⟨c.ip fi, v1, w1.tmp, by rw [f1.R (VQ.no (l := [28]) rfl _ _ rfl)]; exact hf, hg, hw.vq f1⟩ uO_s (by unfold av; rw [n1])
theorem ccoinOf_ok {x : Int64} {v : VL} {k : List It} (H : OPR G B h A W q BA X tt snd lim SP wi MA l o s) (hs : stk s = .inl v :: k) (hvw : fdp v.2.2 ≤ 40) (hav : 2 ≤ av G h l) (hd : 50 ≤ d) (kk : ∀ h' l' o', OUT wi W h h' o o' → OPR G B h' A W q BA X tt snd lim SP wi MA l' o' (sK s (vC x :: k)) → K (.returned none) h') : MW G d e_X1_coinOf [.ref A, .long x] h K := by
  refine st_X1_coinOf fun XX oo hG hD _ => ?_
  subst hG; subst hD
  have t0 := H.1.1.1
  refine k_X1_coinOf_0 oo ?_
  refine cdropTop_ok H hs (fun v' hv' => by cases hv'; omega) (by omega) fun h1 l1 o1 u1 H1 av1 _ _ => ?_
  have h64 := H.hd
  have hl : (stk s).length = k.length + 1 := by rw [hs]; rfl
  have t1 := H1.1.1.1
  have rq1 := H1.1.1.2.1
  have tq1 := H1.2.1.1.1
  refine k_X1_coinOf_4 oo ?_
  refine wtake_ok (kd := 6) H1 (by omega) (by omega) fun h2 a l2 sl u2 H2 av2 ta => ?_
  have t2 := H2.1.1.1
  have rq2 := H2.1.1.2.1
  have tq2 := H2.2.1.1.1
  refine k_X1_coinOf_13 oo ?_
  refine wnumber_ok (kd := 3) (ty := 3) H2 rfl (by omega) (by omega) fun h3 b l3 sl2 hsl u3 H3 av3 => ?_
  have ne : sl ≠ sl2 := fun e => by rw [← e, uO_s] at hsl; cases hsl
  have ta3 := u3.1.tag ta
  have t3 := H3.1.1.1
  refine k_X1_coinOf_27 oo ?_
  refine waddT_ok (s1 := sl) (s2 := sl2) (y := (a, 6, (0, 0), .leaf)) (w := (b, 3, (0, x), .leaf)) H3 (by rw [uO_n (fun e => ne (congrArg (fun p : Sl => p.2.2.1) e)), uO_s]) uO_s ne (by show fln (.leaf : LF) < _; decide) (by omega) fun h4 o4 u4 H4 hT4 av4 => ?_
  have t4 := H4.1.1.1
  refine k_X1_coinOf_30 oo ?_
  refine OPR.pushT H4 (by rw [stk_K]; omega) hT4 fun h5 o5 u5 H5 av5 => ?_
  refine k_X1_coinOf_35 oo ?_
  have hsl1 : o1 (5, wi, sl2, 1) = none := by rw [uO_n (fun e => ne (congrArg (fun p : Sl => p.2.2.1) e).symm)] at hsl; exact hsl
  have m1 : ∀ p ∈ [((5, wi, sl, 1) : Sl)], p ∈ [((5, wi, sl, 1) : Sl), (5, wi, sl2, 1)] := fun p hp => by
    have : p = (5, wi, sl, 1) := by simpa using hp
    rw [this]; simp
  have m2 : ∀ p ∈ [((5, wi, sl2, 1) : Sl)], p ∈ [((5, wi, sl, 1) : Sl), (5, wi, sl2, 1)] := fun p hp => by
    have : p = (5, wi, sl2, 1) := by simpa using hp
    rw [this]; simp
  have o52 : o5 (5, wi, sl2, 1) = none := by
    rw [u5.1.at (by show 3 < 5; omega) (fun z => ne (congrArg (fun p : Sl => p.2.2.1) (show (5, wi, sl2, 1) = (5, wi, sl, 1) by simpa using z)).symm)]
    exact u4.2
  refine kk h5 l3 o5 (OUW.cl (ps := [(5, wi, sl, 1), (5, wi, sl2, 1)]) (((((OUT.w u1).trans (u2.1.mono m1)).trans (u3.mono m2)).trans u4.1).trans (u5.1.mono m1)) fun p hp => ?_) ?_
  · have hq : p = (5, wi, sl, 1) ∨ p = (5, wi, sl2, 1) := by simpa using hp
    have b0 : ∀ b, o (5, wi, b, 1) = o1 (5, wi, b, 1) := fun b => ((u1.2 (5, wi, b, 1) (Or.inl (Or.inr (by show 3 < 5; omega)))).1).symm
    rcases hq with e | e
    · rw [e, b0]; exact ⟨u2.2, u5.2⟩
    · rw [e, b0]; exact ⟨hsl1, o52⟩
  have em : mpu (sK s k) (.inl (lvE ((a, 6, (0, 0), lof ([] ++ [((b, 3, (0, x), .leaf) : LV)])) : LV))) = sK s (vC x :: k) := by
    unfold mpu
    rw [stk_K, stkK]
    rfl
  rw [← em]; exact H5
end
