/-! a worker of the component's: casts, truths turned -/
section
variable {G : Gt} {B d : Nat} {h : AH} {l : List Nat} {o : Lc} {wi W A q BA X tt lim SP t : Nat} {snd : Int64} {MA : Ma} {s : Ms} {K : Outcome → AH → Prop}
/-- the topmost item becomes another one, at its place -/
theorem WkR.item {i i' : It} {k : List It} {x x' : LV} (w : WkR h o wi W MA s) (ht : t + 1 = s.1) (hs : stk s = i :: k) (hx : o (1, wi, t, k.length) = some x) (he : x'.1 = x.1) (hi : ItL h (uO o (1, wi, t, k.length) (some x')) wi i' x') : WkR h (uO o (1, wi, t, k.length) (some x')) wi W MA (sK s (i' :: k)) := by
  obtain ⟨⟨f1, f2, f3, f4, f5⟩, ⟨⟨m1, m2, m3, m4, m5⟩, m6, m7, m8, m9⟩, es, el⟩ := w.F ht
  rw [← es, hs] at m4 m5 m6 m7
  obtain ⟨⟨y, y1, y2, y3⟩, s2⟩ := m6
  have : y = x := by rw [hx] at y1; exact (Option.some.inj y1).symm
  subst this
  have rk : ∀ r, rad (uO o (1, wi, t, k.length) (some x')) wi r = rad o wi r := rad_k fun c i j hc => uO_n (by rcases hc with z | z <;> (rw [z]; intro e; cases e))
  refine w.sk ht (Fq.refl h) (fun p hp => uO_n fun e => ?_) ⟨⟨x', uO_s, by rw [he]; exact y2, hi⟩, s2.keep (fun n hn => uO_n fun e => ?_) (fun n hn => rfl) (fun n y _ _ => rfl) fun r _ a ha => by rw [rk]; exact ha⟩ m4 m5 fun n hn => ?_
  · subst e
    rcases hp with z | z | z
    · exact z rfl
    · exact z rfl
    · exact z rfl
  · have := congrArg (fun p : Sl => p.2.2.2) e
    have : n = k.length := this
    omega
  · have hn : k.length + 1 ≤ n := hn
    rw [uO_n (fun z => by have := congrArg (fun p : Sl => p.2.2.2) z; have : n = k.length := this; omega)]
    exact m7 n hn
theorem np_wk {b : Nat} : ∀ g a, (swF ++ fmF ++ enF ++ [2438, 2439, 2441, 3718]).contains g = true → ¬ NP b g a := fun g a hg z => by
  rcases z.1 with e | e | e <;> (rw [e] at hg; exact absurd hg (by decide))
theorem np_ip {b W : Nat} : ∀ g a, NP b g a → IP W g a := fun g a z => by
  rcases z.1 with e | e | e <;> (rw [e]; exact Or.inl (Or.inl ⟨by decide, by decide⟩))
/-- the topmost number is written -/
theorem OPR.num {vv : VL} {k : List It} {x : LV} {h' : AH} {kd : Nat} {n : Int64 × Int64} (H : OPR G B h A W q BA X tt snd lim SP wi MA l o s) (ht : t + 1 = s.1) (hs : stk s = .inl vv :: k) (hx : o (1, wi, t, k.length) = some x) (f1 : Fq (NP x.1) h h') (e1 : h'.I 3712 x.1 = nI kd) (e2 : h'.J 3713 x.1 = n.1) (e3 : h'.J 3714 x.1 = n.2) : ∃ o', OUT wi W h h' o o' ∧ OPR G B h' A W q BA X tt snd lim SP wi MA l o' (sK s (.inl (kd, n, vv.2.2) :: k)) ∧ av G h' l = av G h l := by
  obtain ⟨c, v, w, hf, hg, hw⟩ := H
  obtain ⟨x', q1, q2, q3⟩ := (show OPR G B h A W q BA X tt snd lim SP wi MA l o s from ⟨c, v, w, hf, hg, hw⟩).at ht (b := 0) (v := vv) (by rw [hs]; rfl)
  have e0 : (stk s).length - 1 - 0 = k.length := by rw [hs]; simp
  rw [e0, hx] at q1
  cases q1
  obtain ⟨v1, tg⟩ := v.num (pa := []) hx rfl f1 e1 e2 e3
  have fi : Fr (IP W) h h' := f1.1.mono np_ip
  have w1 : WkR h' o wi W MA s := w.oth f1.1 np_wk
  refine ⟨_, OUT.mk1 (y := some (x.1, kd, n, x.2.2.2)) fi ⟨by simp, rfl⟩ (fun p y hp hy => tg p y (by simp) hy), ⟨c.ip fi, v1, w1.item (i' := .inl (kd, n, vv.2.2)) ht hs hx rfl ?_, ?_, hg, ?_⟩, by unfold av; rw [f1.2.1]⟩
  · show lvE (x.1, kd, n, x.2.2.2) = (kd, n, vv.2.2)
    rw [← q2]; rfl
  · show h'.R 28 A = some (Fa W (s.1 - 1))
    rw [f1.1.R (fun z => by rcases z.1 with e | e | e <;> exact absurd e (by decide))]; exact hf
  · exact hw.fr f1.1 (fun _ z => by rcases z.1 with e | e | e <;> exact absurd e (by decide)) (fun _ z => by rcases z.1 with e | e | e <;> exact absurd e (by decide))
/-- the wide number is written -/
theorem OPR.wd {h' : AH} (H : OPR G B h A W q BA X tt snd lim SP wi MA l o s) (f1 : Fq WW h h') (hw' : ∀ WD b, h.R 27 A = some WD → h.tag WD = some (18, 0) → h.I 2306 WD = bI b → ∃ b', h'.I 2306 WD = bI b') : OUT wi W h h' o o ∧ OPR G B h' A W q BA X tt snd lim SP wi MA l o s ∧ av G h' l = av G h l := by
  obtain ⟨c, v, w, hf, hg, ⟨WD, b, r1, r2, r3⟩⟩ := H
  have nv : ∀ g a, g ≠ 2304 → g ≠ 2305 → g ≠ 2306 → ¬ WW g a := fun g a h1 h2 h3 z => by
    rcases z with z | z | z
    · exact h1 z
    · exact h2 z
    · exact h3 z
  obtain ⟨v1, tg⟩ := v.oth f1 (fun g a z z2 => by
    rcases z2 with e | e | e <;> (rw [e] at z; rcases z with z | z <;> exact absurd z (by decide)))
  have fi : Fr (IP W) h h' := f1.1.mono fun g a z => Or.inr (Or.inr (by rcases z with e | e | e <;> (rw [e]; decide)))
  obtain ⟨b', hb⟩ := hw' WD b r1 r2 r3
  refine ⟨OUT.mk0 fi tg, ⟨c.ip fi, v1, w.oth f1.1 (fun g a hg => nv g a (fun e => by rw [e] at hg; exact absurd hg (by decide)) (fun e => by rw [e] at hg; exact absurd hg (by decide)) (fun e => by rw [e] at hg; exact absurd hg (by decide))), by rw [f1.1.R (nv _ _ (by decide) (by decide) (by decide))]; exact hf, hg, ⟨WD, b', by rw [f1.1.R (nv _ _ (by decide) (by decide) (by decide))]; exact r1, f1.1.tag r2, hb⟩⟩, by unfold av; rw [f1.2.1]⟩
theorem wfit_w {k : Nat} {H L : Int64} (hk : 2 ≤ k ∧ k ≤ 4) : wfit k H L = decide (w128 H L < 2 ^ mbits k) := by
  have h1 := un_lt H
  have h2 := un_lt L
  unfold wfit w128
  rcases (show k = 2 ∨ k = 3 ∨ k = 4 by omega) with z | z | z
  · subst z
    show ((2 : Nat) == 4 || (un H == 0 && ((2 : Nat) == 3 || decide (un L < 256)))) = decide (un H * 18446744073709551616 + un L < 2 ^ 8)
    by_cases c : un H = 0
    · rw [c]; simp
    · rw [show (un H == 0) = false by simpa using c, decide_eq_false (show ¬ (un H * 18446744073709551616 + un L < 2 ^ 8) by omega)]; rfl
  · subst z
    show ((3 : Nat) == 4 || (un H == 0 && ((3 : Nat) == 3 || decide (un L < 256)))) = decide (un H * 18446744073709551616 + un L < 2 ^ 64)
    by_cases c : un H = 0
    · rw [c, decide_eq_true (show 0 * 18446744073709551616 + un L < 2 ^ 64 by omega)]; rfl
    · rw [show (un H == 0) = false by simpa using c, decide_eq_false (show ¬ (un H * 18446744073709551616 + un L < 2 ^ 64) by omega)]; rfl
  · subst z
    show true = decide (un H * 18446744073709551616 + un L < 2 ^ 128)
    rw [decide_eq_true (by omega)]
theorem ccast_ok {kd : Nat} {va : VL} {k : List It} (H : OPR G B h A W q BA X tt snd lim SP wi MA l o s) (hk : 2 ≤ kd ∧ kd ≤ 4) (hs : stk s = .inl va :: k) (hl : va.2.2 = .leaf) (hd : 5 ≤ d) (kk : RZ K G B h A W q BA X tt snd lim SP wi MA o (mnd (decide (w128 va.2.1.1 va.2.1.2 < 2 ^ mbits kd)) 1 s (mgo (sK s (vI kd va.2.1.1 va.2.1.2 :: k))))) : MW G d e_X1_cast [.ref A, .long (lN kd)] h K := by
  refine st_X1_cast fun XX oo hG hD _ => ?_
  subst hG; subst hD
  have w := H.2.2.1
  obtain ⟨t, ht⟩ : ∃ t, t + 1 = s.1 := ⟨s.1 - 1, by have := w.1.2.2.1; omega⟩
  have hf : h.R 28 A = some (Fa W t) := by have := H.2.2.2.1; rw [show s.1 - 1 = t by omega] at this; exact this
  have t0 := H.1.1.1
  obtain ⟨x, x1, x2, x3⟩ := H.at ht (b := 0) (v := va) (by rw [hs]; rfl)
  have e0 : (stk s).length - 1 - 0 = k.length := by rw [hs]; simp
  rw [e0] at x1
  have ev : va = (x.2.1, x.2.2.1, fer x.2.2.2) := x2.symm
  obtain ⟨x4, x5, x6, x7, -⟩ := id (x3 : RV h x.1 x.2.1 x.2.2.1 x.2.2.2)
  obtain ⟨WD, b, r1, r2, r3⟩ := H.2.2.2.2.2
  refine k_X1_cast_0 oo ?_
  refine ctop_ok (b := 0) (i := .inl va) H.1 w hf ht (by rw [hs]; rfl) fun x' q1 _ => ?_
  have : x = x' := by rw [e0, x1] at q1; exact Option.some.inj q1
  subst this
  refine k_X1_cast_5 oo ?_
  refine wset_ok (H := h.J 2304 WD) (L := h.J 2305 WD) (b := b) ⟨r2, rfl, rfl, r3⟩ fun h1 f1 rw1 => ?_
  obtain ⟨u1, H1, a1⟩ := H.wd f1 fun WD' b' q1 _ _ => ⟨false, by rw [r1] at q1; cases q1; exact rw1.2.2.2⟩
  have t1 := H1.1.1.1
  have q1 : h1.R 27 A = some WD := by rw [f1.1.R (fun z => by rcases z with e | e | e <;> exact absurd e (by decide))]; exact r1
  have t2 := rw1.1
  refine k_X1_cast_21 oo ?_
  refine fits_ok rw1 (by omega) ?_
  refine k_X1_cast_30 oo ?_
  rw [Bool.not_false, Bool.true_and, wfit_w hk]
  have e1 : w128 va.2.1.1 va.2.1.2 = w128 x.2.2.1.1 x.2.2.1.2 := by rw [ev]
  have kk1 := kk.out u1
  rw [e1] at kk1
  generalize hb : decide (w128 x.2.2.1.1 x.2.2.1.2 < 2 ^ mbits kd) = bb at *
  refine cneed2_ok (b := bb) (w := 1) H1.1 (by omega) (by omega) (fun z => ?_) (fun z => ?_)
  · subst z
    have nw : ∀ g a, g ≠ 2304 → g ≠ 2305 → g ≠ 2306 → ¬ WW g a := fun g a h1 h2 h3 z => by
      rcases z with z | z | z
      · exact h1 z
      · exact h2 z
      · exact h3 z
    have v1 := f1.1.tag x4
    refine k_X1_cast_34 oo ?_
    rw [lN_32]
    obtain ⟨o', u2, H2, -⟩ := H1.num (kd := kd) (n := x.2.2.1) ht hs x1 (h' := h1.sI 3712 x.1 (nI kd)) ((Fq.refl h1).sI ⟨Or.inl rfl, rfl⟩) (I_same ..) (by
      have : h1.J 3713 x.1 = x.2.2.1.1 := by rw [f1.1.J (nw _ _ (by decide) (by decide) (by decide))]; exact x6
      simpa [n_sI, z_sI, tag_sI, I_sI, J_sI, R_sI, EI_sI, EJ_sI, ER_sI, n_sJ, z_sJ, tag_sJ, I_sJ, J_sJ, R_sJ, EI_sJ, EJ_sJ, ER_sJ, n_sR, z_sR, tag_sR, I_sR, J_sR, R_sR, EI_sR, EJ_sR, ER_sR, n_sEI, z_sEI, tag_sEI, I_sEI, J_sEI, R_sEI, EI_sEI, EJ_sEI, ER_sEI, n_sEJ, z_sEJ, tag_sEJ, I_sEJ, J_sEJ, R_sEJ, EI_sEJ, EJ_sEJ, ER_sEJ, n_sER, z_sER, tag_sER, I_sER, J_sER, R_sER, EI_sER, EJ_sER, ER_sER, n_nw, z_nw, tag_nw, I_nw, J_nw, R_nw, EI_nw, EJ_nw, ER_nw] using this) (by
      have : h1.J 3714 x.1 = x.2.2.1.2 := by rw [f1.1.J (nw _ _ (by decide) (by decide) (by decide))]; exact x7
      simpa [n_sI, z_sI, tag_sI, I_sI, J_sI, R_sI, EI_sI, EJ_sI, ER_sI, n_sJ, z_sJ, tag_sJ, I_sJ, J_sJ, R_sJ, EI_sJ, EJ_sJ, ER_sJ, n_sR, z_sR, tag_sR, I_sR, J_sR, R_sR, EI_sR, EJ_sR, ER_sR, n_sEI, z_sEI, tag_sEI, I_sEI, J_sEI, R_sEI, EI_sEI, EJ_sEI, ER_sEI, n_sEJ, z_sEJ, tag_sEJ, I_sEJ, J_sEJ, R_sEJ, EI_sEJ, EJ_sEJ, ER_sEJ, n_sER, z_sER, tag_sER, I_sER, J_sER, R_sER, EI_sER, EJ_sER, ER_sER, n_nw, z_nw, tag_nw, I_nw, J_nw, R_nw, EI_nw, EJ_nw, ER_nw] using this)
    refine kk1 _ l o' u2 ?_
    have : (Sum.inl (kd, x.2.2.1, va.2.2) : It) = vI kd va.2.1.1 va.2.1.2 := by rw [hl, ev]; rfl
    rw [← this]; exact H2
  · subst z
    exact H1.stop kk1
/-- a truth is turned -/
theorem cnot_ok {va : VL} {k : List It} (H : OPR G B h A W q BA X tt snd lim SP wi MA l o s) (hs : stk s = .inl va :: k) (hk : va.1 = 1) (hl : va.2.2 = .leaf) (hd : 5 ≤ d) (kk : RZ K G B h A W q BA X tt snd lim SP wi MA o (mgo (sK s (vI 1 va.2.1.1 (va.2.1.2 ^^^ 1) :: k)))) : MW G d e_X1_number [.ref A, .int (nI 34)] h K := by
  refine st_X1_number fun XX oo hG hD _ => ?_
  subst hG; subst hD
  have w := H.2.2.1
  obtain ⟨t, ht⟩ : ∃ t, t + 1 = s.1 := ⟨s.1 - 1, by have := w.1.2.2.1; omega⟩
  have hf : h.R 28 A = some (Fa W t) := by have := H.2.2.2.1; rw [show s.1 - 1 = t by omega] at this; exact this
  have t0 := H.1.1.1
  obtain ⟨x, x1, x2, x3⟩ := H.at ht (b := 0) (v := va) (by rw [hs]; rfl)
  have e0 : (stk s).length - 1 - 0 = k.length := by rw [hs]; simp
  rw [e0] at x1
  have ev : va = (x.2.1, x.2.2.1, fer x.2.2.2) := x2.symm
  obtain ⟨x4, x5, x6, x7, -⟩ := id (x3 : RV h x.1 x.2.1 x.2.2.1 x.2.2.2)
  refine k_X1_number_0 oo (fun _ => ?_) (fun c => absurd (by decide) c)
  refine k_X1_number_14 oo (fun c => absurd rfl c) (fun _ => ?_)
  refine k_X1_number_20 oo ?_
  refine ctop_ok (b := 0) (i := .inl va) H.1 w hf ht (by rw [hs]; rfl) fun x' q1 _ => ?_
  have : x = x' := by rw [e0, x1] at q1; exact Option.some.inj q1
  subst this
  refine k_X1_number_25 oo ?_
  refine k_X1_number_94 oo ?_
  have hk' : x.2.1 = 1 := by rw [ev] at hk; exact hk
  obtain ⟨o', u2, H2, -⟩ := H.num (kd := 1) (n := (x.2.2.1.1, x.2.2.1.2 ^^^ 1)) ht hs x1 (h' := h.sJ 3714 x.1 (x.2.2.1.2 ^^^ 1)) ((Fq.refl h).sJ ⟨Or.inr (Or.inr rfl), rfl⟩) (by
    rw [hk'] at x5
    simpa [n_sI, z_sI, tag_sI, I_sI, J_sI, R_sI, EI_sI, EJ_sI, ER_sI, n_sJ, z_sJ, tag_sJ, I_sJ, J_sJ, R_sJ, EI_sJ, EJ_sJ, ER_sJ, n_sR, z_sR, tag_sR, I_sR, J_sR, R_sR, EI_sR, EJ_sR, ER_sR, n_sEI, z_sEI, tag_sEI, I_sEI, J_sEI, R_sEI, EI_sEI, EJ_sEI, ER_sEI, n_sEJ, z_sEJ, tag_sEJ, I_sEJ, J_sEJ, R_sEJ, EI_sEJ, EJ_sEJ, ER_sEJ, n_sER, z_sER, tag_sER, I_sER, J_sER, R_sER, EI_sER, EJ_sER, ER_sER, n_nw, z_nw, tag_nw, I_nw, J_nw, R_nw, EI_nw, EJ_nw, ER_nw] using x5) (by simpa [n_sI, z_sI, tag_sI, I_sI, J_sI, R_sI, EI_sI, EJ_sI, ER_sI, n_sJ, z_sJ, tag_sJ, I_sJ, J_sJ, R_sJ, EI_sJ, EJ_sJ, ER_sJ, n_sR, z_sR, tag_sR, I_sR, J_sR, R_sR, EI_sR, EJ_sR, ER_sR, n_sEI, z_sEI, tag_sEI, I_sEI, J_sEI, R_sEI, EI_sEI, EJ_sEI, ER_sEI, n_sEJ, z_sEJ, tag_sEJ, I_sEJ, J_sEJ, R_sEJ, EI_sEJ, EJ_sEJ, ER_sEJ, n_sER, z_sER, tag_sER, I_sER, J_sER, R_sER, EI_sER, EJ_sER, ER_sER, n_nw, z_nw, tag_nw, I_nw, J_nw, R_nw, EI_nw, EJ_nw, ER_nw] using x6) (by simp [n_sI, z_sI, tag_sI, I_sI, J_sI, R_sI, EI_sI, EJ_sI, ER_sI, n_sJ, z_sJ, tag_sJ, I_sJ, J_sJ, R_sJ, EI_sJ, EJ_sJ, ER_sJ, n_sR, z_sR, tag_sR, I_sR, J_sR, R_sR, EI_sR, EJ_sR, ER_sR, n_sEI, z_sEI, tag_sEI, I_sEI, J_sEI, R_sEI, EI_sEI, EJ_sEI, ER_sEI, n_sEJ, z_sEJ, tag_sEJ, I_sEJ, J_sEJ, R_sEJ, EI_sEJ, EJ_sEJ, ER_sEJ, n_sER, z_sER, tag_sER, I_sER, J_sER, R_sER, EI_sER, EJ_sER, ER_sER, n_nw, z_nw, tag_nw, I_nw, J_nw, R_nw, EI_nw, EJ_nw, ER_nw])
  refine kk _ l o' u2 ?_
  have : (Sum.inl (1, (x.2.2.1.1, x.2.2.1.2 ^^^ 1), va.2.2) : It) = vI 1 va.2.1.1 (va.2.1.2 ^^^ 1) := by rw [hl, ev]; rfl
  rw [← this]; exact H2
end
