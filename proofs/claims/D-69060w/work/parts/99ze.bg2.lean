/-! a call begins: whether it fits -/
theorem fts_i {u : Ux} {as : List (Nat × Int64 × Int64)} : fts u as = true ↔ ∀ j : Nat, (u.2.1[j]?).map (fun y => tyc y.1) = (as[j]?).map fun a => a.1 := by
  unfold fts
  rw [beq_iff_eq]
  refine ⟨fun h j => ?_, fun h => List.ext_getElem? fun j => ?_⟩
  · rw [← List.getElem?_map, h, List.getElem?_map]
  · rw [List.getElem?_map, List.getElem?_map]; exact h j
section
variable {G : Gt} {B d : Nat} {h : AH} {l : List Nat} {o : Lc} {wi W A q BA X tt lim SP t : Nat} {snd : Int64} {MA : Ma} {s : Ms} {K : Outcome → AH → Prop}
theorem bg_251 {XX : Xt} (oo : OK e_X1_beginTransaction XX) {x : TxC} {M f TT TH TL : Nat} {m : Md} {u : Ux} {l0 l2 l7 l8 : Value} (tX : h.tag X = some (21, 0)) (x1 : TXI h X TT TH TL x) (ha : AGv x.2.2.2.2.2) (md : MDR h M m) (hu : m.2.2.2.2.2[f]? = some u) (gu : gU m u) (hlen : u.2.1.length = x.2.2.2.2.2.length) (hd : 2 ≤ XX.d) (kT : ∀ v5 v6, fts u x.2.2.2.2.2 = true → V XX K 320 [l0, .ref X, l2, .ref M, .ref (M + 141 + 4 * f), v5, v6, l7, l8] [] h) (kF : ∀ v5 v6, fts u x.2.2.2.2.2 = false → V XX K 312 [l0, .ref X, l2, .ref M, .ref (M + 141 + 4 * f), v5, v6, l7, l8] [] h) : ∀ (r i : Nat), r + i = x.2.2.2.2.2.length → (∀ j : Nat, j < i → (u.2.1[j]?).map (fun y => tyc y.1) = (x.2.2.2.2.2[j]?).map fun a => a.1) → V XX K 251 [l0, .ref X, l2, .ref M, .ref (M + 141 + 4 * f), .int (nI 1), .int (nI i), l7, l8] [] h := by
  obtain ⟨-, ⟨b1, b2⟩, ⟨⟨a1, a2⟩, -⟩, a7⟩ := id x1
  obtain ⟨⟨tM, rT⟩, sT, ty, -, mx⟩ := id md
  have hf := get_lt hu
  have hf64 := mx.2.1.2.2.2.2.2
  obtain ⟨⟨g1, g2, g3, g4', g5, g6⟩, -, -, -, dF⟩ := id sT
  obtain ⟨d1, d2, ⟨d3, d4, d5⟩, d6, d7, d8⟩ := dF f (by omega)
  obtain ⟨-, u2, -⟩ := mx.2.2.2.2.2.2 f u hu
  rw [show M + 1 + 140 + 4 * f = M + 141 + 4 * f by omega] at d1 d2 d3 d4 d5 u2
  rw [show M + 1 + 141 + 4 * f = M + 142 + 4 * f by omega] at d3 d6
  rw [show M + 141 + 4 * f + 1 = M + 142 + 4 * f by omega] at u2
  have tl := gu.2.2.2.2.2.2
  have no : ∀ i, fts u x.2.2.2.2.2 = false → V XX K 251 [l0, .ref X, l2, .ref M, .ref (M + 141 + 4 * f), .int (nI 0), .int (nI i), l7, l8] [] h := fun i hf0 => by
    have p307 : V XX K 307 [l0, .ref X, l2, .ref M, .ref (M + 141 + 4 * f), .int (nI 0), .int (nI i), l7, l8] [] h := by
      refine k_X1_beginTransaction_307 oo (fun c => absurd rfl c) (fun _ => ?_)
      exact kF _ _ hf0
    refine k_X1_beginTransaction_251 (r2 := b1) oo (fun _ => p307) (fun _ => ?_)
    exact k_X1_beginTransaction_260 oo (fun _ => p307) (fun c => absurd rfl c)
  intro r
  induction r with
  | zero =>
    intro i hi hj
    refine k_X1_beginTransaction_251 (r2 := b1) oo (fun _ => ?_) (fun c => absurd ((nI_leI (by omega) (by omega)).mpr (by omega)) c)
    refine k_X1_beginTransaction_307 oo (fun _ => ?_) (fun c => absurd c (by decide))
    refine kT _ _ (fts_i.mpr fun j => ?_)
    rcases Nat.lt_or_ge j i with z | z
    · exact hj j z
    · rw [List.getElem?_eq_none (by omega), List.getElem?_eq_none (by omega)]; rfl
  | succ r ih =>
    intro i hi hj
    have hlt : i < x.2.2.2.2.2.length := by omega
    obtain ⟨y, hy⟩ : ∃ y, x.2.2.2.2.2[i]? = some y := ⟨_, List.getElem?_eq_getElem hlt⟩
    obtain ⟨z, hz⟩ : ∃ z, u.2.1[i]? = some z := ⟨_, List.getElem?_eq_getElem (by omega)⟩
    obtain ⟨e1, -, -⟩ := a7 i y hy
    have y1 := (ha.2 y (List.mem_of_getElem? hy)).1
    have zl := (gu.2.2.2.1 z (List.mem_of_getElem? hz)).ok.tv.1.lt63
    refine k_X1_beginTransaction_251 (r2 := b1) oo (fun c => absurd ((nI_leI (by omega) (by omega)).mp c) (by omega)) (fun _ => ?_)
    refine k_X1_beginTransaction_260 oo (fun c => absurd c (by decide)) (fun _ => ?_)
    refine k_X1_beginTransaction_265 oo ?_
    refine spget_ok (T := M + 1) d6 sT ty tl u2 (by omega) ?_
    rw [hz]
    have ix : IX (nI i) 8 i := IX.mk (by omega) (by omega)
    have eqv : lN (tyc z.1) = (nI y.1).toInt64 ↔ tyc z.1 = y.1 := by
      rw [nI_64 (by omega)]
      exact ⟨fun c => by have := congrArg un c; rwa [un_l (by omega), un_l (by omega)] at this, fun c => by rw [c]⟩
    refine k_X1_beginTransaction_282 (r8 := e1) oo (fun c => ?_) (fun c => ?_)
    · refine k_X1_beginTransaction_298 oo ?_
      refine k_X1_beginTransaction_299 oo ?_
      rw [nI_add]
      refine no (i + 1) ?_
      rw [Bool.eq_false_iff]
      intro ht
      have := fts_i.mp ht i
      rw [hz, hy] at this
      exact c (eqv.mpr (Option.some.inj this))
    · refine k_X1_beginTransaction_294 oo ?_
      refine k_X1_beginTransaction_299 oo ?_
      rw [nI_add]
      refine ih (i + 1) (by omega) fun j hj' => ?_
      by_cases e : j = i
      · rw [e, hz, hy]; exact congrArg some (eqv.mp c)
      · exact hj j (by omega)
theorem bg_326 {XX : Xt} (oo : OK e_X1_beginTransaction XX) {M f : Nat} {m : Md} {u : Ux} {l0 l1 l2 l5 l8 : Value} (md : MDR h M m) (hu : m.2.2.2.2.2[f]? = some u) (gu : gU m u) (hd : 2 ≤ XX.d) (kT : ∀ v6 v7, pln u = true → V XX K 392 [l0, l1, l2, .ref M, .ref (M + 141 + 4 * f), l5, v6, v7, l8] [] h) (kF : ∀ v6 v7, pln u = false → V XX K 384 [l0, l1, l2, .ref M, .ref (M + 141 + 4 * f), l5, v6, v7, l8] [] h) : ∀ (r i : Nat) (b : Bool), r + i = u.2.2.1.length → b = (u.2.2.1.take i).all (fun x => decide (tyc x.1 ≤ 5)) → V XX K 326 [l0, l1, l2, .ref M, .ref (M + 141 + 4 * f), l5, .int (bI b), .int (nI i), l8] [] h := by
  obtain ⟨⟨tM, rT⟩, sT, ty, -, mx⟩ := id md
  have hf := get_lt hu
  have hf64 := mx.2.1.2.2.2.2.2
  obtain ⟨⟨g1, g2, g3, g4', g5, g6⟩, -, -, -, dF⟩ := id sT
  obtain ⟨d1, d2, ⟨d3, d4, d5⟩, d6, d7, d8⟩ := dF f (by omega)
  obtain ⟨-, -, u3, -⟩ := mx.2.2.2.2.2.2 f u hu
  rw [show M + 1 + 140 + 4 * f = M + 141 + 4 * f by omega] at d1 d2 d3 d4 d5 u3
  rw [show M + 1 + 142 + 4 * f = M + 143 + 4 * f by omega] at d4 d7
  rw [show M + 141 + 4 * f + 2 = M + 143 + 4 * f by omega] at u3
  have tl := gu.2.2.2.2.2.2
  obtain ⟨pre, post, p1, p2, p3⟩ := id u3
  have l8' := gu.2.1
  intro r
  induction r with
  | zero =>
    intro i b hi hb
    rw [List.take_of_length_le (by omega)] at hb
    have hb : b = pln u := hb
    refine k_X1_beginTransaction_326 (r5 := p3) oo (fun _ => ?_) (fun c => absurd ((nI_leI (by omega) (by omega)).mpr (by omega)) c)
    refine k_X1_beginTransaction_379 oo (fun c => ?_) (fun c => ?_)
    · refine kT _ _ ?_
      rw [← hb]
      cases b with
      | true => rfl
      | false => exact absurd rfl c
    · refine kF _ _ ?_
      rw [← hb]
      exact bI_0.mp c
  | succ r ih =>
    intro i b hi hb
    obtain ⟨z, hz⟩ : ∃ z, u.2.2.1[i]? = some z := ⟨_, List.getElem?_eq_getElem (by omega)⟩
    have zl := (gu.2.2.2.2.1 z (List.mem_of_getElem? hz)).ok.tv.1.lt63
    have hall : (u.2.2.1.take (i + 1)).all (fun x => decide (tyc x.1 ≤ 5)) = (b && decide (tyc z.1 ≤ 5)) := by
      rw [List.take_add_one, hz, List.all_append, ← hb]
      simp
    refine k_X1_beginTransaction_326 (r5 := p3) oo (fun c => absurd ((nI_leI (by omega) (by omega)).mp c) (by omega)) (fun _ => ?_)
    refine k_X1_beginTransaction_339 oo ?_
    refine spget_ok (T := M + 1) d7 sT ty tl u3 (by omega) ?_
    rw [hz]
    have lt5 : (5 : Int64) < lN (tyc z.1) ↔ 5 < tyc z.1 := lN_ltI (a := 5) (by decide) zl
    refine k_X1_beginTransaction_358 oo (fun c => ?_) (fun c => ?_)
    · refine k_X1_beginTransaction_369 oo ?_
      refine k_X1_beginTransaction_370 oo ?_
      have : bI b &&& nI 0 = bI false := by cases b <;> rfl
      rw [nI_add, this]
      refine ih (i + 1) false (by omega) ?_
      rw [hall, decide_eq_false (by have := lt5.mp c; omega), Bool.and_false]
    · refine k_X1_beginTransaction_365 oo ?_
      refine k_X1_beginTransaction_370 oo ?_
      have : bI b &&& nI 1 = bI b := by cases b <;> rfl
      rw [nI_add, this]
      refine ih (i + 1) b (by omega) ?_
      rw [hall, decide_eq_true (Nat.not_lt.mp fun y => c (lt5.mpr y)), Bool.and_true]
/-- the sender pays beforehand, the first frame begins -/
theorem bg_392 {XX : Xt} (oo : OK e_X1_beginTransaction XX) {x : TxC} {TT TH TL f mn : Nat} {fx : Option Nat} {F : Nat → Fm} {ak : Nat} {c : Cn} {e1 : En} {l5 l6 l7 l8 : Value} (H : OPQ 0 fx XX.G B h A W q BA X tt snd lim SP wi MA l o (0, F, [((1, snd, 0), c, c, false), e1], ak, 0)) (x1 : TXI h X TT TH TL x) (ha : AGv x.2.2.2.2.2) (hav : 8 ≤ av XX.G h l) (hF : MA.2.1 (mn, f) = MA.1 mn + 141 + 4 * f) (hd : 5 ≤ XX.d) (kk : ∀ h' l' o', OUT wi W h h' o o' → CTX h' A W q BA X tt snd lim SP → VH XX.G B h' q l' o' → WkR h' o' wi W (maA MA 0 0) (1, fun _ => ent (mn, f) (agi x.2.2.2.2.2), [((1, snd, 0), c, (c.1, c.2.1 - lN lim, c.2.2.1 + 1, c.2.2.2), true), e1], ak, 0) → WDR h' A → K (.returned none) h') : V XX K 392 [.ref A, .ref X, .ref (Ea W 0), .ref (MA.1 mn), .ref (MA.1 mn + 141 + 4 * f), l5, l6, l7, l8] [] h := by
  obtain ⟨c0, v, w, hf, hg, hw⟩ := H
  obtain ⟨⟨t0, rq, rW, rB, rS⟩, ⟨tB, wt, ht32, eX⟩, tX, xl, xl2, xs⟩ := id c0
  have en := w.2.2.2.2.1 0 _ rfl
  have tE := (w.1.1.2.2.2 0 (by omega)).2
  obtain ⟨⟨a1, a2, a3, a4⟩, ⟨b1, b2, b3⟩, ⟨b4, b5⟩, ⟨b6, b7, b8⟩, d1⟩ := id en
  refine k_X1_beginTransaction_392 (r2 := b2) (r5 := xl) (r7 := b3) oo ?_
  rw [nI_64 (by omega)]
  generalize hh1 : ((h.sJ 1156 (Ea W 0) (c.2.1 - lN lim)).sJ 1157 (Ea W 0) (c.2.2.1 + 1)).sI 1163 (Ea W 0) (nI 1) = h1
  have q1 : Fq (fun g a => (g = 1156 ∨ g = 1157 ∨ g = 1163) ∧ a = Ea W 0) h h1 := by
    rw [← hh1]
    exact Fq.sI (Fq.sJ (Fq.sJ (Fq.refl h) ⟨Or.inl rfl, rfl⟩) ⟨Or.inr (Or.inl rfl), rfl⟩) ⟨Or.inr (Or.inr rfl), rfl⟩
  have f1 : Fr (PE2 W 0) h h1 := q1.1.mono fun g a z => Or.inr ⟨by rcases z.1 with y | y | y <;> (rw [y]; rfl), z.2⟩
  obtain ⟨v1, tg1⟩ := v.oth q1 (fun g a z y => by
    rcases y.1 with y | y | y <;> (rw [y] at z; exact VQ.no (l := [1156, 1157, 1163]) rfl _ _ rfl z))
  have fi : Fr (IP W) h h1 := f1.mono (PE2.ip (W := W) (e := 0) (by omega))
  have n1 : ∀ g a, g ≠ 1156 → g ≠ 1157 → g ≠ 1163 → ¬ ((g = 1156 ∨ g = 1157 ∨ g = 1163) ∧ a = Ea W 0) := fun g a z1 z2 z3 z => by
    rcases z.1 with y | y | y
    · exact z1 y
    · exact z2 y
    · exact z3 y
  have nw : EnR1 h1 o wi W 0 MA ((1, snd, 0), c, (c.1, c.2.1 - lN lim, c.2.2.1 + 1, c.2.2.2), true) := by
    refine ⟨⟨by rw [q1.1.I (n1 _ _ (by decide) (by decide) (by decide))]; exact a1, by rw [q1.1.J (n1 _ _ (by decide) (by decide) (by decide))]; exact a2, by rw [q1.1.I (n1 _ _ (by decide) (by decide) (by decide))]; exact a3, a4⟩, ⟨by rw [q1.1.I (n1 _ _ (by decide) (by decide) (by decide))]; exact b1, by rw [← hh1]; simp [n_sI, z_sI, tag_sI, I_sI, J_sI, R_sI, EI_sI, EJ_sI, ER_sI, n_sJ, z_sJ, tag_sJ, I_sJ, J_sJ, R_sJ, EI_sJ, EJ_sJ, ER_sJ, n_sR, z_sR, tag_sR, I_sR, J_sR, R_sR, EI_sR, EJ_sR, ER_sR, n_sEI, z_sEI, tag_sEI, I_sEI, J_sEI, R_sEI, EI_sEI, EJ_sEI, ER_sEI, n_sEJ, z_sEJ, tag_sEJ, I_sEJ, J_sEJ, R_sEJ, EI_sEJ, EJ_sEJ, ER_sEJ, n_sER, z_sER, tag_sER, I_sER, J_sER, R_sER, EI_sER, EJ_sER, ER_sER, n_nw, z_nw, tag_nw, I_nw, J_nw, R_nw, EI_nw, EJ_nw, ER_nw], by rw [← hh1]; simp [n_sI, z_sI, tag_sI, I_sI, J_sI, R_sI, EI_sI, EJ_sI, ER_sI, n_sJ, z_sJ, tag_sJ, I_sJ, J_sJ, R_sJ, EI_sJ, EJ_sJ, ER_sJ, n_sR, z_sR, tag_sR, I_sR, J_sR, R_sR, EI_sR, EJ_sR, ER_sR, n_sEI, z_sEI, tag_sEI, I_sEI, J_sEI, R_sEI, EI_sEI, EJ_sEI, ER_sEI, n_sEJ, z_sEJ, tag_sEJ, I_sEJ, J_sEJ, R_sEJ, EI_sEJ, EJ_sEJ, ER_sEJ, n_sER, z_sER, tag_sER, I_sER, J_sER, R_sER, EI_sER, EJ_sER, ER_sER, n_nw, z_nw, tag_nw, I_nw, J_nw, R_nw, EI_nw, EJ_nw, ER_nw]⟩, ⟨by rw [q1.1.I (n1 _ _ (by decide) (by decide) (by decide))]; exact b4, by rw [← hh1]; simp [n_sI, z_sI, tag_sI, I_sI, J_sI, R_sI, EI_sI, EJ_sI, ER_sI, n_sJ, z_sJ, tag_sJ, I_sJ, J_sJ, R_sJ, EI_sJ, EJ_sJ, ER_sJ, n_sR, z_sR, tag_sR, I_sR, J_sR, R_sR, EI_sR, EJ_sR, ER_sR, n_sEI, z_sEI, tag_sEI, I_sEI, J_sEI, R_sEI, EI_sEI, EJ_sEI, ER_sEI, n_sEJ, z_sEJ, tag_sEJ, I_sEJ, J_sEJ, R_sEJ, EI_sEJ, EJ_sEJ, ER_sEJ, n_sER, z_sER, tag_sER, I_sER, J_sER, R_sER, EI_sER, EJ_sER, ER_sER, n_nw, z_nw, tag_nw, I_nw, J_nw, R_nw, EI_nw, EJ_nw, ER_nw]; rfl⟩, ⟨by rw [q1.1.I (n1 _ _ (by decide) (by decide) (by decide))]; exact b6, by rw [q1.1.I (n1 _ _ (by decide) (by decide) (by decide))]; exact b7, fun z => absurd z (show (1 : Nat) ≠ 2 by decide)⟩, ?_⟩
    rw [q1.1.R (n1 _ _ (by decide) (by decide) (by decide))]; exact d1
  have w1 := WkQ.enc w (e := 0) (x' := ((1, snd, 0), c, (c.1, c.2.1 - lN lim, c.2.2.1 + 1, c.2.2.2), true)) rfl f1 (fun _ _ => rfl) (fun p y _ hy => tg1 p y (by simp) hy) (fun j hj => absurd hj (Nat.not_lt_zero j)) nw
  have w1 : WkQ 0 h1 o wi W MA (0, F, [((1, snd, 0), c, (c.1, c.2.1 - lN lim, c.2.2.1 + 1, c.2.2.2), true), e1], ak, 0) := w1
  have c1 := c0.ip fi
  refine enter_ok (g := (mn, f)) c1 w1 (by show 0 < 32; omega) rfl hF fun h2 f2 w2 => ?_
  have fi2 : Fr (IP W) h1 h2 := f2.1.mono (PEn.ip (by show 0 < 32; omega))
  obtain ⟨v2, tg2⟩ := v1.oth f2 PEn.vq
  have w2 : WkR h2 o wi W (maA MA 0 0) (0 + 1, uF F 0 ((mn, f), 0, fun _ => none, []), [((1, snd, 0), c, (c.1, c.2.1 - lN lim, c.2.2.1 + 1, c.2.2.2), true), e1], ak, 0) := w2
  refine k_X1_beginTransaction_428 oo ?_
  have ipn : ∀ f a, (txiF ++ [27]).contains f = true → ¬ IP W f a := IP.no rfl
  have fi12 := fi.trans fi2
  have wd2 : WDR h2 A := (hw.fr q1.1 (fun a => n1 _ _ (by decide) (by decide) (by decide)) (fun a => n1 _ _ (by decide) (by decide) (by decide))).fr f2.1 (fun a => PEn.no (l := [27]) rfl _ a rfl) (fun a => PEn.no (l := [2306]) rfl _ a rfl)
  exact bg_433 (h := h) (o := o) (x := x) (MA := maA MA 0 0) (g := (mn, f)) oo ha (by omega) kk x.2.2.2.2.2.length 0 (by omega) h2 l o (OUT.trans (OUT.mk0 fi tg1) (OUT.mk0 fi2 tg2)) (c1.ip fi2) v2 (WkQ.fms w2 fun j hj => by
    have j0 : j = 0 := by omega
    subst j0
    show _ = uF F 0 _ 0
    unfold uF
    rw [if_pos rfl]; rfl) (x1.fr fi12 (fun f a hf => ipn f a (by rw [List.contains_iff_mem] at hf ⊢; exact List.mem_append_left _ hf))) wd2 (fun k _ => (w.2.2.1 0 (Nat.le_refl _) k).2) (by have := x1.2.1.2; unfold av at hav ⊢; rw [f2.2.1, q1.2.1]; omega)
end
