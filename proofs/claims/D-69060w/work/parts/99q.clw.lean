/-! a worker that rests -/
/-- what clearing asks -/
def CLW (h : AH) (o : Lc) (wi W dd n : Nat) : Prop := (SWk h W ∧ h.I 2438 W = nI dd ∧ dd ≤ 32 ∧ ∀ j, j < dd → FDR h o wi W j) ∧ (n ≤ 26 ∧ h.I 1025 (W + 2) = nI n ∧ ∀ e, e < n → CLE h o wi W e) ∧ (∀ j, dd ≤ j → ∀ i, o (1, wi, j, i) = none ∧ o (2, wi, j, i) = none) ∧ ∀ e b, n ≤ e ∨ b ≠ 0 → o (3, wi, e, b) = none
/-- a worker that holds nothing -/
def IDW (h : AH) (o : Lc) (wi W : Nat) : Prop := (SWk h W ∧ h.I 2438 W = nI 0 ∧ h.I 1025 (W + 2) = nI 0) ∧ ∀ p : Sl, 1 ≤ p.1 → p.1 ≤ 3 → p.2.1 = wi → o p = none
theorem VW.d {v : VL} (h : VW v) : fdp v.2.2 ≤ 40 := h.1.2.1
theorem WkQ.clw {z : Nat} {h : AH} {o : Lc} {wi W : Nat} {MA : Ma} {s : Ms} (w : WkQ z h o wi W MA s) (c : CLR s) : CLW h o wi W s.1 (ens s).length := by
  obtain ⟨⟨w1, w2, -, w4, -, -⟩, w7, w8, w9⟩ := w
  refine ⟨⟨w1, w2, w4, fun j hj => (w7 j hj).fdr (fun v hv => ((c.1 j hj).1 v hv).d) (fun k v hv => ((c.1 j hj).2 k v hv).d)⟩, ⟨w9.1.2, w9.1.1, fun e he => ?_⟩, w8, w9.2.2⟩
  obtain ⟨x, hx⟩ : ∃ x, (ens s)[e]? = some x := ⟨_, List.getElem?_eq_getElem he⟩
  exact (w9.2.1 e x hx).cle (fun v hv => (c.2 x (List.mem_of_getElem? hx) v hv).d)
section
variable {G : Gt} {B d q wi W : Nat} {h : AH} {l : List Nat} {o : Lc} {K : Outcome → AH → Prop}
theorem clear_w {dd n : Nat} (v : VH G B h q l o) (c : CLW h o wi W dd n) (hd : 72 ≤ d) (kk : ∀ h' l' o', Fr (PCl W) h h' → VH G B h' q l' o' → IDW h' o' wi W → (∀ p : Sl, ¬ (1 ≤ p.1 ∧ p.1 ≤ 3 ∧ p.2.1 = wi) → o' p = o p) → (∀ p x, o' p = some x → h'.R 3718 x.1 = h.R 3718 x.1) → av G h l ≤ av G h' l' → K (.returned none) h') : MW G d e_X20_clear [.ref W, .ref q] h K := by
  obtain ⟨⟨c1, c2, c3, c4⟩, ⟨c5, c6, c7⟩, c8, c9⟩ := c
  refine clear_ok v c1 c2 c3 c4 c5 c6 c7 hd fun h1 l1 o1 e1 e2 e3 e4 e5 => ?_
  have fq : Fq (fun g a => g = 1025 ∧ a = W + 2) h1 (h1.sI 1025 (W + 2) (nI 0)) := Fq.sI (Fq.refl h1) ⟨rfl, rfl⟩
  have f2 : Fr (PCl W) h (h1.sI 1025 (W + 2) (nI 0)) := e1.1.trans (fq.1.mono fun g a z => Or.inr ⟨by rw [z.1]; rfl, by rw [z.2]; omega, by rw [z.2]; omega⟩)
  obtain ⟨v2, tg⟩ := e1.2.1.oth fq (fun g a z y => by rw [y.1] at z; exact VQ.no (l := [1025]) rfl _ _ rfl z)
  refine kk _ l1 o1 f2 v2 ⟨⟨c1.fr f2 (PCl.no rfl), by simp [n_sI, z_sI, tag_sI, I_sI, J_sI, R_sI, EI_sI, EJ_sI, ER_sI, n_sJ, z_sJ, tag_sJ, I_sJ, J_sJ, R_sJ, EI_sJ, EJ_sJ, ER_sJ, n_sR, z_sR, tag_sR, I_sR, J_sR, R_sR, EI_sR, EJ_sR, ER_sR, n_sEI, z_sEI, tag_sEI, I_sEI, J_sEI, R_sEI, EI_sEI, EJ_sEI, ER_sEI, n_sEJ, z_sEJ, tag_sEJ, I_sEJ, J_sEJ, R_sEJ, EI_sEJ, EJ_sEJ, ER_sEJ, n_sER, z_sER, tag_sER, I_sER, J_sER, R_sER, EI_sER, EJ_sER, ER_sER, n_nw, z_nw, tag_nw, I_nw, J_nw, R_nw, EI_nw, EJ_nw, ER_nw]; exact e5, by simp [n_sI, z_sI, tag_sI, I_sI, J_sI, R_sI, EI_sI, EJ_sI, ER_sI, n_sJ, z_sJ, tag_sJ, I_sJ, J_sJ, R_sJ, EI_sJ, EJ_sJ, ER_sJ, n_sR, z_sR, tag_sR, I_sR, J_sR, R_sR, EI_sR, EJ_sR, ER_sR, n_sEI, z_sEI, tag_sEI, I_sEI, J_sEI, R_sEI, EI_sEI, EJ_sEI, ER_sEI, n_sEJ, z_sEJ, tag_sEJ, I_sEJ, J_sEJ, R_sEJ, EI_sEJ, EJ_sEJ, ER_sEJ, n_sER, z_sER, tag_sER, I_sER, J_sER, R_sER, EI_sER, EJ_sER, ER_sER, n_nw, z_nw, tag_nw, I_nw, J_nw, R_nw, EI_nw, EJ_nw, ER_nw]⟩, fun p p1 p3 pw => ?_⟩ (fun p hp => ?_) (fun p x hx => by rw [tg p x (by simp) hx]; exact e1.2.2.2.1 p x hx) (by have := e1.2.2.2.2; unfold av at this ⊢; rw [fq.2.1]; exact this)
  · obtain ⟨a, b, c, e⟩ := p
    have pw : b = wi := pw
    subst pw
    have p1 : 1 ≤ a := p1
    have p3 : a ≤ 3 := p3
    by_cases a3 : a = 3
    · subst a3
      by_cases ce : c < n ∧ e = 0
      · rw [ce.2]; exact e4 c ce.1
      · rw [e2 _ (fun z => by rcases z.1 with y | y <;> cases y) (fun z => ce ⟨z.2.2.1, z.2.2.2⟩)]
        exact c9 c e (by omega)
    · have a12 : a = 1 ∨ a = 2 := by omega
      by_cases cc : c < dd
      · obtain ⟨g1, g2⟩ := e3 c cc e
        rcases a12 with y | y
        · rw [y]; exact g1
        · rw [y]; exact g2
      · rw [e2 _ (fun z => cc z.2.2) (fun z => a3 z.1)]
        obtain ⟨g1, g2⟩ := c8 c (by omega) e
        rcases a12 with y | y
        · rw [y]; exact g1
        · rw [y]; exact g2
  · refine e2 p (fun z => hp ⟨?_, ?_, z.2.1⟩) (fun z => hp ⟨?_, ?_, z.2.1⟩)
    · rcases z.1 with y | y <;> omega
    · rcases z.1 with y | y <;> omega
    · have := z.1; omega
    · have := z.1; omega
/-- what a run that waits writes -/
def PHo (A W X g a : Nat) : Prop := PCl W g a ∨ ((g = 2703 ∨ g = 2702 ∨ g = 2704) ∧ a = X) ∨ (g = 2432 ∧ a = W) ∨ (g = 12 ∧ a = A)
theorem hold_ok {A BA X tt lim SP dd n : Nat} {snd : Int64} {r b c : Int32} (c0 : CTX h A W q BA X tt snd lim SP) (v : VH G B h q l o) (cl : CLW h o wi W dd n) (hr : h.I 2703 X = r) (hb : h.I 12 A = b) (hd : 73 ≤ d) (kk : ∀ h' l' o', Fr (PHo A W X) h h' → VH G B h' q l' o' → IDW h' o' wi W → (∀ p : Sl, ¬ (1 ≤ p.1 ∧ p.1 ≤ 3 ∧ p.2.1 = wi) → o' p = o p) → (∀ p x, o' p = some x → h'.R 3718 x.1 = h.R 3718 x.1) → h'.I 2703 X = r + nI 1 → h'.I 2702 X = nI 3 → h'.I 2704 X = c → h'.I 2432 W = nI 0 → h'.I 12 A = b - nI 1 → K (.returned none) h') : MW G d e_X1_hold [.ref A, .int c] h K := by
  refine st_X1_hold fun XX oo hG hD _ => ?_
  subst hG; subst hD
  obtain ⟨⟨t0, rq, rW, rB, rS⟩, ⟨tB, wt, ht, eX⟩, tX, -⟩ := id c0
  have tW := cl.1.1.1.1
  have ix : IX (nI tt) 32 tt := IX.mk (by omega) (by omega)
  refine k_X1_hold_0 (r7 := wt) oo ?_
  refine clear_w v cl (by omega) fun h1 l1 o1 f1 v1 i1 o11 tg1 a1 => ?_
  have no := PCl.no (W := W) (l := [26, 12, 2703]) rfl
  have t1 := f1.tag t0
  have tX1 := f1.tag tX
  have tW1 := f1.tag tW
  have r1 : h1.I 2703 X = r := by rw [f1.I (no _ _ rfl)]; exact hr
  refine k_X1_hold_24 (r2 := r1) oo ?_
  generalize hh2 : ((h1.sI 2703 X (r + nI 1)).sI 2702 X (nI 3)).sI 2704 X c = h2
  have f2 : Fq (PHo A W X) h1 h2 := by
    rw [← hh2]
    exact Fq.sI (Fq.sI (Fq.sI (Fq.refl h1) (Or.inr (Or.inl ⟨Or.inl rfl, rfl⟩))) (Or.inr (Or.inl ⟨Or.inr (Or.inl rfl), rfl⟩))) (Or.inr (Or.inl ⟨Or.inr (Or.inr rfl), rfl⟩))
  have t2 := f2.1.tag t1
  have tW2 := f2.1.tag tW1
  have rW2 : h2.R 26 A = some W := by rw [← hh2]; simp [n_sI, z_sI, tag_sI, I_sI, J_sI, R_sI, EI_sI, EJ_sI, ER_sI, n_sJ, z_sJ, tag_sJ, I_sJ, J_sJ, R_sJ, EI_sJ, EJ_sJ, ER_sJ, n_sR, z_sR, tag_sR, I_sR, J_sR, R_sR, EI_sR, EJ_sR, ER_sR, n_sEI, z_sEI, tag_sEI, I_sEI, J_sEI, R_sEI, EI_sEI, EJ_sEI, ER_sEI, n_sEJ, z_sEJ, tag_sEJ, I_sEJ, J_sEJ, R_sEJ, EI_sEJ, EJ_sEJ, ER_sEJ, n_sER, z_sER, tag_sER, I_sER, J_sER, R_sER, EI_sER, EJ_sER, ER_sER, n_nw, z_nw, tag_nw, I_nw, J_nw, R_nw, EI_nw, EJ_nw, ER_nw]; rw [f1.R (no _ _ rfl)]; exact rW
  have b2 : h2.I 12 A = b := by rw [← hh2]; simp [n_sI, z_sI, tag_sI, I_sI, J_sI, R_sI, EI_sI, EJ_sI, ER_sI, n_sJ, z_sJ, tag_sJ, I_sJ, J_sJ, R_sJ, EI_sJ, EJ_sJ, ER_sJ, n_sR, z_sR, tag_sR, I_sR, J_sR, R_sR, EI_sR, EJ_sR, ER_sR, n_sEI, z_sEI, tag_sEI, I_sEI, J_sEI, R_sEI, EI_sEI, EJ_sEI, ER_sEI, n_sEJ, z_sEJ, tag_sEJ, I_sEJ, J_sEJ, R_sEJ, EI_sEJ, EJ_sEJ, ER_sEJ, n_sER, z_sER, tag_sER, I_sER, J_sER, R_sER, EI_sER, EJ_sER, ER_sER, n_nw, z_nw, tag_nw, I_nw, J_nw, R_nw, EI_nw, EJ_nw, ER_nw]; rw [f1.I (no _ _ rfl)]; exact hb
  refine lrest_ok t2 rW2 tW2 b2 ?_
  refine k_X1_hold_48 oo ?_
  generalize hh3 : (h2.sI 2432 W (nI 0)).sI 12 A (b - nI 1) = h3
  have f3 : Fq (PHo A W X) h2 h3 := by
    rw [← hh3]
    exact Fq.sI (Fq.sI (Fq.refl h2) (Or.inr (Or.inr (Or.inl ⟨rfl, rfl⟩)))) (Or.inr (Or.inr (Or.inr ⟨rfl, rfl⟩)))
  have f13 : Fq (fun g a => (g = 2703 ∨ g = 2702 ∨ g = 2704) ∨ g = 2432 ∨ g = 12) h1 h3 := by
    rw [← hh3, ← hh2]
    exact Fq.sI (Fq.sI (Fq.sI (Fq.sI (Fq.sI (Fq.refl h1) (Or.inl (Or.inl rfl))) (Or.inl (Or.inr (Or.inl rfl)))) (Or.inl (Or.inr (Or.inr rfl)))) (Or.inr (Or.inl rfl))) (Or.inr (Or.inr rfl))
  have np : ∀ f (a : Nat), ([2438, 1025] ++ swF).contains f = true → ¬ ((f = 2703 ∨ f = 2702 ∨ f = 2704) ∨ f = 2432 ∨ f = 12) := fun f a hf z => by
    rcases z with (z | z | z) | z | z <;> (rw [z] at hf; exact absurd hf (by decide))
  obtain ⟨v3, tg3⟩ := v1.oth f13 (fun g a z y => by
    rcases y with (y | y | y) | y | y <;> (rw [y] at z; exact VQ.no (l := [2703, 2702, 2704, 2432, 12]) rfl _ _ rfl z))
  refine kk h3 l1 o1 ((f1.mono fun g a z => Or.inl z).trans (f2.1.trans f3.1)) v3 ⟨⟨i1.1.1.fr f13.1 (fun f a hf => np f a (by rw [List.contains_iff_mem] at hf ⊢; exact List.mem_append_right _ hf)), by rw [f13.1.I (np _ 0 rfl)]; exact i1.1.2.1, by rw [f13.1.I (np _ 0 rfl)]; exact i1.1.2.2⟩, i1.2⟩ o11 (fun p x hx => by rw [tg3 p x (by simp) hx]; exact tg1 p x hx) ?_ ?_ ?_ ?_ ?_
  · rw [← hh3, ← hh2]; simp [n_sI, z_sI, tag_sI, I_sI, J_sI, R_sI, EI_sI, EJ_sI, ER_sI, n_sJ, z_sJ, tag_sJ, I_sJ, J_sJ, R_sJ, EI_sJ, EJ_sJ, ER_sJ, n_sR, z_sR, tag_sR, I_sR, J_sR, R_sR, EI_sR, EJ_sR, ER_sR, n_sEI, z_sEI, tag_sEI, I_sEI, J_sEI, R_sEI, EI_sEI, EJ_sEI, ER_sEI, n_sEJ, z_sEJ, tag_sEJ, I_sEJ, J_sEJ, R_sEJ, EI_sEJ, EJ_sEJ, ER_sEJ, n_sER, z_sER, tag_sER, I_sER, J_sER, R_sER, EI_sER, EJ_sER, ER_sER, n_nw, z_nw, tag_nw, I_nw, J_nw, R_nw, EI_nw, EJ_nw, ER_nw]
  · rw [← hh3, ← hh2]; simp [n_sI, z_sI, tag_sI, I_sI, J_sI, R_sI, EI_sI, EJ_sI, ER_sI, n_sJ, z_sJ, tag_sJ, I_sJ, J_sJ, R_sJ, EI_sJ, EJ_sJ, ER_sJ, n_sR, z_sR, tag_sR, I_sR, J_sR, R_sR, EI_sR, EJ_sR, ER_sR, n_sEI, z_sEI, tag_sEI, I_sEI, J_sEI, R_sEI, EI_sEI, EJ_sEI, ER_sEI, n_sEJ, z_sEJ, tag_sEJ, I_sEJ, J_sEJ, R_sEJ, EI_sEJ, EJ_sEJ, ER_sEJ, n_sER, z_sER, tag_sER, I_sER, J_sER, R_sER, EI_sER, EJ_sER, ER_sER, n_nw, z_nw, tag_nw, I_nw, J_nw, R_nw, EI_nw, EJ_nw, ER_nw]
  · rw [← hh3, ← hh2]; simp [n_sI, z_sI, tag_sI, I_sI, J_sI, R_sI, EI_sI, EJ_sI, ER_sI, n_sJ, z_sJ, tag_sJ, I_sJ, J_sJ, R_sJ, EI_sJ, EJ_sJ, ER_sJ, n_sR, z_sR, tag_sR, I_sR, J_sR, R_sR, EI_sR, EJ_sR, ER_sR, n_sEI, z_sEI, tag_sEI, I_sEI, J_sEI, R_sEI, EI_sEI, EJ_sEI, ER_sEI, n_sEJ, z_sEJ, tag_sEJ, I_sEJ, J_sEJ, R_sEJ, EI_sEJ, EJ_sEJ, ER_sEJ, n_sER, z_sER, tag_sER, I_sER, J_sER, R_sER, EI_sER, EJ_sER, ER_sER, n_nw, z_nw, tag_nw, I_nw, J_nw, R_nw, EI_nw, EJ_nw, ER_nw]
  · rw [← hh3, ← hh2]; simp [n_sI, z_sI, tag_sI, I_sI, J_sI, R_sI, EI_sI, EJ_sI, ER_sI, n_sJ, z_sJ, tag_sJ, I_sJ, J_sJ, R_sJ, EI_sJ, EJ_sJ, ER_sJ, n_sR, z_sR, tag_sR, I_sR, J_sR, R_sR, EI_sR, EJ_sR, ER_sR, n_sEI, z_sEI, tag_sEI, I_sEI, J_sEI, R_sEI, EI_sEI, EJ_sEI, ER_sEI, n_sEJ, z_sEJ, tag_sEJ, I_sEJ, J_sEJ, R_sEJ, EI_sEJ, EJ_sEJ, ER_sEJ, n_sER, z_sER, tag_sER, I_sER, J_sER, R_sER, EI_sER, EJ_sER, ER_sER, n_nw, z_nw, tag_nw, I_nw, J_nw, R_nw, EI_nw, EJ_nw, ER_nw]
  · rw [← hh3, ← hh2]; simp [n_sI, z_sI, tag_sI, I_sI, J_sI, R_sI, EI_sI, EJ_sI, ER_sI, n_sJ, z_sJ, tag_sJ, I_sJ, J_sJ, R_sJ, EI_sJ, EJ_sJ, ER_sJ, n_sR, z_sR, tag_sR, I_sR, J_sR, R_sR, EI_sR, EJ_sR, ER_sR, n_sEI, z_sEI, tag_sEI, I_sEI, J_sEI, R_sEI, EI_sEI, EJ_sEI, ER_sEI, n_sEJ, z_sEJ, tag_sEJ, I_sEJ, J_sEJ, R_sEJ, EI_sEJ, EJ_sEJ, ER_sEJ, n_sER, z_sER, tag_sER, I_sER, J_sER, R_sER, EI_sER, EJ_sER, ER_sER, n_nw, z_nw, tag_nw, I_nw, J_nw, R_nw, EI_nw, EJ_nw, ER_nw]
end
