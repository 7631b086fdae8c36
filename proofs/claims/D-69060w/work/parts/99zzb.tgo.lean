/-! all transactions at once: the whole -/
section
variable {c : Cy} {z : Cz} {G : Gt} {B d : Nat} {K : Outcome → AH → Prop} {I2 : Gg → AH → Prop} {PU : Nat → Nat → Prop}
theorem GRM.set {i : Nat} {g : Gg} {h : AH} {l : List Nat} {o : Lc} (r : GRM c z G B i g h l o) (h1 : zf z ≤ i) (h2 : i < 32) : GRM c z G B (i + 1) (uTx g i ((0, 1, xH g i), [], (g.1 i).2.2)) (((h.sI 2702 (yX c.1 i) (nI 0)).sI 2703 (yX c.1 i) (nI 1)).sI 1025 (yL c.1 i) (nI 0)) l o := by
  generalize hh : ((h.sI 2702 (yX c.1 i) (nI 0)).sI 2703 (yX c.1 i) (nI 1)).sI 1025 (yL c.1 i) (nI 0) = h'
  have q : Fq (fun f a => ((f = 2702 ∨ f = 2703) ∧ a = yX c.1 i) ∨ (f = 1025 ∧ a = yL c.1 i)) h h' := by
    rw [← hh]
    exact Fq.sI (Fq.sI (Fq.sI (Fq.refl h) (Or.inl ⟨Or.inl rfl, rfl⟩)) (Or.inl ⟨Or.inr rfl, rfl⟩)) (Or.inr ⟨rfl, rfl⟩)
  have e1 : h'.I 2702 (yX c.1 i) = nI 0 := by rw [← hh]; simp [n_sI, z_sI, tag_sI, I_sI, J_sI, R_sI, EI_sI, EJ_sI, ER_sI, n_sJ, z_sJ, tag_sJ, I_sJ, J_sJ, R_sJ, EI_sJ, EJ_sJ, ER_sJ, n_sR, z_sR, tag_sR, I_sR, J_sR, R_sR, EI_sR, EJ_sR, ER_sR, n_sEI, z_sEI, tag_sEI, I_sEI, J_sEI, R_sEI, EI_sEI, EJ_sEI, ER_sEI, n_sEJ, z_sEJ, tag_sEJ, I_sEJ, J_sEJ, R_sEJ, EI_sEJ, EJ_sEJ, ER_sEJ, n_sER, z_sER, tag_sER, I_sER, J_sER, R_sER, EI_sER, EJ_sER, ER_sER, n_nw, z_nw, tag_nw, I_nw, J_nw, R_nw, EI_nw, EJ_nw, ER_nw]
  have e2 : h'.I 2703 (yX c.1 i) = nI 1 := by rw [← hh]; simp [n_sI, z_sI, tag_sI, I_sI, J_sI, R_sI, EI_sI, EJ_sI, ER_sI, n_sJ, z_sJ, tag_sJ, I_sJ, J_sJ, R_sJ, EI_sJ, EJ_sJ, ER_sJ, n_sR, z_sR, tag_sR, I_sR, J_sR, R_sR, EI_sR, EJ_sR, ER_sR, n_sEI, z_sEI, tag_sEI, I_sEI, J_sEI, R_sEI, EI_sEI, EJ_sEI, ER_sEI, n_sEJ, z_sEJ, tag_sEJ, I_sEJ, J_sEJ, R_sEJ, EI_sEJ, EJ_sEJ, ER_sEJ, n_sER, z_sER, tag_sER, I_sER, J_sER, R_sER, EI_sER, EJ_sER, ER_sER, n_nw, z_nw, tag_nw, I_nw, J_nw, R_nw, EI_nw, EJ_nw, ER_nw]
  have e3 : h'.I 1025 (yL c.1 i) = nI 0 := by rw [← hh]; simp [n_sI, z_sI, tag_sI, I_sI, J_sI, R_sI, EI_sI, EJ_sI, ER_sI, n_sJ, z_sJ, tag_sJ, I_sJ, J_sJ, R_sJ, EI_sJ, EJ_sJ, ER_sJ, n_sR, z_sR, tag_sR, I_sR, J_sR, R_sR, EI_sR, EJ_sR, ER_sR, n_sEI, z_sEI, tag_sEI, I_sEI, J_sEI, R_sEI, EI_sEI, EJ_sEI, ER_sEI, n_sEJ, z_sEJ, tag_sEJ, I_sEJ, J_sEJ, R_sEJ, EI_sEJ, EJ_sEJ, ER_sEJ, n_sER, z_sER, tag_sER, I_sER, J_sER, R_sER, EI_sER, EJ_sER, ER_sER, n_nw, z_nw, tag_nw, I_nw, J_nw, R_nw, EI_nw, EJ_nw, ER_nw]
  obtain ⟨⟨r1, ly⟩, r3, r4, r8, r9, r10, r11, r12⟩ := r
  have bk := r1.2.1.1
  have no : ∀ l : List Nat, l.all (fun f => !([2702, 2703, 1025].contains f)) = true → ∀ f a, l.contains f = true → ¬ (((f = 2702 ∨ f = 2703) ∧ a = yX c.1 i) ∨ (f = 1025 ∧ a = yL c.1 i)) := fun l hl f a hf q => by
    rw [List.all_eq_true] at hl
    have := hl f (List.contains_iff_mem.mp hf)
    rcases q with ⟨q | q, -⟩ | ⟨q, -⟩ <;> (rw [q] at this; exact absurd this (by decide))
  have nc : ∀ f a, f ≠ 2702 → f ≠ 2703 → (f = 1025 → a ≠ yL c.1 i) → ¬ (((f = 2702 ∨ f = 2703) ∧ a = yX c.1 i) ∨ (f = 1025 ∧ a = yL c.1 i)) := fun f a n1 n2 n3 q => by
    rcases q with ⟨q | q, -⟩ | ⟨q, q2⟩
    · exact n1 q
    · exact n2 q
    · exact n3 q q2
  obtain ⟨v', tg⟩ := r11.oth q (fun f a y q => by
    rcases q with ⟨q | q, -⟩ | ⟨q, -⟩ <;> (rw [q] at y; exact VQ.no (l := [2702, 2703, 1025]) rfl _ _ rfl y))
  have tn : ∀ k, k ≠ i → (uTx g i ((0, 1, xH g i), [], (g.1 i).2.2)).1 k = g.1 k := fun k hk => if_neg hk
  have ti : (uTx g i ((0, 1, xH g i), [], (g.1 i).2.2)).1 i = ((0, 1, xH g i), [], (g.1 i).2.2) := if_pos rfl
  have tw : (uTx g i ((0, 1, xH g i), [], (g.1 i).2.2)).2.1 = g.2.1 := rfl
  generalize uTx g i ((0, 1, xH g i), [], (g.1 i).2.2) = g' at tn ti tw
  refine ⟨⟨r1.fr q.1 (no _ rfl), ly⟩, fun k hk => ?_, fun k k1 k2 => ?_, fun j hj => ?_, r9.fr q.1 (fun f a hf x1 x2 => nc f a (fun y => by rw [y] at hf; exact absurd hf (by decide)) (fun y => by rw [y] at hf; exact absurd hf (by decide)) (fun _ y => ?_)) (fun _ => rfl), r10.fr q.1 (fun a => no [27] rfl _ a rfl) (fun a => no [2306] rfl _ a rfl), v', r12⟩
  · obtain ⟨x1, x2, x3⟩ := r3 k hk
    by_cases e : k = i
    · subst e
      have y1 : xS g' k = 0 := by rw [xS, ti]
      have y2 : xR g' k = 1 := by rw [xR, ti]
      have y3 : xH g' k = xH g k := by rw [xH, ti]
      have y4 : xL g' k = [] := by rw [xL, ti]
      have y5 : xD g' k = xD g k := by rw [xD, ti]; rfl
      obtain ⟨⟨z1, z2⟩, z3, z4⟩ := x2
      refine ⟨⟨by rw [y1]; exact e1, by omega⟩, ⟨⟨by rw [y2]; exact e2, by rw [y3, q.1.I (no [2704] rfl _ _ rfl)]; exact z2⟩, ?_, ?_⟩, y4⟩
      · rw [y4]
        rw [x3] at z3
        obtain ⟨⟨⟨⟨w1, w2, w3⟩, w4⟩, w5, -⟩, -, w7⟩ := z3
        refine ⟨⟨⟨⟨q.1.tag w1, by rw [q.1.R (no [1024] rfl _ _ rfl)]; exact w2, q.1.tag w3⟩, fun e he => ⟨by rw [q.1.ER (no [10000 + 342] rfl _ _ rfl)]; exact (w4 e he).1, q.1.tag (w4 e he).2⟩⟩, ⟨e3, w5.2⟩, fun e p hp => by simp at hp⟩, fun e x hx => by simp at hx, w7⟩
      · rw [y5]
        have := ((ly.2.2 k hk).2.2 k hk).1
        refine z4.fr q.1 (no _ rfl) (fun f a hf x1 x2 => nc f a (fun y => by rw [y] at hf; exact absurd hf (by decide)) (fun y => by rw [y] at hf; exact absurd hf (by decide)) (fun _ y => by omega))
    · have y1 : xS g' k = xS g k := by rw [xS, tn k e]; rfl
      have y4 : xL g' k = xL g k := by rw [xL, tn k e]; rfl
      have ne : yX c.1 k ≠ yX c.1 i := fun y => e (bk.2.1 k i hk h2 y)
      refine ⟨⟨?_, by rw [y1]; exact x1.2⟩, x2.fr q.1 (fun f hf q => ?_) (fun f a hf ha => nc f a (fun y => by rw [y] at hf; exact absurd hf (by decide)) (fun y => by rw [y] at hf; exact absurd hf (by decide)) (fun _ y => ?_)) (no _ rfl) (tn k e), by rw [y4]; exact x3⟩
      · rw [y1, q.1.I (fun q => ?_)]
        · exact x1.1
        · rcases q with ⟨-, q⟩ | ⟨q, -⟩
          · exact ne q
          · exact absurd q (by decide)
      · rcases q with ⟨-, q⟩ | ⟨q, -⟩
        · exact ne q
        · rw [q] at hf; exact absurd hf (by decide)
      · obtain ⟨d8, d9⟩ := (ly.2.2 k hk).2.2 i h2
        have := (d9 e).1
        omega
  · by_cases e : k = i
    · subst e
      exact ⟨by rw [xS, ti], by rw [xR, ti]⟩
    · have := r4 k k1 (by omega)
      exact ⟨by rw [xS, tn k e]; exact this.1, by rw [xR, tn k e]; exact this.2⟩
  · obtain ⟨x1, x2⟩ := r8 j hj
    have := ((ly.1 j hj).2 i h2).1
    refine ⟨x1.fr q.1 (no _ rfl) (fun f a hf q1 q2 => nc f a (fun y => by rw [y] at hf; exact absurd hf (by decide)) (fun y => by rw [y] at hf; exact absurd hf (by decide)) (fun _ y => by omega)) (fun p _ _ _ => ⟨rfl, fun x hx => tg p x (by simp) hx⟩) (by rw [tw]), by unfold wK at x2 ⊢; rw [tw]; exact x2⟩
  · have := (ly.2.2 i h2).1
    omega
theorem together_ok {g : Gg} {h : AH} {l : List Nat} {o : Lc} {S Pm RB VA nv wn u tn : Nat} {wv : Nat → Nat} (r : GRM c z G B (zf z) g h l o) (hF : ∀ t r, z.2.1 t r → r.2.2.1.length ≤ 26) (hG : ∀ t s, z.2.2.1 t s → gas s ≤ 20000) (h8 : zn z ≤ 8) (hn : 0 < zn z) (h32 : zl z ≤ 32) (hfl : zf z ≤ zl z) (hS : (20002 + 28 * 33) * 8 + 8 ≤ S) (hPm : (zl z - zf z) * (5 * S) + 5 * S ≤ Pm) (hRB : RB < 2147483648) (hRB2 : 1 + (wn + Pm) ≤ RB) (hd : 1 ≤ d) (nPU : ∀ f a, [9, 8, 10000 + 97, 29, 30].contains f = true → ¬ PU f a) (wf : WVF h (yA c.1) VA nv wn wv) (hu : h.I 29 (yA c.1) = nI u ∧ u < 150000) (htn : h.I 30 (yA c.1) = nI tn ∧ tn < zn z) (hst : ∀ g h l o j (K : Outcome → AH → Prop), GRL c z G B g h l o → IVG z g → I2 g h → (∀ k, zf z ≤ k → k < zl z → xR g k < 2147483648) → j < zn z → (∀ h' g' l' o', GST z g j g' → GRL c z G B g' h' l' o' → I2 g' h' → Fr PU h h' → K (.returned none) h') → MW G (d - 1) e_X1_step [.ref (yA c.1), .ref (yW c.1 j)] h K) (hI2 : ∀ g h h', Fr (fun f _ => f = 29 ∨ f = 30) h h' → I2 g h → I2 g h') (hI0 : ∀ g h', (∀ k, k < 32 → xL g k = []) → (∀ k, zf z ≤ k → k < zl z → xS g k = 0) → Fr (fun f _ => [2703, 1025, 2702, 10, 11, 12].contains f = true) h h' → I2 g h') (kk : ∀ h' g' l' o', GRL c z G B g' h' l' o' → IVG z g' → I2 g' h' → PRE z g' (zl z) → (∀ k, zf z ≤ k → k < zl z → xR g' k < 2147483648) → Fr (fun f a => PTg PU c.1 f a ∨ [2703, 1025, 2702, 10, 11, 12].contains f = true) h h' → (∀ j, j < zn z → wK g' j = 0) → (∃ u tn, h'.I 29 (yA c.1) = nI u ∧ u < 150000 ∧ h'.I 30 (yA c.1) = nI tn ∧ tn < zn z) → K (.returned none) h') : MW G d e_X1_together [.ref (yA c.1)] h K := by
  refine st_X1_together fun XX oo hG' hD' _ => ?_
  subst hG'; subst hD'
  obtain ⟨⟨⟨⟨⟨a1, a2, a3, a4, a5, a6⟩, a7⟩, ⟨b1, b2, b3⟩, -⟩, ly⟩, -⟩ := id r
  refine k_X1_together_0 (r2 := b2) (r4 := b2) (r6 := b2) oo ?_
  generalize hh1 : ((h.sI 10 (yA c.1) (nI (zf z))).sI 11 (yA c.1) (nI (zf z))).sI 12 (yA c.1) (nI 0) = h1
  have q1 : Fq (fun f a => (f = 10 ∨ f = 11 ∨ f = 12) ∧ a = yA c.1) h h1 := by
    rw [← hh1]
    exact Fq.sI (Fq.sI (Fq.sI (Fq.refl h) ⟨Or.inl rfl, rfl⟩) ⟨Or.inr (Or.inl rfl), rfl⟩) ⟨Or.inr (Or.inr rfl), rfl⟩
  have n1 : ∀ l : List Nat, l.all (fun f => !([10, 11, 12].contains f)) = true → ∀ f a, l.contains f = true → ¬ ((f = 10 ∨ f = 11 ∨ f = 12) ∧ a = yA c.1) := fun l hl f a hf q => by
    rw [List.all_eq_true] at hl
    have := hl f (List.contains_iff_mem.mp hf)
    rcases q.1 with q | q | q <;> (rw [q] at this; exact absurd this (by decide))
  have r1 : GRM c z XX.G B (zf z) (uQl g (zf z) (zf z)) h1 l o := r.frm q1 (n1 _ (by decide)) (fun f a y q => by
    rcases q.1 with q | q | q <;> (rw [q] at y; exact VQ.no (l := [10, 11, 12]) rfl _ _ rfl y))
  have t1 : h1.I 10 (yA c.1) = nI (zf z) := by rw [← hh1]; simp [n_sI, z_sI, tag_sI, I_sI, J_sI, R_sI, EI_sI, EJ_sI, ER_sI, n_sJ, z_sJ, tag_sJ, I_sJ, J_sJ, R_sJ, EI_sJ, EJ_sJ, ER_sJ, n_sR, z_sR, tag_sR, I_sR, J_sR, R_sR, EI_sR, EJ_sR, ER_sR, n_sEI, z_sEI, tag_sEI, I_sEI, J_sEI, R_sEI, EI_sEI, EJ_sEI, ER_sEI, n_sEJ, z_sEJ, tag_sEJ, I_sEJ, J_sEJ, R_sEJ, EI_sEJ, EJ_sEJ, ER_sEJ, n_sER, z_sER, tag_sER, I_sER, J_sER, R_sER, EI_sER, EJ_sER, ER_sER, n_nw, z_nw, tag_nw, I_nw, J_nw, R_nw, EI_nw, EJ_nw, ER_nw]
  have t2 : h1.I 11 (yA c.1) = nI (zf z) := by rw [← hh1]; simp [n_sI, z_sI, tag_sI, I_sI, J_sI, R_sI, EI_sI, EJ_sI, ER_sI, n_sJ, z_sJ, tag_sJ, I_sJ, J_sJ, R_sJ, EI_sJ, EJ_sJ, ER_sJ, n_sR, z_sR, tag_sR, I_sR, J_sR, R_sR, EI_sR, EJ_sR, ER_sR, n_sEI, z_sEI, tag_sEI, I_sEI, J_sEI, R_sEI, EI_sEI, EJ_sEI, ER_sEI, n_sEJ, z_sEJ, tag_sEJ, I_sEJ, J_sEJ, R_sEJ, EI_sEJ, EJ_sEJ, ER_sEJ, n_sER, z_sER, tag_sER, I_sER, J_sER, R_sER, EI_sER, EJ_sER, ER_sER, n_nw, z_nw, tag_nw, I_nw, J_nw, R_nw, EI_nw, EJ_nw, ER_nw]
  have t3 : h1.I 12 (yA c.1) = nI 0 := by rw [← hh1]; simp [n_sI, z_sI, tag_sI, I_sI, J_sI, R_sI, EI_sI, EJ_sI, ER_sI, n_sJ, z_sJ, tag_sJ, I_sJ, J_sJ, R_sJ, EI_sJ, EJ_sJ, ER_sJ, n_sR, z_sR, tag_sR, I_sR, J_sR, R_sR, EI_sR, EJ_sR, ER_sR, n_sEI, z_sEI, tag_sEI, I_sEI, J_sEI, R_sEI, EI_sEI, EJ_sEI, ER_sEI, n_sEJ, z_sEJ, tag_sEJ, I_sEJ, J_sEJ, R_sEJ, EI_sEJ, EJ_sEJ, ER_sEJ, n_sER, z_sER, tag_sER, I_sER, J_sER, R_sER, EI_sER, EJ_sER, ER_sER, n_nw, z_nw, tag_nw, I_nw, J_nw, R_nw, EI_nw, EJ_nw, ER_nw]
  have w1 := wf.fr q1.1 (n1 _ rfl)
  have u1 : h1.I 29 (yA c.1) = nI u := by rw [q1.1.I (n1 [29] rfl _ _ rfl)]; exact hu.1
  have m1 : h1.I 30 (yA c.1) = nI tn := by rw [q1.1.I (n1 [30] rfl _ _ rfl)]; exact htn.1
  have f1 : Fr (fun f _ => [2703, 1025, 2702, 10, 11, 12].contains f = true) h h1 := q1.1.mono fun f a q => (by rcases q.1 with q | q | q <;> (rw [q]; rfl))
  have g1 : qR (uQl g (zf z) (zf z)) = zf z := rfl
  have g2 : qL (uQl g (zf z) (zf z)) = zf z := rfl
  generalize uQl g (zf z) (zf z) = g0 at r1 g1 g2
  have key : ∀ n i, n + i = zl z → zf z ≤ i → ∀ g2 h2, GRM c z XX.G B i g2 h2 l o → qR g2 = zf z → qL g2 = zf z → h2.I 10 (yA c.1) = nI (zf z) → h2.I 11 (yA c.1) = nI (zf z) → h2.I 12 (yA c.1) = nI 0 → WVF h2 (yA c.1) VA nv wn wv → h2.I 29 (yA c.1) = nI u → h2.I 30 (yA c.1) = nI tn → Fr (fun f _ => [2703, 1025, 2702, 10, 11, 12].contains f = true) h h2 → V XX K 26 [.ref (yA c.1), .int (nI i)] [] h2 := by
    intro n
    induction n with
    | zero =>
      intro i hi hfi g2 h2 r2 c1 c2 c3 c4 c5 c6 c7 c8 c9
      have e : i = zl z := by omega
      subst e
      have l2 : h2.I 6 (yA c.1) = nI (zl z) := r2.1.1.2.1.2.2
      have t02 := r2.1.1.1.1.1
      refine k_X1_together_26 (r2 := l2) oo (fun _ => ?_) (fun q => absurd (Int32.le_refl _) q)
      have rg := r2.grl (x3 := 0) rfl (by rw [c1]; exact c3) (by rw [c2]; exact c4) c5
      have iv : IVG z g2 := IVG.ini r2.2.2.1 (fun k k1 k2 => (r2.2.1 k (by omega)).2.2) (fun j hj => (r2.2.2.2.1 j hj).2) c1 c2 hfl h32
      refine GRL.lop (S := S) (Pm := Pm) (RB := RB) (I2 := I2) oo hF hG h8 hn h32 hfl hS hPm hRB hd nPU hst hI2 (fun h' g' l' o' x1 x2 x3 x4 x5 x6 x7 x8 => kk h' g' l' o' x1 x2 x3 x4 x5 ((c9.mono fun f a q => Or.inr q).trans (x6.mono fun f a q => Or.inl q)) x7 x8) (wn + Pm) g2 h2 l o u tn _ rg iv (hI0 g2 h2 (fun k hk => (r2.2.1 k hk).2.2) (fun k k1 k2 => (r2.2.2.1 k k1 k2).1) c9) c6 ⟨c7, hu.2⟩ ⟨c8, htn.2⟩ ?_ (fun k k1 k2 => by have := (r2.2.2.1 k k1 k2).2; omega) (Fr.refl h2)
      by_cases cu : u < wn
      · exact Or.inl ⟨cu, by omega⟩
      · obtain ⟨v, v1, v2⟩ := MSN.ex (S := S) (u := tn) iv h32 htn.2 h8 hS (zl z - zf z) (zf z) (by omega) (Nat.le_refl _) (fun t t1 t2 => by omega)
        exact Or.inr ⟨cu, v2.mono (by omega)⟩
    | succ n ih =>
      intro i hi hfi g2 h2 r2 c1 c2 c3 c4 c5 c6 c7 c8 c9
      obtain ⟨⟨⟨⟨d1, d2, d3, d4, d5, d6⟩, d7⟩, ⟨e1, e2, e3⟩, -⟩, -⟩ := r2.1
      obtain ⟨x1, x2, x3, x4⟩ := e1.2.2 i (by omega)
      have tB := e1.1
      have tL := (r2.2.1 i (by omega)).2.1.2.1.1.1.1.1
      have ix : IX (nI i) 32 i := IX.mk (by omega) (by omega)
      refine k_X1_together_26 (r2 := e3) oo (fun q => absurd ((nI_leI (by omega) (by omega)).mp q) (by omega)) (fun _ => ?_)
      refine k_X1_together_34 oo ?_
      rw [nI_add]
      have r3 := r2.set hfi (by omega)
      have q3 : Fr (fun f a => ((f = 2702 ∨ f = 2703) ∧ a = yX c.1 i) ∨ (f = 1025 ∧ a = yL c.1 i)) h2 (((h2.sI 2702 (yX c.1 i) (nI 0)).sI 2703 (yX c.1 i) (nI 1)).sI 1025 (yL c.1 i) (nI 0)) := (Fq.sI (Fq.sI (Fq.sI (Fq.refl h2) (Or.inl ⟨Or.inl rfl, rfl⟩)) (Or.inl ⟨Or.inr rfl, rfl⟩)) (Or.inr ⟨rfl, rfl⟩)).1
      have n3 : ∀ l : List Nat, l.all (fun f => !([2702, 2703, 1025].contains f)) = true → ∀ f a, l.contains f = true → ¬ (((f = 2702 ∨ f = 2703) ∧ a = yX c.1 i) ∨ (f = 1025 ∧ a = yL c.1 i)) := fun l hl f a hf q => by
        rw [List.all_eq_true] at hl
        have := hl f (List.contains_iff_mem.mp hf)
        rcases q with ⟨q | q, -⟩ | ⟨q, -⟩ <;> (rw [q] at this; exact absurd this (by decide))
      refine ih (i + 1) (by omega) (by omega) _ _ r3 c1 c2 (by rw [q3.I (n3 [10] rfl _ _ rfl)]; exact c3) (by rw [q3.I (n3 [11] rfl _ _ rfl)]; exact c4) (by rw [q3.I (n3 [12] rfl _ _ rfl)]; exact c5) (c6.fr q3 (n3 _ rfl)) (by rw [q3.I (n3 [29] rfl _ _ rfl)]; exact c7) (by rw [q3.I (n3 [30] rfl _ _ rfl)]; exact c8) (c9.trans (q3.mono fun f a q => ?_))
      rcases q with ⟨q | q, -⟩ | ⟨q, -⟩
      · rw [q]; rfl
      · rw [q]; rfl
      · rw [q]; rfl
  exact key (zl z - zf z) (zf z) (by omega) (Nat.le_refl _) g0 h1 r1 g1 g2 t1 t2 t3 w1 u1 m1 f1
end
