/-! all transactions at once: a worker looks on -/
section
variable {c : Cy} {z : Cz} {G : Gt} {B d : Nat} {g g' : Gg} {h h' : AH} {l l' : List Nat} {o o' : Lc} {j t : Nat} {K : Outcome → AH → Prop}
theorem GRL.wrd (r : GRL c z G B g h l o) (hj : j < zn z) (h1 : zf z ≤ t) (hst : ∀ x ∈ zst z, x.1.1 < 4) : WRD h o (yA c.1) (yW c.1 j) (yB c.1) t c.2.1 (zf z) (zst z) (xL g) (xN g) := by
  obtain ⟨⟨⟨⟨a1, a2, a3, a4, a5, a6⟩, -⟩, ⟨b1, b2, b3⟩, -⟩, ⟨ly1, ly2, ly3⟩, -, tx, wk, et, wd, v, sup⟩ := id r
  obtain ⟨f1, f2⟩ := ly1 j hj
  refine ⟨⟨yE c.1, a5, et, by omega⟩, ⟨b2, h1, hst⟩, fun k hk => ?_⟩
  obtain ⟨x1, x2, x3, x4⟩ := b1.2.2 k hk
  obtain ⟨⟨y1, y2⟩, y3, -⟩ := tx k hk
  obtain ⟨f3, f4⟩ := f2 k hk
  exact ⟨yX c.1 k, yL c.1 k, x1, x2, x3, y1, y3, by omega⟩
theorem PLo.pg : ∀ f a, PLo (yA c.1) (yW c.1 j) (yX c.1 t) (yL c.1 t) f a → PG c.1 j t f a := fun f a z => by
  rcases z with (⟨z | z, -⟩ | ⟨z | z, z2⟩ | ⟨z, z2, z3⟩) | ⟨z | z, z2⟩ | ⟨z, -⟩
  · rw [z]; exact Or.inr (Or.inr (Or.inr (Or.inr rfl)))
  · rw [z]; exact Or.inr (Or.inr (Or.inr (Or.inr rfl)))
  · rw [z]; exact Or.inr (Or.inr (Or.inr (Or.inl ⟨rfl, Or.inl z2⟩)))
  · rw [z]; exact Or.inr (Or.inr (Or.inr (Or.inr rfl)))
  · rw [z]; exact Or.inr (Or.inr (Or.inl ⟨rfl, Or.inl ⟨by omega, by omega⟩⟩))
  · rw [z]; exact Or.inr (Or.inl ⟨rfl, by omega, by omega⟩)
  · rw [z]; exact Or.inr (Or.inl ⟨rfl, by omega, by omega⟩)
  · rw [z]; exact Or.inr (Or.inr (Or.inr (Or.inr rfl)))
theorem PLo.no {A W X LA : Nat} {l : List Nat} (h : l.all (fun f => !([11, 10, 2703, 2702, 1164, 2435, 2432, 12].contains f)) = true) : ∀ f a, l.contains f = true → ¬ PLo A W X LA f a := fun f a hf z => by
  rw [List.all_eq_true] at h
  have := h f (List.contains_iff_mem.mp hf)
  rcases z with (⟨z | z, -⟩ | ⟨z | z, -⟩ | ⟨z, -⟩) | ⟨z | z, -⟩ | ⟨z, -⟩ <;> (rw [z] at this; exact absurd this (by decide))
theorem GRL.look (r : GRL c z G B g h l o) (iv : IVG z g) (hj : j < zn z) (h8 : zn z ≤ 8) (h32 : zl z ≤ 32) (hst : ∀ x ∈ zst z, x.1.1 < 4) (hb : ∀ k, zf z ≤ k → k < zl z → xR g k < 2147483648) (hk : wK g j = 2) (rW : h.R 26 (yA c.1) = some (yW c.1 j)) (hd : 5 ≤ d) (kk : ∀ h' g', GST z g j g' → GRL c z G B g' h' l o → Fr (PG c.1 j (wT g j)) h h' → K (.returned none) h') : MW G d e_X1_lookOn [.ref (yA c.1)] h K := by
  obtain ⟨⟨⟨⟨a1, a2, a3, a4, a5, a6⟩, -⟩, ⟨b1, b2, b3⟩, -⟩, ly, ⟨s1, s2, s3, s4⟩, tx, wk, et, wd, v, sup⟩ := id r
  obtain ⟨⟨w1, w2, w3, w4, w5⟩, w6, -⟩ := wk j hj
  have idw := w6 (fun q => by omega)
  have dd := iv.2.2.2
  obtain ⟨-, i2, -, i4⟩ := iv.2.1 j hj
  obtain ⟨i5, i6⟩ := i2 (by omega)
  obtain ⟨i7, i8, i9⟩ := i4 hk
  have bR := hb _ i5 i6
  have w3 := w3 (by omega)
  obtain ⟨w4, w7⟩ := w4 hk
  have t32 : wT g j < 32 := by omega
  obtain ⟨⟨y1, y2⟩, y3, y4, y5⟩ := tx (wT g j) t32
  have bl := bsy_l (g := g) (k := zn z)
  have bp := bsy_p (g := g) (j := j) (by omega) hj
  have en : xN g (wT g j) = nI (wN g j) → xR g (wT g j) = wN g j := fun q => (nI_eq (by omega) (by omega)).mp q
  refine lookOn_ok (sx := xS g (wT g j)) (R := qR g) (Tl := qL g) (wr := nI (wN g j)) (b := nI (bsy g (zn z))) (rs := xD g (wT g j)) a1 rW w1.1.1 a3 b1 (r.wrd hj i5 hst) t32 w3 w4 w7 (fun q1 q2 => (i8 (en q2).symm).2) (by omega) (s1 _ t32).1 (s1 _ t32).2 y4 s2 (by omega) s3 (by omega) s4 (by omega) (fun h' q f e1 e2 => ?_) (fun h' x q1 q2 q3 q4 f e1 => ?_) (fun h' x q1 q2 q3 q4 f e1 e2 e3 e4 e5 e6 e7 => ?_)
  · have no : ∀ l : List Nat, l.all (fun f => !([2432, 12].contains f)) = true → ∀ g a, l.contains g = true → ¬ ((g = 2432 ∧ a = yW c.1 j) ∨ (g = 12 ∧ a = yA c.1)) := fun l hl g a hg z => by
      rw [List.all_eq_true] at hl
      have := hl g (List.contains_iff_mem.mp hg)
      rcases z with z | z <;> (rw [z.1] at this; exact absurd this (by decide))
    obtain ⟨v', tg⟩ := v.oth f (fun g a y z => by
      rcases z with z | z <;> (rw [z.1] at y; exact VQ.no (l := [2432, 12]) rfl _ _ rfl y))
    have q0 : Fr (PG0 c.1 j) h h' := f.1.mono fun g a z => by
      rcases z with ⟨z, z2⟩ | ⟨z, -⟩
      · rw [z, z2]; exact Or.inr (Or.inl ⟨rfl, by omega, by omega⟩)
      · rw [z]; exact Or.inr (Or.inr rfl)
    have iw : IDW h' o j (yW c.1 j) := idw.far f.1 (no _ rfl) (fun g a hg _ _ => no (fmF ++ enF ++ [2438, 2439, 2441]) rfl g a hg) (fun _ _ _ _ => rfl)
    have eo : ∀ i, i ≠ j → (uWk g j ((0, wT g j, wN g j, wL g j, wB g j), wM g j, wS g j)).2.1 i = g.2.1 i := fun i hi => if_neg hi
    have ej : (uWk g j ((0, wT g j, wN g j, wL g j, wB g j), wM g j, wS g j)).2.1 j = ((0, wT g j, wN g j, wL g j, wB g j), wM g j, wS g j) := if_pos rfl
    have g1 : (uWk g j ((0, wT g j, wN g j, wL g j, wB g j), wM g j, wS g j)).1 = g.1 := rfl
    have g2 : qR (uWk g j ((0, wT g j, wN g j, wL g j, wB g j), wM g j, wS g j)) = qR g := rfl
    have g3 : qL (uWk g j ((0, wT g j, wN g j, wL g j, wB g j), wM g j, wS g j)) = qL g := rfl
    generalize uWk g j ((0, wT g j, wN g j, wL g j, wB g j), wM g j, wS g j) = g' at eo ej g1 g2 g3
    have ek : wK g' j = 0 := by unfold wK; rw [ej]
    have bu := bsy_u hj eo
    rw [if_neg (by omega), if_pos ek] at bu
    refine kk h' g' ⟨eo, Or.inr (Or.inr (Or.inr (Or.inr (Or.inr (Or.inr (Or.inl ⟨hk, ek, ?_, g1, g2, g3⟩))))))⟩ (r.asm0 q0 v' sup (fun p _ => ⟨rfl, fun x hx => tg p x (by simp) hx⟩) hj (fun k _ => ⟨by rw [g1], by unfold xR; rw [g1], by unfold xH; rw [g1], fun z => by unfold xS at z ⊢; rw [← g1]; exact z⟩) eo (fun k hk' => ?_) (by rw [g2, f.1.I (no [10] rfl _ _ rfl)]; exact s2) (by rw [g3, f.1.I (no [11] rfl _ _ rfl)]; exact s3) (by rw [e2, bsy_m bp (by omega)]; exact congrArg nI (by omega)) ⟨⟨iw.1.1, by rw [ek]; exact e1, fun q => absurd ek q, fun q => by omega, fun q => by omega⟩, fun _ => iw, fun q => by omega⟩ (wd.fr f.1 (fun a => no [27] rfl _ a rfl) (fun a => no [2306] rfl _ a rfl))) (q0.mono PG0.g)
    · rcases q with q | q | q
      · exact Or.inl q
      · exact Or.inr (Or.inl fun e => q (by unfold xN; rw [e]))
      · exact Or.inr (Or.inr q)
    · have : xS g' k = xS g k := by unfold xS; rw [g1]
      rw [this, f.1.I (no [2702] rfl _ _ rfl)]
      exact s1 k hk'
  · have no : ∀ l : List Nat, l.all (fun f => !(f == 2435)) = true → ∀ g a, l.contains g = true → ¬ (g = 2435 ∧ a = yW c.1 j) := fun l hl g a hg z => by
      rw [List.all_eq_true] at hl
      have := hl g (List.contains_iff_mem.mp hg)
      rw [z.1] at this; exact absurd this (by decide)
    obtain ⟨v', tg⟩ := v.oth f (fun g a y z => by rw [z.1] at y; exact VQ.no (l := [2435]) rfl _ _ rfl y)
    have q0 : Fr (PG0 c.1 j) h h' := f.1.mono fun g a z => by rw [z.1, z.2]; exact Or.inr (Or.inl ⟨rfl, by omega, by omega⟩)
    have iw : IDW h' o j (yW c.1 j) := idw.far f.1 (no _ rfl) (fun g a hg _ _ => no (fmF ++ enF ++ [2438, 2439, 2441]) rfl g a hg) (fun _ _ _ _ => rfl)
    have eo : ∀ i, i ≠ j → (uWk g j ((2, wT g j, wN g j, wL g j + 1, wB g j), wM g j, wS g j)).2.1 i = g.2.1 i := fun i hi => if_neg hi
    have ej : (uWk g j ((2, wT g j, wN g j, wL g j + 1, wB g j), wM g j, wS g j)).2.1 j = ((2, wT g j, wN g j, wL g j + 1, wB g j), wM g j, wS g j) := if_pos rfl
    have g1 : (uWk g j ((2, wT g j, wN g j, wL g j + 1, wB g j), wM g j, wS g j)).1 = g.1 := rfl
    have g2 : qR (uWk g j ((2, wT g j, wN g j, wL g j + 1, wB g j), wM g j, wS g j)) = qR g := rfl
    have g3 : qL (uWk g j ((2, wT g j, wN g j, wL g j + 1, wB g j), wM g j, wS g j)) = qL g := rfl
    generalize uWk g j ((2, wT g j, wN g j, wL g j + 1, wB g j), wM g j, wS g j) = g' at eo ej g1 g2 g3
    have ek : wK g' j = 2 := by unfold wK; rw [ej]
    have et' : wT g' j = wT g j := by rw [wT, ej]
    have en' : wN g' j = wN g j := by rw [wN, ej]
    have el' : wL g' j = wL g j + 1 := by rw [wL, ej]
    have bu := bsy_u hj eo
    rw [if_neg (by omega), ek, if_neg (by decide)] at bu
    refine kk h' g' ⟨eo, Or.inr (Or.inr (Or.inr (Or.inr (Or.inr (Or.inr (Or.inr (Or.inl ⟨hk, ⟨q1, en q2⟩, ⟨x, q3, q4⟩, g1, ⟨ek, et', en', el'⟩, g2, g3⟩)))))))⟩ (r.asm0 q0 v' sup (fun p _ => ⟨rfl, fun x hx => tg p x (by simp) hx⟩) hj (fun k _ => ⟨by rw [g1], by unfold xR; rw [g1], by unfold xH; rw [g1], fun z => by unfold xS at z ⊢; rw [← g1]; exact z⟩) eo (fun k hk' => ?_) (by rw [g2, f.1.I (no [10] rfl _ _ rfl)]; exact s2) (by rw [g3, f.1.I (no [11] rfl _ _ rfl)]; exact s3) (by rw [f.1.I (no [12] rfl _ _ rfl), s4]; exact congrArg nI (by omega)) ⟨⟨iw.1.1, by rw [ek, f.1.I (no [2432] rfl _ _ rfl), ← hk]; exact w2, fun _ => by rw [et', f.1.I (no [2433] rfl _ _ rfl)]; exact w3, fun _ => ⟨by rw [en', f.1.I (no [2434] rfl _ _ rfl)]; exact w4, by rw [el']; exact e1⟩, fun q => by omega⟩, fun _ => iw, fun q => by omega⟩ (wd.fr f.1 (fun a => no [27] rfl _ a rfl) (fun a => no [2306] rfl _ a rfl))) (q0.mono PG0.g)
    have : xS g' k = xS g k := by unfold xS; rw [g1]
    rw [this, f.1.I (no [2702] rfl _ _ rfl)]
    exact s1 k hk'
  · obtain ⟨v', tg⟩ := v.oth f (fun g a y z => by
      rcases z with (⟨z | z, -⟩ | ⟨z | z, -⟩ | ⟨z, -⟩) | ⟨z | z, -⟩ | ⟨z, -⟩ <;> (rw [z] at y; exact VQ.no (l := [11, 10, 2703, 2702, 1164, 2435, 2432, 12]) rfl _ _ rfl y))
    have q0 := f.1.mono (PLo.pg (c := c) (j := j) (t := wT g j))
    have iw : IDW h' o j (yW c.1 j) := idw.far f.1 (PLo.no rfl) (fun g a hg _ _ => PLo.no (l := fmF ++ enF ++ [2438, 2439, 2441]) rfl g a hg) (fun _ _ _ _ => rfl)
    have eo : ∀ i, i ≠ j → (uQl (uWk (uTx g (wT g j) ((0, xR g (wT g j) + 1, xH g (wT g j)), (xL g (wT g j)).map (fun x => (x.1, x.2.1, true)), (g.1 (wT g j)).2.2)) j ((0, wT g j, wN g j, wL g j, wB g j), wM g j, wS g j)) (min (qR g) (wT g j)) (min (qL g) (wT g j + 1))).2.1 i = g.2.1 i := fun i hi => if_neg hi
    have ej : (uQl (uWk (uTx g (wT g j) ((0, xR g (wT g j) + 1, xH g (wT g j)), (xL g (wT g j)).map (fun x => (x.1, x.2.1, true)), (g.1 (wT g j)).2.2)) j ((0, wT g j, wN g j, wL g j, wB g j), wM g j, wS g j)) (min (qR g) (wT g j)) (min (qL g) (wT g j + 1))).2.1 j = ((0, wT g j, wN g j, wL g j, wB g j), wM g j, wS g j) := if_pos rfl
    have tR : (uQl (uWk (uTx g (wT g j) ((0, xR g (wT g j) + 1, xH g (wT g j)), (xL g (wT g j)).map (fun x => (x.1, x.2.1, true)), (g.1 (wT g j)).2.2)) j ((0, wT g j, wN g j, wL g j, wB g j), wM g j, wS g j)) (min (qR g) (wT g j)) (min (qL g) (wT g j + 1))).1 (wT g j) = ((0, xR g (wT g j) + 1, xH g (wT g j)), (xL g (wT g j)).map (fun x => (x.1, x.2.1, true)), (g.1 (wT g j)).2.2) := if_pos rfl
    have tn : ∀ k, k ≠ wT g j → (uQl (uWk (uTx g (wT g j) ((0, xR g (wT g j) + 1, xH g (wT g j)), (xL g (wT g j)).map (fun x => (x.1, x.2.1, true)), (g.1 (wT g j)).2.2)) j ((0, wT g j, wN g j, wL g j, wB g j), wM g j, wS g j)) (min (qR g) (wT g j)) (min (qL g) (wT g j + 1))).1 k = g.1 k := fun k hk' => if_neg hk'
    have g2 : qR (uQl (uWk (uTx g (wT g j) ((0, xR g (wT g j) + 1, xH g (wT g j)), (xL g (wT g j)).map (fun x => (x.1, x.2.1, true)), (g.1 (wT g j)).2.2)) j ((0, wT g j, wN g j, wL g j, wB g j), wM g j, wS g j)) (min (qR g) (wT g j)) (min (qL g) (wT g j + 1))) = min (qR g) (wT g j) := rfl
    have g3 : qL (uQl (uWk (uTx g (wT g j) ((0, xR g (wT g j) + 1, xH g (wT g j)), (xL g (wT g j)).map (fun x => (x.1, x.2.1, true)), (g.1 (wT g j)).2.2)) j ((0, wT g j, wN g j, wL g j, wB g j), wM g j, wS g j)) (min (qR g) (wT g j)) (min (qL g) (wT g j + 1))) = min (qL g) (wT g j + 1) := rfl
    generalize uQl (uWk (uTx g (wT g j) ((0, xR g (wT g j) + 1, xH g (wT g j)), (xL g (wT g j)).map (fun x => (x.1, x.2.1, true)), (g.1 (wT g j)).2.2)) j ((0, wT g j, wN g j, wL g j, wB g j), wM g j, wS g j)) (min (qR g) (wT g j)) (min (qL g) (wT g j + 1)) = g' at eo ej tR tn g2 g3
    have ek : wK g' j = 0 := by unfold wK; rw [ej]
    have bu := bsy_u hj eo
    rw [if_neg (by omega), if_pos ek] at bu
    have z1 : xS g' (wT g j) = 0 := by unfold xS; rw [tR]
    have z2 : xR g' (wT g j) = xR g (wT g j) + 1 := by unfold xR; rw [tR]; rfl
    have z3 : xH g' (wT g j) = xH g (wT g j) := by rw [xH, tR]
    have z4 : xL g' (wT g j) = (xL g (wT g j)).map (fun x => (x.1, x.2.1, true)) := by rw [xL, tR]
    have z5 : xD g' (wT g j) = xD g (wT g j) := by rw [xD, tR]; rfl
    refine kk h' g' ⟨eo, Or.inr (Or.inr (Or.inr (Or.inr (Or.inr (Or.inr (Or.inr (Or.inr ⟨hk, ek, ⟨q1, en q2⟩, ⟨x, q3, q4⟩, tR, tn, g2, g3⟩)))))))⟩ (r.asm q0 v' sup (fun p _ _ => ⟨rfl, fun x hx => tg p x (by simp) hx⟩) hj t32 (fun k _ hkt => ?_) eo (fun k hk' => ?_) (by rw [g2]; exact e4) (by rw [g3]; exact e5) (by rw [e7, bsy_m bp (by omega)]; exact congrArg nI (by omega)) ⟨⟨?_, by rw [z3, f.1.I (PLo.no (l := [2704]) rfl _ _ rfl)]; exact y2⟩, by rw [z4]; exact e1, ?_, fun _ _ q => by omega⟩ ⟨⟨iw.1.1, by rw [ek]; exact e6, fun q => absurd ek q, fun q => by omega, fun q => by omega⟩, fun _ => iw, fun q => by omega⟩ (wd.fr f.1 (fun a => PLo.no (l := [27]) rfl _ a rfl) (fun a => PLo.no (l := [2306]) rfl _ a rfl))) q0
    · have := tn k hkt
      exact ⟨by rw [this], by unfold xR; rw [this], by unfold xH; rw [this], fun q => by unfold xS at q ⊢; rw [← this]; exact q⟩
    · by_cases e : k = wT g j
      · subst e
        rw [z1]; exact ⟨e3, by decide⟩
      · have e9 : xS g' k = xS g k := by rw [xS, tn k e]; rfl
        rw [e9]
        refine ⟨?_, (s1 k hk').2⟩
        rw [f.1.I ?_]
        · exact (s1 k hk').1
        · have ne : yX c.1 k ≠ yX c.1 (wT g j) := fun q => e (b1.2.1 k _ hk' t32 q)
          rintro ((⟨z | z, -⟩ | ⟨z | z, z2⟩ | ⟨z, -⟩) | ⟨z | z, -⟩ | ⟨z, -⟩)
          · exact absurd z (by decide)
          · exact absurd z (by decide)
          · exact absurd z (by decide)
          · exact ne z2
          · exact absurd z (by decide)
          · exact absurd z (by decide)
          · exact absurd z (by decide)
          · exact absurd z (by decide)
    · rw [e2, z2]
      unfold xN
      rw [nI_add]
    · rw [z5]
      exact y4.fr f.1 (PLo.no rfl) (fun f a hf _ _ => PLo.no (l := rdF) rfl f a hf)
end
