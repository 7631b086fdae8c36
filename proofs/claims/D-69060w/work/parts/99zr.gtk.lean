/-! all transactions at once: an idle worker takes something -/
def uTx (g : Gg) (k : Nat) (v : Tg) : Gg := (fun i => if i = k then v else g.1 i, g.2)
def uWk (g : Gg) (j : Nat) (v : Wg) : Gg := (g.1, fun i => if i = j then v else g.2.1 i, g.2.2)
def uQl (g : Gg) (R T : Nat) : Gg := (g.1, g.2.1, R, T)
section
variable {c : Cy} {z : Cz} {G : Gt} {B d : Nat} {g g' : Gg} {h h' : AH} {l l' : List Nat} {o o' : Lc} {j t : Nat} {K : Outcome → AH → Prop}
theorem GRL.asm0 (r : GRL c z G B g h l o) (q : Fr (PG0 c.1 j) h h') (v' : VH G B h' (yQ c.1) l' o') (sup : SUP (zn z) o') (ho : ∀ p : Sl, ¬ (1 ≤ p.1 ∧ p.1 ≤ 3 ∧ p.2.1 = j) → o' p = o p ∧ ∀ x, o p = some x → h'.R 3718 x.1 = h.R 3718 x.1) (hj : j < zn z) (eT : ∀ k, k < 32 → (g'.1 k).2 = (g.1 k).2 ∧ xR g' k = xR g k ∧ xH g' k = xH g k ∧ (xS g' k = 2 → xS g k = 2)) (eW : ∀ i, i ≠ j → g'.2.1 i = g.2.1 i) (hs : ∀ k, k < 32 → h'.I 2702 (yX c.1 k) = nI (xS g' k) ∧ xS g' k < 4) (e1 : h'.I 10 (yA c.1) = nI (qR g')) (e2 : h'.I 11 (yA c.1) = nI (qL g')) (e3 : h'.I 12 (yA c.1) = nI (bsy g' (zn z))) (wk : GWK c g' h' o' j) (wd : WDR h' (yA c.1)) : GRL c z G B g' h' l' o' := by
  obtain ⟨k1, k2, k3, k4⟩ := r.rest0 (g' := g') q ho hj eT eW
  refine ⟨k1, r.2.1, ⟨hs, e1, e2, e3⟩, k2, fun i hi => ?_, k4, wd, v', sup⟩
  by_cases e : i = j
  · rw [e]; exact wk
  · exact k3 i hi e
theorem GRL.asmE {E : Nat → Nat → Prop} (nE : ∀ f a, grlF.contains f = true → ¬ E f a) (r : GRL c z G B g h l o) (q : Fr (fun f a => PG c.1 j t f a ∨ E f a) h h') (v' : VH G B h' (yQ c.1) l' o') (sup : SUP (zn z) o') (ho : ∀ p : Sl, ¬ (1 ≤ p.1 ∧ p.1 ≤ 3 ∧ p.2.1 = j) → ¬ (p.1 = 4 ∧ p.2.1 = t) → o' p = o p ∧ ∀ x, o p = some x → h'.R 3718 x.1 = h.R 3718 x.1) (hj : j < zn z) (ht : t < 32) (eT : ∀ k, k < 32 → k ≠ t → (g'.1 k).2 = (g.1 k).2 ∧ xR g' k = xR g k ∧ xH g' k = xH g k ∧ (xS g' k = 2 → xS g k = 2)) (eW : ∀ i, i ≠ j → g'.2.1 i = g.2.1 i) (hs : ∀ k, k < 32 → h'.I 2702 (yX c.1 k) = nI (xS g' k) ∧ xS g' k < 4) (e1 : h'.I 10 (yA c.1) = nI (qR g')) (e2 : h'.I 11 (yA c.1) = nI (qL g')) (e3 : h'.I 12 (yA c.1) = nI (bsy g' (zn z))) (tx : GTX c z g' h' o' t) (wk : GWK c g' h' o' j) (wd : WDR h' (yA c.1)) : GRL c z G B g' h' l' o' := by
  obtain ⟨k1, k2, k3, k4⟩ := r.restE (g' := g') nE q ho hj ht eT eW
  refine ⟨k1, r.2.1, ⟨hs, e1, e2, e3⟩, fun k hk => ?_, fun i hi => ?_, k4, wd, v', sup⟩
  · by_cases e : k = t
    · rw [e]; exact tx
    · exact k2 k hk e
  · by_cases e : i = j
    · rw [e]; exact wk
    · exact k3 i hi e
theorem GRL.asm (r : GRL c z G B g h l o) (q : Fr (PG c.1 j t) h h') (v' : VH G B h' (yQ c.1) l' o') (sup : SUP (zn z) o') (ho : ∀ p : Sl, ¬ (1 ≤ p.1 ∧ p.1 ≤ 3 ∧ p.2.1 = j) → ¬ (p.1 = 4 ∧ p.2.1 = t) → o' p = o p ∧ ∀ x, o p = some x → h'.R 3718 x.1 = h.R 3718 x.1) (hj : j < zn z) (ht : t < 32) (eT : ∀ k, k < 32 → k ≠ t → (g'.1 k).2 = (g.1 k).2 ∧ xR g' k = xR g k ∧ xH g' k = xH g k ∧ (xS g' k = 2 → xS g k = 2)) (eW : ∀ i, i ≠ j → g'.2.1 i = g.2.1 i) (hs : ∀ k, k < 32 → h'.I 2702 (yX c.1 k) = nI (xS g' k) ∧ xS g' k < 4) (e1 : h'.I 10 (yA c.1) = nI (qR g')) (e2 : h'.I 11 (yA c.1) = nI (qL g')) (e3 : h'.I 12 (yA c.1) = nI (bsy g' (zn z))) (tx : GTX c z g' h' o' t) (wk : GWK c g' h' o' j) (wd : WDR h' (yA c.1)) : GRL c z G B g' h' l' o' :=
  r.asmE (E := fun _ _ => False) (fun _ _ _ y => y) (q.mono fun f a y => Or.inl y) v' sup ho hj ht eT eW hs e1 e2 e3 tx wk wd
/-- busy workers: one more, one less, the same -/
theorem bsy_u (hj : j < zn z) (eW : ∀ i, i ≠ j → g'.2.1 i = g.2.1 i) : bsy g' (zn z) + (if wK g j = 0 then 0 else 1) = bsy g (zn z) + (if wK g' j = 0 then 0 else 1) := by
  have := bsy_e (g := g) (g' := g') (j := j) (fun i hi => by unfold wK; rw [eW i hi]) (zn z)
  rw [if_pos hj] at this
  exact this
theorem bsy_m {b : Nat} (h1 : 1 ≤ b) (h2 : b ≤ 8) : nI b - nI 1 = nI (b - 1) := by rw [nI_sub (by omega)]
theorem PTk.pg0 : ∀ f a, PTk (yA c.1) (yW c.1 j) f a → PG0 c.1 j f a := fun f a z => by
  rcases z with ⟨z | z | z, -⟩ | ⟨z | z | z | z | z, z2⟩ | z
  · rw [z]; exact Or.inr (Or.inr rfl)
  · rw [z]; exact Or.inr (Or.inr rfl)
  · rw [z]; exact Or.inr (Or.inr rfl)
  · rw [z, z2]; exact Or.inr (Or.inl ⟨rfl, by omega, by omega⟩)
  · rw [z, z2]; exact Or.inr (Or.inl ⟨rfl, by omega, by omega⟩)
  · rw [z, z2]; exact Or.inr (Or.inl ⟨rfl, by omega, by omega⟩)
  · rw [z, z2]; exact Or.inr (Or.inl ⟨rfl, by omega, by omega⟩)
  · rw [z, z2]; exact Or.inr (Or.inl ⟨rfl, by omega, by omega⟩)
  · rw [z]; exact Or.inr (Or.inr rfl)
theorem GRL.take (r : GRL c z G B g h l o) (iv : IVG z g) (hj : j < zn z) (h8 : zn z ≤ 8) (h32 : zl z ≤ 32) (hk : wK g j = 0) (rW : h.R 26 (yA c.1) = some (yW c.1 j)) (kk : ∀ h' g', GST z g j g' → GRL c z G B g' h' l o → Fr (PG0 c.1 j) h h' → K (.returned none) h') : MW G d e_X1_take [.ref (yA c.1)] h K := by
  obtain ⟨⟨⟨⟨a1, a2, a3, a4, a5, a6⟩, -⟩, ⟨b1, b2, b3⟩, -⟩, ly, ⟨s1, s2, s3, s4⟩, tx, wk, et, wd, v, sup⟩ := id r
  obtain ⟨⟨w1, w2, w3, w4, w5⟩, w6, -⟩ := wk j hj
  have idw := w6 (fun q => by omega)
  have dd := iv.2.2.2
  have bl := bsy_l (g := g) (k := zn z)
  refine wktake_ok (last := zl z) (R := qR g) (Tl := qL g) (st := xS g) (rn := xN g) (b := nI (bsy g (zn z))) a1 rW w1.1.1 a3 b1 b3 h32 s2 (by omega) s3 (by omega) s4 (fun k hk' => ⟨(s1 k hk').1, (s1 k hk').2, (tx k hk').1.1⟩) (fun h' T R f tk e1 e2 q1 q2 es eb => ?_) (fun h' T R f tk e1 e2 q1 q2 es eb ew => ?_) (fun h' T R f tk e1 e2 q1 q2 q3 es eb ew => ?_)
  · obtain ⟨v', tg⟩ := v.oth f (fun g a y z => PTk.no (l := [g]) (by
      rcases z with ⟨q | q | q, -⟩ | ⟨q | q | q | q | q, -⟩ | q <;> (rw [q] at y; exact absurd y (VQ.no (l := [11, 10, 12, 2432, 2433, 2434, 2435, 2436, 2702]) rfl _ _ rfl))) g a (by simp) z)
    have q0 := f.1.mono (PTk.pg0 (c := c) (j := j))
    have iw : IDW h' o j (yW c.1 j) := idw.far f.1 (PTk.no rfl) (fun g a hg _ _ => PTk.no (l := fmF ++ enF ++ [2438, 2439, 2441]) rfl g a hg) (fun _ _ _ _ => rfl)
    have bu : bsy (uQl g R T) (zn z) = bsy g (zn z) := by
      have := bsy_u (g := g) (g' := uQl g R T) hj (fun _ _ => rfl)
      rw [show wK (uQl g R T) j = wK g j from rfl] at this
      omega
    refine kk h' (uQl g R T) ⟨fun _ _ => rfl, Or.inl ⟨hk, rfl, rfl, tk, q1, q2⟩⟩ (r.asm0 q0 v' sup (fun p _ => ⟨rfl, fun x hx => tg p x (by simp) hx⟩) hj (fun k _ => ⟨rfl, rfl, rfl, fun z => z⟩) (fun _ _ => rfl) (fun k hk' => ⟨es k hk', (s1 k hk').2⟩) e2 e1 (by rw [bu]; exact eb.1) ⟨⟨iw.1.1, by rw [eb.2]; exact w2, fun q => absurd hk q, fun q => absurd (hk.symm.trans q) (by decide), fun q => absurd (hk.symm.trans q) (by decide)⟩, fun _ => iw, fun q => absurd (hk.symm.trans q) (by decide)⟩ (wd.fr f.1 (fun a => PTk.no (l := [27]) rfl _ a rfl) (fun a => PTk.no (l := [2306]) rfl _ a rfl))) q0
  · obtain ⟨v', tg⟩ := v.oth f (fun g a y z => PTk.no (l := [g]) (by
      rcases z with ⟨q | q | q, -⟩ | ⟨q | q | q | q | q, -⟩ | q <;> (rw [q] at y; exact absurd y (VQ.no (l := [11, 10, 12, 2432, 2433, 2434, 2435, 2436, 2702]) rfl _ _ rfl))) g a (by simp) z)
    have q0 := f.1.mono (PTk.pg0 (c := c) (j := j))
    have iw : IDW h' o j (yW c.1 j) := idw.far f.1 (PTk.no rfl) (fun g a hg _ _ => PTk.no (l := fmF ++ enF ++ [2438, 2439, 2441]) rfl g a hg) (fun _ _ _ _ => rfl)
    obtain ⟨x1, x2, x3, x4⟩ := ew
    have eo : ∀ i, i ≠ j → (uQl (uWk g j ((2, T, xR g T, 0, false), wM g j, wS g j)) R (T + 1)).2.1 i = g.2.1 i := fun i hi => if_neg hi
    have ej : (uQl (uWk g j ((2, T, xR g T, 0, false), wM g j, wS g j)) R (T + 1)).2.1 j = ((2, T, xR g T, 0, false), wM g j, wS g j) := if_pos rfl
    have ek : wK (uQl (uWk g j ((2, T, xR g T, 0, false), wM g j, wS g j)) R (T + 1)) j = 2 := by unfold wK; rw [ej]
    have et' : wT (uQl (uWk g j ((2, T, xR g T, 0, false), wM g j, wS g j)) R (T + 1)) j = T := by unfold wT; rw [ej]
    have en : wN (uQl (uWk g j ((2, T, xR g T, 0, false), wM g j, wS g j)) R (T + 1)) j = xR g T := by unfold wN; rw [ej]
    have el : wL (uQl (uWk g j ((2, T, xR g T, 0, false), wM g j, wS g j)) R (T + 1)) j = 0 := by unfold wL; rw [ej]
    have bu := bsy_u hj eo
    rw [if_pos hk, ek, if_neg (by decide)] at bu
    generalize hgg : uQl (uWk g j ((2, T, xR g T, 0, false), wM g j, wS g j)) R (T + 1) = g' at eo ej ek et' en el bu
    have g1 : g'.1 = g.1 := by rw [← hgg]; rfl
    have g2 : qR g' = R := by rw [← hgg]; rfl
    have g3 : qL g' = T + 1 := by rw [← hgg]; rfl
    refine kk h' g' ⟨eo, Or.inr (Or.inl ⟨hk, g1, ⟨T, by rw [g2]; exact tk, g3, by rw [g2]; exact q1, q2, et', en⟩, ek, el⟩)⟩ (r.asm0 q0 v' sup (fun p _ => ⟨rfl, fun x hx => tg p x (by simp) hx⟩) hj (fun k _ => ⟨by rw [g1], by unfold xR; rw [g1], by unfold xH; rw [g1], fun z => by unfold xS at z ⊢; rw [← g1]; exact z⟩) eo (fun k hk' => ?_) (by rw [g2]; exact e2) (by rw [g3]; exact e1) (by rw [eb, nI_add]; exact congrArg nI (by omega)) ⟨⟨iw.1.1, by rw [ek]; exact x1, fun _ => by rw [et']; exact x2, fun _ => ⟨by rw [en]; exact x3, by rw [el]; exact x4⟩, fun q => by omega⟩, fun _ => iw, fun q => by omega⟩ (wd.fr f.1 (fun a => PTk.no (l := [27]) rfl _ a rfl) (fun a => PTk.no (l := [2306]) rfl _ a rfl))) q0
    have : xS g' k = xS g k := by unfold xS; rw [g1]
    rw [this]
    exact ⟨es k hk', (s1 k hk').2⟩
  · obtain ⟨v', tg⟩ := v.oth f (fun g a y z => PTk.no (l := [g]) (by
      rcases z with ⟨q | q | q, -⟩ | ⟨q | q | q | q | q, -⟩ | q <;> (rw [q] at y; exact absurd y (VQ.no (l := [11, 10, 12, 2432, 2433, 2434, 2435, 2436, 2702]) rfl _ _ rfl))) g a (by simp) z)
    have q0 := f.1.mono (PTk.pg0 (c := c) (j := j))
    have iw : IDW h' o j (yW c.1 j) := idw.far f.1 (PTk.no rfl) (fun g a hg _ _ => PTk.no (l := fmF ++ enF ++ [2438, 2439, 2441]) rfl g a hg) (fun _ _ _ _ => rfl)
    obtain ⟨x1, x2, x3, x4⟩ := ew
    have eo : ∀ i, i ≠ j → (uQl (uWk (uTx g R ((1, xR g R, xH g R), (g.1 R).2)) j ((1, R, xR g R, 0, false), wM g j, wS g j)) (R + 1) T).2.1 i = g.2.1 i := fun i hi => if_neg hi
    have ej : (uQl (uWk (uTx g R ((1, xR g R, xH g R), (g.1 R).2)) j ((1, R, xR g R, 0, false), wM g j, wS g j)) (R + 1) T).2.1 j = ((1, R, xR g R, 0, false), wM g j, wS g j) := if_pos rfl
    have tR : (uQl (uWk (uTx g R ((1, xR g R, xH g R), (g.1 R).2)) j ((1, R, xR g R, 0, false), wM g j, wS g j)) (R + 1) T).1 R = ((1, xR g R, xH g R), (g.1 R).2) := if_pos rfl
    have tn : ∀ k, k ≠ R → (uQl (uWk (uTx g R ((1, xR g R, xH g R), (g.1 R).2)) j ((1, R, xR g R, 0, false), wM g j, wS g j)) (R + 1) T).1 k = g.1 k := fun k hk' => if_neg hk'
    have g2 : qR (uQl (uWk (uTx g R ((1, xR g R, xH g R), (g.1 R).2)) j ((1, R, xR g R, 0, false), wM g j, wS g j)) (R + 1) T) = R + 1 := rfl
    have g3 : qL (uQl (uWk (uTx g R ((1, xR g R, xH g R), (g.1 R).2)) j ((1, R, xR g R, 0, false), wM g j, wS g j)) (R + 1) T) = T := rfl
    generalize uQl (uWk (uTx g R ((1, xR g R, xH g R), (g.1 R).2)) j ((1, R, xR g R, 0, false), wM g j, wS g j)) (R + 1) T = g' at eo ej tR tn g2 g3
    have ek : wK g' j = 1 := by unfold wK; rw [ej]
    have et' : wT g' j = R := by unfold wT; rw [ej]
    have eB : wB g' j = false := by unfold wB; rw [ej]
    have bu := bsy_u hj eo
    rw [if_pos hk, ek, if_neg (by decide)] at bu
    refine kk h' g' ⟨eo, Or.inr (Or.inr (Or.inl ⟨hk, ⟨R, by rw [g3]; exact tk, g2, by rw [g3]; exact q1, q2, q3, et', tR, tn⟩, ek, eB⟩))⟩ (r.asm0 q0 v' sup (fun p _ => ⟨rfl, fun x hx => tg p x (by simp) hx⟩) hj (fun k _ => ?_) eo (fun k hk' => ?_) (by rw [g2]; exact e2) (by rw [g3]; exact e1) (by rw [eb, nI_add]; exact congrArg nI (by omega)) ⟨⟨iw.1.1, by rw [ek]; exact x1, fun _ => by rw [et']; exact x2, fun q => by omega, fun _ => by rw [eB]; exact x4⟩, fun _ => iw, fun _ q => by rw [eB] at q; cases q⟩ (wd.fr f.1 (fun a => PTk.no (l := [27]) rfl _ a rfl) (fun a => PTk.no (l := [2306]) rfl _ a rfl))) q0
    · by_cases e : k = R
      · subst e
        unfold xR xH xS
        rw [tR]
        exact ⟨rfl, rfl, rfl, fun q => absurd (show (1 : Nat) = 2 from q) (by decide)⟩
      · have := tn k e
        exact ⟨by rw [this], by unfold xR; rw [this], by unfold xH; rw [this], fun q => by unfold xS at q ⊢; rw [← this]; exact q⟩
    · have e0 := es k hk'
      by_cases e : k = R
      · subst e
        rw [if_pos rfl] at e0
        have : xS g' k = 1 := by unfold xS; rw [tR]
        rw [this]
        exact ⟨e0, by decide⟩
      · rw [if_neg e] at e0
        have : xS g' k = xS g k := by unfold xS; rw [tn k e]
        rw [this]
        exact ⟨e0, (s1 k hk').2⟩
end
