/-! all transactions at once: a run ends, or has to wait -/
/-- what a run may write before it ends -/
def PGM (y : Ly) (j t f a : Nat) : Prop := IPB (yW y j) f a ∨ PRx (yX y t) (y.2 7 t) (y.2 8 t) (y.2 9 t) f a ∨ (f = 2436 ∧ a = yW y j) ∨ (f = 2709 ∧ a = yX y t)
theorem PGM.pg {y : Ly} {j t : Nat} : ∀ f a, PGM y j t f a → PG y j t f a := fun f a z => by
  rcases z with ((z | ⟨z, z2⟩ | z) | ⟨z | z, z2⟩) | ⟨z, z2⟩ | ⟨z, z2⟩ | ⟨z, z2⟩
  · exact Or.inl z
  · refine Or.inr (Or.inl ⟨?_, z2⟩)
    have : ∀ f ∈ ipM, pgW.contains f = true := by decide
    exact this f (List.contains_iff_mem.mp z)
  · refine Or.inr (Or.inr (Or.inr (Or.inr ?_)))
    rw [List.contains_iff_mem] at z ⊢
    exact List.mem_append_left _ z
  · rw [z, z2]; exact Or.inr (Or.inl ⟨rfl, by omega, by omega⟩)
  · rw [z, z2]; exact Or.inr (Or.inl ⟨rfl, by omega, by omega⟩)
  · refine Or.inr (Or.inr (Or.inr (Or.inl ⟨?_, z2⟩)))
    rw [List.contains_iff_mem] at z ⊢
    exact List.mem_append_right _ z
  · rw [z, z2]; exact Or.inr (Or.inl ⟨rfl, by omega, by omega⟩)
  · rw [z]; exact Or.inr (Or.inr (Or.inr (Or.inl ⟨rfl, Or.inl z2⟩)))
theorem PGM.no {y : Ly} {j t : Nat} {l : List Nat} (h : l.all (fun f => !((3712 ≤ f && f ≤ 3718) || f == 1280 || (ipM ++ ipL).contains f)) = true) (h2 : l.all (fun f => !([2442, 2443].contains f)) = true) (h3 : l.all (fun f => !(resF.contains f || (f == 2436 || f == 2709))) = true) : ∀ f a, l.contains f = true → ¬ PGM y j t f a := fun f a hf z => by
  rw [List.all_eq_true] at h3
  have := h3 f (List.contains_iff_mem.mp hf)
  rw [Bool.not_eq_true', Bool.or_eq_false_iff] at this
  rcases z with z | ⟨z, -⟩ | ⟨z, -⟩ | ⟨z, -⟩
  · exact IPB.no h h2 f a hf z
  · rw [this.1] at z; cases z
  · rw [z] at this; exact absurd this.2 (by decide)
  · rw [z] at this; exact absurd this.2 (by decide)
/-- far from a worker -/
theorem PGM.far {y : Ly} {j t : Nat} {l : List Nat} (h : l.all (fun f => !((3712 ≤ f && f ≤ 3718) || f == 1280 || ipL.contains f || (2709 :: resF).contains f)) = true) {f a : Nat} (hf : l.contains f = true) (ha : a < yW y j ∨ yW y j + 130 ≤ a) : ¬ PGM y j t f a := fun z => by
  rw [List.all_eq_true] at h
  have := h f (List.contains_iff_mem.mp hf)
  simp only [Bool.not_eq_true', Bool.or_eq_false_iff] at this
  obtain ⟨⟨⟨t1, t2⟩, t3⟩, t4⟩ := this
  rcases z with ((z | ⟨-, z2⟩ | z) | ⟨-, z2⟩) | ⟨z, -⟩ | ⟨-, z2⟩ | ⟨z, -⟩
  · exact VQ.no (l := [f]) (by simp only [List.all_cons, List.all_nil, Bool.and_true]; rw [t1, t2]; rfl) f a (by simp) z
  · omega
  · rw [t3] at z; cases z
  · omega
  · have : f ∈ 2709 :: resF := List.mem_cons_of_mem _ (List.contains_iff_mem.mp z)
    rw [← List.contains_iff_mem, t4] at this; cases this
  · omega
  · rw [z] at t4; exact absurd t4 (by decide)
theorem PHo.pg {y : Ly} {j t : Nat} : ∀ f a, PHo (yA y) (yW y j) (yX y t) f a → PG y j t f a := fun f a z => by
  rcases z with (z | ⟨z, z2⟩) | ⟨z | z | z, z2⟩ | ⟨z, z2⟩ | ⟨z, -⟩
  · exact Or.inl z
  · refine Or.inr (Or.inl ⟨?_, z2⟩)
    have : ∀ f ∈ crF, pgW.contains f = true := by decide
    exact this f (List.contains_iff_mem.mp z)
  · rw [z]; exact Or.inr (Or.inr (Or.inr (Or.inl ⟨rfl, Or.inl z2⟩)))
  · rw [z]; exact Or.inr (Or.inr (Or.inr (Or.inr rfl)))
  · rw [z]; exact Or.inr (Or.inr (Or.inr (Or.inl ⟨rfl, Or.inl z2⟩)))
  · rw [z, z2]; exact Or.inr (Or.inl ⟨rfl, by omega, by omega⟩)
  · rw [z]; exact Or.inr (Or.inr (Or.inr (Or.inr rfl)))
theorem PFn.pg {y : Ly} {j t : Nat} : ∀ f a, PFn (yA y) (yW y j) (yX y t) (yL y t) (yD y t) f a → PG y j t f a := fun f a z => by
  rcases z with ((z | ⟨z, z1, z2⟩) | (⟨z, z1, z2⟩ | ⟨z, z1, z2⟩) | (z | ⟨z, z1, z2⟩) | z | ⟨z, -⟩ | ⟨z, z2⟩) | ⟨z, z2⟩ | ⟨z, z1, z2⟩
  · exact Or.inl z
  · refine Or.inr (Or.inr (Or.inl ⟨?_, Or.inl ⟨z1, z2⟩⟩))
    rcases z with z | z <;> (rw [z]; rfl)
  · refine Or.inr (Or.inr (Or.inl ⟨?_, Or.inl ⟨z1, z2⟩⟩))
    have : ∀ f ∈ 1025 :: etE, pgT.contains f = true := by decide
    exact this f (List.contains_iff_mem.mp z)
  · refine Or.inr (Or.inl ⟨?_, by omega, by omega⟩)
    have : ∀ f ∈ [1156, 1157, 1163, 1159], pgW.contains f = true := by decide
    exact this f (List.contains_iff_mem.mp z)
  · exact Or.inl z
  · refine Or.inr (Or.inl ⟨?_, z1, z2⟩)
    have : ∀ f ∈ crF, pgW.contains f = true := by decide
    exact this f (List.contains_iff_mem.mp z)
  · rw [z]; exact Or.inr (Or.inr (Or.inr (Or.inr rfl)))
  · refine Or.inr (Or.inr (Or.inr (Or.inr ?_)))
    rcases z with z | z | z <;> (rw [z]; rfl)
  · rw [z, z2]; exact Or.inr (Or.inl ⟨rfl, by omega, by omega⟩)
  · refine Or.inr (Or.inr (Or.inr (Or.inl ⟨?_, Or.inl z2⟩)))
    have : ∀ f ∈ txF, pgX.contains f = true := by decide
    exact this f (List.contains_iff_mem.mp z)
  · refine Or.inr (Or.inr (Or.inl ⟨?_, Or.inr ⟨z1, z2⟩⟩))
    have : ∀ f ∈ rdF, pgT.contains f = true := by decide
    exact this f (List.contains_iff_mem.mp z)
theorem PFn.no {A W X LA RA : Nat} {l : List Nat} (h : l.all (fun f => !((3712 ≤ f && f ≤ 3718) || f == 1280 || ([1159, 1025, 1163, 2702, 10, 11, 12, 2432] ++ etE ++ crF).contains f)) = true) (h2 : l.all (fun f => !((txF ++ rdF).contains f)) = true) : ∀ f a, l.contains f = true → ¬ PFn A W X LA RA f a := fun f a hf z => by
  rcases z with z | z
  · exact PF2.no h f a hf z
  · exact PXR.no h2 f a hf z
section
variable {c : Cy} {z : Cz} {G : Gt} {B d : Nat} {g g' : Gg} {h h1 h' : AH} {l l1 l' : List Nat} {o o1 o' : Lc} {j : Nat} {K : Outcome → AH → Prop} {fx : Option Nat} {MA1 : Ma} {s1 : Ms}
/-- the state of a run that has stopped -/
def MID (c : Cy) (z : Cz) (G : Gt) (B : Nat) (g : Gg) (j : Nat) (h : AH) (o : Lc) (fx : Option Nat) (h1 : AH) (l1 : List Nat) (o1 : Lc) (MA1 : Ma) (s1 : Ms) : Prop := Fr (PGM c.1 j (wT g j)) h h1 ∧ (∀ p : Sl, ¬ (1 ≤ p.1 ∧ p.1 ≤ 3 ∧ p.2.1 = j) → o1 p = o p ∧ ∀ x, o p = some x → h1.R 3718 x.1 = h.R 3718 x.1) ∧ OPQ 0 fx G B h1 (yA c.1) (yW c.1 j) (yQ c.1) (yB c.1) (yX c.1 (wT g j)) (wT g j) (c.2.2.2.1 (wT g j)).1 (c.2.2.2.1 (wT g j)).2.2.1 (yP c.1) j MA1 l1 o1 s1 ∧ CLR s1
theorem GRL.hld {k : Nat} {p : Pc} (r : GRL c z G B g h l o) (iv : IVG z g) (hj : j < zn z) (h8 : zn z ≤ 8) (h32 : zl z ≤ 32) (hk : wK g j = 1) (m : MID c z G B g j h o fx h1 l1 o1 MA1 s1) (hg : gss (xL g) (zf z) (wT g j) p = some k) (hd : 73 ≤ d) (kk : ∀ h' g' l' o', GST z g j g' → GRL c z G B g' h' l' o' → Fr (PG c.1 j (wT g j)) h h' → K (.returned none) h') : MW G d e_X1_hold [.ref (yA c.1), .int (nI k)] h1 K := by
  obtain ⟨⟨⟨⟨a1, a2, a3, a4, a5, a6⟩, -⟩, ⟨b1, b2, b3⟩, -⟩, ly, ⟨s1', s2, s3, s4⟩, tx, wk, et, wd, v, sup⟩ := id r
  obtain ⟨m1, m2, ⟨c0, v1, w1, -, hgl, wd1⟩, clr⟩ := m
  have dd := iv.2.2.2
  obtain ⟨-, i2, i3, -⟩ := iv.2.1 j hj
  obtain ⟨i5, i6⟩ := i2 (by omega)
  have t32 : wT g j < 32 := by omega
  obtain ⟨⟨y1, y2⟩, y3, y4, y5⟩ := tx (wT g j) t32
  have bl := bsy_l (g := g) (k := zn z)
  have bp := bsy_p (g := g) (j := j) (by omega) hj
  have no := PGM.no (y := c.1) (j := j) (t := wT g j) (l := [2703, 2702, 2704, 12, 10, 11, 2432, 2433]) rfl rfl rfl
  have r1 : h1.I 2703 (yX c.1 (wT g j)) = nI (xR g (wT g j)) := by rw [m1.I (no _ _ rfl)]; exact y1
  have bb : h1.I 12 (yA c.1) = nI (bsy g (zn z)) := by rw [m1.I (no _ _ rfl)]; exact s4
  refine hold_ok (r := nI (xR g (wT g j))) (b := nI (bsy g (zn z))) (c := nI k) c0 v1 (w1.clw clr) r1 bb hd fun h' l' o' f' v' iw o2 tg2 e1 e2 e3 e4 e5 => ?_
  have pn : ∀ l : List Nat, l.all (fun f => !((3712 ≤ f && f ≤ 3718) || f == 1280 || crF.contains f || [2703, 2702, 2704, 2432, 12].contains f)) = true → ∀ f a, l.contains f = true → ¬ PHo (yA c.1) (yW c.1 j) (yX c.1 (wT g j)) f a := fun l hl f a hf q => by
    rw [List.all_eq_true] at hl
    have := hl f (List.contains_iff_mem.mp hf)
    simp only [Bool.not_eq_true', Bool.or_eq_false_iff] at this
    obtain ⟨⟨⟨t1, t2⟩, t3⟩, t4⟩ := this
    rcases q with (q | ⟨q, -⟩) | ⟨q | q | q, -⟩ | ⟨q, -⟩ | ⟨q, -⟩
    · exact VQ.no (l := [f]) (by simp only [List.all_cons, List.all_nil, Bool.and_true]; rw [t1, t2]; rfl) f a (by simp) q
    · rw [t3] at q; cases q
    · rw [q] at t4; exact absurd t4 (by decide)
    · rw [q] at t4; exact absurd t4 (by decide)
    · rw [q] at t4; exact absurd t4 (by decide)
    · rw [q] at t4; exact absurd t4 (by decide)
    · rw [q] at t4; exact absurd t4 (by decide)
  have q' : Fr (PG c.1 j (wT g j)) h h' := (m1.mono PGM.pg).trans (f'.mono PHo.pg)
  have eo : ∀ i, i ≠ j → (uWk (uTx g (wT g j) ((3, xR g (wT g j) + 1, k), (g.1 (wT g j)).2)) j ((0, wT g j, wN g j, wL g j, wB g j), wM g j, wS g j)).2.1 i = g.2.1 i := fun i hi => if_neg hi
  have ej : (uWk (uTx g (wT g j) ((3, xR g (wT g j) + 1, k), (g.1 (wT g j)).2)) j ((0, wT g j, wN g j, wL g j, wB g j), wM g j, wS g j)).2.1 j = ((0, wT g j, wN g j, wL g j, wB g j), wM g j, wS g j) := if_pos rfl
  have tR : (uWk (uTx g (wT g j) ((3, xR g (wT g j) + 1, k), (g.1 (wT g j)).2)) j ((0, wT g j, wN g j, wL g j, wB g j), wM g j, wS g j)).1 (wT g j) = ((3, xR g (wT g j) + 1, k), (g.1 (wT g j)).2) := if_pos rfl
  have tn : ∀ k', k' ≠ wT g j → (uWk (uTx g (wT g j) ((3, xR g (wT g j) + 1, k), (g.1 (wT g j)).2)) j ((0, wT g j, wN g j, wL g j, wB g j), wM g j, wS g j)).1 k' = g.1 k' := fun k hk' => if_neg hk'
  have g2 : qR (uWk (uTx g (wT g j) ((3, xR g (wT g j) + 1, k), (g.1 (wT g j)).2)) j ((0, wT g j, wN g j, wL g j, wB g j), wM g j, wS g j)) = qR g := rfl
  have g3 : qL (uWk (uTx g (wT g j) ((3, xR g (wT g j) + 1, k), (g.1 (wT g j)).2)) j ((0, wT g j, wN g j, wL g j, wB g j), wM g j, wS g j)) = qL g := rfl
  generalize uWk (uTx g (wT g j) ((3, xR g (wT g j) + 1, k), (g.1 (wT g j)).2)) j ((0, wT g j, wN g j, wL g j, wB g j), wM g j, wS g j) = g' at eo ej tR tn g2 g3
  have ek : wK g' j = 0 := by unfold wK; rw [ej]
  have bu := bsy_u hj eo
  rw [if_neg (by omega), if_pos ek] at bu
  have z1 : xS g' (wT g j) = 3 := by unfold xS; rw [tR]
  have z2 : xR g' (wT g j) = xR g (wT g j) + 1 := by unfold xR; rw [tR]; rfl
  have z3 : xH g' (wT g j) = k := by unfold xH; rw [tR]
  have z4 : xL g' (wT g j) = xL g (wT g j) := by rw [xL, tR]; rfl
  have z5 : xD g' (wT g j) = xD g (wT g j) := by rw [xD, tR]; rfl
  have o12 : ∀ p : Sl, ¬ (1 ≤ p.1 ∧ p.1 ≤ 3 ∧ p.2.1 = j) → o' p = o p ∧ ∀ x, o p = some x → h'.R 3718 x.1 = h.R 3718 x.1 := fun p hp => by
    obtain ⟨x1, x2⟩ := m2 p hp
    have x3 := o2 p hp
    exact ⟨x3.trans x1, fun x hx => by rw [tg2 p x (by rw [x3, x1]; exact hx)]; exact x2 x hx⟩
  refine kk h' g' l' o' ⟨eo, Or.inr (Or.inr (Or.inr (Or.inr (Or.inr (Or.inl ⟨hk, ek, ⟨k, p, hg, tR⟩, tn, g2, g3⟩)))))⟩ (r.asm q' v' (fun p x hp => ?_) (fun p h1 _ => o12 p h1) hj t32 (fun k' _ hkt => ?_) eo (fun k' hk' => ?_) ?_ ?_ (by rw [e5, bsy_m bp (by omega)]; exact congrArg nI (by omega)) ⟨⟨by rw [e1, z2, nI_add], by rw [e3, z3]⟩, ?_, ?_, fun _ _ q => by omega⟩ ⟨⟨iw.1.1, by rw [ek]; exact e4, fun q => absurd ek q, fun q => by omega, fun q => by omega⟩, fun _ => iw, fun q => by omega⟩ (wd1.fr f' (fun a => pn [27] rfl _ a rfl) (fun a => pn [2306] rfl _ a rfl))) q'
  · by_cases c1 : 1 ≤ p.1 ∧ p.1 ≤ 3 ∧ p.2.1 = j
    · rw [iw.2 p c1.1 c1.2.1 c1.2.2] at hp; cases hp
    · exact sup p x (by rw [← (o12 p c1).1]; exact hp)
  · have := tn k' hkt
    exact ⟨by rw [this], by unfold xR; rw [this], by unfold xH; rw [this], fun q => by unfold xS at q ⊢; rw [← this]; exact q⟩
  · by_cases e : k' = wT g j
    · subst e
      rw [z1]; exact ⟨e2, by decide⟩
    · have e9 : xS g' k' = xS g k' := by rw [xS, tn k' e]; rfl
      rw [e9]
      refine ⟨?_, (s1' k' hk').2⟩
      have ne : yX c.1 k' ≠ yX c.1 (wT g j) := fun q => e (b1.2.1 k' _ hk' t32 q)
      rw [f'.I ?_, m1.I (no _ _ rfl)]
      · exact (s1' k' hk').1
      · rintro ((q | ⟨q, -⟩) | ⟨q | q | q, q2⟩ | ⟨q, -⟩ | ⟨q, -⟩)
        · exact VQ.no (l := [2702]) rfl _ _ rfl q
        · exact absurd q (by decide)
        · exact absurd q (by decide)
        · exact ne q2
        · exact absurd q (by decide)
        · exact absurd q (by decide)
        · exact absurd q (by decide)
  · rw [g2, f'.I (pn [10] rfl _ _ rfl), m1.I (no _ _ rfl)]; exact s2
  · rw [g3, f'.I (pn [11] rfl _ _ rfl), m1.I (no _ _ rfl)]; exact s3
  · rw [z4]
    obtain ⟨f3, f4⟩ := (ly.1 j hj).2 _ t32
    refine EtR.fr f' (fun f a hf x1 x2 q => ?_) (fun e => o2 _ (by rintro ⟨-, x, -⟩; exact absurd x (show ¬ 4 ≤ 3 by omega))) (y3.fr m1 (fun f a hf x1 x2 => PGM.far (l := etF) rfl hf (by omega)) (fun e => (m2 (4, wT g j, e, 0) (by rintro ⟨-, x, -⟩; exact absurd x (show ¬ 4 ≤ 3 by omega))).1))
    rcases q with (q | ⟨-, q⟩) | ⟨q | q | q, -⟩ | ⟨q, -⟩ | ⟨q, -⟩
    · exact VQ.no (l := etF) rfl f a hf q
    · omega
    · rw [q] at hf; exact absurd hf (by decide)
    · rw [q] at hf; exact absurd hf (by decide)
    · rw [q] at hf; exact absurd hf (by decide)
    · rw [q] at hf; exact absurd hf (by decide)
    · rw [q] at hf; exact absurd hf (by decide)
  · rw [z5]
    obtain ⟨f3, f4⟩ := (ly.1 j hj).2 _ t32
    refine RDR.fr f' (pn _ rfl) (fun f a hf x1 x2 q => ?_) (y4.fr m1 (PGM.no rfl rfl rfl) (fun f a hf x1 x2 => PGM.far (l := rdF) rfl hf (by omega)))
    rcases q with (q | ⟨-, q⟩) | ⟨q | q | q, -⟩ | ⟨q, -⟩ | ⟨q, -⟩
    · exact VQ.no (l := rdF) rfl f a hf q
    · omega
    · rw [q] at hf; exact absurd hf (by decide)
    · rw [q] at hf; exact absurd hf (by decide)
    · rw [q] at hf; exact absurd hf (by decide)
    · rw [q] at hf; exact absurd hf (by decide)
    · rw [q] at hf; exact absurd hf (by decide)
end
