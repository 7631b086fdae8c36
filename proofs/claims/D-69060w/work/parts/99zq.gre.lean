/-! all transactions at once: what a step leaves alone -/
section
variable {y : Ly} {n j t k : Nat}
theorem PG.tx (d : LYD y n) (hj : j < n) (ht : t < 32) (hk : k < 32) (hkt : k ≠ t) : (∀ f, [2703, 2704].contains f = true → ¬ PG y j t f (yX y k)) ∧ (∀ f a, (etF ++ rdF).contains f = true → (yL y k ≤ a ∧ a < yL y k + 32) ∨ (yD y k ≤ a ∧ a < yD y k + 32) → ¬ PG y j t f a) ∧ (∀ f a, [1024, 10000 + 342].contains f = true → ¬ PG y j t f a) ∧ ∀ f, (txF ++ resF).contains f = true → ∀ a, (a = yX y k ∨ a = y.2 7 k ∨ a = y.2 8 k ∨ a = y.2 9 k) → ¬ PG y j t f a := by
  obtain ⟨d1, -, d3⟩ := d
  obtain ⟨-, d4⟩ := d1 j hj
  obtain ⟨e1, e2⟩ := d4 k hk
  obtain ⟨-, -, d5⟩ := d3 k hk
  obtain ⟨-, -, d7⟩ := d3 t ht
  have d7 := (d7 k hk).1
  obtain ⟨d8, d9⟩ := d5 t ht
  obtain ⟨f1, f2, f3⟩ := d9 hkt
  have xx : ∀ a, (a = yX y k ∨ a = y.2 7 k ∨ a = y.2 8 k ∨ a = y.2 9 k) → (a = yX y t ∨ a = y.2 7 t ∨ a = y.2 8 t ∨ a = y.2 9 t) → False := fun a h1 h2 => by
    rcases h1 with h1 | h1 | h1 | h1 <;> rcases h2 with h2 | h2 | h2 | h2
    · exact f3 1 1 (Or.inl rfl) (Or.inl rfl) (h1.symm.trans h2)
    · exact f3 1 7 (Or.inl rfl) (Or.inr (Or.inl rfl)) (h1.symm.trans h2)
    · exact f3 1 8 (Or.inl rfl) (Or.inr (Or.inr (Or.inl rfl))) (h1.symm.trans h2)
    · exact f3 1 9 (Or.inl rfl) (Or.inr (Or.inr (Or.inr rfl))) (h1.symm.trans h2)
    · exact f3 7 1 (Or.inr (Or.inl rfl)) (Or.inl rfl) (h1.symm.trans h2)
    · exact f3 7 7 (Or.inr (Or.inl rfl)) (Or.inr (Or.inl rfl)) (h1.symm.trans h2)
    · exact f3 7 8 (Or.inr (Or.inl rfl)) (Or.inr (Or.inr (Or.inl rfl))) (h1.symm.trans h2)
    · exact f3 7 9 (Or.inr (Or.inl rfl)) (Or.inr (Or.inr (Or.inr rfl))) (h1.symm.trans h2)
    · exact f3 8 1 (Or.inr (Or.inr (Or.inl rfl))) (Or.inl rfl) (h1.symm.trans h2)
    · exact f3 8 7 (Or.inr (Or.inr (Or.inl rfl))) (Or.inr (Or.inl rfl)) (h1.symm.trans h2)
    · exact f3 8 8 (Or.inr (Or.inr (Or.inl rfl))) (Or.inr (Or.inr (Or.inl rfl))) (h1.symm.trans h2)
    · exact f3 8 9 (Or.inr (Or.inr (Or.inl rfl))) (Or.inr (Or.inr (Or.inr rfl))) (h1.symm.trans h2)
    · exact f3 9 1 (Or.inr (Or.inr (Or.inr rfl))) (Or.inl rfl) (h1.symm.trans h2)
    · exact f3 9 7 (Or.inr (Or.inr (Or.inr rfl))) (Or.inr (Or.inl rfl)) (h1.symm.trans h2)
    · exact f3 9 8 (Or.inr (Or.inr (Or.inr rfl))) (Or.inr (Or.inr (Or.inl rfl))) (h1.symm.trans h2)
    · exact f3 9 9 (Or.inr (Or.inr (Or.inr rfl))) (Or.inr (Or.inr (Or.inr rfl))) (h1.symm.trans h2)
  have oX : ∀ l : List Nat, l.all (fun f => !((pgW ++ pgT).contains f)) = true → ∀ f, l.contains f = true → (pgW.contains f = true → False) ∧ (pgT.contains f = true → False) := fun l hl f hf => by
    rw [List.all_eq_true] at hl
    have := hl f (List.contains_iff_mem.mp hf)
    rw [Bool.not_eq_true'] at this
    refine ⟨fun z => ?_, fun z => ?_⟩
    · have : f ∈ pgW ++ pgT := List.mem_append_left _ (List.contains_iff_mem.mp z)
      rw [← List.contains_iff_mem] at this
      simp_all
    · have : f ∈ pgW ++ pgT := List.mem_append_right _ (List.contains_iff_mem.mp z)
      rw [← List.contains_iff_mem] at this
      simp_all
  refine ⟨fun f hf => PG.nn (l := [2703, 2704]) rfl hf (fun z _ _ => (oX [2703, 2704] rfl f hf).1 z) (fun z _ => (oX [2703, 2704] rfl f hf).2 z) (fun _ z => xx _ (Or.inl rfl) z), fun f a hf ha => PG.nn (l := etF ++ rdF) rfl hf (fun _ z1 z2 => ?_) (fun _ z => ?_) (fun z _ => ?_), PG.no rfl rfl, fun f hf a ha => PG.nn (l := txF ++ resF) rfl hf (fun z _ _ => (oX (txF ++ resF) rfl f hf).1 z) (fun z _ => (oX (txF ++ resF) rfl f hf).2 z) (fun _ z => xx a ha z)⟩
  · omega
  · omega
  · have : ∀ f ∈ etF ++ rdF, pgX.contains f = false := by decide
    rw [this f (List.contains_iff_mem.mp hf)] at z; cases z
theorem PG.wk {i : Nat} (d : LYD y n) (hj : j < n) (ht : t < 32) (hi : i < n) (hij : i ≠ j) : ∀ g a, pgW.contains g = true → yW y i ≤ a → a < yW y i + 130 → ¬ PG y j t g a := fun g a hg h1 h2 => by
  obtain ⟨d1, d2, -⟩ := d
  obtain ⟨e1, e2⟩ := (d1 i hi).2 t ht
  have e3 := d2 i j hi hj hij
  refine PG.nn (l := pgW) rfl hg (fun _ z1 z2 => by omega) (fun _ z => by omega) (fun z _ => ?_)
  have : ∀ f ∈ pgW, pgX.contains f = false := by decide
  rw [this g (List.contains_iff_mem.mp hg)] at z; cases z
theorem PG.se (d : LYD y n) (hj : j < n) (ht : t < 32) : ∀ g a, etF.contains g = true → yE y ≤ a → a < yE y + 2 + 256 → ¬ PG y j t g a := fun g a hg h1 h2 => by
  obtain ⟨d1, -, d3⟩ := d
  have e1 := (d1 j hj).1
  obtain ⟨e2, e3, -⟩ := d3 t ht
  refine PG.nn (l := etF) rfl hg (fun _ z1 z2 => by omega) (fun _ z => by omega) (fun z _ => ?_)
  have : ∀ f ∈ etF, pgX.contains f = false := by decide
  rw [this g (List.contains_iff_mem.mp hg)] at z; cases z
theorem PG.sh : ∀ f a, gshF.contains f = true → ¬ PG y j t f a := PG.no rfl rfl
theorem PG.sw : ∀ f a, swF.contains f = true → ¬ PG y j t f a := PG.no rfl rfl
/-- what a step writes that leaves transactions alone -/
def PG0 (y : Ly) (j g a : Nat) : Prop := VQ g a ∨ (pgW.contains g = true ∧ yW y j ≤ a ∧ a < yW y j + 130) ∨ pgL.contains g = true
theorem PG0.g : ∀ g a, PG0 y j g a → PG y j t g a := fun g a z => by
  rcases z with z | z | z
  · exact Or.inl z
  · exact Or.inr (Or.inl z)
  · exact Or.inr (Or.inr (Or.inr (Or.inr z)))
end
/-- how many workers are busy -/
def bsy (g : Gg) : Nat → Nat
  | 0 => 0
  | k + 1 => bsy g k + if wK g k = 0 then 0 else 1
theorem bsy_e {g g' : Gg} {j : Nat} (h : ∀ i, i ≠ j → wK g' i = wK g i) : ∀ k, if j < k then bsy g' k + (if wK g j = 0 then 0 else 1) = bsy g k + (if wK g' j = 0 then 0 else 1) else bsy g' k = bsy g k
  | 0 => by rw [if_neg (Nat.not_lt_zero _)]; rfl
  | k + 1 => by
    have ih := bsy_e h k
    show if j < k + 1 then bsy g' k + (if wK g' k = 0 then 0 else 1) + (if wK g j = 0 then 0 else 1) = bsy g k + (if wK g k = 0 then 0 else 1) + (if wK g' j = 0 then 0 else 1) else bsy g' k + (if wK g' k = 0 then 0 else 1) = bsy g k + (if wK g k = 0 then 0 else 1)
    by_cases c : j = k
    · subst c
      rw [if_neg (Nat.lt_irrefl _)] at ih
      rw [if_pos (by omega)]
      omega
    · have e := h k (fun z => c z.symm)
      rw [e]
      by_cases c2 : j < k
      · rw [if_pos c2] at ih
        rw [if_pos (by omega)]
        omega
      · rw [if_neg c2] at ih
        rw [if_neg (by omega)]
        omega
theorem bsy_0 {g : Gg} : ∀ {k : Nat}, bsy g k = 0 → ∀ j, j < k → wK g j = 0
  | 0, _, j, hj => absurd hj (Nat.not_lt_zero j)
  | k + 1, h, j, hj => by
    have h : bsy g k + (if wK g k = 0 then 0 else 1) = 0 := h
    by_cases c : wK g k = 0
    · rw [if_pos c] at h
      by_cases e : j = k
      · rw [e]; exact c
      · exact bsy_0 h j (by omega)
    · rw [if_neg c] at h; omega
theorem bsy_l {g : Gg} : ∀ {k : Nat}, bsy g k ≤ k
  | 0 => Nat.le_refl _
  | k + 1 => by
    have := bsy_l (g := g) (k := k)
    show bsy g k + (if wK g k = 0 then 0 else 1) ≤ k + 1
    split <;> omega
theorem bsy_p {g : Gg} {j : Nat} (h : wK g j ≠ 0) : ∀ {k : Nat}, j < k → 1 ≤ bsy g k
  | 0, hj => absurd hj (Nat.not_lt_zero j)
  | k + 1, hj => by
    show 1 ≤ bsy g k + (if wK g k = 0 then 0 else 1)
    by_cases e : j = k
    · subst e; rw [if_neg h]; omega
    · have := bsy_p h (k := k) (by omega)
      omega
/-- all that matters -/
def grlF : List Nat := gshF ++ swF ++ pgW ++ etF ++ rdF ++ pgX ++ [10, 11, 12, 2702, 27, 2306]
/-- who may hold values -/
def SUP (n : Nat) (o : Lc) : Prop := ∀ p x, o p = some x → (p.1 = 0 ∧ p.2.1 = 0 ∧ p.2.2.1 < 256 ∧ p.2.2.2 = 0) ∨ (1 ≤ p.1 ∧ p.1 ≤ 3 ∧ p.2.1 < n) ∨ (p.1 = 4 ∧ p.2.1 < 32 ∧ p.2.2.1 < 30 ∧ p.2.2.2 = 0)
/-- the whole -/
def GRL (c : Cy) (z : Cz) (G : Gt) (B : Nat) (g : Gg) (h : AH) (l : List Nat) (o : Lc) : Prop := GSH c z G h ∧ LYD c.1 (zn z) ∧ ((∀ k, k < 32 → h.I 2702 (yX c.1 k) = nI (xS g k) ∧ xS g k < 4) ∧ h.I 10 (yA c.1) = nI (qR g) ∧ h.I 11 (yA c.1) = nI (qL g) ∧ h.I 12 (yA c.1) = nI (bsy g (zn z))) ∧ (∀ k, k < 32 → GTX c z g h o k) ∧ (∀ j, j < zn z → GWK c g h o j) ∧ EtR h o 0 0 (yE c.1) 256 c.2.1 (zst z) ∧ WDR h (yA c.1) ∧ VH G B h (yQ c.1) l o ∧ SUP (zn z) o
section
variable {c : Cy} {z : Cz} {G : Gt} {B : Nat} {g g' : Gg} {h h' : AH} {l l' : List Nat} {o o' : Lc} {j t : Nat}
/-- what a step of worker j's at transaction t leaves alone; it may write more elsewhere -/
theorem GRL.restE {E : Nat → Nat → Prop} (nE : ∀ f a, grlF.contains f = true → ¬ E f a) (r : GRL c z G B g h l o) (q : Fr (fun f a => PG c.1 j t f a ∨ E f a) h h') (ho : ∀ p : Sl, ¬ (1 ≤ p.1 ∧ p.1 ≤ 3 ∧ p.2.1 = j) → ¬ (p.1 = 4 ∧ p.2.1 = t) → o' p = o p ∧ ∀ x, o p = some x → h'.R 3718 x.1 = h.R 3718 x.1) (hj : j < zn z) (ht : t < 32) (eT : ∀ k, k < 32 → k ≠ t → (g'.1 k).2 = (g.1 k).2 ∧ xR g' k = xR g k ∧ xH g' k = xH g k ∧ (xS g' k = 2 → xS g k = 2)) (eW : ∀ i, i ≠ j → g'.2.1 i = g.2.1 i) : GSH c z G h' ∧ (∀ k, k < 32 → k ≠ t → GTX c z g' h' o' k) ∧ (∀ i, i < zn z → i ≠ j → GWK c g' h' o' i) ∧ EtR h' o' 0 0 (yE c.1) 256 c.2.1 (zst z) := by
  obtain ⟨r1, r2, -, r4, r5, r6, -⟩ := r
  have sub : ∀ l' : List Nat, l'.all (fun f => grlF.contains f) = true → ∀ f a, l'.contains f = true → ¬ E f a := fun l' hl f a hf => nE f a (by rw [List.all_eq_true] at hl; exact hl f (List.contains_iff_mem.mp hf))
  have e1 : ∀ f a, gshF.contains f = true → ¬ E f a := sub gshF (by decide)
  have e2 : ∀ f a, swF.contains f = true → ¬ E f a := sub swF (by decide)
  have e3 : ∀ f a, pgW.contains f = true → ¬ E f a := sub pgW (by decide)
  have e4 : ∀ f a, etF.contains f = true → ¬ E f a := sub etF (by decide)
  have e5 : ∀ f a, (etF ++ rdF).contains f = true → ¬ E f a := sub (etF ++ rdF) (by decide)
  have e6 : ∀ f a, (txF ++ resF).contains f = true → ¬ E f a := sub (txF ++ resF) (by decide)
  have e7 : ∀ f a, [2703, 2704].contains f = true → ¬ E f a := sub _ (by decide)
  have e8 : ∀ f a, [1024, 10000 + 342].contains f = true → ¬ E f a := sub _ (by decide)
  refine ⟨r1.fr q (fun f a hf y => y.elim (PG.sh f a hf) (e1 f a hf)), fun k hk hkt => ?_, fun i hi hij => ?_, r6.fr q (fun f a hf x1 x2 y => y.elim (PG.se r2 hj ht f a hf x1 x2) (e4 f a hf)) (fun e => (ho (0, 0, e, 0) (by rintro ⟨a, -⟩; exact absurd a (show ¬ 1 ≤ 0 by omega)) (by rintro ⟨a, -⟩; exact absurd a (show (0 : Nat) ≠ 4 by omega))).1)⟩
  · obtain ⟨n1, n2, n4, n3⟩ := PG.tx r2 hj ht hk hkt
    exact (r4 k hk).fr q (fun f hf y => y.elim (n1 f hf) (e7 f _ hf)) (fun f a hf x1 y => y.elim (n2 f a hf x1) (e5 f a hf)) (fun f a hf y => y.elim (n4 f a hf) (e8 f a hf)) (fun f hf a x1 y => y.elim (n3 f hf a x1) (e6 f a hf)) (fun e => (ho (4, k, e, 0) (by rintro ⟨-, a, -⟩; exact absurd a (show ¬ 4 ≤ 3 by omega)) (by rintro ⟨-, a⟩; exact hkt a)).1) (eT k hk hkt)
  · refine (r5 i hi).fr q (fun f a hf y => y.elim (PG.sw f a hf) (e2 f a hf)) (fun f a hf x1 x2 y => y.elim (PG.wk r2 hj ht hi hij f a hf x1 x2) (e3 f a hf)) (fun p h1 h2 h3 => ho p (by rintro ⟨-, -, a⟩; exact hij (h3.symm.trans a)) (by rintro ⟨a, -⟩; omega)) (eW i hij)
/-- what a step of worker j's at transaction t leaves alone -/
theorem GRL.rest (r : GRL c z G B g h l o) (q : Fr (PG c.1 j t) h h') (ho : ∀ p : Sl, ¬ (1 ≤ p.1 ∧ p.1 ≤ 3 ∧ p.2.1 = j) → ¬ (p.1 = 4 ∧ p.2.1 = t) → o' p = o p ∧ ∀ x, o p = some x → h'.R 3718 x.1 = h.R 3718 x.1) (hj : j < zn z) (ht : t < 32) (eT : ∀ k, k < 32 → k ≠ t → (g'.1 k).2 = (g.1 k).2 ∧ xR g' k = xR g k ∧ xH g' k = xH g k ∧ (xS g' k = 2 → xS g k = 2)) (eW : ∀ i, i ≠ j → g'.2.1 i = g.2.1 i) : GSH c z G h' ∧ (∀ k, k < 32 → k ≠ t → GTX c z g' h' o' k) ∧ (∀ i, i < zn z → i ≠ j → GWK c g' h' o' i) ∧ EtR h' o' 0 0 (yE c.1) 256 c.2.1 (zst z) :=
  r.restE (E := fun _ _ => False) (fun _ _ _ y => y) (q.mono fun f a y => Or.inl y) ho hj ht eT eW
/-- a step that leaves transactions alone -/
theorem GRL.rest0 (r : GRL c z G B g h l o) (q : Fr (PG0 c.1 j) h h') (ho : ∀ p : Sl, ¬ (1 ≤ p.1 ∧ p.1 ≤ 3 ∧ p.2.1 = j) → o' p = o p ∧ ∀ x, o p = some x → h'.R 3718 x.1 = h.R 3718 x.1) (hj : j < zn z) (eT : ∀ k, k < 32 → (g'.1 k).2 = (g.1 k).2 ∧ xR g' k = xR g k ∧ xH g' k = xH g k ∧ (xS g' k = 2 → xS g k = 2)) (eW : ∀ i, i ≠ j → g'.2.1 i = g.2.1 i) : GSH c z G h' ∧ (∀ k, k < 32 → GTX c z g' h' o' k) ∧ (∀ i, i < zn z → i ≠ j → GWK c g' h' o' i) ∧ EtR h' o' 0 0 (yE c.1) 256 c.2.1 (zst z) := by
  have key : ∀ t, t < 32 → GSH c z G h' ∧ (∀ k, k < 32 → k ≠ t → GTX c z g' h' o' k) ∧ (∀ i, i < zn z → i ≠ j → GWK c g' h' o' i) ∧ EtR h' o' 0 0 (yE c.1) 256 c.2.1 (zst z) := fun t ht => r.rest (g' := g') (q.mono (PG0.g (t := t))) (fun p h1 _ => ho p h1) hj ht (fun k hk _ => eT k hk) eW
  obtain ⟨k1, -, k3, k4⟩ := key 0 (by omega)
  refine ⟨k1, fun k hk => ?_, k3, k4⟩
  by_cases e : k = 0
  · exact (key 1 (by omega)).2.1 k hk (by omega)
  · exact (key 0 (by omega)).2.1 k hk e
end
