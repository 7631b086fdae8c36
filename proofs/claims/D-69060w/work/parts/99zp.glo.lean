/-! all transactions at once: how the heap stands for it -/
/-- (ledger, pool, block, stopped, state, coin, workers), and by number: 0 workers, 1 transactions, 2 left, 3 read, 4-6 arguments, 7-9 results -/
abbrev Ly : Type := (Nat × Nat × Nat × Nat × Nat × Nat × Nat) × (Nat → Nat → Nat)
abbrev yA (y : Ly) : Nat := y.1.1
abbrev yQ (y : Ly) : Nat := y.1.2.1
abbrev yB (y : Ly) : Nat := y.1.2.2.1
abbrev yP (y : Ly) : Nat := y.1.2.2.2.1
abbrev yE (y : Ly) : Nat := y.1.2.2.2.2.1
abbrev yC (y : Ly) : Nat := y.1.2.2.2.2.2.1
abbrev yV (y : Ly) : Nat := y.1.2.2.2.2.2.2
abbrev yW (y : Ly) : Nat → Nat := y.2 0
abbrev yX (y : Ly) : Nat → Nat := y.2 1
abbrev yL (y : Ly) : Nat → Nat := y.2 2
abbrev yD (y : Ly) : Nat → Nat := y.2 3
def LYD (y : Ly) (n : Nat) : Prop := (∀ j, j < n → (yE y + 258 ≤ yW y j ∨ yW y j + 130 ≤ yE y) ∧ ∀ k, k < 32 → (yL y k + 32 ≤ yW y j ∨ yW y j + 130 ≤ yL y k) ∧ (yD y k + 32 ≤ yW y j ∨ yW y j + 130 ≤ yD y k)) ∧ (∀ i j, i < n → j < n → i ≠ j → yW y i + 130 ≤ yW y j ∨ yW y j + 130 ≤ yW y i) ∧ ∀ k, k < 32 → (yE y + 258 ≤ yL y k ∨ yL y k + 32 ≤ yE y) ∧ (yE y + 258 ≤ yD y k ∨ yD y k + 32 ≤ yE y) ∧ ∀ k', k' < 32 → (yD y k + 32 ≤ yL y k' ∨ yL y k' + 32 ≤ yD y k) ∧ (k ≠ k' → (yL y k + 32 ≤ yL y k' ∨ yL y k' + 32 ≤ yL y k) ∧ (yD y k + 32 ≤ yD y k' ∨ yD y k' + 32 ≤ yD y k) ∧ ∀ a b, (a = 1 ∨ a = 7 ∨ a = 8 ∨ a = 9) → (b = 1 ∨ b = 7 ∨ b = 8 ∨ b = 9) → y.2 a k ≠ y.2 b k')
def pgW : List Nat := fmF ++ enF ++ [2438, 2439, 2441, 2442, 2443, 2436, 2432, 2433, 2434, 2435]
def pgT : List Nat := 1025 :: etE ++ rdF
def pgX : List Nat := [2703, 2704] ++ txF ++ resF
def pgL : List Nat := ipL ++ [10, 11, 12, 26, 2702]
/-- what a step of worker j's at transaction t may write -/
def PG (y : Ly) (j t g a : Nat) : Prop := VQ g a ∨ (pgW.contains g = true ∧ yW y j ≤ a ∧ a < yW y j + 130) ∨ (pgT.contains g = true ∧ ((yL y t ≤ a ∧ a < yL y t + 32) ∨ (yD y t ≤ a ∧ a < yD y t + 32))) ∨ (pgX.contains g = true ∧ (a = yX y t ∨ a = y.2 7 t ∨ a = y.2 8 t ∨ a = y.2 9 t)) ∨ pgL.contains g = true
theorem PG.nn {y : Ly} {j t : Nat} {l : List Nat} (h : l.all (fun f => !((3712 ≤ f && f ≤ 3718) || f == 1280 || pgL.contains f)) = true) {g a : Nat} (hg : l.contains g = true) (hW : pgW.contains g = true → yW y j ≤ a → a < yW y j + 130 → False) (hT : pgT.contains g = true → ((yL y t ≤ a ∧ a < yL y t + 32) ∨ (yD y t ≤ a ∧ a < yD y t + 32)) → False) (hX : pgX.contains g = true → (a = yX y t ∨ a = y.2 7 t ∨ a = y.2 8 t ∨ a = y.2 9 t) → False) : ¬ PG y j t g a := fun z => by
  rw [List.all_eq_true] at h
  have := h g (List.contains_iff_mem.mp hg)
  simp only [Bool.not_eq_true', Bool.or_eq_false_iff] at this
  obtain ⟨⟨t1, t2⟩, t3⟩ := this
  rcases z with z | ⟨z1, z2, z3⟩ | ⟨z1, z2⟩ | ⟨z1, z2⟩ | z
  · exact VQ.no (l := [g]) (by simp only [List.all_cons, List.all_nil, Bool.and_true]; rw [t1, t2]; rfl) g a (by simp) z
  · exact hW z1 z2 z3
  · exact hT z1 z2
  · exact hX z1 z2
  · rw [z] at t3; cases t3
theorem PG.no {y : Ly} {j t : Nat} {l : List Nat} (h : l.all (fun f => !((3712 ≤ f && f ≤ 3718) || f == 1280 || pgL.contains f)) = true) (h2 : l.all (fun f => !((pgW ++ pgT ++ pgX).contains f)) = true) : ∀ g a, l.contains g = true → ¬ PG y j t g a := fun g a hg => by
  rw [List.all_eq_true] at h2
  have := h2 g (List.contains_iff_mem.mp hg)
  rw [Bool.not_eq_true'] at this
  have no : ∀ l', l' = pgW ∨ l' = pgT ∨ l' = pgX → l'.contains g = true → False := fun l' hl hc => by
    have m : g ∈ pgW ++ pgT ++ pgX := by
      rw [List.contains_iff_mem] at hc
      rcases hl with e | e | e
      · rw [e] at hc; exact List.mem_append_left _ (List.mem_append_left _ hc)
      · rw [e] at hc; exact List.mem_append_left _ (List.mem_append_right _ hc)
      · rw [e] at hc; exact List.mem_append_right _ hc
    rw [← List.contains_iff_mem, this] at m; cases m
  exact PG.nn h hg (fun z _ _ => no _ (Or.inl rfl) z) (fun z _ => no _ (Or.inr (Or.inl rfl)) z) (fun z _ => no _ (Or.inr (Or.inr rfl)) z)
theorem WkQ.far {P : Nat → Nat → Prop} {h h' : AH} {o o' : Lc} {z wi W : Nat} {MA : Ma} {s : Ms} (w : WkQ z h o wi W MA s) (f : Fr P h h') (n1 : ∀ g a, swF.contains g = true → ¬ P g a) (n2 : ∀ g a, (fmF ++ enF ++ [2438, 2439, 2441]).contains g = true → W ≤ a → a < W + 130 → ¬ P g a) (ho : ∀ p : Sl, 1 ≤ p.1 → p.1 ≤ 3 → p.2.1 = wi → o' p = o p ∧ ∀ x, o p = some x → h'.R 3718 x.1 = h.R 3718 x.1) : WkQ z h' o' wi W MA s := by
  obtain ⟨⟨w1, w2, w3, w4, w5, w6⟩, w7, w8, w9⟩ := w
  have hs : ∀ c i k, 1 ≤ c → c ≤ 3 → o' (c, wi, i, k) = o (c, wi, i, k) := fun c i k h1 h2 => (ho (c, wi, i, k) h1 h2 rfl).1
  have hr : ∀ r, rad o' wi r = rad o wi r := rad_k (fun c i k hc => hs c i k (by omega) (by omega))
  have mm : ∀ g, fmF.contains g = true → (fmF ++ enF ++ [2438, 2439, 2441]).contains g = true := fun g hg => by
    rw [List.contains_iff_mem] at hg ⊢
    exact List.mem_append_left _ (List.mem_append_left _ hg)
  have me : ∀ g, enF.contains g = true → (fmF ++ enF ++ [2438, 2439, 2441]).contains g = true := fun g hg => by
    rw [List.contains_iff_mem] at hg ⊢
    exact List.mem_append_left _ (List.mem_append_right _ hg)
  refine ⟨⟨w1.fr f n1, by rw [f.I (n2 _ _ rfl (by omega) (by omega))]; exact w2, w3, w4, by rw [f.I (n2 _ _ rfl (by omega) (by omega))]; exact w5, by rw [f.I (n2 _ _ rfl (by omega) (by omega))]; exact w6⟩, fun j hj => (w7 j hj).keep f (fun g a hg h1 h2 => n2 g a (mm g hg) (by unfold Fa at h1; omega) (by unfold Fa at h2; omega)) (fun c i hc => hs c j i (by omega) (by omega)) (fun c i x hc hx => (ho (c, wi, j, i) (show 1 ≤ c by omega) (show c ≤ 3 by omega) rfl).2 x hx) (fun r _ a ha => by rw [hr]; exact ha), fun j hj i => by rw [hs 1 j i (by omega) (by omega), hs 2 j i (by omega) (by omega)]; exact w8 j hj i, w9.keep f (fun g a hg h1 h2 => n2 g a (me g hg) h1 (by omega)) (fun e b => hs 3 e b (by omega) (by omega))⟩
theorem IDW.far {P : Nat → Nat → Prop} {h h' : AH} {o o' : Lc} {wi W : Nat} (w : IDW h o wi W) (f : Fr P h h') (n1 : ∀ g a, swF.contains g = true → ¬ P g a) (n2 : ∀ g a, (fmF ++ enF ++ [2438, 2439, 2441]).contains g = true → W ≤ a → a < W + 130 → ¬ P g a) (ho : ∀ p : Sl, 1 ≤ p.1 → p.1 ≤ 3 → p.2.1 = wi → o' p = o p) : IDW h' o' wi W := ⟨⟨w.1.1.fr f n1, by rw [f.I (n2 _ _ rfl (by omega) (by omega))]; exact w.1.2.1, by rw [f.I (n2 _ _ rfl (by omega) (by omega))]; exact w.1.2.2⟩, fun p h1 h2 h3 => by rw [ho p h1 h2 h3]; exact w.2 p h1 h2 h3⟩
theorem DGR.fr {P : Nat → Nat → Prop} {G : Gt} {h h' : AH} {A : Nat} (q : Fr P h h') (np : ∀ f a, [19, 1792, 1920, 1921, 1922, 1923, 14096].contains f = true → ¬ P f a) (s : DGR G h A) : DGR G h' A := by
  obtain ⟨TR, D, a, b, c, d, e⟩ := s
  refine ⟨TR, D, by rw [q.R (np _ _ rfl)]; exact a, q.tag b, by rw [q.R (np _ _ rfl)]; exact c, d.fr q (fun f hf => ?_), e.fr q (np _ _ rfl)⟩
  rcases hf with z | z | z | z <;> (rw [z]; exact np _ _ rfl)
theorem TXS.fr {P : Nat → Nat → Prop} {h h' : AH} {X RT RH RL : Nat} (q : Fr P h h') (np : ∀ f a, [2713, 2711, 2712].contains f = true → ¬ P f a) (s : TXS h X RT RH RL) : TXS h' X RT RH RL := by
  obtain ⟨⟨a, b, c⟩, d, e, f⟩ := s
  exact ⟨⟨by rw [q.R (np _ _ rfl)]; exact a, by rw [q.R (np _ _ rfl)]; exact b, by rw [q.R (np _ _ rfl)]; exact c⟩, q.tag d, q.tag e, q.tag f⟩
/-- addresses, modules' addresses, modules, calls, which publish -/
abbrev Cy : Type := Ly × Ma × Wd × (Nat → TxC) × (Nat → Bool)
/-- what stays as it is -/
def GSH (c : Cy) (z : Cz) (G : Gt) (h : AH) : Prop := ((h.tag (yA c.1) = some (0, 0) ∧ h.R 2 (yA c.1) = some (yQ c.1) ∧ h.R 3 (yA c.1) = some (yB c.1) ∧ h.R 23 (yA c.1) = some (yP c.1) ∧ h.R 1 (yA c.1) = some (yE c.1) ∧ h.tag (yP c.1) = some (31, 0)) ∧ h.R 7 (yA c.1) = some (yV c.1) ∧ h.tag (yV c.1) = some (89, zn z) ∧ ∀ j, j < zn z → h.ER 89 (yV c.1) j = some (yW c.1 j)) ∧ (BLK h (yB c.1) (yX c.1) (yL c.1) (yD c.1) ∧ h.I 5 (yA c.1) = nI (zf z) ∧ h.I 6 (yA c.1) = nI (zl z)) ∧ (WHY h (yA c.1) (yC c.1) c.2.1 c.2.2.1 ∧ CNY h (yC c.1) ∧ DGR G h (yA c.1)) ∧ (∀ k, k < 32 → TXS h (yX c.1 k) (c.1.2 7 k) (c.1.2 8 k) (c.1.2 9 k)) ∧ ∀ k, zf z ≤ k → k < zl z → TXI h (yX c.1 k) (c.1.2 4 k) (c.1.2 5 k) (c.1.2 6 k) (c.2.2.2.1 k) ∧ h.I 2691 (yX c.1 k) = nI (c.2.2.2.1 k).2.2.1 ∧ h.J 2689 (yX c.1 k) = (c.2.2.2.1 k).1 ∧ h.I 2688 (yX c.1 k) = bI (c.2.2.2.2 k)
def gshF : List Nat := [2, 3, 23, 1, 7, 10000 + 89, 5, 6, 0, 19, 1792, 1920, 1921, 1922, 1923, 14096, 2713, 2711, 2712, 2691, 2689, 2688] ++ bkF ++ mdlF ++ txiF
theorem GSH.fr {P : Nat → Nat → Prop} {c : Cy} {z : Cz} {G : Gt} {h h' : AH} (q : Fr P h h') (np : ∀ f a, gshF.contains f = true → ¬ P f a) (s : GSH c z G h) : GSH c z G h' := by
  obtain ⟨⟨⟨a1, a2, a3, a4, a5, a6⟩, a7, a8, a9⟩, ⟨b1, b2, b3⟩, ⟨c1, c2, c3⟩, d, e⟩ := s
  have sub : ∀ l' : List Nat, l'.all (fun f => gshF.contains f) = true → ∀ f a, l'.contains f = true → ¬ P f a := fun l' hl f a hf => np f a (by rw [List.all_eq_true] at hl; exact hl f (List.contains_iff_mem.mp hf))
  refine ⟨⟨⟨q.tag a1, by rw [q.R (np _ _ rfl)]; exact a2, by rw [q.R (np _ _ rfl)]; exact a3, by rw [q.R (np _ _ rfl)]; exact a4, by rw [q.R (np _ _ rfl)]; exact a5, q.tag a6⟩, by rw [q.R (np _ _ rfl)]; exact a7, q.tag a8, fun j hj => by rw [q.ER (np _ _ rfl)]; exact a9 j hj⟩, ⟨b1.fr q (sub bkF rfl), by rw [q.I (np _ _ rfl)]; exact b2, by rw [q.I (np _ _ rfl)]; exact b3⟩, ⟨⟨by rw [q.R (np _ _ rfl)]; exact c1.1, fun n m hm => ?_⟩, c2.fr q (sub mdlF rfl), c3.fr q (sub _ rfl)⟩, fun k hk => (d k hk).fr q (sub _ rfl), fun k k1 k2 => ?_⟩
  · obtain ⟨x1, x2⟩ := c1.2 n m hm
    exact ⟨x1.fr q (sub mdlF rfl), x2⟩
  · obtain ⟨x1, x2, x3, x4⟩ := e k k1 k2
    exact ⟨x1.fr q (sub txiF rfl), by rw [q.I (np _ _ rfl)]; exact x2, by rw [q.J (np _ _ rfl)]; exact x3, by rw [q.I (np _ _ rfl)]; exact x4⟩
/-- what a transaction tells -/
def TXO (h : AH) (y : Ly) (k : Nat) (pub : Bool) (r : TxR) : Prop := (h.I 2707 (yX y k) = nI r.1 ∧ h.J 2708 (yX y k) = (if r.1 = 0 then 0 else r.2.1) ∧ h.I 2710 (yX y k) = nI (if r.1 = 3 then 0 else r.2.2.2.1)) ∧ RSL h (yX y k) (y.2 7 k) (y.2 8 k) (y.2 9 k) (if r.1 = 0 ∧ pub = false then r.2.2.2.2.1 else []) ∧ h.I 2709 (yX y k) = nI (if r.1 = 4 then r.2.2.2.2.2 else 0)
theorem TXO.fr {P : Nat → Nat → Prop} {h h' : AH} {y : Ly} {k : Nat} {pub : Bool} {r : TxR} (q : Fr P h h') (np : ∀ f, (txF ++ resF).contains f = true → ∀ a, (a = yX y k ∨ a = y.2 7 k ∨ a = y.2 8 k ∨ a = y.2 9 k) → ¬ P f a) (s : TXO h y k pub r) : TXO h' y k pub r := by
  obtain ⟨⟨a, b, c⟩, ⟨d1, d2⟩, e⟩ := s
  refine ⟨⟨by rw [q.I (np _ rfl _ (Or.inl rfl))]; exact a, by rw [q.J (np _ rfl _ (Or.inl rfl))]; exact b, by rw [q.I (np _ rfl _ (Or.inl rfl))]; exact c⟩, ⟨by rw [q.I (np _ rfl _ (Or.inl rfl))]; exact d1, fun i v hv => ?_⟩, by rw [q.I (np _ rfl _ (Or.inl rfl))]; exact e⟩
  obtain ⟨x1, x2, x3⟩ := d2 i v hv
  exact ⟨by rw [q.EI (np _ rfl _ (Or.inr (Or.inl rfl)))]; exact x1, by rw [q.EJ (np _ rfl _ (Or.inr (Or.inr (Or.inl rfl))))]; exact x2, by rw [q.EJ (np _ rfl _ (Or.inr (Or.inr (Or.inr rfl))))]; exact x3⟩
/-- a transaction -/
def GTX (c : Cy) (z : Cz) (g : Gg) (h : AH) (o : Lc) (k : Nat) : Prop := (h.I 2703 (yX c.1 k) = nI (xR g k) ∧ h.I 2704 (yX c.1 k) = nI (xH g k)) ∧ EtR h o 4 k (yL c.1 k) 30 c.2.1 (xL g k) ∧ RDR h (yD c.1 k) (xD g k) ∧ (zf z ≤ k → k < zl z → xS g k = 2 → TXO h c.1 k (c.2.2.2.2 k) (xO g k))
/-- a worker -/
def GWK (c : Cy) (g : Gg) (h : AH) (o : Lc) (j : Nat) : Prop := (SWk h (yW c.1 j) ∧ h.I 2432 (yW c.1 j) = nI (wK g j) ∧ (wK g j ≠ 0 → h.I 2433 (yW c.1 j) = nI (wT g j)) ∧ (wK g j = 2 → h.I 2434 (yW c.1 j) = nI (wN g j) ∧ h.I 2435 (yW c.1 j) = nI (wL g j)) ∧ (wK g j = 1 → h.I 2436 (yW c.1 j) = bI (wB g j))) ∧ (¬ (wK g j = 1 ∧ wB g j = true) → IDW h o j (yW c.1 j)) ∧ (wK g j = 1 → wB g j = true → WkR h o j (yW c.1 j) (wM g j) (wS g j) ∧ ((wM g j).1 = c.2.1.1 ∧ (wM g j).2.1 = c.2.1.2.1) ∧ (∀ i, i < (wS g j).1 → (wM g j).2.2.1 i = ((wS g j).2.1 i).2.1) ∧ ∃ e, (ens (wS g j))[0]? = some e ∧ h.J 2442 (yW c.1 j) = e.2.1.2.1 ∧ h.J 2443 (yW c.1 j) = e.2.1.2.2.1)
theorem GTX.fr {P : Nat → Nat → Prop} {c : Cy} {z : Cz} {g g' : Gg} {h h' : AH} {o o' : Lc} {k : Nat} (q : Fr P h h') (n1 : ∀ f, [2703, 2704].contains f = true → ¬ P f (yX c.1 k)) (n2 : ∀ f a, (etF ++ rdF).contains f = true → (yL c.1 k ≤ a ∧ a < yL c.1 k + 32) ∨ (yD c.1 k ≤ a ∧ a < yD c.1 k + 32) → ¬ P f a) (n4 : ∀ f a, [1024, 10000 + 342].contains f = true → ¬ P f a) (n3 : ∀ f, (txF ++ resF).contains f = true → ∀ a, (a = yX c.1 k ∨ a = c.1.2 7 k ∨ a = c.1.2 8 k ∨ a = c.1.2 9 k) → ¬ P f a) (ho : ∀ e, o' (4, k, e, 0) = o (4, k, e, 0)) (e : (g'.1 k).2 = (g.1 k).2 ∧ xR g' k = xR g k ∧ xH g' k = xH g k ∧ (xS g' k = 2 → xS g k = 2)) (s : GTX c z g h o k) : GTX c z g' h' o' k := by
  obtain ⟨⟨a1, a2⟩, b, d, f⟩ := s
  obtain ⟨e1, e2, e3, e4⟩ := e
  have eL : xL g' k = xL g k := by unfold xL; rw [e1]
  have eD : xD g' k = xD g k := by unfold xD; rw [e1]
  have eO : xO g' k = xO g k := by unfold xO; rw [e1]
  refine ⟨⟨by rw [q.I (n1 _ rfl), e2]; exact a1, by rw [q.I (n1 _ rfl), e3]; exact a2⟩, ?_, ?_, fun k1 k2 k3 => ?_⟩
  · rw [eL]
    exact b.fr q (fun f a hf h1 h2 => n2 f a (by rw [List.contains_iff_mem] at hf ⊢; exact List.mem_append_left _ hf) (Or.inl ⟨h1, by omega⟩)) ho
  · rw [eD]
    exact d.fr q n4 (fun f a hf h1 h2 => n2 f a (by rw [List.contains_iff_mem] at hf ⊢; exact List.mem_append_right _ hf) (Or.inr ⟨h1, h2⟩))
  · rw [eO]
    exact (f k1 k2 (e4 k3)).fr q n3
theorem GWK.fr {P : Nat → Nat → Prop} {c : Cy} {g g' : Gg} {h h' : AH} {o o' : Lc} {j : Nat} (q : Fr P h h') (n1 : ∀ g a, swF.contains g = true → ¬ P g a) (n2 : ∀ g a, pgW.contains g = true → yW c.1 j ≤ a → a < yW c.1 j + 130 → ¬ P g a) (ho : ∀ p : Sl, 1 ≤ p.1 → p.1 ≤ 3 → p.2.1 = j → o' p = o p ∧ ∀ x, o p = some x → h'.R 3718 x.1 = h.R 3718 x.1) (e : g'.2.1 j = g.2.1 j) (s : GWK c g h o j) : GWK c g' h' o' j := by
  obtain ⟨⟨a1, a2, a3, a4, a5⟩, b, d⟩ := s
  have e1 : wK g' j = wK g j := by unfold wK; rw [e]
  have e2 : wT g' j = wT g j := by unfold wT; rw [e]
  have e3 : wN g' j = wN g j := by unfold wN; rw [e]
  have e4 : wL g' j = wL g j := by unfold wL; rw [e]
  have e5 : wB g' j = wB g j := by unfold wB; rw [e]
  have e6 : wM g' j = wM g j := by unfold wM; rw [e]
  have e7 : wS g' j = wS g j := by unfold wS; rw [e]
  have sub : ∀ l' : List Nat, l'.all (fun f => pgW.contains f) = true → ∀ f a, l'.contains f = true → yW c.1 j ≤ a → a < yW c.1 j + 130 → ¬ P f a := fun l' hl f a hf => n2 f a (by rw [List.all_eq_true] at hl; exact hl f (List.contains_iff_mem.mp hf))
  have nW : ∀ f, pgW.contains f = true → ¬ P f (yW c.1 j) := fun f hf => n2 f _ hf (by omega) (by omega)
  refine ⟨⟨a1.fr q n1, by rw [q.I (nW _ rfl), e1]; exact a2, fun k => by rw [q.I (nW _ rfl), e2]; exact a3 (by rw [← e1]; exact k), fun k => ?_, fun k => by rw [q.I (nW _ rfl), e5]; exact a5 (by rw [← e1]; exact k)⟩, fun k => (b (by rw [← e1, ← e5]; exact k)).far q n1 (sub _ rfl) (fun p h1 h2 h3 => (ho p h1 h2 h3).1), fun k1 k2 => ?_⟩
  · rw [e1] at k
    obtain ⟨x1, x2⟩ := a4 k
    exact ⟨by rw [q.I (nW _ rfl), e3]; exact x1, by rw [q.I (nW _ rfl), e4]; exact x2⟩
  · rw [e1] at k1
    rw [e5] at k2
    obtain ⟨d1, d2, d3, x, d4, d5, d6⟩ := d k1 k2
    rw [e6, e7]
    exact ⟨WkQ.far d1 q n1 (sub _ rfl) ho, d2, d3, x, d4, by rw [q.J (nW _ rfl)]; exact d5, by rw [q.J (nW _ rfl)]; exact d6⟩
