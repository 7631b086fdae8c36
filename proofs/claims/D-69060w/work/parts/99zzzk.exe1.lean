/-! between the runs: what has been left is taken over -/
/-- what stays as it is, for all transactions -/
def GSX (c : Cy) (n : Nat) (G : Gt) (h : AH) : Prop := ((h.tag (yA c.1) = some (0, 0) ∧ h.R 2 (yA c.1) = some (yQ c.1) ∧ h.R 3 (yA c.1) = some (yB c.1) ∧ h.R 23 (yA c.1) = some (yP c.1) ∧ h.R 1 (yA c.1) = some (yE c.1) ∧ h.tag (yP c.1) = some (31, 0)) ∧ h.R 7 (yA c.1) = some (yV c.1) ∧ h.tag (yV c.1) = some (89, n) ∧ ∀ j, j < n → h.ER 89 (yV c.1) j = some (yW c.1 j)) ∧ BLK h (yB c.1) (yX c.1) (yL c.1) (yD c.1) ∧ (WHY h (yA c.1) (yC c.1) c.2.1 c.2.2.1 ∧ CNY h (yC c.1) ∧ DGR G h (yA c.1)) ∧ (∀ k, k < 32 → TXS h (yX c.1 k) (c.1.2 7 k) (c.1.2 8 k) (c.1.2 9 k)) ∧ ∀ k, k < 32 → TXI h (yX c.1 k) (c.1.2 4 k) (c.1.2 5 k) (c.1.2 6 k) (c.2.2.2.1 k) ∧ h.I 2691 (yX c.1 k) = nI (c.2.2.2.1 k).2.2.1 ∧ h.J 2689 (yX c.1 k) = (c.2.2.2.1 k).1 ∧ h.I 2688 (yX c.1 k) = bI (c.2.2.2.2 k)
def gsxF : List Nat := [2, 3, 23, 1, 7, 10000 + 89, 0, 19, 1792, 1920, 1921, 1922, 1923, 14096, 2713, 2711, 2712, 2691, 2689, 2688] ++ bkF ++ mdlF ++ txiF
theorem GSX.fr {P : Nat → Nat → Prop} {c : Cy} {n : Nat} {G : Gt} {h h' : AH} (q : Fr P h h') (np : ∀ f a, gsxF.contains f = true → ¬ P f a) (s : GSX c n G h) : GSX c n G h' := by
  obtain ⟨⟨⟨a1, a2, a3, a4, a5, a6⟩, a7, a8, a9⟩, b1, ⟨c1, c2, c3⟩, d, e⟩ := s
  have sub : ∀ l' : List Nat, l'.all (fun f => gsxF.contains f) = true → ∀ f a, l'.contains f = true → ¬ P f a := fun l' hl f a hf => np f a (by rw [List.all_eq_true] at hl; exact hl f (List.contains_iff_mem.mp hf))
  refine ⟨⟨⟨q.tag a1, by rw [q.R (np _ _ rfl)]; exact a2, by rw [q.R (np _ _ rfl)]; exact a3, by rw [q.R (np _ _ rfl)]; exact a4, by rw [q.R (np _ _ rfl)]; exact a5, q.tag a6⟩, by rw [q.R (np _ _ rfl)]; exact a7, q.tag a8, fun j hj => by rw [q.ER (np _ _ rfl)]; exact a9 j hj⟩, b1.fr q (sub bkF rfl), ⟨⟨by rw [q.R (np _ _ rfl)]; exact c1.1, fun n m hm => ?_⟩, c2.fr q (sub mdlF rfl), c3.fr q (sub _ rfl)⟩, fun k hk => (d k hk).fr q (sub _ rfl), fun k k1 => ?_⟩
  · obtain ⟨x1, x2⟩ := c1.2 n m hm
    exact ⟨x1.fr q (sub mdlF rfl), x2⟩
  · obtain ⟨x1, x2, x3, x4⟩ := e k k1
    exact ⟨x1.fr q (sub txiF rfl), by rw [q.I (np _ _ rfl)]; exact x2, by rw [q.J (np _ _ rfl)]; exact x3, by rw [q.I (np _ _ rfl)]; exact x4⟩
theorem GSX.sh {c : Cy} {z : Cz} {G : Gt} {h : AH} (s : GSX c (zn z) G h) (h1 : h.I 5 (yA c.1) = nI (zf z)) (h2 : h.I 6 (yA c.1) = nI (zl z)) (h32 : zl z ≤ 32) : GSH c z G h := ⟨s.1, ⟨s.2.1, h1, h2⟩, s.2.2.1, s.2.2.2.1, fun k _ k2 => s.2.2.2.2 k (by omega)⟩
/-- nobody runs -/
def CML (c : Cy) (n : Nat) (G : Gt) (B : Nat) (st : Lw) (g : Gg) (h : AH) (l : List Nat) (o : Lc) : Prop := (GSX c n G h ∧ LYD c.1 n) ∧ (∀ k, k < 32 → (h.I 2702 (yX c.1 k) = nI (xS g k) ∧ xS g k < 4) ∧ GT0 c g h o k) ∧ (∀ j, j < n → GWK c g h o j ∧ wK g j = 0) ∧ EtR h o 0 0 (yE c.1) 256 c.2.1 st ∧ WDR h (yA c.1) ∧ VH G B h (yQ c.1) l o ∧ SUP n o ∧ STO h (yE c.1) st
section
variable {c : Cy} {z : Cz} {G : Gt} {B d n t : Nat} {g g' : Gg} {h h' : AH} {l l' : List Nat} {o o' : Lc} {K : Outcome → AH → Prop} {st st' : Lw}
theorem CML.grm (r : CML c (zn z) G B (zst z) g h l o) (hL : ∀ k, k < 32 → xL g k = []) (h1 : h.I 5 (yA c.1) = nI (zf z)) (h2 : h.I 6 (yA c.1) = nI (zl z)) (h32 : zl z ≤ 32) : GRM c z G B (zf z) g h l o := by
  obtain ⟨⟨r1, r2⟩, r3, r4, r5, r6, r7, r8, -⟩ := r
  exact ⟨⟨r1.sh h1 h2 h32, r2⟩, fun k hk => ⟨(r3 k hk).1, (r3 k hk).2, hL k hk⟩, fun k k1 k2 => by omega, r4, r5, r6, r7, r8⟩
theorem GRL.cml (r : GRL c z G B g h l o) (hw : ∀ j, j < zn z → wK g j = 0) (s : GSX c (zn z) G h) (so : STO h (yE c.1) (zst z)) : CML c (zn z) G B (zst z) g h l o := by
  obtain ⟨r1, r2, ⟨r3, -⟩, r7, r8, r9, r10, r11, r12⟩ := r
  exact ⟨⟨s, r2⟩, fun k hk => ⟨r3 k hk, (r7 k hk).1, (r7 k hk).2.1, (r7 k hk).2.2.1⟩, fun j hj => ⟨r8 j hj, hw j hj⟩, r9, r10, r11, r12, so⟩
/-- what t has left is gone -/
def cgl (g : Gg) (t : Nat) : Gg := uTx g t ((xS g t, xR g t, xH g t), [], (g.1 t).2.2)
theorem cgl_o {k : Nat} (hk : k ≠ t) : (cgl g t).1 k = g.1 k := if_neg hk
theorem cgl_t : (cgl g t).1 t = ((xS g t, xR g t, xH g t), [], (g.1 t).2.2) := if_pos rfl
theorem cgl_O {k : Nat} : xO (cgl g t) k = xO g k := by
  by_cases e : k = t
  · rw [e, xO, cgl_t]; rfl
  · unfold xO; rw [cgl_o e]
theorem cgl_L {k : Nat} : xL (cgl g t) k = if k = t then [] else xL g k := by
  by_cases e : k = t
  · rw [if_pos e, e, xL, cgl_t]
  · rw [if_neg e]; unfold xL; rw [cgl_o e]
theorem CML.ov (r : CML c n G B st g h l o) (ht : t < 32) (q : Fr (PTm (yA c.1) (yX c.1 t) (yE c.1) (yL c.1 t)) h h') (v : VH G B h' (yQ c.1) l' o') (e0 : EtR h' o' 0 0 (yE c.1) 256 c.2.1 st') (e4 : EtR h' o' 4 t (yL c.1 t) 30 c.2.1 []) (ho : ∀ p : Sl, ¬ (p.1 = 0 ∧ p.2.1 = 0 ∧ p.2.2.2 = 0) → ¬ (p.1 = 4 ∧ p.2.1 = t ∧ p.2.2.2 = 0) → o' p = o p) (tg : ∀ p z, o' p = some z → (∃ r, o r = some z) ∧ h'.R 3718 z.1 = h.R 3718 z.1) (so : STO h' (yE c.1) st') : CML c n G B st' (cgl g t) h' l' o' := by
  obtain ⟨⟨r1, ly⟩, r3, r4, r5, r6, r7, r8, r9⟩ := r
  have nS : ∀ f a, gsxF.contains f = true → ¬ PTm (yA c.1) (yX c.1 t) (yE c.1) (yL c.1 t) f a := PTm.no (by decide) (by decide)
  have no : ∀ l : List Nat, l.all (fun f => !((3712 ≤ f && f ≤ 3718) || f == 1280 || (1025 :: etE).contains f)) = true → l.all (fun f => !([18, 2698, 32].contains f)) = true → ∀ f a, l.contains f = true → ¬ PTm (yA c.1) (yX c.1 t) (yE c.1) (yL c.1 t) f a := fun l h1 h2 => PTm.no h1 h2
  have far : ∀ f a, (etF ++ rdF ++ pgW).contains f = true → ¬ (yE c.1 ≤ a ∧ a < yE c.1 + 258) → ¬ (yL c.1 t ≤ a ∧ a < yL c.1 t + 32) → ¬ PTm (yA c.1) (yX c.1 t) (yE c.1) (yL c.1 t) f a := fun f a hf n1 n2 z => by
    have hv : ∀ f a, (etF ++ rdF ++ pgW).contains f = true → ¬ VQ f a := VQ.no (by decide)
    rcases z with (((z | ⟨-, z⟩) | ⟨-, z⟩) | ⟨z, -⟩) | ⟨z, -⟩ | ⟨z, -⟩
    · exact hv f a hf z
    · exact n1 z
    · exact n2 z
    · rw [z] at hf; exact absurd hf (by decide)
    · rw [z] at hf; exact absurd hf (by decide)
    · rw [z] at hf; exact absurd hf (by decide)
  have m1 : ∀ f, etF.contains f = true → (etF ++ rdF ++ pgW).contains f = true := fun f hf => by
    rw [List.contains_iff_mem] at hf ⊢
    exact List.mem_append_left _ (List.mem_append_left _ hf)
  have m2 : ∀ f, rdF.contains f = true → (etF ++ rdF ++ pgW).contains f = true := fun f hf => by
    rw [List.contains_iff_mem] at hf ⊢
    exact List.mem_append_left _ (List.mem_append_right _ hf)
  have m3 : ∀ f, pgW.contains f = true → (etF ++ rdF ++ pgW).contains f = true := fun f hf => by
    rw [List.contains_iff_mem] at hf ⊢
    exact List.mem_append_right _ hf
  refine ⟨⟨r1.fr q nS, ly⟩, fun k hk => ?_, fun j hj => ?_, e0, r6.fr q (fun a => no [27] rfl rfl _ a rfl) (fun a => no [2306] rfl rfl _ a rfl), v, fun p x hp => ?_, so⟩
  · obtain ⟨⟨x1, x2⟩, ⟨x3, x4⟩, x5, x6⟩ := r3 k hk
    obtain ⟨d1, d2, d3⟩ := ly.2.2 k hk
    obtain ⟨d4, d5⟩ := d3 t ht
    have jn := no [2702, 2703, 2704] rfl rfl
    have rd : RDR h' (yD c.1 k) (xD g k) := x6.fr q (no [1024, 10000 + 342] rfl rfl) (fun f a hf a1 a2 => far f a (m2 f hf) (by omega) (by omega))
    by_cases e : k = t
    · subst e
      have y1 : xS (cgl g k) k = xS g k := by rw [xS, cgl_t]
      have y2 : xR (cgl g k) k = xR g k := by rw [xR, cgl_t]
      have y3 : xH (cgl g k) k = xH g k := by rw [xH, cgl_t]
      have y4 : xL (cgl g k) k = [] := by rw [xL, cgl_t]
      have y5 : xD (cgl g k) k = xD g k := by rw [xD, cgl_t]; rfl
      refine ⟨⟨by rw [y1, q.I (jn _ _ rfl)]; exact x1, by rw [y1]; exact x2⟩, ⟨by rw [y2, q.I (jn _ _ rfl)]; exact x3, by rw [y3, q.I (jn _ _ rfl)]; exact x4⟩, by rw [y4]; exact e4, by rw [y5]; exact rd⟩
    · have eg := cgl_o (g := g) e
      have y1 : xS (cgl g t) k = xS g k := by unfold xS; rw [eg]
      have y2 : xR (cgl g t) k = xR g k := by unfold xR; rw [eg]
      have y3 : xH (cgl g t) k = xH g k := by unfold xH; rw [eg]
      have y4 : xL (cgl g t) k = xL g k := by unfold xL; rw [eg]
      have y5 : xD (cgl g t) k = xD g k := by unfold xD; rw [eg]
      obtain ⟨d6, -⟩ := d5 e
      refine ⟨⟨by rw [y1, q.I (jn _ _ rfl)]; exact x1, by rw [y1]; exact x2⟩, ⟨by rw [y2, q.I (jn _ _ rfl)]; exact x3, by rw [y3, q.I (jn _ _ rfl)]; exact x4⟩, ?_, by rw [y5]; exact rd⟩
      rw [y4]
      exact x5.fr q (fun f a hf a1 a2 => far f a (m1 f hf) (by omega) (by omega)) (fun e' => ho (4, k, e', 0) (fun z => absurd z.1 (show (4 : Nat) ≠ 0 by decide)) (fun z => e z.2.1))
  · obtain ⟨d1, d2⟩ := ly.1 j hj
    obtain ⟨d3, d4⟩ := d2 t ht
    obtain ⟨w1, w2⟩ := r4 j hj
    refine ⟨w1.fr q (no swF rfl rfl) (fun f a hf a1 a2 => far f a (m3 f hf) (by omega) (by omega)) (fun p p1 p2 p3 => ?_) rfl, w2⟩
    have e := ho p (fun z => by omega) (fun z => by omega)
    exact ⟨e, fun x hx => (tg p x (by rw [e]; exact hx)).2⟩
  · by_cases c0 : p.1 = 0 ∧ p.2.1 = 0 ∧ p.2.2.2 = 0
    · refine Or.inl ⟨c0.1, c0.2.1, ?_, c0.2.2⟩
      rcases Nat.lt_or_ge p.2.2.1 st'.length with y | y
      · have := e0.1.2.1.2.1
        rw [List.length_map] at this
        omega
      · have := e0.2.2 _ y
        obtain ⟨p1, p2, p3, p4⟩ := p
        obtain ⟨z1, z2, z3⟩ := c0
        simp only at z1 z2 z3
        subst z1; subst z2; subst z3
        rw [this] at hp; cases hp
    · by_cases c4 : p.1 = 4 ∧ p.2.1 = t ∧ p.2.2.2 = 0
      · have := e4.2.2 p.2.2.1 (Nat.zero_le _)
        obtain ⟨p1, p2, p3, p4⟩ := p
        obtain ⟨z1, z2, z3⟩ := c4
        simp only at z1 z2 z3
        subst z1; subst z2; subst z3
        rw [this] at hp; cases hp
      · exact r8 p x (by rw [← ho p c0 c4]; exact hp)
end
