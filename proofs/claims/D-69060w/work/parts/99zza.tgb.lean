/-! all transactions at once: the beginning -/
def GT0 (c : Cy) (g : Gg) (h : AH) (o : Lc) (k : Nat) : Prop := (h.I 2703 (yX c.1 k) = nI (xR g k) ∧ h.I 2704 (yX c.1 k) = nI (xH g k)) ∧ EtR h o 4 k (yL c.1 k) 30 c.2.1 (xL g k) ∧ RDR h (yD c.1 k) (xD g k)
/-- between runs; those from fs to before i are as they begin -/
def GRM (c : Cy) (z : Cz) (G : Gt) (B i : Nat) (g : Gg) (h : AH) (l : List Nat) (o : Lc) : Prop := (GSH c z G h ∧ LYD c.1 (zn z)) ∧ (∀ k, k < 32 → (h.I 2702 (yX c.1 k) = nI (xS g k) ∧ xS g k < 4) ∧ GT0 c g h o k ∧ xL g k = []) ∧ (∀ k, zf z ≤ k → k < i → xS g k = 0 ∧ xR g k = 1) ∧ (∀ j, j < zn z → GWK c g h o j ∧ wK g j = 0) ∧ EtR h o 0 0 (yE c.1) 256 c.2.1 (zst z) ∧ WDR h (yA c.1) ∧ VH G B h (yQ c.1) l o ∧ SUP (zn z) o
theorem bsy_z {g : Gg} : ∀ {k : Nat}, (∀ j, j < k → wK g j = 0) → bsy g k = 0
  | 0, _ => rfl
  | k + 1, h => by
    show bsy g k + (if wK g k = 0 then 0 else 1) = 0
    rw [if_pos (h k (by omega)), bsy_z (fun j hj => h j (by omega))]
section
variable {c : Cy} {z : Cz} {G : Gt} {B i : Nat} {g g' : Gg} {h h' : AH} {l : List Nat} {o : Lc}
theorem GT0.fr {P : Nat → Nat → Prop} {k : Nat} (q : Fr P h h') (n1 : ∀ f, [2703, 2704].contains f = true → ¬ P f (yX c.1 k)) (n2 : ∀ f a, (etF ++ rdF).contains f = true → (yL c.1 k ≤ a ∧ a < yL c.1 k + 32) ∨ (yD c.1 k ≤ a ∧ a < yD c.1 k + 32) → ¬ P f a) (n4 : ∀ f a, [1024, 10000 + 342].contains f = true → ¬ P f a) (e : g'.1 k = g.1 k) (s : GT0 c g h o k) : GT0 c g' h' o k := by
  obtain ⟨⟨a1, a2⟩, b, d⟩ := s
  have eL : xL g' k = xL g k := by unfold xL; rw [e]
  have eD : xD g' k = xD g k := by unfold xD; rw [e]
  have e2 : xR g' k = xR g k := by unfold xR; rw [e]
  have e3 : xH g' k = xH g k := by unfold xH; rw [e]
  refine ⟨⟨by rw [q.I (n1 _ rfl), e2]; exact a1, by rw [q.I (n1 _ rfl), e3]; exact a2⟩, ?_, ?_⟩
  · rw [eL]
    exact b.fr q (fun f a hf h1 h2 => n2 f a (by rw [List.contains_iff_mem] at hf ⊢; exact List.mem_append_left _ hf) (Or.inl ⟨h1, by omega⟩)) (fun _ => rfl)
  · rw [eD]
    exact d.fr q n4 (fun f a hf h1 h2 => n2 f a (by rw [List.contains_iff_mem] at hf ⊢; exact List.mem_append_right _ hf) (Or.inr ⟨h1, h2⟩))
/-- fields that matter to none of it -/
theorem GRM.frm {P : Nat → Nat → Prop} (r : GRM c z G B i g h l o) (q : Fq P h h') (np : ∀ f a, (gshF ++ swF ++ pgW ++ etF ++ rdF ++ [2703, 2704, 2702, 27, 2306]).contains f = true → ¬ P f a) (nv : ∀ f a, VQ f a → ¬ P f a) : GRM c z G B i g h' l o := by
  obtain ⟨⟨r1, r2⟩, r3, r4, r8, r9, r10, r11, r12⟩ := r
  obtain ⟨v', tg⟩ := r11.oth q nv
  have sub : ∀ l' : List Nat, l'.all (fun f => (gshF ++ swF ++ pgW ++ etF ++ rdF ++ [2703, 2704, 2702, 27, 2306]).contains f) = true → ∀ f a, l'.contains f = true → ¬ P f a := fun l' hl f a hf => np f a (by rw [List.all_eq_true] at hl; exact hl f (List.contains_iff_mem.mp hf))
  have s1 : ∀ f a, gshF.contains f = true → ¬ P f a := sub gshF (by decide)
  have s2 : ∀ f a, swF.contains f = true → ¬ P f a := sub swF (by decide)
  have s3 : ∀ f a, pgW.contains f = true → ¬ P f a := sub pgW (by decide)
  have s4 : ∀ f a, etF.contains f = true → ¬ P f a := sub etF (by decide)
  have s5 : ∀ f a, (etF ++ rdF).contains f = true → ¬ P f a := sub (etF ++ rdF) (by decide)
  refine ⟨⟨r1.fr q.1 s1, r2⟩, fun k hk => ?_, r4, fun j hj => ⟨(r8 j hj).1.fr q.1 s2 (fun f a hf _ _ => s3 f a hf) (fun p _ _ _ => ⟨rfl, fun x hx => tg p x (by simp) hx⟩) rfl, (r8 j hj).2⟩, r9.fr q.1 (fun f a hf _ _ => s4 f a hf) (fun _ => rfl), r10.fr q.1 (fun a => np _ a rfl) (fun a => np _ a rfl), v', r12⟩
  obtain ⟨x1, x2, x3⟩ := r3 k hk
  exact ⟨⟨by rw [q.1.I (np _ _ rfl)]; exact x1.1, x1.2⟩, x2.fr q.1 (fun f hf => sub [2703, 2704] rfl f _ hf) (fun f a hf _ => s5 f a hf) (sub _ rfl) rfl, x3⟩
theorem GRM.grl {x3 : Nat} (r : GRM c z G B (zl z) g h l o) (hq : x3 = 0) (e1 : h.I 10 (yA c.1) = nI (qR g)) (e2 : h.I 11 (yA c.1) = nI (qL g)) (e3 : h.I 12 (yA c.1) = nI x3) : GRL c z G B g h l o := by
  obtain ⟨⟨r1, r2⟩, r3, r4, r8, r9, r10, r11, r12⟩ := r
  refine ⟨r1, r2, ⟨fun k hk => (r3 k hk).1, e1, e2, by rw [bsy_z (fun j hj => (r8 j hj).2), e3, hq]⟩, fun k hk => ?_, fun j hj => (r8 j hj).1, r9, r10, r11, r12⟩
  obtain ⟨x1, x2, x3⟩ := r3 k hk
  exact ⟨x2.1, x2.2.1, x2.2.2, fun q1 q2 q3 => by have := (r4 k q1 q2).1; omega⟩
/-- nothing has been done yet -/
theorem IVG.ini (h : ∀ k, zf z ≤ k → k < zl z → xS g k = 0 ∧ xR g k = 1) (hL : ∀ k, zf z ≤ k → k < zl z → xL g k = []) (hw : ∀ j, j < zn z → wK g j = 0) (e1 : qR g = zf z) (e2 : qL g = zf z) (h1 : zf z ≤ zl z) (h32 : zl z ≤ 32) : IVG z g := by
  refine ⟨fun t t1 t2 => ?_, fun j hj => ?_, fun i j hi hj q => ?_, by omega, by omega, by omega, by omega⟩
  · obtain ⟨a, b⟩ := h t t1 t2
    exact ⟨⟨by omega, by omega⟩, fun y hy => by rw [hL t t1 t2] at hy; simp at hy, fun q => by omega, fun _ => by omega, fun q => by omega, fun q => by omega⟩
  · have := hw j hj
    exact ⟨by omega, fun q => absurd this q, fun q => by omega, fun q => by omega⟩
  · have := hw i hi
    omega
end
