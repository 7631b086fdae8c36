/-! a transaction is written anew -/
def fup {α : Type} (F : Nat → α) (k : Nat) (v : α) (i : Nat) : α := if i = k then v else F i
theorem fup_s {α : Type} {F : Nat → α} {k : Nat} {v : α} : fup F k v k = v := if_pos rfl
theorem fup_n {α : Type} {F : Nat → α} {k i : Nat} {v : α} (h : i ≠ k) : fup F k v i = F i := if_neg h
theorem MDR.fx {P : Nat → Nat → Prop} {h h' : AH} {M : Nat} {m : Md} (q : Fr P h h') (np : ∀ f a, (128 :: stF).contains f = true → ¬ P f a) (n2 : ∀ f a, (tcF ++ tbF).contains f = true → M + 1 ≤ a → a < M + 525 → ¬ P f a) (s : MDR h M m) : MDR h' M m := by
  obtain ⟨⟨s1, s2⟩, s4, s5, s6, s7⟩ := s
  have sub : ∀ f, tbF.contains f = true → (tcF ++ tbF).contains f = true := fun f hf => by
    rw [List.contains_iff_mem] at hf ⊢
    exact List.mem_append_right _ hf
  exact ⟨⟨q.tag s1, by rw [q.R (np _ _ rfl)]; exact s2⟩, s4.fr q (fun f a hf => np f a (by rw [List.contains_iff_mem] at hf ⊢; exact List.mem_cons_of_mem _ hf)), s5.fr q (n2 _ _ rfl (by omega) (by omega)) (n2 _ _ rfl (by omega) (by omega)) (n2 _ _ rfl (by omega) (by omega)), s6.fr q (n2 _ _ rfl (by omega) (by omega)) (n2 _ _ rfl (by omega) (by omega)) (n2 _ _ rfl (by omega) (by omega)) (n2 _ _ rfl (by omega) (by omega)) (n2 _ _ rfl (by omega) (by omega)), s7.fr q fun f a hf a1 a2 => n2 f a (sub f hf) (by omega) (by omega)⟩
/-- fields of a transaction that say what it asks for -/
def txkF : List Nat := [2691, 2689, 2688, 2690, 2692, 2693, 2697]
def gsxB : List Nat := [2, 3, 23, 1, 7, 10000 + 89, 0, 19, 1792, 1920, 1921, 1922, 1923, 14096, 2713, 2711, 2712, 2694, 2695, 2696, 128] ++ bkF ++ stF
/-- what is nowhere written -/
def exvB : List Nat := gsxB ++ swF ++ pgW ++ etF ++ rdF ++ [2703, 2704, 2702, 27, 2306] ++ [129, 131, 31, 10000 + 152, 14, 10000 + 192, 2698, 32, 18] ++ scF
def mdxF : List Nat := tcF ++ tbF ++ [130, 10000 + 177]
section
variable {c : Cy} {n B : Nat} {G : Gt} {g : Gg} {h h' : AH} {l : List Nat} {o : Lc} {st : Lw} {k0 : Nat} {x : TxC} {b : Bool} {P : Nat → Nat → Prop}
theorem CML.dn2 {X' : Nat → TxC} {pb' : Nat → Bool} (r : CML c n G B st g h l o) (q : Fq P h h') (np : ∀ f a, (swF ++ pgW ++ etF ++ rdF ++ [2703, 2704, 2702, 27, 2306]).contains f = true → ¬ P f a) (nv : ∀ f a, VQ f a → ¬ P f a) (sx : GSX (c.1, c.2.1, c.2.2.1, X', pb') n G h') : CML (c.1, c.2.1, c.2.2.1, X', pb') n G B st g h' l o := by
  obtain ⟨⟨r1, r2⟩, r3, r8, r9, r10, r11, r12, r13⟩ := r
  obtain ⟨v', tg⟩ := r11.oth q nv
  have sub : ∀ l' : List Nat, l'.all (fun f => (swF ++ pgW ++ etF ++ rdF ++ [2703, 2704, 2702, 27, 2306]).contains f) = true → ∀ f a, l'.contains f = true → ¬ P f a := fun l' hl f a hf => np f a (by rw [List.all_eq_true] at hl; exact hl f (List.contains_iff_mem.mp hf))
  have s2 : ∀ f a, swF.contains f = true → ¬ P f a := sub swF (by decide)
  have s3 : ∀ f a, pgW.contains f = true → ¬ P f a := sub pgW (by decide)
  have s4 : ∀ f a, etF.contains f = true → ¬ P f a := sub etF (by decide)
  have s5 : ∀ f a, (etF ++ rdF).contains f = true → ¬ P f a := sub (etF ++ rdF) (by decide)
  refine ⟨⟨sx, r2⟩, fun k hk => ?_, fun j hj => ⟨(r8 j hj).1.fr q.1 s2 (fun f a hf _ _ => s3 f a hf) (fun p _ _ _ => ⟨rfl, fun x hx => tg p x (by simp) hx⟩) rfl, (r8 j hj).2⟩, r9.fr q.1 (fun f a hf _ _ => s4 f a hf) (fun _ => rfl), r10.fr q.1 (fun a => np _ a rfl) (fun a => np _ a rfl), v', r12, r13.1, r13.2.1, fun e he => by rw [q.1.I (s4 _ _ rfl)]; exact r13.2.2 e he⟩
  obtain ⟨x1, x2⟩ := r3 k hk
  exact ⟨⟨by rw [q.1.I (np _ _ rfl)]; exact x1.1, x1.2⟩, x2.fr q.1 (fun f hf => sub [2703, 2704] rfl f _ hf) (fun f a hf _ => s5 f a hf) (sub _ rfl) rfl⟩
theorem TXI.fx {X TT TH TL : Nat} {x : TxC} (q : Fr P h h') (n1 : ∀ f, txkF.contains f = true → ¬ P f X) (n2 : ∀ f a, [2694, 2695, 2696].contains f = true → ¬ P f a) (n3 : ¬ P (10000 + 752) TT ∧ ¬ P (10000 + 771) TH ∧ ¬ P (10000 + 787) TL) (s : TXI h X TT TH TL x) : TXI h' X TT TH TL x := by
  obtain ⟨⟨a1, a2, a3, a4, a5⟩, ⟨b1, b2⟩, ⟨⟨c1, c2⟩, ⟨c3, c4⟩, c5, c6⟩, d⟩ := s
  refine ⟨⟨by rw [q.J (n1 _ rfl)]; exact a1, by rw [q.I (n1 _ rfl)]; exact a2, a3, by rw [q.I (n1 _ rfl)]; exact a4, a5⟩, ⟨by rw [q.I (n1 _ rfl)]; exact b1, b2⟩, ⟨⟨by rw [q.R (n2 _ _ rfl)]; exact c1, q.tag c2⟩, ⟨by rw [q.R (n2 _ _ rfl)]; exact c3, q.tag c4⟩, by rw [q.R (n2 _ _ rfl)]; exact c5, q.tag c6⟩, fun i a ha => ?_⟩
  obtain ⟨e1, e2, e3⟩ := d i a ha
  exact ⟨by rw [q.EI n3.1]; exact e1, by rw [q.EJ n3.2.1]; exact e2, by rw [q.EJ n3.2.2]; exact e3⟩
theorem GSX.tx (s : GSX c n G h) (u : Fr P h h') (np : ∀ f a, gsxB.contains f = true → ¬ P f a) (nk : ∀ k, k < 32 → k ≠ k0 → ∀ f, txkF.contains f = true → ¬ P f (yX c.1 k)) (ne : ∀ k, k < 32 → k ≠ k0 → ¬ P (10000 + 752) (c.1.2 4 k) ∧ ¬ P (10000 + 771) (c.1.2 5 k) ∧ ¬ P (10000 + 787) (c.1.2 6 k)) (nm : ∀ n m, c.2.2.1 n = some m → ∀ f a, (tcF ++ tbF).contains f = true → c.2.1.1 n + 1 ≤ a → a < c.2.1.1 n + 525 → ¬ P f a) (nc : ∀ f a, (tcF ++ tbF).contains f = true → yC c.1 + 1 ≤ a → a < yC c.1 + 525 → ¬ P f a) (nx : TXI h' (yX c.1 k0) (c.1.2 4 k0) (c.1.2 5 k0) (c.1.2 6 k0) x ∧ h'.I 2691 (yX c.1 k0) = nI x.2.2.1 ∧ h'.J 2689 (yX c.1 k0) = x.1 ∧ h'.I 2688 (yX c.1 k0) = bI b) : GSX (c.1, c.2.1, c.2.2.1, fup c.2.2.2.1 k0 x, fup c.2.2.2.2 k0 b) n G h' := by
  obtain ⟨⟨⟨a1, a2, a3, a4, a5, a6⟩, a7, a8, a9⟩, b1, ⟨c1, c2, c3⟩, d, e⟩ := s
  have sub : ∀ l' : List Nat, l'.all (fun f => gsxB.contains f) = true → ∀ f a, l'.contains f = true → ¬ P f a := fun l' hl f a hf => np f a (by rw [List.all_eq_true] at hl; exact hl f (List.contains_iff_mem.mp hf))
  refine ⟨⟨⟨u.tag a1, by rw [u.R (np _ _ rfl)]; exact a2, by rw [u.R (np _ _ rfl)]; exact a3, by rw [u.R (np _ _ rfl)]; exact a4, by rw [u.R (np _ _ rfl)]; exact a5, u.tag a6⟩, by rw [u.R (np _ _ rfl)]; exact a7, u.tag a8, fun j hj => by rw [u.ER (np _ _ rfl)]; exact a9 j hj⟩, b1.fr u (sub bkF rfl), ⟨⟨by rw [u.R (np _ _ rfl)]; exact c1.1, fun n m hm => ?_⟩, ?_, c3.fr u (sub _ rfl)⟩, fun k hk => (d k hk).fr u (sub _ rfl), fun k k1 => ?_⟩
  · obtain ⟨x1, x2⟩ := c1.2 n m hm
    exact ⟨x1.fx u (sub _ (by decide)) (nm n m hm), x2⟩
  · obtain ⟨mc, z1, z2⟩ := c2
    exact ⟨mc, z1.fx u (sub _ (by decide)) nc, z2⟩
  · show TXI h' (yX c.1 k) (c.1.2 4 k) (c.1.2 5 k) (c.1.2 6 k) (fup c.2.2.2.1 k0 x k) ∧ h'.I 2691 (yX c.1 k) = nI (fup c.2.2.2.1 k0 x k).2.2.1 ∧ h'.J 2689 (yX c.1 k) = (fup c.2.2.2.1 k0 x k).1 ∧ h'.I 2688 (yX c.1 k) = bI (fup c.2.2.2.2 k0 b k)
    by_cases ek : k = k0
    · subst ek
      rw [fup_s, fup_s]; exact nx
    · rw [fup_n ek, fup_n ek]
      obtain ⟨x1, x2, x3, x4⟩ := e k k1
      exact ⟨x1.fx u (nk k k1 ek) (sub _ (by decide)) (ne k k1 ek), by rw [u.I (nk k k1 ek _ rfl)]; exact x2, by rw [u.J (nk k k1 ek _ rfl)]; exact x3, by rw [u.I (nk k k1 ek _ rfl)]; exact x4⟩
end
section
variable {n B : Nat} {G : Gt} {cm : Md} {y : Ly} {X : Nat → TxC} {pb : Nat → Bool} {BT : Nat → By} {f ct ct' k0 M0 : Nat} {s : Qs} {bn : Int64} {h h' : AH} {P : Nat → Nat → Prop} {x : TxC} {b : Bool} {bt : By}
theorem EXV.tx (hk0 : k0 < 32) (e : EXV n G B cm y X pb BT f ct s bn h) (q : Fq P h h') (nv : ∀ f a, VQ f a → ¬ P f a) (np : ∀ f a, exvB.contains f = true → ¬ P f a) (nk : ∀ k, k < 32 → k ≠ k0 → ∀ f, (txkF ++ [2699, 2700]).contains f = true → ¬ P f (yX y k)) (ne : ∀ k, k < 32 → k ≠ k0 → ¬ P (10000 + 752) (y.2 4 k) ∧ ¬ P (10000 + 771) (y.2 5 k) ∧ ¬ P (10000 + 787) (y.2 6 k)) (hM : h.R 2698 (yX y k0) = some M0) (nm : ∀ f a, mdxF.contains f = true → P f a → M0 ≤ a ∧ a < M0 + 527) (nx : TXI h' (yX y k0) (y.2 4 k0) (y.2 5 k0) (y.2 6 k0) x ∧ h'.I 2691 (yX y k0) = nI x.2.2.1 ∧ h'.J 2689 (yX y k0) = x.1 ∧ h'.I 2688 (yX y k0) = bI b) (hb : f ≤ k0 → k0 < ct' → b = true → TPB h' (yX y k0) M0 bt) (hct : ∀ k, f ≤ k → k < ct' → k ≠ k0 → k < ct) : EXV n G B cm y (fup X k0 x) (fup pb k0 b) (fup BT k0 bt) f ct' s bn h' := by
  obtain ⟨MA, mw, dx, ms, g, l, o, ⟨e1, e2⟩, e3, e4, e5, e6, e7⟩ := e
  have u := q.1
  have sub : ∀ l' : List Nat, l'.all (fun f => exvB.contains f) = true → ∀ f a, l'.contains f = true → ¬ P f a := fun l' hl f a hf => np f a (by rw [List.all_eq_true] at hl; exact hl f (List.contains_iff_mem.mp hf))
  obtain ⟨⟨a1, a2⟩, ⟨b1, b2, b3, b4, b5⟩, ⟨c1, c2, c3, c4⟩, ⟨d1, d2⟩, ee, ⟨f1, f2, f3⟩⟩ := e6
  obtain ⟨t1, t2, t3⟩ := c1 k0 hk0
  have hM0 : M0 = mw.1 (mw.2.1 k0) := by rw [hM] at t2; exact Option.some.inj t2
  have far : ∀ i, i < 41 → i ≠ mw.2.1 k0 → ∀ f a, mdxF.contains f = true → mw.1 i ≤ a → a < mw.1 i + 527 → ¬ P f a := fun i hi hne f a hf h1 h2 z => by
    have z := nm f a hf z
    have := a2 i (mw.2.1 k0) hi (by omega) hne
    omega
  have mdx : ∀ f, (tcF ++ tbF).contains f = true → mdxF.contains f = true := fun f hf => by
    rw [List.contains_iff_mem] at hf ⊢
    exact List.mem_append_left _ hf
  have fby : ∀ i bb, i < 41 → i ≠ mw.2.1 k0 → BYR h (mw.1 i) bb → BYR h' (mw.1 i) bb := fun i bb hi hne s => ⟨by rw [u.I (far i hi hne _ _ (by decide) (Nat.le_refl _) (by omega))]; exact s.1, s.2.1, s.2.2.1, fun j hj => by rw [u.EI (far i hi hne _ _ (by decide) (by omega) (by omega))]; exact s.2.2.2 j hj⟩
  have sx := e1.1.1
  have sx' : GSX (y, MA, s.1, fup X k0 x, fup pb k0 b) n G h' := GSX.tx (c := (y, MA, s.1, X, pb)) sx u (sub gsxB (by decide)) (fun k hk hne f hf => nk k hk hne f (by rw [List.contains_iff_mem] at hf ⊢; exact List.mem_append_left _ hf)) ne (fun n m hm f a hf h1 h2 => ?_) (fun f a hf h1 h2 => ?_) nx
  · refine ⟨MA, mw, dx, ms, g, l, o, ⟨e1.dn2 (c := (y, MA, s.1, X, pb)) q (sub _ (by decide)) nv sx', e2⟩, e3, e4, e5, ⟨⟨fun i hi => ?_, a2⟩, ⟨by rw [u.I (np _ _ (by decide))]; exact b1, by rw [u.R (np _ _ (by decide))]; exact b2, u.tag b3, fun j hj => by rw [u.ER (np _ _ (by decide))]; exact b4 j hj, b5⟩, ⟨fun k hk => ⟨(c1 k hk).1, by rw [u.R (np _ _ (by decide))]; exact (c1 k hk).2.1, (c1 k hk).2.2⟩, c2, c3, c4⟩, ⟨fun n m hm h0 => ?_, d2.ou u (np _ _ (by decide)) (np _ _ (by decide))⟩, fun k k1 k2 k3 k4 => ?_, by rw [u.R (np _ _ (by decide))]; exact f1, f2.fr u (sub scF (by decide)), u.tag f3⟩, by rw [u.J (np _ _ (by decide))]; exact e7⟩
    · obtain ⟨⟨⟨x1, x2⟩, x3, x4⟩, x5, dp, x6⟩ := a1 i hi
      exact ⟨⟨⟨u.tag x1, by rw [u.R (np _ _ (by decide))]; exact x2⟩, by rw [u.R (np _ _ (by decide))]; exact x3, u.tag x4⟩, x5.fr u (sub stF (by decide)), dp, x6.ou u (np _ _ (by decide)) (np _ _ (by decide))⟩
    · obtain ⟨x1, x2, x3⟩ := d1 n m hm h0
      obtain ⟨y1, -, y3, -⟩ := c4 n m hm h0
      exact ⟨fby _ _ (by omega) (fun q => y3 k0 hk0 q.symm) x1, x2, x3.ou u (np _ _ (by decide)) (np _ _ (by decide))⟩
    · show TPB h' (yX y k) (mw.1 (mw.2.1 k)) (fup BT k0 bt k)
      have k4 : fup pb k0 b k = true := k4
      by_cases ek : k = k0
      · subst ek
        rw [fup_s] at k4 ⊢
        rw [← hM0]
        exact hb k2 k3 k4
      · rw [fup_n ek] at k4 ⊢
        obtain ⟨y1, y2, y3⟩ := ee k k1 k2 (hct k k2 k3 ek) k4
        have tk := (c1 k k1).1
        have hne := (c1 k k1).2.2 k0 hk0 ek
        refine ⟨fby _ _ (by omega) hne y1, ?_, fun m hm => (y3 m hm).fx u (sub _ (by decide)) (fun f a hf h1 h2 => far _ (by omega) hne f a (mdx f hf) (by omega) (by omega))⟩
        have nk1 : ∀ f, [2699, 2700].contains f = true → ¬ P f (yX y k) := fun f hf => nk k k1 ek f (by rw [List.contains_iff_mem] at hf ⊢; exact List.mem_append_right _ hf)
        obtain ⟨⟨w1, w2, w3, w4⟩, w5⟩ := y2
        refine ⟨⟨by rw [u.R (np _ _ (by decide))]; exact w1, u.tag w2, by rw [u.I (far _ (by omega) hne _ _ (by decide) (Nat.le_refl _) (by omega))]; exact w3, w4⟩, ?_⟩
        generalize rdi (BT k).1 (BT k).2 = rd at w5 ⊢
        cases rd with
        | error x => exact ⟨w5.1, by rw [u.I (nk1 _ rfl)]; exact w5.2.1, by rw [u.I (nk1 _ rfl)]; exact w5.2.2⟩
        | ok x => show h'.I _ _ = _; rw [u.I (nk1 _ rfl)]; exact w5
  · by_cases n0 : n = 0
    · rw [n0] at h1 h2
      have c3 : MA.1 0 = mw.1 40 := c3
      have h1 : MA.1 0 + 1 ≤ a := h1
      have h2 : a < MA.1 0 + 525 := h2
      rw [c3] at h1 h2
      exact far 40 (by omega) (by omega) f a (mdx f hf) (by omega) (by omega)
    · obtain ⟨y1, y2, y3, -⟩ := c4 n m hm n0
      have y2 : MA.1 n = mw.1 (mw.2.2.1 n) := y2
      have h1 : MA.1 n + 1 ≤ a := h1
      have h2 : a < MA.1 n + 525 := h2
      rw [y2] at h1 h2
      exact far _ (by omega) (fun q => y3 k0 hk0 q.symm) f a (mdx f hf) (by omega) (by omega)
  · have h1 : yC y + 1 ≤ a := h1
    have h2 : a < yC y + 525 := h2
    have c2 : yC y = mw.1 40 := c2
    rw [c2] at h1 h2
    exact far 40 (by omega) (by omega) f a (mdx f hf) (by omega) (by omega)
end
