/-! an idle worker looks for something to do -/
def PTk (A W g a : Nat) : Prop := ((g = 11 ∨ g = 10 ∨ g = 12) ∧ a = A) ∨ ((g = 2432 ∨ g = 2433 ∨ g = 2434 ∨ g = 2435 ∨ g = 2436) ∧ a = W) ∨ g = 2702
theorem PTk.no {A W : Nat} {l : List Nat} (h : l.all (fun f => !([11, 10, 12, 2432, 2433, 2434, 2435, 2436, 2702].contains f)) = true) : ∀ f a, l.contains f = true → ¬ PTk A W f a := fun f a hf z => by
  rw [List.all_eq_true] at h
  have := h f (List.contains_iff_mem.mp hf)
  rcases z with ⟨z | z | z, -⟩ | ⟨z | z | z | z | z, -⟩ | z <;> (rw [z] at this; exact absurd this (by decide))
/-- how far was looked -/
def TKf (last : Nat) (st : Nat → Nat) (Tl R Tl' R' : Nat) : Prop := (Tl ≤ Tl' ∧ R ≤ R' ∧ Tl' ≤ 32 ∧ R' ≤ 32 ∧ (R ≤ last → R' ≤ last)) ∧ (∀ k, Tl ≤ k → k < Tl' → st k ≠ 2) ∧ ∀ k, R ≤ k → k < R' → st k ≠ 0
section
variable {G : Gt} {d : Nat} {h : AH} {A BA W : Nat} {XA LA RA : Nat → Nat} {K : Outcome → AH → Prop}
theorem wktake_ok {last R Tl : Nat} {st : Nat → Nat} {rn : Nat → Int32} {b : Int32} (t0 : h.tag A = some (0, 0)) (rW : h.R 26 A = some W) (tW : h.tag W = some (19, 0)) (rB : h.R 3 A = some BA) (bk : BLK h BA XA LA RA) (hl : h.I 6 A = nI last) (hl2 : last ≤ 32) (hr : h.I 10 A = nI R) (hR : R ≤ 32) (hT : h.I 11 A = nI Tl) (hT2 : Tl ≤ 32) (hb : h.I 12 A = b) (hs : ∀ k, k < 32 → h.I 2702 (XA k) = nI (st k) ∧ st k < 4 ∧ h.I 2703 (XA k) = rn k) (kI : ∀ h' Tl' R', Fq (PTk A W) h h' → TKf last st Tl R Tl' R' → h'.I 11 A = nI Tl' → h'.I 10 A = nI R' → R' ≤ Tl' → last ≤ R' → (∀ k, k < 32 → h'.I 2702 (XA k) = nI (st k)) → (h'.I 12 A = b ∧ h'.I 2432 W = h.I 2432 W) → K (.returned none) h') (kL : ∀ h' Tl' R', Fq (PTk A W) h h' → TKf last st Tl R Tl' R' → h'.I 11 A = nI (Tl' + 1) → h'.I 10 A = nI R' → Tl' < R' → st Tl' = 2 → (∀ k, k < 32 → h'.I 2702 (XA k) = nI (st k)) → h'.I 12 A = b + nI 1 → (h'.I 2432 W = nI 2 ∧ h'.I 2433 W = nI Tl' ∧ h'.I 2434 W = rn Tl' ∧ h'.I 2435 W = nI 0) → K (.returned none) h') (kR : ∀ h' Tl' R', Fq (PTk A W) h h' → TKf last st Tl R Tl' R' → h'.I 11 A = nI Tl' → h'.I 10 A = nI (R' + 1) → R' ≤ Tl' → R' < last → st R' = 0 → (∀ k, k < 32 → h'.I 2702 (XA k) = nI (if k = R' then 1 else st k)) → h'.I 12 A = b + nI 1 → (h'.I 2432 W = nI 1 ∧ h'.I 2433 W = nI R' ∧ h'.I 2434 W = rn R' ∧ h'.I 2436 W = nI 0) → K (.returned none) h') : MW G d e_X1_take [.ref A] h K := by
  refine st_X1_take fun XX oo hG hD _ => ?_
  subst hG; subst hD
  have key : ∀ n Tl1 R1, 64 ≤ n + Tl1 + R1 → ∀ h1 l1, Fq (fun g a => (g = 11 ∨ g = 10) ∧ a = A) h h1 → TKf last st Tl R Tl1 R1 → h1.I 11 A = nI Tl1 → h1.I 10 A = nI R1 → V XX K 0 [.ref A, l1] [] h1 := by
    intro n
    induction n with
    | zero =>
      intro Tl1 R1 hn h1 l1 f1 c1 c2 c3
      have m1 : Fq (PTk A W) h h1 := f1.mono fun g a z => Or.inl ⟨z.1.elim Or.inl (fun y => Or.inr (Or.inl y)), z.2⟩
      have nn : ∀ g a, [6, 12, 2702, 2432].contains g = true → ¬ ((g = 11 ∨ g = 10) ∧ a = A) := fun g a hg z => by
        rcases z with ⟨z | z, -⟩ <;> (rw [z] at hg; exact absurd hg (by decide))
      have t1 := f1.1.tag t0
      have l1' : h1.I 6 A = nI last := by rw [f1.1.I (nn _ _ rfl)]; exact hl
      obtain ⟨⟨d1, d2, d3, d4⟩, d5, d6⟩ := id c1
      refine k_X1_take_0 (r2 := c2) (r4 := c3) oo (fun c => absurd ((nI_ltI (by omega) (by omega)).mp c) (by omega)) (fun _ => ?_)
      refine k_X1_take_11 (r2 := c3) (r4 := l1') oo (fun _ => ?_) (fun c => absurd ((nI_leI (by omega) (by omega)).mpr (by omega)) c)
      exact k_X1_take_206 oo (kI h1 Tl1 R1 m1 c1 c2 c3 (by omega) (by omega) (fun k hk => by rw [f1.1.I (nn _ _ rfl)]; exact (hs k hk).1) ⟨by rw [f1.1.I (nn _ _ rfl)]; exact hb, f1.1.I (nn _ _ rfl)⟩)
    | succ n ih =>
      intro Tl1 R1 hn h1 l1 f1 c1 c2 c3
      have m1 : Fq (PTk A W) h h1 := f1.mono fun g a z => Or.inl ⟨z.1.elim Or.inl (fun y => Or.inr (Or.inl y)), z.2⟩
      have nn : ∀ g a, [6, 12, 26, 3, 2702, 2703, 2432, 10000 + 71, 2705, 2706].contains g = true → ¬ ((g = 11 ∨ g = 10) ∧ a = A) := fun g a hg z => by
        rcases z with ⟨z | z, -⟩ <;> (rw [z] at hg; exact absurd hg (by decide))
      have t1 := f1.1.tag t0
      have l1' : h1.I 6 A = nI last := by rw [f1.1.I (nn _ _ rfl)]; exact hl
      have rW1 : h1.R 26 A = some W := by rw [f1.1.R (nn _ _ rfl)]; exact rW
      have tW1 := f1.1.tag tW
      have rB1 : h1.R 3 A = some BA := by rw [f1.1.R (nn _ _ rfl)]; exact rB
      have bk1 := bk.fr f1.1 (fun f a hf z => by rcases z with ⟨z | z, -⟩ <;> (rw [z] at hf; exact absurd hf (by decide)))
      have tB := bk1.1
      have b1 : h1.I 12 A = b := by rw [f1.1.I (nn _ _ rfl)]; exact hb
      have st1 : ∀ k, k < 32 → h1.I 2702 (XA k) = nI (st k) := fun k hk => by rw [f1.1.I (nn _ _ rfl)]; exact (hs k hk).1
      have rn1 : ∀ k, k < 32 → h1.I 2703 (XA k) = rn k := fun k hk => by rw [f1.1.I (nn _ _ rfl)]; exact (hs k hk).2.2
      obtain ⟨⟨d1, d2, d3, d4⟩, d5, d6⟩ := id c1
      have look : Tl1 < R1 → V XX K 22 [.ref A, l1] [] h1 := fun hlt => by
        obtain ⟨eX, tX, -, -⟩ := bk1.2.2 Tl1 (by omega)
        have ix : IX (nI Tl1) 32 Tl1 := IX.mk (by omega) (by omega)
        refine k_X1_take_22 (r2 := c2) (r4 := c3) oo (fun c => absurd ((nI_leI (by omega) (by omega)).mp c) (by omega)) (fun _ => ?_)
        have s4 := (hs Tl1 (by omega)).2.1
        refine k_X1_take_33 (r2 := c2) (r4 := c2) (r15 := st1 Tl1 (by omega)) oo (fun c => ?_) (fun c => ?_)
        · have c : st Tl1 ≠ 2 := fun z => c (by rw [z])
          refine k_X1_take_112 oo ?_
          rw [nI_add]
          refine ih (Tl1 + 1) R1 (by omega) _ _ (f1.trans (Fq.sI (Fq.refl h1) ⟨Or.inl rfl, rfl⟩)) ⟨⟨by omega, d2, by omega, d4⟩, fun k h1 h2 => ?_, d6⟩ (by simp [n_sI, z_sI, tag_sI, I_sI, J_sI, R_sI, EI_sI, EJ_sI, ER_sI, n_sJ, z_sJ, tag_sJ, I_sJ, J_sJ, R_sJ, EI_sJ, EJ_sJ, ER_sJ, n_sR, z_sR, tag_sR, I_sR, J_sR, R_sR, EI_sR, EJ_sR, ER_sR, n_sEI, z_sEI, tag_sEI, I_sEI, J_sEI, R_sEI, EI_sEI, EJ_sEI, ER_sEI, n_sEJ, z_sEJ, tag_sEJ, I_sEJ, J_sEJ, R_sEJ, EI_sEJ, EJ_sEJ, ER_sEJ, n_sER, z_sER, tag_sER, I_sER, J_sER, R_sER, EI_sER, EJ_sER, ER_sER, n_nw, z_nw, tag_nw, I_nw, J_nw, R_nw, EI_nw, EJ_nw, ER_nw]) (by simp [n_sI, z_sI, tag_sI, I_sI, J_sI, R_sI, EI_sI, EJ_sI, ER_sI, n_sJ, z_sJ, tag_sJ, I_sJ, J_sJ, R_sJ, EI_sJ, EJ_sJ, ER_sJ, n_sR, z_sR, tag_sR, I_sR, J_sR, R_sR, EI_sR, EJ_sR, ER_sR, n_sEI, z_sEI, tag_sEI, I_sEI, J_sEI, R_sEI, EI_sEI, EJ_sEI, ER_sEI, n_sEJ, z_sEJ, tag_sEJ, I_sEJ, J_sEJ, R_sEJ, EI_sEJ, EJ_sEJ, ER_sEJ, n_sER, z_sER, tag_sER, I_sER, J_sER, R_sER, EI_sER, EJ_sER, ER_sER, n_nw, z_nw, tag_nw, I_nw, J_nw, R_nw, EI_nw, EJ_nw, ER_nw]; exact c3)
          by_cases e : k = Tl1
          · rw [e]; exact c
          · exact d5 k h1 (by omega)
        · have c : st Tl1 = 2 := (nI_eq (by omega) (by omega)).mp c
          rw [nI_add]
          have f2 : Fq (PTk A W) h1 (h1.sI 11 A (nI (Tl1 + 1))) := Fq.sI (Fq.refl h1) (Or.inl ⟨Or.inl rfl, rfl⟩)
          have y1 : (h1.sI 11 A (nI (Tl1 + 1))).I 12 A = b := by simp [n_sI, z_sI, tag_sI, I_sI, J_sI, R_sI, EI_sI, EJ_sI, ER_sI, n_sJ, z_sJ, tag_sJ, I_sJ, J_sJ, R_sJ, EI_sJ, EJ_sJ, ER_sJ, n_sR, z_sR, tag_sR, I_sR, J_sR, R_sR, EI_sR, EJ_sR, ER_sR, n_sEI, z_sEI, tag_sEI, I_sEI, J_sEI, R_sEI, EI_sEI, EJ_sEI, ER_sEI, n_sEJ, z_sEJ, tag_sEJ, I_sEJ, J_sEJ, R_sEJ, EI_sEJ, EJ_sEJ, ER_sEJ, n_sER, z_sER, tag_sER, I_sER, J_sER, R_sER, EI_sER, EJ_sER, ER_sER, n_nw, z_nw, tag_nw, I_nw, J_nw, R_nw, EI_nw, EJ_nw, ER_nw]; exact b1
          have y2 : (h1.sI 11 A (nI (Tl1 + 1))).I 2703 (XA Tl1) = rn Tl1 := by simp [n_sI, z_sI, tag_sI, I_sI, J_sI, R_sI, EI_sI, EJ_sI, ER_sI, n_sJ, z_sJ, tag_sJ, I_sJ, J_sJ, R_sJ, EI_sJ, EJ_sJ, ER_sJ, n_sR, z_sR, tag_sR, I_sR, J_sR, R_sR, EI_sR, EJ_sR, ER_sR, n_sEI, z_sEI, tag_sEI, I_sEI, J_sEI, R_sEI, EI_sEI, EJ_sEI, ER_sEI, n_sEJ, z_sEJ, tag_sEJ, I_sEJ, J_sEJ, R_sEJ, EI_sEJ, EJ_sEJ, ER_sEJ, n_sER, z_sER, tag_sER, I_sER, J_sER, R_sER, EI_sER, EJ_sER, ER_sER, n_nw, z_nw, tag_nw, I_nw, J_nw, R_nw, EI_nw, EJ_nw, ER_nw]; exact rn1 Tl1 (by omega)
          have y3 : (h1.sI 11 A (nI (Tl1 + 1))).I 11 A = nI (Tl1 + 1) := by simp [n_sI, z_sI, tag_sI, I_sI, J_sI, R_sI, EI_sI, EJ_sI, ER_sI, n_sJ, z_sJ, tag_sJ, I_sJ, J_sJ, R_sJ, EI_sJ, EJ_sJ, ER_sJ, n_sR, z_sR, tag_sR, I_sR, J_sR, R_sR, EI_sR, EJ_sR, ER_sR, n_sEI, z_sEI, tag_sEI, I_sEI, J_sEI, R_sEI, EI_sEI, EJ_sEI, ER_sEI, n_sEJ, z_sEJ, tag_sEJ, I_sEJ, J_sEJ, R_sEJ, EI_sEJ, EJ_sEJ, ER_sEJ, n_sER, z_sER, tag_sER, I_sER, J_sER, R_sER, EI_sER, EJ_sER, ER_sER, n_nw, z_nw, tag_nw, I_nw, J_nw, R_nw, EI_nw, EJ_nw, ER_nw]
          have y4 : (h1.sI 11 A (nI (Tl1 + 1))).I 10 A = nI R1 := by simp [n_sI, z_sI, tag_sI, I_sI, J_sI, R_sI, EI_sI, EJ_sI, ER_sI, n_sJ, z_sJ, tag_sJ, I_sJ, J_sJ, R_sJ, EI_sJ, EJ_sJ, ER_sJ, n_sR, z_sR, tag_sR, I_sR, J_sR, R_sR, EI_sR, EJ_sR, ER_sR, n_sEI, z_sEI, tag_sEI, I_sEI, J_sEI, R_sEI, EI_sEI, EJ_sEI, ER_sEI, n_sEJ, z_sEJ, tag_sEJ, I_sEJ, J_sEJ, R_sEJ, EI_sEJ, EJ_sEJ, ER_sEJ, n_sER, z_sER, tag_sER, I_sER, J_sER, R_sER, EI_sER, EJ_sER, ER_sER, n_nw, z_nw, tag_nw, I_nw, J_nw, R_nw, EI_nw, EJ_nw, ER_nw]; exact c3
          have y5 : ∀ k, k < 32 → (h1.sI 11 A (nI (Tl1 + 1))).I 2702 (XA k) = nI (st k) := fun k hk => by simp [n_sI, z_sI, tag_sI, I_sI, J_sI, R_sI, EI_sI, EJ_sI, ER_sI, n_sJ, z_sJ, tag_sJ, I_sJ, J_sJ, R_sJ, EI_sJ, EJ_sJ, ER_sJ, n_sR, z_sR, tag_sR, I_sR, J_sR, R_sR, EI_sR, EJ_sR, ER_sR, n_sEI, z_sEI, tag_sEI, I_sEI, J_sEI, R_sEI, EI_sEI, EJ_sEI, ER_sEI, n_sEJ, z_sEJ, tag_sEJ, I_sEJ, J_sEJ, R_sEJ, EI_sEJ, EJ_sEJ, ER_sEJ, n_sER, z_sER, tag_sER, I_sER, J_sER, R_sER, EI_sER, EJ_sER, ER_sER, n_nw, z_nw, tag_nw, I_nw, J_nw, R_nw, EI_nw, EJ_nw, ER_nw]; exact st1 k hk
          have u1 := f2.1.tag t1
          have u2 := f2.1.tag tW1
          have u3 := f2.1.tag tB
          have u4 := f2.1.tag tX
          have no := PTk.no (A := A) (W := W) (l := [26, 3, 10000 + 71]) rfl
          have u5 : (h1.sI 11 A (nI (Tl1 + 1))).R 26 A = some W := by rw [f2.1.R (no _ _ rfl)]; exact rW1
          have u6 : (h1.sI 11 A (nI (Tl1 + 1))).R 3 A = some BA := by rw [f2.1.R (no _ _ rfl)]; exact rB1
          have u7 : (h1.sI 11 A (nI (Tl1 + 1))).ER 71 BA Tl1 = some (XA Tl1) := by rw [f2.1.ER (no _ _ rfl)]; exact eX
          generalize h1.sI 11 A (nI (Tl1 + 1)) = h2 at *
          refine k_X1_take_61 (r19 := y2) (r25 := y1) oo ?_
          refine k_X1_take_111 oo ?_
          refine kL _ Tl1 R1 (m1.trans (f2.trans (Fq.sI (Fq.sI (Fq.sI (Fq.sI (Fq.sI (Fq.refl h2) ?_) ?_) ?_) ?_) ?_))) c1 (by simp [n_sI, z_sI, tag_sI, I_sI, J_sI, R_sI, EI_sI, EJ_sI, ER_sI, n_sJ, z_sJ, tag_sJ, I_sJ, J_sJ, R_sJ, EI_sJ, EJ_sJ, ER_sJ, n_sR, z_sR, tag_sR, I_sR, J_sR, R_sR, EI_sR, EJ_sR, ER_sR, n_sEI, z_sEI, tag_sEI, I_sEI, J_sEI, R_sEI, EI_sEI, EJ_sEI, ER_sEI, n_sEJ, z_sEJ, tag_sEJ, I_sEJ, J_sEJ, R_sEJ, EI_sEJ, EJ_sEJ, ER_sEJ, n_sER, z_sER, tag_sER, I_sER, J_sER, R_sER, EI_sER, EJ_sER, ER_sER, n_nw, z_nw, tag_nw, I_nw, J_nw, R_nw, EI_nw, EJ_nw, ER_nw]; exact y3) (by simp [n_sI, z_sI, tag_sI, I_sI, J_sI, R_sI, EI_sI, EJ_sI, ER_sI, n_sJ, z_sJ, tag_sJ, I_sJ, J_sJ, R_sJ, EI_sJ, EJ_sJ, ER_sJ, n_sR, z_sR, tag_sR, I_sR, J_sR, R_sR, EI_sR, EJ_sR, ER_sR, n_sEI, z_sEI, tag_sEI, I_sEI, J_sEI, R_sEI, EI_sEI, EJ_sEI, ER_sEI, n_sEJ, z_sEJ, tag_sEJ, I_sEJ, J_sEJ, R_sEJ, EI_sEJ, EJ_sEJ, ER_sEJ, n_sER, z_sER, tag_sER, I_sER, J_sER, R_sER, EI_sER, EJ_sER, ER_sER, n_nw, z_nw, tag_nw, I_nw, J_nw, R_nw, EI_nw, EJ_nw, ER_nw]; exact y4) hlt c (fun k hk => by simp [n_sI, z_sI, tag_sI, I_sI, J_sI, R_sI, EI_sI, EJ_sI, ER_sI, n_sJ, z_sJ, tag_sJ, I_sJ, J_sJ, R_sJ, EI_sJ, EJ_sJ, ER_sJ, n_sR, z_sR, tag_sR, I_sR, J_sR, R_sR, EI_sR, EJ_sR, ER_sR, n_sEI, z_sEI, tag_sEI, I_sEI, J_sEI, R_sEI, EI_sEI, EJ_sEI, ER_sEI, n_sEJ, z_sEJ, tag_sEJ, I_sEJ, J_sEJ, R_sEJ, EI_sEJ, EJ_sEJ, ER_sEJ, n_sER, z_sER, tag_sER, I_sER, J_sER, R_sER, EI_sER, EJ_sER, ER_sER, n_nw, z_nw, tag_nw, I_nw, J_nw, R_nw, EI_nw, EJ_nw, ER_nw]; exact y5 k hk) (by simp [n_sI, z_sI, tag_sI, I_sI, J_sI, R_sI, EI_sI, EJ_sI, ER_sI, n_sJ, z_sJ, tag_sJ, I_sJ, J_sJ, R_sJ, EI_sJ, EJ_sJ, ER_sJ, n_sR, z_sR, tag_sR, I_sR, J_sR, R_sR, EI_sR, EJ_sR, ER_sR, n_sEI, z_sEI, tag_sEI, I_sEI, J_sEI, R_sEI, EI_sEI, EJ_sEI, ER_sEI, n_sEJ, z_sEJ, tag_sEJ, I_sEJ, J_sEJ, R_sEJ, EI_sEJ, EJ_sEJ, ER_sEJ, n_sER, z_sER, tag_sER, I_sER, J_sER, R_sER, EI_sER, EJ_sER, ER_sER, n_nw, z_nw, tag_nw, I_nw, J_nw, R_nw, EI_nw, EJ_nw, ER_nw]) ⟨by simp [n_sI, z_sI, tag_sI, I_sI, J_sI, R_sI, EI_sI, EJ_sI, ER_sI, n_sJ, z_sJ, tag_sJ, I_sJ, J_sJ, R_sJ, EI_sJ, EJ_sJ, ER_sJ, n_sR, z_sR, tag_sR, I_sR, J_sR, R_sR, EI_sR, EJ_sR, ER_sR, n_sEI, z_sEI, tag_sEI, I_sEI, J_sEI, R_sEI, EI_sEI, EJ_sEI, ER_sEI, n_sEJ, z_sEJ, tag_sEJ, I_sEJ, J_sEJ, R_sEJ, EI_sEJ, EJ_sEJ, ER_sEJ, n_sER, z_sER, tag_sER, I_sER, J_sER, R_sER, EI_sER, EJ_sER, ER_sER, n_nw, z_nw, tag_nw, I_nw, J_nw, R_nw, EI_nw, EJ_nw, ER_nw], by simp [n_sI, z_sI, tag_sI, I_sI, J_sI, R_sI, EI_sI, EJ_sI, ER_sI, n_sJ, z_sJ, tag_sJ, I_sJ, J_sJ, R_sJ, EI_sJ, EJ_sJ, ER_sJ, n_sR, z_sR, tag_sR, I_sR, J_sR, R_sR, EI_sR, EJ_sR, ER_sR, n_sEI, z_sEI, tag_sEI, I_sEI, J_sEI, R_sEI, EI_sEI, EJ_sEI, ER_sEI, n_sEJ, z_sEJ, tag_sEJ, I_sEJ, J_sEJ, R_sEJ, EI_sEJ, EJ_sEJ, ER_sEJ, n_sER, z_sER, tag_sER, I_sER, J_sER, R_sER, EI_sER, EJ_sER, ER_sER, n_nw, z_nw, tag_nw, I_nw, J_nw, R_nw, EI_nw, EJ_nw, ER_nw], by simp [n_sI, z_sI, tag_sI, I_sI, J_sI, R_sI, EI_sI, EJ_sI, ER_sI, n_sJ, z_sJ, tag_sJ, I_sJ, J_sJ, R_sJ, EI_sJ, EJ_sJ, ER_sJ, n_sR, z_sR, tag_sR, I_sR, J_sR, R_sR, EI_sR, EJ_sR, ER_sR, n_sEI, z_sEI, tag_sEI, I_sEI, J_sEI, R_sEI, EI_sEI, EJ_sEI, ER_sEI, n_sEJ, z_sEJ, tag_sEJ, I_sEJ, J_sEJ, R_sEJ, EI_sEJ, EJ_sEJ, ER_sEJ, n_sER, z_sER, tag_sER, I_sER, J_sER, R_sER, EI_sER, EJ_sER, ER_sER, n_nw, z_nw, tag_nw, I_nw, J_nw, R_nw, EI_nw, EJ_nw, ER_nw], by simp [n_sI, z_sI, tag_sI, I_sI, J_sI, R_sI, EI_sI, EJ_sI, ER_sI, n_sJ, z_sJ, tag_sJ, I_sJ, J_sJ, R_sJ, EI_sJ, EJ_sJ, ER_sJ, n_sR, z_sR, tag_sR, I_sR, J_sR, R_sR, EI_sR, EJ_sR, ER_sR, n_sEI, z_sEI, tag_sEI, I_sEI, J_sEI, R_sEI, EI_sEI, EJ_sEI, ER_sEI, n_sEJ, z_sEJ, tag_sEJ, I_sEJ, J_sEJ, R_sEJ, EI_sEJ, EJ_sEJ, ER_sEJ, n_sER, z_sER, tag_sER, I_sER, J_sER, R_sER, EI_sER, EJ_sER, ER_sER, n_nw, z_nw, tag_nw, I_nw, J_nw, R_nw, EI_nw, EJ_nw, ER_nw]⟩
          · exact Or.inr (Or.inl ⟨Or.inl rfl, rfl⟩)
          · exact Or.inr (Or.inl ⟨Or.inr (Or.inl rfl), rfl⟩)
          · exact Or.inr (Or.inl ⟨Or.inr (Or.inr (Or.inl rfl)), rfl⟩)
          · exact Or.inr (Or.inl ⟨Or.inr (Or.inr (Or.inr (Or.inl rfl))), rfl⟩)
          · exact Or.inl ⟨Or.inr (Or.inr rfl), rfl⟩
      have run : ¬ Tl1 < R1 → R1 < last → V XX K 22 [.ref A, l1] [] h1 := fun hge hlt => by
        obtain ⟨eX, tX, -, -⟩ := bk1.2.2 R1 (by omega)
        have ix : IX (nI R1) 32 R1 := IX.mk (by omega) (by omega)
        refine k_X1_take_22 (r2 := c2) (r4 := c3) oo (fun _ => ?_) (fun c => absurd ((nI_leI (by omega) (by omega)).mpr (by omega)) c)
        have s4 := (hs R1 (by omega)).2.1
        refine k_X1_take_115 (r2 := c3) (r4 := c3) (r15 := st1 R1 (by omega)) oo (fun c => ?_) (fun c => ?_)
        · have c : st R1 ≠ 0 := fun z => c (by rw [z]; rfl)
          refine k_X1_take_203 oo ?_
          rw [nI_add]
          refine ih Tl1 (R1 + 1) (by omega) _ _ (f1.trans (Fq.sI (Fq.refl h1) ⟨Or.inr rfl, rfl⟩)) ⟨⟨d1, by omega, d3, by omega, fun _ => by omega⟩, d5, fun k h1 h2 => ?_⟩ (by simp [n_sI, z_sI, tag_sI, I_sI, J_sI, R_sI, EI_sI, EJ_sI, ER_sI, n_sJ, z_sJ, tag_sJ, I_sJ, J_sJ, R_sJ, EI_sJ, EJ_sJ, ER_sJ, n_sR, z_sR, tag_sR, I_sR, J_sR, R_sR, EI_sR, EJ_sR, ER_sR, n_sEI, z_sEI, tag_sEI, I_sEI, J_sEI, R_sEI, EI_sEI, EJ_sEI, ER_sEI, n_sEJ, z_sEJ, tag_sEJ, I_sEJ, J_sEJ, R_sEJ, EI_sEJ, EJ_sEJ, ER_sEJ, n_sER, z_sER, tag_sER, I_sER, J_sER, R_sER, EI_sER, EJ_sER, ER_sER, n_nw, z_nw, tag_nw, I_nw, J_nw, R_nw, EI_nw, EJ_nw, ER_nw]; exact c2) (by simp [n_sI, z_sI, tag_sI, I_sI, J_sI, R_sI, EI_sI, EJ_sI, ER_sI, n_sJ, z_sJ, tag_sJ, I_sJ, J_sJ, R_sJ, EI_sJ, EJ_sJ, ER_sJ, n_sR, z_sR, tag_sR, I_sR, J_sR, R_sR, EI_sR, EJ_sR, ER_sR, n_sEI, z_sEI, tag_sEI, I_sEI, J_sEI, R_sEI, EI_sEI, EJ_sEI, ER_sEI, n_sEJ, z_sEJ, tag_sEJ, I_sEJ, J_sEJ, R_sEJ, EI_sEJ, EJ_sEJ, ER_sEJ, n_sER, z_sER, tag_sER, I_sER, J_sER, R_sER, EI_sER, EJ_sER, ER_sER, n_nw, z_nw, tag_nw, I_nw, J_nw, R_nw, EI_nw, EJ_nw, ER_nw])
          by_cases e : k = R1
          · rw [e]; exact c
          · exact d6 k h1 (by omega)
        · have c : st R1 = 0 := (nI_eq (b := 0) (by omega) (by omega)).mp c
          rw [nI_add]
          have f2 : Fq (PTk A W) h1 (h1.sI 10 A (nI (R1 + 1))) := Fq.sI (Fq.refl h1) (Or.inl ⟨Or.inr (Or.inl rfl), rfl⟩)
          have y1 : (h1.sI 10 A (nI (R1 + 1))).I 12 A = b := by simp [n_sI, z_sI, tag_sI, I_sI, J_sI, R_sI, EI_sI, EJ_sI, ER_sI, n_sJ, z_sJ, tag_sJ, I_sJ, J_sJ, R_sJ, EI_sJ, EJ_sJ, ER_sJ, n_sR, z_sR, tag_sR, I_sR, J_sR, R_sR, EI_sR, EJ_sR, ER_sR, n_sEI, z_sEI, tag_sEI, I_sEI, J_sEI, R_sEI, EI_sEI, EJ_sEI, ER_sEI, n_sEJ, z_sEJ, tag_sEJ, I_sEJ, J_sEJ, R_sEJ, EI_sEJ, EJ_sEJ, ER_sEJ, n_sER, z_sER, tag_sER, I_sER, J_sER, R_sER, EI_sER, EJ_sER, ER_sER, n_nw, z_nw, tag_nw, I_nw, J_nw, R_nw, EI_nw, EJ_nw, ER_nw]; exact b1
          have y2 : (h1.sI 10 A (nI (R1 + 1))).I 2703 (XA R1) = rn R1 := by simp [n_sI, z_sI, tag_sI, I_sI, J_sI, R_sI, EI_sI, EJ_sI, ER_sI, n_sJ, z_sJ, tag_sJ, I_sJ, J_sJ, R_sJ, EI_sJ, EJ_sJ, ER_sJ, n_sR, z_sR, tag_sR, I_sR, J_sR, R_sR, EI_sR, EJ_sR, ER_sR, n_sEI, z_sEI, tag_sEI, I_sEI, J_sEI, R_sEI, EI_sEI, EJ_sEI, ER_sEI, n_sEJ, z_sEJ, tag_sEJ, I_sEJ, J_sEJ, R_sEJ, EI_sEJ, EJ_sEJ, ER_sEJ, n_sER, z_sER, tag_sER, I_sER, J_sER, R_sER, EI_sER, EJ_sER, ER_sER, n_nw, z_nw, tag_nw, I_nw, J_nw, R_nw, EI_nw, EJ_nw, ER_nw]; exact rn1 R1 (by omega)
          have y3 : (h1.sI 10 A (nI (R1 + 1))).I 11 A = nI Tl1 := by simp [n_sI, z_sI, tag_sI, I_sI, J_sI, R_sI, EI_sI, EJ_sI, ER_sI, n_sJ, z_sJ, tag_sJ, I_sJ, J_sJ, R_sJ, EI_sJ, EJ_sJ, ER_sJ, n_sR, z_sR, tag_sR, I_sR, J_sR, R_sR, EI_sR, EJ_sR, ER_sR, n_sEI, z_sEI, tag_sEI, I_sEI, J_sEI, R_sEI, EI_sEI, EJ_sEI, ER_sEI, n_sEJ, z_sEJ, tag_sEJ, I_sEJ, J_sEJ, R_sEJ, EI_sEJ, EJ_sEJ, ER_sEJ, n_sER, z_sER, tag_sER, I_sER, J_sER, R_sER, EI_sER, EJ_sER, ER_sER, n_nw, z_nw, tag_nw, I_nw, J_nw, R_nw, EI_nw, EJ_nw, ER_nw]; exact c2
          have y4 : (h1.sI 10 A (nI (R1 + 1))).I 10 A = nI (R1 + 1) := by simp [n_sI, z_sI, tag_sI, I_sI, J_sI, R_sI, EI_sI, EJ_sI, ER_sI, n_sJ, z_sJ, tag_sJ, I_sJ, J_sJ, R_sJ, EI_sJ, EJ_sJ, ER_sJ, n_sR, z_sR, tag_sR, I_sR, J_sR, R_sR, EI_sR, EJ_sR, ER_sR, n_sEI, z_sEI, tag_sEI, I_sEI, J_sEI, R_sEI, EI_sEI, EJ_sEI, ER_sEI, n_sEJ, z_sEJ, tag_sEJ, I_sEJ, J_sEJ, R_sEJ, EI_sEJ, EJ_sEJ, ER_sEJ, n_sER, z_sER, tag_sER, I_sER, J_sER, R_sER, EI_sER, EJ_sER, ER_sER, n_nw, z_nw, tag_nw, I_nw, J_nw, R_nw, EI_nw, EJ_nw, ER_nw]
          have y5 : ∀ k, k < 32 → (h1.sI 10 A (nI (R1 + 1))).I 2702 (XA k) = nI (st k) := fun k hk => by simp [n_sI, z_sI, tag_sI, I_sI, J_sI, R_sI, EI_sI, EJ_sI, ER_sI, n_sJ, z_sJ, tag_sJ, I_sJ, J_sJ, R_sJ, EI_sJ, EJ_sJ, ER_sJ, n_sR, z_sR, tag_sR, I_sR, J_sR, R_sR, EI_sR, EJ_sR, ER_sR, n_sEI, z_sEI, tag_sEI, I_sEI, J_sEI, R_sEI, EI_sEI, EJ_sEI, ER_sEI, n_sEJ, z_sEJ, tag_sEJ, I_sEJ, J_sEJ, R_sEJ, EI_sEJ, EJ_sEJ, ER_sEJ, n_sER, z_sER, tag_sER, I_sER, J_sER, R_sER, EI_sER, EJ_sER, ER_sER, n_nw, z_nw, tag_nw, I_nw, J_nw, R_nw, EI_nw, EJ_nw, ER_nw]; exact st1 k hk
          have u1 := f2.1.tag t1
          have u2 := f2.1.tag tW1
          have u3 := f2.1.tag tB
          have u4 := f2.1.tag tX
          have no := PTk.no (A := A) (W := W) (l := [26, 3, 10000 + 71]) rfl
          have u5 : (h1.sI 10 A (nI (R1 + 1))).R 26 A = some W := by rw [f2.1.R (no _ _ rfl)]; exact rW1
          have u6 : (h1.sI 10 A (nI (R1 + 1))).R 3 A = some BA := by rw [f2.1.R (no _ _ rfl)]; exact rB1
          have u7 : (h1.sI 10 A (nI (R1 + 1))).ER 71 BA R1 = some (XA R1) := by rw [f2.1.ER (no _ _ rfl)]; exact eX
          generalize h1.sI 10 A (nI (R1 + 1)) = h2 at *
          refine k_X1_take_142 (r28 := y2) oo ?_
          generalize hh3 : ((((h2.sI 2702 (XA R1) (nI 1)).sI 2432 W (nI 1)).sI 2433 W (nI R1)).sI 2434 W (rn R1)).sI 2436 W (nI 0) = h3
          have f3 : Fq (PTk A W) h2 h3 := by
            rw [← hh3]
            refine Fq.sI (Fq.sI (Fq.sI (Fq.sI (Fq.sI (Fq.refl h2) ?_) ?_) ?_) ?_) ?_
            · exact Or.inr (Or.inr rfl)
            · exact Or.inr (Or.inl ⟨Or.inl rfl, rfl⟩)
            · exact Or.inr (Or.inl ⟨Or.inr (Or.inl rfl), rfl⟩)
            · exact Or.inr (Or.inl ⟨Or.inr (Or.inr (Or.inl rfl)), rfl⟩)
            · exact Or.inr (Or.inl ⟨Or.inr (Or.inr (Or.inr (Or.inr rfl))), rfl⟩)
          have u8 := f3.1.tag u1
          have y6 : h3.I 12 A = b := by rw [← hh3]; simp [n_sI, z_sI, tag_sI, I_sI, J_sI, R_sI, EI_sI, EJ_sI, ER_sI, n_sJ, z_sJ, tag_sJ, I_sJ, J_sJ, R_sJ, EI_sJ, EJ_sJ, ER_sJ, n_sR, z_sR, tag_sR, I_sR, J_sR, R_sR, EI_sR, EJ_sR, ER_sR, n_sEI, z_sEI, tag_sEI, I_sEI, J_sEI, R_sEI, EI_sEI, EJ_sEI, ER_sEI, n_sEJ, z_sEJ, tag_sEJ, I_sEJ, J_sEJ, R_sEJ, EI_sEJ, EJ_sEJ, ER_sEJ, n_sER, z_sER, tag_sER, I_sER, J_sER, R_sER, EI_sER, EJ_sER, ER_sER, n_nw, z_nw, tag_nw, I_nw, J_nw, R_nw, EI_nw, EJ_nw, ER_nw]; exact y1
          refine k_X1_take_192 (r2 := y6) oo ?_
          refine kR _ Tl1 R1 (m1.trans (f2.trans (f3.trans (Fq.sI (Fq.refl h3) (Or.inl ⟨Or.inr (Or.inr rfl), rfl⟩))))) c1 (by rw [← hh3]; simp [n_sI, z_sI, tag_sI, I_sI, J_sI, R_sI, EI_sI, EJ_sI, ER_sI, n_sJ, z_sJ, tag_sJ, I_sJ, J_sJ, R_sJ, EI_sJ, EJ_sJ, ER_sJ, n_sR, z_sR, tag_sR, I_sR, J_sR, R_sR, EI_sR, EJ_sR, ER_sR, n_sEI, z_sEI, tag_sEI, I_sEI, J_sEI, R_sEI, EI_sEI, EJ_sEI, ER_sEI, n_sEJ, z_sEJ, tag_sEJ, I_sEJ, J_sEJ, R_sEJ, EI_sEJ, EJ_sEJ, ER_sEJ, n_sER, z_sER, tag_sER, I_sER, J_sER, R_sER, EI_sER, EJ_sER, ER_sER, n_nw, z_nw, tag_nw, I_nw, J_nw, R_nw, EI_nw, EJ_nw, ER_nw]; exact y3) (by rw [← hh3]; simp [n_sI, z_sI, tag_sI, I_sI, J_sI, R_sI, EI_sI, EJ_sI, ER_sI, n_sJ, z_sJ, tag_sJ, I_sJ, J_sJ, R_sJ, EI_sJ, EJ_sJ, ER_sJ, n_sR, z_sR, tag_sR, I_sR, J_sR, R_sR, EI_sR, EJ_sR, ER_sR, n_sEI, z_sEI, tag_sEI, I_sEI, J_sEI, R_sEI, EI_sEI, EJ_sEI, ER_sEI, n_sEJ, z_sEJ, tag_sEJ, I_sEJ, J_sEJ, R_sEJ, EI_sEJ, EJ_sEJ, ER_sEJ, n_sER, z_sER, tag_sER, I_sER, J_sER, R_sER, EI_sER, EJ_sER, ER_sER, n_nw, z_nw, tag_nw, I_nw, J_nw, R_nw, EI_nw, EJ_nw, ER_nw]; exact y4) (by omega) hlt c (fun k hk => ?_) (by simp [n_sI, z_sI, tag_sI, I_sI, J_sI, R_sI, EI_sI, EJ_sI, ER_sI, n_sJ, z_sJ, tag_sJ, I_sJ, J_sJ, R_sJ, EI_sJ, EJ_sJ, ER_sJ, n_sR, z_sR, tag_sR, I_sR, J_sR, R_sR, EI_sR, EJ_sR, ER_sR, n_sEI, z_sEI, tag_sEI, I_sEI, J_sEI, R_sEI, EI_sEI, EJ_sEI, ER_sEI, n_sEJ, z_sEJ, tag_sEJ, I_sEJ, J_sEJ, R_sEJ, EI_sEJ, EJ_sEJ, ER_sEJ, n_sER, z_sER, tag_sER, I_sER, J_sER, R_sER, EI_sER, EJ_sER, ER_sER, n_nw, z_nw, tag_nw, I_nw, J_nw, R_nw, EI_nw, EJ_nw, ER_nw]) ⟨by rw [← hh3]; simp [n_sI, z_sI, tag_sI, I_sI, J_sI, R_sI, EI_sI, EJ_sI, ER_sI, n_sJ, z_sJ, tag_sJ, I_sJ, J_sJ, R_sJ, EI_sJ, EJ_sJ, ER_sJ, n_sR, z_sR, tag_sR, I_sR, J_sR, R_sR, EI_sR, EJ_sR, ER_sR, n_sEI, z_sEI, tag_sEI, I_sEI, J_sEI, R_sEI, EI_sEI, EJ_sEI, ER_sEI, n_sEJ, z_sEJ, tag_sEJ, I_sEJ, J_sEJ, R_sEJ, EI_sEJ, EJ_sEJ, ER_sEJ, n_sER, z_sER, tag_sER, I_sER, J_sER, R_sER, EI_sER, EJ_sER, ER_sER, n_nw, z_nw, tag_nw, I_nw, J_nw, R_nw, EI_nw, EJ_nw, ER_nw], by rw [← hh3]; simp [n_sI, z_sI, tag_sI, I_sI, J_sI, R_sI, EI_sI, EJ_sI, ER_sI, n_sJ, z_sJ, tag_sJ, I_sJ, J_sJ, R_sJ, EI_sJ, EJ_sJ, ER_sJ, n_sR, z_sR, tag_sR, I_sR, J_sR, R_sR, EI_sR, EJ_sR, ER_sR, n_sEI, z_sEI, tag_sEI, I_sEI, J_sEI, R_sEI, EI_sEI, EJ_sEI, ER_sEI, n_sEJ, z_sEJ, tag_sEJ, I_sEJ, J_sEJ, R_sEJ, EI_sEJ, EJ_sEJ, ER_sEJ, n_sER, z_sER, tag_sER, I_sER, J_sER, R_sER, EI_sER, EJ_sER, ER_sER, n_nw, z_nw, tag_nw, I_nw, J_nw, R_nw, EI_nw, EJ_nw, ER_nw], by rw [← hh3]; simp [n_sI, z_sI, tag_sI, I_sI, J_sI, R_sI, EI_sI, EJ_sI, ER_sI, n_sJ, z_sJ, tag_sJ, I_sJ, J_sJ, R_sJ, EI_sJ, EJ_sJ, ER_sJ, n_sR, z_sR, tag_sR, I_sR, J_sR, R_sR, EI_sR, EJ_sR, ER_sR, n_sEI, z_sEI, tag_sEI, I_sEI, J_sEI, R_sEI, EI_sEI, EJ_sEI, ER_sEI, n_sEJ, z_sEJ, tag_sEJ, I_sEJ, J_sEJ, R_sEJ, EI_sEJ, EJ_sEJ, ER_sEJ, n_sER, z_sER, tag_sER, I_sER, J_sER, R_sER, EI_sER, EJ_sER, ER_sER, n_nw, z_nw, tag_nw, I_nw, J_nw, R_nw, EI_nw, EJ_nw, ER_nw], by rw [← hh3]; simp [n_sI, z_sI, tag_sI, I_sI, J_sI, R_sI, EI_sI, EJ_sI, ER_sI, n_sJ, z_sJ, tag_sJ, I_sJ, J_sJ, R_sJ, EI_sJ, EJ_sJ, ER_sJ, n_sR, z_sR, tag_sR, I_sR, J_sR, R_sR, EI_sR, EJ_sR, ER_sR, n_sEI, z_sEI, tag_sEI, I_sEI, J_sEI, R_sEI, EI_sEI, EJ_sEI, ER_sEI, n_sEJ, z_sEJ, tag_sEJ, I_sEJ, J_sEJ, R_sEJ, EI_sEJ, EJ_sEJ, ER_sEJ, n_sER, z_sER, tag_sER, I_sER, J_sER, R_sER, EI_sER, EJ_sER, ER_sER, n_nw, z_nw, tag_nw, I_nw, J_nw, R_nw, EI_nw, EJ_nw, ER_nw]⟩
          rw [← hh3]
          by_cases e : k = R1
          · rw [if_pos e, e]; simp [n_sI, z_sI, tag_sI, I_sI, J_sI, R_sI, EI_sI, EJ_sI, ER_sI, n_sJ, z_sJ, tag_sJ, I_sJ, J_sJ, R_sJ, EI_sJ, EJ_sJ, ER_sJ, n_sR, z_sR, tag_sR, I_sR, J_sR, R_sR, EI_sR, EJ_sR, ER_sR, n_sEI, z_sEI, tag_sEI, I_sEI, J_sEI, R_sEI, EI_sEI, EJ_sEI, ER_sEI, n_sEJ, z_sEJ, tag_sEJ, I_sEJ, J_sEJ, R_sEJ, EI_sEJ, EJ_sEJ, ER_sEJ, n_sER, z_sER, tag_sER, I_sER, J_sER, R_sER, EI_sER, EJ_sER, ER_sER, n_nw, z_nw, tag_nw, I_nw, J_nw, R_nw, EI_nw, EJ_nw, ER_nw]
          · have : XA k ≠ XA R1 := fun z => e (bk.2.1 k R1 hk (by omega) z)
            rw [if_neg e]
            simp [n_sI, z_sI, tag_sI, I_sI, J_sI, R_sI, EI_sI, EJ_sI, ER_sI, n_sJ, z_sJ, tag_sJ, I_sJ, J_sJ, R_sJ, EI_sJ, EJ_sJ, ER_sJ, n_sR, z_sR, tag_sR, I_sR, J_sR, R_sR, EI_sR, EJ_sR, ER_sR, n_sEI, z_sEI, tag_sEI, I_sEI, J_sEI, R_sEI, EI_sEI, EJ_sEI, ER_sEI, n_sEJ, z_sEJ, tag_sEJ, I_sEJ, J_sEJ, R_sEJ, EI_sEJ, EJ_sEJ, ER_sEJ, n_sER, z_sER, tag_sER, I_sER, J_sER, R_sER, EI_sER, EJ_sER, ER_sER, n_nw, z_nw, tag_nw, I_nw, J_nw, R_nw, EI_nw, EJ_nw, ER_nw, this]
            exact y5 k hk
      by_cases hlt : Tl1 < R1
      · refine k_X1_take_0 (r2 := c2) (r4 := c3) oo (fun _ => look hlt) (fun c => absurd ((nI_ltI (by omega) (by omega)).mpr hlt) c)
      · refine k_X1_take_0 (r2 := c2) (r4 := c3) oo (fun c => absurd ((nI_ltI (by omega) (by omega)).mp c) hlt) (fun _ => ?_)
        by_cases hl3 : R1 < last
        · refine k_X1_take_11 (r2 := c3) (r4 := l1') oo (fun c => absurd ((nI_leI (by omega) (by omega)).mp c) (by omega)) (fun _ => run hlt hl3)
        · refine k_X1_take_11 (r2 := c3) (r4 := l1') oo (fun _ => ?_) (fun c => absurd ((nI_leI (by omega) (by omega)).mpr (by omega)) c)
          exact k_X1_take_206 oo (kI h1 Tl1 R1 m1 c1 c2 c3 (by omega) (by omega) st1 ⟨b1, f1.1.I (nn _ _ rfl)⟩)
  exact key 64 Tl R (by omega) h _ (Fq.refl h) ⟨⟨Nat.le_refl _, Nat.le_refl _, hT2, hR, fun z => z⟩, fun k h1 h2 => by omega, fun k h1 h2 => by omega⟩ hT hr
end
