/-! who waited runs anew -/
/-- the block's shape -/
def BLK (h : AH) (BA : Nat) (XA LA RA : Nat → Nat) : Prop := h.tag BA = some (71, 32) ∧ (∀ j k, j < 32 → k < 32 → XA j = XA k → j = k) ∧ ∀ k, k < 32 → h.ER 71 BA k = some (XA k) ∧ h.tag (XA k) = some (21, 0) ∧ h.R 2705 (XA k) = some (LA k) ∧ h.R 2706 (XA k) = some (RA k)
def bkF : List Nat := [10000 + 71, 2705, 2706]
theorem BLK.fr {P : Nat → Nat → Prop} {h h' : AH} {BA : Nat} {XA LA RA : Nat → Nat} (q : Fr P h h') (np : ∀ f a, bkF.contains f = true → ¬ P f a) (s : BLK h BA XA LA RA) : BLK h' BA XA LA RA := ⟨q.tag s.1, s.2.1, fun k hk => by
  obtain ⟨a, b, c, d⟩ := s.2.2 k hk
  exact ⟨by rw [q.ER (np _ _ rfl)]; exact a, q.tag b, by rw [q.R (np _ _ rfl)]; exact c, by rw [q.R (np _ _ rfl)]; exact d⟩⟩
def PRl (A g a : Nat) : Prop := g = 2702 ∨ (g = 10 ∧ a = A)
/-- who is released -/
abbrev rlb (hd : Nat → Int32) (t last : Nat) (st : Nat → Nat) (k : Nat) : Prop := t < k ∧ k < last ∧ st k = 3 ∧ hd k = nI t
section
variable {G : Gt} {B d : Nat} {h : AH} {A BA W : Nat} {XA LA RA : Nat → Nat} {K : Outcome → AH → Prop}
theorem mmin_ok {a b : Int32} (kk : K (.returned (some (.int (if b < a then b else a)))) h) : MW G d e_J5_min [.int a, .int b] h K := by
  refine st_J5_min fun XX oo hG hD _ => ?_
  refine k_J5_min_0 oo (fun c => ?_) (fun c => ?_)
  · refine k_J5_min_9 oo ?_
    refine k_J5_min_10 oo ?_
    rw [if_pos c] at kk; exact kk
  · refine k_J5_min_5 oo ?_
    refine k_J5_min_10 oo ?_
    rw [if_neg c] at kk; exact kk
theorem nI_min {a b : Nat} (ha : a < 2147483648) (hb : b < 2147483648) : (if nI b < nI a then nI b else nI a) = nI (min a b) := by
  by_cases c : b < a
  · rw [if_pos ((nI_ltI hb ha).mpr c), Nat.min_eq_right (by omega)]
  · rw [if_neg (fun z => c ((nI_ltI hb ha).mp z)), Nat.min_eq_left (by omega)]
theorem lrest_ok {b : Int32} (t0 : h.tag A = some (0, 0)) (rW : h.R 26 A = some W) (tW : h.tag W = some (19, 0)) (hb : h.I 12 A = b) (kk : K (.returned none) ((h.sI 2432 W (nI 0)).sI 12 A (b - nI 1))) : MW G d e_X1_rest [.ref A] h K := by
  refine st_X1_rest fun XX oo hG hD _ => ?_
  exact k_X1_rest_0 (r5 := hb) oo kk
theorem release_ok {t last R : Nat} {st : Nat → Nat} {hd : Nat → Int32} (t0 : h.tag A = some (0, 0)) (rB : h.R 3 A = some BA) (bk : BLK h BA XA LA RA) (hl : h.I 6 A = nI last) (hl2 : last ≤ 32) (ht : t < last) (hr : h.I 10 A = nI R) (hR : R ≤ 32) (hs : ∀ k, k < 32 → h.I 2702 (XA k) = nI (st k) ∧ st k < 4 ∧ h.I 2704 (XA k) = hd k) (hd1 : 2 ≤ d) (kk : ∀ h' R', Fq (PRl A) h h' → (∀ k, k < 32 → h'.I 2702 (XA k) = nI (if rlb hd t last st k then 0 else st k)) → h'.I 10 A = nI R' → R' ≤ R → (∀ k, rlb hd t last st k → R' ≤ k) → (t < R' ∨ R' = R) → K (.returned none) h') : MW G d e_X1_release [.ref A, .int (nI t)] h K := by
  refine st_X1_release fun XX oo hG hD _ => ?_
  subst hG; subst hD
  have key : ∀ n k, n + k = last → t < k → ∀ h1 R1, Fq (PRl A) h h1 → (∀ j, j < 32 → h1.I 2702 (XA j) = nI (if rlb hd t k st j then 0 else st j)) → h1.I 10 A = nI R1 → R1 ≤ R → (∀ j, rlb hd t k st j → R1 ≤ j) → (t < R1 ∨ R1 = R) → V XX K 4 [.ref A, .int (nI t), .int (nI k)] [] h1 := by
    intro n
    induction n with
    | zero =>
      intro k hk hkt h1 R1 f1 c1 c2 c3 c4 c5
      have e : k = last := by omega
      subst e
      have t1 := f1.1.tag t0
      have l1 : h1.I 6 A = nI k := by rw [f1.1.I (fun z => by rcases z with z | z; exact absurd z (by decide); exact absurd z.1 (by decide))]; exact hl
      refine k_X1_release_4 (r2 := l1) oo (fun _ => ?_) (fun c => absurd (Int32.le_refl _) c)
      exact k_X1_release_69 oo (kk h1 R1 f1 c1 c2 c3 c4 c5)
    | succ n ih =>
      intro k hk hkt h1 R1 f1 c1 c2 c3 c4 c5
      have t1 := f1.1.tag t0
      have l1 : h1.I 6 A = nI last := by rw [f1.1.I (fun z => by rcases z with z | z; exact absurd z (by decide); exact absurd z.1 (by decide))]; exact hl
      have rB1 : h1.R 3 A = some BA := by rw [f1.1.R (fun z => by rcases z with z | z; exact absurd z (by decide); exact absurd z.1 (by decide))]; exact rB
      have bk1 := bk.fr f1.1 (fun f a hf z => by
        rcases z with z | z
        · rw [z] at hf; exact absurd hf (by decide)
        · rw [z.1] at hf; exact absurd hf (by decide))
      have tB := bk1.1
      obtain ⟨eX, tX, -, -⟩ := bk1.2.2 k (by omega)
      have ix : IX (nI k) 32 k := IX.mk (by omega) (by omega)
      obtain ⟨s1, s2, s3⟩ := hs k (by omega)
      have nk : ¬ rlb hd t k st k := fun z => by have := z.2.1; omega
      have sk : h1.I 2702 (XA k) = nI (st k) := by have := c1 k (by omega); rw [if_neg nk] at this; exact this
      have hk1 : h1.I 2704 (XA k) = hd k := by rw [f1.1.I (fun z => by rcases z with z | z; exact absurd z (by decide); exact absurd z.1 (by decide))]; exact s3
      have up : ∀ j, rlb hd t (k + 1) st j ↔ rlb hd t k st j ∨ (j = k ∧ st k = 3 ∧ hd k = nI t) := fun j => by
        unfold rlb
        constructor
        · rintro ⟨a, b, c, d⟩
          by_cases e : j = k
          · subst e; exact Or.inr ⟨rfl, c, d⟩
          · exact Or.inl ⟨a, by omega, c, d⟩
        · rintro (⟨a, b, c, d⟩ | ⟨a, b, c⟩)
          · exact ⟨a, by omega, c, d⟩
          · subst a; exact ⟨hkt, by omega, b, c⟩
      have skip : ¬ (st k = 3 ∧ hd k = nI t) → V XX K 63 [.ref A, .int (nI t), .int (nI k)] [] h1 := fun hn => by
        refine k_X1_release_63 oo ?_
        rw [nI_add]
        refine ih (k + 1) (by omega) (by omega) h1 R1 f1 (fun j hj => ?_) c2 c3 (fun j hj => ?_) c5
        · rw [c1 j hj]
          by_cases c : rlb hd t k st j
          · rw [if_pos c, if_pos ((up j).mpr (Or.inl c))]
          · rw [if_neg c, if_neg (fun z => ((up j).mp z).elim c (fun y => hn y.2))]
        · exact ((up j).mp hj).elim (c4 j) (fun y => absurd y.2 hn)
      refine k_X1_release_4 (r2 := l1) oo (fun c => absurd ((nI_leI (by omega) (by omega)).mp c) (by omega)) (fun _ => ?_)
      refine k_X1_release_12 (r11 := sk) oo (fun c => ?_) (fun c => ?_)
      · exact skip (fun z => c (by rw [z.1]))
      · have c : st k = 3 := (nI_eq (by omega) (by omega)).mp c
        refine k_X1_release_25 (r11 := hk1) oo (fun c' => ?_) (fun c' => ?_)
        · refine k_X1_release_41 (r11 := c2) oo ?_
          refine mmin_ok ?_
          rw [nI_min (by omega) (by omega)]
          have t2 : (h1.sI 2702 (XA k) (nI 0)).tag A = some (0, 0) := t1
          refine k_X1_release_60 oo ?_
          refine k_X1_release_63 oo ?_
          rw [nI_add]
          have f2 : Fq (PRl A) h1 ((h1.sI 2702 (XA k) (nI 0)).sI 10 A (nI (min R1 k))) := Fq.sI (Fq.sI (Fq.refl h1) (Or.inl rfl)) (Or.inr ⟨rfl, rfl⟩)
          refine ih (k + 1) (by omega) (by omega) _ (min R1 k) (f1.trans f2) (fun j hj => ?_) (by simp [n_sI, z_sI, tag_sI, I_sI, J_sI, R_sI, EI_sI, EJ_sI, ER_sI, n_sJ, z_sJ, tag_sJ, I_sJ, J_sJ, R_sJ, EI_sJ, EJ_sJ, ER_sJ, n_sR, z_sR, tag_sR, I_sR, J_sR, R_sR, EI_sR, EJ_sR, ER_sR, n_sEI, z_sEI, tag_sEI, I_sEI, J_sEI, R_sEI, EI_sEI, EJ_sEI, ER_sEI, n_sEJ, z_sEJ, tag_sEJ, I_sEJ, J_sEJ, R_sEJ, EI_sEJ, EJ_sEJ, ER_sEJ, n_sER, z_sER, tag_sER, I_sER, J_sER, R_sER, EI_sER, EJ_sER, ER_sER, n_nw, z_nw, tag_nw, I_nw, J_nw, R_nw, EI_nw, EJ_nw, ER_nw]) (by omega) (fun j hj => ?_) (by omega)
          · by_cases e : j = k
            · subst e
              rw [if_pos ((up j).mpr (Or.inr ⟨rfl, c, c'⟩))]
              simp [n_sI, z_sI, tag_sI, I_sI, J_sI, R_sI, EI_sI, EJ_sI, ER_sI, n_sJ, z_sJ, tag_sJ, I_sJ, J_sJ, R_sJ, EI_sJ, EJ_sJ, ER_sJ, n_sR, z_sR, tag_sR, I_sR, J_sR, R_sR, EI_sR, EJ_sR, ER_sR, n_sEI, z_sEI, tag_sEI, I_sEI, J_sEI, R_sEI, EI_sEI, EJ_sEI, ER_sEI, n_sEJ, z_sEJ, tag_sEJ, I_sEJ, J_sEJ, R_sEJ, EI_sEJ, EJ_sEJ, ER_sEJ, n_sER, z_sER, tag_sER, I_sER, J_sER, R_sER, EI_sER, EJ_sER, ER_sER, n_nw, z_nw, tag_nw, I_nw, J_nw, R_nw, EI_nw, EJ_nw, ER_nw]
            · have : XA j ≠ XA k := fun z => e (bk.2.1 j k hj (by omega) z)
              simp [n_sI, z_sI, tag_sI, I_sI, J_sI, R_sI, EI_sI, EJ_sI, ER_sI, n_sJ, z_sJ, tag_sJ, I_sJ, J_sJ, R_sJ, EI_sJ, EJ_sJ, ER_sJ, n_sR, z_sR, tag_sR, I_sR, J_sR, R_sR, EI_sR, EJ_sR, ER_sR, n_sEI, z_sEI, tag_sEI, I_sEI, J_sEI, R_sEI, EI_sEI, EJ_sEI, ER_sEI, n_sEJ, z_sEJ, tag_sEJ, I_sEJ, J_sEJ, R_sEJ, EI_sEJ, EJ_sEJ, ER_sEJ, n_sER, z_sER, tag_sER, I_sER, J_sER, R_sER, EI_sER, EJ_sER, ER_sER, n_nw, z_nw, tag_nw, I_nw, J_nw, R_nw, EI_nw, EJ_nw, ER_nw, this]
              rw [c1 j hj]
              by_cases c2 : rlb hd t k st j
              · rw [if_pos c2, if_pos ((up j).mpr (Or.inl c2))]
              · rw [if_neg c2, if_neg (fun z => ((up j).mp z).elim c2 (fun y => e y.1))]
          · rcases (up j).mp hj with z | z
            · have := c4 j z; omega
            · omega
        · refine k_X1_release_38 oo ?_
          exact skip (fun z => c' z.2)
  refine k_X1_release_0 oo ?_
  rw [nI_add]
  exact key (last - (t + 1)) (t + 1) (by omega) (by omega) h R (Fq.refl h) (fun j hj => by rw [if_neg (fun z => by have := z.1; have := z.2.1; omega)]; exact (hs j hj).1) hr (Nat.le_refl _) (fun j hj => by have := hj.1; have := hj.2.1; omega) (Or.inr rfl)
end
