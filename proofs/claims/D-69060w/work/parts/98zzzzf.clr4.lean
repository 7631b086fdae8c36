/-! a worker is cleared: frames -/
def PZc (W g a : Nat) : Prop := VQ g a ∨ (g = 10000 + 731 ∧ W ≤ a ∧ a < W + 130) ∨ (g = 2438 ∧ a = W)
section
variable {G : Gt} {B d q wi W : Nat} {h : AH} {l : List Nat} {o : Lc} {K : Outcome → AH → Prop}
theorem CST.trans {h1 h2 : AH} {l1 l2 : List Nat} {o1 o2 : Lc} (a : CST G B q wi W h l o h1 l1 o1) (b : CST G B q wi W h1 l1 o1 h2 l2 o2) : CST G B q wi W h l o h2 l2 o2 := by
  obtain ⟨a1, a2, a3, a4, a5⟩ := a
  obtain ⟨b1, b2, b3, b4, b5⟩ := b
  refine ⟨a1.trans b1, b2, fun p => ?_, fun p x hx => ?_, by omega⟩
  · rcases b3 p with e | e
    · rw [e]; exact a3 p
    · exact Or.inr e
  · rcases b3 p with e | e
    · rw [b4 p x hx]; exact a4 p x (by rw [← e]; exact hx)
    · rw [e.1] at hx; cases hx
theorem FDR.fr {P : Nat → Nat → Prop} {h1 : AH} {o1 : Lc} {j : Nat} (f : Fr P h h1) (np : ∀ g a, g = 2565 ∨ g = 10000 + 747 ∨ (g = 10000 + 731 ∧ a = Fa W j + 1) → ¬ P g a) (ho : ∀ c i, c = 1 ∨ c = 2 → o1 (c, wi, j, i) = o (c, wi, j, i)) (s : FDR h o wi W j) : FDR h1 o1 wi W j := by
  obtain ⟨hh, b1, b2, b3, b4, b5, b6⟩ := s
  refine ⟨hh, b1, by rw [f.I (np _ _ (Or.inl rfl))]; exact b2, fun i hi => ?_, fun i hi => by rw [ho 1 i (Or.inl rfl)]; exact b4 i hi, fun k hk => ?_, fun k hk => by rw [ho 2 k (Or.inr rfl)]; exact b6 k hk⟩
  · rw [ho 1 i (Or.inl rfl), f.ER (np _ _ (Or.inr (Or.inl rfl)))]; exact b3 i hi
  · rw [ho 2 k (Or.inr rfl), f.ER (np _ _ (Or.inr (Or.inr ⟨rfl, rfl⟩)))]; exact b5 k hk
theorem clear_0 {XX : Xt} (oo : OK e_X20_clear XX) {dd : Nat} (sw : SWk h W) (hdd : dd ≤ 32) (hd : 70 ≤ XX.d) (kk : ∀ h1 l1 o1 l2 l3, CST XX.G B q wi W h l o h1 l1 o1 → (∀ p : Sl, ¬ ((p.1 = 1 ∨ p.1 = 2) ∧ p.2.1 = wi ∧ p.2.2.1 < dd) → o1 p = o p) → (∀ j, j < dd → ∀ i, o1 (1, wi, j, i) = none ∧ o1 (2, wi, j, i) = none) → h1.I 2438 W = nI 0 → Fr (PZc W) h h1 → V XX K 91 [.ref W, .ref q, l2, l3] [] h1) : ∀ n, n ≤ dd → ∀ h1 l1 o1 l2 l3, CST XX.G B q wi W h l o h1 l1 o1 → h1.I 2438 W = nI n → (∀ j, j < n → FDR h1 o1 wi W j) → (∀ p : Sl, ¬ ((p.1 = 1 ∨ p.1 = 2) ∧ p.2.1 = wi ∧ n ≤ p.2.2.1 ∧ p.2.2.1 < dd) → o1 p = o p) → (∀ j, n ≤ j → j < dd → ∀ i, o1 (1, wi, j, i) = none ∧ o1 (2, wi, j, i) = none) → Fr (PZc W) h h1 → V XX K 0 [.ref W, .ref q, l2, l3] [] h1 := by
  intro n
  induction n with
  | zero =>
    intro _ h1 l1 o1 l2 l3 c1 c2 c3 c4 c5 c6
    have tW := c1.1.tag sw.1.1
    refine k_X20_clear_0 (r2 := c2) oo (fun _ => ?_) (fun c => absurd (by decide) c)
    exact kk h1 l1 o1 l2 l3 c1 (fun p hp => c4 p (fun z => hp ⟨z.1, z.2.1, z.2.2.2⟩)) (fun j hj => c5 j (Nat.zero_le _) hj) c2 c6
  | succ n ih =>
    intro hn h1 l1 o1 l2 l3 c1 c2 c3 c4 c5 c6
    have tW := c1.1.tag sw.1.1
    have sw1 : SWk h1 W := sw.fr c1.1 (PCl.no rfl)
    refine k_X20_clear_0 (r2 := c2) oo (fun c => absurd ((nI_le0 (by omega)).mp c) (by omega)) (fun _ => ?_)
    refine k_X20_clear_7 oo ?_
    refine cframe_ok (j := n) sw1 c2 (by omega) ?_
    refine k_X20_clear_11 oo ?_
    obtain ⟨-, sf⟩ := sw1.2.2.1 n (by omega)
    have fdn := c3 n (by omega)
    refine clear_14 (h := h1) (l := l1) (o := o1) oo (by omega) sf fdn (by omega) (fun h2 l2' o2 d1 d2 d3 d4 => ?_) 40 0 (by omega) h1 l1 o1 (CST.refl c1.2.1) (Fr.refl h1) (fun _ _ => rfl) (fun k hk => by omega) (fun _ _ => rfl)
    refine k_X20_clear_52 oo ?_
    obtain ⟨hh, b1, b2, b3, b4, b5, b6⟩ := id fdn
    have o21 : ∀ i, o2 (1, wi, n, i) = o1 (1, wi, n, i) := fun i => d3 _ (fun z => by have : (1 : Nat) = 2 := z.1; omega)
    refine clear_54 (h := h1) (l := l1) (o := o1) oo (hS := h2) (oB := o2) sf b1 b2 (fun i hi => by rw [o21]; exact b3 i hi) (fun i hi => by rw [o21]; exact b4 i hi) (by omega) (fun h3 l3' o3 e1 e2 e3 e4 => ?_) hh 0 (by omega) h2 l2' o2 d1 (Fr.refl h2) (fun _ _ => rfl) (fun k hk => by omega)
    have tW3 := e1.1.tag tW
    have nv := VQ.no (l := 2438 :: fmF) rfl
    have dp3 : h3.I 2438 W = nI (n + 1) := by
      rw [e2.I (nv _ _ rfl), d2.I (fun z => by
        rcases z with z | z
        · exact nv _ _ rfl z
        · exact absurd z.1 (by decide))]
      exact c2
    refine k_X20_clear_78 (r2 := dp3) oo ?_
    rw [nI_sub (by omega), show n + 1 - 1 = n by omega]
    have o31 : ∀ p : Sl, ¬ ((p.1 = 1 ∨ p.1 = 2) ∧ p.2.1 = wi ∧ p.2.2.1 = n) → o3 p = o1 p := fun p hp => by
      rw [e3 p (fun z => hp ⟨Or.inl z.1, z.2.1, z.2.2⟩), d3 p (fun z => hp ⟨Or.inr z.1, z.2.1, z.2.2⟩)]
    have f13 : Fr (PLj W n) h1 h3 := d2.trans (e2.mono fun g a z => Or.inl z)
    have fq : Fq (fun g a => g = 2438 ∧ a = W) h3 (h3.sI 2438 W (nI n)) := Fq.sI (Fq.refl h3) ⟨rfl, rfl⟩
    have f14 : Fr (fun g a => PLj W n g a ∨ (g = 2438 ∧ a = W)) h1 (h3.sI 2438 W (nI n)) := (f13.mono fun g a z => Or.inl z).trans (fq.1.mono fun g a z => Or.inr z)
    refine ih (by omega) _ l3' o3 _ _ (c1.trans (e1.wr fq (fun g a z => ⟨by rw [z.1]; rfl, by rw [z.2]; omega, by rw [z.2]; omega⟩))) (by simp [n_sI, z_sI, tag_sI, I_sI, J_sI, R_sI, EI_sI, EJ_sI, ER_sI, n_sJ, z_sJ, tag_sJ, I_sJ, J_sJ, R_sJ, EI_sJ, EJ_sJ, ER_sJ, n_sR, z_sR, tag_sR, I_sR, J_sR, R_sR, EI_sR, EJ_sR, ER_sR, n_sEI, z_sEI, tag_sEI, I_sEI, J_sEI, R_sEI, EI_sEI, EJ_sEI, ER_sEI, n_sEJ, z_sEJ, tag_sEJ, I_sEJ, J_sEJ, R_sEJ, EI_sEJ, EJ_sEJ, ER_sEJ, n_sER, z_sER, tag_sER, I_sER, J_sER, R_sER, EI_sER, EJ_sER, ER_sER, n_nw, z_nw, tag_nw, I_nw, J_nw, R_nw, EI_nw, EJ_nw, ER_nw]) (fun j hj => (c3 j (by omega)).fr f14 (fun g a hg z => ?_) (fun c i hc => o31 _ (fun z => by have : j = n := z.2.2; omega))) (fun p hp => ?_) (fun j h1' h2' i => ?_) (c6.trans (f14.mono fun g a z => ?_))
    · rcases z with (z | z) | z
      · rcases hg with e | e | e
        · exact nv g a (by rw [e]; rfl) z
        · exact nv g a (by rw [e]; rfl) z
        · exact nv g a (by rw [e.1]; rfl) z
      · rcases hg with e | e | e
        · rw [e] at z; exact absurd z.1 (by decide)
        · rw [e] at z; exact absurd z.1 (by decide)
        · have := z.2; have := e.2; unfold Fa at *; omega
      · rcases hg with e | e | e
        · rw [e] at z; exact absurd z.1 (by decide)
        · rw [e] at z; exact absurd z.1 (by decide)
        · rw [e.1] at z; exact absurd z.1 (by decide)
    · rw [o31 p (fun z => hp ⟨z.1, z.2.1, by omega, by omega⟩)]
      exact c4 p (fun z => hp ⟨z.1, z.2.1, by omega, z.2.2.2⟩)
    · by_cases cj : j = n
      · subst cj
        refine ⟨e4 i, ?_⟩
        rw [e3 _ (fun z => by have : (2 : Nat) = 1 := z.1; omega)]
        exact d4 i
      · have g1 := o31 (1, wi, j, i) (fun z => cj z.2.2)
        have g2 := o31 (2, wi, j, i) (fun z => cj z.2.2)
        rw [g1, g2]
        exact c5 j (by omega) h2' i
    · rcases z with (z | z) | z
      · exact Or.inl z
      · exact Or.inr (Or.inl ⟨z.1, by rw [z.2]; unfold Fa; omega, by rw [z.2]; unfold Fa; omega⟩)
      · exact Or.inr (Or.inr z)
end
