/-! a worker is cleared: entries -/
section
variable {G : Gt} {B d q wi W : Nat} {h : AH} {l : List Nat} {o : Lc} {K : Outcome → AH → Prop}
theorem clear_93 {XX : Xt} (oo : OK e_X20_clear XX) {n : Nat} {oB : Lc} {l3 : Value} (sw : SWk h W) (hn : n ≤ 26) (b2 : h.I 1025 (W + 2) = nI n) (b3 : ∀ e, e < n → (oB (3, wi, e, 0) = none ∧ h.R 1159 (Ea W e) = none) ∨ ∃ x, oB (3, wi, e, 0) = some x ∧ h.R 1159 (Ea W e) = some x.1 ∧ fdp x.2.2.2 ≤ 40) (hd : 60 ≤ XX.d) (kk : ∀ h1 l1 o1, CST XX.G B q wi W h l o h1 l1 o1 → (∀ p : Sl, ¬ (p.1 = 3 ∧ p.2.1 = wi ∧ p.2.2.1 < n ∧ p.2.2.2 = 0) → o1 p = oB p) → (∀ e, e < n → o1 (3, wi, e, 0) = none) → h1.I 2438 W = nI 0 → K (.returned none) (h1.sI 1025 (W + 2) (nI 0))) : ∀ (r i : Nat), r + i = n → ∀ h1 l1 o1 l3, CST XX.G B q wi W h l o h1 l1 o1 → h1.I 1025 (W + 2) = nI n ∧ h1.I 2438 W = nI 0 → (∀ p : Sl, ¬ (p.1 = 3 ∧ p.2.1 = wi ∧ p.2.2.1 < i ∧ p.2.2.2 = 0) → o1 p = oB p) → (∀ e, e < i → o1 (3, wi, e, 0) = none) → (∀ e, i ≤ e → h1.R 1159 (Ea W e) = h.R 1159 (Ea W e)) → V XX K 93 [.ref W, .ref q, .int (nI i), l3] [] h1 := by
  obtain ⟨⟨w1, -, -⟩, ⟨w4, w5, w6, w7⟩, -, w9⟩ := sw
  have nE : ∀ h1 l1 o1, CST XX.G B q wi W h l o h1 l1 o1 → h1.tag W = some (19, 0) ∧ h1.R 2440 W = some (W + 2) ∧ h1.tag (W + 2) = some (8, 0) ∧ h1.R 1024 (W + 2) = some (W + 3) ∧ h1.tag (W + 3) = some (342, 30) := fun h1 l1 o1 c => ⟨c.1.tag w1, by rw [c.1.R (PCl.no (l := [2440]) rfl _ _ rfl)]; exact w4, c.1.tag w5, by rw [c.1.R (PCl.no (l := [1024]) rfl _ _ rfl)]; exact w6, c.1.tag w7⟩
  intro r
  induction r with
  | zero =>
    intro i hi h1 l1 o1 l3 c1 c0 c2 c3 c4
    have e : i = n := by omega
    subst e
    obtain ⟨e1, e2, e3, e4, e5⟩ := nE h1 l1 o1 c1
    refine k_X20_clear_93 (r5 := c0.1) oo (fun _ => ?_) (fun c => absurd (Int32.le_refl _) c)
    refine k_X20_clear_140 oo ?_
    exact kk h1 l1 o1 c1 c2 c3 c0.2
  | succ r ih =>
    intro i hi h1 l1 o1 l3 c1 c0 c2 c3 c4
    obtain ⟨e1, e2, e3, e4, e5⟩ := nE h1 l1 o1 c1
    obtain ⟨q1, q2⟩ := w9 i (by omega)
    have nr : ¬ PCl W (10000 + 342) (W + 3) := fun z => by
      rcases z with z | z
      · exact VQ.no (l := swF) rfl _ _ rfl z
      · exact absurd z.1 (by decide)
    have eR : h1.ER 342 (W + 3) i = some (Ea W i) := by rw [c1.1.ER nr]; exact q1
    have tE := c1.1.tag q2
    have ix : IX (nI i) 30 i := IX.mk (by omega) (by omega)
    have oi : o1 (3, wi, i, 0) = oB (3, wi, i, 0) := c2 _ (fun z => by have : i < i := z.2.2.1; omega)
    have go : ∀ h2 l2 o2, CST XX.G B q wi W h l o h2 l2 o2 → Fr VQ h1 h2 → (∀ p, p ≠ (3, wi, i, 0) → o2 p = o1 p) → o2 (3, wi, i, 0) = none → V XX K 129 [.ref W, .ref q, .int (nI i), .ref (Ea W i)] [] h2 := fun h2 l2 o2 d1 d2 d3 d4 => by
      have tE2 := d1.1.tag q2
      refine k_X20_clear_129 oo ?_
      rw [nI_add]
      have nv := VQ.no (l := [1159, 1025, 2438]) rfl
      refine ih (i + 1) (by omega) _ l2 o2 _ (d1.wr (P := fun g a => g = 1159 ∧ a = Ea W i) (Fq.sR (Fq.refl h2) ⟨rfl, rfl⟩) (fun g a z => ⟨by rw [z.1]; rfl, by rw [z.2]; unfold Ea; omega, by rw [z.2]; unfold Ea; omega⟩)) ⟨by simp [n_sI, z_sI, tag_sI, I_sI, J_sI, R_sI, EI_sI, EJ_sI, ER_sI, n_sJ, z_sJ, tag_sJ, I_sJ, J_sJ, R_sJ, EI_sJ, EJ_sJ, ER_sJ, n_sR, z_sR, tag_sR, I_sR, J_sR, R_sR, EI_sR, EJ_sR, ER_sR, n_sEI, z_sEI, tag_sEI, I_sEI, J_sEI, R_sEI, EI_sEI, EJ_sEI, ER_sEI, n_sEJ, z_sEJ, tag_sEJ, I_sEJ, J_sEJ, R_sEJ, EI_sEJ, EJ_sEJ, ER_sEJ, n_sER, z_sER, tag_sER, I_sER, J_sER, R_sER, EI_sER, EJ_sER, ER_sER, n_nw, z_nw, tag_nw, I_nw, J_nw, R_nw, EI_nw, EJ_nw, ER_nw]; rw [d2.I (nv _ _ rfl)]; exact c0.1, by simp [n_sI, z_sI, tag_sI, I_sI, J_sI, R_sI, EI_sI, EJ_sI, ER_sI, n_sJ, z_sJ, tag_sJ, I_sJ, J_sJ, R_sJ, EI_sJ, EJ_sJ, ER_sJ, n_sR, z_sR, tag_sR, I_sR, J_sR, R_sR, EI_sR, EJ_sR, ER_sR, n_sEI, z_sEI, tag_sEI, I_sEI, J_sEI, R_sEI, EI_sEI, EJ_sEI, ER_sEI, n_sEJ, z_sEJ, tag_sEJ, I_sEJ, J_sEJ, R_sEJ, EI_sEJ, EJ_sEJ, ER_sEJ, n_sER, z_sER, tag_sER, I_sER, J_sER, R_sER, EI_sER, EJ_sER, ER_sER, n_nw, z_nw, tag_nw, I_nw, J_nw, R_nw, EI_nw, EJ_nw, ER_nw]; rw [d2.I (nv _ _ rfl)]; exact c0.2⟩ (fun p hp => ?_) (fun e he => ?_) (fun e he => ?_)
      · rw [d3 p (fun z => hp (by rw [z]; exact ⟨rfl, rfl, by show i < i + 1; omega, rfl⟩))]
        exact c2 p (fun z => hp ⟨z.1, z.2.1, by have := z.2.2.1; omega, z.2.2.2⟩)
      · by_cases ck : e = i
        · rw [ck]; exact d4
        · rw [d3 _ (fun z => ck (congrArg (fun p : Sl => p.2.2.1) z))]; exact c3 e (by omega)
      · have ck : Ea W e ≠ Ea W i := by unfold Ea; omega
        simp [n_sI, z_sI, tag_sI, I_sI, J_sI, R_sI, EI_sI, EJ_sI, ER_sI, n_sJ, z_sJ, tag_sJ, I_sJ, J_sJ, R_sJ, EI_sJ, EJ_sJ, ER_sJ, n_sR, z_sR, tag_sR, I_sR, J_sR, R_sR, EI_sR, EJ_sR, ER_sR, n_sEI, z_sEI, tag_sEI, I_sEI, J_sEI, R_sEI, EI_sEI, EJ_sEI, ER_sEI, n_sEJ, z_sEJ, tag_sEJ, I_sEJ, J_sEJ, R_sEJ, EI_sEJ, EJ_sEJ, ER_sEJ, n_sER, z_sER, tag_sER, I_sER, J_sER, R_sER, EI_sER, EJ_sER, ER_sER, n_nw, z_nw, tag_nw, I_nw, J_nw, R_nw, EI_nw, EJ_nw, ER_nw, ck]
        rw [d2.R (nv _ _ rfl)]
        exact c4 e (by omega)
    refine k_X20_clear_93 (r5 := c0.1) oo (fun c => absurd ((nI_leI (by omega) (by omega)).mp c) (by omega)) (fun _ => ?_)
    rcases b3 i (by omega) with ⟨z1, z2⟩ | ⟨x, z1, z2, z3⟩
    · have z2' : h1.R 1159 (Ea W i) = none := by rw [c4 i (Nat.le_refl _)]; exact z2
      refine k_X20_clear_104 (r14 := z2') oo (fun _ => ?_) (fun a c => by cases c)
      exact go h1 l1 o1 c1 (Fr.refl h1) (fun _ _ => rfl) (by rw [oi]; exact z1)
    · have z2' : h1.R 1159 (Ea W i) = some x.1 := by rw [c4 i (Nat.le_refl _)]; exact z2
      refine k_X20_clear_104 (r14 := z2') oo (fun c => by cases c) (fun a _ => ?_)
      refine k_X20_clear_121 oo ?_
      refine c1.drop (p := (3, wi, i, 0)) (by rw [oi]; exact z1) ⟨rfl, by show 1 ≤ 3; omega, by show 3 ≤ 3; omega⟩ (by omega) fun h2 l2 f2 d2 => ?_
      exact go h2 l2 _ d2 f2 (fun p hp => uO_n hp) uO_s
end
