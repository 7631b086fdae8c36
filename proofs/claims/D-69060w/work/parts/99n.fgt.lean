/-! what a transaction left goes -/
def PFg (LA g a : Nat) : Prop := VQ g a ∨ ((g = 1159 ∨ g = 1025) ∧ LA ≤ a ∧ a < LA + 32)
theorem PFg.no {LA : Nat} {l : List Nat} (h : l.all (fun f => !((3712 ≤ f && f ≤ 3718) || f == 1280 || [1159, 1025].contains f)) = true) : ∀ f a, l.contains f = true → ¬ PFg LA f a := fun f a hf z => by
  rw [List.all_eq_true] at h
  have := h f (List.contains_iff_mem.mp hf)
  simp only [Bool.not_eq_true', Bool.or_eq_false_iff, Bool.and_eq_false_iff] at this
  obtain ⟨⟨t1, t2⟩, t3⟩ := this
  rcases z with (z | z) | ⟨z, -⟩
  · rcases t1 with t | t
    · exact absurd z.1 (by simpa using t)
    · exact absurd z.2 (by simpa using t)
  · rw [z] at t2; simp at t2
  · rcases z with z | z <;> (rw [z] at t3; exact absurd t3 (by decide))
section
variable {G : Gt} {B d : Nat} {h : AH} {l : List Nat} {o : Lc} {A q X LA tt : Nat} {MA : Ma} {K : Outcome → AH → Prop} {ls : Lw}
theorem EtR.val {c i E n e : Nat} {x : Pc × Cn × Bool} (r : EtR h o c i E n MA ls) (hx : ls[e]? = some x) (hf : ∀ v, x.2.1.2.2.2 = some v → fdp v.2.2 ≤ 40) : (o (c, i, e, 0) = none ∧ h.R 1159 (E + 2 + e) = none) ∨ ∃ y, o (c, i, e, 0) = some y ∧ h.R 1159 (E + 2 + e) = some y.1 ∧ fdp y.2.2.2 ≤ 40 := by
  obtain ⟨-, -, d⟩ := r.2.1 e x hx
  cases hv : x.2.1.2.2.2 with
  | none => rw [hv] at d; exact Or.inl d
  | some v =>
    rw [hv] at d
    obtain ⟨y, y1, y2, y3⟩ := d
    refine Or.inr ⟨y, y1, y2, ?_⟩
    have := hf v hv
    rw [← y3] at this
    have e2 : fdp (lvE y).2.2 = fdp y.2.2.2 := fer_dp _
    omega
theorem forget_ok (t0 : h.tag A = some (0, 0)) (rq : h.R 2 A = some q) (tX : h.tag X = some (21, 0)) (hL : h.R 2705 X = some LA) (v : VH G B h q l o) (r : EtR h o 4 tt LA 30 MA ls) (hfd : ∀ x ∈ ls, ∀ v, x.2.1.2.2.2 = some v → fdp v.2.2 ≤ 40) (hd : 50 ≤ d) (kk : ∀ h' l' o', Fr (PFg LA) h h' → VH G B h' q l' o' → EtR h' o' 4 tt LA 30 MA [] → (∀ p : Sl, ¬ (p.1 = 4 ∧ p.2.1 = tt ∧ p.2.2.2 = 0) → o' p = o p) → (∀ p x, o' p = some x → h'.R 3718 x.1 = h.R 3718 x.1) → av G h l ≤ av G h' l' → K (.returned none) h') : MW G d e_X1_forget [.ref A, .ref X] h K := by
  refine st_X1_forget fun XX oo hG hD _ => ?_
  subst hG; subst hD
  obtain ⟨⟨⟨s1, s2, s3⟩, s4⟩, ⟨s5, s6, s7⟩, s8⟩ := r.1
  rw [List.length_map] at s5 s6
  have no := PFg.no (LA := LA) (l := [2, 2705, 1024, 10000 + 342]) rfl
  have nv := VQ.no (l := [1159, 1025]) rfl
  have key : ∀ (m i : Nat), m + i = ls.length → ∀ h1 l1 o1 l3, Fr (PFg LA) h h1 → VH XX.G B h1 q l1 o1 → (∀ p : Sl, ¬ (p.1 = 4 ∧ p.2.1 = tt ∧ p.2.2.1 < i ∧ p.2.2.2 = 0) → o1 p = o p) → (∀ e, e < i → o1 (4, tt, e, 0) = none) → (∀ p x, o1 p = some x → h1.R 3718 x.1 = h.R 3718 x.1) → h1.I 1025 LA = nI ls.length → (∀ e, i ≤ e → h1.R 1159 (LA + 2 + e) = h.R 1159 (LA + 2 + e)) → av XX.G h l ≤ av XX.G h1 l1 → V XX K 2 [.ref A, .ref X, .int (nI i), l3] [] h1 := by
    intro m
    induction m with
    | zero =>
      intro i hi h1 l1 o1 l3 f1 v1 c1 c2 c3 c4 c5 c6
      have e : i = ls.length := by omega
      subst e
      have tX1 := f1.tag tX
      have tE1 := f1.tag s1
      have rL : h1.R 2705 X = some LA := by rw [f1.R (no _ _ rfl)]; exact hL
      refine k_X1_forget_2 (r5 := c4) oo (fun _ => ?_) (fun c => absurd (Int32.le_refl _) c)
      refine k_X1_forget_52 oo ?_
      have fq : Fq (P1 1025 LA) h1 (h1.sI 1025 LA (nI 0)) := (Fq.refl h1).sI P1.i
      have f2 : Fr (PFg LA) h (h1.sI 1025 LA (nI 0)) := f1.trans (fq.1.mono fun g a z => Or.inr ⟨Or.inr z.1, by rw [z.2]; omega, by rw [z.2]; omega⟩)
      obtain ⟨v2, tg⟩ := v1.oth fq (fun g a z y => by rw [y.1] at z; exact nv _ _ rfl z)
      refine kk _ l1 o1 f2 v2 ⟨⟨⟨⟨f2.tag s1, by rw [f2.R (no _ _ rfl)]; exact s2, f2.tag s3⟩, fun e he => ⟨by rw [f2.ER (no _ _ rfl)]; exact (s4 e he).1, f2.tag (s4 e he).2⟩⟩, ⟨by simp [n_sI, z_sI, tag_sI, I_sI, J_sI, R_sI, EI_sI, EJ_sI, ER_sI, n_sJ, z_sJ, tag_sJ, I_sJ, J_sJ, R_sJ, EI_sJ, EJ_sJ, ER_sJ, n_sR, z_sR, tag_sR, I_sR, J_sR, R_sR, EI_sR, EJ_sR, ER_sR, n_sEI, z_sEI, tag_sEI, I_sEI, J_sEI, R_sEI, EI_sEI, EJ_sEI, ER_sEI, n_sEJ, z_sEJ, tag_sEJ, I_sEJ, J_sEJ, R_sEJ, EI_sEJ, EJ_sEJ, ER_sEJ, n_sER, z_sER, tag_sER, I_sER, J_sER, R_sER, EI_sER, EJ_sER, ER_sER, n_nw, z_nw, tag_nw, I_nw, J_nw, R_nw, EI_nw, EJ_nw, ER_nw], by simp, s7⟩, fun e p hp => by simp at hp⟩, fun e x hx => by simp at hx, fun e _ => ?_⟩ (fun p hp => c1 p fun z => hp ⟨z.1, z.2.1, z.2.2.2⟩) (fun p x hx => by rw [tg p x (by simp) hx]; exact c3 p x hx) (by unfold av at c6 ⊢; rw [fq.2.1]; exact c6)
      by_cases ce : e < ls.length
      · exact c2 e ce
      · rw [c1 _ (fun z => ce z.2.2.1)]; exact r.2.2 e (by omega)
    | succ m ih =>
      intro i hi h1 l1 o1 l3 f1 v1 c1 c2 c3 c4 c5 c6
      obtain ⟨x, hx⟩ : ∃ x, ls[i]? = some x := ⟨_, List.getElem?_eq_getElem (by omega)⟩
      obtain ⟨q1, q2⟩ := s4 i (by omega)
      have t1 := f1.tag t0
      have tX1 := f1.tag tX
      have tE1 := f1.tag s1
      have tR1 := f1.tag s3
      have tI1 := f1.tag q2
      have rL : h1.R 2705 X = some LA := by rw [f1.R (no _ _ rfl)]; exact hL
      have rr : h1.R 1024 LA = some (LA + 1) := by rw [f1.R (no _ _ rfl)]; exact s2
      have er : h1.ER 342 (LA + 1) i = some (LA + 2 + i) := by rw [f1.ER (no _ _ rfl)]; exact q1
      have rp : h1.R 2 A = some q := by rw [f1.R (no _ _ rfl)]; exact rq
      have ix : IX (nI i) 30 i := IX.mk (by omega) (by omega)
      have oi : o1 (4, tt, i, 0) = o (4, tt, i, 0) := c1 _ (fun z => by have : i < i := z.2.2.1; omega)
      have go : ∀ h2 l2 o2, Fr (PFg LA) h h2 → VH XX.G B h2 q l2 o2 → Fr VQ h1 h2 → (∀ p, p ≠ (4, tt, i, 0) → o2 p = o1 p) → o2 (4, tt, i, 0) = none → (∀ p x, o2 p = some x → h2.R 3718 x.1 = h.R 3718 x.1) → av XX.G h l ≤ av XX.G h2 l2 → V XX K 41 [.ref A, .ref X, .int (nI i), .ref (LA + 2 + i)] [] h2 := fun h2 l2 o2 d1 d2 d3 d4 d5 d6 d7 => by
        have tI2 := d1.tag q2
        refine k_X1_forget_41 oo ?_
        rw [nI_add]
        have fq : Fq (P1 1159 (LA + 2 + i)) h2 (h2.sR 1159 (LA + 2 + i) none) := (Fq.refl h2).sR P1.i
        obtain ⟨v3, tg⟩ := d2.oth fq (fun g a z y => by rw [y.1] at z; exact nv _ _ rfl z)
        refine ih (i + 1) (by omega) _ l2 o2 _ (d1.trans (fq.1.mono fun g a z => Or.inr ⟨Or.inl z.1, by rw [z.2]; omega, by rw [z.2]; omega⟩)) v3 (fun p hp => ?_) (fun e he => ?_) (fun p x hx => by rw [tg p x (by simp) hx]; exact d6 p x hx) (by simp [n_sI, z_sI, tag_sI, I_sI, J_sI, R_sI, EI_sI, EJ_sI, ER_sI, n_sJ, z_sJ, tag_sJ, I_sJ, J_sJ, R_sJ, EI_sJ, EJ_sJ, ER_sJ, n_sR, z_sR, tag_sR, I_sR, J_sR, R_sR, EI_sR, EJ_sR, ER_sR, n_sEI, z_sEI, tag_sEI, I_sEI, J_sEI, R_sEI, EI_sEI, EJ_sEI, ER_sEI, n_sEJ, z_sEJ, tag_sEJ, I_sEJ, J_sEJ, R_sEJ, EI_sEJ, EJ_sEJ, ER_sEJ, n_sER, z_sER, tag_sER, I_sER, J_sER, R_sER, EI_sER, EJ_sER, ER_sER, n_nw, z_nw, tag_nw, I_nw, J_nw, R_nw, EI_nw, EJ_nw, ER_nw]; rw [d3.I (nv _ _ rfl)]; exact c4) (fun e he => ?_) (by unfold av at d7 ⊢; rw [fq.2.1]; exact d7)
        · rw [d4 p (fun z => hp (by rw [z]; exact ⟨rfl, rfl, by show i < i + 1; omega, rfl⟩))]
          exact c1 p (fun z => hp ⟨z.1, z.2.1, by have := z.2.2.1; omega, z.2.2.2⟩)
        · by_cases ck : e = i
          · rw [ck]; exact d5
          · rw [d4 _ (fun z => ck (congrArg (fun p : Sl => p.2.2.1) z))]; exact c2 e (by omega)
        · have ck : ¬ e = i := by omega
          simp [n_sI, z_sI, tag_sI, I_sI, J_sI, R_sI, EI_sI, EJ_sI, ER_sI, n_sJ, z_sJ, tag_sJ, I_sJ, J_sJ, R_sJ, EI_sJ, EJ_sJ, ER_sJ, n_sR, z_sR, tag_sR, I_sR, J_sR, R_sR, EI_sR, EJ_sR, ER_sR, n_sEI, z_sEI, tag_sEI, I_sEI, J_sEI, R_sEI, EI_sEI, EJ_sEI, ER_sEI, n_sEJ, z_sEJ, tag_sEJ, I_sEJ, J_sEJ, R_sEJ, EI_sEJ, EJ_sEJ, ER_sEJ, n_sER, z_sER, tag_sER, I_sER, J_sER, R_sER, EI_sER, EJ_sER, ER_sER, n_nw, z_nw, tag_nw, I_nw, J_nw, R_nw, EI_nw, EJ_nw, ER_nw, ck]
          rw [d3.R (nv _ _ rfl)]
          exact c5 e (by omega)
      refine k_X1_forget_2 (r5 := c4) oo (fun c => absurd ((nI_leI (by omega) (by omega)).mp c) (by omega)) (fun _ => ?_)
      rcases r.val hx (hfd x (List.mem_of_getElem? hx)) with ⟨z1, z2⟩ | ⟨y, z1, z2, z3⟩
      · have z2' : h1.R 1159 (LA + 2 + i) = none := by rw [c5 i (Nat.le_refl _)]; exact z2
        refine k_X1_forget_13 (r14 := z2') oo (fun _ => ?_) (fun a c => by cases c)
        exact go h1 l1 o1 f1 v1 (Fr.refl h1) (fun _ _ => rfl) (by rw [oi]; exact z1) c3 c6
      · have z2' : h1.R 1159 (LA + 2 + i) = some y.1 := by rw [c5 i (Nat.le_refl _)]; exact z2
        refine k_X1_forget_13 (r14 := z2') oo (fun c => by cases c) (fun a _ => ?_)
        refine k_X1_forget_30 oo ?_
        refine vdrop_ok v1 (by rw [oi]; exact z1) (by omega) fun h2 l2 f2 n2 v2 tg2 a2 => ?_
        refine go h2 l2 _ (f1.trans (f2.mono fun g a z => Or.inl z)) v2 f2 (fun p hp => uO_n hp) uO_s (fun p x hx => ?_) (by omega)
        by_cases c : p = (4, tt, i, 0)
        · rw [c, uO_s] at hx; cases hx
        · rw [uO_n c] at hx
          rw [tg2 p x (by simpa using c) hx]; exact c3 p x hx
  refine k_X1_forget_0 oo ?_
  exact key ls.length 0 (by omega) h l o nov (Fr.refl h) v (fun _ _ => rfl) (fun e he => by omega) (fun _ _ _ => rfl) s5 (fun _ _ => rfl) (Nat.le_refl _)
end
