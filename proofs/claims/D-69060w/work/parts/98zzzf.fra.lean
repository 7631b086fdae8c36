/-! frames begin -/
theorem fat2_ok {G : Gt} {d : Nat} {h : AH} {K : Outcome → AH → Prop} {T f : Nat} {m : Md} (hT : STb h T) (hm : MX h T (mts m) (mcs m) m) (hf : f < m.2.2.2.2.2.length + m.2.2.2.1.length) (kk : K (.returned (some (.ref (T + 140 + 4 * (if f < m.2.2.2.2.2.length then f else 64 + f - m.2.2.2.2.2.length))))) h) : MW G d e_X3_functionAt [.ref T, .int (nI f)] h K := by
  refine st_X3_functionAt fun X o hG hD _ => ?_
  subst hG; subst hD
  obtain ⟨⟨a1, a2, a3, a4, a5⟩, ⟨b1, b2, b3, b4, b5, b6⟩, m1, m2, m3, m4, m5⟩ := hm
  obtain ⟨⟨g1, g2, g3, g4', g5, g6⟩, ⟨p1, p2, -⟩, -, -, dF⟩ := id hT
  by_cases c : f < m.2.2.2.2.2.length
  · rw [if_pos c] at kk
    obtain ⟨d1, d2, ⟨d3, d4, d5⟩, d6, d7, d8⟩ := dF f (by omega)
    have ix : IX (nI f) 96 f := IX.mk (by omega) (by omega)
    refine k_X3_functionAt_0 o (fun z => ?_) (fun _ => ?_)
    · exact absurd ((nI_leI (by omega) (by omega)).mp z) (by omega)
    refine k_X3_functionAt_8 o ?_
    exact k_X3_functionAt_31 o kk
  · rw [if_neg c] at kk
    have c2 : f - m.2.2.2.2.2.length < m.2.2.2.1.length := by omega
    obtain ⟨d1, d2, ⟨d3, d4, d5⟩, d6, d7, d8⟩ := dF (64 + f - m.2.2.2.2.2.length) (by omega)
    have ix : IX (nI 64 + nI f - nI m.2.2.2.2.2.length) 96 (64 + f - m.2.2.2.2.2.length) := by rw [nI_add, nI_sub (by omega)]; exact IX.mk (by omega) (by omega)
    refine k_X3_functionAt_0 o (fun _ => ?_) (fun z => ?_)
    rotate_left
    · exact absurd ((nI_leI (by omega) (by omega)).mpr (by omega)) z
    refine k_X3_functionAt_17 o ?_
    exact k_X3_functionAt_31 o kk
def maA (MA : Ma) (j n : Nat) : Ma := (MA.1, MA.2.1, fun i => if i = j then n else MA.2.2.1 i, MA.2.2.2)
def PEn (W t g a : Nat) : Prop := (g = 2438 ∧ a = W) ∨ (fmF.contains g = true ∧ Fa W t ≤ a ∧ a < Fa W t + 3)
theorem PEn.ip {W t : Nat} (ht : t < 32) : ∀ g a, PEn W t g a → IP W g a := fun g a h => by
  rcases h with ⟨e, e2⟩ | ⟨e, e2, e3⟩
  · rw [e, e2]; exact Or.inr (Or.inl ⟨rfl, by omega, by omega⟩)
  · exact PTF.ip ht g a (Or.inl ⟨e, e2, e3⟩)
theorem PEn.no {W t : Nat} {l : List Nat} (h : l.all (fun f => !((2438 :: fmF).contains f)) = true) : ∀ f a, l.contains f = true → ¬ PEn W t f a := fun f a hf z => by
  rw [List.all_eq_true] at h
  have := h f (List.contains_iff_mem.mp hf)
  simp only [Bool.not_eq_true'] at this
  rcases z with z | z
  · rw [z.1] at this; exact absurd this (by decide)
  · have e : f ∈ (2438 :: fmF) := List.mem_cons_of_mem _ (List.contains_iff_mem.mp z.1)
    rw [← List.contains_iff_mem, this] at e; cases e
theorem PEn.vq {W t : Nat} : ∀ g a, VQ g a → ¬ PEn W t g a := fun g a z z2 => by
  have nz := VQ.no (l := 2438 :: fmF) rfl
  rcases z2 with ⟨e, -⟩ | ⟨e, -⟩
  · exact nz g a (by rw [e]; rfl) z
  · exact nz g a (by rw [List.contains_iff_mem] at e ⊢; exact List.mem_cons_of_mem _ e) z
section
variable {G : Gt} {B d : Nat} {h : AH} {l : List Nat} {o : Lc} {wi W A q BA X tt lim SP t : Nat} {snd : Int64} {MA : Ma} {s : Ms} {K : Outcome → AH → Prop}
/-- a frame goes on, references may be forgotten -/
theorem WkR.fgt {j p : Nat} {lc : Nat → Option It} (w : WkR h o wi W MA s) (hl : ∀ k, lc k = (s.2.1 j).2.2.1 k ∨ (lc k = none ∧ ∃ r, (s.2.1 j).2.2.1 k = some (.inr r))) : WkR h o wi W MA (s.1, uF s.2.1 j ((s.2.1 j).1, p, lc, (s.2.1 j).2.2.2), s.2.2) := by
  obtain ⟨w1, w7, w8, w9⟩ := w
  refine ⟨w1, fun i hi => ?_, w8, w9⟩
  show FmR h o wi i (Fa W i) MA (uF s.2.1 j _ i)
  unfold uF
  by_cases c : i = j
  · rw [if_pos c]
    subst c
    obtain ⟨m1, m2, m3, m4, m5⟩ := w7 i hi
    refine ⟨m1, m2, m3, fun k hk => ?_, m5⟩
    have := m4 k hk
    rcases hl k with e | ⟨e, r, e2⟩
    · show match lc k with
        | some i' => _
        | none => _
      rw [e]; exact this
    · show match lc k with
        | some i' => _
        | none => _
      rw [e]
      rw [e2] at this
      obtain ⟨x, x1, x2, x3⟩ := this
      exact Or.inr ⟨x, x1, x2, x3.1, x3.2.1⟩
  · rw [if_neg c]; exact w7 i hi
theorem WkQ.enter {z : Nat} {h' : AH} {g : Nat × Nat} (w : WkQ z h o wi W MA s) (h32 : s.1 < 32) (f : Fr (PEn W s.1) h h') (e1 : h'.I 2438 W = nI (s.1 + 1)) (e2 : h'.R 2560 (Fa W s.1) = some (MA.1 g.1)) (e3 : h'.R 2561 (Fa W s.1) = some (MA.2.1 g)) (e4 : h'.I 2562 (Fa W s.1) = nI 0) (e5 : h'.I 2565 (Fa W s.1) = nI 0) (e6 : ∀ k, k < 40 → h'.ER 731 (Fa W s.1 + 1) k = none) : WkR h' o wi W (maA MA s.1 0) (s.1 + 1, uF s.2.1 s.1 (g, 0, fun _ => none, []), s.2.2) := by
  obtain ⟨⟨w1, w2, w3, w4, w5, w6⟩, w7, w8, w9⟩ := w
  have np := PEn.no (W := W) (t := s.1) (l := swF ++ enF ++ [2439, 2441, 3718]) rfl
  have sub : ∀ l' : List Nat, l'.all (fun f => (swF ++ enF ++ [2439, 2441, 3718]).contains f) = true → ∀ f a, l'.contains f = true → ¬ PEn W s.1 f a := fun l' hl f a hf => np f a (by rw [List.all_eq_true] at hl; exact hl f (List.contains_iff_mem.mp hf))
  refine ⟨⟨w1.fr f (sub swF rfl), e1, by show 1 ≤ s.1 + 1; omega, by show s.1 + 1 ≤ 32; omega, by show h'.I 2439 W = nI (gas s); rw [f.I (np _ _ rfl)]; exact w5, by show h'.I 2441 W = nI s.2.2.2.1; rw [f.I (np _ _ rfl)]; exact w6⟩, fun j hj => ?_, fun j hj i => w8 j (by have : s.1 + 1 ≤ j := hj; omega) i, ?_⟩
  · show FmR h' o wi j (Fa W j) _ (uF s.2.1 s.1 _ j)
    unfold uF
    by_cases c : j = s.1
    · rw [if_pos c]
      subst c
      refine ⟨⟨e2, e3, ?_, e5, by show (0 : Nat) ≤ 64; omega⟩, trivial, fun i _ => (w8 _ (Nat.le_refl _) i).1, fun k hk => Or.inl ⟨(w8 _ (Nat.le_refl _) k).2, e6 k hk⟩, fun i _ => (w8 _ (Nat.le_refl _) i).2⟩
      rw [e4]
      show nI 0 = nI (if s.1 = s.1 then 0 else MA.2.2.1 s.1)
      rw [if_pos rfl]
    · rw [if_neg c]
      have hj : j < s.1 + 1 := hj
      refine FmR.ma (MA := MA) (MA' := maA MA s.1 0) rfl rfl ?_ ((w7 j (by omega)).keep f (fun g a hg h1 h2 z => ?_) (fun _ _ _ => rfl) (fun c i x _ hx => f.R (np _ _ rfl)) (fun r _ a ha => ha))
      rotate_left
      · rcases z with z | z
        · rw [z.1] at hg; exact absurd hg (by decide)
        · unfold Fa at h1 h2 z; omega
      · show (if j = s.1 then 0 else MA.2.2.1 j) = _
        rw [if_neg c]
  · exact w9.keep f (fun g a hg _ _ => sub enF rfl g a hg) (fun _ _ => rfl)
theorem enter_ok {z M FA : Nat} {g : Nat × Nat} (c : CTX h A W q BA X tt snd lim SP) (w : WkQ z h o wi W MA s) (h32 : s.1 < 32) (hM : MA.1 g.1 = M) (hF : MA.2.1 g = FA) (kk : ∀ h', Fq (PEn W s.1) h h' → WkR h' o wi W (maA MA s.1 0) (s.1 + 1, uF s.2.1 s.1 (g, 0, fun _ => none, []), s.2.2) → K (.returned (some (.ref (Fa W s.1)))) h') : MW G d e_X1_enter [.ref A, .ref M, .ref FA] h K := by
  refine st_X1_enter fun X oo hG hD _ => ?_
  subst hG; subst hD
  obtain ⟨⟨c1, -, c3, -, -⟩, -, -⟩ := id c
  obtain ⟨⟨⟨w1, w2, w3⟩, -, w4, -⟩, w5, w6, w7, w8, w9⟩ := w.1
  obtain ⟨w10, w11, w12, w13, w14, w15⟩ := w4 s.1 h32
  have ix : IX (nI s.1) 32 s.1 := IX.mk (by omega) (by omega)
  refine k_X1_enter_0 oo ?_
  rw [nI_add]
  generalize hh1 : ((((h.sI 2438 W (nI (s.1 + 1))).sR 2560 (Fa W s.1) (some M)).sR 2561 (Fa W s.1) (some FA)).sI 2562 (Fa W s.1) (nI 0)).sI 2565 (Fa W s.1) (nI 0) = h1
  have f1 : Fq (PEn W s.1) h h1 := by
    subst hh1
    refine Fq.sI (Fq.sI (Fq.sR (Fq.sR (Fq.sI (Fq.refl h) ?_) ?_) ?_) ?_) ?_
    · exact Or.inl ⟨rfl, rfl⟩
    · exact Or.inr ⟨rfl, by omega, by omega⟩
    · exact Or.inr ⟨rfl, by omega, by omega⟩
    · exact Or.inr ⟨rfl, by omega, by omega⟩
    · exact Or.inr ⟨rfl, by omega, by omega⟩
  have e1 : h1.I 2438 W = nI (s.1 + 1) := by subst hh1; simp [n_sI, z_sI, tag_sI, I_sI, J_sI, R_sI, EI_sI, EJ_sI, ER_sI, n_sJ, z_sJ, tag_sJ, I_sJ, J_sJ, R_sJ, EI_sJ, EJ_sJ, ER_sJ, n_sR, z_sR, tag_sR, I_sR, J_sR, R_sR, EI_sR, EJ_sR, ER_sR, n_sEI, z_sEI, tag_sEI, I_sEI, J_sEI, R_sEI, EI_sEI, EJ_sEI, ER_sEI, n_sEJ, z_sEJ, tag_sEJ, I_sEJ, J_sEJ, R_sEJ, EI_sEJ, EJ_sEJ, ER_sEJ, n_sER, z_sER, tag_sER, I_sER, J_sER, R_sER, EI_sER, EJ_sER, ER_sER, n_nw, z_nw, tag_nw, I_nw, J_nw, R_nw, EI_nw, EJ_nw, ER_nw]
  have e2 : h1.R 2560 (Fa W s.1) = some M := by subst hh1; simp [n_sI, z_sI, tag_sI, I_sI, J_sI, R_sI, EI_sI, EJ_sI, ER_sI, n_sJ, z_sJ, tag_sJ, I_sJ, J_sJ, R_sJ, EI_sJ, EJ_sJ, ER_sJ, n_sR, z_sR, tag_sR, I_sR, J_sR, R_sR, EI_sR, EJ_sR, ER_sR, n_sEI, z_sEI, tag_sEI, I_sEI, J_sEI, R_sEI, EI_sEI, EJ_sEI, ER_sEI, n_sEJ, z_sEJ, tag_sEJ, I_sEJ, J_sEJ, R_sEJ, EI_sEJ, EJ_sEJ, ER_sEJ, n_sER, z_sER, tag_sER, I_sER, J_sER, R_sER, EI_sER, EJ_sER, ER_sER, n_nw, z_nw, tag_nw, I_nw, J_nw, R_nw, EI_nw, EJ_nw, ER_nw]
  have e3 : h1.R 2561 (Fa W s.1) = some FA := by subst hh1; simp [n_sI, z_sI, tag_sI, I_sI, J_sI, R_sI, EI_sI, EJ_sI, ER_sI, n_sJ, z_sJ, tag_sJ, I_sJ, J_sJ, R_sJ, EI_sJ, EJ_sJ, ER_sJ, n_sR, z_sR, tag_sR, I_sR, J_sR, R_sR, EI_sR, EJ_sR, ER_sR, n_sEI, z_sEI, tag_sEI, I_sEI, J_sEI, R_sEI, EI_sEI, EJ_sEI, ER_sEI, n_sEJ, z_sEJ, tag_sEJ, I_sEJ, J_sEJ, R_sEJ, EI_sEJ, EJ_sEJ, ER_sEJ, n_sER, z_sER, tag_sER, I_sER, J_sER, R_sER, EI_sER, EJ_sER, ER_sER, n_nw, z_nw, tag_nw, I_nw, J_nw, R_nw, EI_nw, EJ_nw, ER_nw]
  have e4 : h1.I 2562 (Fa W s.1) = nI 0 := by subst hh1; simp [n_sI, z_sI, tag_sI, I_sI, J_sI, R_sI, EI_sI, EJ_sI, ER_sI, n_sJ, z_sJ, tag_sJ, I_sJ, J_sJ, R_sJ, EI_sJ, EJ_sJ, ER_sJ, n_sR, z_sR, tag_sR, I_sR, J_sR, R_sR, EI_sR, EJ_sR, ER_sR, n_sEI, z_sEI, tag_sEI, I_sEI, J_sEI, R_sEI, EI_sEI, EJ_sEI, ER_sEI, n_sEJ, z_sEJ, tag_sEJ, I_sEJ, J_sEJ, R_sEJ, EI_sEJ, EJ_sEJ, ER_sEJ, n_sER, z_sER, tag_sER, I_sER, J_sER, R_sER, EI_sER, EJ_sER, ER_sER, n_nw, z_nw, tag_nw, I_nw, J_nw, R_nw, EI_nw, EJ_nw, ER_nw]
  have e5 : h1.I 2565 (Fa W s.1) = nI 0 := by subst hh1; simp [n_sI, z_sI, tag_sI, I_sI, J_sI, R_sI, EI_sI, EJ_sI, ER_sI, n_sJ, z_sJ, tag_sJ, I_sJ, J_sJ, R_sJ, EI_sJ, EJ_sJ, ER_sJ, n_sR, z_sR, tag_sR, I_sR, J_sR, R_sR, EI_sR, EJ_sR, ER_sR, n_sEI, z_sEI, tag_sEI, I_sEI, J_sEI, R_sEI, EI_sEI, EJ_sEI, ER_sEI, n_sEJ, z_sEJ, tag_sEJ, I_sEJ, J_sEJ, R_sEJ, EI_sEJ, EJ_sEJ, ER_sEJ, n_sER, z_sER, tag_sER, I_sER, J_sER, R_sER, EI_sER, EJ_sER, ER_sER, n_nw, z_nw, tag_nw, I_nw, J_nw, R_nw, EI_nw, EJ_nw, ER_nw]
  have key : ∀ (m i : Nat), m + i = 40 → ∀ hh, Fq (PEn W s.1) h hh → hh.I 2438 W = nI (s.1 + 1) → hh.R 2560 (Fa W s.1) = some M → hh.R 2561 (Fa W s.1) = some FA → hh.I 2562 (Fa W s.1) = nI 0 → hh.I 2565 (Fa W s.1) = nI 0 → (∀ k, k < i → hh.ER 731 (Fa W s.1 + 1) k = none) → V X K 52 [.ref A, .ref M, .ref FA, .ref (Fa W s.1), .int (nI i)] [] hh := by
    intro m
    induction m with
    | zero =>
      intro i hm hh ff g1 g2 g3 g4 g5 g6
      refine k_X1_enter_52 oo (fun _ => ?_) (fun c => absurd ((nI_leI (by omega) (by omega)).mpr (by omega)) c)
      refine k_X1_enter_73 oo ?_
      exact kk hh ff (w.enter h32 ff.1 g1 (by rw [hM]; exact g2) (by rw [hF]; exact g3) g4 g5 (fun k hk => g6 k (by omega)))
    | succ m ih =>
      intro i hm hh ff g1 g2 g3 g4 g5 g6
      have tF : hh.tag (Fa W s.1) = some (20, 0) := ff.1.tag w11
      have tL : hh.tag (Fa W s.1 + 1) = some (731, 40) := ff.1.tag w14
      have rL : hh.R 2563 (Fa W s.1) = some (Fa W s.1 + 1) := by rw [ff.1.R (PEn.no (l := [2563]) rfl _ _ rfl)]; exact w12
      have ix : IX (nI i) 40 i := IX.mk (by omega) (by omega)
      refine k_X1_enter_52 oo (fun c => absurd ((nI_leI (by omega) (by omega)).mp c) (by omega)) (fun _ => ?_)
      refine k_X1_enter_59 oo ?_
      rw [nI_add]
      refine ih (i + 1) (by omega) _ (ff.sER (Or.inr ⟨rfl, by omega, by omega⟩)) (by simp [n_sI, z_sI, tag_sI, I_sI, J_sI, R_sI, EI_sI, EJ_sI, ER_sI, n_sJ, z_sJ, tag_sJ, I_sJ, J_sJ, R_sJ, EI_sJ, EJ_sJ, ER_sJ, n_sR, z_sR, tag_sR, I_sR, J_sR, R_sR, EI_sR, EJ_sR, ER_sR, n_sEI, z_sEI, tag_sEI, I_sEI, J_sEI, R_sEI, EI_sEI, EJ_sEI, ER_sEI, n_sEJ, z_sEJ, tag_sEJ, I_sEJ, J_sEJ, R_sEJ, EI_sEJ, EJ_sEJ, ER_sEJ, n_sER, z_sER, tag_sER, I_sER, J_sER, R_sER, EI_sER, EJ_sER, ER_sER, n_nw, z_nw, tag_nw, I_nw, J_nw, R_nw, EI_nw, EJ_nw, ER_nw]; exact g1) (by simp [n_sI, z_sI, tag_sI, I_sI, J_sI, R_sI, EI_sI, EJ_sI, ER_sI, n_sJ, z_sJ, tag_sJ, I_sJ, J_sJ, R_sJ, EI_sJ, EJ_sJ, ER_sJ, n_sR, z_sR, tag_sR, I_sR, J_sR, R_sR, EI_sR, EJ_sR, ER_sR, n_sEI, z_sEI, tag_sEI, I_sEI, J_sEI, R_sEI, EI_sEI, EJ_sEI, ER_sEI, n_sEJ, z_sEJ, tag_sEJ, I_sEJ, J_sEJ, R_sEJ, EI_sEJ, EJ_sEJ, ER_sEJ, n_sER, z_sER, tag_sER, I_sER, J_sER, R_sER, EI_sER, EJ_sER, ER_sER, n_nw, z_nw, tag_nw, I_nw, J_nw, R_nw, EI_nw, EJ_nw, ER_nw]; exact g2) (by simp [n_sI, z_sI, tag_sI, I_sI, J_sI, R_sI, EI_sI, EJ_sI, ER_sI, n_sJ, z_sJ, tag_sJ, I_sJ, J_sJ, R_sJ, EI_sJ, EJ_sJ, ER_sJ, n_sR, z_sR, tag_sR, I_sR, J_sR, R_sR, EI_sR, EJ_sR, ER_sR, n_sEI, z_sEI, tag_sEI, I_sEI, J_sEI, R_sEI, EI_sEI, EJ_sEI, ER_sEI, n_sEJ, z_sEJ, tag_sEJ, I_sEJ, J_sEJ, R_sEJ, EI_sEJ, EJ_sEJ, ER_sEJ, n_sER, z_sER, tag_sER, I_sER, J_sER, R_sER, EI_sER, EJ_sER, ER_sER, n_nw, z_nw, tag_nw, I_nw, J_nw, R_nw, EI_nw, EJ_nw, ER_nw]; exact g3) (by simp [n_sI, z_sI, tag_sI, I_sI, J_sI, R_sI, EI_sI, EJ_sI, ER_sI, n_sJ, z_sJ, tag_sJ, I_sJ, J_sJ, R_sJ, EI_sJ, EJ_sJ, ER_sJ, n_sR, z_sR, tag_sR, I_sR, J_sR, R_sR, EI_sR, EJ_sR, ER_sR, n_sEI, z_sEI, tag_sEI, I_sEI, J_sEI, R_sEI, EI_sEI, EJ_sEI, ER_sEI, n_sEJ, z_sEJ, tag_sEJ, I_sEJ, J_sEJ, R_sEJ, EI_sEJ, EJ_sEJ, ER_sEJ, n_sER, z_sER, tag_sER, I_sER, J_sER, R_sER, EI_sER, EJ_sER, ER_sER, n_nw, z_nw, tag_nw, I_nw, J_nw, R_nw, EI_nw, EJ_nw, ER_nw]; exact g4) (by simp [n_sI, z_sI, tag_sI, I_sI, J_sI, R_sI, EI_sI, EJ_sI, ER_sI, n_sJ, z_sJ, tag_sJ, I_sJ, J_sJ, R_sJ, EI_sJ, EJ_sJ, ER_sJ, n_sR, z_sR, tag_sR, I_sR, J_sR, R_sR, EI_sR, EJ_sR, ER_sR, n_sEI, z_sEI, tag_sEI, I_sEI, J_sEI, R_sEI, EI_sEI, EJ_sEI, ER_sEI, n_sEJ, z_sEJ, tag_sEJ, I_sEJ, J_sEJ, R_sEJ, EI_sEJ, EJ_sEJ, ER_sEJ, n_sER, z_sER, tag_sER, I_sER, J_sER, R_sER, EI_sER, EJ_sER, ER_sER, n_nw, z_nw, tag_nw, I_nw, J_nw, R_nw, EI_nw, EJ_nw, ER_nw]; exact g5) (fun k hk => ?_)
      by_cases c : k = i
      · subst c; simp [n_sI, z_sI, tag_sI, I_sI, J_sI, R_sI, EI_sI, EJ_sI, ER_sI, n_sJ, z_sJ, tag_sJ, I_sJ, J_sJ, R_sJ, EI_sJ, EJ_sJ, ER_sJ, n_sR, z_sR, tag_sR, I_sR, J_sR, R_sR, EI_sR, EJ_sR, ER_sR, n_sEI, z_sEI, tag_sEI, I_sEI, J_sEI, R_sEI, EI_sEI, EJ_sEI, ER_sEI, n_sEJ, z_sEJ, tag_sEJ, I_sEJ, J_sEJ, R_sEJ, EI_sEJ, EJ_sEJ, ER_sEJ, n_sER, z_sER, tag_sER, I_sER, J_sER, R_sER, EI_sER, EJ_sER, ER_sER, n_nw, z_nw, tag_nw, I_nw, J_nw, R_nw, EI_nw, EJ_nw, ER_nw]
      · simp [n_sI, z_sI, tag_sI, I_sI, J_sI, R_sI, EI_sI, EJ_sI, ER_sI, n_sJ, z_sJ, tag_sJ, I_sJ, J_sJ, R_sJ, EI_sJ, EJ_sJ, ER_sJ, n_sR, z_sR, tag_sR, I_sR, J_sR, R_sR, EI_sR, EJ_sR, ER_sR, n_sEI, z_sEI, tag_sEI, I_sEI, J_sEI, R_sEI, EI_sEI, EJ_sEI, ER_sEI, n_sEJ, z_sEJ, tag_sEJ, I_sEJ, J_sEJ, R_sEJ, EI_sEJ, EJ_sEJ, ER_sEJ, n_sER, z_sER, tag_sER, I_sER, J_sER, R_sER, EI_sER, EJ_sER, ER_sER, n_nw, z_nw, tag_nw, I_nw, J_nw, R_nw, EI_nw, EJ_nw, ER_nw, c]
        exact g6 k (by omega)
  have tF : h1.tag (Fa W s.1) = some (20, 0) := f1.1.tag w11
  refine k_X1_enter_49 oo ?_
  exact key 40 0 (by omega) h1 f1 e1 e2 e3 e4 e5 (fun k hk => by omega)
end
