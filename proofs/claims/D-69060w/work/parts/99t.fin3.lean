/-! the end of a run, whole -/
/-- what was read: places, from whom, which run -/
def RDR (h : AH) (E : Nat) (rs : List (Pc × Int32 × Int32)) : Prop := EtP h E 30 (rs.map fun x => x.1) ∧ ∀ (e : Nat) (x : Pc × Int32 × Int32), rs[e]? = some x → h.I 1160 (E + 2 + e) = x.2.1 ∧ h.I 1161 (E + 2 + e) = x.2.2
def rdF : List Nat := [1025, 1152, 1153, 1154, 1160, 1161]
theorem RDR.fr {P : Nat → Nat → Prop} {h h' : AH} {E : Nat} {rs : List (Pc × Int32 × Int32)} (q : Fr P h h') (n1 : ∀ f a, [1024, 10000 + 342].contains f = true → ¬ P f a) (n2 : ∀ f a, rdF.contains f = true → E ≤ a → a < E + 32 → ¬ P f a) (s : RDR h E rs) : RDR h' E rs := by
  obtain ⟨⟨⟨⟨s1, s2, s3⟩, s4⟩, ⟨s5, s6, s7⟩, s8⟩, s9⟩ := s
  refine ⟨⟨⟨⟨q.tag s1, by rw [q.R (n1 _ _ rfl)]; exact s2, q.tag s3⟩, fun e he => ⟨by rw [q.ER (n1 _ _ rfl)]; exact (s4 e he).1, q.tag (s4 e he).2⟩⟩, ⟨by rw [q.I (n2 _ _ rfl (by omega) (by omega))]; exact s5, s6, s7⟩, fun e p hp => ?_⟩, fun e x hx => ?_⟩
  · have := get_lt hp
    obtain ⟨⟨a1, a2, a3⟩, a4⟩ := s8 e p hp
    exact ⟨⟨by rw [q.I (n2 _ _ rfl (by omega) (by omega))]; exact a1, by rw [q.J (n2 _ _ rfl (by omega) (by omega))]; exact a2, by rw [q.I (n2 _ _ rfl (by omega) (by omega))]; exact a3⟩, a4⟩
  · have hl := get_lt hx
    rw [List.length_map] at s6
    obtain ⟨a1, a2⟩ := s9 e x hx
    exact ⟨by rw [q.I (n2 _ _ rfl (by omega) (by omega))]; exact a1, by rw [q.I (n2 _ _ rfl (by omega) (by omega))]; exact a2⟩
def rdE (MA : Ma) (es : List En) : List (Pc × Int32 × Int32) := es.mapIdx fun e x => (x.1, MA.2.2.2 e)
theorem rdE_at {MA : Ma} {es : List En} {e : Nat} : (rdE MA es)[e]? = (es[e]?).map fun x => (x.1, MA.2.2.2 e) := by unfold rdE; rw [List.getElem?_mapIdx]
theorem rdE_len {MA : Ma} {es : List En} : (rdE MA es).length = es.length := by unfold rdE; rw [List.length_mapIdx]
def PRd (RA g a : Nat) : Prop := rdF.contains g = true ∧ RA ≤ a ∧ a < RA + 32
section
variable {G : Gt} {B d : Nat} {h : AH} {l : List Nat} {o : Lc} {wi W A q BA tt lim SP : Nat} {snd : Int64} {MA : Ma} {K : Outcome → AH → Prop} {XA LA RA : Nat → Nat}
theorem PRd.no {R : Nat} {l : List Nat} (h : l.all (fun f => !(rdF.contains f)) = true) : ∀ f a, l.contains f = true → ¬ PRd R f a := fun f a hf z => by
  rw [List.all_eq_true] at h
  have := h f (List.contains_iff_mem.mp hf)
  rw [z.1] at this; cases this
theorem finish_102 {XX : Xt} (oo : OK e_X1_finish XX) {X R : Nat} {es : List En} {l1 l2 l3 : Value} (t0 : h.tag A = some (0, 0)) (rW : h.R 26 A = some W) (sw : SWk h W) (en : EnR h o wi W MA es) (tX : h.tag X = some (21, 0)) (rR : h.R 2706 X = some R) (far : R + 32 ≤ W ∨ W + 130 ≤ R) (hd1 : 2 ≤ XX.d) (kk : ∀ h' l5 l6 l7, Fq (PRd R) h h' → RDR h' R (rdE MA es) → V XX K 205 [.ref A, l1, l2, l3, .ref X, l5, l6, l7] [] h') : ∀ n k, n + k = es.length → ∀ h1 l6 l7, Fq (PRd R) h h1 → RDR h1 R ((rdE MA es).take k) → V XX K 102 [.ref A, l1, l2, l3, .ref X, .int (nI k), l6, l7] [] h1 := by
  obtain ⟨⟨w1, -, -⟩, ⟨w4, w5, w6, w7⟩, -, w9⟩ := id sw
  obtain ⟨⟨n1, n2⟩, en1, en2⟩ := id en
  have no := PRd.no (R := R) (l := [26, 2440, 1024, 10000 + 342, 2706]) rfl
  have nW : ∀ g a, W ≤ a → a < W + 130 → ¬ PRd R g a := fun g a h1 h2 z => by have := z.2; omega
  intro n
  induction n with
  | zero =>
    intro k hk h1 l6 l7 f1 r1
    have e : k = es.length := by omega
    subst e
    have t1 := f1.1.tag t0
    have tW := f1.1.tag w1
    have tE := f1.1.tag w5
    have rW1 : h1.R 26 A = some W := by rw [f1.1.R (no _ _ rfl)]; exact rW
    have rE1 : h1.R 2440 W = some (W + 2) := by rw [f1.1.R (no _ _ rfl)]; exact w4
    have c1 : h1.I 1025 (W + 2) = nI es.length := by rw [f1.1.I (nW _ _ (by omega) (by omega))]; exact n1
    refine k_X1_finish_102 (r8 := c1) oo (fun _ => ?_) (fun c => absurd (Int32.le_refl _) c)
    refine kk h1 _ _ _ f1 ?_
    rw [← rdE_len (MA := MA), List.take_length] at r1
    exact r1
  | succ n ih =>
    intro k hk h1 l6 l7 f1 r1
    obtain ⟨x, hx⟩ : ∃ x, es[k]? = some x := ⟨_, List.getElem?_eq_getElem (by omega)⟩
    obtain ⟨⟨a1, a2, a3, a4⟩, -, -, ⟨b1, b2, -⟩, -⟩ := en1 k x hx
    obtain ⟨w91, w92⟩ := w9 k (by omega)
    have t1 := f1.1.tag t0
    have tW := f1.1.tag w1
    have tE := f1.1.tag w5
    have tX1 := f1.1.tag tX
    have tR := f1.1.tag w7
    have tK := f1.1.tag w92
    have rW1 : h1.R 26 A = some W := by rw [f1.1.R (no _ _ rfl)]; exact rW
    have rE1 : h1.R 2440 W = some (W + 2) := by rw [f1.1.R (no _ _ rfl)]; exact w4
    have rr1 : h1.R 1024 (W + 2) = some (W + 3) := by rw [f1.1.R (no _ _ rfl)]; exact w6
    have er1 : h1.ER 342 (W + 3) k = some (Ea W k) := by rw [f1.1.ER (no _ _ rfl)]; exact w91
    have rR1 : h1.R 2706 X = some R := by rw [f1.1.R (no _ _ rfl)]; exact rR
    have c1 : h1.I 1025 (W + 2) = nI es.length := by rw [f1.1.I (nW _ _ (by omega) (by omega))]; exact n1
    have nE : ∀ g, ¬ PRd R g (Ea W k) := fun g => nW _ _ (by unfold Ea; omega) (by unfold Ea; omega)
    have d1 : h1.I 1152 (Ea W k) = nI x.1.1 := by rw [f1.1.I (nE _)]; exact a1
    have d2 : h1.J 1153 (Ea W k) = x.1.2.1 := by rw [f1.1.J (nE _)]; exact a2
    have d3 : h1.I 1154 (Ea W k) = nI x.1.2.2 := by rw [f1.1.I (nE _)]; exact a3
    have d4 : h1.I 1160 (Ea W k) = (MA.2.2.2 k).1 := by rw [f1.1.I (nE _)]; exact b1
    have d5 : h1.I 1161 (Ea W k) = (MA.2.2.2 k).2 := by rw [f1.1.I (nE _)]; exact b2
    obtain ⟨⟨⟨⟨s1, s2, s3⟩, s4⟩, ⟨s5, s6, s7⟩, s8⟩, s9⟩ := id r1
    obtain ⟨s41, s42⟩ := s4 k (by omega)
    have ln : ((rdE MA es).take k).length = k := by rw [List.length_take, rdE_len]; omega
    rw [List.length_map, ln] at s5
    have ix : IX (nI k) 30 k := IX.mk (by omega) (by omega)
    refine k_X1_finish_102 (r8 := c1) oo (fun c => absurd ((nI_leI (by omega) (by omega)).mp c) (by omega)) (fun _ => ?_)
    refine k_X1_finish_117 (r29 := d1) (r31 := d2) (r33 := d3) oo ?_
    refine eplace_ok s42 ?_
    have ne : Ea W k ≠ R + 2 + k := by unfold Ea; omega
    generalize hh2 : ((h1.sI 1152 (R + 2 + k) (nI x.1.1)).sJ 1153 (R + 2 + k) x.1.2.1).sI 1154 (R + 2 + k) (nI x.1.2.2) = h2
    have f2 : Fq (PRd R) h1 h2 := by
      rw [← hh2]
      refine Fq.sI (Fq.sJ (Fq.sI (Fq.refl h1) ?_) ?_) ?_ <;> exact ⟨by decide, by omega, by omega⟩
    have tK2 := f2.1.tag tK
    have tL2 := f2.1.tag s42
    have tX2 := f2.1.tag tX1
    have s12 := f2.1.tag s1
    have rR2 : h2.R 2706 X = some R := by rw [f2.1.R (no _ _ rfl)]; exact rR1
    have g1 : h2.I 1160 (Ea W k) = (MA.2.2.2 k).1 := by rw [f2.1.I (nE _)]; exact d4
    have g2 : h2.I 1161 (Ea W k) = (MA.2.2.2 k).2 := by rw [f2.1.I (nE _)]; exact d5
    have g3 : h2.I 1025 R = nI k := by rw [← hh2]; simp [n_sI, z_sI, tag_sI, I_sI, J_sI, R_sI, EI_sI, EJ_sI, ER_sI, n_sJ, z_sJ, tag_sJ, I_sJ, J_sJ, R_sJ, EI_sJ, EJ_sJ, ER_sJ, n_sR, z_sR, tag_sR, I_sR, J_sR, R_sR, EI_sR, EJ_sR, ER_sR, n_sEI, z_sEI, tag_sEI, I_sEI, J_sEI, R_sEI, EI_sEI, EJ_sEI, ER_sEI, n_sEJ, z_sEJ, tag_sEJ, I_sEJ, J_sEJ, R_sEJ, EI_sEJ, EJ_sEJ, ER_sEJ, n_sER, z_sER, tag_sER, I_sER, J_sER, R_sER, EI_sER, EJ_sER, ER_sER, n_nw, z_nw, tag_nw, I_nw, J_nw, R_nw, EI_nw, EJ_nw, ER_nw]; exact s5
    refine k_X1_finish_165 (r2 := g1) (r5 := g2) (r11 := g3) oo ?_
    rw [nI_add]
    generalize hh3 : ((h2.sI 1160 (R + 2 + k) (MA.2.2.2 k).1).sI 1161 (R + 2 + k) (MA.2.2.2 k).2).sI 1025 R (nI (k + 1)) = h3
    have f3 : Fq (fun g a => (g = 1025 ∧ a = R) ∨ (rdF.contains g = true ∧ a = R + 2 + k)) h1 h3 := by
      rw [← hh3, ← hh2]
      refine Fq.sI (Fq.sI (Fq.sI (Fq.sI (Fq.sJ (Fq.sI (Fq.refl h1) ?_) ?_) ?_) ?_) ?_) ?_
      · exact Or.inr ⟨by decide, rfl⟩
      · exact Or.inr ⟨by decide, rfl⟩
      · exact Or.inr ⟨by decide, rfl⟩
      · exact Or.inr ⟨by decide, rfl⟩
      · exact Or.inr ⟨by decide, rfl⟩
      · exact Or.inl ⟨rfl, rfl⟩
    have f13 : Fq (PRd R) h1 h3 := f3.mono fun g a z => by
      rcases z with ⟨z1, z2⟩ | ⟨z1, z2⟩
      · rw [z1, z2]; exact ⟨by decide, by omega, by omega⟩
      · rw [z2]; exact ⟨z1, by omega, by omega⟩
    have tk : (rdE MA es).take (k + 1) = (rdE MA es).take k ++ [(x.1, MA.2.2.2 k)] := by
      rw [List.take_add_one, rdE_at, hx]; rfl
    have n3 : ∀ g e, e ≠ k → g ≠ 1025 → ¬ ((g = 1025 ∧ R + 2 + e = R) ∨ (rdF.contains g = true ∧ R + 2 + e = R + 2 + k)) := fun g e he hg z => by
      rcases z with z | z
      · exact hg z.1
      · omega
    have nr : ∀ g a, [1024, 10000 + 342].contains g = true → ¬ ((g = 1025 ∧ a = R) ∨ (rdF.contains g = true ∧ a = R + 2 + k)) := fun g a hg z => by
      rcases z with ⟨z, -⟩ | ⟨z, -⟩
      · rw [z] at hg; exact absurd hg (by decide)
      · exact PRd.no (R := a) (l := [1024, 10000 + 342]) rfl g a hg ⟨z, by omega, by omega⟩
    refine ih (k + 1) (by omega) h3 _ _ (f1.trans f13) ?_
    rw [tk]
    refine ⟨⟨⟨⟨f3.1.tag s1, by rw [f3.1.R (nr _ _ rfl)]; exact s2, f3.1.tag s3⟩, fun e he => ⟨by rw [f3.1.ER (nr _ _ rfl)]; exact (s4 e he).1, f3.1.tag (s4 e he).2⟩⟩, ⟨?_, ?_, s7⟩, fun e p hp => ?_⟩, fun e y hy => ?_⟩
    · rw [List.length_map, List.length_append, ln, ← hh3]; simp [n_sI, z_sI, tag_sI, I_sI, J_sI, R_sI, EI_sI, EJ_sI, ER_sI, n_sJ, z_sJ, tag_sJ, I_sJ, J_sJ, R_sJ, EI_sJ, EJ_sJ, ER_sJ, n_sR, z_sR, tag_sR, I_sR, J_sR, R_sR, EI_sR, EJ_sR, ER_sR, n_sEI, z_sEI, tag_sEI, I_sEI, J_sEI, R_sEI, EI_sEI, EJ_sEI, ER_sEI, n_sEJ, z_sEJ, tag_sEJ, I_sEJ, J_sEJ, R_sEJ, EI_sEJ, EJ_sEJ, ER_sEJ, n_sER, z_sER, tag_sER, I_sER, J_sER, R_sER, EI_sER, EJ_sER, ER_sER, n_nw, z_nw, tag_nw, I_nw, J_nw, R_nw, EI_nw, EJ_nw, ER_nw]
    · rw [List.length_map, List.length_append, ln]; simp; omega
    · rw [List.map_append] at hp
      by_cases ce : e < k
      · rw [List.getElem?_append_left (by rw [List.length_map, ln]; exact ce)] at hp
        obtain ⟨⟨q1, q2, q3⟩, q4⟩ := s8 e p hp
        exact ⟨⟨by rw [f3.1.I (n3 _ e (by omega) (by decide))]; exact q1, by rw [f3.1.J (n3 _ e (by omega) (by decide))]; exact q2, by rw [f3.1.I (n3 _ e (by omega) (by decide))]; exact q3⟩, q4⟩
      · have hl := get_lt hp
        rw [List.length_append, List.length_map, List.length_map, ln] at hl
        have : e = k := by simp at hl; omega
        subst this
        rw [List.getElem?_append_right (by rw [List.length_map, ln]; exact Nat.le_refl _), List.length_map, ln, Nat.sub_self] at hp
        cases hp
        refine ⟨⟨?_, ?_, ?_⟩, a4⟩
        · rw [← hh3, ← hh2]; simp [n_sI, z_sI, tag_sI, I_sI, J_sI, R_sI, EI_sI, EJ_sI, ER_sI, n_sJ, z_sJ, tag_sJ, I_sJ, J_sJ, R_sJ, EI_sJ, EJ_sJ, ER_sJ, n_sR, z_sR, tag_sR, I_sR, J_sR, R_sR, EI_sR, EJ_sR, ER_sR, n_sEI, z_sEI, tag_sEI, I_sEI, J_sEI, R_sEI, EI_sEI, EJ_sEI, ER_sEI, n_sEJ, z_sEJ, tag_sEJ, I_sEJ, J_sEJ, R_sEJ, EI_sEJ, EJ_sEJ, ER_sEJ, n_sER, z_sER, tag_sER, I_sER, J_sER, R_sER, EI_sER, EJ_sER, ER_sER, n_nw, z_nw, tag_nw, I_nw, J_nw, R_nw, EI_nw, EJ_nw, ER_nw]
        · rw [← hh3, ← hh2]; simp [n_sI, z_sI, tag_sI, I_sI, J_sI, R_sI, EI_sI, EJ_sI, ER_sI, n_sJ, z_sJ, tag_sJ, I_sJ, J_sJ, R_sJ, EI_sJ, EJ_sJ, ER_sJ, n_sR, z_sR, tag_sR, I_sR, J_sR, R_sR, EI_sR, EJ_sR, ER_sR, n_sEI, z_sEI, tag_sEI, I_sEI, J_sEI, R_sEI, EI_sEI, EJ_sEI, ER_sEI, n_sEJ, z_sEJ, tag_sEJ, I_sEJ, J_sEJ, R_sEJ, EI_sEJ, EJ_sEJ, ER_sEJ, n_sER, z_sER, tag_sER, I_sER, J_sER, R_sER, EI_sER, EJ_sER, ER_sER, n_nw, z_nw, tag_nw, I_nw, J_nw, R_nw, EI_nw, EJ_nw, ER_nw]
        · rw [← hh3, ← hh2]; simp [n_sI, z_sI, tag_sI, I_sI, J_sI, R_sI, EI_sI, EJ_sI, ER_sI, n_sJ, z_sJ, tag_sJ, I_sJ, J_sJ, R_sJ, EI_sJ, EJ_sJ, ER_sJ, n_sR, z_sR, tag_sR, I_sR, J_sR, R_sR, EI_sR, EJ_sR, ER_sR, n_sEI, z_sEI, tag_sEI, I_sEI, J_sEI, R_sEI, EI_sEI, EJ_sEI, ER_sEI, n_sEJ, z_sEJ, tag_sEJ, I_sEJ, J_sEJ, R_sEJ, EI_sEJ, EJ_sEJ, ER_sEJ, n_sER, z_sER, tag_sER, I_sER, J_sER, R_sER, EI_sER, EJ_sER, ER_sER, n_nw, z_nw, tag_nw, I_nw, J_nw, R_nw, EI_nw, EJ_nw, ER_nw]
    · by_cases ce : e < k
      · rw [List.getElem?_append_left (by rw [ln]; exact ce)] at hy
        obtain ⟨q1, q2⟩ := s9 e y hy
        exact ⟨by rw [f3.1.I (n3 _ e (by omega) (by decide))]; exact q1, by rw [f3.1.I (n3 _ e (by omega) (by decide))]; exact q2⟩
      · have hl := get_lt hy
        rw [List.length_append, ln] at hl
        have : e = k := by simp at hl; omega
        subst this
        rw [List.getElem?_append_right (by rw [ln]; exact Nat.le_refl _), ln, Nat.sub_self] at hy
        cases hy
        refine ⟨?_, ?_⟩
        · rw [← hh3, ← hh2]; simp [n_sI, z_sI, tag_sI, I_sI, J_sI, R_sI, EI_sI, EJ_sI, ER_sI, n_sJ, z_sJ, tag_sJ, I_sJ, J_sJ, R_sJ, EI_sJ, EJ_sJ, ER_sJ, n_sR, z_sR, tag_sR, I_sR, J_sR, R_sR, EI_sR, EJ_sR, ER_sR, n_sEI, z_sEI, tag_sEI, I_sEI, J_sEI, R_sEI, EI_sEI, EJ_sEI, ER_sEI, n_sEJ, z_sEJ, tag_sEJ, I_sEJ, J_sEJ, R_sEJ, EI_sEJ, EJ_sEJ, ER_sEJ, n_sER, z_sER, tag_sER, I_sER, J_sER, R_sER, EI_sER, EJ_sER, ER_sER, n_nw, z_nw, tag_nw, I_nw, J_nw, R_nw, EI_nw, EJ_nw, ER_nw]
        · rw [← hh3, ← hh2]; simp [n_sI, z_sI, tag_sI, I_sI, J_sI, R_sI, EI_sI, EJ_sI, ER_sI, n_sJ, z_sJ, tag_sJ, I_sJ, J_sJ, R_sJ, EI_sJ, EJ_sJ, ER_sJ, n_sR, z_sR, tag_sR, I_sR, J_sR, R_sR, EI_sR, EJ_sR, ER_sR, n_sEI, z_sEI, tag_sEI, I_sEI, J_sEI, R_sEI, EI_sEI, EJ_sEI, ER_sEI, n_sEJ, z_sEJ, tag_sEJ, I_sEJ, J_sEJ, R_sEJ, EI_sEJ, EJ_sEJ, ER_sEJ, n_sER, z_sER, tag_sER, I_sER, J_sER, R_sER, EI_sER, EJ_sER, ER_sER, n_nw, z_nw, tag_nw, I_nw, J_nw, R_nw, EI_nw, EJ_nw, ER_nw]
end
