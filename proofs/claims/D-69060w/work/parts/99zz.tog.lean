/-! all transactions at once: the loop -/
def WVF (h : AH) (A VA nv wn : Nat) (wv : Nat → Nat) : Prop := h.I 9 A = nI wn ∧ (h.R 8 A = some VA ∧ h.tag VA = some (97, nv)) ∧ (wn ≤ nv ∧ nv < 100000) ∧ ∀ i, i < wn → h.EI 97 VA i = nI (wv i) ∧ wv i < 2147483648
theorem WVF.fr {P : Nat → Nat → Prop} {h h' : AH} {A VA nv wn : Nat} {wv : Nat → Nat} (q : Fr P h h') (np : ∀ f a, [9, 8, 10000 + 97].contains f = true → ¬ P f a) (s : WVF h A VA nv wn wv) : WVF h' A VA nv wn wv := by
  obtain ⟨a, ⟨b, e⟩, f, g⟩ := s
  exact ⟨by rw [q.I (np _ _ rfl)]; exact a, ⟨by rw [q.R (np _ _ rfl)]; exact b, q.tag e⟩, f, fun i hi => by rw [q.EI (np _ _ rfl)]; exact g i hi⟩
def MEA (z : Cz) (g : Gg) (S Pm wn u tn N : Nat) : Prop := (u < wn ∧ (wn - u) + Pm ≤ N) ∨ (¬ u < wn ∧ MSN z g S tn N)
theorem MSN.mono {z : Cz} {g : Gg} {S u v v' : Nat} (h : MSN z g S u v) (hv : v ≤ v') : MSN z g S u v' := by
  obtain ⟨m, w, a, b, c, d, e⟩ := h
  exact ⟨m, w, a, b, c, Nat.le_trans d hv, e⟩
/-- what all the steps may write -/
def PTg (PU : Nat → Nat → Prop) (y : Ly) (f a : Nat) : Prop := PU f a ∨ ((f = 29 ∨ f = 30) ∧ a = yA y)
section
variable {c : Cy} {z : Cz} {B : Nat} {K : Outcome → AH → Prop} {I2 : Gg → AH → Prop} {PU : Nat → Nat → Prop}
theorem GRL.lop {XX : Xt} (oo : OK e_X1_together XX) {S Pm RB VA nv wn : Nat} {wv : Nat → Nat} {h : AH} (hF : ∀ t r, z.2.1 t r → r.2.2.1.length ≤ 26) (hG : ∀ t s, z.2.2.1 t s → gas s ≤ 20000) (h8 : zn z ≤ 8) (hn : 0 < zn z) (h32 : zl z ≤ 32) (hfl : zf z ≤ zl z) (hS : (20002 + 28 * 33) * 8 + 8 ≤ S) (hPm : (zl z - zf z) * (5 * S) + 5 * S ≤ Pm) (hRB : RB < 2147483648) (hd : 1 ≤ XX.d) (nPU : ∀ f a, [9, 8, 10000 + 97, 29, 30].contains f = true → ¬ PU f a) (hst : ∀ g h l o j (K : Outcome → AH → Prop), GRL c z XX.G B g h l o → IVG z g → I2 g h → (∀ k, zf z ≤ k → k < zl z → xR g k < 2147483648) → j < zn z → (∀ h' g' l' o', GST z g j g' → GRL c z XX.G B g' h' l' o' → I2 g' h' → Fr PU h h' → K (.returned none) h') → MW XX.G (XX.d - 1) e_X1_step [.ref (yA c.1), .ref (yW c.1 j)] h K) (hI2 : ∀ g h h', Fr (fun f _ => f = 29 ∨ f = 30) h h' → I2 g h → I2 g h') (kk : ∀ h' g' l' o', GRL c z XX.G B g' h' l' o' → IVG z g' → I2 g' h' → PRE z g' (zl z) → (∀ k, zf z ≤ k → k < zl z → xR g' k < 2147483648) → Fr (PTg PU c.1) h h' → (∀ j, j < zn z → wK g' j = 0) → (∃ u tn, h'.I 29 (yA c.1) = nI u ∧ u < 150000 ∧ h'.I 30 (yA c.1) = nI tn ∧ tn < zn z) → K (.returned none) h') : ∀ N g h1 l o u tn l1, GRL c z XX.G B g h1 l o → IVG z g → I2 g h1 → WVF h1 (yA c.1) VA nv wn wv → (h1.I 29 (yA c.1) = nI u ∧ u < 150000) → (h1.I 30 (yA c.1) = nI tn ∧ tn < zn z) → MEA z g S Pm wn u tn N → (∀ k, zf z ≤ k → k < zl z → xR g k + N ≤ RB) → Fr (PTg PU c.1) h h1 → V XX K 73 [.ref (yA c.1), l1] [] h1 := by
  intro N
  induction N using Nat.strongRecOn with
  | _ N ih =>
    intro g h1 l o u tn l1 r iv i2 wf ⟨hu, hu2⟩ ⟨htn, htn2⟩ me hx fr
    obtain ⟨⟨⟨⟨a1, a2, a3, a4, a5, a6⟩, a7, a8, a9⟩, ⟨b1, b2, b3⟩, -⟩, ly, ⟨s1', sR, sT, sB⟩, -⟩ := id r
    have dd := iv.2.2.2
    have bl := bsy_l (g := g) (k := zn z)
    have xb : ∀ k, zf z ≤ k → k < zl z → xR g k < 2147483648 := fun k k1 k2 => by have := hx k k1 k2; omega
    have nu : ∀ f a, grlF.contains f = true → ¬ ((f = 29 ∨ f = 30) ∧ a = yA c.1) := fun f a hf q => by
      rcases q.1 with q | q <;> (rw [q] at hf; exact absurd hf (by decide))
    have nvq : ∀ f a, VQ f a → ¬ ((f = 29 ∨ f = 30) ∧ a = yA c.1) := fun f a y q => by
      rcases q.1 with q | q <;> (rw [q] at y; exact VQ.no (l := [29, 30]) rfl _ _ rfl y)
    have wn1 : ∀ f a, [9, 8, 10000 + 97].contains f = true → ¬ ((f = 29 ∨ f = 30) ∧ a = yA c.1) := fun f a hf q => by
      rcases q.1 with q | q <;> (rw [q] at hf; exact absurd hf (by decide))
    have wn2 := nPU
    have go : ((∃ j, j < zn z ∧ wK g j ≠ 0) ∨ qR g < zl z ∨ qL g < zl z) → V XX K 102 [.ref (yA c.1), l1] [] h1 := fun hl => by
      refine k_X1_together_102 (x3 := some (yV c.1)) (r2 := a7) oo ?_
      obtain ⟨w1, ⟨w2, w3⟩, ⟨w4, w5⟩, w6⟩ := id wf
      -- worker j makes a step
      have one : ∀ j h2, j < zn z → Fq (fun f a => (f = 29 ∨ f = 30) ∧ a = yA c.1) h1 h2 → (∀ g', GST z g j g' → ∃ u' tn', (h2.I 29 (yA c.1) = nI u' ∧ u' < 150000) ∧ (h2.I 30 (yA c.1) = nI tn' ∧ tn' < zn z) ∧ 1 ≤ N ∧ MEA z g' S Pm wn u' tn' (N - 1)) → V XX K 111 [.ref (yA c.1), l1] [.int (nI j), .ref (yV c.1), .ref (yA c.1)] h2 := fun j h2 hj q2 hm => by
        have r2 := r.frm q2 nu nvq
        have tV := q2.1.tag a8
        have ix : IX (nI j) (zn z) j := IX.mk hj (by omega)
        have eV : h2.ER 89 (yV c.1) j = some (yW c.1 j) := r2.1.1.2.2.2 j hj
        have t02 := q2.1.tag a1
        refine k_X1_together_111 oo ?_
        refine hst g h2 l o j _ r2 iv (hI2 _ _ _ (q2.1.mono fun f a q => q.1) i2) xb hj fun h3 g3 l3 o3 s3 r3 i3 f3 => ?_
        refine k_X1_together_115 oo ?_
        obtain ⟨u', tn', ⟨e1, e2⟩, ⟨e3, e4⟩, n1, m1⟩ := hm g3 s3
        refine ih (N - 1) (by omega) g3 h3 l3 o3 u' tn' _ r3 (iv.step hF hj s3) i3 ((wf.fr q2.1 wn1).fr f3 (fun f a hf => wn2 f a (by rw [List.contains_iff_mem] at hf ⊢; simp only [List.mem_cons, List.mem_nil_iff, or_false] at hf ⊢; omega))) ⟨by rw [f3.I (wn2 _ _ rfl)]; exact e1, e2⟩ ⟨by rw [f3.I (wn2 _ _ rfl)]; exact e3, e4⟩ m1 (fun k k1 k2 => ?_) (fr.trans ((q2.1.mono fun f a q => Or.inr q).trans (f3.mono fun f a q => Or.inl q)))
        have := hx k k1 k2
        have := s3.xr k
        omega
      refine next_ok (wv := wv) (nv := nv) a1 hu w1 htn w2 w3 a7 a8 ⟨hn, h8⟩ htn2 ⟨w4, w5, by omega⟩ w6 (fun hlt => ?_) (fun hge => ?_)
      · refine one (wv u % zn z) _ (Nat.mod_lt _ hn) (Fq.sI (Fq.refl h1) ⟨Or.inl rfl, rfl⟩) (fun g' s => ?_)
        rcases me with ⟨m1, m2⟩ | ⟨m1, -⟩
        · refine ⟨u + 1, tn, ⟨by simp [n_sI, z_sI, tag_sI, I_sI, J_sI, R_sI, EI_sI, EJ_sI, ER_sI, n_sJ, z_sJ, tag_sJ, I_sJ, J_sJ, R_sJ, EI_sJ, EJ_sJ, ER_sJ, n_sR, z_sR, tag_sR, I_sR, J_sR, R_sR, EI_sR, EJ_sR, ER_sR, n_sEI, z_sEI, tag_sEI, I_sEI, J_sEI, R_sEI, EI_sEI, EJ_sEI, ER_sEI, n_sEJ, z_sEJ, tag_sEJ, I_sEJ, J_sEJ, R_sEJ, EI_sEJ, EJ_sEJ, ER_sEJ, n_sER, z_sER, tag_sER, I_sER, J_sER, R_sER, EI_sER, EJ_sER, ER_sER, n_nw, z_nw, tag_nw, I_nw, J_nw, R_nw, EI_nw, EJ_nw, ER_nw], by omega⟩, ⟨by simp [n_sI, z_sI, tag_sI, I_sI, J_sI, R_sI, EI_sI, EJ_sI, ER_sI, n_sJ, z_sJ, tag_sJ, I_sJ, J_sJ, R_sJ, EI_sJ, EJ_sJ, ER_sJ, n_sR, z_sR, tag_sR, I_sR, J_sR, R_sR, EI_sR, EJ_sR, ER_sR, n_sEI, z_sEI, tag_sEI, I_sEI, J_sEI, R_sEI, EI_sEI, EJ_sEI, ER_sEI, n_sEJ, z_sEJ, tag_sEJ, I_sEJ, J_sEJ, R_sEJ, EI_sEJ, EJ_sEJ, ER_sEJ, n_sER, z_sER, tag_sER, I_sER, J_sER, R_sER, EI_sER, EJ_sER, ER_sER, n_nw, z_nw, tag_nw, I_nw, J_nw, R_nw, EI_nw, EJ_nw, ER_nw]; exact htn, htn2⟩, by omega, ?_⟩
          by_cases c2 : u + 1 < wn
          · exact Or.inl ⟨c2, by omega⟩
          · obtain ⟨v, v1, v2⟩ := MSN.ex (S := S) (u := tn) (iv.step hF (Nat.mod_lt _ hn) s) h32 htn2 h8 hS (zl z - zf z) (zf z) (by omega) (Nat.le_refl _) (fun t t1 t2 => by omega)
            exact Or.inr ⟨c2, v2.mono (by omega)⟩
        · exact absurd hlt m1
      · refine one tn _ htn2 (Fq.sI (Fq.refl h1) ⟨Or.inr rfl, rfl⟩) (fun g' s => ?_)
        rcases me with ⟨m1, -⟩ | ⟨m1, m2⟩
        · exact absurd m1 hge
        · obtain ⟨v', v1, v2⟩ := MSN.step hF hG iv h32 htn2 h8 hS s hl m2
          exact ⟨u, nxt (zn z) tn, ⟨by simp [n_sI, z_sI, tag_sI, I_sI, J_sI, R_sI, EI_sI, EJ_sI, ER_sI, n_sJ, z_sJ, tag_sJ, I_sJ, J_sJ, R_sJ, EI_sJ, EJ_sJ, ER_sJ, n_sR, z_sR, tag_sR, I_sR, J_sR, R_sR, EI_sR, EJ_sR, ER_sR, n_sEI, z_sEI, tag_sEI, I_sEI, J_sEI, R_sEI, EI_sEI, EJ_sEI, ER_sEI, n_sEJ, z_sEJ, tag_sEJ, I_sEJ, J_sEJ, R_sEJ, EI_sEJ, EJ_sEJ, ER_sEJ, n_sER, z_sER, tag_sER, I_sER, J_sER, R_sER, EI_sER, EJ_sER, ER_sER, n_nw, z_nw, tag_nw, I_nw, J_nw, R_nw, EI_nw, EJ_nw, ER_nw]; exact hu, hu2⟩, ⟨by simp [n_sI, z_sI, tag_sI, I_sI, J_sI, R_sI, EI_sI, EJ_sI, ER_sI, n_sJ, z_sJ, tag_sJ, I_sJ, J_sJ, R_sJ, EI_sJ, EJ_sJ, ER_sJ, n_sR, z_sR, tag_sR, I_sR, J_sR, R_sR, EI_sR, EJ_sR, ER_sR, n_sEI, z_sEI, tag_sEI, I_sEI, J_sEI, R_sEI, EI_sEI, EJ_sEI, ER_sEI, n_sEJ, z_sEJ, tag_sEJ, I_sEJ, J_sEJ, R_sEJ, EI_sEJ, EJ_sEJ, ER_sEJ, n_sER, z_sER, tag_sER, I_sER, J_sER, R_sER, EI_sER, EJ_sER, ER_sER, n_nw, z_nw, tag_nw, I_nw, J_nw, R_nw, EI_nw, EJ_nw, ER_nw]; rfl, nxt_l htn2⟩, by omega, Or.inr ⟨m1, v2.mono (by omega)⟩⟩
    have zb : (0 : Int32) < nI (bsy g (zn z)) ↔ 0 < bsy g (zn z) := nI_ltI (a := 0) (by omega) (by omega)
    refine k_X1_together_73 (r2 := sB) oo (fun c1 => go (Or.inl ?_)) (fun c1 => ?_)
    · have c1 := zb.mp c1
      refine Classical.byContradiction fun q => ?_
      have : ∀ k, bsy g k = 0 ∨ ∃ j, j < k ∧ wK g j ≠ 0 := fun k => by
        induction k with
        | zero => exact Or.inl rfl
        | succ k ihk =>
          rcases ihk with ihk | ⟨j, j1, j2⟩
          · by_cases e : wK g k = 0
            · left
              show bsy g k + (if wK g k = 0 then 0 else 1) = 0
              rw [if_pos e, ihk]
            · exact Or.inr ⟨k, by omega, e⟩
          · exact Or.inr ⟨j, by omega, j2⟩
      rcases this (zn z) with e | e
      · omega
      · exact q e
    have b0 : bsy g (zn z) = 0 := by
      rcases Nat.eq_zero_or_pos (bsy g (zn z)) with e | e
      · exact e
      · exact absurd (zb.mpr e) c1
    refine k_X1_together_80 (r2 := sR) (r4 := b3) oo (fun c2 => go (Or.inr (Or.inl ((nI_ltI (by omega) (by omega)).mp c2)))) (fun c2 => ?_)
    refine k_X1_together_91 (r2 := sT) (r4 := b3) oo (fun c3 => ?_) (fun c3 => go (Or.inr (Or.inr ?_)))
    · have e1 : zl z ≤ qR g := Nat.not_lt.mp fun q => c2 ((nI_ltI (by omega) (by omega)).mpr q)
      have e2 : zl z ≤ qL g := (nI_leI (by omega) (by omega)).mp c3
      refine k_X1_together_118 oo ?_
      exact kk h1 g l o r iv i2 (iv.end (bsy_0 b0) e1 e2) xb fr (bsy_0 b0) ⟨u, tn, hu, by omega, htn, htn2⟩
    · exact Nat.not_le.mp fun q => c3 ((nI_leI (by omega) (by omega)).mpr q)
end
