/-! the twin's machine: a frame begins -/
def lqF : List Nat := [10000 + 1184, 10000 + 1202]
def LcQ (tx : Nat → Nat) (fr : Nat) (h h' : AH) : Prop := Fq (FS lqF) h h' ∧ ∀ p, (p < 40 * fr ∨ 40 * fr + 40 ≤ p) → h'.EI 1184 (tx 3) p = h.EI 1184 (tx 3) p ∧ h'.EI 1202 (tx 4) p = h.EI 1202 (tx 4) p
theorem LcQ.refl {tx : Nat → Nat} {fr : Nat} {h : AH} : LcQ tx fr h h := ⟨Fq.refl h, fun _ _ => ⟨rfl, rfl⟩⟩
theorem LcQ.l {tx : Nat → Nat} {fr k : Nat} {h h' : AH} {v : Int32} (q : LcQ tx fr h h') (hk : k < 40) : LcQ tx fr h (h'.sEI 1184 (tx 3) (40 * fr + k) v) := ⟨q.1.sEI (fsr rfl), fun p hp => ⟨by rw [← (q.2 p hp).1]; simp [n_sI, z_sI, tag_sI, I_sI, J_sI, R_sI, EI_sI, EJ_sI, ER_sI, n_sJ, z_sJ, tag_sJ, I_sJ, J_sJ, R_sJ, EI_sJ, EJ_sJ, ER_sJ, n_sR, z_sR, tag_sR, I_sR, J_sR, R_sR, EI_sR, EJ_sR, ER_sR, n_sEI, z_sEI, tag_sEI, I_sEI, J_sEI, R_sEI, EI_sEI, EJ_sEI, ER_sEI, n_sEJ, z_sEJ, tag_sEJ, I_sEJ, J_sEJ, R_sEJ, EI_sEJ, EJ_sEJ, ER_sEJ, n_sER, z_sER, tag_sER, I_sER, J_sER, R_sER, EI_sER, EJ_sER, ER_sER, n_nw, z_nw, tag_nw, I_nw, J_nw, R_nw, EI_nw, EJ_nw, ER_nw, show p ≠ 40 * fr + k by omega], by rw [← (q.2 p hp).2]; simp [n_sI, z_sI, tag_sI, I_sI, J_sI, R_sI, EI_sI, EJ_sI, ER_sI, n_sJ, z_sJ, tag_sJ, I_sJ, J_sJ, R_sJ, EI_sJ, EJ_sJ, ER_sJ, n_sR, z_sR, tag_sR, I_sR, J_sR, R_sR, EI_sR, EJ_sR, ER_sR, n_sEI, z_sEI, tag_sEI, I_sEI, J_sEI, R_sEI, EI_sEI, EJ_sEI, ER_sEI, n_sEJ, z_sEJ, tag_sEJ, I_sEJ, J_sEJ, R_sEJ, EI_sEJ, EJ_sEJ, ER_sEJ, n_sER, z_sER, tag_sER, I_sER, J_sER, R_sER, EI_sER, EJ_sER, ER_sER, n_nw, z_nw, tag_nw, I_nw, J_nw, R_nw, EI_nw, EJ_nw, ER_nw]⟩⟩
theorem LcQ.r {tx : Nat → Nat} {fr k : Nat} {h h' : AH} {v : Int32} (q : LcQ tx fr h h') (hk : k < 40) : LcQ tx fr h (h'.sEI 1202 (tx 4) (40 * fr + k) v) := ⟨q.1.sEI (fsr rfl), fun p hp => ⟨by rw [← (q.2 p hp).1]; simp [n_sI, z_sI, tag_sI, I_sI, J_sI, R_sI, EI_sI, EJ_sI, ER_sI, n_sJ, z_sJ, tag_sJ, I_sJ, J_sJ, R_sJ, EI_sJ, EJ_sJ, ER_sJ, n_sR, z_sR, tag_sR, I_sR, J_sR, R_sR, EI_sR, EJ_sR, ER_sR, n_sEI, z_sEI, tag_sEI, I_sEI, J_sEI, R_sEI, EI_sEI, EJ_sEI, ER_sEI, n_sEJ, z_sEJ, tag_sEJ, I_sEJ, J_sEJ, R_sEJ, EI_sEJ, EJ_sEJ, ER_sEJ, n_sER, z_sER, tag_sER, I_sER, J_sER, R_sER, EI_sER, EJ_sER, ER_sER, n_nw, z_nw, tag_nw, I_nw, J_nw, R_nw, EI_nw, EJ_nw, ER_nw], by rw [← (q.2 p hp).2]; simp [n_sI, z_sI, tag_sI, I_sI, J_sI, R_sI, EI_sI, EJ_sI, ER_sI, n_sJ, z_sJ, tag_sJ, I_sJ, J_sJ, R_sJ, EI_sJ, EJ_sJ, ER_sJ, n_sR, z_sR, tag_sR, I_sR, J_sR, R_sR, EI_sR, EJ_sR, ER_sR, n_sEI, z_sEI, tag_sEI, I_sEI, J_sEI, R_sEI, EI_sEI, EJ_sEI, ER_sEI, n_sEJ, z_sEJ, tag_sEJ, I_sEJ, J_sEJ, R_sEJ, EI_sEJ, EJ_sEJ, ER_sEJ, n_sER, z_sER, tag_sER, I_sER, J_sER, R_sER, EI_sER, EJ_sER, ER_sER, n_nw, z_nw, tag_nw, I_nw, J_nw, R_nw, EI_nw, EJ_nw, ER_nw, show p ≠ 40 * fr + k by omega]⟩⟩
/-- what a new frame is -/
def TEN (h h' : AH) (A : Nat) (tx : Nat → Nat) (fr H n u f : Nat) : Prop := (h'.I 2852 A = nI (fr + 1) ∧ h'.I 2861 A = nI (H - n)) ∧ (h'.EI 1120 (tx 7) fr = nI u ∧ h'.EI 1136 (tx 8) fr = nI f ∧ h'.EI 1152 (tx 6) fr = nI 0 ∧ h'.EI 1168 (tx 5) fr = nI (H - n)) ∧ (∀ g ∈ [1120, 1136, 1152, 1168], ∀ a p, p ≠ fr → h'.EI g a p = h.EI g a p) ∧ (∀ p, (p < 40 * fr ∨ 40 * fr + 40 ≤ p) → h'.EI 1184 (tx 3) p = h.EI 1184 (tx 3) p ∧ h'.EI 1202 (tx 4) p = h.EI 1202 (tx 4) p) ∧ ∀ k, k < n → h'.EI 1184 (tx 3) (40 * fr + k) = h.EI 1216 (tx 1) (H - n + k) ∧ h'.EI 1202 (tx 4) (40 * fr + k) = h.EI 1234 (tx 2) (H - n + k)
def tenF : List Nat := [2852, 2861, 10000 + 1120, 10000 + 1136, 10000 + 1152, 10000 + 1168] ++ lqF
section
variable {G : Gt} {d : Nat} {h h' : AH} {o o' : Lc} {tx ax UX at' at2 : Nat → Nat} {A n n' lim : Nat} {snd : Int64} {s : Ms} {K : Outcome → AH → Prop} {t : Tst} {env : Pc → Cn}
theorem tenter_ok {fr H u f : Nat} (sm : SMm h A tx) (hf : h.I 2852 A = nI fr) (f32 : fr < 32) (hh : h.I 2861 A = nI H) (hH : H ≤ 2199) (hn : n ≤ H ∧ n ≤ 40) (hd : 2 ≤ d) (hb : ∀ k, k < n → h.EI 1234 (tx 2) (H - n + k) = 0 ∨ h.EI 1234 (tx 2) (H - n + k) = 1) (kk : ∀ h', Fq (FS tenF) h h' → TEN h h' A tx fr H n u f → K (.returned none) h') : MW G d e_X23_enter [.ref A, .int (nI u), .int (nI f), .int (nI n)] h K := by
  refine st_X23_enter fun X oo hG hD _ => ?_
  subst hG; subst hD
  have t0 := sm.1.1
  obtain ⟨r1, r2⟩ := sm.at 6 rfl
  obtain ⟨r3, r4⟩ := sm.at 7 rfl
  obtain ⟨r5, r6⟩ := sm.at 5 rfl
  obtain ⟨b1, b2⟩ := sm.at 4 rfl
  obtain ⟨l1, l2⟩ := sm.at 2 rfl
  obtain ⟨l3, l4⟩ := sm.at 3 rfl
  obtain ⟨s1, s2⟩ := sm.at 0 rfl
  obtain ⟨s3, s4⟩ := sm.at 1 rfl
  have ix : IX (nI fr) 32 fr := IX.mk f32 (by omega)
  refine k_X23_enter_0 (r2 := hf) (r4 := hf) (r6 := r1) (r12 := r3) (r18 := r5) oo ?_
  rw [nI_add]
  have q1 : Fq (FS tenF) h ((((h.sI 2852 A (nI (fr + 1))).sEI 1120 (tx 7) fr (nI u)).sEI 1136 (tx 8) fr (nI f)).sEI 1152 (tx 6) fr (nI 0)) := Fq.sEI (Fq.sEI (Fq.sEI (Fq.sI (Fq.refl h) (fsr rfl)) (fsr rfl)) (fsr rfl)) (fsr rfl)
  have e1 : ((((h.sI 2852 A (nI (fr + 1))).sEI 1120 (tx 7) fr (nI u)).sEI 1136 (tx 8) fr (nI f)).sEI 1152 (tx 6) fr (nI 0)).I 2852 A = nI (fr + 1) := by simp [n_sI, z_sI, tag_sI, I_sI, J_sI, R_sI, EI_sI, EJ_sI, ER_sI, n_sJ, z_sJ, tag_sJ, I_sJ, J_sJ, R_sJ, EI_sJ, EJ_sJ, ER_sJ, n_sR, z_sR, tag_sR, I_sR, J_sR, R_sR, EI_sR, EJ_sR, ER_sR, n_sEI, z_sEI, tag_sEI, I_sEI, J_sEI, R_sEI, EI_sEI, EJ_sEI, ER_sEI, n_sEJ, z_sEJ, tag_sEJ, I_sEJ, J_sEJ, R_sEJ, EI_sEJ, EJ_sEJ, ER_sEJ, n_sER, z_sER, tag_sER, I_sER, J_sER, R_sER, EI_sER, EJ_sER, ER_sER, n_nw, z_nw, tag_nw, I_nw, J_nw, R_nw, EI_nw, EJ_nw, ER_nw]
  have e2 : ((((h.sI 2852 A (nI (fr + 1))).sEI 1120 (tx 7) fr (nI u)).sEI 1136 (tx 8) fr (nI f)).sEI 1152 (tx 6) fr (nI 0)).I 2861 A = nI H := by rw [← hh]; simp [n_sI, z_sI, tag_sI, I_sI, J_sI, R_sI, EI_sI, EJ_sI, ER_sI, n_sJ, z_sJ, tag_sJ, I_sJ, J_sJ, R_sJ, EI_sJ, EJ_sJ, ER_sJ, n_sR, z_sR, tag_sR, I_sR, J_sR, R_sR, EI_sR, EJ_sR, ER_sR, n_sEI, z_sEI, tag_sEI, I_sEI, J_sEI, R_sEI, EI_sEI, EJ_sEI, ER_sEI, n_sEJ, z_sEJ, tag_sEJ, I_sEJ, J_sEJ, R_sEJ, EI_sEJ, EJ_sEJ, ER_sEJ, n_sER, z_sER, tag_sER, I_sER, J_sER, R_sER, EI_sER, EJ_sER, ER_sER, n_nw, z_nw, tag_nw, I_nw, J_nw, R_nw, EI_nw, EJ_nw, ER_nw]
  have e3 : ((((h.sI 2852 A (nI (fr + 1))).sEI 1120 (tx 7) fr (nI u)).sEI 1136 (tx 8) fr (nI f)).sEI 1152 (tx 6) fr (nI 0)).EI 1120 (tx 7) fr = nI u ∧ ((((h.sI 2852 A (nI (fr + 1))).sEI 1120 (tx 7) fr (nI u)).sEI 1136 (tx 8) fr (nI f)).sEI 1152 (tx 6) fr (nI 0)).EI 1136 (tx 8) fr = nI f ∧ ((((h.sI 2852 A (nI (fr + 1))).sEI 1120 (tx 7) fr (nI u)).sEI 1136 (tx 8) fr (nI f)).sEI 1152 (tx 6) fr (nI 0)).EI 1152 (tx 6) fr = nI 0 := ⟨by simp [n_sI, z_sI, tag_sI, I_sI, J_sI, R_sI, EI_sI, EJ_sI, ER_sI, n_sJ, z_sJ, tag_sJ, I_sJ, J_sJ, R_sJ, EI_sJ, EJ_sJ, ER_sJ, n_sR, z_sR, tag_sR, I_sR, J_sR, R_sR, EI_sR, EJ_sR, ER_sR, n_sEI, z_sEI, tag_sEI, I_sEI, J_sEI, R_sEI, EI_sEI, EJ_sEI, ER_sEI, n_sEJ, z_sEJ, tag_sEJ, I_sEJ, J_sEJ, R_sEJ, EI_sEJ, EJ_sEJ, ER_sEJ, n_sER, z_sER, tag_sER, I_sER, J_sER, R_sER, EI_sER, EJ_sER, ER_sER, n_nw, z_nw, tag_nw, I_nw, J_nw, R_nw, EI_nw, EJ_nw, ER_nw], by simp [n_sI, z_sI, tag_sI, I_sI, J_sI, R_sI, EI_sI, EJ_sI, ER_sI, n_sJ, z_sJ, tag_sJ, I_sJ, J_sJ, R_sJ, EI_sJ, EJ_sJ, ER_sJ, n_sR, z_sR, tag_sR, I_sR, J_sR, R_sR, EI_sR, EJ_sR, ER_sR, n_sEI, z_sEI, tag_sEI, I_sEI, J_sEI, R_sEI, EI_sEI, EJ_sEI, ER_sEI, n_sEJ, z_sEJ, tag_sEJ, I_sEJ, J_sEJ, R_sEJ, EI_sEJ, EJ_sEJ, ER_sEJ, n_sER, z_sER, tag_sER, I_sER, J_sER, R_sER, EI_sER, EJ_sER, ER_sER, n_nw, z_nw, tag_nw, I_nw, J_nw, R_nw, EI_nw, EJ_nw, ER_nw], by simp [n_sI, z_sI, tag_sI, I_sI, J_sI, R_sI, EI_sI, EJ_sI, ER_sI, n_sJ, z_sJ, tag_sJ, I_sJ, J_sJ, R_sJ, EI_sJ, EJ_sJ, ER_sJ, n_sR, z_sR, tag_sR, I_sR, J_sR, R_sR, EI_sR, EJ_sR, ER_sR, n_sEI, z_sEI, tag_sEI, I_sEI, J_sEI, R_sEI, EI_sEI, EJ_sEI, ER_sEI, n_sEJ, z_sEJ, tag_sEJ, I_sEJ, J_sEJ, R_sEJ, EI_sEJ, EJ_sEJ, ER_sEJ, n_sER, z_sER, tag_sER, I_sER, J_sER, R_sER, EI_sER, EJ_sER, ER_sER, n_nw, z_nw, tag_nw, I_nw, J_nw, R_nw, EI_nw, EJ_nw, ER_nw]⟩
  have e4 : ∀ g a p, p ≠ fr → ((((h.sI 2852 A (nI (fr + 1))).sEI 1120 (tx 7) fr (nI u)).sEI 1136 (tx 8) fr (nI f)).sEI 1152 (tx 6) fr (nI 0)).EI g a p = h.EI g a p := fun g a p hp => by simp [n_sI, z_sI, tag_sI, I_sI, J_sI, R_sI, EI_sI, EJ_sI, ER_sI, n_sJ, z_sJ, tag_sJ, I_sJ, J_sJ, R_sJ, EI_sJ, EJ_sJ, ER_sJ, n_sR, z_sR, tag_sR, I_sR, J_sR, R_sR, EI_sR, EJ_sR, ER_sR, n_sEI, z_sEI, tag_sEI, I_sEI, J_sEI, R_sEI, EI_sEI, EJ_sEI, ER_sEI, n_sEJ, z_sEJ, tag_sEJ, I_sEJ, J_sEJ, R_sEJ, EI_sEJ, EJ_sEJ, ER_sEJ, n_sER, z_sER, tag_sER, I_sER, J_sER, R_sER, EI_sER, EJ_sER, ER_sER, n_nw, z_nw, tag_nw, I_nw, J_nw, R_nw, EI_nw, EJ_nw, ER_nw, hp]
  have e5 : ∀ g ∈ [1216, 1234, 1184, 1202], ∀ a p, ((((h.sI 2852 A (nI (fr + 1))).sEI 1120 (tx 7) fr (nI u)).sEI 1136 (tx 8) fr (nI f)).sEI 1152 (tx 6) fr (nI 0)).EI g a p = h.EI g a p := fun g hg a p => by
    simp only [List.mem_cons, List.mem_nil_iff, or_false] at hg
    rcases hg with e | e | e | e <;> (rw [e]; simp [n_sI, z_sI, tag_sI, I_sI, J_sI, R_sI, EI_sI, EJ_sI, ER_sI, n_sJ, z_sJ, tag_sJ, I_sJ, J_sJ, R_sJ, EI_sJ, EJ_sJ, ER_sJ, n_sR, z_sR, tag_sR, I_sR, J_sR, R_sR, EI_sR, EJ_sR, ER_sR, n_sEI, z_sEI, tag_sEI, I_sEI, J_sEI, R_sEI, EI_sEI, EJ_sEI, ER_sEI, n_sEJ, z_sEJ, tag_sEJ, I_sEJ, J_sEJ, R_sEJ, EI_sEJ, EJ_sEJ, ER_sEJ, n_sER, z_sER, tag_sER, I_sER, J_sER, R_sER, EI_sER, EJ_sER, ER_sER, n_nw, z_nw, tag_nw, I_nw, J_nw, R_nw, EI_nw, EJ_nw, ER_nw])
  generalize (((h.sI 2852 A (nI (fr + 1))).sEI 1120 (tx 7) fr (nI u)).sEI 1136 (tx 8) fr (nI f)).sEI 1152 (tx 6) fr (nI 0) = h1 at q1 e1 e2 e3 e4 e5
  have t01 := q1.1.tag t0
  -- copies
  have loop2 : ∀ c i h2, i + c = n → LcQ tx fr h1 h2 → (∀ k, k < i → h2.EI 1184 (tx 3) (40 * fr + k) = h.EI 1216 (tx 1) (H - n + k) ∧ h2.EI 1202 (tx 4) (40 * fr + k) = h.EI 1234 (tx 2) (H - n + k)) → V X K 71 [.ref A, .int (nI u), .int (nI f), .int (nI n), .int (nI fr), .int (nI i)] [] h2 := by
    intro c
    induction c with
    | zero =>
      intro i h2 hi q2 a2
      have hi : i = n := by omega
      subst hi
      have t02 := q2.1.1.tag t01
      have hh2 : h2.I 2861 A = nI H := by rw [q2.1.1.I (FS.n (by decide))]; exact e2
      have rb2 : h2.R 2856 A = some (tx 5) := by rw [q2.1.1.R (FS.n (by decide)), q1.1.R (FS.n (by decide))]; exact b1
      have tb2 := q2.1.1.tag (q1.1.tag b2)
      refine k_X23_enter_71 oo (fun _ => ?_) (fun q => absurd ((nI_leI (by omega) (by omega)).mpr (Nat.le_refl _)) q)
      refine k_X23_enter_133 (r2 := hh2) (r4 := rb2) oo ?_
      rw [nI_sub (by omega)]
      have q3 : Fq (FS tenF) h2 ((h2.sI 2861 A (nI (H - i))).sEI 1168 (tx 5) fr (nI (H - i))) := Fq.sEI (Fq.sI (Fq.refl h2) (fsr rfl)) (fsr rfl)
      have q12 : Fq (FS tenF) h1 h2 := q2.1.mono fun f a z => FS.r z
      have g1 : ((h2.sI 2861 A (nI (H - i))).sEI 1168 (tx 5) fr (nI (H - i))).I 2852 A = nI (fr + 1) := by
        rw [show ((h2.sI 2861 A (nI (H - i))).sEI 1168 (tx 5) fr (nI (H - i))).I 2852 A = h2.I 2852 A from by simp [n_sI, z_sI, tag_sI, I_sI, J_sI, R_sI, EI_sI, EJ_sI, ER_sI, n_sJ, z_sJ, tag_sJ, I_sJ, J_sJ, R_sJ, EI_sJ, EJ_sJ, ER_sJ, n_sR, z_sR, tag_sR, I_sR, J_sR, R_sR, EI_sR, EJ_sR, ER_sR, n_sEI, z_sEI, tag_sEI, I_sEI, J_sEI, R_sEI, EI_sEI, EJ_sEI, ER_sEI, n_sEJ, z_sEJ, tag_sEJ, I_sEJ, J_sEJ, R_sEJ, EI_sEJ, EJ_sEJ, ER_sEJ, n_sER, z_sER, tag_sER, I_sER, J_sER, R_sER, EI_sER, EJ_sER, ER_sER, n_nw, z_nw, tag_nw, I_nw, J_nw, R_nw, EI_nw, EJ_nw, ER_nw], q2.1.1.I (FS.n (by decide))]; exact e1
      have g2 : ∀ g a p, (g ≠ 1168 ∨ p ≠ fr) → ((h2.sI 2861 A (nI (H - i))).sEI 1168 (tx 5) fr (nI (H - i))).EI g a p = h2.EI g a p := fun g a p hg => by
        rcases hg with hg | hg
        · simp [n_sI, z_sI, tag_sI, I_sI, J_sI, R_sI, EI_sI, EJ_sI, ER_sI, n_sJ, z_sJ, tag_sJ, I_sJ, J_sJ, R_sJ, EI_sJ, EJ_sJ, ER_sJ, n_sR, z_sR, tag_sR, I_sR, J_sR, R_sR, EI_sR, EJ_sR, ER_sR, n_sEI, z_sEI, tag_sEI, I_sEI, J_sEI, R_sEI, EI_sEI, EJ_sEI, ER_sEI, n_sEJ, z_sEJ, tag_sEJ, I_sEJ, J_sEJ, R_sEJ, EI_sEJ, EJ_sEJ, ER_sEJ, n_sER, z_sER, tag_sER, I_sER, J_sER, R_sER, EI_sER, EJ_sER, ER_sER, n_nw, z_nw, tag_nw, I_nw, J_nw, R_nw, EI_nw, EJ_nw, ER_nw, hg]
        · simp [n_sI, z_sI, tag_sI, I_sI, J_sI, R_sI, EI_sI, EJ_sI, ER_sI, n_sJ, z_sJ, tag_sJ, I_sJ, J_sJ, R_sJ, EI_sJ, EJ_sJ, ER_sJ, n_sR, z_sR, tag_sR, I_sR, J_sR, R_sR, EI_sR, EJ_sR, ER_sR, n_sEI, z_sEI, tag_sEI, I_sEI, J_sEI, R_sEI, EI_sEI, EJ_sEI, ER_sEI, n_sEJ, z_sEJ, tag_sEJ, I_sEJ, J_sEJ, R_sEJ, EI_sEJ, EJ_sEJ, ER_sEJ, n_sER, z_sER, tag_sER, I_sER, J_sER, R_sER, EI_sER, EJ_sER, ER_sER, n_nw, z_nw, tag_nw, I_nw, J_nw, R_nw, EI_nw, EJ_nw, ER_nw, hg]
      refine kk _ (q1.trans (q12.trans q3)) ⟨⟨g1, by simp [n_sI, z_sI, tag_sI, I_sI, J_sI, R_sI, EI_sI, EJ_sI, ER_sI, n_sJ, z_sJ, tag_sJ, I_sJ, J_sJ, R_sJ, EI_sJ, EJ_sJ, ER_sJ, n_sR, z_sR, tag_sR, I_sR, J_sR, R_sR, EI_sR, EJ_sR, ER_sR, n_sEI, z_sEI, tag_sEI, I_sEI, J_sEI, R_sEI, EI_sEI, EJ_sEI, ER_sEI, n_sEJ, z_sEJ, tag_sEJ, I_sEJ, J_sEJ, R_sEJ, EI_sEJ, EJ_sEJ, ER_sEJ, n_sER, z_sER, tag_sER, I_sER, J_sER, R_sER, EI_sER, EJ_sER, ER_sER, n_nw, z_nw, tag_nw, I_nw, J_nw, R_nw, EI_nw, EJ_nw, ER_nw]⟩, ⟨?_, ?_, ?_, by simp [n_sI, z_sI, tag_sI, I_sI, J_sI, R_sI, EI_sI, EJ_sI, ER_sI, n_sJ, z_sJ, tag_sJ, I_sJ, J_sJ, R_sJ, EI_sJ, EJ_sJ, ER_sJ, n_sR, z_sR, tag_sR, I_sR, J_sR, R_sR, EI_sR, EJ_sR, ER_sR, n_sEI, z_sEI, tag_sEI, I_sEI, J_sEI, R_sEI, EI_sEI, EJ_sEI, ER_sEI, n_sEJ, z_sEJ, tag_sEJ, I_sEJ, J_sEJ, R_sEJ, EI_sEJ, EJ_sEJ, ER_sEJ, n_sER, z_sER, tag_sER, I_sER, J_sER, R_sER, EI_sER, EJ_sER, ER_sER, n_nw, z_nw, tag_nw, I_nw, J_nw, R_nw, EI_nw, EJ_nw, ER_nw]⟩, fun g hg a p hp => ?_, fun p hp => ?_, fun k hk => ?_⟩
      · rw [g2 _ _ _ (Or.inl (by decide)), q2.1.1.EI (FS.n (by decide))]; exact e3.1
      · rw [g2 _ _ _ (Or.inl (by decide)), q2.1.1.EI (FS.n (by decide))]; exact e3.2.1
      · rw [g2 _ _ _ (Or.inl (by decide)), q2.1.1.EI (FS.n (by decide))]; exact e3.2.2
      · rw [g2 _ _ _ (Or.inr hp), ← e4 g a p hp]
        exact q2.1.1.EI (FS.n (by
          simp only [List.mem_cons, List.mem_nil_iff, or_false] at hg
          rcases hg with e | e | e | e <;> (rw [e]; decide))) _
      · rw [g2 _ _ _ (Or.inl (by decide)), g2 _ _ _ (Or.inl (by decide)), ← e5 _ (by decide), ← e5 _ (by decide)]
        exact q2.2 p hp
      · rw [g2 _ _ _ (Or.inl (by decide)), g2 _ _ _ (Or.inl (by decide))]
        exact a2 k hk
    | succ c ih =>
      intro i h2 hi q2 a2
      have t02 := q2.1.1.tag t01
      have hf2 : h2.I 2852 A = nI (fr + 1) := by rw [q2.1.1.I (FS.n (by decide))]; exact e1
      have hh2 : h2.I 2861 A = nI H := by rw [q2.1.1.I (FS.n (by decide))]; exact e2
      have m1 : h2.R 2857 A = some (tx 3) := by rw [q2.1.1.R (FS.n (by decide)), q1.1.R (FS.n (by decide))]; exact l1
      have m2 := q2.1.1.tag (q1.1.tag l2)
      have m3 : h2.R 2858 A = some (tx 4) := by rw [q2.1.1.R (FS.n (by decide)), q1.1.R (FS.n (by decide))]; exact l3
      have m5 : h2.R 2859 A = some (tx 1) := by rw [q2.1.1.R (FS.n (by decide)), q1.1.R (FS.n (by decide))]; exact s1
      have m6 := q2.1.1.tag (q1.1.tag s2)
      have ixs : IX (nI H - nI n + nI i) 2200 (H - n + i) := by rw [nI_sub (by omega), nI_add]; exact IX.mk (by omega) (by omega)
      have ixl : IX (nI (40 * (fr + 1 - 1) + i)) 1280 (40 * fr + i) := by rw [show fr + 1 - 1 = fr by omega]; exact IX.mk (by omega) (by omega)
      have vs : h2.EI 1216 (tx 1) (H - n + i) = h.EI 1216 (tx 1) (H - n + i) := by rw [q2.1.1.EI (FS.n (by decide))]; exact e5 _ (by decide) _ _
      refine k_X23_enter_71 oo (fun q => absurd ((nI_leI (by omega) (by omega)).mp q) (by omega)) (fun _ => ?_)
      refine k_X23_enter_77 (r2 := m1) oo ?_
      refine tlocal_ok t02 hf2 (by omega) ?_
      refine k_X23_enter_87 (T12 := 1184) (r2 := m5) (r4 := hh2) (b8 := ixs) (r10 := vs) (r18 := m3) oo ?_
      have q3 := q2.l (k := i) (v := h.EI 1216 (tx 1) (H - n + i)) (by omega)
      have w1 : (h2.sEI 1184 (tx 3) (40 * fr + i) (h.EI 1216 (tx 1) (H - n + i))).EI 1184 (tx 3) (40 * fr + i) = h.EI 1216 (tx 1) (H - n + i) := by simp [n_sI, z_sI, tag_sI, I_sI, J_sI, R_sI, EI_sI, EJ_sI, ER_sI, n_sJ, z_sJ, tag_sJ, I_sJ, J_sJ, R_sJ, EI_sJ, EJ_sJ, ER_sJ, n_sR, z_sR, tag_sR, I_sR, J_sR, R_sR, EI_sR, EJ_sR, ER_sR, n_sEI, z_sEI, tag_sEI, I_sEI, J_sEI, R_sEI, EI_sEI, EJ_sEI, ER_sEI, n_sEJ, z_sEJ, tag_sEJ, I_sEJ, J_sEJ, R_sEJ, EI_sEJ, EJ_sEJ, ER_sEJ, n_sER, z_sER, tag_sER, I_sER, J_sER, R_sER, EI_sER, EJ_sER, ER_sER, n_nw, z_nw, tag_nw, I_nw, J_nw, R_nw, EI_nw, EJ_nw, ER_nw]
      have w2 : ∀ p, p ≠ 40 * fr + i → (h2.sEI 1184 (tx 3) (40 * fr + i) (h.EI 1216 (tx 1) (H - n + i))).EI 1184 (tx 3) p = h2.EI 1184 (tx 3) p := fun p hp => by simp [n_sI, z_sI, tag_sI, I_sI, J_sI, R_sI, EI_sI, EJ_sI, ER_sI, n_sJ, z_sJ, tag_sJ, I_sJ, J_sJ, R_sJ, EI_sJ, EJ_sJ, ER_sJ, n_sR, z_sR, tag_sR, I_sR, J_sR, R_sR, EI_sR, EJ_sR, ER_sR, n_sEI, z_sEI, tag_sEI, I_sEI, J_sEI, R_sEI, EI_sEI, EJ_sEI, ER_sEI, n_sEJ, z_sEJ, tag_sEJ, I_sEJ, J_sEJ, R_sEJ, EI_sEJ, EJ_sEJ, ER_sEJ, n_sER, z_sER, tag_sER, I_sER, J_sER, R_sER, EI_sER, EJ_sER, ER_sER, n_nw, z_nw, tag_nw, I_nw, J_nw, R_nw, EI_nw, EJ_nw, ER_nw, hp]
      have w3 : ∀ p, (h2.sEI 1184 (tx 3) (40 * fr + i) (h.EI 1216 (tx 1) (H - n + i))).EI 1202 (tx 4) p = h2.EI 1202 (tx 4) p := fun p => by simp [n_sI, z_sI, tag_sI, I_sI, J_sI, R_sI, EI_sI, EJ_sI, ER_sI, n_sJ, z_sJ, tag_sJ, I_sJ, J_sJ, R_sJ, EI_sJ, EJ_sJ, ER_sJ, n_sR, z_sR, tag_sR, I_sR, J_sR, R_sR, EI_sR, EJ_sR, ER_sR, n_sEI, z_sEI, tag_sEI, I_sEI, J_sEI, R_sEI, EI_sEI, EJ_sEI, ER_sEI, n_sEJ, z_sEJ, tag_sEJ, I_sEJ, J_sEJ, R_sEJ, EI_sEJ, EJ_sEJ, ER_sEJ, n_sER, z_sER, tag_sER, I_sER, J_sER, R_sER, EI_sER, EJ_sER, ER_sER, n_nw, z_nw, tag_nw, I_nw, J_nw, R_nw, EI_nw, EJ_nw, ER_nw]
      generalize h2.sEI 1184 (tx 3) (40 * fr + i) (h.EI 1216 (tx 1) (H - n + i)) = h3 at q3 w1 w2 w3
      have t03 := q3.1.1.tag t01
      have hf3 : h3.I 2852 A = nI (fr + 1) := by rw [q3.1.1.I (FS.n (by decide))]; exact e1
      refine tlocal_ok t03 hf3 (by omega) ?_
      have hh3 : h3.I 2861 A = nI H := by rw [q3.1.1.I (FS.n (by decide))]; exact e2
      have m4 := q3.1.1.tag (q1.1.tag l4)
      have m7 : h3.R 2860 A = some (tx 2) := by rw [q3.1.1.R (FS.n (by decide)), q1.1.R (FS.n (by decide))]; exact s3
      have m8 := q3.1.1.tag (q1.1.tag s4)
      have vr : h3.EI 1234 (tx 2) (H - n + i) = h.EI 1234 (tx 2) (H - n + i) := by rw [q3.1.1.EI (FS.n (by decide))]; exact e5 _ (by decide) _ _
      have hb' := hb i (by omega)
      refine k_X23_enter_112 (T12 := 1202) (r2 := m7) (r4 := hh3) (b8 := ixs) (r10 := vr) oo ?_
      rw [nI_add]
      have q4 := q3.r (k := i) (v := h.EI 1234 (tx 2) (H - n + i)) (by omega)
      refine ih (i + 1) _ (by omega) q4 (fun k hk => ?_)
      by_cases e : k = i
      · subst e
        exact ⟨by rw [← w1]; simp [n_sI, z_sI, tag_sI, I_sI, J_sI, R_sI, EI_sI, EJ_sI, ER_sI, n_sJ, z_sJ, tag_sJ, I_sJ, J_sJ, R_sJ, EI_sJ, EJ_sJ, ER_sJ, n_sR, z_sR, tag_sR, I_sR, J_sR, R_sR, EI_sR, EJ_sR, ER_sR, n_sEI, z_sEI, tag_sEI, I_sEI, J_sEI, R_sEI, EI_sEI, EJ_sEI, ER_sEI, n_sEJ, z_sEJ, tag_sEJ, I_sEJ, J_sEJ, R_sEJ, EI_sEJ, EJ_sEJ, ER_sEJ, n_sER, z_sER, tag_sER, I_sER, J_sER, R_sER, EI_sER, EJ_sER, ER_sER, n_nw, z_nw, tag_nw, I_nw, J_nw, R_nw, EI_nw, EJ_nw, ER_nw], by simp [n_sI, z_sI, tag_sI, I_sI, J_sI, R_sI, EI_sI, EJ_sI, ER_sI, n_sJ, z_sJ, tag_sJ, I_sJ, J_sJ, R_sJ, EI_sJ, EJ_sJ, ER_sJ, n_sR, z_sR, tag_sR, I_sR, J_sR, R_sR, EI_sR, EJ_sR, ER_sR, n_sEI, z_sEI, tag_sEI, I_sEI, J_sEI, R_sEI, EI_sEI, EJ_sEI, ER_sEI, n_sEJ, z_sEJ, tag_sEJ, I_sEJ, J_sEJ, R_sEJ, EI_sEJ, EJ_sEJ, ER_sEJ, n_sER, z_sER, tag_sER, I_sER, J_sER, R_sER, EI_sER, EJ_sER, ER_sER, n_nw, z_nw, tag_nw, I_nw, J_nw, R_nw, EI_nw, EJ_nw, ER_nw]⟩
      · obtain ⟨y1, y2⟩ := a2 k (by omega)
        exact ⟨by rw [← y1, ← w2 _ (by omega)]; simp [n_sI, z_sI, tag_sI, I_sI, J_sI, R_sI, EI_sI, EJ_sI, ER_sI, n_sJ, z_sJ, tag_sJ, I_sJ, J_sJ, R_sJ, EI_sJ, EJ_sJ, ER_sJ, n_sR, z_sR, tag_sR, I_sR, J_sR, R_sR, EI_sR, EJ_sR, ER_sR, n_sEI, z_sEI, tag_sEI, I_sEI, J_sEI, R_sEI, EI_sEI, EJ_sEI, ER_sEI, n_sEJ, z_sEJ, tag_sEJ, I_sEJ, J_sEJ, R_sEJ, EI_sEJ, EJ_sEJ, ER_sEJ, n_sER, z_sER, tag_sER, I_sER, J_sER, R_sER, EI_sER, EJ_sER, ER_sER, n_nw, z_nw, tag_nw, I_nw, J_nw, R_nw, EI_nw, EJ_nw, ER_nw], by rw [← y2, ← w3]; simp [n_sI, z_sI, tag_sI, I_sI, J_sI, R_sI, EI_sI, EJ_sI, ER_sI, n_sJ, z_sJ, tag_sJ, I_sJ, J_sJ, R_sJ, EI_sJ, EJ_sJ, ER_sJ, n_sR, z_sR, tag_sR, I_sR, J_sR, R_sR, EI_sR, EJ_sR, ER_sR, n_sEI, z_sEI, tag_sEI, I_sEI, J_sEI, R_sEI, EI_sEI, EJ_sEI, ER_sEI, n_sEJ, z_sEJ, tag_sEJ, I_sEJ, J_sEJ, R_sEJ, EI_sEJ, EJ_sEJ, ER_sEJ, n_sER, z_sER, tag_sER, I_sER, J_sER, R_sER, EI_sER, EJ_sER, ER_sER, n_nw, z_nw, tag_nw, I_nw, J_nw, R_nw, EI_nw, EJ_nw, ER_nw, e]⟩
  -- cleared
  have loop1 : ∀ c i h2, i + c = 40 → LcQ tx fr h1 h2 → V X K 43 [.ref A, .int (nI u), .int (nI f), .int (nI n), .int (nI fr), .int (nI i)] [] h2 := by
    intro c
    induction c with
    | zero =>
      intro i h2 hi q2
      refine k_X23_enter_43 oo (fun _ => ?_) (fun q => absurd ((nI_leI (by omega) (by omega)).mpr (by omega)) q)
      refine k_X23_enter_68 oo ?_
      exact loop2 n 0 h2 (by omega) q2 (fun k hk => absurd hk (by omega))
    | succ c ih =>
      intro i h2 hi q2
      have t02 := q2.1.1.tag t01
      have hf2 : h2.I 2852 A = nI (fr + 1) := by rw [q2.1.1.I (FS.n (by decide))]; exact e1
      have m1 : h2.R 2857 A = some (tx 3) := by rw [q2.1.1.R (FS.n (by decide)), q1.1.R (FS.n (by decide))]; exact l1
      have m2 := q2.1.1.tag (q1.1.tag l2)
      have ixl : IX (nI (40 * (fr + 1 - 1) + i)) 1280 (40 * fr + i) := by rw [show fr + 1 - 1 = fr by omega]; exact IX.mk (by omega) (by omega)
      refine k_X23_enter_43 oo (fun q => absurd ((nI_leI (by omega) (by omega)).mp q) (by omega)) (fun _ => ?_)
      refine k_X23_enter_50 (r2 := m1) oo ?_
      refine tlocal_ok t02 hf2 (by omega) ?_
      refine k_X23_enter_60 (T1 := 1184) oo ?_
      rw [nI_add]
      exact ih (i + 1) _ (by omega) (q2.l (by omega))
  exact loop1 40 0 h1 rfl LcQ.refl
end
