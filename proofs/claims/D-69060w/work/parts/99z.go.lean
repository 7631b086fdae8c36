/-! one step of a worker: which -/
/-- what is owed where a run stops -/
def THR (K : Outcome → AH → Prop) (G : Gt) (d A SP : Nat) (h : AH) : Prop := h.tag SP = some (31, 0) ∧ h.tag A = some (0, 0) ∧ (h.I 24 A = nI 9 → ∀ K1 : Outcome → AH → Prop, (∀ h', K (.returned none) h' → K1 (.returned none) h') → MW G d e_X1_hold [.ref A, .int ((h.J 25 A).toInt32)] h K1) ∧ (¬ h.I 24 A = nI 9 → ∀ K1 : Outcome → AH → Prop, (∀ h', K (.returned none) h' → K1 (.returned none) h') → MW G d e_X1_finish [.ref A, .int (h.I 24 A), .long (h.J 25 A)] h K1)
section
variable {G : Gt} {d : Nat} {h : AH} {A W SP : Nat} {K : Outcome → AH → Prop}
theorem go_32 {XX : Xt} (oo : OK e_X1_go XX) {l1 : Value} (t : THR K XX.G (XX.d - 1) A SP h) (hd1 : 1 ≤ XX.d) : V XX K 32 [.ref A, l1] [.ref SP] h := by
  obtain ⟨t1, t2, t3, t4⟩ := t
  refine k_X1_go_32 oo (fun c => ?_) (fun c => ?_)
  · refine k_X1_go_54 oo ?_
    refine t4 c _ fun h' hk => ?_
    exact k_X1_go_66 oo hk
  · refine k_X1_go_42 oo ?_
    refine t3 c _ fun h' hk => ?_
    refine k_X1_go_51 oo ?_
    exact k_X1_go_66 oo hk
theorem go_ok {bg : Bool} (t0 : h.tag A = some (0, 0)) (rW : h.R 26 A = some W) (tW : h.tag W = some (19, 0)) (hbg : h.I 2436 W = bI bg) (hd1 : 1 ≤ d) (H1 : bg = true → ∀ K1 : Outcome → AH → Prop, (∀ h', K (.returned none) h' → K1 (.returned none) h') → (∀ h', THR K G (d - 1) A SP h' → K1 (.threw SP) h') → MW G (d - 1) e_X1_instruction [.ref A] h K1) (H2 : bg = false → ∀ K1 : Outcome → AH → Prop, (∀ h', K (.returned none) h' → K1 (.returned none) h') → (∀ h', THR K G (d - 1) A SP h' → K1 (.threw SP) h') → MW G (d - 1) e_X1_beginTransaction [.ref A] (h.sI 2436 W (nI 1)) K1) : MW G d e_X1_go [.ref A] h K := by
  refine st_X1_go fun XX oo hG hD _ => ?_
  subst hG; subst hD
  cases bg with
  | true =>
    refine k_X1_go_0 (r5 := hbg) oo (fun c => absurd (show bI true = 0 from c) (by decide)) (fun _ => ?_)
    refine k_X1_go_10 oo ?_
    refine H1 rfl _ (fun h' hk => ?_) (fun h' hk => ⟨hk.1, go_32 oo hk hd1⟩)
    refine k_X1_go_14 oo ?_
    refine k_X1_go_29 oo ?_
    exact k_X1_go_66 oo hk
  | false =>
    refine k_X1_go_0 (r5 := hbg) oo (fun _ => ?_) (fun c => absurd rfl c)
    refine k_X1_go_17 oo ?_
    refine H2 rfl _ (fun h' hk => ?_) (fun h' hk => ⟨hk.1, go_32 oo hk hd1⟩)
    refine k_X1_go_29 oo ?_
    exact k_X1_go_66 oo hk
theorem step_ok {tk : Nat} (t0 : h.tag A = some (0, 0)) (tW : h.tag W = some (19, 0)) (htk : h.I 2432 W = nI tk) (htk2 : tk < 3) (hd1 : 1 ≤ d) (H0 : tk = 0 → ∀ K1 : Outcome → AH → Prop, (∀ h', K (.returned none) h' → K1 (.returned none) h') → MW G (d - 1) e_X1_take [.ref A] (h.sR 26 A (some W)) K1) (H1 : tk = 1 → ∀ K1 : Outcome → AH → Prop, (∀ h', K (.returned none) h' → K1 (.returned none) h') → MW G (d - 1) e_X1_go [.ref A] (h.sR 26 A (some W)) K1) (H2 : tk = 2 → ∀ K1 : Outcome → AH → Prop, (∀ h', K (.returned none) h' → K1 (.returned none) h') → MW G (d - 1) e_X1_lookOn [.ref A] (h.sR 26 A (some W)) K1) : MW G d e_X1_step [.ref A, .ref W] h K := by
  refine st_X1_step fun XX oo hG hD _ => ?_
  subst hG; subst hD
  have q1 : Fq (P1 26 A) h (h.sR 26 A (some W)) := (Fq.refl h).sR P1.i
  have r1 : (h.sR 26 A (some W)).R 26 A = some W := by simp [n_sI, z_sI, tag_sI, I_sI, J_sI, R_sI, EI_sI, EJ_sI, ER_sI, n_sJ, z_sJ, tag_sJ, I_sJ, J_sJ, R_sJ, EI_sJ, EJ_sJ, ER_sJ, n_sR, z_sR, tag_sR, I_sR, J_sR, R_sR, EI_sR, EJ_sR, ER_sR, n_sEI, z_sEI, tag_sEI, I_sEI, J_sEI, R_sEI, EI_sEI, EJ_sEI, ER_sEI, n_sEJ, z_sEJ, tag_sEJ, I_sEJ, J_sEJ, R_sEJ, EI_sEJ, EJ_sEJ, ER_sEJ, n_sER, z_sER, tag_sER, I_sER, J_sER, R_sER, EI_sER, EJ_sER, ER_sER, n_nw, z_nw, tag_nw, I_nw, J_nw, R_nw, EI_nw, EJ_nw, ER_nw]
  have k1 : (h.sR 26 A (some W)).I 2432 W = nI tk := by simp [n_sI, z_sI, tag_sI, I_sI, J_sI, R_sI, EI_sI, EJ_sI, ER_sI, n_sJ, z_sJ, tag_sJ, I_sJ, J_sJ, R_sJ, EI_sJ, EJ_sJ, ER_sJ, n_sR, z_sR, tag_sR, I_sR, J_sR, R_sR, EI_sR, EJ_sR, ER_sR, n_sEI, z_sEI, tag_sEI, I_sEI, J_sEI, R_sEI, EI_sEI, EJ_sEI, ER_sEI, n_sEJ, z_sEJ, tag_sEJ, I_sEJ, J_sEJ, R_sEJ, EI_sEJ, EJ_sEJ, ER_sEJ, n_sER, z_sER, tag_sER, I_sER, J_sER, R_sER, EI_sER, EJ_sER, ER_sER, n_nw, z_nw, tag_nw, I_nw, J_nw, R_nw, EI_nw, EJ_nw, ER_nw]; exact htk
  refine k_X1_step_0 (r3 := htk) oo (fun c => ?_) (fun c => ?_)
  · generalize h.sR 26 A (some W) = h1 at *
    have t1 := q1.1.tag t0
    have tW1 := q1.1.tag tW
    have n0 : tk ≠ 0 := fun z => c (by rw [z]; rfl)
    refine k_X1_step_22 (r5 := k1) oo (fun c' => ?_) (fun c' => ?_)
    · have n1 : tk ≠ 1 := fun z => c' (by rw [z])
      refine k_X1_step_40 oo ?_
      refine H2 (by omega) _ fun h' hk => ?_
      exact k_X1_step_44 oo hk
    · refine k_X1_step_33 oo ?_
      refine H1 ((nI_eq (by omega) (by omega)).mp c') _ fun h' hk => ?_
      refine k_X1_step_37 oo ?_
      exact k_X1_step_44 oo hk
  · generalize h.sR 26 A (some W) = h1 at *
    have t1 := q1.1.tag t0
    refine k_X1_step_15 oo ?_
    refine H0 ((nI_eq (b := 0) (by omega) (by omega)).mp c) _ fun h' hk => ?_
    refine k_X1_step_19 oo ?_
    exact k_X1_step_44 oo hk
end
