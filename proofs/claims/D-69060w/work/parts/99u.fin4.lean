/-! the end of a run, from its first step -/
def txF : List Nat := [2707, 2708, 2710, 2714, 2709]
def PXR (X R g a : Nat) : Prop := (txF.contains g = true ∧ a = X) ∨ PRd R g a
def PFn (A W X LA RA g a : Nat) : Prop := PF2 A W LA g a ∨ PXR X RA g a
theorem PXR.no {X R : Nat} {l : List Nat} (h : l.all (fun f => !((txF ++ rdF).contains f)) = true) : ∀ f a, l.contains f = true → ¬ PXR X R f a := fun f a hf z => by
  rw [List.all_eq_true] at h
  have := h f (List.contains_iff_mem.mp hf)
  rw [Bool.not_eq_true'] at this
  have k : f ∈ txF ++ rdF := by
    rcases z with ⟨z, -⟩ | ⟨z, -⟩
    · exact List.mem_append_left _ (List.contains_iff_mem.mp z)
    · exact List.mem_append_right _ (List.contains_iff_mem.mp z)
  rw [← List.contains_iff_mem] at k
  rw [k] at this; cases this
def cdE (oc : Nat) (code : Int64) : Int64 := if code < 0 ∧ oc = 0 then 0 else code
/-- what a transaction tells when its run has ended -/
def TLD (h h' : AH) (X oc g : Nat) (code : Int64) (pub : Bool) : Prop := (h'.I 2707 X = nI oc ∧ h'.J 2708 X = cdE oc code ∧ h'.I 2710 X = nI (if oc = 3 then 0 else g)) ∧ h'.I 2714 X = (if oc = 0 ∧ pub = false then h.I 2714 X else nI 0) ∧ h'.I 2709 X = (if oc = 4 then h.I 2709 X else nI 0)
theorem TLD.fr {P : Nat → Nat → Prop} {h h1 h2 : AH} {X oc g : Nat} {code : Int64} {pub : Bool} (q : Fr P h1 h2) (np : ∀ f a, txF.contains f = true → ¬ P f a) (s : TLD h h1 X oc g code pub) : TLD h h2 X oc g code pub := by
  obtain ⟨⟨a, b, c⟩, d, e⟩ := s
  exact ⟨⟨by rw [q.I (np _ _ rfl)]; exact a, by rw [q.J (np _ _ rfl)]; exact b, by rw [q.I (np _ _ rfl)]; exact c⟩, by rw [q.I (np _ _ rfl)]; exact d, by rw [q.I (np _ _ rfl)]; exact e⟩
section
variable {G : Gt} {B d : Nat} {h : AH} {l : List Nat} {o : Lc} {wi W A q BA tt lim SP : Nat} {snd : Int64} {MA : Ma} {K : Outcome → AH → Prop} {XA LA RA : Nat → Nat}
theorem finish_0 {XX : Xt} (oo : OK e_X1_finish XX) {X oc g : Nat} {pub : Bool} {code : Int64} {l3 l4 l5 l6 l7 : Value} (c0 : CTX h A W q BA X tt snd lim SP) (tW : h.tag W = some (19, 0)) (hoc : oc < 16) (hg : h.I 2439 W = nI g) (hpb : h.I 2688 X = bI pub) (kk : ∀ h' l3 l5 l6 l7, Fq (fun g a => txF.contains g = true ∧ a = X) h h' → TLD h h' X oc g code pub → V XX K 90 [.ref A, .int (nI oc), .long code, l3, .ref X, l5, l6, l7] [] h') : V XX K 0 [.ref A, .int (nI oc), .long code, l3, l4, l5, l6, l7] [] h := by
  obtain ⟨⟨t0, rq, rW, rB, rS⟩, ⟨tB, wt, ht32, eX⟩, tX, -⟩ := id c0
  have ix : IX (nI tt) 32 tt := IX.mk (by omega) (by omega)
  have e3 : nI oc = nI 3 ↔ oc = 3 := nI_eq (by omega) (by omega)
  have e4 : nI oc = nI 4 ↔ oc = 4 := nI_eq (by omega) (by omega)
  have e0 : nI oc = 0 ↔ oc = 0 := nI_eq (b := 0) (by omega) (by omega)
  have p79 : ∀ (rs : Int32) h1, h1 = (((h.sI 2707 X (nI oc)).sJ 2708 X (cdE oc code)).sI 2710 X (nI (if oc = 3 then 0 else g))) → ∀ h2, (h2 = h1 ∧ oc = 0 ∧ pub = false) ∨ (h2 = h1.sI 2714 X (nI 0) ∧ ¬ (oc = 0 ∧ pub = false)) → V XX K 79 [.ref A, .int (nI oc), .long code, l3, .ref X, l5, l6, l7] [] h2 := fun rs h1 e1 h2 e2 => by
    have q1 : Fq (fun g a => txF.contains g = true ∧ a = X) h h1 := by
      rw [e1]
      refine Fq.sI (Fq.sJ (Fq.sI (Fq.refl h) ?_) ?_) ?_ <;> exact ⟨by decide, rfl⟩
    have q2 : Fq (fun g a => txF.contains g = true ∧ a = X) h1 h2 := by
      rcases e2 with ⟨z, -⟩ | ⟨z, -⟩
      · rw [z]; exact Fq.refl h1
      · rw [z]; exact Fq.sI (Fq.refl h1) ⟨by decide, rfl⟩
    have tX2 := q2.1.tag (q1.1.tag tX)
    have base : h2.I 2707 X = nI oc ∧ h2.J 2708 X = cdE oc code ∧ h2.I 2710 X = nI (if oc = 3 then 0 else g) := by
      rcases e2 with ⟨z, -⟩ | ⟨z, -⟩
      · rw [z, e1]; refine ⟨?_, ?_, ?_⟩ <;> simp [n_sI, z_sI, tag_sI, I_sI, J_sI, R_sI, EI_sI, EJ_sI, ER_sI, n_sJ, z_sJ, tag_sJ, I_sJ, J_sJ, R_sJ, EI_sJ, EJ_sJ, ER_sJ, n_sR, z_sR, tag_sR, I_sR, J_sR, R_sR, EI_sR, EJ_sR, ER_sR, n_sEI, z_sEI, tag_sEI, I_sEI, J_sEI, R_sEI, EI_sEI, EJ_sEI, ER_sEI, n_sEJ, z_sEJ, tag_sEJ, I_sEJ, J_sEJ, R_sEJ, EI_sEJ, EJ_sEJ, ER_sEJ, n_sER, z_sER, tag_sER, I_sER, J_sER, R_sER, EI_sER, EJ_sER, ER_sER, n_nw, z_nw, tag_nw, I_nw, J_nw, R_nw, EI_nw, EJ_nw, ER_nw]
      · rw [z, e1]; refine ⟨?_, ?_, ?_⟩ <;> simp [n_sI, z_sI, tag_sI, I_sI, J_sI, R_sI, EI_sI, EJ_sI, ER_sI, n_sJ, z_sJ, tag_sJ, I_sJ, J_sJ, R_sJ, EI_sJ, EJ_sJ, ER_sJ, n_sR, z_sR, tag_sR, I_sR, J_sR, R_sR, EI_sR, EJ_sR, ER_sR, n_sEI, z_sEI, tag_sEI, I_sEI, J_sEI, R_sEI, EI_sEI, EJ_sEI, ER_sEI, n_sEJ, z_sEJ, tag_sEJ, I_sEJ, J_sEJ, R_sEJ, EI_sEJ, EJ_sEJ, ER_sEJ, n_sER, z_sER, tag_sER, I_sER, J_sER, R_sER, EI_sER, EJ_sER, ER_sER, n_nw, z_nw, tag_nw, I_nw, J_nw, R_nw, EI_nw, EJ_nw, ER_nw]
    have res : h2.I 2714 X = (if oc = 0 ∧ pub = false then h.I 2714 X else nI 0) := by
      rcases e2 with ⟨z, z2⟩ | ⟨z, z2⟩
      · rw [if_pos z2, z, e1]; simp [n_sI, z_sI, tag_sI, I_sI, J_sI, R_sI, EI_sI, EJ_sI, ER_sI, n_sJ, z_sJ, tag_sJ, I_sJ, J_sJ, R_sJ, EI_sJ, EJ_sJ, ER_sJ, n_sR, z_sR, tag_sR, I_sR, J_sR, R_sR, EI_sR, EJ_sR, ER_sR, n_sEI, z_sEI, tag_sEI, I_sEI, J_sEI, R_sEI, EI_sEI, EJ_sEI, ER_sEI, n_sEJ, z_sEJ, tag_sEJ, I_sEJ, J_sEJ, R_sEJ, EI_sEJ, EJ_sEJ, ER_sEJ, n_sER, z_sER, tag_sER, I_sER, J_sER, R_sER, EI_sER, EJ_sER, ER_sER, n_nw, z_nw, tag_nw, I_nw, J_nw, R_nw, EI_nw, EJ_nw, ER_nw]
      · rw [if_neg z2, z]; simp [n_sI, z_sI, tag_sI, I_sI, J_sI, R_sI, EI_sI, EJ_sI, ER_sI, n_sJ, z_sJ, tag_sJ, I_sJ, J_sJ, R_sJ, EI_sJ, EJ_sJ, ER_sJ, n_sR, z_sR, tag_sR, I_sR, J_sR, R_sR, EI_sR, EJ_sR, ER_sR, n_sEI, z_sEI, tag_sEI, I_sEI, J_sEI, R_sEI, EI_sEI, EJ_sEI, ER_sEI, n_sEJ, z_sEJ, tag_sEJ, I_sEJ, J_sEJ, R_sEJ, EI_sEJ, EJ_sEJ, ER_sEJ, n_sER, z_sER, tag_sER, I_sER, J_sER, R_sER, EI_sER, EJ_sER, ER_sER, n_nw, z_nw, tag_nw, I_nw, J_nw, R_nw, EI_nw, EJ_nw, ER_nw]
    have pl : h2.I 2709 X = h.I 2709 X := by
      rcases e2 with ⟨z, -⟩ | ⟨z, -⟩
      · rw [z, e1]; simp [n_sI, z_sI, tag_sI, I_sI, J_sI, R_sI, EI_sI, EJ_sI, ER_sI, n_sJ, z_sJ, tag_sJ, I_sJ, J_sJ, R_sJ, EI_sJ, EJ_sJ, ER_sJ, n_sR, z_sR, tag_sR, I_sR, J_sR, R_sR, EI_sR, EJ_sR, ER_sR, n_sEI, z_sEI, tag_sEI, I_sEI, J_sEI, R_sEI, EI_sEI, EJ_sEI, ER_sEI, n_sEJ, z_sEJ, tag_sEJ, I_sEJ, J_sEJ, R_sEJ, EI_sEJ, EJ_sEJ, ER_sEJ, n_sER, z_sER, tag_sER, I_sER, J_sER, R_sER, EI_sER, EJ_sER, ER_sER, n_nw, z_nw, tag_nw, I_nw, J_nw, R_nw, EI_nw, EJ_nw, ER_nw]
      · rw [z, e1]; simp [n_sI, z_sI, tag_sI, I_sI, J_sI, R_sI, EI_sI, EJ_sI, ER_sI, n_sJ, z_sJ, tag_sJ, I_sJ, J_sJ, R_sJ, EI_sJ, EJ_sJ, ER_sJ, n_sR, z_sR, tag_sR, I_sR, J_sR, R_sR, EI_sR, EJ_sR, ER_sR, n_sEI, z_sEI, tag_sEI, I_sEI, J_sEI, R_sEI, EI_sEI, EJ_sEI, ER_sEI, n_sEJ, z_sEJ, tag_sEJ, I_sEJ, J_sEJ, R_sEJ, EI_sEJ, EJ_sEJ, ER_sEJ, n_sER, z_sER, tag_sER, I_sER, J_sER, R_sER, EI_sER, EJ_sER, ER_sER, n_nw, z_nw, tag_nw, I_nw, J_nw, R_nw, EI_nw, EJ_nw, ER_nw]
    refine k_X1_finish_79 oo (fun c => ?_) (fun c => ?_)
    · exact kk h2 _ _ _ _ (q1.trans q2) ⟨base, res, by rw [if_pos (e4.mp c)]; exact pl⟩
    · refine k_X1_finish_84 oo ?_
      refine kk _ _ _ _ _ (q1.trans (q2.trans (Fq.sI (Fq.refl h2) ⟨by decide, rfl⟩))) ⟨⟨?_, ?_, ?_⟩, ?_, ?_⟩
      · simp [n_sI, z_sI, tag_sI, I_sI, J_sI, R_sI, EI_sI, EJ_sI, ER_sI, n_sJ, z_sJ, tag_sJ, I_sJ, J_sJ, R_sJ, EI_sJ, EJ_sJ, ER_sJ, n_sR, z_sR, tag_sR, I_sR, J_sR, R_sR, EI_sR, EJ_sR, ER_sR, n_sEI, z_sEI, tag_sEI, I_sEI, J_sEI, R_sEI, EI_sEI, EJ_sEI, ER_sEI, n_sEJ, z_sEJ, tag_sEJ, I_sEJ, J_sEJ, R_sEJ, EI_sEJ, EJ_sEJ, ER_sEJ, n_sER, z_sER, tag_sER, I_sER, J_sER, R_sER, EI_sER, EJ_sER, ER_sER, n_nw, z_nw, tag_nw, I_nw, J_nw, R_nw, EI_nw, EJ_nw, ER_nw]; exact base.1
      · simp [n_sI, z_sI, tag_sI, I_sI, J_sI, R_sI, EI_sI, EJ_sI, ER_sI, n_sJ, z_sJ, tag_sJ, I_sJ, J_sJ, R_sJ, EI_sJ, EJ_sJ, ER_sJ, n_sR, z_sR, tag_sR, I_sR, J_sR, R_sR, EI_sR, EJ_sR, ER_sR, n_sEI, z_sEI, tag_sEI, I_sEI, J_sEI, R_sEI, EI_sEI, EJ_sEI, ER_sEI, n_sEJ, z_sEJ, tag_sEJ, I_sEJ, J_sEJ, R_sEJ, EI_sEJ, EJ_sEJ, ER_sEJ, n_sER, z_sER, tag_sER, I_sER, J_sER, R_sER, EI_sER, EJ_sER, ER_sER, n_nw, z_nw, tag_nw, I_nw, J_nw, R_nw, EI_nw, EJ_nw, ER_nw]; exact base.2.1
      · simp [n_sI, z_sI, tag_sI, I_sI, J_sI, R_sI, EI_sI, EJ_sI, ER_sI, n_sJ, z_sJ, tag_sJ, I_sJ, J_sJ, R_sJ, EI_sJ, EJ_sJ, ER_sJ, n_sR, z_sR, tag_sR, I_sR, J_sR, R_sR, EI_sR, EJ_sR, ER_sR, n_sEI, z_sEI, tag_sEI, I_sEI, J_sEI, R_sEI, EI_sEI, EJ_sEI, ER_sEI, n_sEJ, z_sEJ, tag_sEJ, I_sEJ, J_sEJ, R_sEJ, EI_sEJ, EJ_sEJ, ER_sEJ, n_sER, z_sER, tag_sER, I_sER, J_sER, R_sER, EI_sER, EJ_sER, ER_sER, n_nw, z_nw, tag_nw, I_nw, J_nw, R_nw, EI_nw, EJ_nw, ER_nw]; exact base.2.2
      · simp [n_sI, z_sI, tag_sI, I_sI, J_sI, R_sI, EI_sI, EJ_sI, ER_sI, n_sJ, z_sJ, tag_sJ, I_sJ, J_sJ, R_sJ, EI_sJ, EJ_sJ, ER_sJ, n_sR, z_sR, tag_sR, I_sR, J_sR, R_sR, EI_sR, EJ_sR, ER_sR, n_sEI, z_sEI, tag_sEI, I_sEI, J_sEI, R_sEI, EI_sEI, EJ_sEI, ER_sEI, n_sEJ, z_sEJ, tag_sEJ, I_sEJ, J_sEJ, R_sEJ, EI_sEJ, EJ_sEJ, ER_sEJ, n_sER, z_sER, tag_sER, I_sER, J_sER, R_sER, EI_sER, EJ_sER, ER_sER, n_nw, z_nw, tag_nw, I_nw, J_nw, R_nw, EI_nw, EJ_nw, ER_nw]; exact res
      · rw [if_neg (fun z => c (e4.mpr z))]; simp [n_sI, z_sI, tag_sI, I_sI, J_sI, R_sI, EI_sI, EJ_sI, ER_sI, n_sJ, z_sJ, tag_sJ, I_sJ, J_sJ, R_sJ, EI_sJ, EJ_sJ, ER_sJ, n_sR, z_sR, tag_sR, I_sR, J_sR, R_sR, EI_sR, EJ_sR, ER_sR, n_sEI, z_sEI, tag_sEI, I_sEI, J_sEI, R_sEI, EI_sEI, EJ_sEI, ER_sEI, n_sEJ, z_sEJ, tag_sEJ, I_sEJ, J_sEJ, R_sEJ, EI_sEJ, EJ_sEJ, ER_sEJ, n_sER, z_sER, tag_sER, I_sER, J_sER, R_sER, EI_sER, EJ_sER, ER_sER, n_nw, z_nw, tag_nw, I_nw, J_nw, R_nw, EI_nw, EJ_nw, ER_nw]
  have p58 : ∀ h1, h1 = ((h.sI 2707 X (nI oc)).sJ 2708 X (cdE oc code)) → V XX K 58 [.ref A, .int (nI oc), .long code, l3, .ref X, l5, l6, l7] [.int (nI (if oc = 3 then 0 else g)), .ref X] h1 := fun h1 e1 => by
    have tX1 : h1.tag X = some (21, 0) := by rw [e1]; exact tX
    have tX2 : (h1.sI 2710 X (nI (if oc = 3 then 0 else g))).tag X = some (21, 0) := tX1
    have pb2 : (h1.sI 2710 X (nI (if oc = 3 then 0 else g))).I 2688 X = bI pub := by rw [e1]; simp [n_sI, z_sI, tag_sI, I_sI, J_sI, R_sI, EI_sI, EJ_sI, ER_sI, n_sJ, z_sJ, tag_sJ, I_sJ, J_sJ, R_sJ, EI_sJ, EJ_sJ, ER_sJ, n_sR, z_sR, tag_sR, I_sR, J_sR, R_sR, EI_sR, EJ_sR, ER_sR, n_sEI, z_sEI, tag_sEI, I_sEI, J_sEI, R_sEI, EI_sEI, EJ_sEI, ER_sEI, n_sEJ, z_sEJ, tag_sEJ, I_sEJ, J_sEJ, R_sEJ, EI_sEJ, EJ_sEJ, ER_sEJ, n_sER, z_sER, tag_sER, I_sER, J_sER, R_sER, EI_sER, EJ_sER, ER_sER, n_nw, z_nw, tag_nw, I_nw, J_nw, R_nw, EI_nw, EJ_nw, ER_nw]; exact hpb
    refine k_X1_finish_58 oo (fun c => ?_) (fun c => ?_)
    · refine k_X1_finish_73 oo ?_
      exact p79 0 _ (by rw [e1]) _ (Or.inr ⟨rfl, fun z => c (e0.mpr z.1)⟩)
    · cases hp : pub with
      | false =>
        rw [hp] at pb2
        refine k_X1_finish_65 (r2 := pb2) oo (fun _ => ?_) (fun c => absurd rfl c)
        exact p79 0 _ (by rw [e1]) _ (Or.inl ⟨rfl, e0.mp c, hp⟩)
      | true =>
        rw [hp] at pb2
        refine k_X1_finish_65 (r2 := pb2) oo (fun c => absurd (show bI true = 0 from c) (by decide)) (fun _ => ?_)
        refine k_X1_finish_73 oo ?_
        exact p79 0 _ (by rw [e1]) _ (Or.inr ⟨rfl, fun z => by rw [hp] at z; cases z.2⟩)
  have p37 : V XX K 37 [.ref A, .int (nI oc), .long code, l3, .ref X, l5, l6, l7] [.long (cdE oc code), .ref X] (h.sI 2707 X (nI oc)) := by
    have tX1 : (h.sI 2707 X (nI oc)).tag X = some (21, 0) := tX
    refine k_X1_finish_37 oo (fun c => ?_) (fun c => ?_)
    · have c3 : ¬ oc = 3 := fun z => c (e3.mpr z)
      have := p58 _ rfl
      rw [if_neg c3] at this
      exact k_X1_finish_51 (r5 := by simp [n_sI, z_sI, tag_sI, I_sI, J_sI, R_sI, EI_sI, EJ_sI, ER_sI, n_sJ, z_sJ, tag_sJ, I_sJ, J_sJ, R_sJ, EI_sJ, EJ_sJ, ER_sJ, n_sR, z_sR, tag_sR, I_sR, J_sR, R_sR, EI_sR, EJ_sR, ER_sR, n_sEI, z_sEI, tag_sEI, I_sEI, J_sEI, R_sEI, EI_sEI, EJ_sEI, ER_sEI, n_sEJ, z_sEJ, tag_sEJ, I_sEJ, J_sEJ, R_sEJ, EI_sEJ, EJ_sEJ, ER_sEJ, n_sER, z_sER, tag_sER, I_sER, J_sER, R_sER, EI_sER, EJ_sER, ER_sER, n_nw, z_nw, tag_nw, I_nw, J_nw, R_nw, EI_nw, EJ_nw, ER_nw]; exact hg) oo this
    · have := p58 _ rfl
      rw [if_pos (e3.mp c)] at this
      exact k_X1_finish_47 oo this
  refine k_X1_finish_0 (r7 := wt) oo (fun c => ?_) (fun c => ?_)
  · have := p37
    unfold cdE at this
    rw [if_neg (fun z => by have := z.1; exact absurd c (Int64.not_le.mpr this))] at this
    exact k_X1_finish_36 oo this
  · refine k_X1_finish_28 oo (fun c' => ?_) (fun c' => ?_)
    · have := p37
      unfold cdE at this
      rw [if_neg (fun z => c' (e0.mpr z.2))] at this
      exact k_X1_finish_36 oo this
    · have := p37
      unfold cdE at this
      rw [if_pos ⟨Int64.not_le.mp c, e0.mp c'⟩] at this
      exact k_X1_finish_32 oo this
end
