/-! instructions that the unit tells -/
theorem uins_ok {G : Gt} {d : Nat} {h : AH} {K : Outcome → AH → Prop} {U n f : Nat} {B : Nat → Nat} {m : Md} {u : Ux} (hs : SU h U n B) (hm : UM h U n B m) (hu : m.2.2.2.2.2[f]? = some u) (kk : K (.returned (some (.int (nI (ui u).length)))) h) : MW G d e_X29_instructions [.ref U, .int (nI f)] h K := by
  refine st_X29_instructions fun X o hG hD _ => ?_
  subst hG; subst hD
  obtain ⟨t0, ⟨t1, t2, t3, t4, t5, t6, t7, t8⟩, v1, v2, v3, v4, v5, v6, v7, v8⟩ := hs.1
  have b1 := hm.2.2.2.2.1.2.1
  have hf := get_lt hu
  have ix1 : IX (nI f) 65 f := IX.mk (by omega) (by omega)
  have ix2 : IX (nI f + nI 1) 65 (f + 1) := by rw [nI_add]; exact IX.mk (by omega) (by omega)
  obtain ⟨hf1, hf2⟩ := hm.2.2.2.2.2.2.1 f hf
  rw [uis_tk hu] at hf2
  refine k_X29_instructions_0 o ?_
  rw [nI_sub (by omega), Nat.add_sub_cancel_left]
  exact kk
theorem uis_le {us : List Ux} {f : Nat} {u : Ux} (hu : us[f]? = some u) : (uis (us.take f)).length + (ui u).length ≤ (uis us).length := by
  rw [← uis_tk hu]
  have : uis us = uis (us.take (f + 1)) ++ uis (us.drop (f + 1)) := by unfold uis; rw [← List.flatMap_append, List.take_append_drop]
  rw [this]; simp
theorem uope_ok {G : Gt} {d : Nat} {h : AH} {K : Outcome → AH → Prop} {U n f i : Nat} {B : Nat → Nat} {m : Md} {u : Ux} {x : Ix} (hs : SU h U n B) (hm : UM h U n B m) (hu : m.2.2.2.2.2[f]? = some u) (hx : (ui u)[i]? = some x) (hd : 1 ≤ d) (kk : K (.returned (some (.int (nI x.1)))) h) : MW G d e_X29_operation [.ref U, .int (nI f), .int (nI i)] h K := by
  refine st_X29_operation fun X o hG hD _ => ?_
  subst hG; subst hD
  obtain ⟨t0, ⟨t1, t2, t3, t4, t5, t6, t7, t8⟩, v1, v2, v3, v4, v5, v6, v7, v8⟩ := hs.1
  have hn := hs.2.2.1
  have b1 := hm.2.2.2.2.1.2.1
  have b3 := hm.2.2.2.2.1.2.2
  have hf := get_lt hu
  have hi := get_lt hx
  have hle := uis_le hu
  have ix1 : IX (nI f) 65 f := IX.mk (by omega) (by omega)
  obtain ⟨hf1, hf2⟩ := hm.2.2.2.2.2.2.1 f hf
  have ix2 : IX (nI (uis (m.2.2.2.2.2.take f)).length + nI i) 2049 ((uis (m.2.2.2.2.2.take f)).length + i) := by rw [nI_add]; exact IX.mk (by omega) (by omega)
  have hxi := hm.2.2.2.2.2.2.2 _ x (uis_get hu hx)
  rw [Nat.zero_add] at hxi
  obtain ⟨p, q, e1, e2, e3⟩ := hm.2.2.2.2.2.1 f u hu
  obtain ⟨-, -, p2, p3, p4, -, -, -, l4⟩ := rdU_v e3
  obtain ⟨q', hr⟩ := rdI_at l4 x (List.mem_of_getElem? hx)
  obtain ⟨w1, w2, -, -, -, w6, w7⟩ := rdI_v hr
  refine k_X29_operation_0 o ?_
  refine ubyte_ok hs (by omega) ?_
  refine k_X29_operation_17 o ?_
  rw [← w1]; exact kk
theorem unr2_ok {G : Gt} {d : Nat} {h : AH} {K : Outcome → AH → Prop} {U n p k : Nat} {B : Nat → Nat} (hs : SU h U n B) (hp : p < 4096) (hk : k ≤ 16) (hd : 1 ≤ d) (kk : K (.returned (some (.long (lN (bn B 0 p k))))) h) : MW G d e_X29_number_2 [.ref U, .int (nI p), .int (nI k)] h K := by
  refine st_X29_number_2 fun X o hG hD _ => ?_
  subst hG; subst hD
  have s0 := hs.1.1
  have hB := hs.2.2.2.1
  have bns : ∀ (i v q : Nat), bn B v q (i + 1) = 256 * bn B v q i + B (q + i) := by
    intro i
    induction i with
    | zero => intro v q; rfl
    | succ i ih =>
      intro v q
      show bn B (256 * v + B q) (q + 1) (i + 1) = 256 * bn B (256 * v + B q) (q + 1) i + B (q + (i + 1))
      rw [ih]; congr 2; omega
  have loop : ∀ j i, j + i = k → V X K 5 [.ref U, .int (nI p), .int (nI k), .long (lN (bn B 0 p i)), nov, .int (nI (p + i))] [] h := by
    intro j
    induction j with
    | zero =>
      intro i hi
      refine k_X29_number_2_5 o (fun _ => ?_) (fun c => ?_)
      · refine k_X29_number_2_33 o ?_
        rw [show i = k by omega]; exact kk
      · refine absurd ?_ c
        rw [nI_add]; exact (nI_leI (by omega) (by omega)).mpr (by omega)
    | succ j ih =>
      intro i hi
      have hb := hB (p + i)
      refine k_X29_number_2_5 o (fun c => ?_) (fun _ => ?_)
      · rw [nI_add] at c
        exact absurd ((nI_leI (by omega) (by omega)).mp c) (by omega)
      refine k_X29_number_2_13 o ?_
      refine ubyte_ok hs (by omega) ?_
      refine k_X29_number_2_24 o ?_
      have e : (256 : Int64) * lN (bn B 0 p i) + (nI (B (p + i))).toInt64 = lN (bn B 0 p (i + 1)) := by
        rw [nI_64 (by omega), bns]
        exact un_inj (by
          rw [un_add, un_mul, un_lm, un_lm, un_lm, show un (256 : Int64) = 256 from rfl]
          omega)
      rw [nI_add, e]
      exact ih (i + 1) (by omega)
  refine k_X29_number_2_0 o ?_
  exact loop k 0 (by omega)
theorem uopn_ok {G : Gt} {d : Nat} {h : AH} {K : Outcome → AH → Prop} {U n f i w : Nat} {B : Nat → Nat} {m : Md} {u : Ux} {x : Ix} (hs : SU h U n B) (hm : UM h U n B m) (hu : m.2.2.2.2.2[f]? = some u) (hx : (ui u)[i]? = some x) (hw : w ≤ 1) (hd : 2 ≤ d) (kk : K (.returned (some (.long (lN (if w = 0 then x.2.1 else x.2.2.1))))) h) : MW G d e_X29_operand [.ref U, .int (nI f), .int (nI i), .int (nI w)] h K := by
  refine st_X29_operand fun X o hG hD _ => ?_
  subst hG; subst hD
  obtain ⟨t0, ⟨t1, t2, t3, t4, t5, t6, t7, t8⟩, v1, v2, v3, v4, v5, v6, v7, v8⟩ := hs.1
  have hn := hs.2.2.1
  have hB := hs.2.2.2.1
  have b1 := hm.2.2.2.2.1.2.1
  have b3 := hm.2.2.2.2.1.2.2
  have hf := get_lt hu
  have hi := get_lt hx
  have hle := uis_le hu
  have ix1 : IX (nI f) 65 f := IX.mk (by omega) (by omega)
  obtain ⟨hf1, hf2⟩ := hm.2.2.2.2.2.2.1 f hf
  have ix2 : IX (nI (uis (m.2.2.2.2.2.take f)).length + nI i) 2049 ((uis (m.2.2.2.2.2.take f)).length + i) := by rw [nI_add]; exact IX.mk (by omega) (by omega)
  have hxi := hm.2.2.2.2.2.2.2 _ x (uis_get hu hx)
  rw [Nat.zero_add] at hxi
  obtain ⟨p, q, e1, e2, e3⟩ := hm.2.2.2.2.2.1 f u hu
  obtain ⟨-, -, p2, p3, p4, -, -, -, l4⟩ := rdU_v e3
  obtain ⟨q', hr⟩ := rdI_at l4 x (List.mem_of_getElem? hx)
  obtain ⟨w1, w2, w3, w4, -, w6, w7⟩ := rdI_v hr
  generalize x.2.2.2 = a at *
  have hba := hB a
  refine k_X29_operand_0 o ?_
  refine ubyte_ok hs (by omega) ?_
  refine k_X29_operand_21 o ?_
  refine opb_ok w2 ?_
  have tab : ∀ k : Fin 60, fq1 k.val + fq2 k.val ≤ 16 ∧ ((k.val = 16 ∨ k.val = 17 ∨ k.val = 52 ∨ k.val = 7) → fq1 k.val = fq2 k.val) ∧ (¬ (k.val = 16 ∨ k.val = 17 ∨ k.val = 52 ∨ k.val = 7) → fq2 k.val = 0) := by decide +kernel
  obtain ⟨tb1, tb2, tb3⟩ := tab ⟨_, w2⟩
  simp only at tb1 tb2 tb3
  have two : (B a = 16 ∨ B a = 17 ∨ B a = 52 ∨ B a = 7) → V X K 58 [.ref U, .int (nI f), .int (nI i), .int (nI w), .int (nI a), .int (nI (B a)), .int (nI (fq1 (B a) + fq2 (B a))), nov] [] h := fun c => by
    have eq := tb2 c
    refine k_X29_operand_58 o ?_
    refine k_X29_operand_63 o (fun _ => ?_) (fun c => absurd c (by decide))
    have n2 : ¬ nI 2 = 0 := by decide
    refine k_X29_operand_89 o ?_
    rw [nI_add, nI_mul, nI_div (by have := Nat.mul_le_mul hw tb1; omega) (by omega) (by omega), nI_div (by omega) (by omega) (by omega), nI_add]
    have eh : (fq1 (B a) + fq2 (B a)) / 2 = fq1 (B a) := by omega
    rw [eh]
    rcases (show w = 0 ∨ w = 1 by omega) with e | e
    · subst e
      rw [if_pos rfl, w3] at kk
      rw [show a + 1 + 0 * (fq1 (B a) + fq2 (B a)) / 2 = a + 1 by rw [Nat.zero_mul]]
      refine unr2_ok hs (by omega) (by omega) (by omega) ?_
      exact k_X29_operand_108 o kk
    · subst e
      rw [if_neg (by decide), w4] at kk
      rw [show a + 1 + 1 * (fq1 (B a) + fq2 (B a)) / 2 = a + 1 + fq1 (B a) by omega]
      refine unr2_ok hs (by omega) (by omega) (by omega) ?_
      rw [← eq] at kk
      exact k_X29_operand_108 o kk
  refine k_X29_operand_28 o (fun c => two (Or.inl ((nI_eq (by omega) (by omega)).mp c))) (fun c1 => ?_)
  refine k_X29_operand_37 o (fun c => two (Or.inr (Or.inl ((nI_eq (by omega) (by omega)).mp c)))) (fun c2 => ?_)
  refine k_X29_operand_44 o (fun c => two (Or.inr (Or.inr (Or.inl ((nI_eq (by omega) (by omega)).mp c))))) (fun c3 => ?_)
  refine k_X29_operand_51 o (fun c4 => ?_) (fun c => two (Or.inr (Or.inr (Or.inr ((nI_eq (by omega) (by omega)).mp c)))))
  have c1 : ¬ B a = 16 := fun z => c1 (by rw [z])
  have c2 : ¬ B a = 17 := fun z => c2 (by rw [z])
  have c3 : ¬ B a = 52 := fun z => c3 (by rw [z])
  have c4 : ¬ B a = 7 := fun z => c4 (by rw [z])
  have e0 := tb3 (by omega)
  rw [e0] at w4
  refine k_X29_operand_62 o ?_
  refine k_X29_operand_63 o (fun c => absurd rfl c) (fun _ => ?_)
  rcases (show w = 0 ∨ w = 1 by omega) with e | e
  · subst e
    rw [if_pos rfl, w3] at kk
    refine k_X29_operand_70 o (fun c => absurd rfl c) (fun _ => ?_)
    refine k_X29_operand_74 o ?_
    rw [nI_add, e0]
    refine unr2_ok hs (by omega) (by omega) (by omega) ?_
    refine k_X29_operand_84 o ?_
    exact k_X29_operand_88 o kk
  · subst e
    rw [if_neg (by decide), w4] at kk
    refine k_X29_operand_70 o (fun _ => ?_) (fun c => absurd c (by decide))
    refine k_X29_operand_87 o ?_
    exact k_X29_operand_88 o kk
