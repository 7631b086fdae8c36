/-! the component's numbers of 128 bits -/
def WW (f _a : Nat) : Prop := f = 2304 ∨ f = 2305 ∨ f = 2306
/-- nothing new was made -/
def Fq (P : Nat → Nat → Prop) (h h' : AH) : Prop := Fr P h h' ∧ h'.n = h.n ∧ h'.z = h.z
theorem Fq.refl {P : Nat → Nat → Prop} (h : AH) : Fq P h h := ⟨Fr.refl h, rfl, rfl⟩
theorem Fq.sI {P : Nat → Nat → Prop} {h h' : AH} (q : Fq P h h') {f a : Nat} {v : Int32} (m : P f a) : Fq P h (h'.sI f a v) := ⟨q.1.sI m, q.2⟩
theorem Fq.sJ {P : Nat → Nat → Prop} {h h' : AH} (q : Fq P h h') {f a : Nat} {v : Int64} (m : P f a) : Fq P h (h'.sJ f a v) := ⟨q.1.sJ m, q.2⟩
theorem Fq.sR {P : Nat → Nat → Prop} {h h' : AH} (q : Fq P h h') {f a : Nat} {v : Option Nat} (m : P f a) : Fq P h (h'.sR f a v) := ⟨q.1.sR m, q.2⟩
theorem Fq.sEI {P : Nat → Nat → Prop} {h h' : AH} (q : Fq P h h') {t a i : Nat} {v : Int32} (m : P (10000 + t) a) : Fq P h (h'.sEI t a i v) := ⟨q.1.sEI m, q.2⟩
theorem Fq.sEJ {P : Nat → Nat → Prop} {h h' : AH} (q : Fq P h h') {t a i : Nat} {v : Int64} (m : P (10000 + t) a) : Fq P h (h'.sEJ t a i v) := ⟨q.1.sEJ m, q.2⟩
theorem Fq.sER {P : Nat → Nat → Prop} {h h' : AH} (q : Fq P h h') {t a i : Nat} {v : Option Nat} (m : P (10000 + t) a) : Fq P h (h'.sER t a i v) := ⟨q.1.sER m, q.2⟩
theorem Fq.trans {P : Nat → Nat → Prop} {h h1 h2 : AH} (p : Fq P h h1) (q : Fq P h1 h2) : Fq P h h2 := ⟨p.1.trans q.1, q.2.1.trans p.2.1, q.2.2.trans p.2.2⟩
theorem Fq.mono {P Q : Nat → Nat → Prop} {h h' : AH} (p : Fq P h h') (m : ∀ f a, P f a → Q f a) : Fq Q h h' := ⟨p.1.mono m, p.2⟩
/-- the number in a wide: high, low, whether it is beyond -/
def RW (h : AH) (w : Nat) (H L : Int64) (b : Bool) : Prop := h.tag w = some (18, 0) ∧ h.J 2304 w = H ∧ h.J 2305 w = L ∧ h.I 2306 w = bI b
def w128 (H L : Int64) : Nat := un H * 18446744073709551616 + un L
theorem wset_ok {G : Gt} {d w : Nat} {H L H' L' : Int64} {b : Bool} {h : AH} {K : Outcome → AH → Prop} (hw : RW h w H L b) (kk : ∀ h', Fq WW h h' → RW h' w H' L' false → K (.returned none) h') : MW G d e_X19_set [.ref w, .long H', .long L'] h K := by
  refine st_X19_set fun X o hG hD hf => ?_
  have t := hw.1
  refine k_X19_set_0 o ?_
  exact kk _ ((((Fq.refl h).sJ (Or.inl rfl)).sJ (Or.inr (Or.inl rfl))).sI (Or.inr (Or.inr rfl))) ⟨t, by simp [n_sI, z_sI, tag_sI, I_sI, J_sI, R_sI, EI_sI, EJ_sI, ER_sI, n_sJ, z_sJ, tag_sJ, I_sJ, J_sJ, R_sJ, EI_sJ, EJ_sJ, ER_sJ, n_sR, z_sR, tag_sR, I_sR, J_sR, R_sR, EI_sR, EJ_sR, ER_sR, n_sEI, z_sEI, tag_sEI, I_sEI, J_sEI, R_sEI, EI_sEI, EJ_sEI, ER_sEI, n_sEJ, z_sEJ, tag_sEJ, I_sEJ, J_sEJ, R_sEJ, EI_sEJ, EJ_sEJ, ER_sEJ, n_sER, z_sER, tag_sER, I_sER, J_sER, R_sER, EI_sER, EJ_sER, ER_sER, n_nw, z_nw, tag_nw, I_nw, J_nw, R_nw, EI_nw, EJ_nw, ER_nw], by simp [n_sI, z_sI, tag_sI, I_sI, J_sI, R_sI, EI_sI, EJ_sI, ER_sI, n_sJ, z_sJ, tag_sJ, I_sJ, J_sJ, R_sJ, EI_sJ, EJ_sJ, ER_sJ, n_sR, z_sR, tag_sR, I_sR, J_sR, R_sR, EI_sR, EJ_sR, ER_sR, n_sEI, z_sEI, tag_sEI, I_sEI, J_sEI, R_sEI, EI_sEI, EJ_sEI, ER_sEI, n_sEJ, z_sEJ, tag_sEJ, I_sEJ, J_sEJ, R_sEJ, EI_sEJ, EJ_sEJ, ER_sEJ, n_sER, z_sER, tag_sER, I_sER, J_sER, R_sER, EI_sER, EJ_sER, ER_sER, n_nw, z_nw, tag_nw, I_nw, J_nw, R_nw, EI_nw, EJ_nw, ER_nw], by simp [n_sI, z_sI, tag_sI, I_sI, J_sI, R_sI, EI_sI, EJ_sI, ER_sI, n_sJ, z_sJ, tag_sJ, I_sJ, J_sJ, R_sJ, EI_sJ, EJ_sJ, ER_sJ, n_sR, z_sR, tag_sR, I_sR, J_sR, R_sR, EI_sR, EJ_sR, ER_sR, n_sEI, z_sEI, tag_sEI, I_sEI, J_sEI, R_sEI, EI_sEI, EJ_sEI, ER_sEI, n_sEJ, z_sEJ, tag_sEJ, I_sEJ, J_sEJ, R_sEJ, EI_sEJ, EJ_sEJ, ER_sEJ, n_sER, z_sER, tag_sER, I_sER, J_sER, R_sER, EI_sER, EJ_sER, ER_sER, n_nw, z_nw, tag_nw, I_nw, J_nw, R_nw, EI_nw, EJ_nw, ER_nw]; rfl⟩
/-- -1, 0, 1 by the numbers of 128 bits -/
def cmw (a b : Nat) : Int32 := if a < b then -1 else if a = b then nI 0 else nI 1
theorem wcompare_ok {G : Gt} {d : Nat} {H L H' L' : Int64} {h : AH} {K : Outcome → AH → Prop} (hd : 2 ≤ d) (kk : K (.returned (some (.int (cmw (w128 H L) (w128 H' L'))))) h) : MW G d e_X19_compare [.long H, .long L, .long H', .long L'] h K := by
  refine st_X19_compare fun X o hG hD hf => ?_
  have a1 := un_lt L
  have a2 := un_lt L'
  refine k_X19_compare_0 o ?_
  refine compareU_ok (by omega) ?_
  refine k_X19_compare_6 o (fun c => ?_) (fun c => ?_)
  · have c := cmu_zero.mp c
    subst c
    refine k_X19_compare_18 o ?_
    refine compareU_ok (by omega) ?_
    refine k_X19_compare_24 o ?_
    have : cmu L L' = cmw (w128 H L) (w128 H L') := by
      unfold cmu cmw w128
      simp only [Nat.add_lt_add_iff_left, Nat.add_left_cancel_iff]
    rw [this]; exact kk
  · have c : un H ≠ un H' := fun q => c (cmu_zero.mpr (un_inj q))
    refine k_X19_compare_13 o ?_
    refine k_X19_compare_24 o ?_
    have : cmu H H' = cmw (w128 H L) (w128 H' L') := by
      unfold cmu cmw w128
      by_cases q : un H < un H'
      · rw [if_pos q, if_pos (by omega)]
      · rw [if_neg q, if_neg c, if_neg (by omega), if_neg (by omega)]
    rw [this]; exact kk
theorem carries_ok {G : Gt} {d : Nat} {x y : Int64} {h : AH} {K : Outcome → AH → Prop} (hd : 2 ≤ d) (kk : K (.returned (some (.int (bI (decide (un x < un y)))))) h) : MW G d e_X19_carries [.long x, .long y] h K := by
  refine st_X19_carries fun X o hG hD hf => ?_
  refine k_X19_carries_0 o ?_
  refine compareU_ok (by omega) ?_
  refine k_X19_carries_5 o (fun c => ?_) (fun c => ?_)
  · have c : ¬ (un x < un y) := fun q => Int32.not_lt.mpr c (cmu_neg.mpr q)
    rw [decide_eq_false c] at kk
    refine k_X19_carries_12 o ?_
    exact k_X19_carries_13 o kk
  · have c : un x < un y := cmu_neg.mp (Int32.not_le.mp c)
    rw [decide_eq_true c] at kk
    refine k_X19_carries_8 o ?_
    exact k_X19_carries_13 o kk
theorem wadd_ok {G : Gt} {d w : Nat} {H L H' L' : Int64} {b : Bool} {h : AH} {K : Outcome → AH → Prop} (hw : RW h w H L b) (hd : 3 ≤ d)
    (kk : ∀ h' H2 L2 b2, Fq WW h h' → RW h' w H2 L2 b2 → w128 H2 L2 = (w128 H L + w128 H' L') % 340282366920938463463374607431768211456 → (b2 = true ↔ 340282366920938463463374607431768211456 ≤ w128 H L + w128 H' L') → K (.returned none) h') : MW G d e_X19_add [.ref w, .long H', .long L'] h K := by
  refine st_X19_add fun X o hG hD hf => ?_
  obtain ⟨t, e1, e2, e3⟩ := hw
  have a1 := un_lt H
  have a2 := un_lt L
  have a3 := un_lt H'
  have a4 := un_lt L'
  refine k_X19_add_0 o ?_
  refine carries_ok (by omega) ?_
  refine k_X19_add_18 o ?_
  refine carries_ok (by omega) ?_
  generalize hh : (h.sJ 2305 w (L + L')).sJ 2304 w (H + H') = h1
  have f1 : Fq WW h h1 := by rw [← hh]; exact ((Fq.refl h).sJ (Or.inr (Or.inl rfl))).sJ (Or.inl rfl)
  have t1 := f1.1.tag t
  have g1 : h1.J 2304 w = H + H' := by rw [← hh]; simp [n_sI, z_sI, tag_sI, I_sI, J_sI, R_sI, EI_sI, EJ_sI, ER_sI, n_sJ, z_sJ, tag_sJ, I_sJ, J_sJ, R_sJ, EI_sJ, EJ_sJ, ER_sJ, n_sR, z_sR, tag_sR, I_sR, J_sR, R_sR, EI_sR, EJ_sR, ER_sR, n_sEI, z_sEI, tag_sEI, I_sEI, J_sEI, R_sEI, EI_sEI, EJ_sEI, ER_sEI, n_sEJ, z_sEJ, tag_sEJ, I_sEJ, J_sEJ, R_sEJ, EI_sEJ, EJ_sEJ, ER_sEJ, n_sER, z_sER, tag_sER, I_sER, J_sER, R_sER, EI_sER, EJ_sER, ER_sER, n_nw, z_nw, tag_nw, I_nw, J_nw, R_nw, EI_nw, EJ_nw, ER_nw]
  have g2 : h1.J 2305 w = L + L' := by rw [← hh]; simp [n_sI, z_sI, tag_sI, I_sI, J_sI, R_sI, EI_sI, EJ_sI, ER_sI, n_sJ, z_sJ, tag_sJ, I_sJ, J_sJ, R_sJ, EI_sJ, EJ_sJ, ER_sJ, n_sR, z_sR, tag_sR, I_sR, J_sR, R_sR, EI_sR, EJ_sR, ER_sR, n_sEI, z_sEI, tag_sEI, I_sEI, J_sEI, R_sEI, EI_sEI, EJ_sEI, ER_sEI, n_sEJ, z_sEJ, tag_sEJ, I_sEJ, J_sEJ, R_sEJ, EI_sEJ, EJ_sEJ, ER_sEJ, n_sER, z_sER, tag_sER, I_sER, J_sER, R_sER, EI_sER, EJ_sER, ER_sER, n_nw, z_nw, tag_nw, I_nw, J_nw, R_nw, EI_nw, EJ_nw, ER_nw]
  have u1 : un (L + L') = (un L + un L') % 18446744073709551616 := un_add L L'
  have u2 : un (H + H') = (un H + un H') % 18446744073709551616 := un_add H H'
  refine k_X19_add_39 o (fun c => ?_) (fun c => ?_)
  · have c : un (L + L') < un L' := by
      by_cases q : un (L + L') < un L'
      · exact q
      · exact absurd (by rw [decide_eq_false q]; rfl) c
    generalize hh2 : h1.sI 2306 w (bI (decide (un (H + H') < un H'))) = h2
    have f2 : Fq WW h h2 := by rw [← hh2]; exact f1.sI (Or.inr (Or.inr rfl))
    have t2 := f2.1.tag t
    have i1 : h2.J 2304 w = H + H' := by rw [← hh2]; simp [n_sI, z_sI, tag_sI, I_sI, J_sI, R_sI, EI_sI, EJ_sI, ER_sI, n_sJ, z_sJ, tag_sJ, I_sJ, J_sJ, R_sJ, EI_sJ, EJ_sJ, ER_sJ, n_sR, z_sR, tag_sR, I_sR, J_sR, R_sR, EI_sR, EJ_sR, ER_sR, n_sEI, z_sEI, tag_sEI, I_sEI, J_sEI, R_sEI, EI_sEI, EJ_sEI, ER_sEI, n_sEJ, z_sEJ, tag_sEJ, I_sEJ, J_sEJ, R_sEJ, EI_sEJ, EJ_sEJ, ER_sEJ, n_sER, z_sER, tag_sER, I_sER, J_sER, R_sER, EI_sER, EJ_sER, ER_sER, n_nw, z_nw, tag_nw, I_nw, J_nw, R_nw, EI_nw, EJ_nw, ER_nw]; exact g1
    have i2 : h2.J 2305 w = L + L' := by rw [← hh2]; simp [n_sI, z_sI, tag_sI, I_sI, J_sI, R_sI, EI_sI, EJ_sI, ER_sI, n_sJ, z_sJ, tag_sJ, I_sJ, J_sJ, R_sJ, EI_sJ, EJ_sJ, ER_sJ, n_sR, z_sR, tag_sR, I_sR, J_sR, R_sR, EI_sR, EJ_sR, ER_sR, n_sEI, z_sEI, tag_sEI, I_sEI, J_sEI, R_sEI, EI_sEI, EJ_sEI, ER_sEI, n_sEJ, z_sEJ, tag_sEJ, I_sEJ, J_sEJ, R_sEJ, EI_sEJ, EJ_sEJ, ER_sEJ, n_sER, z_sER, tag_sER, I_sER, J_sER, R_sER, EI_sER, EJ_sER, ER_sER, n_nw, z_nw, tag_nw, I_nw, J_nw, R_nw, EI_nw, EJ_nw, ER_nw]; exact g2
    have i3 : h2.I 2306 w = bI (decide (un (H + H') < un H')) := by rw [← hh2]; simp [n_sI, z_sI, tag_sI, I_sI, J_sI, R_sI, EI_sI, EJ_sI, ER_sI, n_sJ, z_sJ, tag_sJ, I_sJ, J_sJ, R_sJ, EI_sJ, EJ_sJ, ER_sJ, n_sR, z_sR, tag_sR, I_sR, J_sR, R_sR, EI_sR, EJ_sR, ER_sR, n_sEI, z_sEI, tag_sEI, I_sEI, J_sEI, R_sEI, EI_sEI, EJ_sEI, ER_sEI, n_sEJ, z_sEJ, tag_sEJ, I_sEJ, J_sEJ, R_sEJ, EI_sEJ, EJ_sEJ, ER_sEJ, n_sER, z_sER, tag_sER, I_sER, J_sER, R_sER, EI_sER, EJ_sER, ER_sER, n_nw, z_nw, tag_nw, I_nw, J_nw, R_nw, EI_nw, EJ_nw, ER_nw]
    have u3 : un (H + H' + 1) = (un (H + H') + 1) % 18446744073709551616 := un_add _ 1
    have fin : ∀ b : Bool, (b = true ↔ H + H' + 1 = 0) → V X K 77 [.ref w, .long H', nov, .long L', nov, .int (bI (decide (un (L + L') < un L')))] [.int (bI b), .int (bI (decide (un (H + H') < un H'))), .ref w] (h2.sJ 2304 w (H + H' + 1)) := fun b hb => by
      have orr : bI (decide (un (H + H') < un H')) ||| bI b = bI (decide (un (H + H') < un H') || b) := by cases b <;> cases (decide (un (H + H') < un H')) <;> decide
      have z : bI (decide (un (H + H') < un H')) ||| bI b = 0 ∨ bI (decide (un (H + H') < un H')) ||| bI b = 1 := by rw [orr]; exact bI_or _
      refine k_X19_add_77 o ?_
      rw [orr]
      have hz : b = true ↔ un (H + H') + 1 = 18446744073709551616 := by
        rw [hb]
        constructor
        · intro q
          have := congrArg un q
          rw [u3] at this
          have : un (0 : Int64) = 0 := rfl
          have := un_lt (H + H')
          omega
        · intro q
          exact un_inj (by rw [u3, q]; rfl)
      refine kk _ (H + H' + 1) (L + L') (decide (un (H + H') < un H') || b) ((f2.sJ (Or.inl rfl)).sI (Or.inr (Or.inr rfl))) ⟨t2, by simp [n_sI, z_sI, tag_sI, I_sI, J_sI, R_sI, EI_sI, EJ_sI, ER_sI, n_sJ, z_sJ, tag_sJ, I_sJ, J_sJ, R_sJ, EI_sJ, EJ_sJ, ER_sJ, n_sR, z_sR, tag_sR, I_sR, J_sR, R_sR, EI_sR, EJ_sR, ER_sR, n_sEI, z_sEI, tag_sEI, I_sEI, J_sEI, R_sEI, EI_sEI, EJ_sEI, ER_sEI, n_sEJ, z_sEJ, tag_sEJ, I_sEJ, J_sEJ, R_sEJ, EI_sEJ, EJ_sEJ, ER_sEJ, n_sER, z_sER, tag_sER, I_sER, J_sER, R_sER, EI_sER, EJ_sER, ER_sER, n_nw, z_nw, tag_nw, I_nw, J_nw, R_nw, EI_nw, EJ_nw, ER_nw], by simp [n_sI, z_sI, tag_sI, I_sI, J_sI, R_sI, EI_sI, EJ_sI, ER_sI, n_sJ, z_sJ, tag_sJ, I_sJ, J_sJ, R_sJ, EI_sJ, EJ_sJ, ER_sJ, n_sR, z_sR, tag_sR, I_sR, J_sR, R_sR, EI_sR, EJ_sR, ER_sR, n_sEI, z_sEI, tag_sEI, I_sEI, J_sEI, R_sEI, EI_sEI, EJ_sEI, ER_sEI, n_sEJ, z_sEJ, tag_sEJ, I_sEJ, J_sEJ, R_sEJ, EI_sEJ, EJ_sEJ, ER_sEJ, n_sER, z_sER, tag_sER, I_sER, J_sER, R_sER, EI_sER, EJ_sER, ER_sER, n_nw, z_nw, tag_nw, I_nw, J_nw, R_nw, EI_nw, EJ_nw, ER_nw]; exact i2, by simp [n_sI, z_sI, tag_sI, I_sI, J_sI, R_sI, EI_sI, EJ_sI, ER_sI, n_sJ, z_sJ, tag_sJ, I_sJ, J_sJ, R_sJ, EI_sJ, EJ_sJ, ER_sJ, n_sR, z_sR, tag_sR, I_sR, J_sR, R_sR, EI_sR, EJ_sR, ER_sR, n_sEI, z_sEI, tag_sEI, I_sEI, J_sEI, R_sEI, EI_sEI, EJ_sEI, ER_sEI, n_sEJ, z_sEJ, tag_sEJ, I_sEJ, J_sEJ, R_sEJ, EI_sEJ, EJ_sEJ, ER_sEJ, n_sER, z_sER, tag_sER, I_sER, J_sER, R_sER, EI_sER, EJ_sER, ER_sER, n_nw, z_nw, tag_nw, I_nw, J_nw, R_nw, EI_nw, EJ_nw, ER_nw]⟩ ?_ ?_
      · unfold w128; rw [u3, u1, u2]; omega
      · rw [Bool.or_eq_true, decide_eq_true_eq, hz]; unfold w128; omega
    refine k_X19_add_48 o (fun c2 => ?_) (fun c2 => ?_)
    · refine k_X19_add_76 o ?_
      exact fin false ⟨fun q => (nomatch q), fun q => absurd q c2⟩
    · refine k_X19_add_72 o ?_
      exact fin true ⟨fun _ => c2, fun _ => rfl⟩
  · have c : ¬ (un (L + L') < un L') := fun q => by rw [decide_eq_true q] at c; exact absurd c (by decide)
    refine k_X19_add_47 o ?_
    refine kk _ (H + H') (L + L') (decide (un (H + H') < un H')) (f1.sI (Or.inr (Or.inr rfl))) ⟨t1, g1, g2, by simp [n_sI, z_sI, tag_sI, I_sI, J_sI, R_sI, EI_sI, EJ_sI, ER_sI, n_sJ, z_sJ, tag_sJ, I_sJ, J_sJ, R_sJ, EI_sJ, EJ_sJ, ER_sJ, n_sR, z_sR, tag_sR, I_sR, J_sR, R_sR, EI_sR, EJ_sR, ER_sR, n_sEI, z_sEI, tag_sEI, I_sEI, J_sEI, R_sEI, EI_sEI, EJ_sEI, ER_sEI, n_sEJ, z_sEJ, tag_sEJ, I_sEJ, J_sEJ, R_sEJ, EI_sEJ, EJ_sEJ, ER_sEJ, n_sER, z_sER, tag_sER, I_sER, J_sER, R_sER, EI_sER, EJ_sER, ER_sER, n_nw, z_nw, tag_nw, I_nw, J_nw, R_nw, EI_nw, EJ_nw, ER_nw]⟩ ?_ ?_
    · unfold w128; rw [u1, u2]; omega
    · rw [decide_eq_true_eq]; unfold w128; omega
theorem cmw_neg {a b : Nat} : cmw a b < 0 ↔ a < b := by
  unfold cmw
  split
  · next h => exact ⟨fun _ => h, fun _ => by decide⟩
  · next h => split <;> exact ⟨fun q => absurd q (by decide), fun q => absurd q h⟩
theorem cmw_pos {a b : Nat} : 0 < cmw a b ↔ b < a := by
  unfold cmw
  split
  · next h => exact ⟨fun q => absurd q (by decide), fun q => by omega⟩
  · next h => split
              · next h2 => exact ⟨fun q => absurd q (by decide), fun q => by omega⟩
              · next h2 => exact ⟨fun _ => by omega, fun _ => by decide⟩
theorem wsub_ok {G : Gt} {d w : Nat} {H L H' L' : Int64} {b : Bool} {h : AH} {K : Outcome → AH → Prop} (hw : RW h w H L b) (hd : 3 ≤ d)
    (kk : ∀ h' H2 L2 b2, Fq WW h h' → RW h' w H2 L2 b2 → (w128 H' L' ≤ w128 H L → w128 H2 L2 = w128 H L - w128 H' L') → (b2 = true ↔ w128 H L < w128 H' L') → K (.returned none) h') : MW G d e_X19_subtract [.ref w, .long H', .long L'] h K := by
  refine st_X19_subtract fun X o hG hD hf => ?_
  obtain ⟨t, e1, e2, e3⟩ := hw
  have a1 := un_lt H
  have a2 := un_lt L
  have a3 := un_lt H'
  have a4 := un_lt L'
  refine k_X19_subtract_0 o ?_
  refine wcompare_ok (by omega) ?_
  have fin : ∀ b2 : Bool, (b2 = true ↔ w128 H L < w128 H' L') → V X K 22 [.ref w, .long H', nov, .long L', nov, nov] [.int (bI b2), .ref w] h := fun b2 hb2 => by
    refine k_X19_subtract_22 o ?_
    refine compareU_ok (by omega) ?_
    generalize hh : h.sI 2306 w (bI b2) = h1
    have f1 : Fq WW h h1 := by rw [← hh]; exact (Fq.refl h).sI (Or.inr (Or.inr rfl))
    have t1 := f1.1.tag t
    have g1 : h1.J 2304 w = H := by rw [← hh]; simp [n_sI, z_sI, tag_sI, I_sI, J_sI, R_sI, EI_sI, EJ_sI, ER_sI, n_sJ, z_sJ, tag_sJ, I_sJ, J_sJ, R_sJ, EI_sJ, EJ_sJ, ER_sJ, n_sR, z_sR, tag_sR, I_sR, J_sR, R_sR, EI_sR, EJ_sR, ER_sR, n_sEI, z_sEI, tag_sEI, I_sEI, J_sEI, R_sEI, EI_sEI, EJ_sEI, ER_sEI, n_sEJ, z_sEJ, tag_sEJ, I_sEJ, J_sEJ, R_sEJ, EI_sEJ, EJ_sEJ, ER_sEJ, n_sER, z_sER, tag_sER, I_sER, J_sER, R_sER, EI_sER, EJ_sER, ER_sER, n_nw, z_nw, tag_nw, I_nw, J_nw, R_nw, EI_nw, EJ_nw, ER_nw]; exact e1
    have g2 : h1.J 2305 w = L := by rw [← hh]; simp [n_sI, z_sI, tag_sI, I_sI, J_sI, R_sI, EI_sI, EJ_sI, ER_sI, n_sJ, z_sJ, tag_sJ, I_sJ, J_sJ, R_sJ, EI_sJ, EJ_sJ, ER_sJ, n_sR, z_sR, tag_sR, I_sR, J_sR, R_sR, EI_sR, EJ_sR, ER_sR, n_sEI, z_sEI, tag_sEI, I_sEI, J_sEI, R_sEI, EI_sEI, EJ_sEI, ER_sEI, n_sEJ, z_sEJ, tag_sEJ, I_sEJ, J_sEJ, R_sEJ, EI_sEJ, EJ_sEJ, ER_sEJ, n_sER, z_sER, tag_sER, I_sER, J_sER, R_sER, EI_sER, EJ_sER, ER_sER, n_nw, z_nw, tag_nw, I_nw, J_nw, R_nw, EI_nw, EJ_nw, ER_nw]; exact e2
    have g3 : h1.I 2306 w = bI b2 := by rw [← hh]; simp [n_sI, z_sI, tag_sI, I_sI, J_sI, R_sI, EI_sI, EJ_sI, ER_sI, n_sJ, z_sJ, tag_sJ, I_sJ, J_sJ, R_sJ, EI_sJ, EJ_sJ, ER_sJ, n_sR, z_sR, tag_sR, I_sR, J_sR, R_sR, EI_sR, EJ_sR, ER_sR, n_sEI, z_sEI, tag_sEI, I_sEI, J_sEI, R_sEI, EI_sEI, EJ_sEI, ER_sEI, n_sEJ, z_sEJ, tag_sEJ, I_sEJ, J_sEJ, R_sEJ, EI_sEJ, EJ_sEJ, ER_sEJ, n_sER, z_sER, tag_sER, I_sER, J_sER, R_sER, EI_sER, EJ_sER, ER_sER, n_nw, z_nw, tag_nw, I_nw, J_nw, R_nw, EI_nw, EJ_nw, ER_nw]
    have u1 : un (L - L') = (18446744073709551616 - un L' + un L) % 18446744073709551616 := un_sub L L'
    have u2 : un (H - H') = (18446744073709551616 - un H' + un H) % 18446744073709551616 := un_sub H H'
    have end_ : ∀ (c : Int64) (v : Value), (un c = if un L < un L' then 1 else 0) → V X K 70 [.ref w, .long H', nov, .long L', nov, v] [.long c, .long (H - H'), .ref w] (h1.sJ 2305 w (L - L')) := fun c v hc => by
      refine k_X19_subtract_70 o ?_
      have u3 : un (H - H' - c) = (18446744073709551616 - un c + un (H - H')) % 18446744073709551616 := un_sub _ c
      refine kk _ (H - H' - c) (L - L') b2 ((f1.sJ (Or.inr (Or.inl rfl))).sJ (Or.inl rfl)) ⟨t1, by simp [n_sI, z_sI, tag_sI, I_sI, J_sI, R_sI, EI_sI, EJ_sI, ER_sI, n_sJ, z_sJ, tag_sJ, I_sJ, J_sJ, R_sJ, EI_sJ, EJ_sJ, ER_sJ, n_sR, z_sR, tag_sR, I_sR, J_sR, R_sR, EI_sR, EJ_sR, ER_sR, n_sEI, z_sEI, tag_sEI, I_sEI, J_sEI, R_sEI, EI_sEI, EJ_sEI, ER_sEI, n_sEJ, z_sEJ, tag_sEJ, I_sEJ, J_sEJ, R_sEJ, EI_sEJ, EJ_sEJ, ER_sEJ, n_sER, z_sER, tag_sER, I_sER, J_sER, R_sER, EI_sER, EJ_sER, ER_sER, n_nw, z_nw, tag_nw, I_nw, J_nw, R_nw, EI_nw, EJ_nw, ER_nw], by simp [n_sI, z_sI, tag_sI, I_sI, J_sI, R_sI, EI_sI, EJ_sI, ER_sI, n_sJ, z_sJ, tag_sJ, I_sJ, J_sJ, R_sJ, EI_sJ, EJ_sJ, ER_sJ, n_sR, z_sR, tag_sR, I_sR, J_sR, R_sR, EI_sR, EJ_sR, ER_sR, n_sEI, z_sEI, tag_sEI, I_sEI, J_sEI, R_sEI, EI_sEI, EJ_sEI, ER_sEI, n_sEJ, z_sEJ, tag_sEJ, I_sEJ, J_sEJ, R_sEJ, EI_sEJ, EJ_sEJ, ER_sEJ, n_sER, z_sER, tag_sER, I_sER, J_sER, R_sER, EI_sER, EJ_sER, ER_sER, n_nw, z_nw, tag_nw, I_nw, J_nw, R_nw, EI_nw, EJ_nw, ER_nw], g3⟩ (fun hle => ?_) hb2
      unfold w128 at hle ⊢
      rw [u3, u1, u2, hc]
      split <;> omega
    refine k_X19_subtract_33 o (fun c => ?_) (fun c => ?_)
    · have c : ¬ (un L < un L') := fun q => Int32.not_lt.mpr c (cmu_neg.mpr q)
      refine k_X19_subtract_40 o ?_
      refine k_X19_subtract_41 o (fun _ => ?_) (fun c2 => absurd rfl c2)
      refine k_X19_subtract_69 o ?_
      exact end_ 0 _ (by rw [if_neg c]; rfl)
    · have c : un L < un L' := cmu_neg.mp (Int32.not_le.mp c)
      refine k_X19_subtract_36 o ?_
      refine k_X19_subtract_41 o (fun c2 => absurd c2 (by decide)) (fun _ => ?_)
      refine k_X19_subtract_65 o ?_
      exact end_ 1 _ (by rw [if_pos c]; rfl)
  refine k_X19_subtract_14 o (fun c => ?_) (fun c => ?_)
  · have c : ¬ (w128 H L < w128 H' L') := fun q => Int32.not_lt.mpr c (cmw_neg.mpr q)
    refine k_X19_subtract_21 o ?_
    exact fin false ⟨fun q => (nomatch q), fun q => absurd q c⟩
  · have c : w128 H L < w128 H' L' := cmw_neg.mp (Int32.not_le.mp c)
    refine k_X19_subtract_17 o ?_
    exact fin true ⟨fun _ => c, fun _ => rfl⟩
/-- how many bits a type of numbers has -/
def tbits (k : Nat) : Nat := if k = 2 then 8 else if k = 3 then 64 else if k = 4 then 128 else 1
theorem lN_iff {a b : Nat} (ha : a < 18446744073709551616) (hb : b < 18446744073709551616) : lN a = lN b ↔ a = b := ⟨fun h => by have := congrArg un h; rwa [un_l ha, un_l hb] at this, fun h => by rw [h]⟩
theorem bits_ok {G : Gt} {d k : Nat} {h : AH} {K : Outcome → AH → Prop} (hk : k < 16) (kk : K (.returned (some (.int (nI (tbits k))))) h) : MW G d e_X19_bits [.long (lN k)] h K := by
  refine st_X19_bits fun X o hG hD hf => ?_
  unfold tbits at kk
  refine k_X19_bits_0 o (fun c => ?_) (fun c => ?_)
  · have c : k ≠ 2 := fun q => c (by rw [q]; rfl)
    rw [if_neg c] at kk
    refine k_X19_bits_13 o (fun c => ?_) (fun c => ?_)
    · have c : k ≠ 3 := fun q => c (by rw [q]; rfl)
      rw [if_neg c] at kk
      refine k_X19_bits_26 o (fun c => ?_) (fun c => ?_)
      · have c : k ≠ 4 := fun q => c (by rw [q]; rfl)
        rw [if_neg c] at kk
        refine k_X19_bits_40 o ?_
        exact k_X19_bits_41 o kk
      · rw [if_pos ((lN_iff (b := 4) (by omega) (by omega)).mp c)] at kk
        refine k_X19_bits_34 o ?_
        exact k_X19_bits_41 o kk
    · rw [if_pos ((lN_iff (b := 3) (by omega) (by omega)).mp c)] at kk
      refine k_X19_bits_21 o ?_
      exact k_X19_bits_41 o kk
  · rw [if_pos ((lN_iff (b := 2) (by omega) (by omega)).mp c)] at kk
    refine k_X19_bits_8 o ?_
    exact k_X19_bits_41 o kk
/-- whether a number is one of a type -/
def wfit (k : Nat) (H L : Int64) : Bool := k == 4 || (un H == 0 && (k == 3 || decide (un L < 256)))
theorem fits_ok {G : Gt} {d w k : Nat} {H L : Int64} {b : Bool} {h : AH} {K : Outcome → AH → Prop} (hw : RW h w H L b) (hk : k < 16) (kk : K (.returned (some (.int (bI (!b && wfit k H L))))) h) : MW G d e_X19_fits [.ref w, .long (lN k)] h K := by
  refine st_X19_fits fun X o hG hD hf => ?_
  obtain ⟨t, e1, e2, e3⟩ := hw
  unfold wfit at kk
  refine k_X19_fits_0 o (fun c => ?_) (fun c => ?_)
  · have c : b = true := by cases b with
      | true => rfl
      | false => exact absurd rfl c
    subst c
    refine k_X19_fits_48 o ?_
    exact k_X19_fits_49 o kk
  have c := bI_0.mp c
  subst c
  simp only [Bool.not_false, Bool.true_and] at kk
  refine k_X19_fits_7 o (fun c => ?_) (fun c => ?_)
  · have c := (lN_iff (b := 4) (by omega) (by omega)).mp c
    subst c
    refine k_X19_fits_44 o ?_
    exact k_X19_fits_49 o kk
  have c4 : (k == 4) = false := by rw [beq_eq_false_iff_ne]; exact fun q => c (by rw [q]; rfl)
  rw [c4, Bool.false_or] at kk
  refine k_X19_fits_15 o (fun c => ?_) (fun c => ?_)
  · have c : (un H == 0) = false := by rw [beq_eq_false_iff_ne]; exact fun q => c (un_inj q)
    rw [c, Bool.false_and] at kk
    refine k_X19_fits_48 o ?_
    exact k_X19_fits_49 o kk
  have c5 : (un H == 0) = true := by rw [c]; rfl
  rw [c5, Bool.true_and] at kk
  refine k_X19_fits_24 o (fun c => ?_) (fun c => ?_)
  · have c := (lN_iff (b := 3) (by omega) (by omega)).mp c
    subst c
    refine k_X19_fits_44 o ?_
    exact k_X19_fits_49 o kk
  have c6 : (k == 3) = false := by rw [beq_eq_false_iff_ne]; exact fun q => c (by rw [q]; rfl)
  rw [c6, Bool.false_or] at kk
  have e : un ((L.toUInt64 >>> ((nI 8).toInt64.toUInt64 &&& Int64.toUInt64 63)).toInt64) = un L / 256 := by rw [un_ushr _ (by omega), Nat.shiftRight_eq_div_pow]
  refine k_X19_fits_32 o (fun c => ?_) (fun c => ?_)
  · have c : ¬ (un L < 256) := fun q => c (un_inj (by rw [e]; exact Nat.div_eq_of_lt q))
    rw [decide_eq_false c] at kk
    refine k_X19_fits_48 o ?_
    exact k_X19_fits_49 o kk
  · have c : un L < 256 := by
      have := congrArg un c
      rw [e] at this
      have h0 : un (0 : Int64) = 0 := rfl
      omega
    rw [decide_eq_true c] at kk
    refine k_X19_fits_44 o ?_
    exact k_X19_fits_49 o kk
/-- what goes beyond a type's bits is lost -/
def wcutH (k : Nat) (H : Int64) : Int64 := if k = 4 then H else 0
def wcutL (k : Nat) (L : Int64) : Int64 := if k = 2 then L &&& 255 else L
theorem cut_ok {G : Gt} {d w k : Nat} {H L : Int64} {b : Bool} {h : AH} {K : Outcome → AH → Prop} (hw : RW h w H L b) (hk : k < 16) (kk : ∀ h', Fq WW h h' → RW h' w (wcutH k H) (wcutL k L) b → K (.returned none) h') : MW G d e_X19_cut [.ref w, .long (lN k)] h K := by
  refine st_X19_cut fun X o hG hD hf => ?_
  have fin : ∀ h1, Fq WW h h1 → RW h1 w (wcutH k H) L b → V X K 13 [.ref w, .long (lN k), nov] [] h1 := fun h1 f1 ⟨t1, i1, i2, i3⟩ => by
    refine k_X19_cut_13 o (fun c => ?_) (fun c => ?_)
    · have c : k ≠ 2 := fun q => c (by rw [q]; rfl)
      refine k_X19_cut_33 o ?_
      exact kk _ f1 ⟨t1, i1, by unfold wcutL; rw [if_neg c]; exact i2, i3⟩
    · have c := (lN_iff (b := 2) (by omega) (by omega)).mp c
      refine k_X19_cut_21 o ?_
      refine k_X19_cut_33 o ?_
      exact kk _ (f1.sJ (Or.inr (Or.inl rfl))) ⟨t1, by simp [n_sI, z_sI, tag_sI, I_sI, J_sI, R_sI, EI_sI, EJ_sI, ER_sI, n_sJ, z_sJ, tag_sJ, I_sJ, J_sJ, R_sJ, EI_sJ, EJ_sJ, ER_sJ, n_sR, z_sR, tag_sR, I_sR, J_sR, R_sR, EI_sR, EJ_sR, ER_sR, n_sEI, z_sEI, tag_sEI, I_sEI, J_sEI, R_sEI, EI_sEI, EJ_sEI, ER_sEI, n_sEJ, z_sEJ, tag_sEJ, I_sEJ, J_sEJ, R_sEJ, EI_sEJ, EJ_sEJ, ER_sEJ, n_sER, z_sER, tag_sER, I_sER, J_sER, R_sER, EI_sER, EJ_sER, ER_sER, n_nw, z_nw, tag_nw, I_nw, J_nw, R_nw, EI_nw, EJ_nw, ER_nw]; exact i1, by unfold wcutL; rw [if_pos c]; simp [n_sI, z_sI, tag_sI, I_sI, J_sI, R_sI, EI_sI, EJ_sI, ER_sI, n_sJ, z_sJ, tag_sJ, I_sJ, J_sJ, R_sJ, EI_sJ, EJ_sJ, ER_sJ, n_sR, z_sR, tag_sR, I_sR, J_sR, R_sR, EI_sR, EJ_sR, ER_sR, n_sEI, z_sEI, tag_sEI, I_sEI, J_sEI, R_sEI, EI_sEI, EJ_sEI, ER_sEI, n_sEJ, z_sEJ, tag_sEJ, I_sEJ, J_sEJ, R_sEJ, EI_sEJ, EJ_sEJ, ER_sEJ, n_sER, z_sER, tag_sER, I_sER, J_sER, R_sER, EI_sER, EJ_sER, ER_sER, n_nw, z_nw, tag_nw, I_nw, J_nw, R_nw, EI_nw, EJ_nw, ER_nw], i3⟩
  obtain ⟨t, e1, e2, e3⟩ := hw
  refine k_X19_cut_0 o (fun c => ?_) (fun c => ?_)
  · have c := (lN_iff (b := 4) (by omega) (by omega)).mp c
    exact fin h (Fq.refl h) ⟨t, by unfold wcutH; rw [if_pos c]; exact e1, e2, e3⟩
  · have c : k ≠ 4 := fun q => c (by rw [q]; rfl)
    refine k_X19_cut_8 o ?_
    exact fin _ ((Fq.refl h).sJ (Or.inl rfl)) ⟨t, by unfold wcutH; rw [if_neg c]; simp [n_sI, z_sI, tag_sI, I_sI, J_sI, R_sI, EI_sI, EJ_sI, ER_sI, n_sJ, z_sJ, tag_sJ, I_sJ, J_sJ, R_sJ, EI_sJ, EJ_sJ, ER_sJ, n_sR, z_sR, tag_sR, I_sR, J_sR, R_sR, EI_sR, EJ_sR, ER_sR, n_sEI, z_sEI, tag_sEI, I_sEI, J_sEI, R_sEI, EI_sEI, EJ_sEI, ER_sEI, n_sEJ, z_sEJ, tag_sEJ, I_sEJ, J_sEJ, R_sEJ, EI_sEJ, EJ_sEJ, ER_sEJ, n_sER, z_sER, tag_sER, I_sER, J_sER, R_sER, EI_sER, EJ_sER, ER_sER, n_nw, z_nw, tag_nw, I_nw, J_nw, R_nw, EI_nw, EJ_nw, ER_nw], by simp [n_sI, z_sI, tag_sI, I_sI, J_sI, R_sI, EI_sI, EJ_sI, ER_sI, n_sJ, z_sJ, tag_sJ, I_sJ, J_sJ, R_sJ, EI_sJ, EJ_sJ, ER_sJ, n_sR, z_sR, tag_sR, I_sR, J_sR, R_sR, EI_sR, EJ_sR, ER_sR, n_sEI, z_sEI, tag_sEI, I_sEI, J_sEI, R_sEI, EI_sEI, EJ_sEI, ER_sEI, n_sEJ, z_sEJ, tag_sEJ, I_sEJ, J_sEJ, R_sEJ, EI_sEJ, EJ_sEJ, ER_sEJ, n_sER, z_sER, tag_sER, I_sER, J_sER, R_sER, EI_sER, EJ_sER, ER_sER, n_nw, z_nw, tag_nw, I_nw, J_nw, R_nw, EI_nw, EJ_nw, ER_nw]; exact e2, e3⟩
