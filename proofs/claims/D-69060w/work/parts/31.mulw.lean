set_option maxHeartbeats 400000
/-! the upper half without signs; products of 128 bits -/
theorem un_msk (a b : Int64) : un ((a >>> ((nI 63).toInt64 &&& 63)) &&& b) = if un a < 9223372036854775808 then 0 else un b := by
  have e : (a >>> ((nI 63).toInt64 &&& 63)).toInt = a.toInt / 9223372036854775808 := by rw [toInt_shr _ (by omega)]; rfl
  have hb := un_lt b
  have ha := un_lt a
  generalize hs : a >>> ((nI 63).toInt64 &&& 63) = s at *
  have q := toInt_un s
  have q2 := toInt_un a
  have := un_lt s
  rw [un_and]
  split
  · next c =>
    have : un s = 0 := by rw [if_pos c] at q2; split at q <;> omega
    rw [this, Nat.zero_and]
  · next c =>
    have : un s = 2 ^ 64 - 1 := by rw [if_neg c] at q2; split at q <;> omega
    rw [this, Nat.and_comm, Nat.and_two_pow_sub_one_of_lt_two_pow hb]
theorem mul_lt64 {a b : Nat} (ha : a < 18446744073709551616) (hb : b < 18446744073709551616) : a * b ≤ 340282366920938463426481119284349108225 :=
  Nat.le_trans (Nat.mul_le_mul (show a ≤ 18446744073709551615 by omega) (show b ≤ 18446744073709551615 by omega)) (Nat.le_of_ble_eq_true rfl)
theorem up_fin {p A B u d : Nat} {t : Int} (hd : d < 18446744073709551616) (hu : u < 18446744073709551616) (hA : A < 18446744073709551616) (hB : B < 18446744073709551616) (hq : t = (u : Int) ∨ t = (u : Int) - 18446744073709551616) (ht : t = (d : Int) - A - B ∨ t = (d : Int) - A - B + 18446744073709551616) : ((u + A) % 18446744073709551616 + B) % 18446744073709551616 = d := by
  clear p
  rcases hq with hq | hq <;> rcases ht with ht | ht <;> omega
theorem upper_ok {G : Gt} {d : Nat} {h : AH} {K : Outcome → AH → Prop} {x y : Int64} (hd : 1 ≤ d) (kk : ∀ r : Int64, un r = un x * un y / 18446744073709551616 → K (.returned (some (.long (r)))) h) : MW G d e_X19_upper [.long x, .long y] h K := by
  refine st_X19_upper fun X o hG hD hf => ?_
  refine k_X19_upper_0 o ?_
  refine multiplyHigh_ok fun s hs => ?_
  refine k_X19_upper_5 o (kk _ ?_)
  rw [un_add, un_add, un_msk, un_msk]
  have q : s.toInt = (un s : Int) ∨ s.toInt = (un s : Int) - 18446744073709551616 := by
    rw [toInt_un]; split
    · exact Or.inl rfl
    · exact Or.inr rfl
  have qx := toInt_un x
  have qy := toInt_un y
  have a1 := un_lt x
  have a2 := un_lt y
  have a3 := un_lt s
  have a4 := mul_lt64 a1 a2
  have ep : ((un x * un y : Nat) : Int) = (un x : Int) * (un y : Int) := Int.natCast_mul ..
  have ed : ((un x * un y / 18446744073709551616 : Nat) : Int) = ((un x * un y : Nat) : Int) / 18446744073709551616 := Int.natCast_ediv ..
  have hd2 : un x * un y / 18446744073709551616 < 18446744073709551616 := by
    clear ep ed hs q
    generalize un x * un y = p at *
    omega
  clear hd kk
  by_cases c1 : un x < 9223372036854775808 <;> by_cases c2 : un y < 9223372036854775808
  · rw [if_pos c1] at qx
    rw [if_pos c2] at qy
    rw [if_pos c1, if_pos c2]
    refine up_fin (p := 0) hd2 a3 (by omega) (by omega) q (Or.inl ?_)
    rw [hs, qx, qy, ed, ep]
    generalize (un x : Int) * (un y : Int) = p
    omega
  · rw [if_pos c1] at qx
    rw [if_neg c2] at qy
    rw [if_pos c1, if_neg c2]
    refine up_fin (p := 0) hd2 a3 (by omega) a1 q (Or.inl ?_)
    rw [hs, qx, qy, ed, ep, Int.mul_sub]
    generalize (un x : Int) * (un y : Int) = p
    generalize (un x : Int) = u
    omega
  · rw [if_neg c1] at qx
    rw [if_pos c2] at qy
    rw [if_neg c1, if_pos c2]
    refine up_fin (p := 0) hd2 a3 a2 (by omega) q (Or.inl ?_)
    rw [hs, qx, qy, ed, ep, Int.sub_mul]
    generalize (un x : Int) * (un y : Int) = p
    generalize (un y : Int) = u
    omega
  · rw [if_neg c1] at qx
    rw [if_neg c2] at qy
    rw [if_neg c1, if_neg c2]
    refine up_fin (p := 0) hd2 a3 a2 a1 q (Or.inr ?_)
    rw [hs, qx, qy, ed, ep, Int.sub_mul, Int.mul_sub, Int.mul_sub]
    generalize (un x : Int) * (un y : Int) = p
    generalize (un y : Int) = u
    generalize (un x : Int) = v
    omega
theorem w128_mul (A B C D : Nat) : (A * 18446744073709551616 + B) * (C * 18446744073709551616 + D) = A * C * 340282366920938463463374607431768211456 + (A * D + B * C) * 18446744073709551616 + B * D := by
  rw [Nat.add_mul, Nat.mul_add, Nat.mul_add]
  have : A * 18446744073709551616 * (C * 18446744073709551616) = A * C * 340282366920938463463374607431768211456 := by
    rw [Nat.mul_assoc, Nat.mul_left_comm 18446744073709551616 C, ← Nat.mul_assoc]
  rw [this, Nat.mul_right_comm A 18446744073709551616 D, ← Nat.mul_assoc B C, Nat.add_mul]; omega
theorem mul_far {p1 p2 p3 p4 : Nat} (h : 1 ≤ p4 ∨ 18446744073709551616 ≤ p1 ∨ 18446744073709551616 ≤ p2) : 340282366920938463463374607431768211456 ≤ p4 * 340282366920938463463374607431768211456 + (p1 + p2) * 18446744073709551616 + p3 := by
  rcases h with h | h | h <;> omega
theorem mul_near {p1 p2 p3 p4 t c u lo : Nat} (h4 : p4 = 0) (h12 : p1 = 0 ∨ p2 = 0) (b1 : p1 < 18446744073709551616) (b2 : p2 < 18446744073709551616) (b3 : p3 ≤ 340282366920938463426481119284349108225) (ht : t = p3 / 18446744073709551616) (hc : c = (p1 % 18446744073709551616 + p2 % 18446744073709551616) % 18446744073709551616) (hu : u = (t + c) % 18446744073709551616) (hl : lo = p3 % 18446744073709551616) : (¬ u < t → u * 18446744073709551616 + lo = p4 * 340282366920938463463374607431768211456 + (p1 + p2) * 18446744073709551616 + p3) ∧ (u < t ↔ 340282366920938463463374607431768211456 ≤ p4 * 340282366920938463463374607431768211456 + (p1 + p2) * 18446744073709551616 + p3) := by
  have hc : c = p1 + p2 := by rcases h12 with q | q <;> subst q <;> omega
  have hcl : c < 18446744073709551616 := by rcases h12 with q | q <;> subst q <;> omega
  rw [← hc, h4]
  clear h12 b1 b2 h4
  have e : p3 = t * 18446744073709551616 + lo := by omega
  have hl2 : lo < 18446744073709551616 := by omega
  have ht2 : t < 18446744073709551616 := by omega
  clear ht hl b3
  subst e
  have hu2 : (u = t + c ∧ t + c < 18446744073709551616) ∨ (u = t + c - 18446744073709551616 ∧ 18446744073709551616 ≤ t + c) := by omega
  clear hu
  constructor
  · intro q; rcases hu2 with ⟨e, l⟩ | ⟨e, l⟩ <;> omega
  · rcases hu2 with ⟨e, l⟩ | ⟨e, l⟩ <;> omega
theorem dv_ge {r p : Nat} (h : r = p / 18446744073709551616) (h2 : r ≠ 0) : 18446744073709551616 ≤ p := by omega
theorem dv_lt {r p : Nat} (h : r = p / 18446744073709551616) (h2 : r = 0) : ¬ 18446744073709551616 ≤ p := by omega
theorem multiply_ok {G : Gt} {d : Nat} {h : AH} {K : Outcome → AH → Prop} {w : Nat} {H L H' L' : Int64} {b : Bool} (hw : RW h w H L b) (hd : 3 ≤ d)
    (kk : ∀ h' H2 L2 b2, Fq WW h h' → RW h' w H2 L2 b2 → (b2 = false → w128 H2 L2 = w128 H L * w128 H' L') → (b2 = true ↔ 340282366920938463463374607431768211456 ≤ w128 H L * w128 H' L') → K (.returned none) h') : MW G d e_X19_multiply [.ref w, .long H', .long L'] h K := by
  refine st_X19_multiply fun X o hG hD hf => ?_
  obtain ⟨t, e1, e2, e3⟩ := hw
  have a1 := un_lt H
  have a2 := un_lt L
  have a3 := un_lt H'
  have a4 := un_lt L'
  have eN : w128 H L * w128 H' L' = _ := w128_mul (un H) (un L) (un H') (un L')
  have m1 := mul_lt64 a1 a4
  have m2 := mul_lt64 a2 a3
  have m3 := mul_lt64 a2 a4
  have z1 : un H ≠ 0 ∧ un H' ≠ 0 → 1 ≤ un H * un H' := fun q => Nat.mul_pos (Nat.pos_of_ne_zero q.1) (Nat.pos_of_ne_zero q.2)
  have z2 : ¬ (un H ≠ 0 ∧ un H' ≠ 0) → un H * un H' = 0 ∧ (un H * un L' = 0 ∨ un L * un H' = 0) := fun q => by
    by_cases c : un H = 0
    · rw [c]; simp
    · have : un H' = 0 := by grind
      rw [this]; simp
  have fin : ∀ far : Bool, (far = true ↔ (un H ≠ 0 ∧ un H' ≠ 0) ∨ 18446744073709551616 ≤ un H * un L' ∨ 18446744073709551616 ≤ un L * un H') → V X K 46 [.ref w, .long H', nov, .long L', nov, nov, nov, nov, nov, nov] [.int (bI far)] h := fun far hfar => by
    refine k_X19_multiply_46 o ?_
    refine upper_ok (by omega) fun top htop => ?_
    generalize hc : H * L' + L * H' = cr
    have ec : un cr = (un H * un L' % 18446744073709551616 + un L * un H' % 18446744073709551616) % 18446744073709551616 := by rw [← hc, un_add, un_mul, un_mul]
    have el : un (L * L') = un L * un L' % 18446744073709551616 := un_mul L L'
    have eh : un (top + cr) = (un top + un cr) % 18446744073709551616 := un_add top cr
    have f1 : Fq WW h ((h.sJ 2305 w (L * L')).sJ 2304 w (top + cr)) := ((Fq.refl h).sJ (Or.inr (Or.inl rfl))).sJ (Or.inl rfl)
    have r1 : ∀ b2, RW (((h.sJ 2305 w (L * L')).sJ 2304 w (top + cr)).sI 2306 w (bI b2)) w (top + cr) (L * L') b2 := fun b2 => ⟨f1.1.tag t, by simp [n_sI, z_sI, tag_sI, I_sI, J_sI, R_sI, EI_sI, EJ_sI, ER_sI, n_sJ, z_sJ, tag_sJ, I_sJ, J_sJ, R_sJ, EI_sJ, EJ_sJ, ER_sJ, n_sR, z_sR, tag_sR, I_sR, J_sR, R_sR, EI_sR, EJ_sR, ER_sR, n_sEI, z_sEI, tag_sEI, I_sEI, J_sEI, R_sEI, EI_sEI, EJ_sEI, ER_sEI, n_sEJ, z_sEJ, tag_sEJ, I_sEJ, J_sEJ, R_sEJ, EI_sEJ, EJ_sEJ, ER_sEJ, n_sER, z_sER, tag_sER, I_sER, J_sER, R_sER, EI_sER, EJ_sER, ER_sER, n_nw, z_nw, tag_nw, I_nw, J_nw, R_nw, EI_nw, EJ_nw, ER_nw], by simp [n_sI, z_sI, tag_sI, I_sI, J_sI, R_sI, EI_sI, EJ_sI, ER_sI, n_sJ, z_sJ, tag_sJ, I_sJ, J_sJ, R_sJ, EI_sJ, EJ_sJ, ER_sJ, n_sR, z_sR, tag_sR, I_sR, J_sR, R_sR, EI_sR, EJ_sR, ER_sR, n_sEI, z_sEI, tag_sEI, I_sEI, J_sEI, R_sEI, EI_sEI, EJ_sEI, ER_sEI, n_sEJ, z_sEJ, tag_sEJ, I_sEJ, J_sEJ, R_sEJ, EI_sEJ, EJ_sEJ, ER_sEJ, n_sER, z_sER, tag_sER, I_sER, J_sER, R_sER, EI_sER, EJ_sER, ER_sER, n_nw, z_nw, tag_nw, I_nw, J_nw, R_nw, EI_nw, EJ_nw, ER_nw], by simp [n_sI, z_sI, tag_sI, I_sI, J_sI, R_sI, EI_sI, EJ_sI, ER_sI, n_sJ, z_sJ, tag_sJ, I_sJ, J_sJ, R_sJ, EI_sJ, EJ_sJ, ER_sJ, n_sR, z_sR, tag_sR, I_sR, J_sR, R_sR, EI_sR, EJ_sR, ER_sR, n_sEI, z_sEI, tag_sEI, I_sEI, J_sEI, R_sEI, EI_sEI, EJ_sEI, ER_sEI, n_sEJ, z_sEJ, tag_sEJ, I_sEJ, J_sEJ, R_sEJ, EI_sEJ, EJ_sEJ, ER_sEJ, n_sER, z_sER, tag_sER, I_sER, J_sER, R_sER, EI_sER, EJ_sER, ER_sER, n_nw, z_nw, tag_nw, I_nw, J_nw, R_nw, EI_nw, EJ_nw, ER_nw]⟩
    rw [eN] at kk
    refine k_X19_multiply_71 o (fun c => ?_) (fun c => ?_)
    · have c : far = true := by
        cases far with
        | true => rfl
        | false => exact absurd rfl c
      refine k_X19_multiply_110 o ?_
      refine k_X19_multiply_115 o ?_
      refine kk _ (top + cr) (L * L') true (f1.sI (Or.inr (Or.inr rfl))) (r1 true) (fun q => nomatch q) ⟨fun _ => ?_, fun _ => rfl⟩
      rcases hfar.mp c with q | q | q
      · exact mul_far (Or.inl (z1 q))
      · exact mul_far (Or.inr (Or.inl q))
      · exact mul_far (Or.inr (Or.inr q))
    · have c : far = false := bI_0.mp c
      have nf : ¬ ((un H ≠ 0 ∧ un H' ≠ 0) ∨ 18446744073709551616 ≤ un H * un L' ∨ 18446744073709551616 ≤ un L * un H') := fun q => by rw [hfar.mpr q] at c; cases c
      have q := z2 fun q => nf (Or.inl q)
      have q2 : ¬ 18446744073709551616 ≤ un H * un L' := fun q => nf (Or.inr (Or.inl q))
      have q3 : ¬ 18446744073709551616 ≤ un L * un H' := fun q => nf (Or.inr (Or.inr q))
      have t1 := f1.1.tag t
      have g1 : ((h.sJ 2305 w (L * L')).sJ 2304 w (top + cr)).J 2304 w = top + cr := by simp [n_sI, z_sI, tag_sI, I_sI, J_sI, R_sI, EI_sI, EJ_sI, ER_sI, n_sJ, z_sJ, tag_sJ, I_sJ, J_sJ, R_sJ, EI_sJ, EJ_sJ, ER_sJ, n_sR, z_sR, tag_sR, I_sR, J_sR, R_sR, EI_sR, EJ_sR, ER_sR, n_sEI, z_sEI, tag_sEI, I_sEI, J_sEI, R_sEI, EI_sEI, EJ_sEI, ER_sEI, n_sEJ, z_sEJ, tag_sEJ, I_sEJ, J_sEJ, R_sEJ, EI_sEJ, EJ_sEJ, ER_sEJ, n_sER, z_sER, tag_sER, I_sER, J_sER, R_sER, EI_sER, EJ_sER, ER_sER, n_nw, z_nw, tag_nw, I_nw, J_nw, R_nw, EI_nw, EJ_nw, ER_nw]
      refine k_X19_multiply_98 o ?_
      refine carries_ok (by omega) ?_
      have fin2 : ∀ b2 : Bool, (b2 = true ↔ un (top + cr) < un top) → V X K 115 [.ref w, .long H', nov, .long L', nov, .int (bI far), .long cr, nov, .long top, nov] [.int (bI b2), .ref w] ((h.sJ 2305 w (L * L')).sJ 2304 w (top + cr)) := fun b2 hb2 => by
        have z := bI_or b2
        refine k_X19_multiply_115 o ?_
        refine kk _ (top + cr) (L * L') b2 (f1.sI (Or.inr (Or.inr rfl))) (r1 b2) (fun hb => ?_) ?_
        · have : ¬ un (top + cr) < un top := fun q => by rw [hb2.mpr q] at hb; cases hb
          exact (mul_near q.1 q.2 (Nat.not_le.mp q2) (Nat.not_le.mp q3) m3 htop ec eh el).1 this
        · rw [hb2]
          exact (mul_near q.1 q.2 (Nat.not_le.mp q2) (Nat.not_le.mp q3) m3 htop ec eh el).2
      refine k_X19_multiply_107 o (fun c2 => ?_) (fun c2 => ?_)
      · have c2 := bI_0.mp c2
        refine k_X19_multiply_114 o ?_
        exact fin2 false ⟨fun q => (nomatch q), fun q => by rw [decide_eq_true q] at c2; cases c2⟩
      · have c2 : un (top + cr) < un top := by
          by_cases q : un (top + cr) < un top
          · exact q
          · exact absurd (by rw [decide_eq_false q]; rfl) c2
        refine k_X19_multiply_110 o ?_
        exact fin2 true ⟨fun _ => c2, fun _ => rfl⟩
  have l15 : ¬ (un H ≠ 0 ∧ un H' ≠ 0) → V X K 15 [.ref w, .long H', nov, .long L', nov, nov, nov, nov, nov, nov] [] h := fun q => by
    refine k_X19_multiply_15 o ?_
    refine upper_ok (by omega) fun r hr => ?_
    refine k_X19_multiply_23 o (fun c => ?_) (fun c => ?_)
    · have c : 18446744073709551616 ≤ un H * un L' := by
        have : un r ≠ 0 := fun q => c (un_inj q)
        exact dv_ge hr this
      refine k_X19_multiply_41 o ?_
      exact fin true ⟨fun _ => Or.inr (Or.inl c), fun _ => rfl⟩
    have c1 : ¬ 18446744073709551616 ≤ un H * un L' := by
      have : un r = 0 := by rw [c]; rfl
      exact dv_lt hr this
    refine k_X19_multiply_28 o ?_
    refine upper_ok (by omega) fun r hr => ?_
    refine k_X19_multiply_36 o (fun c => ?_) (fun c => ?_)
    · have c2 : ¬ 18446744073709551616 ≤ un L * un H' := by
        have : un r = 0 := by rw [c]; rfl
        exact dv_lt hr this
      refine k_X19_multiply_45 o ?_
      exact fin false ⟨fun q => (nomatch q), fun z => by rcases z with z | z | z <;> contradiction⟩
    · have c : 18446744073709551616 ≤ un L * un H' := by
        have : un r ≠ 0 := fun q => c (un_inj q)
        exact dv_ge hr this
      refine k_X19_multiply_41 o ?_
      exact fin true ⟨fun _ => Or.inr (Or.inr c), fun _ => rfl⟩
  refine k_X19_multiply_0 o (fun c => ?_) (fun c => ?_)
  · exact l15 fun q => q.1 (by rw [c]; rfl)
  · have c : un H ≠ 0 := fun q => c (un_inj q)
    refine k_X19_multiply_9 o (fun c2 => ?_) (fun c2 => ?_)
    · have c2 : un H' ≠ 0 := fun q => c2 (un_inj q)
      refine k_X19_multiply_41 o ?_
      exact fin true ⟨fun _ => Or.inl ⟨c, c2⟩, fun _ => rfl⟩
    · exact l15 fun q => q.2 (by rw [c2]; rfl)
