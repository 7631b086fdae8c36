theorem or_add {a b k : Nat} (h : b < 2 ^ k) : a * 2 ^ k ||| b = a * 2 ^ k + b := by rw [← Nat.shiftLeft_eq]; exact (Nat.shiftLeft_add_eq_or_of_lt h a).symm
theorem pq64 {n : Nat} (h : n ≤ 64) : 2 ^ (64 - n) * 2 ^ n = 18446744073709551616 := by rw [← Nat.pow_add, show 64 - n + n = 64 by omega]
theorem up_ok {G : Gt} {d w n : Nat} {H L : Int64} {b : Bool} {h : AH} {K : Outcome → AH → Prop} (hw : RW h w H L b) (hn : n < 128)
    (kk : ∀ h' H2 L2, Fq WW h h' → RW h' w H2 L2 b → w128 H2 L2 = (w128 H L * 2 ^ n) % 340282366920938463463374607431768211456 → K (.returned none) h') : MW G d e_X19_up [.ref w, .int (nI n)] h K := by
  refine st_X19_up fun X o hG hD hf => ?_
  have hw0 := hw
  obtain ⟨t, e1, e2, e3⟩ := hw
  have a1 := un_lt H
  have a2 := un_lt L
  refine k_X19_up_0 o (fun c => ?_) (fun c => ?_)
  · have hn0 : 0 < n := by
      rcases Nat.eq_zero_or_pos n with q | q
      · subst q; exact absurd rfl c
      · exact q
    refine k_X19_up_5 o (fun c => ?_) (fun c => ?_)
    · have c := (nI_leI (by omega) (by omega)).mp c
      refine k_X19_up_24 o ?_
      rw [nI_sub (by omega)]
      refine k_X19_up_40 o (fun _ => ?_) (fun q => absurd ((nI_leI (by omega) (by omega)).mpr c) q)
      refine k_X19_up_54 o ?_
      refine k_X19_up_60 o ?_
      refine kk _ _ _ (((Fq.refl h).sJ (Or.inl rfl)).sJ (Or.inr (Or.inl rfl))) ⟨t, by simp [n_sI, z_sI, tag_sI, I_sI, J_sI, R_sI, EI_sI, EJ_sI, ER_sI, n_sJ, z_sJ, tag_sJ, I_sJ, J_sJ, R_sJ, EI_sJ, EJ_sJ, ER_sJ, n_sR, z_sR, tag_sR, I_sR, J_sR, R_sR, EI_sR, EJ_sR, ER_sR, n_sEI, z_sEI, tag_sEI, I_sEI, J_sEI, R_sEI, EI_sEI, EJ_sEI, ER_sEI, n_sEJ, z_sEJ, tag_sEJ, I_sEJ, J_sEJ, R_sEJ, EI_sEJ, EJ_sEJ, ER_sEJ, n_sER, z_sER, tag_sER, I_sER, J_sER, R_sER, EI_sER, EJ_sER, ER_sER, n_nw, z_nw, tag_nw, I_nw, J_nw, R_nw, EI_nw, EJ_nw, ER_nw]; rfl, by simp [n_sI, z_sI, tag_sI, I_sI, J_sI, R_sI, EI_sI, EJ_sI, ER_sI, n_sJ, z_sJ, tag_sJ, I_sJ, J_sJ, R_sJ, EI_sJ, EJ_sJ, ER_sJ, n_sR, z_sR, tag_sR, I_sR, J_sR, R_sR, EI_sR, EJ_sR, ER_sR, n_sEI, z_sEI, tag_sEI, I_sEI, J_sEI, R_sEI, EI_sEI, EJ_sEI, ER_sEI, n_sEJ, z_sEJ, tag_sEJ, I_sEJ, J_sEJ, R_sEJ, EI_sEJ, EJ_sEJ, ER_sEJ, n_sER, z_sER, tag_sER, I_sER, J_sER, R_sER, EI_sER, EJ_sER, ER_sER, n_nw, z_nw, tag_nw, I_nw, J_nw, R_nw, EI_nw, EJ_nw, ER_nw]; rfl, e3⟩ ?_
      unfold w128
      have pq := pq64 (n := n) (by omega)
      have hq := Nat.two_pow_pos (64 - n)
      have hp := Nat.two_pow_pos n
      have lt1 : un L / 2 ^ (64 - n) < 2 ^ n := (Nat.div_lt_iff_lt_mul hq).mpr (by rw [Nat.mul_comm, pq]; exact a2)
      have m1 : (un H * 2 ^ n) % 18446744073709551616 = (un H % 2 ^ (64 - n)) * 2 ^ n := by rw [← pq, Nat.mul_mod_mul_right]
      rw [un_or, un_shl _ (by omega), un_ushr _ (by omega), un_shl _ (by omega), Nat.shiftLeft_eq, Nat.shiftLeft_eq, Nat.shiftRight_eq_div_pow, m1, or_add lt1, ← m1]
      rcases up_nat (x := un H) (y := un L) pq hp hq with q | q
      · exact q
      · exact absurd ⟨a1, a2⟩ q
    · have c : 63 < n := by
        by_cases q : 63 < n
        · exact q
        · exact absurd ((nI_leI (by omega) (by omega)).mpr (by omega)) c
      refine k_X19_up_12 o ?_
      rw [nI_sub (by omega)]
      refine k_X19_up_40 o (fun q => absurd ((nI_leI (by omega) (by omega)).mp q) (by omega)) (fun _ => ?_)
      refine k_X19_up_50 o ?_
      refine k_X19_up_60 o ?_
      refine kk _ _ _ (((Fq.refl h).sJ (Or.inl rfl)).sJ (Or.inr (Or.inl rfl))) ⟨t, by simp [n_sI, z_sI, tag_sI, I_sI, J_sI, R_sI, EI_sI, EJ_sI, ER_sI, n_sJ, z_sJ, tag_sJ, I_sJ, J_sJ, R_sJ, EI_sJ, EJ_sJ, ER_sJ, n_sR, z_sR, tag_sR, I_sR, J_sR, R_sR, EI_sR, EJ_sR, ER_sR, n_sEI, z_sEI, tag_sEI, I_sEI, J_sEI, R_sEI, EI_sEI, EJ_sEI, ER_sEI, n_sEJ, z_sEJ, tag_sEJ, I_sEJ, J_sEJ, R_sEJ, EI_sEJ, EJ_sEJ, ER_sEJ, n_sER, z_sER, tag_sER, I_sER, J_sER, R_sER, EI_sER, EJ_sER, ER_sER, n_nw, z_nw, tag_nw, I_nw, J_nw, R_nw, EI_nw, EJ_nw, ER_nw]; rfl, by simp [n_sI, z_sI, tag_sI, I_sI, J_sI, R_sI, EI_sI, EJ_sI, ER_sI, n_sJ, z_sJ, tag_sJ, I_sJ, J_sJ, R_sJ, EI_sJ, EJ_sJ, ER_sJ, n_sR, z_sR, tag_sR, I_sR, J_sR, R_sR, EI_sR, EJ_sR, ER_sR, n_sEI, z_sEI, tag_sEI, I_sEI, J_sEI, R_sEI, EI_sEI, EJ_sEI, ER_sEI, n_sEJ, z_sEJ, tag_sEJ, I_sEJ, J_sEJ, R_sEJ, EI_sEJ, EJ_sEJ, ER_sEJ, n_sER, z_sER, tag_sER, I_sER, J_sER, R_sER, EI_sER, EJ_sER, ER_sER, n_nw, z_nw, tag_nw, I_nw, J_nw, R_nw, EI_nw, EJ_nw, ER_nw]; rfl, e3⟩ ?_
      unfold w128
      rw [un_shl _ (by omega), Nat.shiftLeft_eq, show un 0 = 0 from rfl, Nat.add_zero]
      have e : (2 : Nat) ^ n = 2 ^ (n - 64) * 18446744073709551616 := by rw [show (18446744073709551616 : Nat) = 2 ^ 64 from rfl, ← Nat.pow_add, show n - 64 + 64 = n by omega]
      rw [e, ← Nat.mul_assoc, show (340282366920938463463374607431768211456 : Nat) = 18446744073709551616 * 18446744073709551616 from rfl, Nat.mul_mod_mul_right, Nat.add_mul, Nat.mul_right_comm, Nat.add_comm, Nat.add_mul_mod_self_right]
  · have c : n = 0 := (nI_eq (b := 0) (by omega) (by omega)).mp c
    subst c
    refine k_X19_up_4 o ?_
    refine kk h H L (Fq.refl h) hw0 ?_
    unfold w128
    rw [Nat.pow_zero, Nat.mul_one, Nat.mod_eq_of_lt (by omega)]
theorem down_nat {P Q M x y : Nat} (hM : Q * P = M) (hP : 0 < P) (hy : y < M) : x / P * M + ((x % P) * Q + y / P) = (x * M + y) / P := by
  have e : x * M + y = (x / P * M + (x % P) * Q + y / P) * P + y % P := by
    have h1 := Nat.div_add_mod x P
    have h2 := Nat.div_add_mod y P
    calc x * M + y = (P * (x / P) + x % P) * M + y := by rw [h1]
      _ = P * (x / P) * M + x % P * (Q * P) + (P * (y / P) + y % P) := by rw [Nat.add_mul, hM, h2]
      _ = _ := by rw [Nat.add_mul, Nat.add_mul, Nat.mul_assoc (x % P), Nat.mul_comm (y / P), Nat.mul_right_comm (x / P) M P, Nat.mul_comm (x / P) P]; omega
  rw [e, Nat.mul_comm _ P, Nat.mul_add_div hP, Nat.div_eq_of_lt (Nat.mod_lt _ hP)]; omega
theorem down_ok {G : Gt} {d w n : Nat} {H L : Int64} {b : Bool} {h : AH} {K : Outcome → AH → Prop} (hw : RW h w H L b) (hn : n < 128)
    (kk : ∀ h' H2 L2, Fq WW h h' → RW h' w H2 L2 b → w128 H2 L2 = w128 H L / 2 ^ n → K (.returned none) h') : MW G d e_X19_down [.ref w, .int (nI n)] h K := by
  refine st_X19_down fun X o hG hD hf => ?_
  have hw0 := hw
  obtain ⟨t, e1, e2, e3⟩ := hw
  have a1 := un_lt H
  have a2 := un_lt L
  refine k_X19_down_0 o (fun c => ?_) (fun c => ?_)
  · have hn0 : 0 < n := by
      rcases Nat.eq_zero_or_pos n with q | q
      · subst q; exact absurd rfl c
      · exact q
    refine k_X19_down_5 o (fun c => ?_) (fun c => ?_)
    · have c := (nI_leI (by omega) (by omega)).mp c
      refine k_X19_down_24 o ?_
      rw [nI_sub (by omega)]
      refine k_X19_down_40 o (fun _ => ?_) (fun q => absurd ((nI_leI (by omega) (by omega)).mpr c) q)
      refine k_X19_down_54 o ?_
      refine k_X19_down_60 o ?_
      refine kk _ _ _ (((Fq.refl h).sJ (Or.inr (Or.inl rfl))).sJ (Or.inl rfl)) ⟨t, by simp [n_sI, z_sI, tag_sI, I_sI, J_sI, R_sI, EI_sI, EJ_sI, ER_sI, n_sJ, z_sJ, tag_sJ, I_sJ, J_sJ, R_sJ, EI_sJ, EJ_sJ, ER_sJ, n_sR, z_sR, tag_sR, I_sR, J_sR, R_sR, EI_sR, EJ_sR, ER_sR, n_sEI, z_sEI, tag_sEI, I_sEI, J_sEI, R_sEI, EI_sEI, EJ_sEI, ER_sEI, n_sEJ, z_sEJ, tag_sEJ, I_sEJ, J_sEJ, R_sEJ, EI_sEJ, EJ_sEJ, ER_sEJ, n_sER, z_sER, tag_sER, I_sER, J_sER, R_sER, EI_sER, EJ_sER, ER_sER, n_nw, z_nw, tag_nw, I_nw, J_nw, R_nw, EI_nw, EJ_nw, ER_nw]; rfl, by simp [n_sI, z_sI, tag_sI, I_sI, J_sI, R_sI, EI_sI, EJ_sI, ER_sI, n_sJ, z_sJ, tag_sJ, I_sJ, J_sJ, R_sJ, EI_sJ, EJ_sJ, ER_sJ, n_sR, z_sR, tag_sR, I_sR, J_sR, R_sR, EI_sR, EJ_sR, ER_sR, n_sEI, z_sEI, tag_sEI, I_sEI, J_sEI, R_sEI, EI_sEI, EJ_sEI, ER_sEI, n_sEJ, z_sEJ, tag_sEJ, I_sEJ, J_sEJ, R_sEJ, EI_sEJ, EJ_sEJ, ER_sEJ, n_sER, z_sER, tag_sER, I_sER, J_sER, R_sER, EI_sER, EJ_sER, ER_sER, n_nw, z_nw, tag_nw, I_nw, J_nw, R_nw, EI_nw, EJ_nw, ER_nw]; rfl, e3⟩ ?_
      unfold w128
      have pq := pq64 (n := n) (by omega)
      have hq := Nat.two_pow_pos (64 - n)
      have hp := Nat.two_pow_pos n
      have lt1 : un L / 2 ^ n < 2 ^ (64 - n) := (Nat.div_lt_iff_lt_mul hp).mpr (by rw [pq]; exact a2)
      have m1 : (un H * 2 ^ (64 - n)) % 18446744073709551616 = (un H % 2 ^ n) * 2 ^ (64 - n) := by rw [← pq, Nat.mul_comm (2 ^ (64 - n)), Nat.mul_mod_mul_right]
      rw [un_or, un_ushr _ (by omega), un_shl _ (by omega), un_ushr _ (by omega), Nat.shiftLeft_eq, Nat.shiftRight_eq_div_pow, Nat.shiftRight_eq_div_pow, m1, Nat.or_comm, or_add lt1]
      exact down_nat pq hp a2
    · have c : 63 < n := by
        by_cases q : 63 < n
        · exact q
        · exact absurd ((nI_leI (by omega) (by omega)).mpr (by omega)) c
      refine k_X19_down_12 o ?_
      rw [nI_sub (by omega)]
      refine k_X19_down_40 o (fun q => absurd ((nI_leI (by omega) (by omega)).mp q) (by omega)) (fun _ => ?_)
      refine k_X19_down_50 o ?_
      refine k_X19_down_60 o ?_
      refine kk _ _ _ (((Fq.refl h).sJ (Or.inr (Or.inl rfl))).sJ (Or.inl rfl)) ⟨t, by simp [n_sI, z_sI, tag_sI, I_sI, J_sI, R_sI, EI_sI, EJ_sI, ER_sI, n_sJ, z_sJ, tag_sJ, I_sJ, J_sJ, R_sJ, EI_sJ, EJ_sJ, ER_sJ, n_sR, z_sR, tag_sR, I_sR, J_sR, R_sR, EI_sR, EJ_sR, ER_sR, n_sEI, z_sEI, tag_sEI, I_sEI, J_sEI, R_sEI, EI_sEI, EJ_sEI, ER_sEI, n_sEJ, z_sEJ, tag_sEJ, I_sEJ, J_sEJ, R_sEJ, EI_sEJ, EJ_sEJ, ER_sEJ, n_sER, z_sER, tag_sER, I_sER, J_sER, R_sER, EI_sER, EJ_sER, ER_sER, n_nw, z_nw, tag_nw, I_nw, J_nw, R_nw, EI_nw, EJ_nw, ER_nw]; rfl, by simp [n_sI, z_sI, tag_sI, I_sI, J_sI, R_sI, EI_sI, EJ_sI, ER_sI, n_sJ, z_sJ, tag_sJ, I_sJ, J_sJ, R_sJ, EI_sJ, EJ_sJ, ER_sJ, n_sR, z_sR, tag_sR, I_sR, J_sR, R_sR, EI_sR, EJ_sR, ER_sR, n_sEI, z_sEI, tag_sEI, I_sEI, J_sEI, R_sEI, EI_sEI, EJ_sEI, ER_sEI, n_sEJ, z_sEJ, tag_sEJ, I_sEJ, J_sEJ, R_sEJ, EI_sEJ, EJ_sEJ, ER_sEJ, n_sER, z_sER, tag_sER, I_sER, J_sER, R_sER, EI_sER, EJ_sER, ER_sER, n_nw, z_nw, tag_nw, I_nw, J_nw, R_nw, EI_nw, EJ_nw, ER_nw]; rfl, e3⟩ ?_
      unfold w128
      rw [un_ushr _ (by omega), Nat.shiftRight_eq_div_pow, show un 0 = 0 from rfl, Nat.zero_mul, Nat.zero_add]
      have e : (2 : Nat) ^ n = 18446744073709551616 * 2 ^ (n - 64) := by rw [show (18446744073709551616 : Nat) = 2 ^ 64 from rfl, ← Nat.pow_add, show 64 + (n - 64) = n by omega]
      rw [e, ← Nat.div_div_eq_div_mul, Nat.mul_comm (un H), Nat.mul_add_div (by omega), Nat.div_eq_of_lt a2, Nat.add_zero]
  · have c : n = 0 := (nI_eq (b := 0) (by omega) (by omega)).mp c
    subst c
    refine k_X19_down_4 o ?_
    refine kk h H L (Fq.refl h) hw0 ?_
    rw [Nat.pow_zero, Nat.div_one]
