/-! the twin's looker: types -/
theorem lbyt_any {G : Gt} {d : Nat} {h : AH} {K : Outcome → AH → Prop} {x : Int64} (kk : ∀ n, n ≤ 8 → K (.returned (some (.int (nI n)))) h) : MW G d e_X25_bytesOf [.long x] h K := by
  refine st_X25_bytesOf fun X o hG hD _ => ?_
  subst hG; subst hD
  have loop : ∀ j n, j + n = 8 → V X K 2 [.long x, nov, .int (nI n)] [] h := by
    intro j
    induction j with
    | zero =>
      intro n hn
      refine k_X25_bytesOf_2 o (fun _ => ?_) (fun c => absurd ((nI_leI (by omega) (by omega)).mpr (by omega)) c)
      refine k_X25_bytesOf_25 o ?_
      exact kk n (by omega)
    | succ j ih =>
      intro n hn
      refine k_X25_bytesOf_2 o (fun c => absurd ((nI_leI (by omega) (by omega)).mp c) (by omega)) (fun _ => ?_)
      refine k_X25_bytesOf_8 o (fun _ => ?_) (fun _ => ?_)
      · refine k_X25_bytesOf_25 o ?_
        exact kk n (by omega)
      · refine k_X25_bytesOf_19 o ?_
        rw [nI_add]
        exact ih (n + 1) (by omega)
  refine k_X25_bytesOf_0 o ?_
  exact loop 8 0 rfl
theorem tyc_lo {b : Nat} {r : Ty} (hb : 0 < b) : 256 ^ r.length ≤ tyc (b :: r) := by
  simp only [tyc]
  have : 1 * 256 ^ r.length ≤ b * 256 ^ r.length := Nat.mul_le_mul_right _ hb
  omega
theorem lbyt_ok {G : Gt} {d : Nat} {h : AH} {K : Outcome → AH → Prop} {t : Ty} (ht : TV t) (kk : K (.returned (some (.int (nI t.length)))) h) : MW G d e_X25_bytesOf [.long (lN (tyc t))] h K := by
  refine st_X25_bytesOf fun X o hG hD _ => ?_
  subst hG; subst hD
  have hlt := ht.lt63
  obtain ⟨h1, h2, b, r, e, h3, h4⟩ := id ht
  have hhi := tyc_lt h1
  have hlo : 256 ^ r.length ≤ tyc t := by rw [e]; exact tyc_lo h3
  have el : t.length = r.length + 1 := by rw [e]; rfl
  have sh : ∀ n, n < 8 → un (((lN (tyc t)).toUInt64 >>> ((nI 8 * nI n).toInt64.toUInt64 &&& Int64.toUInt64 63)).toInt64) = tyc t / 256 ^ n := fun n hn => by
    rw [nI_mul, un_ushr _ (by omega), un_l (by omega), Nat.shiftRight_eq_div_pow, Nat.pow_mul]
  have loop : ∀ j n, j + n = t.length → V X K 2 [.long (lN (tyc t)), nov, .int (nI n)] [] h := by
    intro j
    induction j with
    | zero =>
      intro n hn
      have hn : n = t.length := by omega
      subst hn
      refine k_X25_bytesOf_2 o (fun _ => ?_) (fun c => ?_)
      · refine k_X25_bytesOf_25 o ?_
        exact kk
      · have c8 : t.length < 8 := Nat.not_le.mp fun z => c ((nI_leI (by omega) (by omega)).mpr z)
        refine k_X25_bytesOf_8 o (fun _ => ?_) (fun c => ?_)
        · refine k_X25_bytesOf_25 o ?_
          exact kk
        · refine absurd (un_inj ?_) c
          rw [sh _ c8, Nat.div_eq_of_lt hhi]; rfl
    | succ j ih =>
      intro n hn
      refine k_X25_bytesOf_2 o (fun c => absurd ((nI_leI (by omega) (by omega)).mp c) (by omega)) (fun _ => ?_)
      refine k_X25_bytesOf_8 o (fun c => ?_) (fun _ => ?_)
      · have := congrArg un c
        rw [sh n (by omega)] at this
        have z : tyc t < 256 ^ n := by
          rcases Nat.div_eq_zero_iff.mp this with z | z
          · have := Nat.pow_pos (a := 256) (n := n) (by omega); omega
          · exact z
        have : 256 ^ n ≤ 256 ^ r.length := Nat.pow_le_pow_right (by omega) (by omega)
        omega
      · refine k_X25_bytesOf_19 o ?_
        rw [nI_add]
        exact ih (n + 1) (by omega)
  refine k_X25_bytesOf_0 o ?_
  exact loop t.length 0 rfl
theorem lbof_any {G : Gt} {d : Nat} {h : AH} {K : Outcome → AH → Prop} {x : Int64} {k : Int32} (kk : ∀ v, K (.returned (some (.int (v)))) h) : MW G d e_X25_byteOf [.long x, .int k] h K := by
  refine st_X25_byteOf fun X o hG hD _ => ?_
  subst hG; subst hD
  refine k_X25_byteOf_0 o ?_
  exact kk _
theorem lbof_ok {G : Gt} {d : Nat} {h : AH} {K : Outcome → AH → Prop} {t : Ty} {k : Nat} (ht : TV t) (hk : k < 8) (kk : K (.returned (some (.int (nI (tyc t / 256 ^ k % 256))))) h) : MW G d e_X25_byteOf [.long (lN (tyc t)), .int (nI k)] h K := by
  refine st_X25_byteOf fun X o hG hD _ => ?_
  subst hG; subst hD
  have hlt := ht.lt63
  refine k_X25_byteOf_0 o ?_
  have e : (((((lN (tyc t)).toUInt64 >>> ((nI 8 * nI k).toInt64.toUInt64 &&& Int64.toUInt64 63)).toInt64) &&& (255 : Int64)).toInt32) = nI (tyc t / 256 ^ k % 256) := um_inj (by
    rw [um_32, un_and, nI_mul, un_ushr _ (by omega), un_l (by omega), Nat.shiftRight_eq_div_pow, Nat.pow_mul, show un (255 : Int64) = 2 ^ 8 - 1 from rfl, Nat.and_two_pow_sub_one_eq_mod, show (2 : Nat) ^ 8 = 256 from rfl, um_n (by omega)]
    omega)
  rw [e]
  exact kk
theorem tyc_hd {b : Nat} {r : Ty} (h : tby (b :: r)) : tyc (b :: r) / 256 ^ ((b :: r).length - 1) % 256 = b := by
  have h5 := tyc_lt (t := r) fun x hx => h x (List.mem_cons_of_mem _ hx)
  have hb := h b (by simp)
  simp only [tyc, List.length_cons, Nat.add_sub_cancel]
  rw [Nat.mul_comm b, Nat.mul_add_div (Nat.pow_pos (by omega)), Nat.div_eq_of_lt h5]
  omega
theorem lirf_any {G : Gt} {d : Nat} {h : AH} {K : Outcome → AH → Prop} {x : Int64} (hd : 1 ≤ d) (kk : ∀ b, K (.returned (some (.int (bI b)))) h) : MW G d e_X25_isReference [.long x] h K := by
  refine st_X25_isReference fun X o hG hD _ => ?_
  subst hG; subst hD
  refine k_X25_isReference_0 o ?_
  refine lbyt_any fun n hn => ?_
  refine k_X25_isReference_5 o ?_
  refine lbof_any fun v => ?_
  have y1 : V X K 23 [.long x, nov, .int v] [] h := by
    refine k_X25_isReference_23 o ?_
    refine k_X25_isReference_28 o ?_
    exact kk true
  refine k_X25_isReference_10 o (fun _ => y1) (fun _ => ?_)
  refine k_X25_isReference_17 o (fun _ => ?_) (fun _ => y1)
  refine k_X25_isReference_27 o ?_
  refine k_X25_isReference_28 o ?_
  exact kk false
theorem lirf_ok {G : Gt} {d : Nat} {h : AH} {K : Outcome → AH → Prop} {t : Ty} (ht : TV t) (hd : 1 ≤ d) (kk : K (.returned (some (.int (bI (isRf t))))) h) : MW G d e_X25_isReference [.long (lN (tyc t))] h K := by
  refine st_X25_isReference fun X o hG hD _ => ?_
  subst hG; subst hD
  obtain ⟨h1, h2, b, r, e, h3, h4⟩ := id ht
  have el : t.length = r.length + 1 := by rw [e]; rfl
  refine k_X25_isReference_0 o ?_
  refine lbyt_ok ht ?_
  refine k_X25_isReference_5 o ?_
  rw [nI_sub (by omega)]
  refine lbof_ok ht (by omega) ?_
  have ev : tyc t / 256 ^ (t.length - 1) % 256 = b := by subst e; exact tyc_hd h1
  rw [ev]
  have ew : isRf t = (b == 8 || b == 9) := by rw [e]; rfl
  rw [ew] at kk
  have y1 : b = 8 ∨ b = 9 → V X K 23 [.long (lN (tyc t)), nov, .int (nI b)] [] h := fun z => by
    have : (b == 8 || b == 9) = true := by simpa using z
    rw [this] at kk
    refine k_X25_isReference_23 o ?_
    refine k_X25_isReference_28 o ?_
    exact kk
  refine k_X25_isReference_10 o (fun c => y1 (Or.inl ((nI_eq (by omega) (by omega)).mp c))) (fun c1 => ?_)
  refine k_X25_isReference_17 o (fun c2 => ?_) (fun c => y1 (Or.inr ((nI_eq (by omega) (by omega)).mp c)))
  have : (b == 8 || b == 9) = false := by
    have z1 : ¬ b = 8 := fun z => c1 (by rw [z])
    have z2 : ¬ b = 9 := fun z => c2 (by rw [z])
    simp [z1, z2]
  rw [this] at kk
  refine k_X25_isReference_27 o ?_
  refine k_X25_isReference_28 o ?_
  exact kk
theorem lwri_any {G : Gt} {d : Nat} {h : AH} {K : Outcome → AH → Prop} {x : Int64} (hd : 1 ≤ d) (kk : ∀ b, K (.returned (some (.int (bI b)))) h) : MW G d e_X25_writes [.long x] h K := by
  refine st_X25_writes fun X o hG hD _ => ?_
  subst hG; subst hD
  refine k_X25_writes_0 o ?_
  refine lbyt_any fun n hn => ?_
  refine k_X25_writes_5 o ?_
  refine lbof_any fun v => ?_
  refine k_X25_writes_10 o (fun _ => ?_) (fun _ => ?_)
  · refine k_X25_writes_19 o ?_
    refine k_X25_writes_20 o ?_
    exact kk false
  · refine k_X25_writes_15 o ?_
    refine k_X25_writes_20 o ?_
    exact kk true
theorem lwri_ok {G : Gt} {d : Nat} {h : AH} {K : Outcome → AH → Prop} {t : Ty} (ht : TV t) (hd : 1 ≤ d) (kk : K (.returned (some (.int (bI (isWr t))))) h) : MW G d e_X25_writes [.long (lN (tyc t))] h K := by
  refine st_X25_writes fun X o hG hD _ => ?_
  subst hG; subst hD
  obtain ⟨h1, h2, b, r, e, h3, h4⟩ := id ht
  have el : t.length = r.length + 1 := by rw [e]; rfl
  refine k_X25_writes_0 o ?_
  refine lbyt_ok ht ?_
  refine k_X25_writes_5 o ?_
  rw [nI_sub (by omega)]
  refine lbof_ok ht (by omega) ?_
  have ev : tyc t / 256 ^ (t.length - 1) % 256 = b := by subst e; exact tyc_hd h1
  rw [ev]
  have ew : isWr t = (b == 9) := by rw [e]; rfl
  rw [ew] at kk
  refine k_X25_writes_10 o (fun c => ?_) (fun c => ?_)
  · have : (b == 9) = false := by
      have z1 : ¬ b = 9 := fun z => c (by rw [z])
      simpa using z1
    rw [this] at kk
    refine k_X25_writes_19 o ?_
    refine k_X25_writes_20 o ?_
    exact kk
  · have : (b == 9) = true := by
      have := (nI_eq (by omega) (by omega)).mp c
      simpa using this
    rw [this] at kk
    refine k_X25_writes_15 o ?_
    refine k_X25_writes_20 o ?_
    exact kk
theorem lpoi_ok {G : Gt} {d : Nat} {h : AH} {K : Outcome → AH → Prop} {b : Nat} {r : Ty} (ht : TV (b :: r)) (hd : 1 ≤ d) (kk : K (.returned (some (.long (lN (tyc r))))) h) : MW G d e_X25_pointed [.long (lN (tyc (b :: r)))] h K := by
  refine st_X25_pointed fun X o hG hD _ => ?_
  subst hG; subst hD
  have hlt := ht.lt63
  obtain ⟨h1, h2, b', r', e, h3, h4⟩ := id ht
  cases e
  simp only [List.length_cons] at h2
  have h5 := tyc_lt (t := r) fun x hx => h1 x (List.mem_cons_of_mem _ hx)
  have hp : 2 ^ (8 * r.length) ≤ 2 ^ 56 := Nat.pow_le_pow_right (by omega) (by omega)
  have hp0 := Nat.two_pow_pos (8 * r.length)
  refine k_X25_pointed_0 o ?_
  refine lbyt_ok ht ?_
  refine k_X25_pointed_4 o ?_
  have e1 : un ((1 : Int64) <<< ((nI 8 * (nI (b :: r).length - nI 1)).toInt64 &&& 63)) = 2 ^ (8 * r.length) := by
    rw [show nI (b :: r).length - nI 1 = nI r.length by rw [List.length_cons, nI_sub (by omega), Nat.add_sub_cancel], nI_mul, un_shl _ (by omega), show un 1 = 1 from rfl, Nat.one_shiftLeft, Nat.mod_eq_of_lt (by omega)]
  have : (lN (tyc (b :: r)) &&& (((1 : Int64) <<< ((nI 8 * (nI (b :: r).length - nI 1)).toInt64 &&& 63)) - (1 : Int64))) = lN (tyc r) := by
    refine un_inj ?_
    have hr : tyc r < 2 ^ (8 * r.length) := by rw [Nat.pow_mul]; exact h5
    rw [un_and, un_sub, e1, un_l (by omega), un_l (by omega), show un 1 = 1 from rfl, show (18446744073709551616 - 1 + 2 ^ (8 * r.length)) % 18446744073709551616 = 2 ^ (8 * r.length) - 1 by omega, Nat.and_two_pow_sub_one_eq_mod]
    simp only [tyc]
    rw [show 256 ^ r.length = 2 ^ (8 * r.length) by rw [Nat.pow_mul], Nat.mul_comm b, Nat.mul_add_mod, Nat.mod_eq_of_lt hr]
  rw [this]; exact kk
theorem lbef_ok {G : Gt} {d : Nat} {h : AH} {K : Outcome → AH → Prop} {c : Nat} {t : Ty} (ht : TV t) (hl : t.length ≤ 7) (hc : c < 128) (hd : 1 ≤ d) (kk : K (.returned (some (.long (lN (tyc (c :: t)))))) h) : MW G d e_X25_before [.int (nI c), .long (lN (tyc t))] h K := by
  refine st_X25_before fun X o hG hD _ => ?_
  subst hG; subst hD
  have hlt := ht.lt63
  have h5 := tyc_lt ht.1
  refine k_X25_before_0 o ?_
  refine lbyt_ok ht ?_
  refine k_X25_before_8 o ?_
  have hp : 2 ^ (8 * t.length) ≤ 2 ^ 56 := Nat.pow_le_pow_right (by omega) (by omega)
  have e0 : 256 ^ t.length = 2 ^ (8 * t.length) := by rw [Nat.pow_mul]
  have hcc : c * 2 ^ (8 * t.length) ≤ 127 * 2 ^ 56 := Nat.mul_le_mul (by omega) hp
  have : (((nI c).toInt64 <<< ((nI 8 * nI t.length).toInt64 &&& 63)) ||| lN (tyc t)) = lN (tyc (c :: t)) := by
    refine un_inj ?_
    rw [e0] at h5
    have e3 : tyc (c :: t) = 2 ^ (8 * t.length) * c + tyc t := by
      show c * 256 ^ t.length + tyc t = _
      rw [e0, Nat.mul_comm]
    rw [un_or, nI_mul, un_shl _ (by omega), nI_64 (by omega), un_l (by omega), un_l (by omega), un_l (by rw [e3, Nat.mul_comm]; omega), e3, Nat.shiftLeft_eq, Nat.mod_eq_of_lt (by omega), Nat.mul_comm c, Nat.two_pow_add_eq_or_of_lt h5]
  rw [this]; exact kk
theorem lstr_ok {G : Gt} {d : Nat} {h : AH} {K : Outcome → AH → Prop} {k : Nat} (hk : k < 256) (kk : K (.returned (some (.long (lN (tyc [6, k]))))) h) : MW G d e_X25_structureType [.int (nI k)] h K := by
  refine st_X25_structureType fun X o hG hD _ => ?_
  subst hG; subst hD
  refine k_X25_structureType_0 o ?_
  have : ((1536 : Int64) + (nI k).toInt64) = lN (tyc [6, k]) := un_inj (by
    rw [un_add, nI_64 (by omega), un_l (by omega), show un (1536 : Int64) = 1536 from rfl, show tyc [6, k] = 1536 + k by simp [tyc], un_l (by omega)]
    omega)
  rw [this]; exact kk
theorem linu_ok {G : Gt} {d : Nat} {h : AH} {K : Outcome → AH → Prop} {t : Ty} (ht : TV t) (kk : K (.returned (some (.int (bI (isNu t))))) h) : MW G d e_X25_isNumber [.long (lN (tyc t))] h K := by
  refine st_X25_isNumber fun X o hG hD _ => ?_
  subst hG; subst hD
  have eq1 : ∀ b, 1 ≤ b → b ≤ 5 → ((lN (tyc t) = lN b) ↔ t = [b]) := fun b h1 h2 => by
    have := lN_tyc ht (t := [b]) ⟨fun x hx => by simp at hx; omega, by simp, b, [], rfl, by omega, by omega⟩
    rw [← this]; simp [tyc]
  have y : isNu t = true → V X K 24 [.long (lN (tyc t)), nov] [] h := fun z => by
    rw [z] at kk
    refine k_X25_isNumber_24 o ?_
    refine k_X25_isNumber_29 o ?_
    exact kk
  unfold isNu at y kk
  refine k_X25_isNumber_0 o (fun c => y ?_) (fun c1 => ?_)
  · rw [(eq1 2 (by omega) (by omega)).mp c]; rfl
  refine k_X25_isNumber_8 o (fun c => y ?_) (fun c2 => ?_)
  · rw [(eq1 3 (by omega) (by omega)).mp c]; rfl
  refine k_X25_isNumber_16 o (fun c3 => ?_) (fun c => y ?_)
  · have z2 : ¬ t = [2] := fun z => c1 ((eq1 2 (by omega) (by omega)).mpr z)
    have z3 : ¬ t = [3] := fun z => c2 ((eq1 3 (by omega) (by omega)).mpr z)
    have z4 : ¬ t = [4] := fun z => c3 ((eq1 4 (by omega) (by omega)).mpr z)
    have : (t == [2] || t == [3] || t == [4]) = false := by simp [z2, z3, z4]
    rw [this] at kk
    refine k_X25_isNumber_28 o ?_
    refine k_X25_isNumber_29 o ?_
    exact kk
  · rw [(eq1 4 (by omega) (by omega)).mp c]; rfl
