/-! types: their bytes, the outermost one first -/
abbrev Ty : Type := List Nat
def tyc : Ty → Nat
  | [] => 0
  | b :: t => b * 256 ^ t.length + tyc t
def tby (t : Ty) : Prop := ∀ b ∈ t, b < 256
theorem tyc_lt : ∀ {t : Ty}, tby t → tyc t < 256 ^ t.length
  | [], _ => by decide
  | b :: t, h => by
    have h1 := tyc_lt (t := t) fun x hx => h x (List.mem_cons_of_mem _ hx)
    have h2 : b < 256 := h b List.mem_cons_self
    simp only [tyc, List.length_cons, Nat.pow_succ]
    have : b * 256 ^ t.length ≤ 255 * 256 ^ t.length := Nat.mul_le_mul_right _ (by omega)
    omega
/-- a type's bytes: one to eight, the outermost one from 1 to 127 -/
def TV (t : Ty) : Prop := tby t ∧ t.length ≤ 8 ∧ ∃ b r, t = b :: r ∧ 0 < b ∧ b < 128
theorem TV.lt63 {t : Ty} (h : TV t) : tyc t < 9223372036854775808 := by
  obtain ⟨h1, h2, b, r, rfl, h3, h4⟩ := h
  have h5 := tyc_lt (t := r) fun x hx => h1 x (List.mem_cons_of_mem _ hx)
  simp only [tyc]
  simp only [List.length_cons] at h2
  have h6 : 256 ^ r.length ≤ 256 ^ 7 := Nat.pow_le_pow_right (by omega) (by omega)
  have : b * 256 ^ r.length ≤ 127 * 256 ^ r.length := Nat.mul_le_mul_right _ (by omega)
  omega
theorem TV.log {b : Nat} {r : Ty} (h : TV (b :: r)) : Nat.log2 (tyc (b :: r) ||| 1) / 8 = r.length := by
  obtain ⟨h1, h2, b', r', e, h3, h4⟩ := h
  cases e
  have h5 := tyc_lt (t := r) fun x hx => h1 x (List.mem_cons_of_mem _ hx)
  simp only [List.length_cons] at h2
  have e1 : (2 : Nat) ^ (8 * r.length) = 256 ^ r.length := by rw [Nat.pow_mul]
  have lo : 2 ^ (8 * r.length) ≤ tyc (b :: r) := by
    rw [e1]; simp only [tyc]
    have : 1 * 256 ^ r.length ≤ b * 256 ^ r.length := Nat.mul_le_mul_right _ h3
    omega
  have hi : tyc (b :: r) < 2 ^ (8 * r.length + 7) := by
    rw [Nat.pow_add, e1]; simp only [tyc]
    have : b * 256 ^ r.length ≤ 127 * 256 ^ r.length := Nat.mul_le_mul_right _ (by omega)
    omega
  have lo' : 2 ^ (8 * r.length) ≤ tyc (b :: r) ||| 1 := Nat.le_trans lo Nat.left_le_or
  have hi' : tyc (b :: r) ||| 1 < 2 ^ (8 * r.length + 7) := Nat.or_lt_two_pow hi (by
    have : (2 : Nat) ^ 1 ≤ 2 ^ (8 * r.length + 7) := Nat.pow_le_pow_right (by omega) (by omega)
    omega)
  have hp : 0 < tyc (b :: r) ||| 1 := Nat.lt_of_lt_of_le (Nat.two_pow_pos _) lo'
  have l1 : 8 * r.length ≤ Nat.log2 (tyc (b :: r) ||| 1) := (Nat.le_log2 (by omega)).mpr lo'
  have l2 : Nat.log2 (tyc (b :: r) ||| 1) < 8 * r.length + 7 := (Nat.log2_lt (by omega)).mpr hi'
  omega
theorem div8 : ∀ a : Fin 64, nI a.val / nI 8 * nI 8 = nI (a.val / 8 * 8) := by decide +kernel
theorem top_ok {G : Gt} {d b : Nat} {r : Ty} {h : AH} {K : Outcome → AH → Prop} (ht : TV (b :: r)) (hd : 2 ≤ d) (kk : K (.returned (some (.int (nI (8 * r.length))))) h) : MW G d e_X31_top [.long (lN (tyc (b :: r)))] h K := by
  refine st_X31_top fun X o hG hD hf => ?_
  have hlt := ht.lt63
  have e : (lN (tyc (b :: r)) ||| (1 : Int64)) = lN (tyc (b :: r) ||| 1) := by
    refine un_inj ?_
    rw [un_or, un_l (by omega), un_l (Nat.or_lt_two_pow (n := 64) (by omega) (by omega))]; rfl
  have hlog := ht.log
  have hpos : tyc (b :: r) ||| 1 ≠ 0 := fun q => by
    have : 1 ≤ tyc (b :: r) ||| 1 := Nat.right_le_or
    omega
  have hl2 : Nat.log2 (tyc (b :: r) ||| 1) < 64 := (Nat.log2_lt hpos).mpr (Nat.or_lt_two_pow (by omega) (by omega))
  refine k_X31_top_0 o ?_
  rw [e]
  refine lnlz_ok (Nat.or_lt_two_pow (n := 64) (by omega) (by omega)) (by omega) ?_
  refine k_X31_top_8 o ?_
  unfold nlz
  rw [if_neg hpos, nI_sub (by omega), show 63 - (64 - 1 - Nat.log2 (tyc (b :: r) ||| 1)) = Nat.log2 (tyc (b :: r) ||| 1) by omega, div8 ⟨_, hl2⟩]
  show K (.returned (some (.int (nI (Nat.log2 (tyc (b :: r) ||| 1) / 8 * 8))))) h
  rw [hlog, Nat.mul_comm]; exact kk
theorem head_ok {G : Gt} {d b : Nat} {r : Ty} {h : AH} {K : Outcome → AH → Prop} (ht : TV (b :: r)) (hd : 3 ≤ d) (kk : K (.returned (some (.int (nI b)))) h) : MW G d e_X31_head [.long (lN (tyc (b :: r)))] h K := by
  refine st_X31_head fun X o hG hD hf => ?_
  have hlt := ht.lt63
  obtain ⟨h1, h2, b', r', e, h3, h4⟩ := id ht
  cases e
  simp only [List.length_cons] at h2
  have h5 := tyc_lt (t := r) fun x hx => h1 x (List.mem_cons_of_mem _ hx)
  refine k_X31_head_0 o ?_
  refine top_ok ht (by omega) ?_
  refine k_X31_head_5 o ?_
  have : (lN (tyc (b :: r)) >>> ((nI (8 * r.length)).toInt64 &&& 63)).toInt32 = nI b := by
    refine um_inj ?_
    rw [um_32, un_shr _ (by omega) (by rw [un_l (by omega)]; omega), un_l (by omega), um_n (by omega), Nat.shiftRight_eq_div_pow, Nat.pow_mul]
    simp only [tyc]
    rw [show (2 : Nat) ^ 8 = 256 from rfl, Nat.mul_comm b, Nat.mul_add_div (Nat.pow_pos (by omega)), Nat.div_eq_of_lt h5]
    omega
  rw [this]; exact kk
theorem rest_ok {G : Gt} {d b : Nat} {r : Ty} {h : AH} {K : Outcome → AH → Prop} (ht : TV (b :: r)) (hd : 3 ≤ d) (kk : K (.returned (some (.long (lN (tyc r))))) h) : MW G d e_X31_rest [.long (lN (tyc (b :: r)))] h K := by
  refine st_X31_rest fun X o hG hD hf => ?_
  have hlt := ht.lt63
  obtain ⟨h1, h2, b', r', e, h3, h4⟩ := id ht
  cases e
  simp only [List.length_cons] at h2
  have h5 := tyc_lt (t := r) fun x hx => h1 x (List.mem_cons_of_mem _ hx)
  have hp : 2 ^ (8 * r.length) ≤ 2 ^ 56 := Nat.pow_le_pow_right (by omega) (by omega)
  have hp0 := Nat.two_pow_pos (8 * r.length)
  refine k_X31_rest_0 o ?_
  refine top_ok ht (by omega) ?_
  refine k_X31_rest_6 o ?_
  have e1 : un ((1 : Int64) <<< ((nI (8 * r.length)).toInt64 &&& 63)) = 2 ^ (8 * r.length) := by
    rw [un_shl _ (by omega), show un 1 = 1 from rfl, Nat.one_shiftLeft, Nat.mod_eq_of_lt (by omega)]
  have : (lN (tyc (b :: r)) &&& (((1 : Int64) <<< ((nI (8 * r.length)).toInt64 &&& 63)) - (1 : Int64))) = lN (tyc r) := by
    refine un_inj ?_
    have hr : tyc r < 2 ^ (8 * r.length) := by rw [Nat.pow_mul]; exact h5
    rw [un_and, un_sub, e1, un_l (by omega), un_l (by omega), show un 1 = 1 from rfl, show (18446744073709551616 - 1 + 2 ^ (8 * r.length)) % 18446744073709551616 = 2 ^ (8 * r.length) - 1 by omega, Nat.and_two_pow_sub_one_eq_mod]
    simp only [tyc]
    rw [show 256 ^ r.length = 2 ^ (8 * r.length) by rw [Nat.pow_mul], Nat.mul_comm b, Nat.mul_add_mod, Nat.mod_eq_of_lt hr]
  rw [this]; exact kk
theorem with_ok {G : Gt} {d b c : Nat} {r : Ty} {h : AH} {K : Outcome → AH → Prop} (ht : TV (b :: r)) (hl : r.length ≤ 6) (hc : c < 128) (hd : 3 ≤ d) (kk : K (.returned (some (.long (lN (tyc (c :: b :: r)))))) h) : MW G d e_X31_with [.int (nI c), .long (lN (tyc (b :: r)))] h K := by
  refine st_X31_with fun X o hG hD hf => ?_
  have hlt := ht.lt63
  obtain ⟨h1, h2, b', r', e, h3, h4⟩ := id ht
  cases e
  have h5 := tyc_lt (t := b :: r) h1
  refine k_X31_with_0 o ?_
  refine top_ok ht (by omega) ?_
  refine k_X31_with_6 o ?_
  rw [nI_add]
  have hp : 2 ^ (8 * r.length + 8) ≤ 2 ^ 56 := Nat.pow_le_pow_right (by omega) (by omega)
  have e0 : 256 ^ (b :: r).length = 2 ^ (8 * r.length + 8) := by rw [List.length_cons, show 8 * r.length + 8 = 8 * (r.length + 1) by omega, Nat.pow_mul]
  have hcc : c * 2 ^ (8 * r.length + 8) ≤ 127 * 2 ^ 56 := Nat.mul_le_mul (by omega) hp
  have : (((nI c).toInt64 <<< ((nI (8 * r.length + 8)).toInt64 &&& 63)) ||| lN (tyc (b :: r))) = lN (tyc (c :: b :: r)) := by
    refine un_inj ?_
    rw [e0] at h5
    have e2 : tyc (c :: b :: r) = c * 2 ^ (8 * r.length + 8) + tyc (b :: r) := by rw [← e0]; rfl
    rw [un_or, un_shl _ (by omega), nI_l (by omega), un_l (by omega), un_l (by omega), un_l (by rw [e2]; omega), Nat.shiftLeft_eq, Nat.mod_eq_of_lt (by omega), e2]
    rw [← Nat.shiftLeft_eq]; exact (Nat.shiftLeft_add_eq_or_of_lt h5 c).symm
  rw [this]; exact kk
def isRf : Ty → Bool
  | b :: _ => b == 8 || b == 9
  | [] => false
def isWr : Ty → Bool
  | b :: _ => b == 9
  | [] => false
def isNu (t : Ty) : Bool := t == [2] || t == [3] || t == [4]
theorem isReference_ok {G : Gt} {d : Nat} {t : Ty} {h : AH} {K : Outcome → AH → Prop} (ht : TV t) (hd : 4 ≤ d) (kk : K (.returned (some (.int (bI (isRf t))))) h) : MW G d e_X31_isReference [.long (lN (tyc t))] h K := by
  refine st_X31_isReference fun X o hG hD hf => ?_
  obtain ⟨h1, h2, b, r, e, h3, h4⟩ := id ht
  subst e
  simp only [isRf] at kk
  refine k_X31_isReference_0 o ?_
  refine head_ok ht (by omega) ?_
  refine k_X31_isReference_4 o (fun c => ?_) (fun c => ?_)
  · have c := (nI_eq (b := 8) (by omega) (by omega)).mp c
    subst c
    refine k_X31_isReference_18 o ?_
    exact k_X31_isReference_23 o kk
  · have c : (b == 8) = false := by rw [beq_eq_false_iff_ne]; exact fun q => c (by rw [q])
    rw [c, Bool.false_or] at kk
    refine k_X31_isReference_9 o ?_
    refine head_ok ht (by omega) ?_
    refine k_X31_isReference_13 o (fun c => ?_) (fun c => ?_)
    · have c : (b == 9) = false := by rw [beq_eq_false_iff_ne]; exact fun q => c (by rw [q])
      rw [c] at kk
      refine k_X31_isReference_22 o ?_
      exact k_X31_isReference_23 o kk
    · have c := (nI_eq (b := 9) (by omega) (by omega)).mp c
      subst c
      refine k_X31_isReference_18 o ?_
      exact k_X31_isReference_23 o kk
theorem isWriting_ok {G : Gt} {d : Nat} {t : Ty} {h : AH} {K : Outcome → AH → Prop} (ht : TV t) (hd : 4 ≤ d) (kk : K (.returned (some (.int (bI (isWr t))))) h) : MW G d e_X31_isWriting [.long (lN (tyc t))] h K := by
  refine st_X31_isWriting fun X o hG hD hf => ?_
  obtain ⟨h1, h2, b, r, e, h3, h4⟩ := id ht
  subst e
  simp only [isWr] at kk
  refine k_X31_isWriting_0 o ?_
  refine head_ok ht (by omega) ?_
  refine k_X31_isWriting_4 o (fun c => ?_) (fun c => ?_)
  · have c : (b == 9) = false := by rw [beq_eq_false_iff_ne]; exact fun q => c (by rw [q])
    rw [c] at kk
    refine k_X31_isWriting_13 o ?_
    exact k_X31_isWriting_14 o kk
  · have c := (nI_eq (b := 9) (by omega) (by omega)).mp c
    subst c
    refine k_X31_isWriting_9 o ?_
    exact k_X31_isWriting_14 o kk
theorem structureOf_ok {G : Gt} {d k : Nat} {h : AH} {K : Outcome → AH → Prop} (hk : k < 256) (kk : K (.returned (some (.long (lN (tyc [6, k]))))) h) : MW G d e_X31_structureOf [.int (nI k)] h K := by
  refine st_X31_structureOf fun X o hG hD hf => ?_
  refine k_X31_structureOf_0 o ?_
  have : ((1536 : Int64) ||| (nI k).toInt64) = lN (tyc [6, k]) := by
    have : ∀ k : Fin 256, ((1536 : Int64) ||| (nI k.val).toInt64) = lN (tyc [6, k.val]) := by decide +kernel
    exact this ⟨k, hk⟩
  rw [this]; exact kk
/-- two types are one when their numbers are -/
theorem tyc_inj {s t : Ty} (hs : TV s) (ht : TV t) (h : tyc s = tyc t) : s = t := by
  have key : ∀ {s t : Ty}, tby s → tby t → s.length = t.length → tyc s = tyc t → s = t := by
    intro s
    induction s with
    | nil => intro t _ _ hl _; cases t with
      | nil => rfl
      | cons _ _ => cases hl
    | cons b r ih =>
      intro t h1 h2 hl he
      cases t with
      | nil => cases hl
      | cons c q =>
        simp only [List.length_cons, Nat.add_right_cancel_iff] at hl
        simp only [tyc, hl] at he
        have l1 := tyc_lt (t := r) fun x hx => h1 x (List.mem_cons_of_mem _ hx)
        have l2 := tyc_lt (t := q) fun x hx => h2 x (List.mem_cons_of_mem _ hx)
        rw [hl] at l1
        have hp : 0 < 256 ^ q.length := Nat.pow_pos (by omega)
        have e1 : b = c := by
          have a1 : (b * 256 ^ q.length + tyc r) / 256 ^ q.length = b := by rw [Nat.mul_comm, Nat.mul_add_div hp, Nat.div_eq_of_lt l1]; omega
          have a2 : (c * 256 ^ q.length + tyc q) / 256 ^ q.length = c := by rw [Nat.mul_comm, Nat.mul_add_div hp, Nat.div_eq_of_lt l2]; omega
          rw [← a1, he, a2]
        subst e1
        rw [ih (fun x hx => h1 x (List.mem_cons_of_mem _ hx)) (fun x hx => h2 x (List.mem_cons_of_mem _ hx)) hl (by omega)]
  have l1 : s.length = t.length := by
    obtain ⟨_, _, b, r, e, _, _⟩ := id hs
    obtain ⟨_, _, c, q, e', _, _⟩ := id ht
    subst e; subst e'
    have a := hs.log
    have b := ht.log
    rw [h] at a
    simp only [List.length_cons]; omega
  exact key hs.1 ht.1 l1 h
theorem lN_tyc {s t : Ty} (hs : TV s) (ht : TV t) : lN (tyc s) = lN (tyc t) ↔ s = t := by
  constructor
  · intro h
    have := congrArg un h
    rw [un_l (by have := hs.lt63; omega), un_l (by have := ht.lt63; omega)] at this
    exact tyc_inj hs ht this
  · intro h; rw [h]
theorem isNumber_ok {G : Gt} {d : Nat} {t : Ty} {h : AH} {K : Outcome → AH → Prop} (ht : TV t) (kk : K (.returned (some (.int (bI (isNu t))))) h) : MW G d e_X31_isNumber [.long (lN (tyc t))] h K := by
  refine st_X31_isNumber fun X o hG hD hf => ?_
  have tv : ∀ b, 0 < b → b < 128 → TV [b] := fun b h0 h1 => ⟨fun x hx => by simp at hx; omega, Nat.le_of_ble_eq_true rfl, b, [], rfl, h0, h1⟩
  have q2 : lN (tyc t) = (2 : Int64) ↔ t = [2] := lN_tyc ht (tv 2 (by omega) (by omega))
  have q3 : lN (tyc t) = (3 : Int64) ↔ t = [3] := lN_tyc ht (tv 3 (by omega) (by omega))
  have q4 : lN (tyc t) = (4 : Int64) ↔ t = [4] := lN_tyc ht (tv 4 (by omega) (by omega))
  unfold isNu at kk
  refine k_X31_isNumber_0 o (fun c => ?_) (fun c => ?_)
  · rw [q2.mp c] at kk
    refine k_X31_isNumber_24 o ?_
    exact k_X31_isNumber_29 o kk
  · have c2 : (t == [2]) = false := by rw [beq_eq_false_iff_ne]; exact fun q => c (q2.mpr q)
    refine k_X31_isNumber_8 o (fun c => ?_) (fun c => ?_)
    · rw [q3.mp c] at kk
      refine k_X31_isNumber_24 o ?_
      exact k_X31_isNumber_29 o kk
    · have c3 : (t == [3]) = false := by rw [beq_eq_false_iff_ne]; exact fun q => c (q3.mpr q)
      refine k_X31_isNumber_16 o (fun c => ?_) (fun c => ?_)
      · have c4 : (t == [4]) = false := by rw [beq_eq_false_iff_ne]; exact fun q => c (q4.mpr q)
        rw [c2, c3, c4] at kk
        refine k_X31_isNumber_28 o ?_
        exact k_X31_isNumber_29 o kk
      · rw [q4.mp c] at kk
        refine k_X31_isNumber_24 o ?_
        exact k_X31_isNumber_29 o kk
