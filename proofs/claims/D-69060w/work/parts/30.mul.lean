/-! products of longs: the upper half -/
theorem toInt_shr (x : Int64) {k : Nat} (h : k < 64) : (x >>> ((nI k).toInt64 &&& 63)).toInt = x.toInt / 2 ^ k := by
  rw [sh_l k h, ← Int64.toInt_toBitVec, Int64.toBitVec_shiftRight]
  have := smod_l ⟨k, h⟩
  simp [BitVec.sshiftRight', BitVec.toInt_sshiftRight]
  rw [this, Int.shiftRight_eq_div_pow]; rfl
theorem toInt_and32 (x : Int64) : (x &&& (4294967295 : Int64)).toInt = x.toInt % 4294967296 := by
  have e : un (x &&& (4294967295 : Int64)) = un x % 4294967296 := by
    rw [un_and, show un 4294967295 = 2 ^ 32 - 1 from rfl, Nat.and_two_pow_sub_one_eq_mod]
  rw [toInt_un, toInt_un x, e]
  have := un_lt x
  split <;> split <;> omega
theorem toInt_mulB {a b : Int64} (h1 : -9223372036854775808 ≤ a.toInt * b.toInt) (h2 : a.toInt * b.toInt < 9223372036854775808) : (a * b).toInt = a.toInt * b.toInt := by
  rw [Int64.toInt_mul, Int.bmod_eq_of_le (by omega) (by omega)]
theorem toInt_addB {a b : Int64} (h1 : -9223372036854775808 ≤ a.toInt + b.toInt) (h2 : a.toInt + b.toInt < 9223372036854775808) : (a + b).toInt = a.toInt + b.toInt := by
  rw [Int64.toInt_add, Int.bmod_eq_of_le (by omega) (by omega)]
theorem hi_int {A B C D : Int} (hB : 0 ≤ B) (hB2 : B < 4294967296) (hD : 0 ≤ D) (hD2 : D < 4294967296) : A * C + (A * D + B * D / 4294967296) / 4294967296 + ((A * D + B * D / 4294967296) % 4294967296 + B * C) / 4294967296 = (A * 4294967296 + B) * (C * 4294967296 + D) / 18446744073709551616 := by
  have e : (A * 4294967296 + B) * (C * 4294967296 + D) = A * C * 18446744073709551616 + (A * D + B * C) * 4294967296 + B * D := by
    rw [Int.add_mul, Int.mul_add, Int.mul_add]
    have : A * 4294967296 * (C * 4294967296) = A * C * 18446744073709551616 := by
      rw [Int.mul_assoc, Int.mul_left_comm 4294967296 C, ← Int.mul_assoc]; rfl
    rw [this, Int.mul_right_comm A 4294967296 D, ← Int.mul_assoc B C, Int.add_mul]; omega
  rw [e]
  generalize A * C = p
  generalize A * D = s
  generalize B * C = u
  generalize B * D = v
  omega
theorem mul_bd {a b m n : Int} (ha : -m ≤ a) (ha2 : a ≤ m) (hb : 0 ≤ b) (hb2 : b ≤ n) (hm : 0 ≤ m) : -(m * n) ≤ a * b ∧ a * b ≤ m * n := by
  have h1 : a * b ≤ m * b := Int.mul_le_mul_of_nonneg_right ha2 hb
  have h2 : m * b ≤ m * n := Int.mul_le_mul_of_nonneg_left hb2 hm
  have h3 : -m * b ≤ a * b := Int.mul_le_mul_of_nonneg_right ha hb
  rw [Int.neg_mul] at h3
  omega
theorem mul_up {a b m n : Int} (ha2 : a ≤ m) (hb : 0 ≤ b) (hb2 : b ≤ n) (hm : 0 ≤ m) : a * b ≤ m * n := Int.le_trans (Int.mul_le_mul_of_nonneg_right ha2 hb) (Int.mul_le_mul_of_nonneg_left hb2 hm)
theorem toInt_bd (x : Int64) : -9223372036854775808 ≤ x.toInt ∧ x.toInt < 9223372036854775808 := by
  rw [toInt_un]; have := un_lt x; split <;> omega
theorem multiplyHigh_ok {G : Gt} {d : Nat} {x y : Int64} {h : AH} {K : Outcome → AH → Prop} (kk : ∀ r : Int64, r.toInt = x.toInt * y.toInt / 18446744073709551616 → K (.returned (some (.long r))) h) : MW G d e_J5_multiplyHigh [.long x, .long y] h K := by
  refine st_J5_multiplyHigh fun X o hG hD hf => ?_
  refine k_J5_multiplyHigh_0 o (kk _ ?_)
  have bx := toInt_bd x
  have by_ := toInt_bd y
  generalize hx1 : x >>> ((nI 32).toInt64 &&& 63) = x1
  generalize hy1 : y >>> ((nI 32).toInt64 &&& 63) = y1
  generalize hx2 : x &&& (4294967295 : Int64) = x2
  generalize hy2 : y &&& (4294967295 : Int64) = y2
  have a1 : x1.toInt = x.toInt / 4294967296 := by rw [← hx1, toInt_shr _ (by omega)]; rfl
  have a2 : y1.toInt = y.toInt / 4294967296 := by rw [← hy1, toInt_shr _ (by omega)]; rfl
  have a3 : x2.toInt = x.toInt % 4294967296 := by rw [← hx2, toInt_and32]
  have a4 : y2.toInt = y.toInt % 4294967296 := by rw [← hy2, toInt_and32]
  have eD : un y2 = (y.toInt % 4294967296).toNat := by have q := toInt_un y2; have := un_lt y2; split at q <;> omega
  have eB : un x2 = (x.toInt % 4294967296).toNat := by have q := toInt_un x2; have := un_lt x2; split at q <;> omega
  generalize hA : x.toInt / 4294967296 = A at *
  generalize hB : x.toInt % 4294967296 = B at *
  generalize hC : y.toInt / 4294967296 = C at *
  generalize hE : y.toInt % 4294967296 = D at *
  have bA : -2147483648 ≤ A ∧ A ≤ 2147483647 := by omega
  have bC : -2147483648 ≤ C ∧ C ≤ 2147483647 := by omega
  have bB : 0 ≤ B ∧ B ≤ 4294967295 := by omega
  have bD : 0 ≤ D ∧ D ≤ 4294967295 := by omega
  have m1 := mul_bd (a := A) (b := D) (m := 2147483648) (n := 4294967295) (by omega) (by omega) bD.1 bD.2 (by omega)
  have m2 := mul_bd (a := C) (b := B) (m := 2147483648) (n := 4294967295) (by omega) (by omega) bB.1 bB.2 (by omega)
  have m3 := mul_bd (a := B) (b := D) (m := 4294967295) (n := 4294967295) (by omega) (by omega) bD.1 bD.2 (by omega)
  have m1' := mul_up (a := A) (b := D) bA.2 bD.1 bD.2 (by omega)
  have m2' := mul_up (a := C) (b := B) bC.2 bB.1 bB.2 (by omega)
  have m3' : 0 ≤ B * D := Int.mul_nonneg bB.1 bD.1
  have exy : x.toInt * y.toInt = (A * 4294967296 + B) * (C * 4294967296 + D) := by rw [show x.toInt = A * 4294967296 + B by omega, show y.toInt = C * 4294967296 + D by omega]
  have z2 : un (x2 * y2) = (B * D).toNat := by
    rw [un_mul, eB, eD, ← Int.toNat_mul bB.1 bD.1]
    exact Nat.mod_eq_of_lt (by omega)
  generalize hz : ((x2 * y2).toUInt64 >>> ((nI 32).toInt64.toUInt64 &&& Int64.toUInt64 63)).toInt64 = z
  have ez : z.toInt = B * D / 4294967296 := by
    have q : un z = un (x2 * y2) / 4294967296 := by rw [← hz, un_ushr _ (by omega), Nat.shiftRight_eq_div_pow]
    rw [toInt_un, q, z2]
    generalize B * D = v at *
    split <;> omega
  have e1 : (x1 * y2).toInt = A * D := by rw [toInt_mulB (by rw [a1, a4]; omega) (by rw [a1, a4]; omega), a1, a4]
  have e2 : (x1 * y2 + z).toInt = A * D + B * D / 4294967296 := by rw [toInt_addB (by rw [e1, ez]; omega) (by rw [e1, ez]; omega), e1, ez]
  generalize ht : x1 * y2 + z = t at *
  have e3 : (t &&& (4294967295 : Int64)).toInt = (A * D + B * D / 4294967296) % 4294967296 := by rw [toInt_and32, e2]
  have e4 : (t >>> ((nI 32).toInt64 &&& 63)).toInt = (A * D + B * D / 4294967296) / 4294967296 := by rw [toInt_shr _ (by omega), e2]; rfl
  have e5 : (x2 * y1).toInt = B * C := by rw [toInt_mulB (by rw [a3, a2, Int.mul_comm]; omega) (by rw [a3, a2, Int.mul_comm]; omega), a3, a2]
  have m2c : C * B = B * C := Int.mul_comm _ _
  have e6 : ((t &&& (4294967295 : Int64)) + x2 * y1).toInt = (A * D + B * D / 4294967296) % 4294967296 + B * C := by rw [toInt_addB (by rw [e3, e5]; omega) (by rw [e3, e5]; omega), e3, e5]
  have e7 : (((t &&& (4294967295 : Int64)) + x2 * y1) >>> ((nI 32).toInt64 &&& 63)).toInt = ((A * D + B * D / 4294967296) % 4294967296 + B * C) / 4294967296 := by rw [toInt_shr _ (by omega), e6]; rfl
  have bAC : -4611686018427387904 ≤ A * C ∧ A * C ≤ 4611686018427387904 := by
    by_cases q : 0 ≤ C
    · have := mul_bd (a := A) (b := C) (m := 2147483648) (n := 2147483648) (by omega) (by omega) q (by omega) (by omega); omega
    · have := mul_bd (a := A) (b := -C) (m := 2147483648) (n := 2147483648) (by omega) (by omega) (by omega) (by omega) (by omega)
      rw [Int.mul_neg] at this; omega
  have e8 : (x1 * y1).toInt = A * C := by rw [toInt_mulB (by rw [a1, a2]; omega) (by rw [a1, a2]; omega), a1, a2]
  have e9 : (x1 * y1 + (t >>> ((nI 32).toInt64 &&& 63))).toInt = A * C + (A * D + B * D / 4294967296) / 4294967296 := by rw [toInt_addB (by rw [e8, e4]; omega) (by rw [e8, e4]; omega), e8, e4]
  rw [toInt_addB (by rw [e9, e7]; omega) (by rw [e9, e7]; omega), e9, e7, exy]
  exact hi_int bB.1 (by omega) bD.1 (by omega)
