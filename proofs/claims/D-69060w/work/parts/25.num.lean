/-! numbers without sign -/
def un (x : Int64) : Nat := x.toBitVec.toNat
def um (x : Int32) : Nat := x.toBitVec.toNat
theorem un_lt (x : Int64) : un x < 18446744073709551616 := x.toBitVec.isLt
theorem um_lt (x : Int32) : um x < 4294967296 := x.toBitVec.isLt
theorem un_inj {x y : Int64} (h : un x = un y) : x = y := Int64.toBitVec_inj.mp (BitVec.eq_of_toNat_eq h)
theorem um_inj {x y : Int32} (h : um x = um y) : x = y := Int32.toBitVec_inj.mp (BitVec.eq_of_toNat_eq h)
theorem un_l {n : Nat} (h : n < 18446744073709551616) : un (lN n) = n := by
  show (Int64.ofNat n).toBitVec.toNat = n
  rw [Int64.toBitVec_ofNat', BitVec.toNat_ofNat]; exact Nat.mod_eq_of_lt h
theorem um_n {n : Nat} (h : n < 4294967296) : um (nI n) = n := by
  show (Int32.ofNat n).toBitVec.toNat = n
  rw [Int32.toBitVec_ofNat', BitVec.toNat_ofNat]; exact Nat.mod_eq_of_lt h
theorem lN_un (x : Int64) : lN (un x) = x := un_inj (un_l (un_lt x))
theorem nI_um (x : Int32) : nI (um x) = x := um_inj (um_n (um_lt x))
theorem un_or (x y : Int64) : un (x ||| y) = un x ||| un y := by unfold un; rw [Int64.toBitVec_or, BitVec.toNat_or]
theorem un_and (x y : Int64) : un (x &&& y) = un x &&& un y := by unfold un; rw [Int64.toBitVec_and, BitVec.toNat_and]
theorem un_xor (x y : Int64) : un (x ^^^ y) = un x ^^^ un y := by unfold un; rw [Int64.toBitVec_xor, BitVec.toNat_xor]
theorem um_or (x y : Int32) : um (x ||| y) = um x ||| um y := by unfold um; rw [Int32.toBitVec_or, BitVec.toNat_or]
theorem um_and (x y : Int32) : um (x &&& y) = um x &&& um y := by unfold um; rw [Int32.toBitVec_and, BitVec.toNat_and]
theorem um_xor (x y : Int32) : um (x ^^^ y) = um x ^^^ um y := by unfold um; rw [Int32.toBitVec_xor, BitVec.toNat_xor]
theorem un_add (x y : Int64) : un (x + y) = (un x + un y) % 18446744073709551616 := by unfold un; rw [Int64.toBitVec_add, BitVec.toNat_add]
theorem un_sub (x y : Int64) : un (x - y) = (18446744073709551616 - un y + un x) % 18446744073709551616 := by unfold un; rw [Int64.toBitVec_sub, BitVec.toNat_sub]
theorem un_mul (x y : Int64) : un (x * y) = (un x * un y) % 18446744073709551616 := by unfold un; rw [Int64.toBitVec_mul, BitVec.toNat_mul]
theorem um_add (x y : Int32) : um (x + y) = (um x + um y) % 4294967296 := by unfold um; rw [Int32.toBitVec_add, BitVec.toNat_add]
theorem um_sub (x y : Int32) : um (x - y) = (4294967296 - um y + um x) % 4294967296 := by unfold um; rw [Int32.toBitVec_sub, BitVec.toNat_sub]
theorem um_mul (x y : Int32) : um (x * y) = (um x * um y) % 4294967296 := by unfold um; rw [Int32.toBitVec_mul, BitVec.toNat_mul]
theorem um_32 (x : Int64) : um x.toInt32 = un x % 4294967296 := by
  unfold um un
  rw [Int64.toBitVec_toInt32, BitVec.toNat_signExtend]
  simp [BitVec.toNat_setWidth]
theorem un_ltI {x y : Int64} (hx : un x < 9223372036854775808) (hy : un y < 9223372036854775808) : x < y ↔ un x < un y := by
  rw [Int64.lt_iff_toInt_lt, ← Int64.toInt_toBitVec, ← Int64.toInt_toBitVec, BitVec.toInt_eq_toNat_of_lt (by unfold un at hx; omega), BitVec.toInt_eq_toNat_of_lt (by unfold un at hy; omega)]
  unfold un; omega
theorem um_ltI {x y : Int32} (hx : um x < 2147483648) (hy : um y < 2147483648) : x < y ↔ um x < um y := by
  rw [Int32.lt_iff_toInt_lt, ← Int32.toInt_toBitVec, ← Int32.toInt_toBitVec, BitVec.toInt_eq_toNat_of_lt (by unfold um at hx; omega), BitVec.toInt_eq_toNat_of_lt (by unfold um at hy; omega)]
  unfold um; omega
theorem un_neg {x : Int64} : x < 0 ↔ 9223372036854775808 ≤ un x := by
  rw [Int64.lt_iff_toInt_lt, ← Int64.toInt_toBitVec, BitVec.toInt_eq_toNat_cond]
  unfold un
  have := x.toBitVec.isLt
  show _ < (0 : Int) ↔ _
  split <;> omega
theorem um_neg {x : Int32} : x < 0 ↔ 2147483648 ≤ um x := by
  rw [Int32.lt_iff_toInt_lt, ← Int32.toInt_toBitVec, BitVec.toInt_eq_toNat_cond]
  unfold um
  have := x.toBitVec.isLt
  show _ < (0 : Int) ↔ _
  split <;> omega
theorem sh_l (k : Nat) (h : k < 64) : ((nI k).toInt64 &&& 63) = lN k := by
  refine un_inj ?_
  rw [nI_l (by omega), un_and, un_l (by omega), show un 63 = 63 from rfl, show (63 : Nat) = 2 ^ 6 - 1 from rfl, Nat.and_two_pow_sub_one_eq_mod]
  omega
theorem smod_l : ∀ k : Fin 64, ((lN k.val).toBitVec.smod 64#64).toNat = k.val := by decide +kernel
theorem un_shl (x : Int64) {k : Nat} (h : k < 64) : un (x <<< ((nI k).toInt64 &&& 63)) = (un x <<< k) % 18446744073709551616 := by
  rw [sh_l k h]
  unfold un
  rw [Int64.toBitVec_shiftLeft]
  have := smod_l ⟨k, h⟩
  simp [BitVec.toNat_shiftLeft]
  rw [this]
theorem un_ushr (x : Int64) {k : Nat} (h : k < 64) : un ((x.toUInt64 >>> ((nI k).toInt64.toUInt64 &&& Int64.toUInt64 63)).toInt64) = un x >>> k := by
  have e : ((nI k).toInt64.toUInt64 &&& Int64.toUInt64 63) = UInt64.ofNat k := by
    have := congrArg Int64.toUInt64 (sh_l k h)
    rw [Int64.toUInt64_and] at this
    exact this
  rw [e]
  unfold un
  show (x.toUInt64 >>> UInt64.ofNat k).toBitVec.toNat = _
  rw [UInt64.toBitVec_shiftRight]
  simp [Nat.mod_eq_of_lt h, Nat.mod_eq_of_lt (show k < 18446744073709551616 by omega)]
theorem un_shr (x : Int64) {k : Nat} (h : k < 64) (hx : un x < 9223372036854775808) : un (x >>> ((nI k).toInt64 &&& 63)) = un x >>> k := by
  rw [sh_l k h]
  unfold un at *
  rw [Int64.toBitVec_shiftRight]
  have hm : x.toBitVec.msb = false := by rw [BitVec.msb_eq_false_iff_two_mul_lt]; omega
  have := smod_l ⟨k, h⟩
  simp [BitVec.sshiftRight', BitVec.sshiftRight_eq_of_msb_false hm]
  rw [this]
theorem sm_l (k : Nat) (h : k < 32) : ((nI k).toUInt32 &&& Int32.toUInt32 31) = UInt32.ofNat k := by
  have : ∀ k : Fin 32, ((nI k.val).toUInt32 &&& Int32.toUInt32 31) = UInt32.ofNat k.val := by decide +kernel
  exact this ⟨k, h⟩
theorem um_ushr (x : Int32) {k : Nat} (h : k < 32) : um ((x.toUInt32 >>> ((nI k).toUInt32 &&& Int32.toUInt32 31)).toInt32) = um x >>> k := by
  rw [sm_l k h]
  unfold um
  show (x.toUInt32 >>> UInt32.ofNat k).toBitVec.toNat = _
  rw [UInt32.toBitVec_shiftRight]
  simp [Nat.mod_eq_of_lt h, Nat.mod_eq_of_lt (show k < 4294967296 by omega)]
theorem nI_ushr {n k : Nat} (hn : n < 4294967296) (h : k < 32) : (((nI n).toUInt32 >>> ((nI k).toUInt32 &&& Int32.toUInt32 31)).toInt32) = nI (n / 2 ^ k) := by
  refine um_inj ?_
  rw [um_ushr _ h, um_n hn, um_n (Nat.lt_of_le_of_lt (Nat.div_le_self ..) hn), Nat.shiftRight_eq_div_pow]
/-! leading zeros -/
theorem inlz_ok {G : Gt} {d n : Nat} {h : AH} {K : Outcome → AH → Prop} (hn : 0 < n) (hb : n < 2147483648) (kk : K (.returned (some (.int (nI (31 - Nat.log2 n))))) h) : MW G d e_J8_numberOfLeadingZeros [.int (nI n)] h K := by
  refine st_J8_numberOfLeadingZeros fun X o hG hD hf => ?_
  have step : ∀ {n m b k : Nat}, 0 < n → 2 ^ k ≤ n → Nat.log2 n = Nat.log2 (n / 2 ^ k) + k := fun {n m b k} h0 h1 => by
    have hp : 0 < n / 2 ^ k := Nat.div_pos h1 (Nat.two_pow_pos k)
    refine (Nat.log2_eq_iff (by omega)).mpr ⟨?_, ?_⟩
    · have := (Nat.log2_eq_iff (by omega)).mp (rfl : Nat.log2 (n / 2 ^ k) = _)
      rw [Nat.pow_add]
      exact Nat.le_trans (Nat.mul_le_mul_right _ this.1) (Nat.div_mul_le_self ..)
    · have := (Nat.log2_eq_iff (by omega)).mp (rfl : Nat.log2 (n / 2 ^ k) = _)
      rw [show Nat.log2 (n / 2 ^ k) + k + 1 = (Nat.log2 (n / 2 ^ k) + 1) + k by omega, Nat.pow_add]
      exact (Nat.div_lt_iff_lt_mul (Nat.two_pow_pos k)).mp this.2
  have l73 : ∀ m s, 0 < m → m < 4 → s + Nat.log2 m = Nat.log2 n → Nat.log2 n ≤ 31 → V X K 73 [.int (nI m), .int (nI (31 - s))] [] h := by
    intro m s h0 h4 hs hl
    refine k_J8_numberOfLeadingZeros_73 o ?_
    have : m / 2 ^ 1 = Nat.log2 m := by
      have : m = 1 ∨ m = 2 ∨ m = 3 := by omega
      rcases this with q | q | q <;> subst q <;> decide
    rw [nI_ushr (by omega) (by omega), this, nI_sub (by omega), show 31 - s - Nat.log2 m = 31 - Nat.log2 n by omega]; exact kk
  have hl : Nat.log2 n < 31 := (Nat.log2_lt (by omega)).mpr (by omega)
  have neg : ∀ {a k : Nat}, k ≤ a → nI a + -(nI k) = nI (a - k) := fun {a k} h => by rw [← Int32.sub_eq_add_neg, nI_sub h]
  have l61 : ∀ m s, 0 < m → m < 16 → s + Nat.log2 m = Nat.log2 n → V X K 61 [.int (nI m), .int (nI (31 - s))] [] h := by
    intro m s h0 h4 hs
    refine k_J8_numberOfLeadingZeros_61 o (fun c => ?_) (fun c => ?_)
    · exact l73 m s h0 ((nI_ltI (by omega) (by omega)).mp c) hs (by omega)
    · have c : ¬ (m < 4) := fun q => c ((nI_ltI (by omega) (by omega)).mpr q)
      have st := step (m := 0) (b := 0) (k := 2) h0 (by omega)
      refine k_J8_numberOfLeadingZeros_66 o ?_
      rw [nI_ushr (by omega) (by omega), show (-2 : Int32) = -(nI 2) from rfl, neg (by omega), Nat.sub_sub]
      exact l73 _ _ (by omega) (by omega) (by omega) (by omega)
  have l48 : ∀ m s, 0 < m → m < 256 → s + Nat.log2 m = Nat.log2 n → V X K 48 [.int (nI m), .int (nI (31 - s))] [] h := by
    intro m s h0 h4 hs
    refine k_J8_numberOfLeadingZeros_48 o (fun c => ?_) (fun c => ?_)
    · exact l61 m s h0 ((nI_ltI (by omega) (by omega)).mp c) hs
    · have c : ¬ (m < 16) := fun q => c ((nI_ltI (by omega) (by omega)).mpr q)
      have st := step (m := 0) (b := 0) (k := 4) h0 (by omega)
      refine k_J8_numberOfLeadingZeros_54 o ?_
      rw [nI_ushr (by omega) (by omega), show (-4 : Int32) = -(nI 4) from rfl, neg (by omega), Nat.sub_sub]
      exact l61 _ _ (by omega) (by omega) (by omega)
  have l33 : ∀ m s, 0 < m → m < 65536 → s + Nat.log2 m = Nat.log2 n → V X K 33 [.int (nI m), .int (nI (31 - s))] [] h := by
    intro m s h0 h4 hs
    refine k_J8_numberOfLeadingZeros_33 o (fun c => ?_) (fun c => ?_)
    · exact l48 m s h0 ((nI_ltI (by omega) (by omega)).mp c) hs
    · have c : ¬ (m < 256) := fun q => c ((nI_ltI (by omega) (by omega)).mpr q)
      have st := step (m := 0) (b := 0) (k := 8) h0 (by omega)
      refine k_J8_numberOfLeadingZeros_40 o ?_
      rw [nI_ushr (by omega) (by omega), show (-8 : Int32) = -(nI 8) from rfl, neg (by omega), Nat.sub_sub]
      exact l48 _ _ (by omega) (by omega) (by omega)
  refine k_J8_numberOfLeadingZeros_0 o (fun _ => ?_) (fun c => absurd (show (0 : Int32) < nI n from (nI_ltI (a := 0) (by omega) (by omega)).mpr hn) c)
  refine k_J8_numberOfLeadingZeros_15 o (fun c => ?_) (fun c => ?_)
  · exact l33 n 0 hn ((nI_ltI (b := 65536) (by omega) (by omega)).mp c) (by omega)
  · have c : ¬ (n < 65536) := fun q => c ((nI_ltI (b := 65536) (by omega) (by omega)).mpr q)
    have st := step (m := 0) (b := 0) (k := 16) hn (by omega)
    refine k_J8_numberOfLeadingZeros_25 o ?_
    rw [nI_ushr (by omega) (by omega), show (-16 : Int32) = -(nI 16) from rfl, neg (by omega)]
    exact l33 _ 16 (by omega) (by omega) (by omega)
def nlz (w n : Nat) : Nat := if n = 0 then w else w - 1 - Nat.log2 n
theorem inlz2_ok {G : Gt} {d n : Nat} {h : AH} {K : Outcome → AH → Prop} (hb : n < 4294967296) (kk : K (.returned (some (.int (nI (nlz 32 n))))) h) : MW G d e_J8_numberOfLeadingZeros [.int (nI n)] h K := by
  unfold nlz at kk
  by_cases h0 : n = 0
  · subst h0
    refine st_J8_numberOfLeadingZeros fun X o hG hD hf => ?_
    refine k_J8_numberOfLeadingZeros_0 o (fun c => absurd c (by decide)) (fun _ => ?_)
    refine k_J8_numberOfLeadingZeros_4 o (fun c => absurd rfl c) (fun _ => ?_)
    refine k_J8_numberOfLeadingZeros_8 o ?_
    exact k_J8_numberOfLeadingZeros_14 o kk
  rw [if_neg h0] at kk
  by_cases h1 : n < 2147483648
  · exact inlz_ok (by omega) h1 kk
  · have hl : Nat.log2 n = 31 := (Nat.log2_eq_iff (by omega)).mpr ⟨by omega, by omega⟩
    rw [hl] at kk
    have hneg : nI n < 0 := um_neg.mpr (by rw [um_n hb]; omega)
    refine st_J8_numberOfLeadingZeros fun X o hG hD hf => ?_
    refine k_J8_numberOfLeadingZeros_0 o (fun c => absurd c (Int32.lt_asymm hneg)) (fun _ => ?_)
    refine k_J8_numberOfLeadingZeros_4 o (fun c => ?_) (fun c => ?_)
    · refine k_J8_numberOfLeadingZeros_13 o ?_
      exact k_J8_numberOfLeadingZeros_14 o kk
    · rw [c] at hneg; exact absurd hneg (by decide)
theorem lnlz_ok {G : Gt} {d n : Nat} {h : AH} {K : Outcome → AH → Prop} (hb : n < 18446744073709551616) (hd : 1 ≤ d) (kk : K (.returned (some (.int (nI (nlz 64 n))))) h) : MW G d e_J7_numberOfLeadingZeros [.long (lN n)] h K := by
  refine st_J7_numberOfLeadingZeros fun X o hG hD hf => ?_
  have e1 : (((lN n).toUInt64 >>> ((nI 32).toInt64.toUInt64 &&& Int64.toUInt64 63)).toInt64).toInt32 = nI (n / 4294967296) := by
    refine um_inj ?_
    rw [um_32, un_ushr _ (by omega), un_l (by omega), um_n (by omega), Nat.shiftRight_eq_div_pow]
    omega
  have e2 : (lN n).toInt32 = nI (n % 4294967296) := by
    refine um_inj ?_
    rw [um_32, un_l (by omega), um_n (by omega)]
  refine k_J7_numberOfLeadingZeros_0 o (fun c => ?_) (fun c => ?_)
  · rw [e1] at c ⊢
    have c : n / 4294967296 ≠ 0 := fun q => c (by rw [q]; rfl)
    refine k_J7_numberOfLeadingZeros_21 o ?_
    refine inlz2_ok (by omega) ?_
    refine k_J7_numberOfLeadingZeros_25 o ?_
    have : Nat.log2 n = Nat.log2 (n / 4294967296) + 32 := by
      refine (Nat.log2_eq_iff (by omega)).mpr ⟨?_, ?_⟩
      · have := (Nat.log2_eq_iff (by omega)).mp (rfl : Nat.log2 (n / 4294967296) = _)
        rw [Nat.pow_add]; omega
      · have := (Nat.log2_eq_iff (by omega)).mp (rfl : Nat.log2 (n / 4294967296) = _)
        rw [show Nat.log2 (n / 4294967296) + 32 + 1 = (Nat.log2 (n / 4294967296) + 1) + 32 by omega, Nat.pow_add]; omega
    unfold nlz at kk ⊢
    rw [if_neg (by omega)] at kk ⊢
    rw [show 32 - 1 - Nat.log2 (n / 4294967296) = 64 - 1 - Nat.log2 n by omega]; exact kk
  · rw [e1] at c ⊢
    have hlt : n < 4294967296 := by
      have h0 : um (nI (n / 4294967296)) = um 0 := by rw [c]
      rw [um_n (by omega)] at h0
      have : um 0 = 0 := rfl
      omega
    refine k_J7_numberOfLeadingZeros_10 o ?_
    rw [e2, Nat.mod_eq_of_lt hlt]
    refine inlz2_ok hlt ?_
    refine k_J7_numberOfLeadingZeros_17 o ?_
    refine k_J7_numberOfLeadingZeros_25 o ?_
    rw [nI_add]
    have : 32 + nlz 32 n = nlz 64 n := by
      unfold nlz
      split
      · rfl
      · have := (Nat.log2_lt (n := n) (k := 32) (by omega)).mpr (by omega); omega
    rw [this]; exact kk
theorem toInt_un (x : Int64) : x.toInt = if un x < 9223372036854775808 then (un x : Int) else (un x : Int) - 18446744073709551616 := by
  rw [← Int64.toInt_toBitVec, BitVec.toInt_eq_toNat_cond]
  unfold un
  have := x.toBitVec.isLt
  split <;> split <;> omega
theorem toInt_um (x : Int32) : x.toInt = if um x < 2147483648 then (um x : Int) else (um x : Int) - 4294967296 := by
  rw [← Int32.toInt_toBitVec, BitVec.toInt_eq_toNat_cond]
  unfold um
  have := x.toBitVec.isLt
  split <;> split <;> omega
theorem min_lt {x y : Int64} : x + (-9223372036854775808 : Int64) < y + (-9223372036854775808 : Int64) ↔ un x < un y := by
  rw [Int64.lt_iff_toInt_lt, toInt_un, toInt_un, un_add, un_add, show un (-9223372036854775808 : Int64) = 9223372036854775808 from rfl]
  have := un_lt x
  have := un_lt y
  split <;> split <;> omega
theorem min_inj {x y : Int64} : x + (-9223372036854775808 : Int64) = y + (-9223372036854775808 : Int64) ↔ x = y := by
  constructor
  · intro h
    have := congrArg (· - (-9223372036854775808 : Int64)) h
    simpa using this
  · intro h; rw [h]
theorem lcompare_ok {G : Gt} {d : Nat} {x y : Int64} {h : AH} {K : Outcome → AH → Prop} (kk : K (.returned (some (.int (if x < y then -1 else if x = y then nI 0 else nI 1)))) h) : MW G d e_J7_compare [.long x, .long y] h K := by
  refine st_J7_compare fun X o hG hD hf => ?_
  refine k_J7_compare_0 o (fun c => ?_) (fun c => ?_)
  · rw [if_neg (Int64.not_lt.mpr c)] at kk
    refine k_J7_compare_10 o (fun c2 => ?_) (fun c2 => ?_)
    · rw [if_neg c2] at kk
      refine k_J7_compare_20 o ?_
      exact k_J7_compare_21 o kk
    · rw [if_pos c2] at kk
      refine k_J7_compare_16 o ?_
      exact k_J7_compare_21 o kk
  · rw [if_pos (Int64.not_le.mp c)] at kk
    refine k_J7_compare_6 o ?_
    exact k_J7_compare_21 o kk
/-- without signs: -1, 0, 1 -/
def cmu (x y : Int64) : Int32 := if un x < un y then -1 else if un x = un y then nI 0 else nI 1
theorem compareU_ok {G : Gt} {d : Nat} {x y : Int64} {h : AH} {K : Outcome → AH → Prop} (hd : 1 ≤ d) (kk : K (.returned (some (.int (cmu x y)))) h) : MW G d e_J7_compareUnsigned [.long x, .long y] h K := by
  refine st_J7_compareUnsigned fun X o hG hD hf => ?_
  refine k_J7_compareUnsigned_0 o ?_
  refine lcompare_ok ?_
  refine k_J7_compareUnsigned_13 o ?_
  unfold cmu at kk
  have e : ∀ (P : Prop) [Decidable P] (Q : Prop) [Decidable Q], (P ↔ Q) → ∀ a b : Int32, (if P then a else b) = if Q then a else b := fun P _ Q _ h a b => by simp only [h]
  rw [e _ _ min_lt, e _ (un x = un y) ⟨fun q => by rw [min_inj.mp q], fun q => min_inj.mpr (un_inj q)⟩]
  exact kk
theorem cmu_neg {x y : Int64} : cmu x y < 0 ↔ un x < un y := by
  unfold cmu
  split
  · next h => exact ⟨fun _ => h, fun _ => by decide⟩
  · next h => split <;> exact ⟨fun q => absurd q (by decide), fun q => absurd q h⟩
theorem cmu_pos {x y : Int64} : 0 < cmu x y ↔ un y < un x := by
  unfold cmu
  split
  · next h => exact ⟨fun q => absurd q (by decide), fun q => by omega⟩
  · next h => split
              · next h2 => exact ⟨fun q => absurd q (by decide), fun q => by omega⟩
              · next h2 => exact ⟨fun _ => by omega, fun _ => by decide⟩
theorem cmu_zero {x y : Int64} : cmu x y = 0 ↔ x = y := by
  unfold cmu
  split
  · next h => exact ⟨fun q => absurd q (by decide), fun q => by subst q; omega⟩
  · next h => split
              · next h2 => exact ⟨fun _ => un_inj h2, fun _ => rfl⟩
              · next h2 => exact ⟨fun q => absurd q (by decide), fun q => absurd (by rw [q]) h2⟩
theorem rotateRight_ok {G : Gt} {d : Nat} {x y : Int32} {h : AH} {K : Outcome → AH → Prop} (kk : K (.returned (some (.int (((x.toUInt32 >>> (y.toUInt32 &&& Int32.toUInt32 31)).toInt32) ||| (x <<< ((-y) &&& 31)))))) h) : MW G d e_J8_rotateRight [.int x, .int y] h K := by
  refine st_J8_rotateRight fun X o hG hD hf => ?_
  exact k_J8_rotateRight_0 o kk
