/-! frames by lists of fields; bits -/
def FS (l : List Nat) (f _a : Nat) : Prop := l.contains f = true
theorem FS.n {l : List Nat} {f a : Nat} (h : l.contains f = false) : ¬ FS l f a := fun q => by unfold FS at q; rw [h] at q; cases q
theorem FS.mono {l l' : List Nat} (h : l.all (fun f => l'.contains f) = true) : ∀ f a, FS l f a → FS l' f a := fun f a q => by
  unfold FS at *
  rw [List.all_eq_true] at h
  exact h f (List.contains_iff_mem.mp q)
theorem FS.p1 {l : List Nat} {f0 a0 : Nat} (h : l.contains f0 = true) : ∀ f a, P1 f0 a0 f a → FS l f a := fun f a q => by rw [q.1]; exact h
theorem msb_l (x : Int64) {s m : Nat} (hs : s < 64) (hm : s + m ≤ 64) {i : Nat} (hi : i < m) : (un (x >>> ((nI s).toInt64 &&& 63))).testBit i = (un x).testBit (i + s) := by
  rw [sh_l s hs]
  unfold un
  rw [Int64.toBitVec_shiftRight]
  have : ((lN s).toBitVec.smod 64).toNat = s := smod_l ⟨s, hs⟩
  simp only [BitVec.sshiftRight']
  rw [this]
  show (BitVec.sshiftRight x.toBitVec s).getLsbD i = x.toBitVec.getLsbD (i + s)
  rw [BitVec.getLsbD_sshiftRight, if_pos (by omega), Nat.add_comm s i]
  have : decide (64 ≤ i) = false := by rw [decide_eq_false]; omega
  rw [this]; rfl
theorem un_fld (x : Int64) {s m : Nat} (hs : s < 64) (hm : s + m ≤ 64) {y : Int64} (hy : un y = 2 ^ m - 1) : un ((x >>> ((nI s).toInt64 &&& 63)) &&& y) = un x / 2 ^ s % 2 ^ m := by
  refine Nat.eq_of_testBit_eq fun i => ?_
  rw [un_and, hy, Nat.testBit_and, Nat.testBit_two_pow_sub_one, Nat.testBit_mod_two_pow, Nat.testBit_div_two_pow]
  by_cases hi : i < m
  · rw [msb_l x hs hm hi]; simp [hi]
  · simp [hi]
theorem sm31 : ∀ k : Fin 32, ((nI k.val &&& 31).toBitVec.smod 32#32).toNat = k.val := by decide +kernel
theorem um_shl (x : Int32) {k : Nat} (h : k < 32) : um (x <<< (nI k &&& 31)) = (um x <<< k) % 4294967296 := by
  unfold um
  rw [Int32.toBitVec_shiftLeft]
  have : ((nI k &&& 31).toBitVec.smod 32).toNat = k := sm31 ⟨k, h⟩
  simp only [BitVec.shiftLeft_eq', BitVec.toNat_shiftLeft]
  rw [this]
theorem um_shr (x : Int32) {k : Nat} (h : k < 32) (hx : um x < 2147483648) : um (x >>> (nI k &&& 31)) = um x >>> k := by
  unfold um at *
  rw [Int32.toBitVec_shiftRight]
  have hm : x.toBitVec.msb = false := by rw [BitVec.msb_eq_false_iff_two_mul_lt]; omega
  have : ((nI k &&& 31).toBitVec.smod 32).toNat = k := sm31 ⟨k, h⟩
  simp only [BitVec.sshiftRight', BitVec.sshiftRight_eq_of_msb_false hm]
  rw [this]; simp
theorem um_0 : um 0 = 0 := rfl
theorem uI {x : Int32} {n : Nat} (h : um x = n) : x = nI n := by rw [← h, nI_um]
theorem uL {x : Int64} {n : Nat} (h : un x = n) : x = lN n := by rw [← h, lN_un]
theorem and_m (n m : Nat) : n &&& (2 ^ m - 1) = n % 2 ^ m := Nat.and_two_pow_sub_one_eq_mod ..
theorem un_64 (x : Int32) (h : um x < 2147483648) : un x.toInt64 = um x := by
  have e : x = nI (um x) := (nI_um x).symm
  rw [e, nI_l (by exact h), un_l (by have := um_lt x; omega), um_n (um_lt x)]
