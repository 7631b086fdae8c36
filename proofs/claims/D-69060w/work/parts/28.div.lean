/-! division bit by bit: both sides do the same steps -/
def sl1 (x : Int64) : Int64 := x <<< ((nI 1).toInt64 &&& 63)
def sr63 (x : Int64) : Int64 := (x.toUInt64 >>> ((nI 63).toInt64.toUInt64 &&& Int64.toUInt64 63)).toInt64
/-- bit k of a number of 128 bits -/
def dvb (H L : Int64) (k : Nat) : Int64 := (if 63 < k then H >>> ((nI k - nI 64).toInt64 &&& 63) else L >>> ((nI k).toInt64 &&& 63)) &&& 1
/-- one step: what is left, high and low, and the quotient -/
def dvs (H' L' b : Int64) (s : Int64 × Int64 × Int64 × Int64) : Int64 × Int64 × Int64 × Int64 :=
  if ¬ s.1 < 0 ∧ w128 (sl1 s.1 ||| sr63 s.2.1) (sl1 s.2.1 ||| b) < w128 H' L' then (sl1 s.1 ||| sr63 s.2.1, sl1 s.2.1 ||| b, sl1 s.2.2.1 ||| sr63 s.2.2.2, sl1 s.2.2.2)
  else ((sl1 s.1 ||| sr63 s.2.1) - H' - (if un (sl1 s.2.1 ||| b) < un L' then 1 else 0), (sl1 s.2.1 ||| b) - L', sl1 s.2.2.1 ||| sr63 s.2.2.2, sl1 s.2.2.2 ||| 1)
def dv (H L H' L' : Int64) : Nat → Int64 × Int64 × Int64 × Int64 → Int64 × Int64 × Int64 × Int64
  | 0, s => s
  | n + 1, s => dv H L H' L' n (dvs H' L' (dvb H L n) s)
theorem divide_loop {w : Nat} {H L H' L' : Int64} {rst : Int32} {X : Xt} (o : OK e_X19_divide X) {K : Outcome → AH → Prop} {h : AH} {b : Bool} (hw : RW h w H L b) (hd : 3 ≤ X.d) : ∀ (n : Nat) (s : Int64 × Int64 × Int64 × Int64) (v15 v16 : Value), n ≤ 128 →
    (∀ v14 v15 v16 rh rl qh ql, (rh, rl, qh, ql) = dv H L H' L' n s → V X K 172 [.ref w, .long H', nov, .long L', nov, .int rst, .long rh, nov, .long rl, nov, .long qh, nov, .long ql, nov, v14, v15, v16] [] h) →
    V X K 16 [.ref w, .long H', nov, .long L', nov, .int rst, .long s.1, nov, .long s.2.1, nov, .long s.2.2.1, nov, .long s.2.2.2, nov, .int (nI n + (-1)), v15, v16] [] h := by
  obtain ⟨t, e1, e2, e3⟩ := hw
  intro n
  induction n with
  | zero =>
    intro s v15 v16 hn k
    refine k_X19_divide_16 o (fun _ => ?_) (fun c => absurd (by decide) c)
    exact k _ _ _ _ _ _ _ rfl
  | succ n ih =>
    intro s v15 v16 hn k
    have en : nI (n + 1) + (-1) = nI n := by rw [← nI_add]; show nI n + 1 + -1 = nI n; rw [Int32.add_assoc]; show nI n + 0 = nI n; rw [Int32.add_zero]
    rw [en]
    have s166 : ∀ rh rl qh ql v15 v16, (rh, rl, qh, ql) = dvs H' L' (dvb H L n) s → V X K 166 [.ref w, .long H', nov, .long L', nov, .int rst, .long rh, nov, .long rl, nov, .long qh, nov, .long ql, nov, .int (nI n), v15, v16] [] h := by
      intro rh rl qh ql v15 v16 hs
      refine k_X19_divide_166 o ?_
      have := ih (rh, rl, qh, ql) v15 v16 (by omega) (fun v14 v15 v16 rh' rl' qh' ql' hh => k v14 v15 v16 rh' rl' qh' ql' (by rw [hh, hs]; rfl))
      exact this
    have s121 : ∀ v15 v16, ¬ (¬ s.1 < 0 ∧ w128 (sl1 s.1 ||| sr63 s.2.1) (sl1 s.2.1 ||| dvb H L n) < w128 H' L') → V X K 121 [.ref w, .long H', nov, .long L', nov, .int rst, .long (sl1 s.1 ||| sr63 s.2.1), nov, .long (sl1 s.2.1 ||| dvb H L n), nov, .long (sl1 s.2.2.1 ||| sr63 s.2.2.2), nov, .long (sl1 s.2.2.2), nov, .int (nI n), v15, v16] [] h := by
      intro v15 v16 hc
      have e : dvs H' L' (dvb H L n) s = ((sl1 s.1 ||| sr63 s.2.1) - H' - (if un (sl1 s.2.1 ||| dvb H L n) < un L' then 1 else 0), (sl1 s.2.1 ||| dvb H L n) - L', sl1 s.2.2.1 ||| sr63 s.2.2.2, sl1 s.2.2.2 ||| 1) := if_neg hc
      refine k_X19_divide_121 o ?_
      refine compareU_ok (by omega) ?_
      refine k_X19_divide_127 o (fun c => ?_) (fun c => ?_)
      · have c : ¬ (un (sl1 s.2.1 ||| dvb H L n) < un L') := fun q => Int32.not_lt.mpr c (cmu_neg.mpr q)
        rw [if_neg c] at e
        refine k_X19_divide_134 o ?_
        refine k_X19_divide_135 o (fun _ => ?_) (fun q => absurd rfl q)
        refine k_X19_divide_156 o ?_
        refine k_X19_divide_157 o ?_
        exact s166 _ _ _ _ _ _ e.symm
      · have c : un (sl1 s.2.1 ||| dvb H L n) < un L' := cmu_neg.mp (Int32.not_le.mp c)
        rw [if_pos c] at e
        refine k_X19_divide_130 o ?_
        refine k_X19_divide_135 o (fun q => absurd q (by decide)) (fun _ => ?_)
        refine k_X19_divide_152 o ?_
        refine k_X19_divide_157 o ?_
        exact s166 _ _ _ _ _ _ e.symm
    have s78 : ∀ (tp : Bool) (x : Int64) v16, (x &&& 1) = dvb H L n → (tp = true ↔ s.1 < 0) → V X K 78 [.ref w, .long H', nov, .long L', nov, .int rst, .long (sl1 s.1 ||| sr63 s.2.1), nov, .long s.2.1, nov, .long s.2.2.1, nov, .long s.2.2.2, nov, .int (nI n), .int (bI tp), v16] [.long x, .long (sl1 s.2.1)] h := by
      intro tp x v16 hx htp
      refine k_X19_divide_78 o (fun c => ?_) (fun c => ?_)
      · rw [hx]
        refine s121 _ _ fun q => q.1 (htp.mp ?_)
        cases tp with
        | true => rfl
        | false => exact absurd rfl c
      · have c := bI_0.mp c
        rw [hx]
        refine k_X19_divide_106 o ?_
        refine wcompare_ok (by omega) ?_
        have hs : ¬ s.1 < 0 := fun q => by rw [htp.mpr q] at c; cases c
        refine k_X19_divide_115 o (fun c => ?_) (fun c => ?_)
        · exact s121 _ _ fun q => Int32.not_lt.mpr c (cmw_neg.mpr q.2)
        · have c := cmw_neg.mp (Int32.not_le.mp c)
          refine k_X19_divide_118 o ?_
          refine s166 _ _ _ _ _ _ ?_
          exact (if_pos ⟨hs, c⟩ : dvs H' L' (dvb H L n) s = _).symm
    have s33 : ∀ tp : Bool, (tp = true ↔ s.1 < 0) → V X K 33 [.ref w, .long H', nov, .long L', nov, .int rst, .long s.1, nov, .long s.2.1, nov, .long s.2.2.1, nov, .long s.2.2.2, nov, .int (nI n), v15, v16] [.int (bI tp)] h := by
      intro tp htp
      refine k_X19_divide_33 o (fun c => ?_) (fun c => ?_)
      · have c : ¬ (63 < n) := fun q => by have := (nI_leI (by omega) (by omega)).mp c; omega
        refine k_X19_divide_71 o ?_
        exact s78 tp _ _ (by unfold dvb; rw [if_neg c]) htp
      · have c : 63 < n := by
          by_cases q : 63 < n
          · exact q
          · exact absurd ((nI_leI (by omega) (by omega)).mpr (by omega)) c
        refine k_X19_divide_58 o ?_
        exact s78 tp _ _ (by unfold dvb; rw [if_pos c]) htp
    refine k_X19_divide_16 o (fun c => absurd c (nI_pos (by omega))) (fun _ => ?_)
    refine k_X19_divide_21 o (fun c => ?_) (fun c => ?_)
    · refine k_X19_divide_32 o ?_
      exact s33 false ⟨fun q => (nomatch q), fun q => absurd q (Int64.not_lt.mpr c)⟩
    · refine k_X19_divide_28 o ?_
      exact s33 true ⟨fun _ => Int64.not_le.mp c, fun _ => rfl⟩
theorem divide_ok {G : Gt} {d w : Nat} {H L H' L' : Int64} {b r : Bool} {h : AH} {K : Outcome → AH → Prop} (hw : RW h w H L b) (hd : 3 ≤ d)
    (kk : ∀ h' rh rl qh ql, Fq WW h h' → (rh, rl, qh, ql) = dv H L H' L' 128 (0, 0, 0, 0) → RW h' w (if r then rh else qh) (if r then rl else ql) false → K (.returned none) h') : MW G d e_X19_divide [.ref w, .long H', .long L', .int (bI r)] h K := by
  refine st_X19_divide fun X o hG hD hf => ?_
  subst hG; subst hD
  have t := hw.1
  refine k_X19_divide_0 o ?_
  refine divide_loop o hw hd 128 (0, 0, 0, 0) nov nov (by omega) fun v14 v15 v16 rh rl qh ql hh => ?_
  have fin : ∀ h', Fq WW h h' → RW h' w (if r then rh else qh) (if r then rl else ql) false → K (.returned none) h' := fun h' f1 r1 => kk h' rh rl qh ql f1 hh r1
  cases r with
  | false =>
    refine k_X19_divide_172 o (fun _ => ?_) (fun c => absurd rfl c)
    refine k_X19_divide_183 o ?_
    refine k_X19_divide_185 o (fun _ => ?_) (fun c => absurd rfl c)
    refine k_X19_divide_195 o ?_
    refine k_X19_divide_197 o ?_
    refine wset_ok hw fun h' f1 r1 => ?_
    exact k_X19_divide_200 o (fin h' f1 r1)
  | true =>
    refine k_X19_divide_172 o (fun c => absurd c (by decide)) (fun _ => ?_)
    refine k_X19_divide_178 o ?_
    refine k_X19_divide_185 o (fun c => absurd c (by decide)) (fun _ => ?_)
    refine k_X19_divide_190 o ?_
    refine k_X19_divide_197 o ?_
    refine wset_ok hw fun h' f1 r1 => ?_
    exact k_X19_divide_200 o (fin h' f1 r1)
theorem up_nat {P Q M x y : Nat} (hM : Q * P = M) (hP : 0 < P) (hQ : 0 < Q) : ((x * P) % M + y / Q) * M + (y * P) % M = ((x * M + y) * P) % (M * M) ∨ ¬ (x < M ∧ y < M) := by
  by_cases h : x < M ∧ y < M
  · left
    have e1 : (x * P) % M = (x % Q) * P := by rw [← hM, Nat.mul_mod_mul_right]
    have e2 : (y * P) % M = (y % Q) * P := by rw [← hM, Nat.mul_mod_mul_right]
    have d1 : x * P = x / Q * M + (x % Q) * P := by
      have := Nat.div_add_mod x Q
      rw [← hM]
      calc x * P = (Q * (x / Q) + x % Q) * P := by rw [this]
        _ = x / Q * (Q * P) + x % Q * P := by rw [Nat.add_mul, Nat.mul_comm Q, Nat.mul_assoc]
    have d2 : y * P = y / Q * M + (y % Q) * P := by
      have := Nat.div_add_mod y Q
      rw [← hM]
      calc y * P = (Q * (y / Q) + y % Q) * P := by rw [this]
        _ = y / Q * (Q * P) + y % Q * P := by rw [Nat.add_mul, Nat.mul_comm Q, Nat.mul_assoc]
    have d3 : (x * M + y) * P = x / Q * (M * M) + (((x % Q) * P + y / Q) * M + (y % Q) * P) := by
      calc (x * M + y) * P = x * P * M + y * P := by rw [Nat.add_mul, Nat.mul_right_comm]
        _ = (x / Q * M + (x % Q) * P) * M + (y / Q * M + (y % Q) * P) := by rw [← d1, ← d2]
        _ = _ := by rw [Nat.add_mul, Nat.mul_assoc, Nat.add_mul]; omega
    have b1 : (x % Q) * P + P ≤ M := by
      have : x % Q + 1 ≤ Q := Nat.mod_lt _ hQ
      have := Nat.mul_le_mul_right P this
      rw [Nat.add_mul, hM] at this; omega
    have b2 : (y % Q) * P < M := by
      have : y % Q + 1 ≤ Q := Nat.mod_lt _ hQ
      have := Nat.mul_le_mul_right P this
      rw [Nat.add_mul, hM] at this; omega
    have b3 : y / Q < P := (Nat.div_lt_iff_lt_mul hQ).mpr (by rw [Nat.mul_comm, hM]; exact h.2)
    have b4 : ((x % Q) * P + y / Q) * M + (y % Q) * P < M * M := by
      have : (x % Q) * P + y / Q + 1 ≤ M := by omega
      have := Nat.mul_le_mul_right M this
      rw [Nat.add_mul] at this; omega
    rw [e1, e2, d3, Nat.add_comm (x / Q * (M * M)), Nat.add_mul_mod_self_right, Nat.mod_eq_of_lt b4]
  · exact Or.inr h
