/-! quotients and shifts of the twin, and its reckoning -/
theorem dg_lo (H L : Int64) : dg H L 0 + dg H L 1 * 65536 + dg H L 2 * 4294967296 + dg H L 3 * 281474976710656 = un L := by
  have := un_lt L
  simp [dg]; omega
theorem dg_hi (H L : Int64) : dg H L 4 + dg H L 5 * 65536 + dg H L 6 * 4294967296 + dg H L 7 * 281474976710656 = un H := by
  have := un_lt H
  simp [dg]; omega
theorem mdiv_loop {w bits : Nat} {H L H' L' : Int64} {rst : Value} {X : Xt} (o : OK e_X26_divide X) {K : Outcome → AH → Prop} {h : AH} : ∀ (n : Nat) (s : Int64 × Int64 × Int64 × Int64) (v20 v21 v22 v23 : Value), n ≤ 128 → 1 ≤ X.d →
    (∀ v19 v20 v21 v22 v23 rh rl qh ql, (rh, rl, qh, ql) = dv H L H' L' n s → V X K 223 [.ref w, rst, .int (nI bits), .long H, nov, .long L, nov, .long H', nov, .long L', nov, .long rh, nov, .long rl, nov, .long qh, nov, .long ql, nov, v19, v20, v21, v22, v23] [] h) →
    V X K 55 [.ref w, rst, .int (nI bits), .long H, nov, .long L, nov, .long H', nov, .long L', nov, .long s.1, nov, .long s.2.1, nov, .long s.2.2.1, nov, .long s.2.2.2, nov, .int (nI n + (-1)), v20, v21, v22, v23] [] h := by
  intro n
  induction n with
  | zero =>
    intro s v20 v21 v22 v23 hn hd k
    refine k_X26_divide_55 o (fun c => ?_) (fun c => ?_)
    · exact k _ _ _ _ _ _ _ _ _ rfl
    · exact absurd (by decide) c
  | succ n ih =>
    intro s v20 v21 v22 v23 hn hd k
    have en : nI (n + 1) + (-1) = nI n := by rw [← nI_add]; show nI n + 1 + -1 = nI n; rw [Int32.add_assoc]; show nI n + 0 = nI n; rw [Int32.add_zero]
    rw [en]
    have s214 : ∀ rh rl q v20 v21 v22 v23, (rh, rl, sl1 s.2.2.1 ||| sr63 s.2.2.2, sl1 s.2.2.2 ||| q) = dvs H' L' (dvb H L n) s → V X K 214 [.ref w, rst, .int (nI bits), .long H, nov, .long L, nov, .long H', nov, .long L', nov, .long rh, nov, .long rl, nov, .long (sl1 s.2.2.1 ||| sr63 s.2.2.2), nov, .long s.2.2.2, nov, .int (nI n), v20, v21, v22, v23] [.long q, .long (sl1 s.2.2.2)] h := by
      intro rh rl q v20 v21 v22 v23 hs
      refine k_X26_divide_214 o ?_
      exact ih (rh, rl, _, _) v20 v21 v22 v23 (by omega) hd (fun v19 v20 v21 v22 v23 rh' rl' qh' ql' hh => k v19 v20 v21 v22 v23 rh' rl' qh' ql' (by rw [hh, hs]; rfl))
    have s188 : ∀ (go : Bool) rh rl v20 v22 v23, (rh, rl, sl1 s.2.2.1 ||| sr63 s.2.2.2, sl1 s.2.2.2 ||| (if go then 1 else 0)) = dvs H' L' (dvb H L n) s → V X K 188 [.ref w, rst, .int (nI bits), .long H, nov, .long L, nov, .long H', nov, .long L', nov, .long rh, nov, .long rl, nov, .long s.2.2.1, nov, .long s.2.2.2, nov, .int (nI n), v20, .int (bI go), v22, v23] [] h := by
      intro go rh rl v20 v22 v23 hs
      refine k_X26_divide_188 o (fun c => ?_) (fun c => ?_)
      · have c := bI_0.mp c
        subst c
        refine k_X26_divide_213 o ?_
        exact s214 _ _ _ _ _ _ _ hs
      · have c : go = true := by
          cases go with
          | true => rfl
          | false => exact absurd rfl c
        subst c
        refine k_X26_divide_209 o ?_
        exact s214 _ _ _ _ _ _ _ hs
    have s136 : ∀ v20 v21 v22 v23, ¬ (¬ s.1 < 0 ∧ w128 (sl1 s.1 ||| sr63 s.2.1) (sl1 s.2.1 ||| dvb H L n) < w128 H' L') → V X K 136 [.ref w, rst, .int (nI bits), .long H, nov, .long L, nov, .long H', nov, .long L', nov, .long (sl1 s.1 ||| sr63 s.2.1), nov, .long (sl1 s.2.1 ||| dvb H L n), nov, .long s.2.2.1, nov, .long s.2.2.2, nov, .int (nI n), v20, v21, v22, v23] [] h := by
      intro v20 v21 v22 v23 hc
      have e : dvs H' L' (dvb H L n) s = ((sl1 s.1 ||| sr63 s.2.1) - H' - (if un (sl1 s.2.1 ||| dvb H L n) < un L' then 1 else 0), (sl1 s.2.1 ||| dvb H L n) - L', sl1 s.2.2.1 ||| sr63 s.2.2.2, sl1 s.2.2.2 ||| 1) := if_neg hc
      refine k_X26_divide_136 o ?_
      refine k_X26_divide_141 o (fun c => ?_) (fun c => ?_)
      · exact absurd c (by decide)
      refine k_X26_divide_148 o (fun c2 => ?_) (fun c2 => ?_)
      · have c2 : ¬ (un (sl1 s.2.1 ||| dvb H L n) < un L') := fun q => Int64.not_lt.mpr c2 (min_lt.mpr q)
        rw [if_neg c2] at e
        refine k_X26_divide_168 o ?_
        refine k_X26_divide_169 o ?_
        exact s188 true _ _ _ _ _ e.symm
      · have c2 : un (sl1 s.2.1 ||| dvb H L n) < un L' := min_lt.mp (Int64.not_le.mp c2)
        rw [if_pos c2] at e
        refine k_X26_divide_164 o ?_
        refine k_X26_divide_169 o ?_
        exact s188 true _ _ _ _ _ e.symm
    have s112 : ∀ (tp : Bool) (x : Int64) v21 v22 v23, (x &&& 1) = dvb H L n → (tp = true ↔ s.1 < 0) → V X K 112 [.ref w, rst, .int (nI bits), .long H, nov, .long L, nov, .long H', nov, .long L', nov, .long (sl1 s.1 ||| sr63 s.2.1), nov, .long s.2.1, nov, .long s.2.2.1, nov, .long s.2.2.2, nov, .int (nI n), .int (bI tp), v21, v22, v23] [.long x, .long (sl1 s.2.1)] h := by
      intro tp x v21 v22 v23 hx htp
      refine k_X26_divide_112 o (fun c => ?_) (fun c => ?_)
      · rw [hx]
        refine s136 _ _ _ _ fun q => q.1 (htp.mp ?_)
        cases tp with
        | true => rfl
        | false => exact absurd rfl c
      · have c := bI_0.mp c
        rw [hx]
        refine k_X26_divide_122 o ?_
        refine mcompare_ok ?_
        have hs : ¬ s.1 < 0 := fun q => by rw [htp.mpr q] at c; cases c
        refine k_X26_divide_133 o (fun c2 => ?_) (fun c2 => ?_)
        · have c2 := cmw_neg.mp c2
          refine k_X26_divide_140 o ?_
          refine k_X26_divide_141 o (fun c3 => ?_) (fun c3 => ?_)
          · refine s188 false _ _ _ _ _ ?_
            rw [show dvs H' L' (dvb H L n) s = _ from if_pos ⟨hs, c2⟩]
            simp
          · exact absurd rfl c3
        · exact s136 _ _ _ _ fun q => c2 (cmw_neg.mpr q.2)
    have s72 : ∀ tp : Bool, (tp = true ↔ s.1 < 0) → V X K 72 [.ref w, rst, .int (nI bits), .long H, nov, .long L, nov, .long H', nov, .long L', nov, .long s.1, nov, .long s.2.1, nov, .long s.2.2.1, nov, .long s.2.2.2, nov, .int (nI n), v20, v21, v22, v23] [.int (bI tp)] h := by
      intro tp htp
      refine k_X26_divide_72 o (fun c => ?_) (fun c => ?_)
      · have c : ¬ (63 < n) := fun q => by have := (nI_leI (by omega) (by omega)).mp c; omega
        refine k_X26_divide_107 o ?_
        exact s112 tp _ _ _ _ (by unfold dvb; rw [if_neg c]) htp
      · have c : 63 < n := by
          by_cases q : 63 < n
          · exact q
          · exact absurd ((nI_leI (by omega) (by omega)).mpr (by omega)) c
        refine k_X26_divide_97 o ?_
        exact s112 tp _ _ _ _ (by unfold dvb; rw [if_pos c]) htp
    refine k_X26_divide_55 o (fun c => ?_) (fun c => ?_)
    · exact absurd c (nI_pos (by omega))
    refine k_X26_divide_60 o (fun c => ?_) (fun c => ?_)
    · refine k_X26_divide_71 o ?_
      exact s72 false ⟨fun q => (nomatch q), fun q => absurd q (Int64.not_lt.mpr c)⟩
    · refine k_X26_divide_67 o ?_
      exact s72 true ⟨fun _ => Int64.not_le.mp c, fun _ => rfl⟩
theorem mdiv_ok {G : Gt} {d : Nat} {h : AH} {K : Outcome → AH → Prop} {w a b r bits : Nat} {H L H' L' : Int64} {qo : Bool} (hs : SW h w a b r) (hb : bits = 8 ∨ bits = 64 ∨ bits = 128) (ha : ∀ k, k < 16 → dgt h 1904 a k = dg H L k) (hb' : ∀ k, k < 16 → dgt h 1920 b k = dg H' L' k) (hd : 2 ≤ d)
    (kk : ∀ h' rh rl qh ql, Fq (FS [3203, 3204]) h h' → (rh, rl, qh, ql) = dv H L H' L' 128 (0, 0, 0, 0) → h'.J 3203 w = (if qo then qh else rh) → h'.J 3204 w = (if qo then ql else rl) → K (.returned (some (.int (bI (decide (w128 (if qo then qh else rh) (if qo then ql else rl) < 2 ^ bits)))))) h') : MW G d e_X26_divide [.ref w, .int (bI qo), .int (nI bits)] h K := by
  refine st_X26_divide fun X o hG hD hf => ?_
  subst hG; subst hD
  obtain ⟨e1, e2, e3, e4, e5, e6, e7⟩ := id hs
  have la : ∀ j, j < 16 → dgt h 1904 a j < 65536 := fun j hj => by rw [ha j hj]; exact dg_lt ..
  have lb : ∀ j, j < 16 → dgt h 1920 b j < 65536 := fun j hj => by rw [hb' j hj]; exact dg_lt ..
  refine k_X26_divide_0 o ?_
  refine four_ok e5 (by decide) (by omega) (by omega) (fun j _ h2 => la j (by omega)) fun r1 hr1 => ?_
  rw [ha 4 (by omega), ha 5 (by omega), ha 6 (by omega), ha 7 (by omega), dg_hi] at hr1
  rw [un_inj hr1]
  refine k_X26_divide_8 o ?_
  refine four_ok e5 (by decide) (by omega) (by omega) (fun j _ h2 => la j (by omega)) fun r2 hr2 => ?_
  rw [ha 0 (by omega), ha 1 (by omega), ha 2 (by omega), ha 3 (by omega), dg_lo] at hr2
  rw [un_inj hr2]
  refine k_X26_divide_17 o ?_
  refine four_ok e6 (by decide) (by omega) (by omega) (fun j _ h2 => lb j (by omega)) fun r3 hr3 => ?_
  rw [hb' 4 (by omega), hb' 5 (by omega), hb' 6 (by omega), hb' 7 (by omega), dg_hi] at hr3
  rw [un_inj hr3]
  refine k_X26_divide_27 o ?_
  refine four_ok e6 (by decide) (by omega) (by omega) (fun j _ h2 => lb j (by omega)) fun r4 hr4 => ?_
  rw [hb' 0 (by omega), hb' 1 (by omega), hb' 2 (by omega), hb' 3 (by omega), dg_lo] at hr4
  rw [un_inj hr4]
  refine k_X26_divide_37 o ?_
  refine mdiv_loop o 128 (0, 0, 0, 0) nov nov nov nov (by omega) (by omega) fun v19 v20 v21 v22 v23 rh rl qh ql hh => ?_
  have fin : ∀ x y, x = (if qo then qh else rh) → y = (if qo then ql else rl) → V X K 250 [.ref w, .int (bI qo), .int (nI bits), .long H, nov, .long L, nov, .long H', nov, .long L', nov, .long rh, nov, .long rl, nov, .long qh, nov, .long ql, nov, v19, v20, v21, v22, v23] [.long y, .ref w] (h.sJ 3203 w x) := by
    intro x y hx hy
    have g1 : (h.sJ 3203 w x).J 3203 w = x := by simp [n_sI, z_sI, tag_sI, I_sI, J_sI, R_sI, EI_sI, EJ_sI, ER_sI, n_sJ, z_sJ, tag_sJ, I_sJ, J_sJ, R_sJ, EI_sJ, EJ_sJ, ER_sJ, n_sR, z_sR, tag_sR, I_sR, J_sR, R_sR, EI_sR, EJ_sR, ER_sR, n_sEI, z_sEI, tag_sEI, I_sEI, J_sEI, R_sEI, EI_sEI, EJ_sEI, ER_sEI, n_sEJ, z_sEJ, tag_sEJ, I_sEJ, J_sEJ, R_sEJ, EI_sEJ, EJ_sEJ, ER_sEJ, n_sER, z_sER, tag_sER, I_sER, J_sER, R_sER, EI_sER, EJ_sER, ER_sER, n_nw, z_nw, tag_nw, I_nw, J_nw, R_nw, EI_nw, EJ_nw, ER_nw]
    have g2 : ((h.sJ 3203 w x).sJ 3204 w y).J 3204 w = y := by simp [n_sI, z_sI, tag_sI, I_sI, J_sI, R_sI, EI_sI, EJ_sI, ER_sI, n_sJ, z_sJ, tag_sJ, I_sJ, J_sJ, R_sJ, EI_sJ, EJ_sJ, ER_sJ, n_sR, z_sR, tag_sR, I_sR, J_sR, R_sR, EI_sR, EJ_sR, ER_sR, n_sEI, z_sEI, tag_sEI, I_sEI, J_sEI, R_sEI, EI_sEI, EJ_sEI, ER_sEI, n_sEJ, z_sEJ, tag_sEJ, I_sEJ, J_sEJ, R_sEJ, EI_sEJ, EJ_sEJ, ER_sEJ, n_sER, z_sER, tag_sER, I_sER, J_sER, R_sER, EI_sER, EJ_sER, ER_sER, n_nw, z_nw, tag_nw, I_nw, J_nw, R_nw, EI_nw, EJ_nw, ER_nw]
    have g3 : ((h.sJ 3203 w x).sJ 3204 w y).J 3203 w = x := by simp [n_sI, z_sI, tag_sI, I_sI, J_sI, R_sI, EI_sI, EJ_sI, ER_sI, n_sJ, z_sJ, tag_sJ, I_sJ, J_sJ, R_sJ, EI_sJ, EJ_sJ, ER_sJ, n_sR, z_sR, tag_sR, I_sR, J_sR, R_sR, EI_sR, EJ_sR, ER_sR, n_sEI, z_sEI, tag_sEI, I_sEI, J_sEI, R_sEI, EI_sEI, EJ_sEI, ER_sEI, n_sEJ, z_sEJ, tag_sEJ, I_sEJ, J_sEJ, R_sEJ, EI_sEJ, EJ_sEJ, ER_sEJ, n_sER, z_sER, tag_sER, I_sER, J_sER, R_sER, EI_sER, EJ_sER, ER_sER, n_nw, z_nw, tag_nw, I_nw, J_nw, R_nw, EI_nw, EJ_nw, ER_nw]
    refine k_X26_divide_250 o ?_
    refine isOf_ok hb ?_
    subst hx; subst hy
    refine k_X26_divide_265 o ?_
    refine (kk _ rh rl qh ql (by refine (Fq.sJ (Fq.sJ (Fq.refl h) ?_) ?_) <;> exact rfl) hh g3 g2)
  cases qo with
  | true =>
    refine k_X26_divide_223 o (fun c => ?_) (fun c => ?_)
    · exact absurd c (by decide)
    refine k_X26_divide_228 o ?_
    refine k_X26_divide_235 o (fun c => ?_) (fun c => ?_)
    · exact absurd c (by decide)
    refine k_X26_divide_243 o ?_
    exact fin _ _ rfl rfl
  | false =>
    refine k_X26_divide_223 o (fun c => ?_) (fun c => ?_)
    rotate_left
    · exact absurd rfl c
    refine k_X26_divide_233 o ?_
    refine k_X26_divide_235 o (fun c => ?_) (fun c => ?_)
    rotate_left
    · exact absurd rfl c
    refine k_X26_divide_248 o ?_
    exact fin _ _ rfl rfl
theorem w128_inj {H L H' L' : Int64} (h : w128 H L = w128 H' L') : H = H' ∧ L = L' := by
  unfold w128 at h
  have := un_lt L
  have := un_lt L'
  exact ⟨un_inj (by omega), un_inj (by omega)⟩
theorem up1 (H L : Int64) : w128 ((H <<< ((nI 1).toInt64 &&& 63)) ||| ((L.toUInt64 >>> ((nI 63).toInt64.toUInt64 &&& Int64.toUInt64 63)).toInt64)) (L <<< ((nI 1).toInt64 &&& 63)) = (w128 H L * 2) % 340282366920938463463374607431768211456 := by
  have a1 := un_lt H
  have a2 := un_lt L
  unfold w128
  rw [un_or, un_shl _ (by omega), un_ushr _ (by omega), un_shl _ (by omega), Nat.shiftLeft_eq, Nat.shiftLeft_eq, Nat.shiftRight_eq_div_pow]
  rw [show un H * 2 ^ 1 % 18446744073709551616 = (un H % 9223372036854775808) * 2 ^ 1 by omega, or_add (by omega)]
  omega
theorem down1 (H L : Int64) : w128 ((H.toUInt64 >>> ((nI 1).toInt64.toUInt64 &&& Int64.toUInt64 63)).toInt64) (((L.toUInt64 >>> ((nI 1).toInt64.toUInt64 &&& Int64.toUInt64 63)).toInt64) ||| (H <<< ((nI 63).toInt64 &&& 63))) = w128 H L / 2 := by
  have a1 := un_lt H
  have a2 := un_lt L
  unfold w128
  rw [un_or, un_shl _ (by omega), un_ushr _ (by omega), un_ushr _ (by omega), Nat.shiftLeft_eq, Nat.shiftRight_eq_div_pow, Nat.shiftRight_eq_div_pow]
  rw [show un H * 2 ^ 63 % 18446744073709551616 = (un H % 2) * 2 ^ 63 by omega, Nat.or_comm, or_add (by omega)]
  omega
/-- how many bits the twin gives a kind -/
def mbits (k : Nat) : Nat := if k = 2 then 8 else if k = 4 then 128 else 64
theorem mshift_ok {G : Gt} {d : Nat} {h : AH} {K : Outcome → AH → Prop} {w k n : Nat} {H L : Int64} {up : Bool} (ht : h.tag w = some (25, 0)) (hk : k = 2 ∨ k = 3 ∨ k = 4) (hn : n < 128)
    (kk : ∀ h' H2 L2, Fq (FS [3203, 3204]) h h' → w128 H2 L2 = (if up then (w128 H L * 2 ^ n) % 340282366920938463463374607431768211456 else w128 H L / 2 ^ n) → h'.J 3203 w = wcutH k H2 → h'.J 3204 w = wcutL k L2 → K (.returned none) h') : MW G d e_X26_shift [.ref w, .int (bI up), .long H, .long L, .int (nI n), .int (nI (mbits k))] h K := by
  refine st_X26_shift fun X o hG hD hf => ?_
  have loop : ∀ m j h1 H1 L1, m + j = n → Fq (FS [3203, 3204]) h h1 → h1.J 3203 w = H1 → h1.J 3204 w = L1 → w128 H1 L1 = (if up then (w128 H L * 2 ^ j) % 340282366920938463463374607431768211456 else w128 H L / 2 ^ j) → V X K 14 [.ref w, .int (bI up), .long H, nov, .long L, nov, .int (nI n), .int (nI (mbits k)), .int (nI j)] [] h1 := by
    intro m
    induction m with
    | zero =>
      intro j h1 H1 L1 hj f1 g1 g2 g3
      have : j = n := by omega
      subst this
      have t1 := f1.1.tag ht
      refine k_X26_shift_14 o (fun c => ?_) (fun c => ?_)
      rotate_left
      · exact absurd ((nI_leI (by omega) (by omega)).mpr (Nat.le_refl _)) c
      have fin : ∀ x, k ≠ 4 → x = wcutL k L1 → V X K 127 [.ref w, .int (bI up), .long H, nov, .long L, nov, .int (nI j), .int (nI (mbits k)), .int (nI j)] [.long x, .ref w] (h1.sJ 3203 w 0) := by
        intro x hk4 hx
        refine k_X26_shift_127 o ?_
        refine (kk _ H1 L1 (by refine (Fq.sJ (Fq.sJ (f1) ?_) ?_) <;> exact rfl) g3 ?_ ?_)
        · simp [n_sI, z_sI, tag_sI, I_sI, J_sI, R_sI, EI_sI, EJ_sI, ER_sI, n_sJ, z_sJ, tag_sJ, I_sJ, J_sJ, R_sJ, EI_sJ, EJ_sJ, ER_sJ, n_sR, z_sR, tag_sR, I_sR, J_sR, R_sR, EI_sR, EJ_sR, ER_sR, n_sEI, z_sEI, tag_sEI, I_sEI, J_sEI, R_sEI, EI_sEI, EJ_sEI, ER_sEI, n_sEJ, z_sEJ, tag_sEJ, I_sEJ, J_sEJ, R_sEJ, EI_sEJ, EJ_sEJ, ER_sEJ, n_sER, z_sER, tag_sER, I_sER, J_sER, R_sER, EI_sER, EJ_sER, ER_sER, n_nw, z_nw, tag_nw, I_nw, J_nw, R_nw, EI_nw, EJ_nw, ER_nw, wcutH, hk4]
        · simp [n_sI, z_sI, tag_sI, I_sI, J_sI, R_sI, EI_sI, EJ_sI, ER_sI, n_sJ, z_sJ, tag_sJ, I_sJ, J_sJ, R_sJ, EI_sJ, EJ_sJ, ER_sJ, n_sR, z_sR, tag_sR, I_sR, J_sR, R_sR, EI_sR, EJ_sR, ER_sR, n_sEI, z_sEI, tag_sEI, I_sEI, J_sEI, R_sEI, EI_sEI, EJ_sEI, ER_sEI, n_sEJ, z_sEJ, tag_sEJ, I_sEJ, J_sEJ, R_sEJ, EI_sEJ, EJ_sEJ, ER_sEJ, n_sER, z_sER, tag_sER, I_sER, J_sER, R_sER, EI_sER, EJ_sER, ER_sER, n_nw, z_nw, tag_nw, I_nw, J_nw, R_nw, EI_nw, EJ_nw, ER_nw, hx]
      refine k_X26_shift_90 o (fun c2 => ?_) (fun c2 => ?_)
      · have k4 : k ≠ 4 := fun q => by subst q; exact c2 rfl
        have g2' : (h1.sJ 3203 w 0).J 3204 w = L1 := by simp [n_sI, z_sI, tag_sI, I_sI, J_sI, R_sI, EI_sI, EJ_sI, ER_sI, n_sJ, z_sJ, tag_sJ, I_sJ, J_sJ, R_sJ, EI_sJ, EJ_sJ, ER_sJ, n_sR, z_sR, tag_sR, I_sR, J_sR, R_sR, EI_sR, EJ_sR, ER_sR, n_sEI, z_sEI, tag_sEI, I_sEI, J_sEI, R_sEI, EI_sEI, EJ_sEI, ER_sEI, n_sEJ, z_sEJ, tag_sEJ, I_sEJ, J_sEJ, R_sEJ, EI_sEJ, EJ_sEJ, ER_sEJ, n_sER, z_sER, tag_sER, I_sER, J_sER, R_sER, EI_sER, EJ_sER, ER_sER, n_nw, z_nw, tag_nw, I_nw, J_nw, R_nw, EI_nw, EJ_nw, ER_nw]; exact g2
        refine k_X26_shift_99 o (fun c3 => ?_) (fun c3 => ?_)
        · have k2 : k ≠ 2 := fun q => by subst q; exact c3 rfl
          refine k_X26_shift_123 o ?_
          exact fin _ k4 (by unfold wcutL; rw [if_neg k2])
        · have k2 : k = 2 := by
            rcases hk with q | q | q
            · exact q
            · subst q; exact absurd c3 (by decide)
            · exact absurd q k4
          refine k_X26_shift_112 o ?_
          exact fin _ k4 (by unfold wcutL; rw [if_pos k2])
      · have k4 : k = 4 := by rcases hk with q | q | q <;> subst q <;> first | rfl | exact absurd c2 (by decide)
        subst k4
        refine k_X26_shift_98 o ?_
        refine (kk h1 H1 L1 f1 g3 g1 g2)
    | succ m ih =>
      intro j h1 H1 L1 hj f1 g1 g2 g3
      have t1 := f1.1.tag ht
      refine k_X26_shift_14 o (fun c => ?_) (fun c => ?_)
      · exact absurd ((nI_leI (by omega) (by omega)).mp c) (by omega)
      cases up with
      | true =>
        refine k_X26_shift_21 o (fun c2 => ?_) (fun c2 => ?_)
        · exact absurd c2 (by decide)
        refine k_X26_shift_25 o ?_
        refine k_X26_shift_84 o ?_
        rw [nI_add]
        refine ih (j + 1) _ _ _ (by omega) (by refine (Fq.sJ (Fq.sJ (f1) ?_) ?_) <;> exact rfl) (by simp [n_sI, z_sI, tag_sI, I_sI, J_sI, R_sI, EI_sI, EJ_sI, ER_sI, n_sJ, z_sJ, tag_sJ, I_sJ, J_sJ, R_sJ, EI_sJ, EJ_sJ, ER_sJ, n_sR, z_sR, tag_sR, I_sR, J_sR, R_sR, EI_sR, EJ_sR, ER_sR, n_sEI, z_sEI, tag_sEI, I_sEI, J_sEI, R_sEI, EI_sEI, EJ_sEI, ER_sEI, n_sEJ, z_sEJ, tag_sEJ, I_sEJ, J_sEJ, R_sEJ, EI_sEJ, EJ_sEJ, ER_sEJ, n_sER, z_sER, tag_sER, I_sER, J_sER, R_sER, EI_sER, EJ_sER, ER_sER, n_nw, z_nw, tag_nw, I_nw, J_nw, R_nw, EI_nw, EJ_nw, ER_nw]; rfl) (by simp [n_sI, z_sI, tag_sI, I_sI, J_sI, R_sI, EI_sI, EJ_sI, ER_sI, n_sJ, z_sJ, tag_sJ, I_sJ, J_sJ, R_sJ, EI_sJ, EJ_sJ, ER_sJ, n_sR, z_sR, tag_sR, I_sR, J_sR, R_sR, EI_sR, EJ_sR, ER_sR, n_sEI, z_sEI, tag_sEI, I_sEI, J_sEI, R_sEI, EI_sEI, EJ_sEI, ER_sEI, n_sEJ, z_sEJ, tag_sEJ, I_sEJ, J_sEJ, R_sEJ, EI_sEJ, EJ_sEJ, ER_sEJ, n_sER, z_sER, tag_sER, I_sER, J_sER, R_sER, EI_sER, EJ_sER, ER_sER, n_nw, z_nw, tag_nw, I_nw, J_nw, R_nw, EI_nw, EJ_nw, ER_nw]; rfl) ?_
        rw [up1]
        simp only [if_true] at g3 ⊢
        rw [g3, Nat.pow_succ, ← Nat.mul_assoc]
        omega
      | false =>
        refine k_X26_shift_21 o (fun c2 => ?_) (fun c2 => ?_)
        rotate_left
        · exact absurd rfl c2
        refine k_X26_shift_56 o ?_
        refine k_X26_shift_84 o ?_
        rw [nI_add]
        refine ih (j + 1) _ _ _ (by omega) (by refine (Fq.sJ (Fq.sJ (f1) ?_) ?_) <;> exact rfl) (by simp [n_sI, z_sI, tag_sI, I_sI, J_sI, R_sI, EI_sI, EJ_sI, ER_sI, n_sJ, z_sJ, tag_sJ, I_sJ, J_sJ, R_sJ, EI_sJ, EJ_sJ, ER_sJ, n_sR, z_sR, tag_sR, I_sR, J_sR, R_sR, EI_sR, EJ_sR, ER_sR, n_sEI, z_sEI, tag_sEI, I_sEI, J_sEI, R_sEI, EI_sEI, EJ_sEI, ER_sEI, n_sEJ, z_sEJ, tag_sEJ, I_sEJ, J_sEJ, R_sEJ, EI_sEJ, EJ_sEJ, ER_sEJ, n_sER, z_sER, tag_sER, I_sER, J_sER, R_sER, EI_sER, EJ_sER, ER_sER, n_nw, z_nw, tag_nw, I_nw, J_nw, R_nw, EI_nw, EJ_nw, ER_nw]; rfl) (by simp [n_sI, z_sI, tag_sI, I_sI, J_sI, R_sI, EI_sI, EJ_sI, ER_sI, n_sJ, z_sJ, tag_sJ, I_sJ, J_sJ, R_sJ, EI_sJ, EJ_sJ, ER_sJ, n_sR, z_sR, tag_sR, I_sR, J_sR, R_sR, EI_sR, EJ_sR, ER_sR, n_sEI, z_sEI, tag_sEI, I_sEI, J_sEI, R_sEI, EI_sEI, EJ_sEI, ER_sEI, n_sEJ, z_sEJ, tag_sEJ, I_sEJ, J_sEJ, R_sEJ, EI_sEJ, EJ_sEJ, ER_sEJ, n_sER, z_sER, tag_sER, I_sER, J_sER, R_sER, EI_sER, EJ_sER, ER_sER, n_nw, z_nw, tag_nw, I_nw, J_nw, R_nw, EI_nw, EJ_nw, ER_nw]; rfl) ?_
        rw [down1]
        simp only [Bool.false_eq_true, if_false] at g3 ⊢
        rw [g3, Nat.pow_succ, Nat.div_div_eq_div_mul]
  refine k_X26_shift_0 o ?_
  refine loop n 0 _ H L (by omega) (by refine (Fq.sJ (Fq.sJ (Fq.refl h) ?_) ?_) <;> exact rfl) (by simp [n_sI, z_sI, tag_sI, I_sI, J_sI, R_sI, EI_sI, EJ_sI, ER_sI, n_sJ, z_sJ, tag_sJ, I_sJ, J_sJ, R_sJ, EI_sJ, EJ_sJ, ER_sJ, n_sR, z_sR, tag_sR, I_sR, J_sR, R_sR, EI_sR, EJ_sR, ER_sR, n_sEI, z_sEI, tag_sEI, I_sEI, J_sEI, R_sEI, EI_sEI, EJ_sEI, ER_sEI, n_sEJ, z_sEJ, tag_sEJ, I_sEJ, J_sEJ, R_sEJ, EI_sEJ, EJ_sEJ, ER_sEJ, n_sER, z_sER, tag_sER, I_sER, J_sER, R_sER, EI_sER, EJ_sER, ER_sER, n_nw, z_nw, tag_nw, I_nw, J_nw, R_nw, EI_nw, EJ_nw, ER_nw]) (by simp [n_sI, z_sI, tag_sI, I_sI, J_sI, R_sI, EI_sI, EJ_sI, ER_sI, n_sJ, z_sJ, tag_sJ, I_sJ, J_sJ, R_sJ, EI_sJ, EJ_sJ, ER_sJ, n_sR, z_sR, tag_sR, I_sR, J_sR, R_sR, EI_sR, EJ_sR, ER_sR, n_sEI, z_sEI, tag_sEI, I_sEI, J_sEI, R_sEI, EI_sEI, EJ_sEI, ER_sEI, n_sEJ, z_sEJ, tag_sEJ, I_sEJ, J_sEJ, R_sEJ, EI_sEJ, EJ_sEJ, ER_sEJ, n_sER, z_sER, tag_sER, I_sER, J_sER, R_sER, EI_sER, EJ_sER, ER_sER, n_nw, z_nw, tag_nw, I_nw, J_nw, R_nw, EI_nw, EJ_nw, ER_nw]) ?_
  have := w128_lt H L
  cases up
  · simp
  · simp; omega
/-- what operation 24 .. 28 gives: nothing, or a number -/
def rkn (o : Nat) (H L H' L' : Int64) : Option Nat :=
  if o = 24 then some (w128 H L + w128 H' L') else if o = 25 then (if w128 H' L' ≤ w128 H L then some (w128 H L - w128 H' L') else none)
  else if o = 26 then some (w128 H L * w128 H' L') else if w128 H' L' = 0 then none
  else if o = 27 then some (w128 (dv H L H' L' 128 (0, 0, 0, 0)).2.2.1 (dv H L H' L' 128 (0, 0, 0, 0)).2.2.2) else some (w128 (dv H L H' L' 128 (0, 0, 0, 0)).1 (dv H L H' L' 128 (0, 0, 0, 0)).2.1)
/-- a number of so many bits, as its halves -/
def rkb (bits : Nat) (r : Option Nat) : Option (Int64 × Int64) := r.bind fun n => if n < 2 ^ bits then some (lN (n / 18446744073709551616), lN (n % 18446744073709551616)) else none
theorem rkb_w {bits : Nat} (hb : bits = 8 ∨ bits = 64 ∨ bits = 128) {r : Option Nat} {n : Nat} {H L : Int64} (hr : r = some n) (hw : w128 H L = n) (hn : n < 2 ^ bits) : rkb bits r = some (H, L) := by
  have a1 := un_lt L
  have a2 := un_lt H
  unfold rkb
  rw [hr]
  simp only [Option.bind_some]
  rw [if_pos hn]
  unfold w128 at hw
  rw [← hw, show (un H * 18446744073709551616 + un L) / 18446744073709551616 = un H by omega, show (un H * 18446744073709551616 + un L) % 18446744073709551616 = un L by omega, lN_un, lN_un]
theorem rkb_n {bits : Nat} {r : Option Nat} {n : Nat} (hr : r = some n) (hn : ¬ n < 2 ^ bits) : rkb bits r = none := by
  unfold rkb; rw [hr]; simp only [Option.bind_some]; rw [if_neg hn]
theorem mreckon_ok {G : Gt} {d : Nat} {h : AH} {K : Outcome → AH → Prop} {w a b r bits o' : Nat} {H L H' L' : Int64} (hs : SW h w a b r) (ho : 24 ≤ o' ∧ o' ≤ 28) (hb : bits = 8 ∨ bits = 64 ∨ bits = 128) (hd : 3 ≤ d)
    (kk : ∀ h', Fq (FS wFl) h h' → (∀ H2 L2, rkb bits (rkn o' H L H' L') = some (H2, L2) → h'.J 3203 w = H2 ∧ h'.J 3204 w = L2) → K (.returned (some (.int (bI (rkb bits (rkn o' H L H' L')).isSome)))) h') : MW G d e_X26_reckon [.ref w, .int (nI o'), .long H, .long L, .long H', .long L', .int (nI bits)] h K := by
  refine st_X26_reckon fun X o hG hD hf => ?_
  obtain ⟨e1, e2, e3, e4, e5, e6, e7⟩ := id hs
  refine k_X26_reckon_0 o ?_
  refine lay_ok e5 (by decide) fun h1 f1 g1 => ?_
  obtain ⟨i1, i2, i3, i4, i5, i6, i7⟩ := hs.fr f1.1 (by simp [P1])
  refine k_X26_reckon_10 o ?_
  refine lay_ok i6 (by decide) fun h2 f2 g2 => ?_
  have s2 := (hs.fr f1.1 (by simp [P1])).fr f2.1 (by simp [P1])
  have t2 := s2.1
  refine k_X26_reckon_21 o ?_
  refine mclear_ok s2 fun h3 f3 g3 => ?_
  have s3 := s2.fr f3.1 (by simp [P1])
  have t3 := s3.1
  have F : Fq (FS wFl) h h3 := (((f1.mono (FS.p1 rfl)).trans (f2.mono (FS.p1 rfl))).trans (f3.mono (FS.p1 rfl)))
  have da : ∀ k, k < 16 → dgt h3 1904 a k = dg H L k := fun k hk => by
    rw [dgt_frE f3.1 (by simp [P1]), dgt_frE f2.1 (by simp [P1])]
    unfold dgt; rw [g1 k hk, um_n (by have := dg_lt H L k; omega)]
  have db : ∀ k, k < 16 → dgt h3 1920 b k = dg H' L' k := fun k hk => by
    rw [dgt_frE f3.1 (by simp [P1])]
    unfold dgt; rw [g2 k hk, um_n (by have := dg_lt H' L' k; omega)]
  have fin : ∀ n, rkn o' H L H' L' = some n → ∀ h' (q : Bool) H2 L2, Fq (FS wFl) h3 h' → (q = true ↔ n < 2 ^ bits) → (q = true → h'.J 3203 w = H2 ∧ h'.J 3204 w = L2 ∧ w128 H2 L2 = n) → K (.returned (some (.int (bI q)))) h' := by
    intro n hn h' q H2 L2 f4 hq hv
    cases q with
    | true =>
      obtain ⟨v1, v2, v3⟩ := hv rfl
      have e := rkb_w hb hn v3 (hq.mp rfl)
      have := kk h' (F.trans f4) (fun H3 L3 h3 => by rw [e] at h3; cases h3; exact ⟨v1, v2⟩)
      rw [e] at this; exact this
    | false =>
      have e := rkb_n (bits := bits) hn (fun z => by have := hq.mpr z; cases this)
      have := kk h' (F.trans f4) (fun H3 L3 h3 => by rw [e] at h3; cases h3)
      rw [e] at this; exact this
  have non : rkn o' H L H' L' = none → ∀ h', Fq (FS wFl) h3 h' → K (.returned (some (.int (bI false)))) h' := fun hn h' f4 => by
    have e : rkb bits (rkn o' H L H' L') = none := by rw [hn]; rfl
    have := kk h' (F.trans f4) (fun H3 L3 h3 => by rw [e] at h3; cases h3)
    rw [e] at this; exact this
  refine k_X26_reckon_25 o (fun c => ?_) (fun c => ?_)
  rotate_left
  · have c := (nI_eq (by omega) (by omega)).mp c
    subst c
    refine k_X26_reckon_31 o ?_
    refine madd_ok s3 hb da db g3 (by omega) fun h4 q H2 L2 f4 q1 q2 => ?_
    refine k_X26_reckon_37 o ?_
    refine (fin _ rfl h4 q H2 L2 f4 q1 q2)
  have c24 : o' ≠ 24 := fun q => c (by rw [q])
  refine k_X26_reckon_38 o (fun c2 => ?_) (fun c2 => ?_)
  rotate_left
  · have c2 := (nI_eq (by omega) (by omega)).mp c2
    subst c2
    refine k_X26_reckon_44 o ?_
    refine mcompare_ok ?_
    refine k_X26_reckon_54 o (fun c3 => ?_) (fun c3 => ?_)
    · have c3 := cmw_neg.mp c3
      have hn : rkn 25 H L H' L' = none := by unfold rkn; rw [if_neg (by omega), if_pos rfl, if_neg (by omega)]
      refine k_X26_reckon_70 o ?_
      refine k_X26_reckon_71 o ?_
      refine (non hn h3 (Fq.refl h3))
    · have c3 : w128 H' L' ≤ w128 H L := by
        by_cases q : w128 H' L' ≤ w128 H L
        · exact q
        · exact absurd (cmw_neg.mpr (by omega)) c3
      have hn : rkn 25 H L H' L' = some (w128 H L - w128 H' L') := by unfold rkn; rw [if_neg (by omega), if_pos rfl, if_pos c3]
      refine k_X26_reckon_57 o ?_
      refine msub_ok s3 hb da db g3 (by omega) c3 fun h4 q H2 L2 f4 q1 q2 => ?_
      refine k_X26_reckon_63 o (fun c4 => ?_) (fun c4 => ?_)
      · have c4 := bI_0.mp c4
        subst c4
        refine k_X26_reckon_70 o ?_
        refine k_X26_reckon_71 o ?_
        refine (fin _ hn h4 false H2 L2 f4 q1 q2)
      · have c4 : q = true := by
          cases q with
          | true => rfl
          | false => exact absurd rfl c4
        subst c4
        refine k_X26_reckon_66 o ?_
        refine k_X26_reckon_71 o ?_
        refine (fin _ hn h4 true H2 L2 f4 q1 q2)
  have c25 : o' ≠ 25 := fun q => c2 (by rw [q])
  refine k_X26_reckon_72 o (fun c3 => ?_) (fun c3 => ?_)
  rotate_left
  · have c3 := (nI_eq (by omega) (by omega)).mp c3
    subst c3
    refine k_X26_reckon_78 o ?_
    refine mmul_ok s3 hb da db g3 (by omega) fun h4 q H2 L2 f4 q1 q2 => ?_
    refine k_X26_reckon_84 o ?_
    refine (fin _ rfl h4 q H2 L2 f4 q1 q2)
  have c26 : o' ≠ 26 := fun q => c3 (by rw [q])
  have ez : H' ||| L' = 0 ↔ w128 H' L' = 0 := by
    constructor
    · intro q
      have := congrArg un q
      rw [un_or, show un 0 = 0 from rfl, Nat.or_eq_zero_iff] at this
      unfold w128; omega
    · intro q
      unfold w128 at q
      refine un_inj ?_
      rw [un_or, show un 0 = 0 from rfl, Nat.or_eq_zero_iff]; omega
  refine k_X26_reckon_85 o (fun c4 => ?_) (fun c4 => ?_)
  · have hn : rkn o' H L H' L' = none := by unfold rkn; rw [if_neg c24, if_neg c25, if_neg c26, if_pos (ez.mp c4)]
    refine k_X26_reckon_119 o ?_
    refine k_X26_reckon_120 o ?_
    refine (non hn h3 (Fq.refl h3))
  have c4 : w128 H' L' ≠ 0 := fun q => c4 (ez.mpr q)
  have s107 : ∀ qo : Bool, (qo = true ↔ o' = 27) → V X K 107 [.ref w, .int (nI o'), .long H, nov, .long L, nov, .long H', nov, .long L', nov, .int (nI bits)] [.int (bI qo), .ref w] h3 := by
    intro qo hqo
    refine k_X26_reckon_107 o ?_
    refine mdiv_ok s3 hb da db (by omega) fun h4 rh rl qh ql f4 hv v1 v2 => ?_
    have hn : rkn o' H L H' L' = some (w128 (if qo then qh else rh) (if qo then ql else rl)) := by
      unfold rkn
      rw [if_neg c24, if_neg c25, if_neg c26, if_neg c4, ← hv]
      cases qo with
      | true => rw [if_pos (hqo.mp rfl)]; rfl
      | false => rw [if_neg fun z => by have := hqo.mpr z; cases this]; rfl
    have fin2 := fin _ hn h4 (decide (w128 (if qo then qh else rh) (if qo then ql else rl) < 2 ^ bits)) _ _ (f4.mono (FS.mono rfl)) decide_eq_true_iff (fun _ => ⟨v1, v2, rfl⟩)
    generalize decide (w128 (if qo then qh else rh) (if qo then ql else rl) < 2 ^ bits) = q at fin2
    refine k_X26_reckon_112 o (fun c5 => ?_) (fun c5 => ?_)
    · have c5 := bI_0.mp c5
      subst c5
      refine k_X26_reckon_119 o ?_
      refine k_X26_reckon_120 o ?_
      refine (fin2)
    · have c5 : q = true := by
        cases q with
        | true => rfl
        | false => exact absurd rfl c5
      subst c5
      refine k_X26_reckon_115 o ?_
      refine k_X26_reckon_120 o ?_
      refine (fin2)
  refine k_X26_reckon_95 o (fun c5 => ?_) (fun c5 => ?_)
  · refine k_X26_reckon_106 o ?_
    exact s107 false ⟨fun q => (nomatch q), fun q => absurd (by rw [q]) c5⟩
  · refine k_X26_reckon_102 o ?_
    exact s107 true ⟨fun _ => (nI_eq (by omega) (by omega)).mp c5, fun _ => rfl⟩
