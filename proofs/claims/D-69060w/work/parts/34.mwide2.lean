/-! sums, differences, products, quotients, shifts of the twin -/
theorem w128_lt (H L : Int64) : w128 H L < 340282366920938463463374607431768211456 := by unfold w128; have := un_lt H; have := un_lt L; omega
theorem carry_step (s p : Nat) : s % 65536 * p + s / 65536 * (p * 65536) = s * p := by
  have h := Nat.div_add_mod s 65536
  calc s % 65536 * p + s / 65536 * (p * 65536) = (65536 * (s / 65536) + s % 65536) * p := by
        rw [Nat.add_mul, Nat.mul_comm 65536, Nat.mul_assoc (s / 65536), Nat.mul_comm 65536 p]; omega
    _ = s * p := by rw [h]
theorem dgt_EI {h : AH} {t a k n : Nat} (e : dgt h t a k = n) : h.EI t a k = nI n := uI e
theorem dgt_frE {P : Nat → Nat → Prop} {h h' : AH} {t a : Nat} (q : Fr P h h') (n : ¬ P (10000 + t) a) (k : Nat) : dgt h' t a k = dgt h t a k := by unfold dgt; rw [q.EI n]
theorem dgt_s (h : AH) (t a k : Nat) (v : Int32) (j : Nat) : dgt (h.sEI t a k v) t a j = if j = k then um v else dgt h t a j := by
  unfold dgt
  rw [EI_sEI]
  by_cases c : j = k
  · rw [if_pos ⟨rfl, rfl, c⟩, if_pos c]
  · rw [if_neg fun q => c q.2.2, if_neg c]
theorem add_fin {D A B c p dA dB s : Nat} (h : D + c * p = A + B) (hs : dA + dB + c = s) : D + s % 65536 * p + s / 65536 * (p * 65536) = (A + dA * p) + (B + dB * p) := by
  have cs := carry_step s p
  have e : s * p = dA * p + dB * p + c * p := by rw [← hs, Nat.add_mul, Nat.add_mul]
  clear hs
  generalize s % 65536 * p = a1 at *
  generalize s / 65536 * (p * 65536) = a2 at *
  generalize s * p = a3 at *
  generalize dA * p = a4 at *
  generalize dB * p = a5 at *
  generalize c * p = a6 at *
  omega
theorem pow16 : (65536 : Nat) ^ 16 = 115792089237316195423570985008687907853269984665640564039457584007913129639936 := by decide
def pw (k : Nat) : Nat := 65536 ^ k
theorem pw_s (k : Nat) : pw (k + 1) = pw k * 65536 := Nat.pow_succ ..
theorem dval_s (f : Nat → Nat) (n : Nat) : dval f (n + 1) = dval f n + f n * pw n := rfl
theorem dval_upw {f g : Nat → Nat} {p n : Nat} (h : p < n) (hf : ∀ j, j ≠ p → f j = g j) : dval g n + f p * pw p = dval f n + g p * pw p := dval_up h hf
theorem add_c0 {D A B c : Nat} (h : D + c * pw 16 = A + B) (hA : A < 340282366920938463463374607431768211456) (hB : B < 340282366920938463463374607431768211456) (hc : c ≤ 1) : c = 0 := by
  rw [show pw 16 = _ from pow16] at h
  have : c = 0 ∨ c = 1 := by omega
  rcases this with q | q
  · exact q
  · subst q; omega
theorem sub_fin {D A B c c' p dA dB r : Nat} (h : D + B = A + c * p) (hq : r + dB + c = dA + c' * 65536) : D + r * p + (B + dB * p) = A + dA * p + c' * (p * 65536) := by
  have h3 := congrArg (· * p) hq
  simp only [Nat.add_mul] at h3
  rw [Nat.mul_assoc c', Nat.mul_comm 65536] at h3
  clear hq
  generalize r * p = a1 at *
  generalize dB * p = a2 at *
  generalize c * p = a3 at *
  generalize dA * p = a4 at *
  generalize c' * (p * 65536) = a5 at *
  omega
theorem sub_c0 {D A B c : Nat} (h : D + B = A + c * pw 16) (hle : B ≤ A) (hD : D < pw 16) (hc : c ≤ 1) : c = 0 := by
  rw [show pw 16 = _ from pow16] at h hD
  have : c = 0 ∨ c = 1 := by omega
  rcases this with q | q
  · exact q
  · subst q; omega
theorem mul_fin {D D' R E E' q r c s P : Nat} (p3 : D + c * P = R + E) (du : D' + r * P = D + s % 65536 * P) (hs : q + r + c = s) (h4 : E' = E + q * P) : D' + s / 65536 * (P * 65536) = R + E' := by
  have cs := carry_step s P
  have e : s * P = q * P + r * P + c * P := by rw [← hs, Nat.add_mul, Nat.add_mul]
  clear hs
  generalize s % 65536 * P = a1 at *
  generalize s / 65536 * (P * 65536) = a2 at *
  generalize s * P = a3 at *
  generalize q * P = a4 at *
  generalize r * P = a5 at *
  generalize c * P = a6 at *
  omega
theorem mul_mod {p r c : Nat} (h : p ≤ 65535 * 65535) (hr : r < 65536) (hc : c < 65536) : ((p % 18446744073709551616 + r) % 18446744073709551616 + c) % 18446744073709551616 = p + r + c := by omega
theorem dg_sum {H L H' L' : Int64} {k c s : Nat} (h : dg H L k + dg H' L' k + c = s) (hc : c ≤ 1) : s < 131072 := by
  have := dg_lt H L k
  have := dg_lt H' L' k
  omega
theorem madd_ok {G : Gt} {d : Nat} {h : AH} {K : Outcome → AH → Prop} {w a b r bits : Nat} {H L H' L' : Int64} (hs : SW h w a b r) (hb : bits = 8 ∨ bits = 64 ∨ bits = 128) (ha : ∀ k, k < 16 → dgt h 1904 a k = dg H L k) (hb' : ∀ k, k < 16 → dgt h 1920 b k = dg H' L' k) (hr : ∀ k, k < 33 → dgt h 1936 r k = 0) (hd : 2 ≤ d)
    (kk : ∀ h' (q : Bool) H2 L2, Fq (FS wFl) h h' → (q = true ↔ w128 H L + w128 H' L' < 2 ^ bits) → (q = true → h'.J 3203 w = H2 ∧ h'.J 3204 w = L2 ∧ w128 H2 L2 = w128 H L + w128 H' L') → K (.returned (some (.int (bI q)))) h') : MW G d e_X26_add [.ref w, .int (nI bits)] h K := by
  refine st_X26_add fun X o hG hD hf => ?_
  have loop : ∀ m k c v4 h1, m + k = 16 → c ≤ 1 → Fq (P1 (10000 + 1936) r) h h1 → (∀ j, j < k → dgt h1 1936 r j < 65536) → (∀ j, k ≤ j → j < 33 → dgt h1 1936 r j = 0) → dval (dgt h1 1936 r) k + c * pw k = dval (dg H L) k + dval (dg H' L') k → V X K 4 [.ref w, .int (nI bits), .int (nI c), .int (nI k), v4] [] h1 := by
    intro m
    induction m with
    | zero =>
      intro k c v4 h1 hk hc f1 g1 g2 g3
      have : k = 16 := by omega
      subst this
      have t1 := f1.1.tag hs.1
      rw [dg_val, dg_val] at g3
      have c0 : c = 0 := add_c0 g3 (w128_lt H L) (w128_lt H' L') hc
      subst c0
      have ev : dval (dgt h1 1936 r) 32 = w128 H L + w128 H' L' := by
        rw [Nat.zero_mul, Nat.add_zero] at g3
        rw [dval_zero (Nat.le_of_ble_eq_true rfl : 16 ≤ 32) fun j h1 h2 => g2 j h1 (Nat.lt_trans h2 (Nat.lt_succ_self 32)), g3]
      refine k_X26_add_4 o (fun c2 => ?_) (fun c2 => ?_)
      · refine k_X26_add_50 o ?_
        refine result_ok (hs.fr f1.1 (by simp [P1])) hb (fun j hj => ?_) (by omega) fun h2 q H2 L2 f2 e1 e2 => ?_
        · rcases Nat.lt_or_ge j 16 with q | q
          · exact g1 j q
          · rw [g2 j q (by omega)]; omega
        · rw [ev] at e1 e2
          refine k_X26_add_55 o ?_
          refine (kk h2 q H2 L2 ((f1.mono (FS.p1 rfl)).trans (f2.mono (FS.mono rfl))) e1 e2)
      · exact absurd (by decide) c2
    | succ m ih =>
      intro k c v4 h1 hk hc f1 g1 g2 g3
      have ix : IX (nI k) 16 k := IX.mk (by omega) (by omega)
      have ix2 : IX (nI k) 33 k := IX.mk (by omega) (by omega)
      obtain ⟨e1, e2, e3, e4, e5, e6, e7⟩ := hs.fr f1.1 (by simp [P1])
      have x1 : h1.EI 1904 a k = nI (dg H L k) := by rw [f1.1.EI (by simp [P1])]; exact dgt_EI (ha k (by omega))
      have x2 : h1.EI 1920 b k = nI (dg H' L' k) := by rw [f1.1.EI (by simp [P1])]; exact dgt_EI (hb' k (by omega))
      refine k_X26_add_4 o (fun c2 => ?_) (fun c2 => ?_)
      · exact absurd ((nI_leI (by omega) (by omega)).mp c2) (by omega)
      refine k_X26_add_10 o ?_
      rw [nI_add, nI_add, nI_add]
      generalize hsum : dg H L k + dg H' L' k + c = s
      have hsl := dg_sum hsum hc
      have eq1 : nI s >>> (nI 16 &&& 31) = nI (s / 65536) := uI (by rw [um_shr _ (by omega) (by rw [um_n (by omega)]; omega), um_n (by omega), Nat.shiftRight_eq_div_pow])
      have eq2 : nI s &&& (65535 : Int32) = nI (s % 65536) := uI (by rw [um_and, um_n (by omega), show um 65535 = 2 ^ 16 - 1 from rfl, and_m])
      rw [eq1, eq2]
      refine ih (k + 1) (s / 65536) _ _ (by omega) (by omega) (f1.sEI P1.i) (fun j hj => ?_) (fun j h1 h2 => ?_) ?_
      · rw [dgt_s]
        split
        · rw [um_n (by omega)]; omega
        · exact g1 j (by omega)
      · rw [dgt_s, if_neg (by omega)]; exact g2 j (by omega) h2
      · rw [dval_s, dval_s, dval_s]
        rw [dgt_s, if_pos rfl, um_n (by omega), dval_congr (g := dgt h1 1936 r) fun j hj => by rw [dgt_s, if_neg (by omega)]]
        rw [pw_s]
        exact add_fin g3 hsum
  refine k_X26_add_0 o ?_
  exact loop 16 0 0 _ h rfl (by omega) (Fq.refl h) (fun j hj => by omega) (fun j _ h2 => hr j h2) rfl
theorem msub_ok {G : Gt} {d : Nat} {h : AH} {K : Outcome → AH → Prop} {w a b r bits : Nat} {H L H' L' : Int64} (hs : SW h w a b r) (hb : bits = 8 ∨ bits = 64 ∨ bits = 128) (ha : ∀ k, k < 16 → dgt h 1904 a k = dg H L k) (hb' : ∀ k, k < 16 → dgt h 1920 b k = dg H' L' k) (hr : ∀ k, k < 33 → dgt h 1936 r k = 0) (hd : 2 ≤ d) (hle : w128 H' L' ≤ w128 H L)
    (kk : ∀ h' (q : Bool) H2 L2, Fq (FS wFl) h h' → (q = true ↔ w128 H L - w128 H' L' < 2 ^ bits) → (q = true → h'.J 3203 w = H2 ∧ h'.J 3204 w = L2 ∧ w128 H2 L2 = w128 H L - w128 H' L') → K (.returned (some (.int (bI q)))) h') : MW G d e_X26_subtract [.ref w, .int (nI bits)] h K := by
  refine st_X26_subtract fun X o hG hD hf => ?_
  have loop : ∀ m k c v4 h1, m + k = 16 → c ≤ 1 → Fq (P1 (10000 + 1936) r) h h1 → (∀ j, j < k → dgt h1 1936 r j < 65536) → (∀ j, k ≤ j → j < 33 → dgt h1 1936 r j = 0) → dval (dgt h1 1936 r) k + dval (dg H' L') k = dval (dg H L) k + c * pw k → V X K 4 [.ref w, .int (nI bits), .int (nI c), .int (nI k), v4] [] h1 := by
    intro m
    induction m with
    | zero =>
      intro k c v4 h1 hk hc f1 g1 g2 g3
      have : k = 16 := by omega
      subst this
      have t1 := f1.1.tag hs.1
      rw [dg_val, dg_val] at g3
      have c0 : c = 0 := sub_c0 g3 hle (dval_lt g1) hc
      subst c0
      have ev : dval (dgt h1 1936 r) 32 = w128 H L - w128 H' L' := by
        rw [dval_zero (by omega : 16 ≤ 32) fun j h1 h2 => g2 j h1 (by omega)]; omega
      refine k_X26_subtract_4 o (fun c2 => ?_) (fun c2 => ?_)
      · refine k_X26_subtract_55 o ?_
        refine result_ok (hs.fr f1.1 (by simp [P1])) hb (fun j hj => ?_) (by omega) fun h2 q H2 L2 f2 e1 e2 => ?_
        · rcases Nat.lt_or_ge j 16 with q | q
          · exact g1 j q
          · rw [g2 j q (by omega)]; omega
        · rw [ev] at e1 e2
          refine k_X26_subtract_60 o ?_
          refine (kk h2 q H2 L2 ((f1.mono (FS.p1 rfl)).trans (f2.mono (FS.mono rfl))) e1 e2)
      · exact absurd (by decide) c2
    | succ m ih =>
      intro k c v4 h1 hk hc f1 g1 g2 g3
      have ix : IX (nI k) 16 k := IX.mk (by omega) (by omega)
      have ix2 : IX (nI k) 33 k := IX.mk (by omega) (by omega)
      obtain ⟨e1, e2, e3, e4, e5, e6, e7⟩ := hs.fr f1.1 (by simp [P1])
      have x1 : h1.EI 1904 a k = nI (dg H L k) := by rw [f1.1.EI (by simp [P1])]; exact dgt_EI (ha k (by omega))
      have x2 : h1.EI 1920 b k = nI (dg H' L' k) := by rw [f1.1.EI (by simp [P1])]; exact dgt_EI (hb' k (by omega))
      have l1 := dg_lt H L k
      have l2 := dg_lt H' L' k
      generalize hv : nI (dg H L k) - nI (dg H' L' k) - nI c = v
      have uv : um v = (4294967296 - c + (4294967296 - dg H' L' k + dg H L k) % 4294967296) % 4294967296 := by rw [← hv, um_sub, um_sub, um_n (by omega), um_n (by omega), um_n (by omega)]
      have eq2 : v &&& (65535 : Int32) = nI (um v % 65536) := uI (by rw [um_and, show um 65535 = 2 ^ 16 - 1 from rfl, and_m])
      have fin : ∀ c', c' ≤ 1 → um v % 65536 + dg H' L' k + c = dg H L k + c' * 65536 → V X K 48 [.ref w, .int (nI bits), .int (nI c), .int (nI k), .int v] [.int (nI c')] (h1.sEI 1936 r k (nI (um v % 65536))) := by
        intro c' hc' hq
        refine k_X26_subtract_48 o ?_
        rw [nI_add]
        refine ih (k + 1) c' _ _ (by omega) hc' (f1.sEI P1.i) (fun j hj => ?_) (fun j h1 h2 => ?_) ?_
        · rw [dgt_s]
          split
          · rw [um_n (by omega)]; omega
          · exact g1 j (by omega)
        · rw [dgt_s, if_neg (by omega)]; exact g2 j (by omega) h2
        · rw [dval_s, dval_s, dval_s]
          rw [dgt_s, if_pos rfl, um_n (by omega), dval_congr (g := dgt h1 1936 r) fun j hj => by rw [dgt_s, if_neg (by omega)]]
          rw [pw_s]
          exact sub_fin g3 hq
      refine k_X26_subtract_4 o (fun c2 => ?_) (fun c2 => ?_)
      · exact absurd ((nI_leI (by omega) (by omega)).mp c2) (by omega)
      refine k_X26_subtract_10 o (fun c2 => ?_) (fun c2 => ?_)
      · rw [hv] at c2 ⊢
        have c2 : um v < 2147483648 := by
          have := um_neg (x := v)
          rcases Nat.lt_or_ge (um v) 2147483648 with q | q
          · exact q
          · exact absurd (this.mpr q) (Int32.not_lt.mpr c2)
        rw [eq2]
        refine k_X26_subtract_47 o ?_
        exact fin 0 (by omega) (by omega)
      · rw [hv] at c2 ⊢
        have c2 : 2147483648 ≤ um v := um_neg.mp (Int32.not_le.mp c2)
        rw [eq2]
        refine k_X26_subtract_43 o ?_
        exact fin 1 (by omega) (by omega)
  refine k_X26_subtract_0 o ?_
  exact loop 16 0 0 _ h rfl (by omega) (Fq.refl h) (fun j hj => by omega) (fun j _ h2 => hr j h2) rfl
theorem mmul_ok {G : Gt} {d : Nat} {h : AH} {K : Outcome → AH → Prop} {w a b r bits : Nat} {H L H' L' : Int64} (hs : SW h w a b r) (hb : bits = 8 ∨ bits = 64 ∨ bits = 128) (ha : ∀ k, k < 16 → dgt h 1904 a k = dg H L k) (hb' : ∀ k, k < 16 → dgt h 1920 b k = dg H' L' k) (hr : ∀ k, k < 33 → dgt h 1936 r k = 0) (hd : 2 ≤ d)
    (kk : ∀ h' (q : Bool) H2 L2, Fq (FS wFl) h h' → (q = true ↔ w128 H L * w128 H' L' < 2 ^ bits) → (q = true → h'.J 3203 w = H2 ∧ h'.J 3204 w = L2 ∧ w128 H2 L2 = w128 H L * w128 H' L') → K (.returned (some (.int (bI q)))) h') : MW G d e_X26_multiply [.ref w, .int (nI bits)] h K := by
  refine st_X26_multiply fun X o hG hD hf => ?_
  have loop : ∀ m i v3 v4 v5 v6 v7 h1, m + i = 16 → Fq (P1 (10000 + 1936) r) h h1 → (∀ j, j < 33 → dgt h1 1936 r j < 65536) → (∀ j, i + 16 ≤ j → j < 33 → dgt h1 1936 r j = 0) → dval (dgt h1 1936 r) 33 = dval (dg H L) i * dval (dg H' L') 16 → V X K 2 [.ref w, .int (nI bits), .int (nI i), v3, v4, v5, v6, v7] [] h1 := by
    intro m
    induction m with
    | zero =>
      intro i v3 v4 v5 v6 v7 h1 hk f1 g1 g2 g3
      have : i = 16 := by omega
      subst this
      have t1 := f1.1.tag hs.1
      rw [dg_val, dg_val] at g3
      have ev : dval (dgt h1 1936 r) 32 = w128 H L * w128 H' L' := by
        rw [← g3, dval_zero (by omega : 32 ≤ 33) fun j h1 h2 => g2 j (by omega) (by omega)]
      refine k_X26_multiply_2 o (fun c2 => ?_) (fun c2 => ?_)
      · refine k_X26_multiply_99 o ?_
        refine result_ok (hs.fr f1.1 (by simp [P1])) hb (fun j hj => g1 j (by omega)) (by omega) fun h2 q H2 L2 f2 e1 e2 => ?_
        rw [ev] at e1 e2
        refine k_X26_multiply_104 o ?_
        refine (kk h2 q H2 L2 ((f1.mono (FS.p1 rfl)).trans (f2.mono (FS.mono rfl))) e1 e2)
      · exact absurd (by decide) c2
    | succ m ih =>
      intro i v3 v4 v5 v6 v7 h1 hk f1 g1 g2 g3
      have ixi : IX (nI i) 16 i := IX.mk (by omega) (by omega)
      have l1 := dg_lt H L i
      have inner : ∀ m2 j c v6 v7 h2, m2 + j = 16 → c < 65536 → Fq (P1 (10000 + 1936) r) h h2 → (∀ q, q < 33 → dgt h2 1936 r q < 65536) → (∀ q, i + 16 ≤ q → q < 33 → dgt h2 1936 r q = 0) → dval (dgt h2 1936 r) 33 + c * pw (i + j) = dval (dg H L) i * dval (dg H' L') 16 + dg H L i * pw i * dval (dg H' L') j → V X K 13 [.ref w, .int (nI bits), .int (nI i), .long (lN c), nov, .int (nI j), v6, v7] [] h2 := by
        intro m2
        induction m2 with
        | zero =>
          intro j c v6 v7 h2 hj hc f2 p1 p2 p3
          have : j = 16 := by omega
          subst this
          obtain ⟨e1, e2, e3, e4, e5, e6, e7⟩ := hs.fr f2.1 (by simp [P1])
          have ix : IX (nI i + nI 16) 33 (i + 16) := by rw [nI_add]; exact IX.mk (by omega) (by omega)
          have x0 : h2.EI 1936 r (i + 16) = nI 0 := dgt_EI (p2 (i + 16) (by omega) (by omega))
          have ec : (lN c).toInt32 = nI c := uI (by rw [um_32, un_l (by omega)]; omega)
          refine k_X26_multiply_13 o (fun c2 => ?_) (fun c2 => ?_)
          rotate_left
          · exact absurd (by decide) c2
          refine k_X26_multiply_79 o ?_
          rw [nI_add, ec, nI_add, Nat.zero_add]
          have du := dval_upw (f := dgt h2 1936 r) (g := dgt (h2.sEI 1936 r (i + 16) (nI c)) 1936 r) (p := i + 16) (n := 33) (by omega) fun q hq => by rw [dgt_s, if_neg hq]
          rw [dgt_s, if_pos rfl, um_n (by omega), p2 (i + 16) (by omega) (by omega), Nat.zero_mul, Nat.add_zero, p3] at du
          refine ih (i + 1) _ _ _ _ _ _ (by omega) (f2.sEI P1.i) (fun q hq => ?_) (fun q h1 h2 => ?_) ?_
          · rw [dgt_s]
            split
            · rw [um_n (by omega)]; exact hc
            · exact p1 q hq
          · rw [dgt_s, if_neg (by omega)]; exact p2 q (by omega) h2
          · rw [du, dval_s (dg H L) i, Nat.add_mul]
        | succ m2 ih2 =>
          intro j c v6 v7 h2 hj hc f2 p1 p2 p3
          obtain ⟨e1, e2, e3, e4, e5, e6, e7⟩ := hs.fr f2.1 (by simp [P1])
          have ixj : IX (nI j) 16 j := IX.mk (by omega) (by omega)
          have ix : IX (nI i + nI j) 33 (i + j) := by rw [nI_add]; exact IX.mk (by omega) (by omega)
          have x1 : h2.EI 1904 a i = nI (dg H L i) := by rw [f2.1.EI (by simp [P1])]; exact dgt_EI (ha i (by omega))
          have x2 : h2.EI 1920 b j = nI (dg H' L' j) := by rw [f2.1.EI (by simp [P1])]; exact dgt_EI (hb' j (by omega))
          have x3 : h2.EI 1936 r (i + j) = nI (dgt h2 1936 r (i + j)) := dgt_EI rfl
          have l2 := dg_lt H' L' j
          have l3 := p1 (i + j) (by omega)
          have lp : dg H L i * dg H' L' j ≤ 65535 * 65535 := Nat.mul_le_mul (by omega) (by omega)
          refine k_X26_multiply_13 o (fun c2 => ?_) (fun c2 => ?_)
          · exact absurd ((nI_leI (by omega) (by omega)).mp c2) (by omega)
          refine k_X26_multiply_20 o ?_
          generalize hv : (nI (dg H L i)).toInt64 * (nI (dg H' L' j)).toInt64 + (nI (dgt h2 1936 r (i + j))).toInt64 + lN c = v
          have uv : un v = dg H L i * dg H' L' j + dgt h2 1936 r (i + j) + c := by
            rw [← hv, un_add, un_add, un_mul, nI_l (by omega), nI_l (by omega), nI_l (by omega), un_l (by omega), un_l (by omega), un_l (by omega), un_l (by omega)]
            exact mul_mod lp l3 hc
          generalize hsum : dg H L i * dg H' L' j + dgt h2 1936 r (i + j) + c = s at uv
          have eq1 : v >>> ((nI 16).toInt64 &&& 63) = lN (s / 65536) := uL (by rw [un_shr _ (by omega) (by omega), uv, Nat.shiftRight_eq_div_pow])
          have eq2 : (v &&& (65535 : Int64)).toInt32 = nI (s % 65536) := uI (by rw [um_32, un_and, uv, show un 65535 = 2 ^ 16 - 1 from rfl, and_m]; omega)
          rw [eq1, eq2, nI_add]
          have du := dval_upw (f := dgt h2 1936 r) (g := dgt (h2.sEI 1936 r (i + j) (nI (s % 65536))) 1936 r) (p := i + j) (n := 33) (by omega) fun q hq => by rw [dgt_s, if_neg hq]
          rw [dgt_s, if_pos rfl, um_n (by omega)] at du
          refine ih2 (j + 1) (s / 65536) _ _ _ (by omega) (by omega) (f2.sEI P1.i) (fun q hq => ?_) (fun q h1 h2 => ?_) ?_
          · rw [dgt_s]
            split
            · rw [um_n (by omega)]; omega
            · exact p1 q hq
          · rw [dgt_s, if_neg (by omega)]; exact p2 q (by omega) h2
          · have h4 : dg H L i * pw i * (dg H' L' j * pw j) = dg H L i * dg H' L' j * pw (i + j) := by unfold pw; rw [Nat.pow_add, Nat.mul_mul_mul_comm]
            rw [dval_s (dg H' L') j, ← Nat.add_assoc i j 1, pw_s]
            exact mul_fin p3 du hsum (by rw [Nat.mul_add, h4])
      refine k_X26_multiply_2 o (fun c2 => ?_) (fun c2 => ?_)
      · exact absurd ((nI_leI (by omega) (by omega)).mp c2) (by omega)
      refine k_X26_multiply_8 o ?_
      exact inner 16 0 0 _ _ h1 rfl (by omega) f1 g1 (fun q hq h2 => g2 q hq h2) (by rw [g3, Nat.zero_mul, Nat.add_zero, show dval (dg H' L') 0 = 0 from rfl, Nat.mul_zero, Nat.add_zero])
  refine k_X26_multiply_0 o ?_
  exact loop 16 0 _ _ _ _ _ h rfl (Fq.refl h) (fun j hj => by rw [hr j hj]; omega) (fun j _ h2 => hr j h2) (by rw [dval_zero (m := 0) (by omega) fun j _ h2 => hr j h2, show dval (dg H L) 0 = 0 from rfl, Nat.zero_mul]; rfl)
