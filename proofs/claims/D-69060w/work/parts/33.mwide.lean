/-! the twin's numbers by digits of 16 bits -/
def wFl : List Nat := [10000 + 1904, 10000 + 1920, 10000 + 1936, 3203, 3204]
def SW (h : AH) (w a b r : Nat) : Prop := h.tag w = some (25, 0) ∧ h.R 3200 w = some a ∧ h.R 3201 w = some b ∧ h.R 3202 w = some r ∧ h.tag a = some (1904, 16) ∧ h.tag b = some (1920, 16) ∧ h.tag r = some (1936, 33)
theorem SW.fr {P : Nat → Nat → Prop} {h h' : AH} {w a b r : Nat} (q : Fr P h h') (np : ¬ P 3200 w ∧ ¬ P 3201 w ∧ ¬ P 3202 w) (s : SW h w a b r) : SW h' w a b r := by
  obtain ⟨e1, e2, e3, e4, e5, e6, e7⟩ := s
  exact ⟨q.tag e1, by rw [q.R np.1]; exact e2, by rw [q.R np.2.1]; exact e3, by rw [q.R np.2.2]; exact e4, q.tag e5, q.tag e6, q.tag e7⟩
/-- digits of an array, and the number that they are -/
def dgt (h : AH) (t a k : Nat) : Nat := um (h.EI t a k)
def dval (f : Nat → Nat) : Nat → Nat
  | 0 => 0
  | n + 1 => dval f n + f n * 65536 ^ n
theorem dval_congr {f g : Nat → Nat} : ∀ {n : Nat}, (∀ j, j < n → f j = g j) → dval f n = dval g n
  | 0, _ => rfl
  | n + 1, h => by simp only [dval]; rw [dval_congr fun j hj => h j (by omega), h n (by omega)]
theorem dval_lt {f : Nat → Nat} : ∀ {n : Nat}, (∀ j, j < n → f j < 65536) → dval f n < 65536 ^ n
  | 0, _ => by simp [dval]
  | n + 1, h => by
    simp only [dval]
    have h1 := dval_lt (n := n) fun j hj => h j (by omega)
    have h2 : f n * 65536 ^ n + 65536 ^ n ≤ 65536 * 65536 ^ n := by
      rw [← Nat.succ_mul]; exact Nat.mul_le_mul_right _ (h n (by omega))
    rw [Nat.pow_succ]; omega
theorem dval_ge {f : Nat → Nat} {j : Nat} : ∀ {n : Nat}, j < n → f j ≠ 0 → 65536 ^ j ≤ dval f n
  | 0, h, _ => by omega
  | n + 1, h, hf => by
    simp only [dval]
    rcases Nat.lt_or_ge j n with q | q
    · exact Nat.le_trans (dval_ge q hf) (Nat.le_add_right ..)
    · have : j = n := by omega
      subst this
      exact Nat.le_trans (Nat.le_mul_of_pos_left _ (Nat.pos_of_ne_zero hf)) (Nat.le_add_left ..)
theorem dval_zero {f : Nat → Nat} {m : Nat} : ∀ {n : Nat}, m ≤ n → (∀ j, m ≤ j → j < n → f j = 0) → dval f n = dval f m
  | 0, h, _ => by rw [Nat.le_zero.mp h]
  | n + 1, h, hf => by
    rcases Nat.lt_or_ge m (n + 1) with q | q
    · simp only [dval]; rw [dval_zero (by omega) fun j h1 h2 => hf j h1 (by omega), hf n (by omega) (by omega)]; simp
    · rw [show m = n + 1 by omega]
theorem dval_up {f g : Nat → Nat} {p : Nat} : ∀ {n : Nat}, p < n → (∀ j, j ≠ p → f j = g j) → dval g n + f p * 65536 ^ p = dval f n + g p * 65536 ^ p
  | 0, h, _ => by omega
  | n + 1, h, hf => by
    simp only [dval]
    rcases Nat.lt_or_ge p n with q | q
    · have := dval_up q hf; rw [hf n (by omega)]; omega
    · have : p = n := by omega
      subst this
      rw [dval_congr (f := g) (g := f) fun j hj => (hf j (by omega)).symm]; omega
def dg (H L : Int64) (k : Nat) : Nat := if k < 4 then un L / 2 ^ (16 * k) % 65536 else if k < 8 then un H / 2 ^ (16 * (k - 4)) % 65536 else 0
theorem dg_lt (H L : Int64) (k : Nat) : dg H L k < 65536 := by unfold dg; split <;> (try split) <;> omega
theorem dg_val (H L : Int64) : dval (dg H L) 16 = w128 H L := by
  have a1 := un_lt H
  have a2 := un_lt L
  have z : ∀ j, 8 ≤ j → j < 16 → dg H L j = 0 := fun j h1 h2 => by unfold dg; rw [if_neg (by omega), if_neg (by omega)]
  rw [dval_zero (by omega : 8 ≤ 16) z]
  simp [dval, dg, w128]
  omega
theorem lay_ok {G : Gt} {d : Nat} {h : AH} {K : Outcome → AH → Prop} {T a : Nat} {H L : Int64} (ht : h.tag a = some (T, 16)) (hT : 64 ≤ T ∧ T < 4096 ∧ T % 16 = 0) (kk : ∀ h', Fq (P1 (10000 + T) a) h h' → (∀ k, k < 16 → h'.EI T a k = nI (dg H L k)) → K (.returned none) h') : MW G d e_X26_lay [.ref a, .long H, .long L] h K := by
  refine st_X26_lay fun X o hG hD hf => ?_
  have loop : ∀ m k h1, m + k = 16 → Fq (P1 (10000 + T) a) h h1 → (∀ j, j < k → h1.EI T a j = nI (dg H L j)) → V X K 3 [.ref a, .long H, nov, .long L, nov, .int (nI k)] [] h1 := by
    intro m
    induction m with
    | zero =>
      intro k h1 hk f1 g1
      have : k = 16 := by omega
      subst this
      refine k_X26_lay_3 o (fun c => ?_) (fun c => ?_)
      · refine k_X26_lay_66 o ?_
        refine (kk h1 f1 g1)
      · exact absurd (by decide) c
    | succ m ih =>
      intro k h1 hk f1 g1
      have ix : IX (nI k) 16 k := IX.mk (by omega) (by omega)
      have t1 := f1.1.tag ht
      have fin : ∀ v, v = nI (dg H L k) → V X K 59 [.ref a, .long H, nov, .long L, nov, .int (nI k)] [.int v, .int (nI k), .ref a] h1 := by
        intro v hv
        refine k_X26_lay_59 o ?_ (c6 := hT)
        rw [nI_add]
        refine ih (k + 1) _ (by omega) (f1.sEI P1.i) fun j hj => ?_
        rw [EI_sEI]
        split
        · next q => rw [hv, q.2.2]
        · next q => exact g1 j (by have : j ≠ k := fun z => q ⟨rfl, rfl, z⟩; omega)
      refine k_X26_lay_3 o (fun c => ?_) (fun c => ?_)
      · exact absurd ((nI_leI (by omega) (by omega)).mp c) (by omega)
      refine k_X26_lay_10 o (fun c => ?_) (fun c => ?_)
      · have c := (nI_leI (by omega) (by omega)).mp c
        refine k_X26_lay_34 o (fun c2 => ?_) (fun c2 => ?_)
        · have c2 := (nI_leI (by omega) (by omega)).mp c2
          refine k_X26_lay_58 o ?_
          exact fin _ (by unfold dg; rw [if_neg (by omega), if_neg (by omega)])
        · have c2 : k < 8 := by
            by_cases q : 8 ≤ k
            · exact absurd ((nI_leI (by omega) (by omega)).mpr q) c2
            · omega
          refine k_X26_lay_41 o ?_
          refine fin _ (um_inj ?_)
          rw [nI_sub c, nI_mul, um_32, un_fld (m := 16) _ (by omega) (by omega) rfl, um_n (by have := dg_lt H L k; omega)]
          unfold dg
          rw [if_neg (by omega), if_pos c2]
          exact Nat.mod_eq_of_lt (by omega)
      · have c : k < 4 := by
          by_cases q : 4 ≤ k
          · exact absurd ((nI_leI (by omega) (by omega)).mpr q) c
          · omega
        refine k_X26_lay_19 o ?_
        refine fin _ (um_inj ?_)
        rw [nI_mul, um_32, un_fld (m := 16) _ (by omega) (by omega) rfl, um_n (by have := dg_lt H L k; omega)]
        unfold dg
        rw [if_pos c]
        exact Nat.mod_eq_of_lt (by omega)
  refine k_X26_lay_0 o ?_
  exact loop 16 0 h rfl (Fq.refl h) fun j hj => by omega
theorem four_ok {G : Gt} {d : Nat} {h : AH} {K : Outcome → AH → Prop} {T n a i : Nat} (ht : h.tag a = some (T, n)) (hT : 64 ≤ T ∧ T % 16 = 0) (hi : i + 4 ≤ n) (hn : n ≤ 64) (hl : ∀ j, i ≤ j → j < i + 4 → dgt h T a j < 65536)
    (kk : ∀ r : Int64, un r = dgt h T a i + dgt h T a (i + 1) * 65536 + dgt h T a (i + 2) * 4294967296 + dgt h T a (i + 3) * 281474976710656 → K (.returned (some (.long (r)))) h) : MW G d e_X26_four [.ref a, .int (nI i)] h K := by
  refine st_X26_four fun X o hG hD hf => ?_
  have i3 : IX (nI i + nI 3) n (i + 3) := by rw [nI_add]; exact IX.mk (by omega) (by omega)
  have i2 : IX (nI i + nI 2) n (i + 2) := by rw [nI_add]; exact IX.mk (by omega) (by omega)
  have i1 : IX (nI i + nI 1) n (i + 1) := by rw [nI_add]; exact IX.mk (by omega) (by omega)
  have i0 : IX (nI i) n i := IX.mk (by omega) (by omega)
  have l0 := hl i (by omega) (by omega)
  have l1 := hl (i + 1) (by omega) (by omega)
  have l2 := hl (i + 2) (by omega) (by omega)
  have l3 := hl (i + 3) (by omega) (by omega)
  unfold dgt at *
  refine k_X26_four_0 o (kk _ ?_) (c8 := hT) (c13 := hT) (c18 := hT) (c23 := hT)
  rw [un_or, un_or, un_or, un_shl _ (by omega), un_shl _ (by omega), un_shl _ (by omega), un_64 _ (by omega), un_64 _ (by omega), un_64 _ (by omega), un_64 _ (by omega)]
  generalize um (h.EI T a i) = x0 at *
  generalize um (h.EI T a (i + 1)) = x1 at *
  generalize um (h.EI T a (i + 2)) = x2 at *
  generalize um (h.EI T a (i + 3)) = x3 at *
  simp only [Nat.shiftLeft_eq]
  rw [Nat.mod_eq_of_lt (by omega), Nat.mod_eq_of_lt (by omega), Nat.mod_eq_of_lt (by omega), or_add (by omega)]
  rw [show x3 * 2 ^ 48 + x2 * 2 ^ 32 = (x3 * 65536 + x2) * 2 ^ 32 by omega, or_add (by omega)]
  rw [show (x3 * 65536 + x2) * 2 ^ 32 + x1 * 2 ^ 16 = ((x3 * 65536 + x2) * 65536 + x1) * 2 ^ 16 by omega, or_add (by omega)]
  omega
theorem isOf_ok {G : Gt} {d : Nat} {h : AH} {K : Outcome → AH → Prop} {H L : Int64} {b : Nat} (hb : b = 8 ∨ b = 64 ∨ b = 128) (kk : K (.returned (some (.int (bI (decide (w128 H L < 2 ^ b)))))) h) : MW G d e_X26_isOf [.long H, .long L, .int (nI b)] h K := by
  refine st_X26_isOf fun X o hG hD hf => ?_
  have a1 := un_lt H
  have a2 := un_lt L
  have yes : w128 H L < 2 ^ b → V X K 30 [.long H, nov, .long L, nov, .int (nI b)] [] h := fun q => by
    rw [decide_eq_true q] at kk
    refine k_X26_isOf_30 o ?_
    refine k_X26_isOf_35 o ?_
    refine (kk)
  have no : ¬ w128 H L < 2 ^ b → V X K 34 [.long H, nov, .long L, nov, .int (nI b)] [] h := fun q => by
    rw [decide_eq_false q] at kk
    refine k_X26_isOf_34 o ?_
    refine k_X26_isOf_35 o ?_
    refine (kk)
  have e : un ((L.toUInt64 >>> ((nI 8).toInt64.toUInt64 &&& Int64.toUInt64 63)).toInt64) = un L / 256 := by rw [un_ushr _ (by omega), Nat.shiftRight_eq_div_pow]
  unfold w128 at yes no
  refine k_X26_isOf_0 o (fun c => ?_) (fun c => ?_)
  · have c := (nI_eq (by omega) (by omega)).mp c
    subst c
    exact yes (by omega)
  have c : b ≠ 128 := fun q => c (by rw [q])
  refine k_X26_isOf_8 o (fun c2 => ?_) (fun c2 => ?_)
  · have c2 : un H ≠ 0 := fun q => c2 (un_inj q)
    exact no (by rcases hb with q | q | q <;> subst q <;> omega)
  have c2 : un H = 0 := by rw [c2]; rfl
  refine k_X26_isOf_14 o (fun c3 => ?_) (fun c3 => ?_)
  · have c3 := (nI_eq (by omega) (by omega)).mp c3
    subst c3
    exact yes (by omega)
  have c3 : b ≠ 64 := fun q => c3 (by rw [q])
  have : b = 8 := by omega
  subst this
  refine k_X26_isOf_21 o (fun c4 => ?_) (fun c4 => ?_)
  · have c4 : un L / 256 ≠ 0 := fun q => c4 (un_inj (by rw [e]; exact q))
    exact no (by omega)
  · have c4 : un L / 256 = 0 := by rw [← e, c4]; rfl
    exact yes (by omega)
theorem mcompare_ok {G : Gt} {d : Nat} {h : AH} {K : Outcome → AH → Prop} {H L H' L' : Int64} (kk : K (.returned (some (.int (cmw (w128 H L) (w128 H' L'))))) h) : MW G d e_X26_compare [.long H, .long L, .long H', .long L'] h K := by
  refine st_X26_compare fun X o hG hD hf => ?_
  have a1 := un_lt L
  have a2 := un_lt L'
  unfold cmw w128 at kk
  refine k_X26_compare_0 o (fun c => ?_) (fun c => ?_)
  · subst c
    refine k_X26_compare_28 o (fun c2 => ?_) (fun c2 => ?_)
    · have c2 : un L ≠ un L' := fun q => c2 (un_inj q)
      refine k_X26_compare_39 o (fun c3 => ?_) (fun c3 => ?_)
      · have c3 : ¬ un L < un L' := fun q => Int64.not_lt.mpr c3 (min_lt.mpr q)
        rw [if_neg (by omega), if_neg (by omega)] at kk
        refine k_X26_compare_58 o ?_
        refine k_X26_compare_59 o ?_
        refine (kk)
      · have c3 : un L < un L' := min_lt.mp (Int64.not_le.mp c3)
        rw [if_pos (by omega)] at kk
        refine k_X26_compare_54 o ?_
        refine k_X26_compare_59 o ?_
        refine (kk)
    · rw [c2, if_neg (by omega), if_pos rfl] at kk
      refine k_X26_compare_35 o ?_
      refine k_X26_compare_59 o ?_
      refine (kk)
  · have c : un H ≠ un H' := fun q => c (un_inj q)
    refine k_X26_compare_7 o (fun c3 => ?_) (fun c3 => ?_)
    · have c3 : ¬ un H < un H' := fun q => Int64.not_lt.mpr c3 (min_lt.mpr q)
      rw [if_neg (by omega), if_neg (by omega)] at kk
      refine k_X26_compare_26 o ?_
      refine k_X26_compare_27 o ?_
      refine (kk)
    · have c3 : un H < un H' := min_lt.mp (Int64.not_le.mp c3)
      rw [if_pos (by omega)] at kk
      refine k_X26_compare_22 o ?_
      refine k_X26_compare_27 o ?_
      refine (kk)
theorem result_ok {G : Gt} {d : Nat} {h : AH} {K : Outcome → AH → Prop} {w a b r bits : Nat} (hs : SW h w a b r) (hb : bits = 8 ∨ bits = 64 ∨ bits = 128) (hl : ∀ j, j < 32 → dgt h 1936 r j < 65536) (hd : 1 ≤ d)
    (kk : ∀ h' (q : Bool) H2 L2, Fq (FS [3203, 3204]) h h' → (q = true ↔ dval (dgt h 1936 r) 32 < 2 ^ bits) → (q = true → h'.J 3203 w = H2 ∧ h'.J 3204 w = L2 ∧ w128 H2 L2 = dval (dgt h 1936 r) 32) → K (.returned (some (.int (bI q)))) h') : MW G d e_X26_result [.ref w, .int (nI bits)] h K := by
  refine st_X26_result fun X o hG hD hf => ?_
  obtain ⟨e1, e2, e3, e4, e5, e6, e7⟩ := id hs
  have loop : ∀ m k, m + k = 32 → 8 ≤ k → (∀ j, 8 ≤ j → j < k → dgt h 1936 r j = 0) → V X K 3 [.ref w, .int (nI bits), .int (nI k)] [] h := by
    intro m
    induction m with
    | zero =>
      intro k hk h8 g1
      have : k = 32 := by omega
      subst this
      have vz := dval_zero (f := dgt h 1936 r) (by omega : 8 ≤ 32) g1
      refine k_X26_result_3 o (fun c => ?_) (fun c => ?_)
      rotate_left
      · exact absurd (by decide) c
      refine k_X26_result_26 o ?_
      refine four_ok e7 (by decide) (by omega) (by omega) (fun j h1 h2 => hl j (by omega)) fun H2 hH => ?_
      refine k_X26_result_35 o ?_
      refine four_ok (by exact e7) (by decide) (by omega) (by omega) (fun j h1 h2 => hl j (by omega)) fun L2 hL => ?_
      have f1 : Fq (FS [3203, 3204]) h ((h.sJ 3203 w H2).sJ 3204 w L2) := (by refine (Fq.sJ (Fq.sJ (Fq.refl h) ?_) ?_) <;> exact rfl)
      have g1 : (h.sJ 3203 w H2).J 3203 w = H2 := by simp [n_sI, z_sI, tag_sI, I_sI, J_sI, R_sI, EI_sI, EJ_sI, ER_sI, n_sJ, z_sJ, tag_sJ, I_sJ, J_sJ, R_sJ, EI_sJ, EJ_sJ, ER_sJ, n_sR, z_sR, tag_sR, I_sR, J_sR, R_sR, EI_sR, EJ_sR, ER_sR, n_sEI, z_sEI, tag_sEI, I_sEI, J_sEI, R_sEI, EI_sEI, EJ_sEI, ER_sEI, n_sEJ, z_sEJ, tag_sEJ, I_sEJ, J_sEJ, R_sEJ, EI_sEJ, EJ_sEJ, ER_sEJ, n_sER, z_sER, tag_sER, I_sER, J_sER, R_sER, EI_sER, EJ_sER, ER_sER, n_nw, z_nw, tag_nw, I_nw, J_nw, R_nw, EI_nw, EJ_nw, ER_nw]
      have g2 : ((h.sJ 3203 w H2).sJ 3204 w L2).J 3204 w = L2 := by simp [n_sI, z_sI, tag_sI, I_sI, J_sI, R_sI, EI_sI, EJ_sI, ER_sI, n_sJ, z_sJ, tag_sJ, I_sJ, J_sJ, R_sJ, EI_sJ, EJ_sJ, ER_sJ, n_sR, z_sR, tag_sR, I_sR, J_sR, R_sR, EI_sR, EJ_sR, ER_sR, n_sEI, z_sEI, tag_sEI, I_sEI, J_sEI, R_sEI, EI_sEI, EJ_sEI, ER_sEI, n_sEJ, z_sEJ, tag_sEJ, I_sEJ, J_sEJ, R_sEJ, EI_sEJ, EJ_sEJ, ER_sEJ, n_sER, z_sER, tag_sER, I_sER, J_sER, R_sER, EI_sER, EJ_sER, ER_sER, n_nw, z_nw, tag_nw, I_nw, J_nw, R_nw, EI_nw, EJ_nw, ER_nw]
      have g3 : ((h.sJ 3203 w H2).sJ 3204 w L2).J 3203 w = H2 := by simp [n_sI, z_sI, tag_sI, I_sI, J_sI, R_sI, EI_sI, EJ_sI, ER_sI, n_sJ, z_sJ, tag_sJ, I_sJ, J_sJ, R_sJ, EI_sJ, EJ_sJ, ER_sJ, n_sR, z_sR, tag_sR, I_sR, J_sR, R_sR, EI_sR, EJ_sR, ER_sR, n_sEI, z_sEI, tag_sEI, I_sEI, J_sEI, R_sEI, EI_sEI, EJ_sEI, ER_sEI, n_sEJ, z_sEJ, tag_sEJ, I_sEJ, J_sEJ, R_sEJ, EI_sEJ, EJ_sEJ, ER_sEJ, n_sER, z_sER, tag_sER, I_sER, J_sER, R_sER, EI_sER, EJ_sER, ER_sER, n_nw, z_nw, tag_nw, I_nw, J_nw, R_nw, EI_nw, EJ_nw, ER_nw]
      have hL' : un L2 = dgt h 1936 r 0 + dgt h 1936 r 1 * 65536 + dgt h 1936 r 2 * 4294967296 + dgt h 1936 r 3 * 281474976710656 := hL
      have hH' : un H2 = dgt h 1936 r 4 + dgt h 1936 r 5 * 65536 + dgt h 1936 r 6 * 4294967296 + dgt h 1936 r 7 * 281474976710656 := hH
      have ev : w128 H2 L2 = dval (dgt h 1936 r) 32 := by
        rw [vz]
        unfold w128
        rw [hL', hH']
        simp only [dval]
        omega
      refine k_X26_result_47 o ?_
      refine isOf_ok hb ?_
      refine k_X26_result_62 o ?_
      refine (kk _ _ H2 L2 f1 ?_ fun _ => ⟨g3, g2, ev⟩)
      rw [← ev, decide_eq_true_eq]
    | succ m ih =>
      intro k hk h8 g1
      have ix : IX (nI k) 33 k := IX.mk (by omega) (by omega)
      refine k_X26_result_3 o (fun c => ?_) (fun c => ?_)
      · exact absurd ((nI_leI (by omega) (by omega)).mp c) (by omega)
      refine k_X26_result_9 o (fun c2 => ?_) (fun c2 => ?_)
      · refine k_X26_result_20 o ?_
        rw [nI_add]
        refine ih (k + 1) (by omega) (by omega) fun j h1 h2 => ?_
        rcases Nat.lt_or_ge j k with q | q
        · exact g1 j h1 q
        · rw [show j = k by omega]; unfold dgt; rw [c2]; rfl
      · have c2 : dgt h 1936 r k ≠ 0 := fun q => c2 (um_inj q)
        refine k_X26_result_18 o ?_
        refine (kk h false 0 0 (Fq.refl h) ⟨fun q => (nomatch q), fun q => ?_⟩ fun q => (nomatch q))
        have g2 := dval_ge (n := 32) (by omega : k < 32) c2
        have g3 : 65536 ^ 8 ≤ 65536 ^ k := Nat.pow_le_pow_right (by omega) h8
        have : (2 : Nat) ^ bits ≤ 65536 ^ 8 := by rcases hb with q | q | q <;> subst q <;> decide
        omega
  refine k_X26_result_0 o ?_
  exact loop 24 8 rfl (by omega) fun j h1 h2 => by omega
theorem mclear_ok {G : Gt} {d : Nat} {h : AH} {K : Outcome → AH → Prop} {w a b r : Nat} (hs : SW h w a b r) (kk : ∀ h', Fq (P1 (10000 + 1936) r) h h' → (∀ j, j < 33 → dgt h' 1936 r j = 0) → K (.returned none) h') : MW G d e_X26_clear [.ref w] h K := by
  refine st_X26_clear fun X o hG hD hf => ?_
  have loop : ∀ m k h1, m + k = 33 → Fq (P1 (10000 + 1936) r) h h1 → (∀ j, j < k → dgt h1 1936 r j = 0) → V X K 2 [.ref w, .int (nI k)] [] h1 := by
    intro m
    induction m with
    | zero =>
      intro k h1 hk f1 g1
      have : k = 33 := by omega
      subst this
      refine k_X26_clear_2 o (fun c => ?_) (fun c => ?_)
      · refine k_X26_clear_21 o ?_
        refine (kk h1 f1 g1)
      · exact absurd (by decide) c
    | succ m ih =>
      intro k h1 hk f1 g1
      have ix : IX (nI k) 33 k := IX.mk (by omega) (by omega)
      obtain ⟨e1, e2, e3, e4, e5, e6, e7⟩ := hs.fr f1.1 (by simp [P1])
      refine k_X26_clear_2 o (fun c => ?_) (fun c => ?_)
      · exact absurd ((nI_leI (by omega) (by omega)).mp c) (by omega)
      refine k_X26_clear_8 o ?_
      rw [nI_add]
      refine ih (k + 1) _ (by omega) (f1.sEI P1.i) fun j hj => ?_
      unfold dgt
      rw [EI_sEI]
      split
      · rfl
      · next q => exact g1 j (by have : j ≠ k := fun z => q ⟨rfl, rfl, z⟩; omega)
  refine k_X26_clear_0 o ?_
  exact loop 33 0 h rfl (Fq.refl h) fun j hj => by omega
