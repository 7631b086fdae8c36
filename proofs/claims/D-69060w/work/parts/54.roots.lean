/-! the twin's keys in their order: reading -/
def q4a (h : AH) (t a p : Nat) : F4 := (h.EJ t a (4 * p), h.EJ t a (4 * p + 1), h.EJ t a (4 * p + 2), h.EJ t a (4 * p + 3))
theorem q4a_g (h : AH) (t a p : Nat) {i : Nat} (hi : i < 4) : g4 (q4a h t a p) i = h.EJ t a (4 * p + i) := by
  have : i = 0 ∨ i = 1 ∨ i = 2 ∨ i = 3 := by omega
  rcases this with q | q | q | q <;> subst q <;> rfl
theorem q4a_fr {P : Nat → Nat → Prop} {h h' : AH} {t a : Nat} (q : Fr P h h') (np : ¬ P (10000 + t) a) (p : Nat) : q4a h' t a p = q4a h t a p := by unfold q4a; rw [q.EJ np, q.EJ np, q.EJ np, q.EJ np]
def SRo (h : AH) (R D : Nat) : Prop := (h.tag R = some (27, 0) ∧ h.R 3456 R = some (R + 1) ∧ h.R 3457 R = some (R + 2) ∧ h.R 3458 R = some (R + 3) ∧ h.R 3459 R = some (R + 4) ∧ h.R 3460 R = some (R + 5) ∧ h.R 3462 R = some (R + 6) ∧ h.R 3463 R = some (R + 7) ∧ h.R 3464 R = some (R + 8) ∧ h.R 3466 R = some D) ∧
  (h.tag (R + 1) = some (2003, 1024) ∧ h.tag (R + 2) = some (2019, 1024) ∧ h.tag (R + 3) = some (2032, 256) ∧ h.tag (R + 4) = some (2051, 256) ∧ h.tag (R + 5) = some (2064, 256) ∧ h.tag (R + 6) = some (2083, 1024) ∧ h.tag (R + 7) = some (2096, 256) ∧ h.tag (R + 8) = some (2112, 256)) ∧ SMd h D
def roR : List Nat := [3456, 3457, 3458, 3459, 3460, 3462, 3463, 3464, 3466, 3328, 3330, 3331]
theorem SRo.fr {P : Nat → Nat → Prop} {h h' : AH} {R D : Nat} (q : Fr P h h') (np : ∀ f a, roR.contains f = true → ¬ P f a) (s : SRo h R D) : SRo h' R D := by
  obtain ⟨⟨e1, e2, e3, e4, e5, e6, e7, e8, e9, e10⟩, ⟨t1, t2, t3, t4, t5, t6, t7, t8⟩, s1⟩ := s
  exact ⟨⟨q.tag e1, by rw [q.R (np _ _ rfl)]; exact e2, by rw [q.R (np _ _ rfl)]; exact e3, by rw [q.R (np _ _ rfl)]; exact e4, by rw [q.R (np _ _ rfl)]; exact e5, by rw [q.R (np _ _ rfl)]; exact e6, by rw [q.R (np _ _ rfl)]; exact e7, by rw [q.R (np _ _ rfl)]; exact e8, by rw [q.R (np _ _ rfl)]; exact e9, by rw [q.R (np _ _ rfl)]; exact e10⟩, ⟨q.tag t1, q.tag t2, q.tag t3, q.tag t4, q.tag t5, q.tag t6, q.tag t7, q.tag t8⟩, s1.fr q (fun f hf => np f _ (by rcases hf with r | r | r <;> subst r <;> rfl))⟩
theorem SRo.fs {l : List Nat} {h h' : AH} {R D : Nat} (q : Fr (FS l) h h') (np : roR.all (fun f => !l.contains f) = true) (s : SRo h R D) : SRo h' R D := by
  refine s.fr q fun f a hf => FS.n ?_
  rw [List.all_eq_true] at np
  simpa using np f (List.contains_iff_mem.mp hf)
/-- in words: the first in which they differ tells -/
theorem lt4_wd {q q' : F4} (h : lt4 q q') : ∃ j, j < 4 ∧ (∀ i, i < j → g4 q i = g4 q' i) ∧ un (g4 q j) < un (g4 q' j) := by
  obtain ⟨l, c, ag, h1, h2⟩ := h
  have tb : ∀ (p : F4) (l : Nat), bt p l = ((un (g4 p (l / 64))).testBit (63 - l % 64)).toNat := fun p l => by unfold bt; rw [Nat.toNat_testBit]
  have hi : ∀ (p : F4) (i b : Nat), 64 ≤ b → (un (g4 p i)).testBit b = false := fun p i b hb => Nat.testBit_lt_two_pow (Nat.lt_of_lt_of_le (un_lt _) (by rw [show (18446744073709551616 : Nat) = 2 ^ 64 from rfl]; exact Nat.pow_le_pow_right (by omega) hb))
  have bits : ∀ i b, b < 64 → 64 * i + (63 - b) < l → (un (g4 q i)).testBit b = (un (g4 q' i)).testBit b := fun i b hb hl => by
    have := ag _ hl
    rw [tb, tb, show (64 * i + (63 - b)) / 64 = i by omega, show 63 - (64 * i + (63 - b)) % 64 = b by omega] at this
    cases c1 : (un (g4 q i)).testBit b <;> cases c2 : (un (g4 q' i)).testBit b <;> simp [c1, c2] at this ⊢
  refine ⟨l / 64, by omega, fun i hi2 => un_inj (Nat.eq_of_testBit_eq fun b => ?_), ?_⟩
  · rcases Nat.lt_or_ge b 64 with z | z
    · exact bits i b z (by omega)
    · rw [hi q i b z, hi q' i b z]
  · rw [tb] at h1 h2
    refine un_lt_bit (m := 63 - l % 64) ?_ ?_ fun b hb => ?_
    · cases z : (un (g4 q (l / 64))).testBit (63 - l % 64) <;> simp [z] at h1 ⊢
    · cases z : (un (g4 q' (l / 64))).testBit (63 - l % 64) <;> simp [z] at h2 ⊢
    · rcases Nat.lt_or_ge b 64 with z | z
      · exact bits (l / 64) b z (by omega)
      · rw [hi q _ b z, hi q' _ b z]
theorem wd_lt4 {q q' : F4} {j : Nat} (hj : j < 4) (h1 : ∀ i, i < j → g4 q i = g4 q' i) (h2 : un (g4 q j) < un (g4 q' j)) : lt4 q q' := by
  rcases lt4_or q q' with e | e | e
  · subst e; omega
  · exact e
  · obtain ⟨i, hi, a1, a2⟩ := lt4_wd e
    rcases Nat.lt_trichotomy i j with z | z | z
    · rw [h1 i z] at a2; omega
    · subst z; omega
    · rw [a1 j z] at h2; omega
theorem order_ok {G : Gt} {d : Nat} {h : AH} {K : Outcome → AH → Prop} {a b : Int64} (kk : K (.returned (some (.int (cmu a b)))) h) : MW G d e_X28_order [.long a, .long b] h K := by
  refine st_X28_order fun X o hG hD hf => ?_
  unfold cmu at kk
  refine k_X28_order_0 o (fun c => ?_) (fun c => ?_)
  · have c : un a ≠ un b := fun q => c (un_inj q)
    refine k_X28_order_10 o (fun c2 => ?_) (fun c2 => ?_)
    · have c2 : ¬ un a < un b := fun q => Int64.not_lt.mpr c2 (min_lt.mpr q)
      rw [if_neg c2, if_neg c] at kk
      refine k_X28_order_28 o ?_
      refine k_X28_order_29 o ?_
      refine (kk)
    · have c2 : un a < un b := min_lt.mp (Int64.not_le.mp c2)
      rw [if_pos c2] at kk
      refine k_X28_order_24 o ?_
      refine k_X28_order_29 o ?_
      refine (kk)
  · rw [c, if_neg (by omega), if_pos rfl] at kk
    refine k_X28_order_6 o ?_
    refine k_X28_order_29 o ?_
    refine (kk)
theorem isBehind_ok {G : Gt} {d : Nat} {h : AH} {K : Outcome → AH → Prop} {R D p A t : Nat} {k : F4} (hs : SRo h R D) (hp : p < 256) (hA : h.tag A = some (t, 4)) (ht : 64 ≤ t ∧ t % 16 = 3) (hk : q4a h t A 0 = k) (hd : 1 ≤ d)
    (kk : ∀ b : Bool, (b = true ↔ lt4 k (q4a h 2003 (R + 1) p)) → K (.returned (some (.int (bI b)))) h) : MW G d e_X28_isBehind [.ref R, .int (nI p), .ref A] h K := by
  refine st_X28_isBehind fun X o hG hD hf => ?_
  subst hG; subst hD
  obtain ⟨⟨e1, e2, e3, e4, e5, e6, e7, e8, e9, e10⟩, ⟨t1, t2, t3, t4, t5, t6, t7, t8⟩, s1⟩ := id hs
  generalize hq : q4a h 2003 (R + 1) p = q at kk
  have loop : ∀ m i v4, m + i = 4 → (∀ j, j < i → g4 k j = g4 q j) → V X K 2 [.ref R, .int (nI p), .ref A, .int (nI i), v4] [] h := by
    intro m
    induction m with
    | zero =>
      intro i v4 hi g1
      have : i = 4 := by omega
      subst this
      have e : k = q := g4_ext g1
      refine k_X28_isBehind_2 o (fun c => ?_) (fun c => ?_)
      rotate_left
      · exact absurd (by decide) c
      refine k_X28_isBehind_47 o ?_
      refine (kk false ⟨fun z => (nomatch z), fun z => by rw [e] at z; exact absurd z lt4_irr⟩)
    | succ m ih =>
      intro i v4 hi g1
      have i0 : IX (nI 4 * nI p + nI i) 1024 (4 * p + i) := by rw [nI_mul, nI_add]; exact IX.mk (by omega) (by omega)
      have i1 : IX (nI i) 4 i := IX.mk (by omega) (by omega)
      have x0 : h.EJ 2003 (R + 1) (4 * p + i) = g4 q i := by rw [← hq, q4a_g _ _ _ _ (by omega)]
      have x1 : h.EJ t A i = g4 k i := by rw [← hk, q4a_g _ _ _ _ (by omega), Nat.mul_zero, Nat.zero_add]
      refine k_X28_isBehind_2 o (fun c => ?_) (fun c => ?_)
      · exact absurd ((nI_leI (by omega) (by omega)).mp c) (by omega)
      refine k_X28_isBehind_7 o ?_ (c17 := ht)
      refine order_ok ?_
      refine k_X28_isBehind_23 o (fun c2 => ?_) (fun c2 => ?_)
      · have c2 := cmu_zero.mp c2
        refine k_X28_isBehind_41 o ?_
        rw [nI_add]
        exact ih (i + 1) _ (by omega) fun j hj => by
          rcases Nat.lt_or_ge j i with z | z
          · exact g1 j z
          · rw [show j = i by omega]; exact c2.symm
      · have c2 : un (g4 q i) ≠ un (g4 k i) := fun z => c2 (cmu_zero.mpr (un_inj z))
        refine k_X28_isBehind_30 o (fun c3 => ?_) (fun c3 => ?_)
        · have c3 : ¬ un (g4 k i) < un (g4 q i) := fun z => Int32.not_lt.mpr c3 (cmu_pos.mpr z)
          have l1 : lt4 q k := wd_lt4 (by omega) (fun j hj => (g1 j hj).symm) (by omega)
          refine k_X28_isBehind_39 o ?_
          refine k_X28_isBehind_40 o ?_
          refine (kk false ⟨fun z => (nomatch z), fun z => absurd z (lt4_asym l1)⟩)
        · have c3 : un (g4 k i) < un (g4 q i) := cmu_pos.mp (Int32.not_le.mp c3)
          refine k_X28_isBehind_35 o ?_
          refine k_X28_isBehind_40 o ?_
          refine (kk true ⟨fun _ => wd_lt4 (by omega) g1 c3, fun _ => rfl⟩)
  refine k_X28_isBehind_0 o ?_
  exact loop 4 0 _ rfl fun j hj => by omega
theorem isAt_ok {G : Gt} {d : Nat} {h : AH} {K : Outcome → AH → Prop} {R D p A t : Nat} {k : F4} (hs : SRo h R D) (hp : p < 256) (hA : h.tag A = some (t, 4)) (ht : 64 ≤ t ∧ t % 16 = 3) (hk : q4a h t A 0 = k) (kk : K (.returned (some (.int (bI (decide (q4a h 2003 (R + 1) p = k)))))) h) : MW G d e_X28_isAt [.ref R, .int (nI p), .ref A] h K := by
  refine st_X28_isAt fun X o hG hD hf => ?_
  obtain ⟨⟨e1, e2, e3, e4, e5, e6, e7, e8, e9, e10⟩, ⟨t1, t2, t3, t4, t5, t6, t7, t8⟩, s1⟩ := id hs
  generalize hq : q4a h 2003 (R + 1) p = q at kk
  have loop : ∀ m i (b : Bool), m + i = 4 → (b = true ↔ ∀ j, j < i → g4 q j = g4 k j) → V X K 5 [.ref R, .int (nI p), .ref A, .int (bI b), .int (nI i)] [] h := by
    intro m
    induction m with
    | zero =>
      intro i b hi g1
      have : i = 4 := by omega
      subst this
      have e : decide (q = k) = b := by
        rw [Bool.eq_iff_iff, g1, decide_eq_true_iff]
        exact ⟨fun z j _ => by rw [z], fun z => g4_ext z⟩
      rw [e] at kk
      refine k_X28_isAt_5 o (fun c => ?_) (fun c => ?_)
      rotate_left
      · exact absurd (by decide) c
      refine k_X28_isAt_46 o ?_
      refine (kk)
    | succ m ih =>
      intro i b hi g1
      have i0 : IX (nI 4 * nI p + nI i) 1024 (4 * p + i) := by rw [nI_mul, nI_add]; exact IX.mk (by omega) (by omega)
      have i1 : IX (nI i) 4 i := IX.mk (by omega) (by omega)
      have x0 : h.EJ 2003 (R + 1) (4 * p + i) = g4 q i := by rw [← hq, q4a_g _ _ _ _ (by omega)]
      have x1 : h.EJ t A i = g4 k i := by rw [← hk, q4a_g _ _ _ _ (by omega), Nat.mul_zero, Nat.zero_add]
      have no : ¬ (∀ j, j < i + 1 → g4 q j = g4 k j) → V X K 38 [.ref R, .int (nI p), .ref A, .int (bI b), .int (nI i)] [] h := fun z => by
        refine k_X28_isAt_38 o ?_
        refine k_X28_isAt_39 o ?_
        rw [nI_add]
        exact ih (i + 1) false (by omega) ⟨fun z => (nomatch z), fun y => absurd y z⟩
      refine k_X28_isAt_5 o (fun c => ?_) (fun c => ?_)
      · exact absurd ((nI_leI (by omega) (by omega)).mp c) (by omega)
      refine k_X28_isAt_11 o (fun c2 => ?_) (fun c2 => ?_)
      · have c2 := bI_0.mp c2
        refine no fun z => ?_
        have := g1.mpr fun j hj => z j (by omega)
        rw [c2] at this; cases this
      · have c2 : b = true := by
          cases b with
          | true => rfl
          | false => exact absurd rfl c2
        refine k_X28_isAt_15 o (fun c3 => ?_) (fun c3 => ?_) (c17 := ht)
        · exact no fun z => c3 (z i (by omega))
        · refine k_X28_isAt_34 o ?_
          refine k_X28_isAt_39 o ?_
          rw [nI_add]
          refine ih (i + 1) true (by omega) ⟨fun _ j hj => ?_, fun _ => rfl⟩
          rcases Nat.lt_or_ge j i with z | z
          · exact g1.mp c2 j z
          · rw [show j = i by omega]; exact c3
  refine k_X28_isAt_0 o ?_
  exact loop 4 0 true rfl ⟨fun _ j hj => by omega, fun _ => rfl⟩
/-- a place before another one (or the same): its sort, address, kind -/
abbrev PL3 : Type := Int32 × Int64 × Int32
def pls (a b : PL3) : Bool := if a.1 = b.1 then (if a.2.1 = b.2.1 then decide (a.2.2 ≤ b.2.2) else decide (un a.2.1 < un b.2.1)) else decide (a.1 < b.1)
theorem isLess_ok {G : Gt} {d : Nat} {h : AH} {K : Outcome → AH → Prop} {R D p : Nat} {a b : PL3} (hs : SRo h R D) (hp : p < 256) (h1 : h.EI 2032 (R + 3) p = a.1) (h2 : h.EJ 2051 (R + 4) p = a.2.1) (h3 : h.EI 2064 (R + 5) p = a.2.2) (hd : 1 ≤ d) (kk : K (.returned (some (.int (bI (pls a b))))) h) : MW G d e_X28_isLess [.ref R, .int (nI p), .int b.1, .long b.2.1, .int b.2.2] h K := by
  refine st_X28_isLess fun X o hG hD hf => ?_
  subst hG; subst hD
  obtain ⟨⟨e1, e2, e3, e4, e5, e6, e7, e8, e9, e10⟩, ⟨t1, t2, t3, t4, t5, t6, t7, t8⟩, s1⟩ := id hs
  have ix : IX (nI p) 256 p := IX.mk hp (by omega)
  unfold pls at kk
  refine k_X28_isLess_0 o (fun c => ?_) (fun c => ?_)
  · rw [if_pos c] at kk
    refine k_X28_isLess_26 o (fun c2 => ?_) (fun c2 => ?_)
    · rw [if_pos c2] at kk
      refine k_X28_isLess_58 o (fun c3 => ?_) (fun c3 => ?_)
      · rw [decide_eq_false (Int32.not_le.mpr c3)] at kk
        refine k_X28_isLess_73 o ?_
        refine k_X28_isLess_74 o ?_
        refine (kk)
      · rw [decide_eq_true (Int32.not_lt.mp c3)] at kk
        refine k_X28_isLess_69 o ?_
        refine k_X28_isLess_74 o ?_
        refine (kk)
    · rw [if_neg c2] at kk
      refine k_X28_isLess_37 o ?_
      refine order_ok ?_
      refine k_X28_isLess_47 o (fun c3 => ?_) (fun c3 => ?_)
      · rw [decide_eq_false fun z => Int32.not_lt.mpr c3 (cmu_neg.mpr z)] at kk
        refine k_X28_isLess_54 o ?_
        refine k_X28_isLess_74 o ?_
        refine (kk)
      · rw [decide_eq_true (cmu_neg.mp (Int32.not_le.mp c3))] at kk
        refine k_X28_isLess_50 o ?_
        refine k_X28_isLess_74 o ?_
        refine (kk)
  · rw [if_neg c] at kk
    refine k_X28_isLess_10 o (fun c2 => ?_) (fun c2 => ?_)
    · rw [decide_eq_false (Int32.not_lt.mpr c2)] at kk
      refine k_X28_isLess_24 o ?_
      refine k_X28_isLess_25 o ?_
      refine (kk)
    · rw [decide_eq_true (Int32.not_le.mp c2)] at kk
      refine k_X28_isLess_20 o ?_
      refine k_X28_isLess_25 o ?_
      refine (kk)
