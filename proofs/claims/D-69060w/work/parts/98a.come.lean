/-! the component's checker: what was noted of instructions -/
def TBr (h : AH) (C j : Nat) (lt : List Ty) (l : Ls) : Prop := BT (h.EJ 499 (C + 3) j) (fun k => (lgt l k).isSome) ∧ (∀ k og, l[k]? = some (some og) → h.EJ 515 (C + 4) (40 * j + k) = enc og) ∧ LSo lt l
def TBh (h : AH) (C n : Nat) (lt : List Ty) (tb : Tb) : Prop := tb.length = n ∧ ∀ j, j < n → h.EI 482 (C + 2) j = bI (tat tb j).isSome ∧ ∀ l, tat tb j = some l → TBr h C j lt l
def tbF' : List Nat := [10000 + 482, 10000 + 499, 10000 + 515]
theorem TBh.fr {l : List Nat} {h h' : AH} {C n : Nat} {lt : List Ty} {tb : Tb} (q : Fq (FS l) h h') (hl : tbF'.all (fun f => !l.contains f) = true) (s : TBh h C n lt tb) : TBh h' C n lt tb := by
  have np := FS.no hl
  refine ⟨s.1, fun j hj => ⟨by rw [q.1.EI (np _ _ rfl)]; exact (s.2 j hj).1, fun l' hl' => ?_⟩⟩
  obtain ⟨a, b, c⟩ := (s.2 j hj).2 l' hl'
  exact ⟨by rw [q.1.EJ (np _ _ rfl)]; exact a, fun k og hk => by rw [q.1.EJ (np _ _ rfl)]; exact b k og hk, c⟩
theorem tat_set {tb : Tb} {j : Nat} {v : Option Ls} (hj : j < tb.length) (i : Nat) : tat (tb.set j v) i = if i = j then v else tat tb i := by
  unfold tat
  rw [List.getElem?_set]
  by_cases c : j = i
  · subst c; rw [if_pos rfl, if_pos hj, if_pos rfl]; rfl
  · rw [if_neg c, if_neg (fun z => c z.symm)]
theorem enc_sub {y x : Og} (hy : y.1 < 9223372036854775808) (hx : x.1 < 9223372036854775808) : (enc y &&& (enc x ^^^ (-1))) = 0 ↔ ((y.1 &&& x.1) == y.1 && (!y.2 || x.2)) = true := by
  have eu : un (enc y &&& (enc x ^^^ (-1))) = ogn y &&& (ogn x ^^^ (2 ^ 64 - 1)) := by rw [un_and, un_xor, un_enc hy, un_enc hx]; rfl
  have b63 : ∀ o : Og, o.1 < 9223372036854775808 → ∀ i, (ogn o).testBit i = if i < 63 then o.1.testBit i else (decide (i = 63) && o.2) := fun o ho i => by
    have h63 : ∀ k, 63 ≤ k → o.1.testBit k = false := fun k hk => Nat.testBit_lt_two_pow (Nat.lt_of_lt_of_le ho (show 2 ^ 63 ≤ 2 ^ k from Nat.pow_le_pow_right (by omega) hk))
    unfold ogn
    rw [Nat.testBit_or]
    have e3 : (9223372036854775808 : Nat) = 2 ^ 63 := rfl
    cases o.2 with
    | false =>
      rw [if_neg (by decide), Nat.zero_testBit, Bool.or_false]
      by_cases c : i < 63
      · rw [if_pos c]
      · rw [if_neg c, h63 i (by omega)]; simp
    | true =>
      rw [if_pos rfl, e3, Nat.testBit_two_pow]
      by_cases c : i < 63
      · rw [if_pos c, decide_eq_false (by omega), Bool.or_false]
      · rw [if_neg c, h63 i (by omega), Bool.false_or, Bool.and_true]
        exact decide_eq_decide.mpr ⟨fun z => z.symm, fun z => z.symm⟩
  constructor
  · intro z
    have z0 : ogn y &&& (ogn x ^^^ (2 ^ 64 - 1)) = 0 := by rw [← eu, z]; rfl
    have zb : ∀ i, i < 64 → (ogn y).testBit i = true → (ogn x).testBit i = true := fun i hi hy' => by
      have := congrArg (fun n => Nat.testBit n i) z0
      simp only [Nat.testBit_and, Nat.testBit_xor, Nat.testBit_two_pow_sub_one, Nat.zero_testBit, hy', decide_eq_true hi] at this
      simpa using this
    rw [Bool.and_eq_true]
    constructor
    · have : y.1 &&& x.1 = y.1 := Nat.eq_of_testBit_eq fun i => by
        rw [Nat.testBit_and]
        by_cases c : i < 63
        · have h1 := b63 y hy i
          have h2 := b63 x hx i
          rw [if_pos c] at h1 h2
          cases hh : y.1.testBit i with
          | false => rfl
          | true =>
            have := zb i (by omega) (by rw [h1, hh])
            rw [h2] at this; rw [this]; rfl
        · have : y.1.testBit i = false := Nat.testBit_lt_two_pow (Nat.lt_of_lt_of_le hy (show 2 ^ 63 ≤ 2 ^ i from Nat.pow_le_pow_right (by omega) (by omega)))
          rw [this]; rfl
      simpa using this
    · cases hy2 : y.2 with
      | false => rfl
      | true =>
        have h1 := b63 y hy 63
        have h2 := b63 x hx 63
        rw [if_neg (by omega)] at h1 h2
        have := zb 63 (by omega) (by rw [h1, hy2]; rfl)
        rw [h2] at this
        simpa using this
  · intro z
    rw [Bool.and_eq_true] at z
    obtain ⟨z1, z2⟩ := z
    have z1 : y.1 &&& x.1 = y.1 := by simpa using z1
    refine un_inj ?_
    rw [eu]
    show _ = 0
    refine Nat.eq_of_testBit_eq fun i => ?_
    rw [Nat.testBit_and, Nat.testBit_xor, Nat.testBit_two_pow_sub_one, Nat.zero_testBit, b63 y hy, b63 x hx]
    by_cases c : i < 63
    · rw [if_pos c, if_pos c, decide_eq_true (show i < 64 by omega)]
      have := congrArg (fun n => Nat.testBit n i) z1
      simp only [Nat.testBit_and] at this
      cases h1 : y.1.testBit i with
      | false => rfl
      | true => rw [h1] at this; simp at this; rw [this]; rfl
    · rw [if_neg c, if_neg c]
      by_cases c2 : i = 63
      · rw [decide_eq_true c2, c2]
        cases h1 : y.2 with
        | false => rfl
        | true => rw [h1] at z2; simp at z2; rw [z2]; rfl
      · rw [decide_eq_false c2]; rfl
theorem cdrp_ok {G : Gt} {d : Nat} {h : AH} {K : Outcome → AH → Prop} {C W T F k : Nat} {m : Md} {u : Ux} (hs : CTb h C W T F m u) (hu : gU m u) (h4 : ab4 m) (hk : k < nlo u) (hd : 7 ≤ d) (kk : K (.returned (some (.int (bI (hsA m (tgt (lty u) k) 2))))) h) : MW G d e_X13_isDropped [.ref C, .int (nI k)] h K := by
  refine st_X13_isDropped fun X o hG hD _ => ?_
  subst hG; subst hD
  have t0 := hs.1.1.1
  refine k_X13_isDropped_0 o ?_
  refine cloc_ok hs hu hk (by omega) ?_
  refine k_X13_isDropped_6 o ?_
  refine chas_ok hs h4 (hu.lt hk).ok (by omega) (by omega) ?_
  exact k_X13_isDropped_10 o kk
theorem sith_ok {G : Gt} {d : Nat} {h : AH} {K : Outcome → AH → Prop} {C W j k : Nat} {lt : List Ty} {l : Ls} (hs : SCk h C W) (hl : TBr h C j lt l) (hj : j < 1024) (hk : k < 64) (kk : K (.returned (some (.int (bI (lgt l k).isSome)))) h) : MW G d e_X14_isThere [.ref (C + 1), .int (nI j), .int (nI k)] h K := by
  refine st_X14_isThere fun X o hG hD _ => ?_
  subst hG; subst hD
  have t0 := hs.1.2.2.1
  have t1 := hs.1.2.2.2.2.1
  have t2 := hs.2.2.2.1
  have ix : IX (nI j) 1024 j := IX.mk (by omega) (by omega)
  have hbt := hl.1.at (k := k) hk
  refine k_X14_isThere_0 o (fun c => ?_) (fun c => ?_)
  · rw [hbt] at c
    cases hh : (lgt l k).isSome with
    | true => rw [hh] at c; exact absurd rfl c
    | false =>
      rw [hh] at kk
      refine k_X14_isThere_19 o ?_
      refine k_X14_isThere_20 o ?_
      exact kk
  · rw [hbt] at c
    cases hh : (lgt l k).isSome with
    | false => rw [hh] at c; exact absurd c (by decide)
    | true =>
      rw [hh] at kk
      refine k_X14_isThere_15 o ?_
      refine k_X14_isThere_20 o ?_
      exact kk
theorem cfst_ok {G : Gt} {d : Nat} {h : AH} {K : Outcome → AH → Prop} {C W T F j n : Nat} {m : Md} {u : Ux} {l : Ls} {tb : Tb} (hs : CTb h C W T F m u) (hu : gU m u) (hl : LSh h C (lty u) l) (ht : TBh h C n (lty u) tb) (hn : n ≤ 1024) (hj : j < n) (hd : 1 ≤ d) (kk : ∀ h', Fq (FS tbF') h h' → TBh h' C n (lty u) (tb.set j (some l)) → K (.returned none) h') : MW G d e_X13_first [.ref C, .int (nI j)] h K := by
  refine st_X13_first fun X o hG hD _ => ?_
  subst hG; subst hD
  have hn40 := hu.n
  have t0 := hs.1.1.1
  obtain ⟨⟨a1, a2, a3, a4, a5, a6⟩, ⟨b1, b2, b3, b4, b5, b6, b7⟩, c1, c2, c3, c4, c5, c6, c7, c8, c9⟩ := id hs.1
  have ixj : IX (nI j) 1024 j := IX.mk (by omega) (by omega)
  refine k_X13_first_0 o ?_
  have f1 : Fq (FS tbF') h ((h.sEI 482 (C + 2) j (nI 1)).sEJ 499 (C + 3) j (h.J 1543 C)) := (by refine (Fq.sEJ (Fq.sEI (Fq.refl h) ?_) ?_) <;> exact rfl)
  have w1 : ∀ i, ((h.sEI 482 (C + 2) j (nI 1)).sEJ 499 (C + 3) j (h.J 1543 C)).EI 482 (C + 2) i = if i = j then nI 1 else h.EI 482 (C + 2) i := fun i => by
    by_cases c : i = j
    · subst c; simp [n_sI, z_sI, tag_sI, I_sI, J_sI, R_sI, EI_sI, EJ_sI, ER_sI, n_sJ, z_sJ, tag_sJ, I_sJ, J_sJ, R_sJ, EI_sJ, EJ_sJ, ER_sJ, n_sR, z_sR, tag_sR, I_sR, J_sR, R_sR, EI_sR, EJ_sR, ER_sR, n_sEI, z_sEI, tag_sEI, I_sEI, J_sEI, R_sEI, EI_sEI, EJ_sEI, ER_sEI, n_sEJ, z_sEJ, tag_sEJ, I_sEJ, J_sEJ, R_sEJ, EI_sEJ, EJ_sEJ, ER_sEJ, n_sER, z_sER, tag_sER, I_sER, J_sER, R_sER, EI_sER, EJ_sER, ER_sER, n_nw, z_nw, tag_nw, I_nw, J_nw, R_nw, EI_nw, EJ_nw, ER_nw]
    · simp [n_sI, z_sI, tag_sI, I_sI, J_sI, R_sI, EI_sI, EJ_sI, ER_sI, n_sJ, z_sJ, tag_sJ, I_sJ, J_sJ, R_sJ, EI_sJ, EJ_sJ, ER_sJ, n_sR, z_sR, tag_sR, I_sR, J_sR, R_sR, EI_sR, EJ_sR, ER_sR, n_sEI, z_sEI, tag_sEI, I_sEI, J_sEI, R_sEI, EI_sEI, EJ_sEI, ER_sEI, n_sEJ, z_sEJ, tag_sEJ, I_sEJ, J_sEJ, R_sEJ, EI_sEJ, EJ_sEJ, ER_sEJ, n_sER, z_sER, tag_sER, I_sER, J_sER, R_sER, EI_sER, EJ_sER, ER_sER, n_nw, z_nw, tag_nw, I_nw, J_nw, R_nw, EI_nw, EJ_nw, ER_nw, c]
  have w2 : ∀ i, ((h.sEI 482 (C + 2) j (nI 1)).sEJ 499 (C + 3) j (h.J 1543 C)).EJ 499 (C + 3) i = if i = j then h.J 1543 C else h.EJ 499 (C + 3) i := fun i => by
    by_cases c : i = j
    · subst c; simp [n_sI, z_sI, tag_sI, I_sI, J_sI, R_sI, EI_sI, EJ_sI, ER_sI, n_sJ, z_sJ, tag_sJ, I_sJ, J_sJ, R_sJ, EI_sJ, EJ_sJ, ER_sJ, n_sR, z_sR, tag_sR, I_sR, J_sR, R_sR, EI_sR, EJ_sR, ER_sR, n_sEI, z_sEI, tag_sEI, I_sEI, J_sEI, R_sEI, EI_sEI, EJ_sEI, ER_sEI, n_sEJ, z_sEJ, tag_sEJ, I_sEJ, J_sEJ, R_sEJ, EI_sEJ, EJ_sEJ, ER_sEJ, n_sER, z_sER, tag_sER, I_sER, J_sER, R_sER, EI_sER, EJ_sER, ER_sER, n_nw, z_nw, tag_nw, I_nw, J_nw, R_nw, EI_nw, EJ_nw, ER_nw]
    · simp [n_sI, z_sI, tag_sI, I_sI, J_sI, R_sI, EI_sI, EJ_sI, ER_sI, n_sJ, z_sJ, tag_sJ, I_sJ, J_sJ, R_sJ, EI_sJ, EJ_sJ, ER_sJ, n_sR, z_sR, tag_sR, I_sR, J_sR, R_sR, EI_sR, EJ_sR, ER_sR, n_sEI, z_sEI, tag_sEI, I_sEI, J_sEI, R_sEI, EI_sEI, EJ_sEI, ER_sEI, n_sEJ, z_sEJ, tag_sEJ, I_sEJ, J_sEJ, R_sEJ, EI_sEJ, EJ_sEJ, ER_sEJ, n_sER, z_sER, tag_sER, I_sER, J_sER, R_sER, EI_sER, EJ_sER, ER_sER, n_nw, z_nw, tag_nw, I_nw, J_nw, R_nw, EI_nw, EJ_nw, ER_nw, c]
  have w3 : ∀ i, ((h.sEI 482 (C + 2) j (nI 1)).sEJ 499 (C + 3) j (h.J 1543 C)).EJ 515 (C + 4) i = h.EJ 515 (C + 4) i := fun i => by simp [n_sI, z_sI, tag_sI, I_sI, J_sI, R_sI, EI_sI, EJ_sI, ER_sI, n_sJ, z_sJ, tag_sJ, I_sJ, J_sJ, R_sJ, EI_sJ, EJ_sJ, ER_sJ, n_sR, z_sR, tag_sR, I_sR, J_sR, R_sR, EI_sR, EJ_sR, ER_sR, n_sEI, z_sEI, tag_sEI, I_sEI, J_sEI, R_sEI, EI_sEI, EJ_sEI, ER_sEI, n_sEJ, z_sEJ, tag_sEJ, I_sEJ, J_sEJ, R_sEJ, EI_sEJ, EJ_sEJ, ER_sEJ, n_sER, z_sER, tag_sER, I_sER, J_sER, R_sER, EI_sER, EJ_sER, ER_sER, n_nw, z_nw, tag_nw, I_nw, J_nw, R_nw, EI_nw, EJ_nw, ER_nw]
  generalize (h.sEI 482 (C + 2) j (nI 1)).sEJ 499 (C + 3) j (h.J 1543 C) = h1 at *
  have hll : l.length = nlo u := by rw [hl.2.2.1, lty_len]
  have loop : ∀ k i hx, k + i = nlo u → Fq (FS tbF') h hx → (∀ a, hx.EI 482 (C + 2) a = h1.EI 482 (C + 2) a) → (∀ a, hx.EJ 499 (C + 3) a = h1.EJ 499 (C + 3) a) → (∀ a, hx.EJ 515 (C + 4) a = if 40 * j ≤ a ∧ a < 40 * j + i then h.EJ 419 (C + 7) (a - 40 * j) else h.EJ 515 (C + 4) a) → V X K 25 [.ref C, .int (nI j), .int (nI i)] [] hx := by
    intro k
    induction k with
    | zero =>
      intro i hx hi fx x1 x2 x3
      have hsx : CTb hx C W T F m u := hs.fr fx.1 (FS.no rfl)
      have v0 := hsx.1.1.1
      have v1 := hsx.2.1.2
      have v2 := hsx.2.2.2.1.1
      refine k_X13_first_25 o ?_
      refine clct_ok hsx ?_
      refine k_X13_first_33 o (fun _ => ?_) (fun c => absurd ((nI_leI (by omega) (by omega)).mpr (by omega)) c)
      refine k_X13_first_62 o ?_
      refine kk hx fx ⟨by simp [ht.1], fun i' hi' => ?_⟩
      rw [tat_set (by rw [ht.1]; exact hj)]
      by_cases c : i' = j
      · rw [if_pos c, x1, w1, if_pos c]
        refine ⟨rfl, fun l' hl' => ?_⟩
        cases hl'
        refine ⟨?_, fun q og hq => ?_, hl.2.2⟩
        · rw [x2, w2, if_pos c]; exact hl.1
        · have hq' := get_lt hq
          rw [x3, c, if_pos (by omega), Nat.add_sub_cancel_left]
          exact hl.2.1 q og hq
      · rw [if_neg c, x1, w1, if_neg c]
        refine ⟨(ht.2 i' hi').1, fun l' hl' => ?_⟩
        obtain ⟨z1, z2, z3⟩ := (ht.2 i' hi').2 l' hl'
        refine ⟨by rw [x2, w2, if_neg c]; exact z1, fun q og hq => ?_, z3⟩
        have hq' := get_lt hq
        have : l'.length = nlo u := by rw [z3.1, lty_len]
        rw [x3, if_neg (by omega)]; exact z2 q og hq
    | succ k ih =>
      intro i hx hi fx x1 x2 x3
      have hsx : CTb hx C W T F m u := hs.fr fx.1 (FS.no rfl)
      have v0 := hsx.1.1.1
      have v1 := hsx.2.1.2
      have v2 := hsx.2.2.2.1.1
      obtain ⟨⟨a1, a2, a3, a4, a5, a6⟩, ⟨b1, b2, b3, b4, b5, b6, b7⟩, c1, c2, c3, c4, c5, c6, c7, c8, c9⟩ := id hsx.1
      have ixi : IX (nI i) 40 i := IX.mk (by omega) (by omega)
      have ixo : IX (nI 40 * nI j + nI i) 40960 (40 * j + i) := by rw [nI_mul, nI_add]; exact IX.mk (by omega) (by omega)
      have eo : hx.EJ 419 (C + 7) i = h.EJ 419 (C + 7) i := fx.1.EJ (FS.n rfl) i
      refine k_X13_first_25 o ?_
      refine clct_ok hsx ?_
      refine k_X13_first_33 o (fun c => absurd ((nI_leI (by omega) (by omega)).mp c) (by omega)) (fun _ => ?_)
      refine k_X13_first_36 o ?_
      rw [nI_add]
      refine ih (i + 1) (hx.sEJ 515 (C + 4) (40 * j + i) (h.EJ 419 (C + 7) i)) (by omega) (fx.sEJ rfl) (fun a => by simpa [n_sI, z_sI, tag_sI, I_sI, J_sI, R_sI, EI_sI, EJ_sI, ER_sI, n_sJ, z_sJ, tag_sJ, I_sJ, J_sJ, R_sJ, EI_sJ, EJ_sJ, ER_sJ, n_sR, z_sR, tag_sR, I_sR, J_sR, R_sR, EI_sR, EJ_sR, ER_sR, n_sEI, z_sEI, tag_sEI, I_sEI, J_sEI, R_sEI, EI_sEI, EJ_sEI, ER_sEI, n_sEJ, z_sEJ, tag_sEJ, I_sEJ, J_sEJ, R_sEJ, EI_sEJ, EJ_sEJ, ER_sEJ, n_sER, z_sER, tag_sER, I_sER, J_sER, R_sER, EI_sER, EJ_sER, ER_sER, n_nw, z_nw, tag_nw, I_nw, J_nw, R_nw, EI_nw, EJ_nw, ER_nw] using x1 a) (fun a => by simpa [n_sI, z_sI, tag_sI, I_sI, J_sI, R_sI, EI_sI, EJ_sI, ER_sI, n_sJ, z_sJ, tag_sJ, I_sJ, J_sJ, R_sJ, EI_sJ, EJ_sJ, ER_sJ, n_sR, z_sR, tag_sR, I_sR, J_sR, R_sR, EI_sR, EJ_sR, ER_sR, n_sEI, z_sEI, tag_sEI, I_sEI, J_sEI, R_sEI, EI_sEI, EJ_sEI, ER_sEI, n_sEJ, z_sEJ, tag_sEJ, I_sEJ, J_sEJ, R_sEJ, EI_sEJ, EJ_sEJ, ER_sEJ, n_sER, z_sER, tag_sER, I_sER, J_sER, R_sER, EI_sER, EJ_sER, ER_sER, n_nw, z_nw, tag_nw, I_nw, J_nw, R_nw, EI_nw, EJ_nw, ER_nw] using x2 a) fun a => ?_
      by_cases c : a = 40 * j + i
      · subst c
        rw [if_pos (by omega), Nat.add_sub_cancel_left]; simp [n_sI, z_sI, tag_sI, I_sI, J_sI, R_sI, EI_sI, EJ_sI, ER_sI, n_sJ, z_sJ, tag_sJ, I_sJ, J_sJ, R_sJ, EI_sJ, EJ_sJ, ER_sJ, n_sR, z_sR, tag_sR, I_sR, J_sR, R_sR, EI_sR, EJ_sR, ER_sR, n_sEI, z_sEI, tag_sEI, I_sEI, J_sEI, R_sEI, EI_sEI, EJ_sEI, ER_sEI, n_sEJ, z_sEJ, tag_sEJ, I_sEJ, J_sEJ, R_sEJ, EI_sEJ, EJ_sEJ, ER_sEJ, n_sER, z_sER, tag_sER, I_sER, J_sER, R_sER, EI_sER, EJ_sER, ER_sER, n_nw, z_nw, tag_nw, I_nw, J_nw, R_nw, EI_nw, EJ_nw, ER_nw]
      · have e : (hx.sEJ 515 (C + 4) (40 * j + i) (h.EJ 419 (C + 7) i)).EJ 515 (C + 4) a = hx.EJ 515 (C + 4) a := by simp [n_sI, z_sI, tag_sI, I_sI, J_sI, R_sI, EI_sI, EJ_sI, ER_sI, n_sJ, z_sJ, tag_sJ, I_sJ, J_sJ, R_sJ, EI_sJ, EJ_sJ, ER_sJ, n_sR, z_sR, tag_sR, I_sR, J_sR, R_sR, EI_sR, EJ_sR, ER_sR, n_sEI, z_sEI, tag_sEI, I_sEI, J_sEI, R_sEI, EI_sEI, EJ_sEI, ER_sEI, n_sEJ, z_sEJ, tag_sEJ, I_sEJ, J_sEJ, R_sEJ, EI_sEJ, EJ_sEJ, ER_sEJ, n_sER, z_sER, tag_sER, I_sER, J_sER, R_sER, EI_sER, EJ_sER, ER_sER, n_nw, z_nw, tag_nw, I_nw, J_nw, R_nw, EI_nw, EJ_nw, ER_nw, c]
        rw [e, x3]
        by_cases c2 : 40 * j ≤ a ∧ a < 40 * j + i
        · rw [if_pos c2, if_pos (by omega)]
        · rw [if_neg c2, if_neg (by omega)]
  refine loop (nlo u) 0 h1 (by omega) f1 (fun _ => rfl) (fun _ => rfl) fun a => ?_
  rw [w3, if_neg (by omega)]
theorem cJoin_len {m : Md} : ∀ {lt : List Ty} {a b r : Ls}, a.length = lt.length → b.length = lt.length → cJoin m lt a b = .ok r → r.length = lt.length ∧ ∀ k, lgt r k = jn1 (lgt a k) (lgt b k)
  | [], a, b, r, ha, hb, h => by
    have : a = [] := List.length_eq_zero_iff.mp ha
    subst this
    have : b = [] := List.length_eq_zero_iff.mp hb
    subst this
    cases h
    exact ⟨rfl, fun k => rfl⟩
  | t :: lt, [], b, r, ha, hb, h => by simp at ha
  | t :: lt, x :: a, [], r, ha, hb, h => by simp at hb
  | t :: lt, x :: a, y :: b, r, ha, hb, h => by
    obtain ⟨_, _, h⟩ := eb_ok h
    obtain ⟨r', h2, h⟩ := eb_ok h
    cases h
    obtain ⟨g1, g2⟩ := cJoin_len (by simpa using ha) (by simpa using hb) h2
    refine ⟨by simp [g1], fun k => ?_⟩
    cases k with
    | zero => rfl
    | succ k => exact g2 k
theorem LSo.jn {lt : List Ty} {a b r : Ls} (ha : LSo lt a) (hb : LSo lt b) (hl : r.length = lt.length) (hr : ∀ k, lgt r k = jn1 (lgt a k) (lgt b k)) : LSo lt r := by
  refine ⟨hl, fun k og hk => ?_⟩
  have e := hr k
  have hk' := get_lt hk
  have ea : a[k]? = some (lgt a k) := by unfold lgt; rw [List.getElem?_eq_getElem (by rw [ha.1]; omega)]; rfl
  have eb' : b[k]? = some (lgt b k) := by unfold lgt; rw [List.getElem?_eq_getElem (by rw [hb.1]; omega)]; rfl
  have er : lgt r k = some og := by unfold lgt; rw [hk]; rfl
  rw [er] at e
  cases h1 : lgt a k with
  | none => rw [h1] at e; cases e
  | some x =>
    cases h2 : lgt b k with
    | none => rw [h1, h2] at e; cases e
    | some y =>
      rw [h1, h2] at e
      cases e
      obtain ⟨p1, p2⟩ := ha.2 k x (by rw [ea, h1])
      obtain ⟨q1, q2⟩ := hb.2 k y (by rw [eb', h2])
      refine ⟨or63 p1 q1, fun z => ?_⟩
      rw [p2 z, q2 z]; rfl
theorem cjon_ok {G : Gt} {d : Nat} {h : AH} {K : Outcome → AH → Prop} {C W T F j n : Nat} {m : Md} {u : Ux} {l a : Ls} {tb : Tb} (hs : CTb h C W T F m u) (hu : gU m u) (h4 : ab4 m) (hl : LSh h C (lty u) l) (ht : TBh h C n (lty u) tb) (hn : n ≤ 1024) (hj : j < n) (ha : tat tb j = some a) (hd : 8 ≤ d) (kk : EQ (cJoin m (lty u) a l) (fun r => ∀ h', Fq (FS tbF') h h' → TBh h' C n (lty u) (tb.set j (some r)) → K (.returned none) h') (CE K C W h)) : MW G d e_X13_join [.ref C, .int (nI j)] h K := by
  refine st_X13_join fun X o hG hD _ => ?_
  subst hG; subst hD
  have hn40 := hu.n
  obtain ⟨tr1, tr2, tr3⟩ := (ht.2 j hj).2 a ha
  have hll : l.length = nlo u := by rw [hl.2.2.1, lty_len]
  have hal : a.length = nlo u := by rw [tr3.1, lty_len]
  have hlt : (lty u).length = nlo u := lty_len u
  have ixj : IX (nI j) 1024 j := IX.mk (by omega) (by omega)
  have gl : ∀ {x : Ls} {k : Nat}, x.length = nlo u → k < nlo u → x[k]? = some (lgt x k) := fun {x k} hx hk => by unfold lgt; rw [List.getElem?_eq_getElem (by omega)]; rfl
  have loop : ∀ k i hx, k + i = nlo u → Fq (FS tbF') h hx → (∀ q, hx.EI 482 (C + 2) q = h.EI 482 (C + 2) q) → (∀ q, hx.EJ 499 (C + 3) q = h.EJ 499 (C + 3) q) → (∀ q, hx.EJ 515 (C + 4) q = if 40 * j ≤ q ∧ q < 40 * j + i then h.EJ 515 (C + 4) q ||| h.EJ 419 (C + 7) (q - 40 * j) else h.EJ 515 (C + 4) q) → EQ (cJoin m ((lty u).drop i) (a.drop i) (l.drop i)) (fun r => ∀ h', Fq (FS tbF') h h' → (∀ r', cJoin m (lty u) a l = .ok r' → TBh h' C n (lty u) (tb.set j (some r'))) → K (.returned none) h') (CE K C W h) → V X K 2 [.ref C, .int (nI j), .int (nI i)] [] hx := by
    intro k
    induction k with
    | zero =>
      intro i hx hi fx x1 x2 x3 k1
      have hsx : CTb hx C W T F m u := hs.fr fx.1 (FS.no rfl)
      obtain ⟨⟨a1, a2, a3, a4, a5, a6⟩, ⟨b1, b2, b3, b4, b5, b6, b7⟩, c1, c2, c3, c4, c5, c6, c7, c8, c9⟩ := id hsx.1
      have v1 := hsx.2.1.2
      have v2 := hsx.2.2.2.1.1
      have e0 : cJoin m ((lty u).drop i) (a.drop i) (l.drop i) = .ok [] := by
        rw [List.drop_eq_nil_iff.mpr (by omega)]
        cases a.drop i <;> rfl
      rw [e0] at k1
      have k1 := EQ_k.mp k1
      refine k_X13_join_2 o ?_
      refine clct_ok hsx ?_
      refine k_X13_join_10 o (fun _ => ?_) (fun c => absurd ((nI_leI (by omega) (by omega)).mpr (by omega)) c)
      refine k_X13_join_78 o ?_
      refine k1 (hx.sEJ 499 (C + 3) j (hx.EJ 499 (C + 3) j &&& hx.J 1543 C)) (fx.sEJ rfl) fun r' er' => ?_
      obtain ⟨rl, rj⟩ := cJoin_len tr3.1 hl.2.2.1 er'
      have eth : hx.J 1543 C = h.J 1543 C := fx.1.J (FS.n rfl)
      refine ⟨by simp [ht.1], fun i' hi' => ?_⟩
      rw [tat_set (by rw [ht.1]; exact hj)]
      have ec : (hx.sEJ 499 (C + 3) j (hx.EJ 499 (C + 3) j &&& hx.J 1543 C)).EI 482 (C + 2) i' = h.EI 482 (C + 2) i' := by
        have := x1 i'; simpa [n_sI, z_sI, tag_sI, I_sI, J_sI, R_sI, EI_sI, EJ_sI, ER_sI, n_sJ, z_sJ, tag_sJ, I_sJ, J_sJ, R_sJ, EI_sJ, EJ_sJ, ER_sJ, n_sR, z_sR, tag_sR, I_sR, J_sR, R_sR, EI_sR, EJ_sR, ER_sR, n_sEI, z_sEI, tag_sEI, I_sEI, J_sEI, R_sEI, EI_sEI, EJ_sEI, ER_sEI, n_sEJ, z_sEJ, tag_sEJ, I_sEJ, J_sEJ, R_sEJ, EI_sEJ, EJ_sEJ, ER_sEJ, n_sER, z_sER, tag_sER, I_sER, J_sER, R_sER, EI_sER, EJ_sER, ER_sER, n_nw, z_nw, tag_nw, I_nw, J_nw, R_nw, EI_nw, EJ_nw, ER_nw] using this
      have eor : ∀ q, (hx.sEJ 499 (C + 3) j (hx.EJ 499 (C + 3) j &&& hx.J 1543 C)).EJ 515 (C + 4) q = hx.EJ 515 (C + 4) q := fun q => by simp [n_sI, z_sI, tag_sI, I_sI, J_sI, R_sI, EI_sI, EJ_sI, ER_sI, n_sJ, z_sJ, tag_sJ, I_sJ, J_sJ, R_sJ, EI_sJ, EJ_sJ, ER_sJ, n_sR, z_sR, tag_sR, I_sR, J_sR, R_sR, EI_sR, EJ_sR, ER_sR, n_sEI, z_sEI, tag_sEI, I_sEI, J_sEI, R_sEI, EI_sEI, EJ_sEI, ER_sEI, n_sEJ, z_sEJ, tag_sEJ, I_sEJ, J_sEJ, R_sEJ, EI_sEJ, EJ_sEJ, ER_sEJ, n_sER, z_sER, tag_sER, I_sER, J_sER, R_sER, EI_sER, EJ_sER, ER_sER, n_nw, z_nw, tag_nw, I_nw, J_nw, R_nw, EI_nw, EJ_nw, ER_nw]
      by_cases c : i' = j
      · rw [if_pos c]
        refine ⟨?_, fun l' hl' => ?_⟩
        · rw [ec, (ht.2 i' hi').1, c, ha]; rfl
        · cases hl'
          refine ⟨?_, fun q og hq => ?_, LSo.jn tr3 hl.2.2 rl rj⟩
          · have e : (hx.sEJ 499 (C + 3) j (hx.EJ 499 (C + 3) j &&& hx.J 1543 C)).EJ 499 (C + 3) i' = (h.EJ 499 (C + 3) j &&& h.J 1543 C) := by
              rw [c, x2, eth]; simp [n_sI, z_sI, tag_sI, I_sI, J_sI, R_sI, EI_sI, EJ_sI, ER_sI, n_sJ, z_sJ, tag_sJ, I_sJ, J_sJ, R_sJ, EI_sJ, EJ_sJ, ER_sJ, n_sR, z_sR, tag_sR, I_sR, J_sR, R_sR, EI_sR, EJ_sR, ER_sR, n_sEI, z_sEI, tag_sEI, I_sEI, J_sEI, R_sEI, EI_sEI, EJ_sEI, ER_sEI, n_sEJ, z_sEJ, tag_sEJ, I_sEJ, J_sEJ, R_sEJ, EI_sEJ, EJ_sEJ, ER_sEJ, n_sER, z_sER, tag_sER, I_sER, J_sER, R_sER, EI_sER, EJ_sER, ER_sER, n_nw, z_nw, tag_nw, I_nw, J_nw, R_nw, EI_nw, EJ_nw, ER_nw]
            rw [e]
            intro q
            rw [un_and, Nat.testBit_and, tr1 q, hl.1 q]
            show ((lgt a q).isSome && (lgt l q).isSome) = (lgt r' q).isSome
            rw [rj q]
            cases lgt a q <;> cases lgt l q <;> rfl
          · have hq' := get_lt hq
            have hqn : q < nlo u := by omega
            have er : lgt r' q = some og := by unfold lgt; rw [hq]; rfl
            have e := rj q
            rw [er] at e
            rw [eor, c, x3, if_pos (by omega), Nat.add_sub_cancel_left]
            cases h1 : lgt a q with
            | none => rw [h1] at e; cases e
            | some x =>
              cases h2 : lgt l q with
              | none => rw [h1, h2] at e; cases e
              | some y =>
                rw [h1, h2] at e
                cases e
                rw [tr2 q x (by rw [gl hal hqn, h1]), hl.2.1 q y (by rw [gl hll hqn, h2]), enc_or]
      · rw [if_neg c]
        refine ⟨by rw [ec]; exact (ht.2 i' hi').1, fun l' hl' => ?_⟩
        obtain ⟨z1, z2, z3⟩ := (ht.2 i' hi').2 l' hl'
        refine ⟨?_, fun q og hq => ?_, z3⟩
        · have e : (hx.sEJ 499 (C + 3) j (hx.EJ 499 (C + 3) j &&& hx.J 1543 C)).EJ 499 (C + 3) i' = h.EJ 499 (C + 3) i' := by
            have := x2 i'; simpa [n_sI, z_sI, tag_sI, I_sI, J_sI, R_sI, EI_sI, EJ_sI, ER_sI, n_sJ, z_sJ, tag_sJ, I_sJ, J_sJ, R_sJ, EI_sJ, EJ_sJ, ER_sJ, n_sR, z_sR, tag_sR, I_sR, J_sR, R_sR, EI_sR, EJ_sR, ER_sR, n_sEI, z_sEI, tag_sEI, I_sEI, J_sEI, R_sEI, EI_sEI, EJ_sEI, ER_sEI, n_sEJ, z_sEJ, tag_sEJ, I_sEJ, J_sEJ, R_sEJ, EI_sEJ, EJ_sEJ, ER_sEJ, n_sER, z_sER, tag_sER, I_sER, J_sER, R_sER, EI_sER, EJ_sER, ER_sER, n_nw, z_nw, tag_nw, I_nw, J_nw, R_nw, EI_nw, EJ_nw, ER_nw, c] using this
          rw [e]; exact z1
        · have hq' := get_lt hq
          have : l'.length = nlo u := by rw [z3.1, lty_len]
          rw [eor, x3, if_neg (by omega)]; exact z2 q og hq
    | succ k ih =>
      intro i hx hi fx x1 x2 x3 k1
      have hsx : CTb hx C W T F m u := hs.fr fx.1 (FS.no rfl)
      obtain ⟨⟨a1, a2, a3, a4, a5, a6⟩, ⟨b1, b2, b3, b4, b5, b6, b7⟩, c1, c2, c3, c4, c5, c6, c7, c8, c9⟩ := id hsx.1
      have v1 := hsx.2.1.2
      have v2 := hsx.2.2.2.1.1
      have hi' : i < nlo u := by omega
      have lx : LSh hx C (lty u) l := hl.fr fx rfl
      have ed1 : (lty u).drop i = tgt (lty u) i :: (lty u).drop (i + 1) := by
        rw [List.drop_eq_getElem_cons (by omega)]; unfold tgt; rw [List.getElem?_eq_getElem (by omega)]; rfl
      have ed2 : a.drop i = lgt a i :: a.drop (i + 1) := by
        rw [List.drop_eq_getElem_cons (by omega)]; unfold lgt; rw [List.getElem?_eq_getElem (by omega)]; rfl
      have ed3 : l.drop i = lgt l i :: l.drop (i + 1) := by
        rw [List.drop_eq_getElem_cons (by omega)]; unfold lgt; rw [List.getElem?_eq_getElem (by omega)]; rfl
      rw [ed1, ed2, ed3] at k1
      have k1 := EQ_eb.mp k1
      have ixi : IX (nI i) 40 i := IX.mk (by omega) (by omega)
      have ixo : IX (nI 40 * nI j + nI i) 40960 (40 * j + i) := by rw [nI_mul, nI_add]; exact IX.mk (by omega) (by omega)
      have eo : hx.EJ 419 (C + 7) i = h.EJ 419 (C + 7) i := fx.1.EJ (FS.n rfl) i
      have es : hx.EJ 515 (C + 4) (40 * j + i) = h.EJ 515 (C + 4) (40 * j + i) := by rw [x3, if_neg (by omega)]
      have key : ∀ b, (((lgt a i).isSome == (lgt l i).isSome) || hsA m (tgt (lty u) i) 2) = b → V X K 44 [.ref C, .int (nI j), .int (nI i)] [.int (bI b), .ref C] hx := fun b hb => by
        rw [hb] at k1
        refine k_X13_join_44 o ?_
        refine cneed_ok hsx.1 (by omega) (k1.mono (fun _ _ k2 => ?_) (fun w t => CE.fq fx t rfl))
        show V X K 49 [.ref C, .int (nI j), .int (nI i)] [] hx
        refine k_X13_join_49 o ?_
        rw [nI_add]
        refine ih (i + 1) (hx.sEJ 515 (C + 4) (40 * j + i) (h.EJ 515 (C + 4) (40 * j + i) ||| h.EJ 419 (C + 7) i)) (by omega) (fx.sEJ rfl) (fun q => by simpa [n_sI, z_sI, tag_sI, I_sI, J_sI, R_sI, EI_sI, EJ_sI, ER_sI, n_sJ, z_sJ, tag_sJ, I_sJ, J_sJ, R_sJ, EI_sJ, EJ_sJ, ER_sJ, n_sR, z_sR, tag_sR, I_sR, J_sR, R_sR, EI_sR, EJ_sR, ER_sR, n_sEI, z_sEI, tag_sEI, I_sEI, J_sEI, R_sEI, EI_sEI, EJ_sEI, ER_sEI, n_sEJ, z_sEJ, tag_sEJ, I_sEJ, J_sEJ, R_sEJ, EI_sEJ, EJ_sEJ, ER_sEJ, n_sER, z_sER, tag_sER, I_sER, J_sER, R_sER, EI_sER, EJ_sER, ER_sER, n_nw, z_nw, tag_nw, I_nw, J_nw, R_nw, EI_nw, EJ_nw, ER_nw] using x1 q) (fun q => by simpa [n_sI, z_sI, tag_sI, I_sI, J_sI, R_sI, EI_sI, EJ_sI, ER_sI, n_sJ, z_sJ, tag_sJ, I_sJ, J_sJ, R_sJ, EI_sJ, EJ_sJ, ER_sJ, n_sR, z_sR, tag_sR, I_sR, J_sR, R_sR, EI_sR, EJ_sR, ER_sR, n_sEI, z_sEI, tag_sEI, I_sEI, J_sEI, R_sEI, EI_sEI, EJ_sEI, ER_sEI, n_sEJ, z_sEJ, tag_sEJ, I_sEJ, J_sEJ, R_sEJ, EI_sEJ, EJ_sEJ, ER_sEJ, n_sER, z_sER, tag_sER, I_sER, J_sER, R_sER, EI_sER, EJ_sER, ER_sER, n_nw, z_nw, tag_nw, I_nw, J_nw, R_nw, EI_nw, EJ_nw, ER_nw] using x2 q) (fun q => ?_) ?_
        · by_cases c : q = 40 * j + i
          · subst c
            rw [if_pos (by omega), Nat.add_sub_cancel_left]; simp [n_sI, z_sI, tag_sI, I_sI, J_sI, R_sI, EI_sI, EJ_sI, ER_sI, n_sJ, z_sJ, tag_sJ, I_sJ, J_sJ, R_sJ, EI_sJ, EJ_sJ, ER_sJ, n_sR, z_sR, tag_sR, I_sR, J_sR, R_sR, EI_sR, EJ_sR, ER_sR, n_sEI, z_sEI, tag_sEI, I_sEI, J_sEI, R_sEI, EI_sEI, EJ_sEI, ER_sEI, n_sEJ, z_sEJ, tag_sEJ, I_sEJ, J_sEJ, R_sEJ, EI_sEJ, EJ_sEJ, ER_sEJ, n_sER, z_sER, tag_sER, I_sER, J_sER, R_sER, EI_sER, EJ_sER, ER_sER, n_nw, z_nw, tag_nw, I_nw, J_nw, R_nw, EI_nw, EJ_nw, ER_nw]
          · have e : (hx.sEJ 515 (C + 4) (40 * j + i) (h.EJ 515 (C + 4) (40 * j + i) ||| h.EJ 419 (C + 7) i)).EJ 515 (C + 4) q = hx.EJ 515 (C + 4) q := by simp [n_sI, z_sI, tag_sI, I_sI, J_sI, R_sI, EI_sI, EJ_sI, ER_sI, n_sJ, z_sJ, tag_sJ, I_sJ, J_sJ, R_sJ, EI_sJ, EJ_sJ, ER_sJ, n_sR, z_sR, tag_sR, I_sR, J_sR, R_sR, EI_sR, EJ_sR, ER_sR, n_sEI, z_sEI, tag_sEI, I_sEI, J_sEI, R_sEI, EI_sEI, EJ_sEI, ER_sEI, n_sEJ, z_sEJ, tag_sEJ, I_sEJ, J_sEJ, R_sEJ, EI_sEJ, EJ_sEJ, ER_sEJ, n_sER, z_sER, tag_sER, I_sER, J_sER, R_sER, EI_sER, EJ_sER, ER_sER, n_nw, z_nw, tag_nw, I_nw, J_nw, R_nw, EI_nw, EJ_nw, ER_nw, c]
            rw [e, x3]
            by_cases c2 : 40 * j ≤ q ∧ q < 40 * j + i
            · rw [if_pos c2, if_pos (by omega)]
            · rw [if_neg c2, if_neg (by omega)]
        · exact (EQ_eb.mp k2).mono (fun r _ z => z) (fun _ z => z)
      refine k_X13_join_2 o ?_
      refine clct_ok hsx ?_
      refine k_X13_join_10 o (fun c => absurd ((nI_leI (by omega) (by omega)).mp c) (by omega)) (fun _ => ?_)
      refine k_X13_join_13 o ?_
      refine st_X14_isThere fun X' o' hG' hD' _ => ?_
      have hbt := tr1.at (k := i) (by omega)
      have eth : hx.EJ 499 (C + 3) j = h.EJ 499 (C + 3) j := x2 j
      have going : V X K 23 [.ref C, .int (nI j), .int (nI i)] [.int (bI (lgt a i).isSome), .ref C] hx := by
        refine k_X13_join_23 o ?_
        refine cith_ok hsx.1 lx (by omega) ?_
        refine k_X13_join_28 o (fun c => ?_) (fun c => ?_)
        · have e : ((lgt a i).isSome == (lgt l i).isSome) = true := by
            cases h1 : (lgt a i).isSome <;> cases h2 : (lgt l i).isSome <;> rw [h1, h2] at c <;> first | rfl | exact absurd c (by decide)
          refine k_X13_join_39 o ?_
          exact key true (by rw [e]; rfl)
        · have e : ((lgt a i).isSome == (lgt l i).isSome) = false := by
            cases h1 : (lgt a i).isSome <;> cases h2 : (lgt l i).isSome <;> rw [h1, h2] at c <;> first | rfl | exact absurd rfl c
          refine k_X13_join_31 o ?_
          refine cdrp_ok hsx hu h4 hi' (by omega) ?_
          cases hd2 : hsA m (tgt (lty u) i) 2 with
          | false =>
            refine k_X13_join_36 o (fun _ => ?_) (fun c => absurd rfl c)
            refine k_X13_join_43 o ?_
            exact key false (by rw [e, hd2]; rfl)
          | true =>
            refine k_X13_join_36 o (fun c => absurd (show bI true = 0 from c) (by decide)) (fun _ => ?_)
            refine k_X13_join_39 o ?_
            exact key true (by rw [e, hd2]; rfl)
      refine k_X14_isThere_0 o' (fun c => ?_) (fun c => ?_)
      · rw [hbt] at c
        have e : (lgt a i).isSome = false := by
          cases hh : (lgt a i).isSome with
          | false => rfl
          | true => rw [hh] at c; exact absurd rfl c
        rw [e] at going
        exact k_X14_isThere_19 o' (k_X14_isThere_20 o' going)
      · rw [hbt] at c
        have e : (lgt a i).isSome = true := by
          cases hh : (lgt a i).isSome with
          | true => rfl
          | false => rw [hh] at c; exact absurd c (by decide)
        rw [e] at going
        exact k_X14_isThere_15 o' (k_X14_isThere_20 o' going)
  refine k_X13_join_0 o ?_
  refine loop (nlo u) 0 h (by omega) (Fq.refl h) (fun _ => rfl) (fun _ => rfl) (fun q => by rw [if_neg (by omega)]) ?_
  exact kk.mono (fun r er z h' f' hh => z h' f' (hh r er)) (fun _ z => z)
theorem cbak_ok {G : Gt} {d : Nat} {h : AH} {K : Outcome → AH → Prop} {C W T F j n : Nat} {m : Md} {u : Ux} {l a : Ls} {tb : Tb} (hs : CTb h C W T F m u) (hu : gU m u) (h4 : ab4 m) (hl : LSh h C (lty u) l) (ht : TBh h C n (lty u) tb) (hn : n ≤ 1024) (hj : j < n) (ha : tat tb j = some a) (hd : 8 ≤ d) (kk : EQ (cBack m (lty u) a l) (fun _ => K (.returned none) h) (CE K C W h)) : MW G d e_X13_back [.ref C, .int (nI j)] h K := by
  refine st_X13_back fun X o hG hD _ => ?_
  subst hG; subst hD
  have hn40 := hu.n
  have tr := (ht.2 j hj).2 a ha
  obtain ⟨tr1, tr2, tr3⟩ := id tr
  have hll : l.length = nlo u := by rw [hl.2.2.1, lty_len]
  have hal : a.length = nlo u := by rw [tr3.1, lty_len]
  have hlt : (lty u).length = nlo u := lty_len u
  have gl : ∀ {x : Ls} {k : Nat}, x.length = nlo u → k < nlo u → x[k]? = some (lgt x k) := fun {x k} hx hk => by unfold lgt; rw [List.getElem?_eq_getElem (by omega)]; rfl
  obtain ⟨⟨a1, a2, a3, a4, a5, a6⟩, ⟨b1, b2, b3, b4, b5, b6, b7⟩, c1, c2, c3, c4, c5, c6, c7, c8, c9⟩ := id hs.1
  have v1 := hs.2.1.2
  have v2 := hs.2.2.2.1.1
  have loop : ∀ k i, k + i = nlo u → EQ (cBack m ((lty u).drop i) (a.drop i) (l.drop i)) (fun _ => K (.returned none) h) (CE K C W h) → V X K 2 [.ref C, .int (nI j), .int (nI i)] [] h := by
    intro k
    induction k with
    | zero =>
      intro i hi k1
      have e0 : cBack m ((lty u).drop i) (a.drop i) (l.drop i) = .ok () := by
        rw [List.drop_eq_nil_iff.mpr (by omega)]
        cases a.drop i <;> rfl
      rw [e0] at k1
      refine k_X13_back_2 o ?_
      refine clct_ok hs ?_
      refine k_X13_back_10 o (fun _ => ?_) (fun c => absurd ((nI_leI (by omega) (by omega)).mpr (by omega)) c)
      refine k_X13_back_105 o ?_
      exact k1
    | succ k ih =>
      intro i hi k1
      have hi' : i < nlo u := by omega
      have ed1 : (lty u).drop i = tgt (lty u) i :: (lty u).drop (i + 1) := by
        rw [List.drop_eq_getElem_cons (by omega)]; unfold tgt; rw [List.getElem?_eq_getElem (by omega)]; rfl
      have ed2 : a.drop i = lgt a i :: a.drop (i + 1) := by
        rw [List.drop_eq_getElem_cons (by omega)]; unfold lgt; rw [List.getElem?_eq_getElem (by omega)]; rfl
      have ed3 : l.drop i = lgt l i :: l.drop (i + 1) := by
        rw [List.drop_eq_getElem_cons (by omega)]; unfold lgt; rw [List.getElem?_eq_getElem (by omega)]; rfl
      rw [ed1, ed2, ed3] at k1
      have k1 := EQ_eb.mp k1
      have ixi : IX (nI i) 40 i := IX.mk (by omega) (by omega)
      have ixo : IX (nI 40 * nI j + nI i) 40960 (40 * j + i) := by rw [nI_mul, nI_add]; exact IX.mk (by omega) (by omega)
      have nxt : EQ (cBack m ((lty u).drop (i + 1)) (a.drop (i + 1)) (l.drop (i + 1))) (fun _ => K (.returned none) h) (CE K C W h) → V X K 99 [.ref C, .int (nI j), .int (nI i)] [] h := fun k2 => by
        refine k_X13_back_99 o ?_
        rw [nI_add]
        exact ih (i + 1) (by omega) k2
      refine k_X13_back_2 o ?_
      refine clct_ok hs ?_
      refine k_X13_back_10 o (fun c => absurd ((nI_leI (by omega) (by omega)).mp c) (by omega)) (fun _ => ?_)
      refine k_X13_back_13 o ?_
      refine sith_ok hs.1 tr (by omega) (by omega) ?_
      cases h1 : lgt a i with
      | none =>
        have k1 : EQ (nee (bk1 m (tgt (lty u) i) (lgt a i) (lgt l i)) 9) (fun _ => EQ (cBack m ((lty u).drop (i + 1)) (a.drop (i + 1)) (l.drop (i + 1))) (fun _ => K (.returned none) h) (CE K C W h)) (CE K C W h) := k1
        rw [h1] at k1
        have key : ∀ b, ((lgt l i).isNone || hsA m (tgt (lty u) i) 2) = b → V X K 47 [.ref C, .int (nI j), .int (nI i)] [.int (bI b), .ref C] h := fun b hb => by
          have k1 : EQ (nee ((lgt l i).isNone || hsA m (tgt (lty u) i) 2) 9) _ _ := k1
          rw [hb] at k1
          refine k_X13_back_47 o ?_
          refine cneed_ok hs.1 (by omega) (k1.mono (fun _ _ k2 => ?_) (fun w t => t))
          refine k_X13_back_52 o ?_
          exact nxt k2
        refine k_X13_back_22 o (fun c => absurd rfl c) (fun _ => ?_)
        refine k_X13_back_25 o ?_
        refine cith_ok hs.1 hl (by omega) ?_
        cases h2 : lgt l i with
        | none =>
          refine k_X13_back_31 o (fun _ => ?_) (fun c => absurd rfl c)
          refine k_X13_back_42 o ?_
          exact key true (by rw [h2]; rfl)
        | some y =>
          refine k_X13_back_31 o (fun c => absurd (show bI true = 0 from c) (by decide)) (fun _ => ?_)
          refine k_X13_back_34 o ?_
          refine cdrp_ok hs hu h4 hi' (by omega) ?_
          cases hd2 : hsA m (tgt (lty u) i) 2 with
          | false =>
            refine k_X13_back_39 o (fun _ => ?_) (fun c => absurd rfl c)
            refine k_X13_back_46 o ?_
            exact key false (by rw [h2, hd2]; rfl)
          | true =>
            refine k_X13_back_39 o (fun c => absurd (show bI true = 0 from c) (by decide)) (fun _ => ?_)
            refine k_X13_back_42 o ?_
            exact key true (by rw [h2, hd2]; rfl)
      | some x =>
        have k1 : EQ (nee (bk1 m (tgt (lty u) i) (lgt a i) (lgt l i)) 9) (fun _ => EQ (cBack m ((lty u).drop (i + 1)) (a.drop (i + 1)) (l.drop (i + 1))) (fun _ => K (.returned none) h) (CE K C W h)) (CE K C W h) := k1
        have key : ∀ b, bk1 m (tgt (lty u) i) (lgt a i) (lgt l i) = b → V X K 94 [.ref C, .int (nI j), .int (nI i)] [.int (bI b), .ref C] h := fun b hb => by
          rw [hb] at k1
          refine k_X13_back_94 o ?_
          refine cneed_ok hs.1 (by omega) (k1.mono (fun _ _ k2 => ?_) (fun w t => t))
          exact nxt k2
        refine k_X13_back_22 o (fun _ => ?_) (fun c => absurd (show bI true = 0 from c) (by decide))
        refine k_X13_back_55 o ?_
        refine cith_ok hs.1 hl (by omega) ?_
        cases h2 : lgt l i with
        | none =>
          refine k_X13_back_61 o (fun _ => ?_) (fun c => absurd rfl c)
          refine k_X13_back_93 o ?_
          exact key false (by rw [h1, h2]; rfl)
        | some y =>
          have eo := hl.2.1 i y (by rw [gl hll hi', h2])
          have ex := tr2 i x (by rw [gl hal hi', h1])
          obtain ⟨p1, -⟩ := tr3.2 i x (by rw [gl hal hi', h1])
          obtain ⟨q1, -⟩ := hl.2.2.2 i y (by rw [gl hll hi', h2])
          refine k_X13_back_61 o (fun c => absurd (show bI true = 0 from c) (by decide)) (fun _ => ?_)
          refine k_X13_back_64 o ?_
          refine st_X14_get fun X' o' hG' hD' _ => ?_
          refine k_X14_get_0 o' ?_
          have eb' : bk1 m (tgt (lty u) i) (lgt a i) (lgt l i) = ((y.1 &&& x.1) == y.1 && (!y.2 || x.2)) := by rw [h1, h2]; rfl
          refine k_X13_back_79 o (fun c => ?_) (fun c => ?_)
          · refine k_X13_back_93 o ?_
            refine key false ?_
            rw [eb']
            cases hh : ((y.1 &&& x.1) == y.1 && (!y.2 || x.2)) with
            | false => rfl
            | true => exact absurd ((enc_sub q1 p1).mpr hh) c
          · refine k_X13_back_89 o ?_
            refine key true ?_
            rw [eb']
            exact (enc_sub q1 p1).mp c
  refine k_X13_back_0 o ?_
  exact loop (nlo u) 0 (by omega) kk
