/-! what holds while a transaction goes on: numbers -/
theorem un_z {x : Int64} (h : un x = 0) : x = 0 := un_inj (by rw [h]; rfl)
theorem rkb_rng {b : Nat} {r : Option Nat} {x : Int64 × Int64} (hb : 2 ≤ b ∧ b ≤ 4) (h : rkb (mbits b) r = some x) : rng b x := by
  unfold rkb at h
  cases r with
  | none => cases h
  | some n =>
    simp only [Option.bind_some] at h
    split at h
    · next c =>
      cases h
      refine ⟨?_, fun z => by omega, fun z => ?_⟩
      · by_cases e : b = 4
        · exact Or.inl e
        · refine Or.inr ?_
          have : n < 18446744073709551616 := by
            rcases (show b = 2 ∨ b = 3 by omega) with z | z
            · subst z; have c : n < 2 ^ 8 := c; omega
            · subst z; exact c
          show lN (n / 18446744073709551616) = 0
          rw [Nat.div_eq_of_lt this]; rfl
      · subst z
        have c : n < 2 ^ 8 := c
        show un (lN (n % 18446744073709551616)) < 256
        rw [un_l (by omega)]
        omega
    · cases h
theorem w128_rng {b : Nat} {x : Int64 × Int64} (hb : 2 ≤ b ∧ b ≤ 4) (h : w128 x.1 x.2 < 2 ^ mbits b) : rng b x := by
  unfold w128 at h
  refine ⟨?_, fun z => by omega, fun z => ?_⟩
  · by_cases e : b = 4
    · exact Or.inl e
    · refine Or.inr (un_z ?_)
      rcases (show b = 2 ∨ b = 3 by omega) with z | z
      · subst z; have h : un x.1 * 18446744073709551616 + un x.2 < 2 ^ 8 := h; omega
      · subst z; have h : un x.1 * 18446744073709551616 + un x.2 < 2 ^ 64 := h; omega
  · subst z
    have h : un x.1 * 18446744073709551616 + un x.2 < 2 ^ 8 := h
    omega
theorem hdk_h {T : List Nat} {k n : Nat} {x : Int64 × Int64} (h : hdk T k x n) : k = T.headD 0 := by
  unfold hdk at h
  split at h
  · exact h.1
  · exact h.1
  · exact h.1
  · exact h.elim
theorem hdk_k {T : List Nat} {k k' n n' : Nat} {x x' : Int64 × Int64} (h : hdk T k x n) (h' : hdk T k' x' n') : k = k' := by rw [hdk_h h, hdk_h h']
theorem rng_and {b : Nat} {x y : Int64 × Int64} (hx : rng b x) (hy : rng b y) : rng b (x.1 &&& y.1, x.2 &&& y.2) := by
  refine ⟨?_, fun z => ?_, fun z => ?_⟩
  · rcases hx.1 with z | z
    · exact Or.inl z
    · rcases hy.1 with z2 | z2
      · exact Or.inl z2
      · refine Or.inr ?_
        show x.1 &&& y.1 = 0
        rw [z, z2]; rfl
  · rcases hx.2.1 z with a | a <;> rcases hy.2.1 z with c | c <;> (show x.2 &&& y.2 = 0 ∨ x.2 &&& y.2 = 1) <;> rw [a, c] <;> decide
  · show un (x.2 &&& y.2) < 256
    rw [un_and]
    exact Nat.lt_of_le_of_lt Nat.and_le_left (hx.2.2 z)
theorem rng_or {b : Nat} {x y : Int64 × Int64} (hx : rng b x) (hy : rng b y) : rng b (x.1 ||| y.1, x.2 ||| y.2) := by
  refine ⟨?_, fun z => ?_, fun z => ?_⟩
  · rcases hx.1 with z | z
    · exact Or.inl z
    · rcases hy.1 with z2 | z2
      · exact Or.inl z2
      · refine Or.inr ?_
        show x.1 ||| y.1 = 0
        rw [z, z2]; rfl
  · rcases hx.2.1 z with a | a <;> rcases hy.2.1 z with c | c <;> (show x.2 ||| y.2 = 0 ∨ x.2 ||| y.2 = 1) <;> rw [a, c] <;> decide
  · show un (x.2 ||| y.2) < 256
    rw [un_or]
    exact Nat.or_lt_two_pow (n := 8) (hx.2.2 z) (hy.2.2 z)
theorem rng_xor {b : Nat} {x y : Int64 × Int64} (hx : rng b x) (hy : rng b y) : rng b (x.1 ^^^ y.1, x.2 ^^^ y.2) := by
  refine ⟨?_, fun z => ?_, fun z => ?_⟩
  · rcases hx.1 with z | z
    · exact Or.inl z
    · rcases hy.1 with z2 | z2
      · exact Or.inl z2
      · refine Or.inr ?_
        show x.1 ^^^ y.1 = 0
        rw [z, z2]; rfl
  · rcases hx.2.1 z with a | a <;> rcases hy.2.1 z with c | c <;> (show x.2 ^^^ y.2 = 0 ∨ x.2 ^^^ y.2 = 1) <;> rw [a, c] <;> decide
  · show un (x.2 ^^^ y.2) < 256
    rw [un_xor]
    exact Nat.xor_lt_two_pow (n := 8) (hx.2.2 z) (hy.2.2 z)
theorem rng_sh {o b n : Nat} {x : Int64 × Int64} (hb : 2 ≤ b ∧ b ≤ 4) : rng b (msh o b n x) := by
  refine ⟨?_, fun z => by omega, fun z => ?_⟩
  · by_cases e : b = 4
    · exact Or.inl e
    · refine Or.inr ?_
      unfold msh wcutH
      simp only
      rw [if_neg e]
  · unfold msh wcutL
    simp only
    rw [if_pos z, un_and]
    exact Nat.lt_of_le_of_lt Nat.and_le_right (by decide)
section
variable {W : Wd} {s : Ms} {A : Nat → Nat → Rx} {MM : Nat → Md} {UU : Nat → Ux} {SS : Nat → Sk} {LL : Nat → Ls} {t : Nat}
/-- two numbers of a type on top -/
theorem two_n (h : Cor W s A MM UU SS LL) (ht : t + 1 = s.1) {x y : Ty × Og} {sk : Sk} {b : Nat} (hs : SS t = x :: y :: sk) (hx : x.1 = [b]) (hy : y.1 = [b]) (hb : 1 ≤ b ∧ b ≤ 5) : ∃ v w k, stk s = .inl (b, v, .leaf) :: .inl (b, w, .leaf) :: k ∧ rng b v ∧ rng b w ∧ StT W (sgn s) A t (MM t) (UU t) k sk ∧ ∀ q ∈ k.flatMap rfI, (drf s q).isSome = true := by
  obtain ⟨-, h1, -, -⟩ := h.tp ht
  have hv := h.vs ht
  rw [hs] at h1
  obtain ⟨i, k1, e1, e2, e3⟩ := h1.inv
  obtain ⟨i', k2, e4, e5, e6⟩ := e3.inv
  have r0 := isRf_b (b := b) (by omega)
  obtain ⟨v, rfl, v2⟩ := e2.v (by rw [hx]; exact r0)
  obtain ⟨w, rfl, w2⟩ := e5.v (by rw [hy]; exact r0)
  rw [hx, rty_b (by omega)] at v2
  rw [hy, rty_b (by omega)] at w2
  obtain ⟨v3, v4, -⟩ := VT_b v2
  obtain ⟨w3, w4, -⟩ := VT_b w2
  subst e4
  refine ⟨v.2.1, w.2.1, k2, ?_, v4, w4, e6, fun q hq => hv q ?_⟩
  · rw [e1, ← v3, ← w3]
  · rw [e1]; exact vt_fl (vt_fl hq)
/-- one number on top -/
theorem one_n (h : Cor W s A MM UU SS LL) (ht : t + 1 = s.1) {x : Ty × Og} {sk : Sk} {b : Nat} (hs : SS t = x :: sk) (hx : x.1 = [b]) (hb : 1 ≤ b ∧ b ≤ 5) : ∃ v k, stk s = .inl (b, v, .leaf) :: k ∧ rng b v ∧ StT W (sgn s) A t (MM t) (UU t) k sk ∧ ∀ q ∈ k.flatMap rfI, (drf s q).isSome = true := by
  obtain ⟨-, h1, -, -⟩ := h.tp ht
  have hv := h.vs ht
  rw [hs] at h1
  obtain ⟨i, k1, e1, e2, e3⟩ := h1.inv
  have r0 := isRf_b (b := b) (by omega)
  obtain ⟨v, rfl, v2⟩ := e2.v (by rw [hx]; exact r0)
  rw [hx, rty_b (by omega)] at v2
  obtain ⟨v3, v4, -⟩ := VT_b v2
  refine ⟨v.2.1, k1, ?_, v4, e3, fun q hq => hv q ?_⟩
  · rw [e1, ← v3]
  · rw [e1]; exact vt_fl hq
theorem oNum_g (h : Cor W s A MM UU SS LL) (ht : t + 1 = s.1) {lim o : Nat} {d : Cs} (ho : 24 ≤ o ∧ o < 45) (hc : cNum (MM t) o (SS t, LL t) = .ok d) : Okr W (oNum lim o s) (OpG W s A MM UU SS LL t d) := by
  unfold cNum at hc
  have he := h.2.1
  by_cases c35 : o = 35
  · subst c35
    rw [if_neg (by omega), if_neg (by omega), if_neg (by omega), if_neg (by omega), if_neg (by omega), if_neg (by omega)] at hc
    cases hc
    unfold oNum
    rw [if_pos rfl]
    have e := OpG.sk h ht (h.tp ht).2.1 (h.vs ht)
    have e2 : sK s (stk s) = s := by
      refine Prod.ext rfl (Prod.ext (funext fun j => ?_) rfl)
      show uF s.2.1 (s.1 - 1) _ j = s.2.1 j
      by_cases c : j = s.1 - 1
      · rw [c, uF_s]; rfl
      · rw [uF_n c]
    rw [e2] at e
    exact e
  by_cases c34 : o = 34
  · subst c34
    rw [if_neg (by omega), if_neg (by omega), if_pos rfl] at hc
    obtain ⟨r, h1, hc⟩ := eb_ok hc
    obtain ⟨s', h2, hc⟩ := eb_ok hc
    cases hc
    obtain ⟨e1, e2⟩ := tkT_i h1
    have := pt_i h2
    subst this
    obtain ⟨v, k, k1, k2, k3, k4⟩ := one_n h ht e1 e2 (by omega)
    unfold oNum
    rw [if_neg (by omega), if_pos rfl, k1]
    refine Okr.re rfl ?_
    refine OpG.pushN h ht k3 (by omega) ⟨k2.1, fun z => ?_, fun z => by omega⟩ k4
    rcases k2.2.1 rfl with z | z
    · right; show v.2 ^^^ 1 = 1; rw [z]; rfl
    · left; show v.2 ^^^ 1 = 0; rw [z]; rfl
  by_cases c41 : 41 < o
  · rw [if_neg (by omega), if_neg (by omega), if_neg (by omega), if_pos c41] at hc
    obtain ⟨r, h1, hc⟩ := eb_ok hc
    obtain ⟨s', h2, hc⟩ := eb_ok hc
    cases hc
    obtain ⟨e1, e2⟩ := tkN_i h1
    have := pt_i h2
    subst this
    obtain ⟨b, b1, b2⟩ := isNu_i e2
    obtain ⟨v, k, k1, k2, k3, k4⟩ := one_n h ht e1 b1 (by omega)
    unfold oNum
    rw [if_neg (by omega), if_neg (by omega), if_pos c41, k1]
    refine Okr.re (decide_eq_true b2) (Okr.nd he fun c => ?_)
    exact OpG.pushN h ht k3 (by omega) (w128_rng (x := (v.1, v.2)) (by omega) (of_decide_eq_true c)) k4
  unfold oNum
  rw [if_neg c35, if_neg c34, if_neg c41]
  by_cases c32 : o < 32
  · rw [if_pos c32] at hc
    obtain ⟨r, h1, hc⟩ := eb_ok hc
    obtain ⟨_, h2, hc⟩ := eb_ok hc
    obtain ⟨q, h3, hc⟩ := eb_ok hc
    obtain ⟨s', h4, hc⟩ := eb_ok hc
    cases hc
    have e1 := tk_i h1
    obtain ⟨e2, e3⟩ := tkT_i h3
    have := pt_i h4
    subst this
    have h2 := nee_i h2
    obtain ⟨b, b1, b2⟩ : ∃ b, r.1.1 = [b] ∧ ((2 ≤ b ∧ b ≤ 4) ∨ (28 < o ∧ b = 1)) := by
      rw [Bool.or_eq_true] at h2
      rcases h2 with z | z
      · obtain ⟨b, b1, b2⟩ := isNu_i z
        exact ⟨b, b1, Or.inl b2⟩
      · rw [Bool.and_eq_true] at z
        exact ⟨1, by simpa using z.2, Or.inr ⟨by simpa using z.1, rfl⟩⟩
    obtain ⟨v, w, k, k1, k2, k3, k4, k5⟩ := two_n h ht (by rw [← e2]; exact e1) b1 (by rw [e3, b1]) (by omega)
    rw [k1, b1]
    simp only
    by_cases c29 : o < 29
    · rw [if_pos c29]
      refine Okr.re ?_ ?_
      · rw [Bool.and_eq_true]; exact ⟨by simp, decide_eq_true (by omega)⟩
      · cases hr : rkb (mbits b) (rkn o w.1 w.2 v.1 v.2) with
        | none => exact he
        | some x => exact OpG.pushN h ht k4 (by omega) (rkb_rng (by omega) hr) k5
    · rw [if_neg c29, if_pos c32]
      refine Okr.re ?_ ?_
      · rw [Bool.and_eq_true]; exact ⟨by simp, decide_eq_true (by omega)⟩
      · refine OpG.pushN h ht k4 (by omega) ?_ k5
        by_cases z : o = 29
        · rw [if_pos z, if_pos z]; exact rng_and k3 k2
        · rw [if_neg z, if_neg z]
          by_cases z2 : o = 30
          · rw [if_pos z2, if_pos z2]; exact rng_or k3 k2
          · rw [if_neg z2, if_neg z2]; exact rng_xor k3 k2
  rw [if_neg c32] at hc
  by_cases c34' : o < 34
  · rw [if_pos c34'] at hc
    obtain ⟨r, h1, hc⟩ := eb_ok hc
    obtain ⟨q, h3, hc⟩ := eb_ok hc
    obtain ⟨s', h4, hc⟩ := eb_ok hc
    cases hc
    obtain ⟨e1, e2⟩ := tkT_i h1
    obtain ⟨e3, e4⟩ := tkN_i h3
    have := pt_i h4
    subst this
    obtain ⟨b, b1, b2⟩ := isNu_i e4
    obtain ⟨-, g1, -, -⟩ := h.tp ht
    have hv := h.vs ht
    have e0 : SS t = r.1 :: q.1 :: q.2 := by rw [← e3]; exact e1
    rw [e0] at g1
    obtain ⟨i, k1, f1, f2, f3⟩ := g1.inv
    obtain ⟨i', k2, f4, f5, f6⟩ := f3.inv
    obtain ⟨v, rfl, v2⟩ := f2.v (by rw [e2]; rfl)
    obtain ⟨w, rfl, w2⟩ := f5.v (by rw [b1]; exact isRf_b (by omega))
    rw [e2, rty_b (by omega)] at v2
    rw [b1, rty_b (by omega)] at w2
    obtain ⟨v3, v4, -⟩ := VT_b v2
    obtain ⟨w3, w4, -⟩ := VT_b w2
    have hw1 : w.1 = b := by rw [w3]
    have hv1 : v.1 = 2 := by rw [v3]
    subst f4
    rw [f1]
    simp only
    rw [if_neg (by omega), if_neg c32, if_pos c34', hw1, b1]
    refine Okr.re ?_ (Okr.nd he fun c => ?_)
    · rw [hv1, Bool.and_eq_true]; exact ⟨rfl, decide_eq_true (by omega)⟩
    · refine OpG.pushV h ht f6 (isRf_b (by omega)) ?_ fun q hq => hv q (by rw [f1]; exact vt_fl (vt_fl hq))
      rw [rty_b (by omega)]
      exact VT_p (by omega) (by omega) (rng_sh (by omega))
  rw [if_neg c34', if_neg c34, if_neg c41] at hc
  by_cases c37 : 37 < o
  · rw [if_pos c37] at hc
    obtain ⟨r, h1, hc⟩ := eb_ok hc
    obtain ⟨q, h3, hc⟩ := eb_ok hc
    obtain ⟨s', h4, hc⟩ := eb_ok hc
    cases hc
    obtain ⟨e1, e2⟩ := tkN_i h1
    obtain ⟨e3, e4⟩ := tkT_i h3
    have := pt_i h4
    subst this
    obtain ⟨b, b1, b2⟩ := isNu_i e2
    obtain ⟨v, w, k, k1, k2, k3, k4, k5⟩ := two_n h ht (by rw [← e3]; exact e1) b1 (by rw [e4, b1]) (by omega)
    rw [k1]
    simp only
    rw [if_neg (by omega), if_neg c32, if_neg c34', if_neg (by omega)]
    refine Okr.re ?_ (OpG.pushN h ht k4 (by omega) (rng_t _) k5)
    rw [Bool.and_eq_true]; exact ⟨by simp, decide_eq_true (by omega)⟩
  · rw [if_neg c37, if_pos (by omega)] at hc
    obtain ⟨r, h1, hc⟩ := eb_ok hc
    obtain ⟨_, h2, hc⟩ := eb_ok hc
    obtain ⟨q, h3, hc⟩ := eb_ok hc
    obtain ⟨_, h5, hc⟩ := eb_ok hc
    obtain ⟨s', h4, hc⟩ := eb_ok hc
    cases hc
    have e1 := tk_i h1
    obtain ⟨e3, e4⟩ := tkT_i h3
    have := pt_i h4
    subst this
    have hnr : isRf r.1.1 = false := by simpa using nee_i h2
    obtain ⟨-, g1, -, -⟩ := h.tp ht
    have hv := h.vs ht
    have e0 : SS t = r.1 :: q.1 :: q.2 := by rw [← e3]; exact e1
    rw [e0] at g1
    obtain ⟨i, k1, f1, f2, f3⟩ := g1.inv
    obtain ⟨i', k2, f4, f5, f6⟩ := f3.inv
    obtain ⟨v, rfl, v2⟩ := f2.v hnr
    obtain ⟨w, rfl, w2⟩ := f5.v (by rw [e4]; exact hnr)
    rw [e4] at w2
    subst f4
    rw [f1]
    simp only
    rw [if_neg (by omega), if_neg c32, if_neg c34', if_pos (by omega)]
    refine Okr.re (by rw [hdk_k w2.1 v2.1]; simp) (Okr.pay he fun g => ?_)
    exact OpG.pushN (s := sG s g) h ht f6 (by omega) (rng_t _) fun q hq => hv q (by rw [f1]; exact vt_fl (vt_fl hq))
end
