/-! what holds while a transaction goes on: references -/
def Cor (W : Wd) (s : Ms) (A : Nat → Nat → Rx) (MM : Nat → Md) (UU : Nat → Ux) (SS : Nat → Sk) (LL : Nat → Ls) : Prop := (1 ≤ s.1 ∧ s.1 ≤ 32) ∧ EnT W (ens s) ∧
  (∀ j, j < s.1 → frU W (s.2.1 j) (MM j) (UU j) ∧ StT W (sgn s) A j (MM j) (UU j) (s.2.1 j).2.2.2 (SS j) ∧ LcT W (sgn s) A j (MM j) (UU j) (s.2.1 j).2.2.1 (LL j) ∧ (LL j).length = nlo (UU j)) ∧
  ∀ j, j < s.1 → ∀ r ∈ rfF (s.2.1 j), (drf s r).isSome = true
/-- arguments that are references, and those of lower frames -/
def Lkf (s : Ms) (A : Nat → Nat → Rx) (UU : Nat → Ux) (j : Nat) : Prop :=
  (∀ a, a < (UU j).2.1.length → isRf (tgt (lty (UU j)) a) = true → 1 ≤ j ∧ (A j a).1.1 ≤ j) ∧
  (∀ a, a < (UU j).2.1.length → isRf (tgt (lty (UU j)) a) = true → isWr (tgt (lty (UU j)) a) = true → ∀ i, i < j → ∀ q ∈ rfF (s.2.1 i), blw (A j a) q = false) ∧
  (∀ a b, a < (UU j).2.1.length → b < (UU j).2.1.length → a ≠ b → isRf (tgt (lty (UU j)) a) = true → isRf (tgt (lty (UU j)) b) = true → isWr (tgt (lty (UU j)) a) = true → ¬ ((A j a).1 = (A j b).1 ∧ ((A j a).2 <+: (A j b).2 ∨ (A j b).2 <+: (A j a).2))) ∧
  (hsR (UU j).1 = true → (∀ i, i < j → ∀ q ∈ rfF (s.2.1 i), q.1.1 ≠ 0) ∧ ∀ a, a < (UU j).2.1.length → isRf (tgt (lty (UU j)) a) = true → (A j a).1.1 ≠ 0)
theorem blw_t {r q : Rx} : blw r q = true ↔ q.1 = r.1 ∧ r.2 <+: q.2 ∧ r.2 ≠ q.2 := by
  unfold blw
  rw [Bool.and_eq_true, Bool.and_eq_true, List.isPrefixOf_iff_prefix]
  simp
theorem rf_stk {W : Wd} {g : Sg} {A : Nat → Nat → Rx} {j : Nat} {m : Md} {u : Ux} : ∀ {k : List It} {sk : Sk}, StT W g A j m u k sk → ∀ q ∈ k.flatMap rfI, ∃ x ∈ sk, RfT W g A j m u x.1 x.2 q
  | [], [], _, q, hq => by cases hq
  | i :: k, x :: sk, h, q, hq => by
    rw [List.flatMap_cons, List.mem_append] at hq
    rcases hq with z | z
    · cases i with
      | inl v => cases z
      | inr r =>
        have z : q = r := by simpa [rfI] using z
        subst z
        exact ⟨x, by simp, h.1⟩
    · obtain ⟨y, y1, y2⟩ := rf_stk h.2 q z
      exact ⟨y, List.mem_cons_of_mem _ y1, y2⟩
  | [], _ :: _, h, _, _ => h.elim
  | _ :: _, [], h, _, _ => h.elim
theorem rf_lcs {W : Wd} {g : Sg} {A : Nat → Nat → Rx} {j : Nat} {m : Md} {u : Ux} {l : Nat → Option It} {ls : Ls} (h : LcT W g A j m u l ls) : ∀ q ∈ (List.range 40).flatMap (fun k => rfO (l k)), ∃ k og, k < nlo u ∧ lgt ls k = some og ∧ l k = some (.inr q) ∧ RfT W g A j m u (tgt (lty u) k) og q := by
  intro q hq
  obtain ⟨k, -, hk⟩ := List.mem_flatMap.mp hq
  have hl : l k = some (.inr q) := by
    cases hh : l k with
    | none => rw [hh] at hk; cases hk
    | some i =>
      rw [hh] at hk
      cases i with
      | inl v => cases hk
      | inr r =>
        have z : q = r := by simpa [rfO, rfI] using hk
        rw [z]
  have hkn : k < nlo u := by
    rcases Nat.lt_or_ge k (nlo u) with z | z
    · exact z
    · rw [h.2 k z] at hl; cases hl
  have h1 := h.1 k hkn
  cases hh : lgt ls k with
  | none =>
    rw [hh] at h1
    rcases h1 with z | ⟨v, z, -⟩
    · rw [hl] at z; cases z
    · rw [hl] at z; cases z
  | some og =>
    rw [hh] at h1
    obtain ⟨i, z1, z2⟩ := h1
    rw [hl] at z1; cases z1
    exact ⟨k, og, hkn, hh, hl, z2⟩
theorem bit_ne {a b k : Nat} (ha : a.testBit k = true) (hb : b.testBit k = true) : (a &&& b) ≠ 0 := fun z => by
  have := congrArg (fun n => Nat.testBit n k) z
  simp only [Nat.testBit_and, ha, hb, Nat.zero_testBit] at this
  cases this
/-- each living reference of a frame, as the checker notes it -/
theorem rf_any {W : Wd} {g : Sg} {A : Nat → Nat → Rx} {j : Nat} {m : Md} {u : Ux} {k : List It} {sk : Sk} {l : Nat → Option It} {ls : Ls} (h1 : StT W g A j m u k sk) (h2 : LcT W g A j m u l ls) (hl : ls.length = nlo u) {q : Rx} (hq : q ∈ k.flatMap rfI ++ (List.range 40).flatMap fun k => rfO (l k)) : ∃ t og, RfT W g A j m u t og q ∧ ∀ f w, liv (lty u) sk ls f w = false → (og.1 &&& f) ≠ 0 → cnts w t og.2 = false := by
  rcases List.mem_append.mp hq with z | z
  · obtain ⟨x, x1, x2⟩ := rf_stk h1 q z
    refine ⟨x.1, x.2, x2, fun f w hf hn => ?_⟩
    unfold liv at hf
    rw [Bool.or_eq_false_iff] at hf
    have := List.any_eq_false.mp hf.1 x x1
    unfold lv1 at this
    rw [x2.1] at this
    cases hc : cnts w x.1 x.2.2 with
    | false => rfl
    | true => rw [hc] at this; simp [hn] at this
  · obtain ⟨i, og, x1, x2, x3, x4⟩ := rf_lcs h2 q z
    refine ⟨_, og, x4, fun f w hf hn => ?_⟩
    unfold liv at hf
    rw [Bool.or_eq_false_iff] at hf
    have hm : (tgt (lty u) i, some og) ∈ (lty u).zip ls := by
      have hi1 : i < (lty u).length := by rw [lty_len]; exact x1
      have hi2 : i < ls.length := by rw [hl]; exact x1
      rw [List.mem_iff_getElem]
      refine ⟨i, by rw [List.length_zip]; omega, ?_⟩
      rw [List.getElem_zip]
      unfold lgt at x2
      unfold tgt
      rw [List.getElem?_eq_getElem hi1]
      rw [List.getElem?_eq_getElem hi2] at x2
      exact Prod.ext rfl x2
    have := List.any_eq_false.mp hf.2 _ hm
    have : ¬ lv1 f w (tgt (lty u) i) og = true := this
    unfold lv1 at this
    rw [x4.1] at this
    cases hc : cnts w (tgt (lty u) i) og.2 with
    | false => rfl
    | true => rw [hc] at this; simp [hn] at this
theorem pre_or {a b c : List Nat} (h1 : a <+: c) (h2 : b <+: c) : a <+: b ∨ b <+: a := List.prefix_or_prefix_of_prefix h1 h2
theorem pre_eq {a b : List Nat} (h1 : a <+: b) (h2 : b <+: a) : a = b := h1.eq_of_length (Nat.le_antisymm h1.length_le h2.length_le)
/-- where a reference of another frame leads -/
theorem Cor.low {W : Wd} {s : Ms} {A : Nat → Nat → Rx} {MM : Nat → Md} {UU : Nat → Ux} {SS : Nat → Sk} {LL : Nat → Ls} (h : Cor W s A MM UU SS LL) {i : Nat} (hi : i < s.1) {q : Rx} (hq : q ∈ rfF (s.2.1 i)) : q.1.1 ≤ i + 1 := by
  obtain ⟨-, -, h3, -⟩ := h
  obtain ⟨-, a2, a3, a4⟩ := h3 i hi
  obtain ⟨t, og, b1, -⟩ := rf_any a2 a3 a4 hq
  exact b1.2.2.1
theorem tgt_rf {W : Wd} {g : Sg} {j k : Nat} {T : List Nat} {m : Md} {u : Ux} (hf : W (g.2.1 j).1 = some m ∧ m.2.2.2.2.2[(g.2.1 j).2]? = some u) (h : rtT W g (j + 1, k) = some T) : k < nlo u ∧ isRf (tgt (lty u) k) = false ∧ T = rty m (tgt (lty u) k) := by
  unfold rtT at h
  simp only at h
  rw [hf.1] at h
  simp only at h
  rw [hf.2] at h
  simp only at h
  split at h
  · next c => cases h; exact ⟨c.1, c.2, rfl⟩
  · cases h
theorem rfs_m {s : Ms} {q : Rx} : q ∈ rfs s ↔ ∃ j, j < s.1 ∧ q ∈ rfF (s.2.1 j) := by
  unfold rfs
  rw [List.mem_flatMap]
  constructor
  · rintro ⟨j, h1, h2⟩; exact ⟨j, List.mem_range.mp h1, h2⟩
  · rintro ⟨j, h1, h2⟩; exact ⟨j, List.mem_range.mpr h1, h2⟩
/-- nothing alive lies below a reference that may write -/
theorem nlw_of {W : Wd} {s : Ms} {A : Nat → Nat → Rx} {MM : Nat → Md} {UU : Nat → Ux} {SS : Nat → Sk} {LL : Nat → Ls} {t : Nat} (h : Cor W s A MM UU SS LL) (ht : t + 1 = s.1) (hk : Lkf s A UU t) {r : Rx} {ty : Ty} {og : Og} (hr : RfT W (sgn s) A t (MM t) (UU t) ty og r) (hw : isWr ty = true) {k : List It} {sk : Sk} {l : Nat → Option It} {ls : Ls} (h1 : StT W (sgn s) A t (MM t) (UU t) k sk) (h2 : LcT W (sgn s) A t (MM t) (UU t) l ls) (hl : ls.length = nlo (UU t)) (hv : liv (lty (UU t)) sk ls og.1 2 = false) :
    (∀ q ∈ k.flatMap rfI ++ (List.range 40).flatMap (fun k => rfO (l k)), blw r q = false) ∧ ∀ i, i < t → ∀ q ∈ rfF (s.2.1 i), blw r q = false := by
  obtain ⟨k1, k2, k3, k4⟩ := hk
  obtain ⟨r1, r2, r3, r4⟩ := hr
  refine ⟨fun q hq => ?_, fun i hi q hq => ?_⟩
  · cases hb : blw r q with
    | false => rfl
    | true =>
      exfalso
      obtain ⟨b1, b2, b3⟩ := blw_t.mp hb
      obtain ⟨tq, oq, q1, q2⟩ := rf_any h1 h2 hl hq
      have sh : ∀ z, og.1.testBit z = true → oq.1.testBit z = true → oq.2 = false := fun z z1 z2 => by
        have := q2 og.1 2 hv (bit_ne z2 z1)
        unfold cnts at this
        rw [if_neg (by decide), if_neg (by decide), Bool.or_eq_false_iff] at this
        exact this.2
      have r0 : ¬ q.2 = [] := fun z => by
        rw [z] at b2 b3
        exact b3 (List.prefix_nil.mp b2)
      rcases r4 with ⟨x, a1, a2, a3, a4⟩ | ⟨a, a1, a2, a3, a4, a5, a6, a7, a8⟩ | ⟨e, c, p, a1, a2, a3, a4, a5, a6, a7, a8, a9⟩
      · rcases q1.2.2.2 with ⟨y, c1, c2, c3, c4⟩ | ⟨b, c1, c2, c3, c4, c5, c6, c7, c8⟩ | ⟨e, c, p, c1, c2, c3, c4, -⟩
        · have : x = y := by rw [b1, a3] at c3; exact (Prod.mk.inj c3).2
          subst this
          exact r0 (c4 (sh x a2 c2))
        · have := (k1 b c7 c8).2
          rw [b1, a3] at c3
          rw [← c3] at this
          exact absurd this (by simp)
        · rw [b1, a3] at c4; cases c4
      · rcases q1.2.2.2 with ⟨y, c1, c2, c3, c4⟩ | ⟨b, c1, c2, c3, c4, c5, c6, c7, c8⟩ | ⟨e, c, p, c1, c2, c3, c4, -⟩
        · have := (k1 a a7 a8).2
          rw [b1, a3] at c3
          rw [c3] at this
          exact absurd this (by simp)
        · by_cases e : a = b
          · subst e
            have := c5 (sh _ a2 c2)
            rw [this] at b2 b3
            exact b3 (pre_eq b2 a4)
          · refine k3 a b a7 c7 e a8 c8 (a6 hw) ⟨?_, pre_or (a4.trans b2) c4⟩
            rw [← a3, ← c3, b1]
        · refine (k4 c1).2 a a7 a8 ?_
          rw [← a3, ← b1, c4]
      · rcases q1.2.2.2 with ⟨y, c1, c2, c3, c4⟩ | ⟨b, c1, c2, c3, c4, c5, c6, c7, c8⟩ | ⟨e', c', p', c1, c2, c3, c4, c5, c6, c7, c8, c9⟩
        · rw [b1, a4] at c3; cases c3
        · refine (k4 a1).2 b c7 c8 ?_
          rw [← c3, b1, a4]
        · have ee : e = e' := by rw [b1, a4] at c4; exact (Prod.mk.inj c4).2
          subst ee
          rw [a5] at c5
          cases c5
          have : c = c' := by rw [← a8, c8]
          subst this
          exact r0 (c9 (sh _ a2 c2))
  · cases hb : blw r q with
    | false => rfl
    | true =>
      exfalso
      obtain ⟨b1, b2, b3⟩ := blw_t.mp hb
      have ql := h.low (by omega) hq
      rcases r4 with ⟨x, a1, a2, a3, a4⟩ | ⟨a, a1, a2, a3, a4, a5, a6, a7, a8⟩ | ⟨e, c, p, a1, a2, a3, a4, a5, a6, a7, a8, a9⟩
      · rw [b1, a3] at ql
        have ql : t + 1 ≤ i + 1 := ql
        omega
      · have := k2 a a7 a8 (a6 hw) i hi q hq
        have z : blw (A t a) q = true := blw_t.mpr ⟨by rw [b1, a3], a4.trans b2, fun z => b3 (pre_eq b2 (z ▸ a4))⟩
        rw [z] at this; cases this
      · refine (k4 a1).1 i hi q hq ?_
        rw [b1, a4]
/-- no reference to a local that goes -/
theorem nrt_l {W : Wd} {s : Ms} {A : Nat → Nat → Rx} {MM : Nat → Md} {UU : Nat → Ux} {SS : Nat → Sk} {LL : Nat → Ls} {t : Nat} (h : Cor W s A MM UU SS LL) (ht : t + 1 = s.1) (hk : Lkf s A UU t) {x : Nat} (hx : x < 40) {k : List It} {sk : Sk} {l : Nat → Option It} {ls : Ls} (h1 : StT W (sgn s) A t (MM t) (UU t) k sk) (h2 : LcT W (sgn s) A t (MM t) (UU t) l ls) (hl : ls.length = nlo (UU t)) (hv : (isRf (tgt (lty (UU t)) x) || !liv (lty (UU t)) sk ls (2 ^ x) 0) = true) :
    (∀ q ∈ k.flatMap rfI ++ (List.range 40).flatMap (fun k => rfO (l k)), q.1 ≠ (s.1, x)) ∧ ∀ i, i < t → ∀ q ∈ rfF (s.2.1 i), q.1 ≠ (s.1, x) := by
  obtain ⟨k1, -⟩ := hk
  refine ⟨fun q hq e => ?_, fun i hi q hq e => ?_⟩
  · obtain ⟨tq, oq, q1, q2⟩ := rf_any h1 h2 hl hq
    rw [← ht] at e
    obtain ⟨T, g1, g2⟩ := q1.2.1
    rw [e] at g1
    have := tgt_rf (g := sgn s) (j := t) (m := MM t) (u := UU t) (h.2.2.1 t (by omega)).1 g1
    rw [this.2.1, Bool.false_or] at hv
    have hv : liv (lty (UU t)) sk ls (2 ^ x) 0 = false := by simpa using hv
    rcases q1.2.2.2 with ⟨y, c1, c2, c3, c4⟩ | ⟨b, c1, c2, c3, c4, c5, c6, c7, c8⟩ | ⟨e', c, p, c1, c2, c3, c4, -⟩
    · have : x = y := by rw [e] at c3; exact (Prod.mk.inj c3).2
      subst this
      have := q2 _ 0 hv (bit_ne c2 (by rw [Nat.testBit_two_pow]; simp))
      cases this
    · have := (k1 b c7 c8).2
      rw [e] at c3
      rw [← c3] at this
      exact absurd this (by simp)
    · rw [e] at c4; cases c4
  · have := h.low (by omega) hq
    rw [e] at this
    have : s.1 ≤ i + 1 := this
    omega
/-- no reference to a resource that goes -/
theorem nrt_g {W : Wd} {s : Ms} {A : Nat → Nat → Rx} {MM : Nat → Md} {UU : Nat → Ux} {SS : Nat → Sk} {LL : Nat → Ls} {t : Nat} (h : Cor W s A MM UU SS LL) (ht : t + 1 = s.1) (hk : Lkf s A UU t) {e x : Nat} {p : Pc} (hp : (sgn s).1[e]? = some p) (hx : p.2.2 % 256 % 15 = x) (hR : hsR (UU t).1 = true) {k : List It} {sk : Sk} {l : Nat → Option It} {ls : Ls} (h1 : StT W (sgn s) A t (MM t) (UU t) k sk) (h2 : LcT W (sgn s) A t (MM t) (UU t) l ls) (hl : ls.length = nlo (UU t)) (hv : liv (lty (UU t)) sk ls (2 ^ (48 + x)) 0 = false) :
    (∀ q ∈ k.flatMap rfI ++ (List.range 40).flatMap (fun k => rfO (l k)), q.1 ≠ (0, e)) ∧ ∀ i, i < t → ∀ q ∈ rfF (s.2.1 i), q.1 ≠ (0, e) := by
  obtain ⟨k1, k2, k3, k4⟩ := hk
  refine ⟨fun q hq ee => ?_, fun i hi q hq ee => ?_⟩
  · obtain ⟨tq, oq, q1, q2⟩ := rf_any h1 h2 hl hq
    rcases q1.2.2.2 with ⟨y, c1, c2, c3, c4⟩ | ⟨b, c1, c2, c3, c4, c5, c6, c7, c8⟩ | ⟨e', c, p', c1, c2, c3, c4, c5, c6, c7, c8, c9⟩
    · rw [ee] at c3; cases c3
    · refine (k4 hR).2 b c7 c8 ?_
      rw [← c3, ee]
    · have : e = e' := by rw [ee] at c4; exact (Prod.mk.inj c4).2
      subst this
      rw [hp] at c5
      cases c5
      rw [hx] at c8
      subst c8
      have := q2 _ 0 hv (bit_ne c2 (by rw [Nat.testBit_two_pow]; simp))
      cases this
  · refine (k4 hR).1 i hi q hq ?_
    rw [ee]
