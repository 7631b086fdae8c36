/-! the component's checker: its shape, and what it holds -/
def SCk (h : AH) (C W : Nat) : Prop :=
  (h.tag C = some (12, 0) ∧ h.R 1536 C = some (C + 1) ∧ h.tag (C + 1) = some (13, 0) ∧ h.R 1664 (C + 1) = some (C + 2) ∧ h.R 1665 (C + 1) = some (C + 3) ∧ h.R 1666 (C + 1) = some (C + 4)) ∧
  (h.R 1540 C = some (C + 5) ∧ h.R 1541 C = some (C + 6) ∧ h.R 1544 C = some (C + 7) ∧ h.R 1547 C = some (C + 8) ∧ h.R 1548 C = some (C + 9) ∧ h.R 1549 C = some (C + 10) ∧ h.R 1550 C = some W) ∧
  (h.tag (C + 2) = some (482, 1024) ∧ h.tag (C + 3) = some (499, 1024) ∧ h.tag (C + 4) = some (515, 40960) ∧ h.tag (C + 5) = some (387, 64) ∧ h.tag (C + 6) = some (403, 64) ∧ h.tag (C + 7) = some (419, 40) ∧ h.tag (C + 8) = some (435, 8) ∧ h.tag (C + 9) = some (451, 8) ∧ h.tag (C + 10) = some (466, 1024))
def scF : List Nat := [1536, 1664, 1665, 1666, 1540, 1541, 1544, 1547, 1548, 1549, 1550]
theorem SCk.fr {P : Nat → Nat → Prop} {h h' : AH} {C W : Nat} (q : Fr P h h') (np : ∀ f a, scF.contains f = true → ¬ P f a) (s : SCk h C W) : SCk h' C W := by
  obtain ⟨⟨a1, a2, a3, a4, a5, a6⟩, ⟨b1, b2, b3, b4, b5, b6, b7⟩, c1, c2, c3, c4, c5, c6, c7, c8, c9⟩ := s
  refine ⟨⟨q.tag a1, ?_, q.tag a3, ?_, ?_, ?_⟩, ⟨?_, ?_, ?_, ?_, ?_, ?_, ?_⟩, q.tag c1, q.tag c2, q.tag c3, q.tag c4, q.tag c5, q.tag c6, q.tag c7, q.tag c8, q.tag c9⟩
  · rw [q.R (np _ _ rfl)]; exact a2
  · rw [q.R (np _ _ rfl)]; exact a4
  · rw [q.R (np _ _ rfl)]; exact a5
  · rw [q.R (np _ _ rfl)]; exact a6
  · rw [q.R (np _ _ rfl)]; exact b1
  · rw [q.R (np _ _ rfl)]; exact b2
  · rw [q.R (np _ _ rfl)]; exact b3
  · rw [q.R (np _ _ rfl)]; exact b4
  · rw [q.R (np _ _ rfl)]; exact b5
  · rw [q.R (np _ _ rfl)]; exact b6
  · rw [q.R (np _ _ rfl)]; exact b7
/-- origins as a long -/
def ogn (o : Og) : Nat := o.1 ||| if o.2 then 9223372036854775808 else 0
def enc (o : Og) : Int64 := lN (ogn o)
theorem ogn_lt {o : Og} (h : o.1 < 9223372036854775808) : ogn o < 18446744073709551616 := by
  unfold ogn
  have e : 18446744073709551616 = 2 ^ 64 := rfl
  rw [e]
  refine Nat.or_lt_two_pow (by omega) ?_
  split <;> omega
theorem un_enc {o : Og} (h : o.1 < 9223372036854775808) : un (enc o) = ogn o := un_l (ogn_lt h)
theorem ogn_m {o : Og} (h : o.1 < 9223372036854775808) : ogn o % 9223372036854775808 = o.1 := by
  unfold ogn
  have e : (9223372036854775808 : Nat) = 2 ^ 63 := rfl
  rw [e, Nat.or_mod_two_pow, ← e, Nat.mod_eq_of_lt h]
  cases o.2 <;> simp
theorem ogn_ge {o : Og} (h : o.1 < 9223372036854775808) : 9223372036854775808 ≤ ogn o ↔ o.2 = true := by
  have e : (9223372036854775808 : Nat) = 2 ^ 63 := rfl
  cases ho : o.2 with
  | true =>
    refine ⟨fun _ => rfl, fun _ => ?_⟩
    unfold ogn; rw [ho]
    exact Nat.right_le_or
  | false =>
    refine ⟨fun z => ?_, fun z => by cases z⟩
    unfold ogn at z; rw [ho] at z
    simp at z; omega
theorem enc_neg {o : Og} (h : o.1 < 9223372036854775808) : enc o < 0 ↔ o.2 = true := by rw [un_neg, un_enc h, ogn_ge h]
/-- meets -/
theorem enc_and {o : Og} {x : Int64} {f : Nat} (h : o.1 < 9223372036854775808) (hx : un x % 9223372036854775808 = f) : ((enc o &&& x) &&& (9223372036854775807 : Int64)) = 0 ↔ (o.1 &&& f) = 0 := by
  have e : un ((enc o &&& x) &&& (9223372036854775807 : Int64)) = o.1 &&& f := by
    have e3 : (9223372036854775808 : Nat) = 2 ^ 63 := rfl
    rw [un_and, un_and, show un (9223372036854775807 : Int64) = 2 ^ 63 - 1 from rfl, Nat.and_two_pow_sub_one_eq_mod, Nat.and_mod_two_pow, ← e3, un_enc h, ogn_m h, hx]
  constructor
  · intro z
    have := congrArg un z
    rw [e] at this
    exact this
  · intro z
    exact un_inj (by rw [e, z]; rfl)
theorem enc_in (o : Og) : (enc o ||| (-9223372036854775808 : Int64)) = enc (o.1, true) := un_inj (by
  rw [un_or]
  unfold enc
  rw [un_lm, un_lm, show un (-9223372036854775808 : Int64) = 2 ^ 63 from rfl]
  have e : (18446744073709551616 : Nat) = 2 ^ 64 := rfl
  have e63 : (2 : Nat) ^ 63 = 2 ^ 63 % 2 ^ 64 := rfl
  rw [e, e63, ← Nat.or_mod_two_pow]
  unfold ogn
  cases o.2 <;> simp [Nat.or_assoc])
theorem enc_or (a b : Og) : (enc a ||| enc b) = enc (a.1 ||| b.1, a.2 || b.2) := un_inj (by
  rw [un_or]
  unfold enc
  rw [un_lm, un_lm, un_lm]
  have e : (18446744073709551616 : Nat) = 2 ^ 64 := rfl
  rw [e, ← Nat.or_mod_two_pow]
  congr 1
  refine Nat.eq_of_testBit_eq fun i => ?_
  unfold ogn
  simp only [Nat.testBit_or]
  cases a.2 <;> cases b.2 <;> simp only [if_true, if_false, Bool.or_true, Bool.or_false, Bool.false_or, Bool.true_or, Nat.zero_testBit, Bool.false_eq_true] <;> cases Nat.testBit a.1 i <;> cases Nat.testBit b.1 i <;> cases Nat.testBit 9223372036854775808 i <;> rfl)
theorem enc_0 : enc (0, false) = 0 := rfl
/-- a type that values have -/
def tOK (m : Md) (t : Ty) : Prop := tby t ∧ ((bas t = true ∧ nve t ≤ 5) ∨ ∃ b r, t = b :: r ∧ (b = 8 ∨ b = 9) ∧ bas r = true ∧ nve r ≤ 4) ∧ ∀ k, sidx t = some k → k < nst m
def SKo (m : Md) (s : Sk) : Prop := s.length ≤ 64 ∧ ∀ x ∈ s, tOK m x.1 ∧ x.2.1 < 9223372036854775808 ∧ (isRf x.1 = false → x.2 = (0, false))
def SKr (h : AH) (C : Nat) : Sk → Prop
  | [] => True
  | x :: s => (h.EJ 387 (C + 5) s.length = lN (tyc x.1) ∧ h.EJ 403 (C + 6) s.length = enc x.2) ∧ SKr h C s
/-- the stack at hand -/
def SKh (h : AH) (C : Nat) (m : Md) (s : Sk) : Prop := h.I 1542 C = nI s.length ∧ SKr h C s ∧ SKo m s
def LSo (lt : List Ty) (l : Ls) : Prop := l.length = lt.length ∧ ∀ k og, l[k]? = some (some og) → og.1 < 9223372036854775808 ∧ (isRf (tgt lt k) = false → og = (0, false))
/-- locals at hand -/
def LSh (h : AH) (C : Nat) (lt : List Ty) (l : Ls) : Prop := BT (h.J 1543 C) (fun k => (lgt l k).isSome) ∧ (∀ k og, l[k]? = some (some og) → h.EJ 419 (C + 7) k = enc og) ∧ LSo lt l
/-- tables and the function at hand -/
def CTb (h : AH) (C W T F : Nat) (m : Md) (u : Ux) : Prop :=
  SCk h C W ∧ (h.R 1537 C = some T ∧ h.R 1538 C = some F) ∧ (STb h T ∧ TY h T (mts m) ∧ CO h T (mcs m) ∧ MX h T (mts m) (mcs m) m) ∧
  (h.tag F = some (7, 0) ∧ h.R 897 F = some (F + 1) ∧ h.R 898 F = some (F + 2) ∧ h.R 899 F = some (F + 3) ∧ h.tag (F + 1) = some (4, 0) ∧ h.tag (F + 2) = some (4, 0) ∧ h.tag (F + 3) = some (4, 0)) ∧ UX h F (mts m) (mcs m) u
def tfF : List Nat := [897, 898, 899]
theorem CTb.fr {P : Nat → Nat → Prop} {h h' : AH} {C W T F : Nat} {m : Md} {u : Ux} (q : Fr P h h') (np : ∀ f a, (scF ++ [1537, 1538] ++ stF ++ tcF ++ tbF).contains f = true → ¬ P f a) (s : CTb h C W T F m u) : CTb h' C W T F m u := by
  have np' : ∀ l : List Nat, l.all (fun f => (scF ++ [1537, 1538] ++ stF ++ tcF ++ tbF).contains f) = true → ∀ f a, l.contains f = true → ¬ P f a := fun l hl f a hf => np f a (by
    rw [List.all_eq_true] at hl
    exact hl f (List.contains_iff_mem.mp hf))
  obtain ⟨s1, ⟨s2, s3⟩, ⟨s4, s5, s6, s7⟩, ⟨s8, s9, s10, s11, s12, s13, s14⟩, s15⟩ := s
  exact ⟨s1.fr q (np' scF rfl), ⟨by rw [q.R (np _ _ rfl)]; exact s2, by rw [q.R (np _ _ rfl)]; exact s3⟩,
    ⟨s4.fr q (np' stF rfl), s5.fr q (np _ _ rfl) (np _ _ rfl) (np _ _ rfl), s6.fr q (np _ _ rfl) (np _ _ rfl) (np _ _ rfl) (np _ _ rfl) (np _ _ rfl), s7.fr q fun f a hf _ _ => np' tbF rfl f a hf⟩,
    ⟨q.tag s8, by rw [q.R (np _ _ rfl)]; exact s9, by rw [q.R (np _ _ rfl)]; exact s10, by rw [q.R (np _ _ rfl)]; exact s11, q.tag s12, q.tag s13, q.tag s14⟩, s15.fr q fun f a hf _ _ => np' tbF rfl f a hf⟩
