/-! what holds while a transaction goes on: operations on values -/
theorem rtv_F {s : Ms} {f : Fm} (h : f.2.2.1 = (tpf s).2.2.1) (r : Nat × Nat) : rtv (sF s f) r = rtv s r := by
  obtain ⟨a, k⟩ := r
  cases a with
  | zero => rfl
  | succ j =>
    show (match (uF s.2.1 (s.1 - 1) f j).2.2.1 k with | some (.inl v) => some v | _ => none) = (match (s.2.1 j).2.2.1 k with | some (.inl v) => some v | _ => none)
    by_cases c : j = s.1 - 1
    · rw [c, uF_s, h]; rfl
    · rw [uF_n c]
theorem drf_F {s : Ms} {f : Fm} (h : f.2.2.1 = (tpf s).2.2.1) (r : Rx) : drf (sF s f) r = drf s r := by
  unfold drf; rw [rtv_F h]
def OpG (W : Wd) (s : Ms) (A : Nat → Nat → Rx) (MM : Nat → Md) (UU : Nat → Ux) (SS : Nat → Sk) (LL : Nat → Ls) (t : Nat) (d : Cs) (s1 : Ms) : Prop := s1.1 = s.1 ∧ Cor W s1 A MM UU (uS SS t d.1) (uS LL t d.2) ∧ sgs s.1 (sgn s) (sgn s1) ∧ (∀ j, j < s.1 → (s1.2.1 j).2.1 = (s.2.1 j).2.1) ∧ ∀ j, j < t → rfF (s1.2.1 j) = rfF (s.2.1 j)
section
variable {W : Wd} {s : Ms} {A : Nat → Nat → Rx} {MM : Nat → Md} {UU : Nat → Ux} {SS : Nat → Sk} {LL : Nat → Ls} {t : Nat}
theorem tpt (ht : t + 1 = s.1) : tpf s = s.2.1 t := by unfold tpf; rw [← ht]; rfl
theorem OpG.top (h : Cor W s A MM UU SS LL) (ht : t + 1 = s.1) {f : Fm} {sk : Sk} {ls : Ls} (hf : f.1 = (s.2.1 t).1 ∧ f.2.1 = (s.2.1 t).2.1) (h1 : StT W (sgn s) A t (MM t) (UU t) f.2.2.2 sk) (h2 : LcT W (sgn s) A t (MM t) (UU t) f.2.2.1 ls) (hl : ls.length = nlo (UU t)) (h3 : ∀ q ∈ rfF f, (drf (sF s f) q).isSome = true) (h4 : ∀ j, j < t → ∀ q ∈ rfF (s.2.1 j), (drf (sF s f) q).isSome = true) : OpG W s A MM UU SS LL t (sk, ls) (sF s f) := by
  obtain ⟨c1, c2, c3, c4⟩ := id h
  have et : s.1 - 1 = t := by omega
  have eg : sgn (sF s f) = sgn s := sgn_F (by rw [tpt ht]; exact hf.1)
  have fr : ∀ j, (sF s f).2.1 j = if j = t then f else s.2.1 j := fun j => by
    show uF s.2.1 (s.1 - 1) f j = _
    rw [et]; rfl
  refine ⟨rfl, ⟨c1, c2, fun j hj => ?_, fun j hj q hq => ?_⟩, by rw [eg]; exact sgs.refl _, fun j hj => ?_, fun j hj => ?_⟩
  · rw [eg, fr]
    by_cases c : j = t
    · subst c
      rw [if_pos rfl, uS_s, uS_s]
      refine ⟨?_, h1, h2, hl⟩
      unfold frU
      rw [hf.1]; exact (c3 j hj).1
    · rw [if_neg c, uS_n c, uS_n c]; exact c3 j hj
  · rw [fr] at hq
    by_cases c : j = t
    · rw [if_pos c] at hq
      exact h3 q hq
    · rw [if_neg c] at hq
      have hj : j < s.1 := hj
      exact h4 j (by omega) q hq
  · rw [fr]
    by_cases c : j = t
    · rw [if_pos c, c]; exact hf.2
    · rw [if_neg c]
  · rw [fr, if_neg (by omega)]
theorem Cor.tp (h : Cor W s A MM UU SS LL) (ht : t + 1 = s.1) : frU W (s.2.1 t) (MM t) (UU t) ∧ StT W (sgn s) A t (MM t) (UU t) (stk s) (SS t) ∧ LcT W (sgn s) A t (MM t) (UU t) (lcs s) (LL t) ∧ (LL t).length = nlo (UU t) := by
  have := h.2.2.1 t (by omega)
  unfold stk lcs
  rw [tpt ht]; exact this
/-- the stack becomes another one -/
theorem OpG.sk (h : Cor W s A MM UU SS LL) (ht : t + 1 = s.1) {k : List It} {sk : Sk} (h1 : StT W (sgn s) A t (MM t) (UU t) k sk) (h3 : ∀ q ∈ k.flatMap rfI, (drf s q).isSome = true) : OpG W s A MM UU SS LL t (sk, LL t) (sK s k) := by
  have h2 := h.tp ht
  have e0 := tpt ht
  have hd : ∀ q, drf (sK s k) q = drf s q := fun q => drf_F (s := s) (f := ((tpf s).1, (tpf s).2.1, (tpf s).2.2.1, k)) rfl q
  refine OpG.top h ht ⟨by rw [e0], by rw [e0]⟩ h1 h2.2.2.1 h2.2.2.2 (fun q hq => ?_) (fun j hj q hq => ?_)
  · show (drf (sK s k) q).isSome = true
    rw [hd]
    rcases List.mem_append.mp hq with z | z
    · exact h3 q z
    · refine h.2.2.2 t (by omega) q (List.mem_append_right _ ?_)
      rw [← e0]; exact z
  · show (drf (sK s k) q).isSome = true
    rw [hd]
    exact h.2.2.2 j (by omega) q hq
theorem Cor.vs (h : Cor W s A MM UU SS LL) (ht : t + 1 = s.1) : ∀ q ∈ (stk s).flatMap rfI, (drf s q).isSome = true := fun q hq => by
  refine h.2.2.2 t (by omega) q (List.mem_append_left _ ?_)
  unfold stk at hq
  rw [tpt ht] at hq; exact hq
end
theorem StT.inv {W : Wd} {g : Sg} {A : Nat → Nat → Rx} {j : Nat} {m : Md} {u : Ux} {k : List It} {x : Ty × Og} {sk : Sk} (h : StT W g A j m u k (x :: sk)) : ∃ i k', k = i :: k' ∧ ItT W g A j m u x i ∧ StT W g A j m u k' sk := by
  cases k with
  | nil => exact h.elim
  | cons i k => exact ⟨i, k, rfl, h.1, h.2⟩
theorem ItT.v {W : Wd} {g : Sg} {A : Nat → Nat → Rx} {j : Nat} {m : Md} {u : Ux} {x : Ty × Og} {i : It} (h : ItT W g A j m u x i) (hr : isRf x.1 = false) : ∃ v, i = .inl v ∧ VT W (rty m x.1) v := by
  cases i with
  | inl v => exact ⟨v, rfl, h.2⟩
  | inr r => have := (h : RfT W g A j m u x.1 x.2 r).1; rw [hr] at this; cases this
theorem ItT.r {W : Wd} {g : Sg} {A : Nat → Nat → Rx} {j : Nat} {m : Md} {u : Ux} {x : Ty × Og} {i : It} (h : ItT W g A j m u x i) (hr : isRf x.1 = true) : ∃ r, i = .inr r ∧ RfT W g A j m u x.1 x.2 r := by
  cases i with
  | inl v => have := h.1; rw [hr] at this; cases this
  | inr r => exact ⟨r, rfl, h⟩
theorem tk_i {s : Sk} {r : (Ty × Og) × Sk} (h : tk s = .ok r) : s = r.1 :: r.2 := by
  cases s with
  | nil => cases h
  | cons x s => cases h; rfl
theorem nee_i {b : Bool} {w : Nat} {v : Unit} (h : nee b w = .ok v) : b = true := by
  cases b with
  | true => rfl
  | false => cases h
theorem tkT_i {t : Ty} {s : Sk} {r : (Ty × Og) × Sk} (h : tkT t s = .ok r) : s = r.1 :: r.2 ∧ r.1.1 = t := by
  obtain ⟨q, h1, h2⟩ := eb_ok h
  obtain ⟨_, h3, h4⟩ := eb_ok h2
  cases h4
  exact ⟨tk_i h1, by simpa using nee_i h3⟩
theorem tkN_i {s : Sk} {r : (Ty × Og) × Sk} (h : tkN s = .ok r) : s = r.1 :: r.2 ∧ isNu r.1.1 = true := by
  obtain ⟨q, h1, h2⟩ := eb_ok h
  obtain ⟨_, h3, h4⟩ := eb_ok h2
  cases h4
  exact ⟨tk_i h1, nee_i h3⟩
theorem tkR_i {t : Ty} {w : Bool} {s : Sk} {r : (Ty × Og) × Sk} (h : tkR t w s = .ok r) : s = r.1 :: r.2 ∧ isRf r.1.1 = true ∧ r.1.1.tail = t ∧ (w = true → isWr r.1.1 = true) := by
  obtain ⟨q, h1, h2⟩ := eb_ok h
  obtain ⟨_, h3, h4⟩ := eb_ok h2
  obtain ⟨_, h5, h6⟩ := eb_ok h4
  cases h6
  have h3 := nee_i h3
  rw [Bool.and_eq_true] at h3
  refine ⟨tk_i h1, h3.1, by simpa using h3.2, fun hw => ?_⟩
  have := nee_i h5
  rw [hw] at this; simpa using this
theorem pt_i {t : Ty} {o : Og} {s s' : Sk} (h : pt t o s = .ok s') : s' = (t, o) :: s := by
  obtain ⟨_, _, h⟩ := eb_ok h
  cases h; rfl
theorem VT_b {W : Wd} {b : Nat} {v : VL} (h : VT W [b] v) : v = (b, v.2.1, .leaf) ∧ rng b v.2.1 ∧ 1 ≤ b ∧ b ≤ 5 := by
  obtain ⟨⟨h1, h2, h3, h4⟩, h5⟩ := h
  refine ⟨?_, h4, h3⟩
  obtain ⟨k, x, c⟩ := v
  have h1 : k = b := h1
  subst h1
  have h5 : FT W c [] := h5
  cases c with
  | leaf => rfl
  | inner _ _ _ _ _ => exact h5.elim
theorem VT_p {W : Wd} {b : Nat} {x : Int64 × Int64} (h1 : 1 ≤ b) (h2 : b ≤ 5) (h3 : rng b x) : VT W [b] (b, x, .leaf) := ⟨⟨rfl, rfl, ⟨h1, h2⟩, h3⟩, rfl⟩
theorem rty_b {m : Md} {b : Nat} (h : b ≠ 6) : rty m [b] = [b] := by rw [rty_c h]; rfl
theorem isNu_i {t : Ty} (h : isNu t = true) : ∃ b, t = [b] ∧ 2 ≤ b ∧ b ≤ 4 := by
  unfold isNu at h
  rw [Bool.or_eq_true, Bool.or_eq_true] at h
  rcases h with (h | h) | h
  · exact ⟨2, by simpa using h, by omega, by omega⟩
  · exact ⟨3, by simpa using h, by omega, by omega⟩
  · exact ⟨4, by simpa using h, by omega, by omega⟩
theorem isRf_b {b : Nat} (h : b ≤ 7) : isRf [b] = false := by
  unfold isRf
  simp
  omega
section
variable {W : Wd} {s : Ms} {A : Nat → Nat → Rx} {MM : Nat → Md} {UU : Nat → Ux} {SS : Nat → Sk} {LL : Nat → Ls} {t : Nat}
/-- a value comes -/
theorem OpG.pushV (h : Cor W s A MM UU SS LL) (ht : t + 1 = s.1) {k : List It} {sk : Sk} {ty : Ty} {og : Og} {v : VL} (h1 : StT W (sgn s) A t (MM t) (UU t) k sk) (hr : isRf ty = false) (hv : VT W (rty (MM t) ty) v) (h3 : ∀ q ∈ k.flatMap rfI, (drf s q).isSome = true) : OpG W s A MM UU SS LL t ((ty, og) :: sk, LL t) (sK s (.inl v :: k)) :=
  OpG.sk h ht ⟨⟨hr, hv⟩, h1⟩ h3
/-- a number comes -/
theorem OpG.pushN (h : Cor W s A MM UU SS LL) (ht : t + 1 = s.1) {k : List It} {sk : Sk} {b : Nat} {og : Og} {x y : Int64} (h1 : StT W (sgn s) A t (MM t) (UU t) k sk) (hb : 1 ≤ b ∧ b ≤ 5) (hx : rng b (x, y)) (h3 : ∀ q ∈ k.flatMap rfI, (drf s q).isSome = true) : OpG W s A MM UU SS LL t (([b], og) :: sk, LL t) (sK s (vI b x y :: k)) :=
  OpG.pushV h ht h1 (isRf_b (by omega)) (by rw [rty_b (by omega)]; exact VT_p hb.1 hb.2 hx) h3
end
theorem rng_t (b : Bool) : rng 1 (0, if b then 1 else 0) := ⟨Or.inr rfl, fun _ => by cases b <;> simp, fun z => by cases z⟩
theorem rng_z {b : Nat} {y : Int64} (h : b = 3 ∨ b = 5) : rng b (0, y) := ⟨Or.inr rfl, fun z => by omega, fun z => by omega⟩
theorem vt_fl {k : List It} {i : It} {q : Rx} (h : q ∈ k.flatMap rfI) : q ∈ (i :: k).flatMap rfI := by
  rw [List.flatMap_cons]; exact List.mem_append_right _ h
