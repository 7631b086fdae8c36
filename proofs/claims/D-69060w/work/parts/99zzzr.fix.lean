/-! depths: the sweeps come to rest -/
def acy (m : Md) : Prop := ∀ k, k < m.2.1.length → wsh (edg m) m.2.1.length k k = false
theorem rnf_n {m : Md} : ∀ {j k : Nat}, rnf m j k = none → ∀ i, k ≤ i → i < k + j → wsh (edg m) m.2.1.length i i = false
  | 0, _, _, i, h1, h2 => by omega
  | j + 1, k, h, i, h1, h2 => by
    have h : (ife (!wsh (edg m) m.2.1.length k k) 14 (spl m k)).or (rnf m j (k + 1)) = none := h
    rw [Option.or_eq_none_iff] at h
    by_cases e : i = k
    · rw [e]
      have h := h.1
      cases hw : wsh (edg m) m.2.1.length k k with
      | false => rfl
      | true =>
        rw [hw] at h
        simp [ife] at h
    · exact rnf_n h.2 i (by omega) (by omega)
theorem rdi_acy {n : Nat} {B : Nat → Nat} {m : Md} (h : rdi n B = .ok m) : acy m := by
  unfold rdi at h
  split at h
  · cases h
  · rename_i x hx
    cases ho : (bds x.1).or (rond x.1) with
    | some e => rw [ho] at h; cases h
    | none =>
      rw [ho] at h
      have h : x.1 = m := by injection h
      rw [Option.or_eq_none_iff, h] at ho
      exact fun k hk => rnf_n ho.2 k (Nat.zero_le _) (by omega)
/-- how many structures a structure reaches -/
def rnk (m : Md) (k : Nat) : Nat := ((List.range m.2.1.length).filter fun j => wsh (edg m) m.2.1.length k j).length
theorem flt_lt {p q : Nat → Bool} : ∀ {l : List Nat} {a : Nat}, a ∈ l → (∀ x, p x = true → q x = true) → p a = false → q a = true → (l.filter p).length < (l.filter q).length
  | [], _, ha, _, _, _ => by simp at ha
  | b :: l, a, ha, hpq, h1, h2 => by
    have le : ∀ l : List Nat, (l.filter p).length ≤ (l.filter q).length := fun l => by
      induction l with
      | nil => exact Nat.le_refl _
      | cons c l ih =>
        rw [List.filter_cons, List.filter_cons]
        by_cases c1 : p c = true
        · rw [if_pos c1, if_pos (hpq c c1), List.length_cons, List.length_cons]; omega
        · rw [if_neg c1]
          split
          · rw [List.length_cons]; omega
          · exact ih
    rw [List.filter_cons, List.filter_cons]
    rcases List.mem_cons.mp ha with e | e
    · rw [← e, if_neg (by rw [h1]; decide), if_pos h2, List.length_cons]
      have := le l
      omega
    · have ih := flt_lt e hpq h1 h2
      by_cases c1 : p b = true
      · rw [if_pos c1, if_pos (hpq b c1), List.length_cons, List.length_cons]; omega
      · rw [if_neg c1]
        split
        · rw [List.length_cons]; omega
        · exact ih
section
variable {m : Md}
theorem rnk_e (a : acy m) {k j : Nat} (h : edg m k j = true) : rnk m j < rnk m k := by
  have jl := edg_lt h
  have he : ∀ a b, edg m a b = true → b < m.2.1.length := fun a b => edg_lt
  refine flt_lt (a := j) (List.mem_range.mpr jl) (fun x hx => wsh_tr m.2.1.length jl ((wsh_iff he).mpr (.single h)) hx) (a j jl) ((wsh_iff he).mpr (.single h))
theorem rnk_n (a : acy m) {k : Nat} (hk : k < m.2.1.length) : rnk m k < m.2.1.length := by
  have := flt_lt (p := fun j => wsh (edg m) m.2.1.length k j) (q := fun _ => true) (List.mem_range.mpr hk) (fun _ _ => rfl) (a k hk) rfl
  have e : ((List.range m.2.1.length).filter fun _ => true).length = m.2.1.length := by rw [List.filter_eq_self.mpr (fun _ _ => rfl), List.length_range]
  rw [e] at this
  exact this
theorem dpm_c {dp dq : Nat → Nat} : ∀ {l : TL} (a : Nat), (∀ x ∈ l, ∀ k, sidx x.1 = some k → dp k = dq k) → l.foldl (fun a x => max a (dtp dp x.1)) a = l.foldl (fun a x => max a (dtp dq x.1)) a
  | [], _, _ => rfl
  | x :: l, a, h => by
    have e : dtp dp x.1 = dtp dq x.1 := by
      unfold dtp
      cases hs : sidx x.1 with
      | none => rfl
      | some k => simp only [h x (List.mem_cons_self ..) k hs]
    rw [List.foldl_cons, List.foldl_cons, e]
    exact dpm_c _ fun y hy => h y (List.mem_cons_of_mem _ hy)
/-- depths as they are in the end -/
def tvF (m : Md) (dp : Nat → Nat) : Nat → Nat → Nat
  | 0, k => dz m dp k
  | r + 1, k => match m.2.1[k]? with
    | some s => dpm (tvF m dp r) s.2.2 + 1
    | none => dz m dp k
theorem tvF_o {dp : Nat → Nat} {k : Nat} (hk : m.2.1[k]? = none) : ∀ r, tvF m dp r k = dz m dp k
  | 0 => rfl
  | r + 1 => by
    show (match m.2.1[k]? with | some s => dpm (tvF m dp r) s.2.2 + 1 | none => dz m dp k) = _
    rw [hk]
theorem tvF_s (a : acy m) {dp : Nat → Nat} : ∀ (n r r' k : Nat), rnk m k < n → n ≤ r → n ≤ r' → tvF m dp r k = tvF m dp r' k
  | 0, _, _, _, h, _, _ => absurd h (Nat.not_lt_zero _)
  | n + 1, r, r', k, h, h1, h2 => by
    cases hs : m.2.1[k]? with
    | none => rw [tvF_o hs, tvF_o hs]
    | some s =>
      obtain ⟨q, rfl⟩ : ∃ q, r = q + 1 := ⟨r - 1, by omega⟩
      obtain ⟨q', rfl⟩ : ∃ q', r' = q' + 1 := ⟨r' - 1, by omega⟩
      show (match m.2.1[k]? with | some s => dpm (tvF m dp q) s.2.2 + 1 | none => dz m dp k) = (match m.2.1[k]? with | some s => dpm (tvF m dp q') s.2.2 + 1 | none => dz m dp k)
      rw [hs]
      show dpm (tvF m dp q) s.2.2 + 1 = dpm (tvF m dp q') s.2.2 + 1
      unfold dpm
      rw [dpm_c 0 fun x hx j hj => ?_]
      by_cases jl : j < m.2.1.length
      · have e : edg m k j = true := by
          unfold edg
          rw [hs]
          show (decide (j < m.2.1.length) && s.2.2.any fun x => sidx x.1 == some j) = true
          rw [decide_eq_true jl, Bool.true_and, List.any_eq_true]
          exact ⟨x, hx, by rw [hj]; simp⟩
        exact tvF_s a n q q' j (by have := rnk_e a e; omega) (by omega) (by omega)
      · have : m.2.1[j]? = none := List.getElem?_eq_none_iff.mpr (by omega)
        rw [tvF_o this, tvF_o this]
end
