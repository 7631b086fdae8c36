/-! a worker of the component's: its topmost frame; locals -/
def PTF (F g a : Nat) : Prop := (fmF.contains g = true ∧ F ≤ a ∧ a < F + 3) ∨ VQ g a
theorem PTF.ip {W j : Nat} (hj : j < 32) : ∀ g a, PTF (Fa W j) g a → IP W g a := fun g a h => by
  rcases h with h | h
  · refine Or.inr (Or.inl ⟨?_, ?_, ?_⟩)
    · rw [List.contains_iff_mem]
      exact List.mem_append_left _ (List.mem_append_left _ (List.contains_iff_mem.mp h.1))
    · have := h.2.1; unfold Fa at this; omega
    · have := h.2.2; unfold Fa at this; omega
  · exact Or.inl h
theorem PH.pt {F : Nat} : ∀ g a, PH F g a → PTF F g a := fun g a h => Or.inl ⟨by rcases h.1 with z | z <;> (rw [z]; rfl), h.2.1, h.2.2⟩
theorem VQ.pt {F : Nat} : ∀ g a, VQ g a → PTF F g a := fun g a h => Or.inr h
theorem PTF.no {F : Nat} {l : List Nat} (h : l.all (fun f => !((3712 ≤ f && f ≤ 3718) || f == 1280 || fmF.contains f)) = true) : ∀ f a, l.contains f = true → ¬ PTF F f a := fun f a hf z => by
  rw [List.all_eq_true] at h
  have := h f (List.contains_iff_mem.mp hf)
  simp only [Bool.not_eq_true', Bool.or_eq_false_iff, Bool.and_eq_false_iff] at this
  obtain ⟨⟨t1, t2⟩, t3⟩ := this
  rcases z with z | z | z
  · rw [z.1] at t3; cases t3
  · rcases t1 with t | t
    · exact absurd z.1 (by simpa using t)
    · exact absurd z.2 (by simpa using t)
  · rw [z] at t2; simp at t2
section
variable {h : AH} {o : Lc} {wi W A q BA X tt lim SP t : Nat} {snd : Int64} {MA : Ma} {s : Ms}
/-- the topmost frame becomes another one -/
theorem WkR.top {h' : AH} {o' : Lc} {f' : Fm} (w : WkR h o wi W MA s) (ht : t + 1 = s.1) (f1 : Fr (PTF (Fa W t)) h h') (hs : ∀ p : Sl, p.1 = 3 ∨ ((p.1 = 1 ∨ p.1 = 2) ∧ p.2.1 = wi ∧ p.2.2.1 ≠ t) → o' p = o p) (tg : ∀ (p : Sl) x, (p.1 = 1 ∨ p.1 = 2) → p.2.1 = wi → p.2.2.1 ≠ t → o p = some x → h'.R 3718 x.1 = h.R 3718 x.1) (hr : ∀ j, j < t → ∀ r ∈ rfF (s.2.1 j), ∀ a, rad o wi r = some a → rad o' wi r = some a) (ft : FmR h' o' wi t (Fa W t) MA f') : WkR h' o' wi W MA (sF s f') := by
  obtain ⟨⟨w1, w2, w3, w4, w5, w6⟩, w7, w8, w9⟩ := w
  have nz := PTF.no (F := Fa W t) (l := swF ++ enF ++ [2438, 2439, 2441]) rfl
  have sub : ∀ l' : List Nat, l'.all (fun f => (swF ++ enF ++ [2438, 2439, 2441]).contains f) = true → ∀ f a, l'.contains f = true → ¬ PTF (Fa W t) f a := fun l' hl f a hf => nz f a (by rw [List.all_eq_true] at hl; exact hl f (List.contains_iff_mem.mp hf))
  refine ⟨⟨w1.fr f1 (sub swF rfl), by rw [f1.I (nz _ _ rfl)]; exact w2, w3, w4, by rw [f1.I (nz _ _ rfl)]; exact w5, by rw [f1.I (nz _ _ rfl)]; exact w6⟩, fun j hj => ?_, fun j hj i => ?_, w9.keep f1 (fun g a hg _ _ => sub enF rfl g a hg) (fun e _ => hs _ (Or.inl rfl))⟩
  · have hj : j < s.1 := hj
    show FmR h' o' wi j (Fa W j) MA (uF s.2.1 (s.1 - 1) f' j)
    unfold uF
    by_cases c : j = t
    · subst c
      rw [if_pos (by omega)]; exact ft
    · rw [if_neg (by omega)]
      refine (w7 j hj).keep f1 (fun g a hg h1 h2 z => ?_) (fun cc i hc => hs _ (Or.inr ⟨hc, rfl, c⟩)) (fun cc i x hc hx => tg _ x hc rfl c hx) (fun r hr' a ha => hr j (by omega) r hr' a ha)
      rcases z with z | z
      · have z1 := z.2.1
        have z2 := z.2.2
        unfold Fa at *
        omega
      · exact VQ.no (l := fmF) rfl g a hg z
  · have hj : s.1 ≤ j := hj
    rw [hs _ (Or.inr ⟨Or.inl rfl, rfl, by show j ≠ t; omega⟩), hs _ (Or.inr ⟨Or.inr rfl, rfl, by show j ≠ t; omega⟩)]
    exact w8 j hj i
theorem cpop_lo {G : Gt} {d : Nat} {K : Outcome → AH → Prop} {F n a : Nat} (t0 : h.tag A = some (0, 0)) (hf : h.R 28 A = some F) (s : SFr h F) (hh : h.I 2565 F = nI (n + 1)) (hn : n < 64) (he : h.ER 747 (F + 2) n = some a) (kk : K (.returned (some (.ref a))) (h.sI 2565 F (nI n))) : MW G d e_X1_pop [.ref A] h K := by
  refine st_X1_pop fun XX oo hG hD _ => ?_
  subst hG; subst hD
  obtain ⟨f1, f2, f3, f4, f5⟩ := s
  have en : nI (n + 1) - nI 1 = nI n := by rw [nI_sub (by omega), Nat.add_sub_cancel]
  have e1 : (h.sI 2565 F (nI (n + 1) - nI 1)).I 2565 F = nI n := by rw [I_same, en]
  have e2 : (h.sI 2565 F (nI (n + 1) - nI 1)).ER 747 (F + 2) n = some a := by simp [n_sI, z_sI, tag_sI, I_sI, J_sI, R_sI, EI_sI, EJ_sI, ER_sI, n_sJ, z_sJ, tag_sJ, I_sJ, J_sJ, R_sJ, EI_sJ, EJ_sJ, ER_sJ, n_sR, z_sR, tag_sR, I_sR, J_sR, R_sR, EI_sR, EJ_sR, ER_sR, n_sEI, z_sEI, tag_sEI, I_sEI, J_sEI, R_sEI, EI_sEI, EJ_sEI, ER_sEI, n_sEJ, z_sEJ, tag_sEJ, I_sEJ, J_sEJ, R_sEJ, EI_sEJ, EJ_sEJ, ER_sEJ, n_sER, z_sER, tag_sER, I_sER, J_sER, R_sER, EI_sER, EJ_sER, ER_sER, n_nw, z_nw, tag_nw, I_nw, J_nw, R_nw, EI_nw, EJ_nw, ER_nw]; exact he
  have ix : IX (nI n) 64 n := IX.mk (by omega) (by omega)
  refine k_X1_pop_0 oo ?_
  rw [en]; exact kk
/-- references that are alive in the topmost frame -/
theorem nrr_t {r : Nat × Nat} (hn : nrr s r = true) {j : Nat} (hj : j < s.1) {q : Rx} (hq : q ∈ rfF (s.2.1 j)) : q.1 ≠ r := by
  unfold nrr at hn
  rw [List.all_eq_true] at hn
  have := hn q (by
    unfold rfs
    rw [List.mem_flatMap]
    exact ⟨j, List.mem_range.mpr hj, hq⟩)
  simpa using this
/-- a slot of the topmost frame's changes that no reference leads to -/
theorem rad_u {p : Sl} {y : Option LV} {r : Rx} (h : rsl' wi r.1 ≠ p) : rad (uO o p y) wi r = rad o wi r := by
  unfold rad; rw [uO_n h]
theorem rsl_1 {r : Nat × Nat} {a b c : Nat} : rsl' wi r ≠ (1, a, b, c) := by
  obtain ⟨i, k⟩ := r
  cases i with
  | zero => intro e; exact absurd (congrArg (fun p : Sl => p.1) e) (by show (3 : Nat) ≠ 1; omega)
  | succ j => intro e; exact absurd (congrArg (fun p : Sl => p.1) e) (by show (2 : Nat) ≠ 1; omega)
theorem rsl_2 {r : Nat × Nat} {t k : Nat} (h : r ≠ (t + 1, k)) : rsl' wi r ≠ (2, wi, t, k) := by
  obtain ⟨i, n⟩ := r
  cases i with
  | zero => intro e; exact absurd (congrArg (fun p : Sl => p.1) e) (by show (3 : Nat) ≠ 2; omega)
  | succ j =>
    intro e
    have e1 : j = t := congrArg (fun p : Sl => p.2.2.1) e
    have e2 : n = k := congrArg (fun p : Sl => p.2.2.2) e
    exact h (by rw [e1, e2])
end
