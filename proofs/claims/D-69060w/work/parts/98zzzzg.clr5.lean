/-! a worker is cleared, whole -/
section
variable {G : Gt} {B d q wi W : Nat} {h : AH} {l : List Nat} {o : Lc} {K : Outcome → AH → Prop}
theorem clear_ok {dd n : Nat} (v : VH G B h q l o) (sw : SWk h W) (hdp : h.I 2438 W = nI dd) (hdd : dd ≤ 32) (fds : ∀ j, j < dd → FDR h o wi W j) (hn : n ≤ 26) (hc : h.I 1025 (W + 2) = nI n) (b3 : ∀ e, e < n → (o (3, wi, e, 0) = none ∧ h.R 1159 (Ea W e) = none) ∨ ∃ x, o (3, wi, e, 0) = some x ∧ h.R 1159 (Ea W e) = some x.1 ∧ fdp x.2.2.2 ≤ 40) (hd : 72 ≤ d) (kk : ∀ h1 l1 o1, CST G B q wi W h l o h1 l1 o1 → (∀ p : Sl, ¬ ((p.1 = 1 ∨ p.1 = 2) ∧ p.2.1 = wi ∧ p.2.2.1 < dd) → ¬ (p.1 = 3 ∧ p.2.1 = wi ∧ p.2.2.1 < n ∧ p.2.2.2 = 0) → o1 p = o p) → (∀ j, j < dd → ∀ i, o1 (1, wi, j, i) = none ∧ o1 (2, wi, j, i) = none) → (∀ e, e < n → o1 (3, wi, e, 0) = none) → h1.I 2438 W = nI 0 → K (.returned none) (h1.sI 1025 (W + 2) (nI 0))) : MW G d e_X20_clear [.ref W, .ref q] h K := by
  refine st_X20_clear fun XX oo hG hD _ => ?_
  subst hG; subst hD
  refine clear_0 (l := l) (o := o) oo sw hdd (by omega) (fun h1 l1 o1 l2 l3 c1 c2 c3 c4 c5 => ?_) dd (Nat.le_refl _) h l o _ _ (CST.refl v) hdp fds (fun _ _ => rfl) (fun j h1 h2 => by omega) (Fr.refl h)
  have nz : ∀ g a, g = 1025 ∨ g = 1159 → ¬ PZc W g a := fun g a hg z => by
    rcases hg with e | e <;> subst e
    · rcases z with z | z | z
      · exact VQ.no (l := [1025]) rfl _ _ rfl z
      · exact absurd z.1 (by decide)
      · exact absurd z.1 (by decide)
    · rcases z with z | z | z
      · exact VQ.no (l := [1159]) rfl _ _ rfl z
      · exact absurd z.1 (by decide)
      · exact absurd z.1 (by decide)
  have o13 : ∀ e, o1 (3, wi, e, 0) = o (3, wi, e, 0) := fun e => c2 _ (fun z => by
    have : (3 : Nat) = 1 ∨ (3 : Nat) = 2 := z.1
    omega)
  refine k_X20_clear_91 oo ?_
  refine clear_93 (l := l) (o := o) (oB := o1) (l3 := .null) oo sw hn hc (fun e he => by rw [o13]; exact b3 e he) (by omega) (fun h2 l2' o2 d1 d2 d3 d4 => ?_) n 0 (by omega) h1 l1 o1 _ c1 ⟨by rw [c5.I (nz _ _ (Or.inl rfl))]; exact hc, c4⟩ (fun _ _ => rfl) (fun e he => by omega) (fun e _ => c5.R (nz _ _ (Or.inr rfl)))
  refine kk h2 l2' o2 d1 (fun p h1 h2 => by rw [d2 p h2]; exact c2 p h1) (fun j hj i => ?_) d3 d4
  rw [d2 _ (fun z => by have : (1 : Nat) = 3 := z.1; omega), d2 _ (fun z => by have : (2 : Nat) = 3 := z.1; omega)]
  exact c3 j hj i
end
