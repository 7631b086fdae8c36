/-! which worker is next -/
section
variable {G : Gt} {d : Nat} {h : AH} {A WV WA : Nat} {K : Outcome → AH → Prop}
theorem next_ok {u wn tn nv nw : Nat} {wv : Nat → Nat} (t0 : h.tag A = some (0, 0)) (hu : h.I 29 A = nI u) (hwn : h.I 9 A = nI wn) (htn : h.I 30 A = nI tn) (rV : h.R 8 A = some WV) (tV : h.tag WV = some (97, nv)) (rK : h.R 7 A = some WA) (tK : h.tag WA = some (89, nw)) (hnw : 0 < nw ∧ nw ≤ 8) (ht : tn < nw) (hv : wn ≤ nv ∧ nv < 100000 ∧ u < 200000) (hwv : ∀ i, i < wn → h.EI 97 WV i = nI (wv i) ∧ wv i < 2147483648) (k1 : u < wn → K (.returned (some (.int (nI (wv u % nw))))) (h.sI 29 A (nI (u + 1)))) (k2 : ¬ u < wn → K (.returned (some (.int (nI tn)))) (h.sI 30 A (nI (if tn + 1 = nw then 0 else tn + 1)))) : MW G d e_X1_next [.ref A] h K := by
  refine st_X1_next fun XX oo hG hD _ => ?_
  subst hG; subst hD
  by_cases c : u < wn
  · refine k_X1_next_0 (r2 := hu) (r4 := hwn) oo (fun c' => absurd ((nI_leI (by omega) (by omega)).mp c') (by omega)) (fun _ => ?_)
    have ix : IX ((nI u + nI 1) - nI 1) nv u := by
      rw [nI_add, nI_sub (by omega)]
      exact IX.mk (by omega) (by omega)
    have nz : ¬ nI nw = 0 := fun z => by
      have := (nI_eq (b := 0) (by omega) (by omega)).mp z
      omega
    obtain ⟨w1, w2⟩ := hwv u c
    refine k_X1_next_11 (r2 := hu) (r10 := w1) oo ?_
    rw [nI_mod w2 (by omega) (by omega), nI_add]
    exact k1 c
  · refine k_X1_next_0 (r2 := hu) (r4 := hwn) oo (fun _ => ?_) (fun c' => absurd ((nI_leI (by omega) (by omega)).mpr (by omega)) c')
    have k2 := k2 c
    refine k_X1_next_39 (r2 := htn) (r4 := htn) oo (fun c' => ?_) (fun c' => ?_)
    · refine k_X1_next_63 (r2 := htn) oo ?_
      rw [nI_add] at c' ⊢
      rw [if_neg (fun z => c' (by rw [z]))] at k2
      exact k_X1_next_69 oo k2
    · refine k_X1_next_59 oo ?_
      rw [nI_add] at c'
      rw [if_pos ((nI_eq (by omega) (by omega)).mp c')] at k2
      exact k_X1_next_69 oo k2
end
