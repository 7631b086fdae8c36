/-! calls one behind the other: the whole -/
def ssq (st : Lw) (Lf : Nat → Lw) (fs : Nat) : Nat → Lw
  | 0 => st
  | i + 1 => tkOv (ssq st Lf fs i) (Lf (fs + i))
theorem vsw_3 {st : Lw} {p : Pc} (h : p.1 < 4) : vsw st p = lfc st p := by unfold vsw acf; rw [if_neg (fun z => by omega)]
theorem vsw_4 {st : Lw} : vsw st (4, 0, 0) = (true, lN st.length, 0, none) := by
  unfold vsw acf
  rw [if_pos ⟨by decide, Nat.le_refl _⟩]
  rfl
theorem vew_s {st : Lw} {Lf : Nat → Lw} {fs t : Nat} {p : Pc} (h : fs ≤ t) : vew st Lf fs (t + 1) p = match lfd (Lf t) p with
    | some x => nrm x.1
    | none => vew st Lf fs t p := by
  unfold vew
  rw [bfr_s, if_neg (by omega)]
  cases hf : (Lf t).findIdx? fun x => x.1 == p with
  | none =>
    have : lfd (Lf t) p = none := fidx_n hf
    rw [this, if_neg (by simp)]
  | some e =>
    obtain ⟨y, y1, -⟩ := fidx_s hf
    rw [y1, if_pos (by simp)]
    simp only
    unfold lfc
    rw [y1]
theorem lN_ofI {n : Nat} : Int64.ofInt (n : Int) = lN n := Int64.ofInt_eq_ofNat
theorem lN_toI {n : Nat} (h : n < 9223372036854775808) : (lN n).toInt = (n : Int) := Int64.toInt_ofNat_of_lt h
section
variable {W : Wd} {xx : Nat → TxC} {st : Lw} {Lf : Nat → Lw} {fs last : Nat} {rr : Nat → TxR}
theorem ssq_ok (w : STW st) (h256 : st.length ≤ 256) (hr : ∀ t, fs ≤ t → t < last → (rr t).1 < 4 ∧ (∃ e0 es, (rr t).2.2.1 = e0 :: es) ∧ RTZ W (xx t) (rr t) ∧ Lf t = lR1 (xx t).2.2.1 false (rr t) ∧ ∀ e ∈ (rr t).2.2.1, vew st Lf fs t e.1 = e.2.1) : ∀ i, fs + i ≤ last → STW (ssq st Lf fs i) ∧ (ssq st Lf fs i).length ≤ 256 ∧ EQV (vew st Lf fs (fs + i)) (vsw (ssq st Lf fs i)) := by
  intro i
  induction i with
  | zero =>
    intro _
    refine ⟨w, h256, fun p _ => ?_⟩
    show vsw st p = vew st Lf fs fs p
    rw [vew_0]
  | succ i ih =>
    intro hi
    obtain ⟨w1, l1, e1⟩ := ih (by omega)
    obtain ⟨r1, ⟨e0, es, r2⟩, r3, r4, r5⟩ := hr (fs + i) (by omega) (by omega)
    show STW (tkOv (ssq st Lf fs i) (Lf (fs + i))) ∧ (tkOv (ssq st Lf fs i) (Lf (fs + i))).length ≤ 256 ∧ EQV (vew st Lf fs (fs + i + 1)) (vsw (tkOv (ssq st Lf fs i) (Lf (fs + i))))
    generalize ssq st Lf fs i = S at *
    by_cases c3 : (rr (fs + i)).1 = 3
    · have : Lf (fs + i) = [] := by
        rw [r4]
        unfold lR1 lfE
        rw [r2]
        simp only
        rw [if_pos c3]
      rw [this]
      refine ⟨w1, l1, fun p hp => ?_⟩
      rw [vew_s (by omega), this]
      exact e1 p hp
    · have hq := r3.1 c3
      have hc : ∀ e ∈ (rr (fs + i)).2.2.1, e.1.1 < 4 → e.2.1 = lfc S e.1 := fun e he h4 => by
        obtain ⟨k, hk, ek⟩ := List.mem_iff_getElem.mp he
        have := (hq.2.2 k e (by rw [List.getElem?_eq_getElem hk, ek])).1.1.1
        rw [← vsw_3 h4, e1 e.1 (Or.inl ⟨this, h4⟩)]
        exact (r5 e he).symm
      obtain ⟨n1, n2⟩ := seq_len w1 r1 ⟨e0, es, r2⟩ r3 hc
      rw [← r4] at n1 n2
      obtain ⟨t1, t2, -⟩ := tkO_w w1 n1
      have k3 : ∀ p : Pc, 1 ≤ p.1 → p.1 < 4 → vsw (tkOv S (Lf (fs + i))) p = vew st Lf fs (fs + i + 1) p := fun p h1 h4 => by
        rw [vsw_3 h4, t2 p h4, vew_s (by omega)]
        cases lfd (Lf (fs + i)) p with
        | none =>
          simp only
          rw [← vsw_3 h4]
          exact e1 p (Or.inl ⟨h1, h4⟩)
        | some y => rfl
      -- how many places there are
      have done : ∀ m : Int, ((tkOv S (Lf (fs + i))).length : Int) = S.length + m → (m ≠ 0 → (S.length : Int) + m ≤ 256) → (vew st Lf fs (fs + i + 1) (4, 0, 0) = (true, lN (tkOv S (Lf (fs + i))).length, 0, none)) → STW (tkOv S (Lf (fs + i))) ∧ (tkOv S (Lf (fs + i))).length ≤ 256 ∧ EQV (vew st Lf fs (fs + i + 1)) (vsw (tkOv S (Lf (fs + i)))) := fun m hm hm2 hv => by
        refine ⟨t1, ?_, fun p hp => ?_⟩
        · by_cases c : m = 0
          · omega
          · have := hm2 c; omega
        · rcases hp with hp | hp
          · exact k3 p hp.1 hp.2
          · rw [hp, vsw_4, hv]
      have v4 : vew st Lf fs (fs + i) (4, 0, 0) = (true, lN S.length, 0, none) := by
        rw [← e1 (4, 0, 0) (Or.inr rfl), vsw_4]
      have no4 : (∀ e ∈ (rr (fs + i)).2.2.1, e.1.1 < 4) ∨ (rr (fs + i)).1 ≠ 0 → vew st Lf fs (fs + i + 1) (4, 0, 0) = (true, lN S.length, 0, none) := fun h => by
        rw [vew_s (by omega)]
        have : lfd (Lf (fs + i)) (4, 0, 0) = none := by
          rw [lfd_n, r4]
          unfold lR1 lfE
          rw [r2]
          simp only
          rw [if_neg c3]
          intro hm
          have h0 : e0.1.1 = 1 := by
            obtain ⟨x0, q2, q3, -⟩ := hq.2.1
            rw [r2] at q2
            have : e0 = x0 := Option.some.inj q2
            rw [this, q3]
          have hm : (4, 0, 0) ∈ e0.1 :: plw (lfl (decide ((rr (fs + i)).1 = 0)) es) := hm
          rcases List.mem_cons.mp hm with q | q
          · rw [← q] at h0; exact absurd h0 (show (4 : Nat) ≠ 1 by decide)
          · rcases h with h | h
            · obtain ⟨e, he, ee⟩ := List.mem_map.mp (lfl_p q)
              have := h e (by rw [r2]; exact List.mem_cons_of_mem _ he)
              have ee : e.1 = (4, 0, 0) := ee
              rw [ee] at this
              exact absurd this (show ¬ (4 : Nat) < 4 by decide)
            · rw [decide_eq_false h] at q
              simp [lfl] at q
        rw [this]
        exact v4
      by_cases c0 : (rr (fs + i)).1 = 0
      · rw [if_pos c0] at n2
        rcases r3.2 c0 with ⟨g1, g2⟩ | ⟨es', cc, g1, g2, g3⟩
        · rw [g1, Int.add_zero] at n2
          have e : (tkOv S (Lf (fs + i))).length = S.length := by omega
          exact done 0 (by omega) (fun q => absurd rfl q) (by rw [e]; exact no4 (Or.inl g2))
        · have hcc : cc = (true, lN S.length, 0, none) := by
            rw [← v4]
            exact (r5 ((4, 0, 0), cc, (cc.1, Int64.ofInt (cc.2.1.toInt + mor es'), cc.2.2), true) (by rw [g1]; exact List.mem_append_right _ (List.mem_singleton.mpr rfl))).symm
          have mm : mor (rr (fs + i)).2.2.1 = mor es' := by rw [g1, mor_ap, mo1_4 rfl, Int.add_zero]
          rw [mm] at n2
          have li : (lN S.length).toInt = (S.length : Int) := lN_toI (by omega)
          rw [hcc] at g3 g1
          have g3 : (lN S.length).toInt + mor es' ≤ 256 := g3
          rw [li] at g3
          refine done (mor es') n2 (fun _ => g3) ?_
          have mL : (((4, 0, 0), (true, Int64.ofInt ((lN S.length).toInt + mor es'), 0, none), false) : Pc × Cn × Bool) ∈ Lf (fs + i) := by
            rw [r4]
            unfold lR1 lfE
            rw [r2]
            simp only
            rw [if_neg c3]
            refine List.mem_cons_of_mem _ ?_
            unfold lfl
            have me : (((4, 0, 0), (true, lN S.length, 0, none), (true, Int64.ofInt ((lN S.length).toInt + mor es'), 0, none), true) : En) ∈ es := by
              have : (((4, 0, 0), (true, lN S.length, 0, none), (true, Int64.ofInt ((lN S.length).toInt + mor es'), 0, none), true) : En) ∈ e0 :: es := by rw [← r2, g1]; simp
              rcases List.mem_cons.mp this with q | q
              · exfalso
                obtain ⟨x0, q2, q3, -⟩ := hq.2.1
                rw [r2] at q2
                have q2 : e0 = x0 := Option.some.inj q2
                rw [← q2, ← q] at q3
                exact absurd (congrArg Prod.fst q3) (show (4 : Nat) ≠ 1 by decide)
              · exact q
            exact List.mem_map.mpr ⟨_, List.mem_filter.mpr ⟨me, by rw [decide_eq_true c0]; rfl⟩, rfl⟩
          rw [vew_s (by omega), (lfd_i n1).mpr mL]
          simp only
          rw [ctf (show ((true, Int64.ofInt ((lN S.length).toInt + mor es'), 0, none) : Cn).1 = true from rfl), li]
          rw [show (S.length : Int) + mor es' = ((tkOv S (Lf (fs + i))).length : Int) from n2.symm, lN_ofI]
      · rw [if_neg c0, Int.add_zero] at n2
        have e : (tkOv S (Lf (fs + i))).length = S.length := by omega
        exact done 0 (by omega) (fun q => absurd rfl q) (by rw [e]; exact no4 (Or.inr c0))
end
