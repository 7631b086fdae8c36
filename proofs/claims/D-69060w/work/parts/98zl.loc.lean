/-! what holds while a transaction goes on: locals and references -/
theorem rty_h {m : Md} {t : Ty} : (rty m t).headD 0 = t.headD 0 := by
  cases t with
  | nil => rfl
  | cons b t =>
    show (if b = 6 then 6 :: t.map (sid m) else b :: rty m t).headD 0 = b
    split
    · next c => rw [c]; rfl
    · rfl
theorem isRf_h {t : Ty} : isRf t = (t.headD 0 == 8 || t.headD 0 == 9) := by
  cases t with
  | nil => rfl
  | cons b t =>
    unfold isRf
    simp
theorem isWr_h {t : Ty} : isWr t = (t.headD 0 == 9) := by
  cases t with
  | nil => rfl
  | cons b t =>
    unfold isWr
    simp
theorem VT_nr {W : Wd} {m : Md} {t : Ty} {v : VL} (h : VT W (rty m t) v) : isRf t = false := by
  have h1 := h.1
  have : (rty m t).headD 0 ≤ 7 := by
    unfold hdk at h1
    split at h1
    · next b e => rw [e]; show b ≤ 7; have := h1.2.2.1; omega
    · next e => rw [e]; show 6 ≤ 7; decide
    · next e => rw [e]; show 7 ≤ 7; decide
    · exact h1.elim
  rw [rty_h] at this
  rw [isRf_h, Bool.or_eq_false_iff]
  exact ⟨beq_eq_false_iff_ne.mpr (by omega), beq_eq_false_iff_ne.mpr (by omega)⟩
theorem isRf_c {t : Ty} (h : isRf t = true) : ∃ b r, t = b :: r ∧ (b = 8 ∨ b = 9) := by
  cases t with
  | nil => rw [isRf_h] at h; cases h
  | cons b r =>
    refine ⟨b, r, rfl, ?_⟩
    rw [isRf_h, Bool.or_eq_true] at h
    rcases h with z | z
    · exact Or.inl (by simpa using z)
    · exact Or.inr (by simpa using z)
theorem rtv_FL {s : Ms} {f : Fm} {k : Nat} {x : Option It} (hs : 1 ≤ s.1) (h : f.2.2.1 = uLc (tpf s).2.2.1 k x) {r : Nat × Nat} (hr : r ≠ (s.1, k)) : rtv (sF s f) r = rtv s r := by
  obtain ⟨a, i⟩ := r
  cases a with
  | zero => rfl
  | succ j =>
    show (match (uF s.2.1 (s.1 - 1) f j).2.2.1 i with | some (.inl v) => some v | _ => none) = (match (s.2.1 j).2.2.1 i with | some (.inl v) => some v | _ => none)
    by_cases c : j = s.1 - 1
    · rw [c, uF_s, h]
      unfold uLc
      rw [if_neg (fun z => hr (by rw [z, c]; exact Prod.ext (by show s.1 - 1 + 1 = s.1; omega) rfl))]
      rfl
    · rw [uF_n c]
theorem rfF_i {f : Fm} {q : Rx} : q ∈ rfF f ↔ q ∈ f.2.2.2.flatMap rfI ∨ ∃ k, k < 40 ∧ f.2.2.1 k = some (.inr q) := by
  unfold rfF
  rw [List.mem_append, List.mem_flatMap (b := q) (l := List.range 40)]
  constructor
  · rintro (z | ⟨k, k1, k2⟩)
    · exact Or.inl z
    · refine Or.inr ⟨k, List.mem_range.mp k1, ?_⟩
      cases hh : f.2.2.1 k with
      | none => rw [hh] at k2; cases k2
      | some i =>
        rw [hh] at k2
        cases i with
        | inl v => cases k2
        | inr r =>
          have z : q = r := by simpa [rfO, rfI] using k2
          rw [z]
  · rintro (z | ⟨k, k1, k2⟩)
    · exact Or.inl z
    · refine Or.inr ⟨k, List.mem_range.mpr k1, ?_⟩
      rw [k2]; simp [rfO, rfI]
section
variable {W : Wd} {s : Ms} {A : Nat → Nat → Rx} {MM : Nat → Md} {UU : Nat → Ux} {SS : Nat → Sk} {LL : Nat → Ls} {t : Nat}
theorem rfs_K (ht : t + 1 = s.1) {k : List It} {q : Rx} (hq : q ∈ rfs (sK s k)) : q ∈ k.flatMap rfI ++ (List.range 40).flatMap (fun x => rfO (lcs s x)) ∨ ∃ i, i < t ∧ q ∈ rfF (s.2.1 i) := by
  obtain ⟨j, h1, h2⟩ := rfs_m.mp hq
  have h2 : q ∈ rfF (uF s.2.1 (s.1 - 1) ((tpf s).1, (tpf s).2.1, (tpf s).2.2.1, k) j) := h2
  have h1 : j < s.1 := h1
  by_cases c : j = s.1 - 1
  · rw [c, uF_s] at h2
    exact Or.inl h2
  · rw [uF_n c] at h2
    exact Or.inr ⟨j, by omega, h2⟩
theorem oCon_g (h : Cor W s A MM UU SS LL) (ht : t + 1 = s.1) {snd : Int64} {m : Md} {u : Ux} {lt : List Ty} {o a b : Nat} {d : Cs} (ho : (5 ≤ o ∧ o < 11) ∨ o = 46) (ha : o = 5 → a < 256) (hc : cOp m u lt o a b (SS t, LL t) = .ok d) : Okr W (oCon snd o a b s) (OpG W s A MM UU SS LL t d) := by
  have h1 := (h.tp ht).2.1
  have hv := h.vs ht
  unfold cOp at hc
  unfold oCon
  rw [if_neg (by omega), if_neg (by omega), if_neg (by omega), if_neg (by omega)] at hc
  by_cases c8 : o < 8
  · rw [if_pos c8] at hc
    obtain ⟨s', h2, hc⟩ := eb_ok hc
    cases hc
    have := pt_i h2
    subst this
    rcases (show o = 5 ∨ o = 6 ∨ o = 7 by omega) with z | z | z
    · subst z
      exact OpG.pushN h ht h1 (by omega) ⟨Or.inr rfl, fun z => by omega, fun _ => by show un (lN a) < 256; rw [un_l (by have := ha rfl; omega)]; exact ha rfl⟩ hv
    · subst z
      exact OpG.pushN h ht h1 (by omega) (rng_z (Or.inl rfl)) hv
    · subst z
      exact OpG.pushN h ht h1 (by omega) ⟨Or.inl rfl, fun z => by omega, fun z => by omega⟩ hv
  rw [if_neg c8] at hc
  by_cases c10 : o < 10
  · rw [if_pos c10] at hc
    obtain ⟨s', h2, hc⟩ := eb_ok hc
    cases hc
    have := pt_i h2
    subst this
    rw [if_neg (by omega), if_neg (by omega), if_neg (by omega), if_neg (by omega), if_neg (by omega)]
    exact OpG.pushN h ht h1 (by omega) (rng_t _) hv
  rw [if_neg c10, if_pos (by omega)] at hc
  obtain ⟨s', h2, hc⟩ := eb_ok hc
  cases hc
  have := pt_i h2
  subst this
  rw [if_neg (by omega), if_neg (by omega), if_neg (by omega)]
  by_cases z : o = 10
  · rw [if_pos z]
    exact OpG.pushN h ht h1 (by omega) (rng_z (Or.inr rfl)) hv
  · rw [if_neg z, if_pos (by omega)]
    exact OpG.pushN h ht h1 (by omega) (rng_z (Or.inr rfl)) hv
theorem ogr_t {W : Wd} {g : Sg} {j : Nat} {m : Md} {u : Ux} {ty : Ty} {og : Og} {i : It} (h : ItT W g A j m u (ty, og) i) : ItT W g A j m u (ty, ogr ty og) i := by
  cases i with
  | inl v => exact h
  | inr r =>
    have h0 := (h : RfT W g A j m u ty og r).1
    unfold ogr
    rw [if_pos h0]; exact h
theorem oLoc_g (h : Cor W s A MM UU SS LL) (ht : t + 1 = s.1) (hk : Lkf s A UU t) {lim o k : Nat} {d : Cs} (ho : 11 ≤ o ∧ o ≤ 15) (hx : k < nlo (UU t)) (h40 : nlo (UU t) ≤ 40) (hc : cLoc (MM t) (lty (UU t)) o k (SS t, LL t) = .ok d) : Okr W (oLoc lim o k s) (OpG W s A MM UU SS LL t d) := by
  obtain ⟨hf, h1, h2, hl⟩ := h.tp ht
  have hv := h.vs ht
  have he := h.2.1
  have hs1 := h.1.1
  have e0 := tpt ht
  unfold cLoc at hc
  unfold oLoc
  have hal : ∀ q, q ∈ rfF (s.2.1 t) → (drf s q).isSome = true := fun q hq => h.2.2.2 t (by omega) q hq
  have top : ∀ q, q ∈ (stk s).flatMap rfI ++ (List.range 40).flatMap (fun x => rfO (lcs s x)) ↔ q ∈ rfF (s.2.1 t) := fun q => by
    unfold stk lcs; rw [e0]; rfl
  by_cases c13 : o = 13
  · rw [if_pos c13] at hc ⊢
    obtain ⟨r, a1, hc⟩ := eb_ok hc
    obtain ⟨_, a2, hc⟩ := eb_ok hc
    obtain ⟨_, a3, hc⟩ := eb_ok hc
    cases hc
    obtain ⟨b1, b2⟩ := tkT_i a1
    have a3 := nee_i a3
    have b1 : SS t = r.1 :: r.2 := b1
    rw [b1] at h1
    obtain ⟨i, k1, f1, f2, f3⟩ := h1.inv
    rw [f1]
    have nr := nrt_l h ht hk (x := k) (by omega) f3 h2 hl a3
    have hi : ItT W (sgn s) A t (MM t) (UU t) (tgt (lty (UU t)) k, r.1.2) i := by rw [← b2]; exact f2
    refine Okr.re ?_ ?_
    · unfold nrr
      rw [List.all_eq_true]
      intro q hq
      rcases rfs_K ht hq with z | ⟨j, j1, j2⟩
      · simpa using nr.1 q z
      · simpa using nr.2 j j1 q j2
    · have hd : ∀ q : Rx, q.1 ≠ (s.1, k) → drf (sLK s (uLc (lcs s) k (some i)) k1) q = drf s q := fun q hq => by
        unfold drf
        rw [show rtv (sLK s (uLc (lcs s) k (some i)) k1) q.1 = rtv s q.1 from rtv_FL hs1 rfl hq]
      refine OpG.top h ht ⟨by rw [e0], by rw [e0]⟩ f3 (h2.put hx hl ⟨i, rfl, hi⟩) (by rw [List.length_set]; exact hl) (fun q hq => ?_) (fun j hj q hq => ?_)
      · show (drf (sLK s (uLc (lcs s) k (some i)) k1) q).isSome = true
        rcases rfF_i.mp hq with z | ⟨x, x1, x2⟩
        · rw [hd q (nr.1 q (List.mem_append_left _ z))]
          exact hv q (by rw [f1]; exact vt_fl z)
        · have x2 : uLc (lcs s) k (some i) x = some (.inr q) := x2
          unfold uLc at x2
          by_cases c : x = k
          · rw [if_pos c] at x2
            cases x2
            have hr : RfT W (sgn s) A t (MM t) (UU t) (tgt (lty (UU t)) k) r.1.2 q := hi
            rw [hd q ?_]
            · refine hv q ?_
              rw [f1, List.flatMap_cons]
              exact List.mem_append_left _ (by simp [rfI])
            · intro z
              obtain ⟨T, g1, -⟩ := hr.2.1
              rw [z, ← ht] at g1
              have := tgt_rf (g := sgn s) (j := t) (m := MM t) (u := UU t) hf g1
              rw [hr.1] at this
              exact absurd this.2.1 (by decide)
          · rw [if_neg c] at x2
            have m1 : q ∈ (List.range 40).flatMap (fun x => rfO (lcs s x)) := List.mem_flatMap.mpr ⟨x, List.mem_range.mpr x1, by rw [x2]; simp [rfO, rfI]⟩
            rw [hd q (nr.1 q (List.mem_append_right _ m1))]
            exact hal q ((top q).mp (List.mem_append_right _ m1))
      · show (drf (sLK s (uLc (lcs s) k (some i)) k1) q).isSome = true
        rw [hd q (nr.2 j hj q hq)]
        exact h.2.2.2 j (by omega) q hq
  · rw [if_neg c13] at hc ⊢
    cases hg : lgt (LL t) k with
    | none => rw [show lgt (SS t, LL t).2 k = none from hg] at hc; cases hc
    | some og =>
      rw [show lgt (SS t, LL t).2 k = some og from hg] at hc
      have hlk := h2.1 k hx
      rw [hg] at hlk
      obtain ⟨i, i1, i2⟩ := hlk
      rw [i1]
      simp only at hc ⊢
      by_cases c11 : o = 11
      · rw [if_pos c11] at hc ⊢
        obtain ⟨_, a2, hc⟩ := eb_ok hc
        obtain ⟨_, a3, hc⟩ := eb_ok hc
        obtain ⟨s', a4, hc⟩ := eb_ok hc
        cases hc
        have := pt_i a4
        subst this
        refine Okr.pay he fun g => ?_
        refine OpG.sk (s := sG s g) h ht ⟨ogr_t i2, h1⟩ fun q hq => ?_
        rw [List.flatMap_cons, List.mem_append] at hq
        rcases hq with z | z
        · cases i with
          | inl v => cases z
          | inr r =>
            have z : q = r := by simpa [rfI] using z
            subst z
            refine hal q ((top q).mp (List.mem_append_right _ (List.mem_flatMap.mpr ⟨k, List.mem_range.mpr (by omega), ?_⟩)))
            rw [i1]; simp [rfO, rfI]
        · exact hv q z
      · rw [if_neg c11] at hc ⊢
        by_cases c12 : o = 12
        · rw [if_pos c12] at hc ⊢
          obtain ⟨_, a3, hc⟩ := eb_ok hc
          obtain ⟨s', a4, hc⟩ := eb_ok hc
          cases hc
          have := pt_i a4
          subst this
          have a3 := nee_i a3
          have nr := nrt_l h ht hk (x := k) (by omega) h1 h2 hl a3
          refine Okr.re ?_ ?_
          · unfold nrr
            rw [List.all_eq_true]
            intro q hq
            obtain ⟨j, j1, j2⟩ := rfs_m.mp hq
            by_cases c : j = t
            · subst c
              simpa using nr.1 q ((top q).mpr j2)
            · simpa using nr.2 j (by omega) q j2
          · have hd : ∀ q : Rx, q.1 ≠ (s.1, k) → drf (sLK s (uLc (lcs s) k none) (i :: stk s)) q = drf s q := fun q hq => by
              unfold drf
              rw [show rtv (sLK s (uLc (lcs s) k none) (i :: stk s)) q.1 = rtv s q.1 from rtv_FL hs1 rfl hq]
            refine OpG.top h ht ⟨by rw [e0], by rw [e0]⟩ ⟨ogr_t i2, h1⟩ (h2.put (x := none) (og := none) hx hl (Or.inl rfl)) (by rw [List.length_set]; exact hl) (fun q hq => ?_) (fun j hj q hq => ?_)
            · show (drf (sLK s (uLc (lcs s) k none) (i :: stk s)) q).isSome = true
              have m1 : q ∈ (stk s).flatMap rfI ++ (List.range 40).flatMap (fun x => rfO (lcs s x)) := by
                rcases rfF_i.mp hq with z | ⟨x, x1, x2⟩
                · have z : q ∈ (i :: stk s).flatMap rfI := z
                  rw [List.flatMap_cons, List.mem_append] at z
                  rcases z with z | z
                  · cases i with
                    | inl v => cases z
                    | inr r =>
                      have z : q = r := by simpa [rfI] using z
                      subst z
                      refine List.mem_append_right _ (List.mem_flatMap.mpr ⟨k, List.mem_range.mpr (by omega), ?_⟩)
                      rw [i1]; simp [rfO, rfI]
                  · exact List.mem_append_left _ z
                · have x2 : uLc (lcs s) k none x = some (.inr q) := x2
                  unfold uLc at x2
                  by_cases c : x = k
                  · rw [if_pos c] at x2; cases x2
                  · rw [if_neg c] at x2
                    exact List.mem_append_right _ (List.mem_flatMap.mpr ⟨x, List.mem_range.mpr x1, by rw [x2]; simp [rfO, rfI]⟩)
              rw [hd q (nr.1 q m1)]
              exact hal q ((top q).mp m1)
            · show (drf (sLK s (uLc (lcs s) k none) (i :: stk s)) q).isSome = true
              rw [hd q (nr.2 j hj q hq)]
              exact h.2.2.2 j (by omega) q hq
        · rw [if_neg c12] at hc ⊢
          obtain ⟨_, a2, hc⟩ := eb_ok hc
          obtain ⟨_, a3, hc⟩ := eb_ok hc
          obtain ⟨s', a4, hc⟩ := eb_ok hc
          cases hc
          have := pt_i a4
          subst this
          have hnr : isRf (tgt (lty (UU t)) k) = false := by simpa using nee_i a2
          obtain ⟨v, rfl, v2⟩ := i2.v hnr
          have hw : isRf ((if o = 14 then 8 else 9) :: tgt (lty (UU t)) k) = true := by
            rw [isRf_h]
            show ((if o = 14 then 8 else 9) == 8 || (if o = 14 then 8 else 9) == 9) = true
            split <;> rfl
          have hrt : rtT W (sgn s) (s.1, k) = some (rty (MM t) (tgt (lty (UU t)) k)) := by
            rw [← ht]
            unfold rtT
            simp only
            rw [show (sgn s).2.1 t = (s.2.1 t).1 from rfl, hf.1]
            simp only
            rw [hf.2]
            simp only
            rw [if_pos ⟨hx, hnr⟩]
          have hdr : drf s ((s.1, k), []) = some v := by
            unfold drf rtv
            simp only
            rw [← ht]
            simp only
            have : (s.2.1 t).2.2.1 k = some (.inl v) := by rw [← e0]; exact i1
            rw [this]; rfl
          refine OpG.sk h ht ⟨show RfT W (sgn s) A t (MM t) (UU t) _ _ _ from ⟨hw, ⟨_, hrt, rfl⟩, by show s.1 ≤ t + 1; omega, Or.inl ⟨k, by omega, by rw [Nat.testBit_two_pow]; simp, by rw [ht], fun _ => rfl⟩⟩, h1⟩ fun q hq => ?_
          rw [List.flatMap_cons, List.mem_append] at hq
          rcases hq with z | z
          · have z : q = ((s.1, k), []) := by simpa [rfI] using z
            subst z
            rw [hdr]; rfl
          · exact hv q z
end
