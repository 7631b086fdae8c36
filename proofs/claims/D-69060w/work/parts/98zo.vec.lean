/-! what holds while a transaction goes on: vectors -/
theorem VT_7 {W : Wd} {T : List Nat} {v : VL} (hT : T ≠ []) : VT W (7 :: T) v ↔ v.1 = 7 ∧ v.2.1 = (0, 0) ∧ (fln v.2.2 ≤ 256 ∧ T.length ≤ 7) ∧ ∀ w ∈ flo v.2.2, VT W T w := by
  cases T with
  | nil => exact absurd rfl hT
  | cons b T =>
    rw [VT_iff]
    have e1 : hdk (7 :: b :: T) v.1 v.2.1 (fln v.2.2) ↔ v.1 = 7 ∧ v.2.1 = (0, 0) ∧ fln v.2.2 ≤ 256 ∧ (b :: T).length ≤ 7 := by cases T <;> exact Iff.rfl
    have e2 : exs W (7 :: b :: T) (fln v.2.2) = List.replicate (fln v.2.2) (b :: T) := by cases T <;> rfl
    rw [e1, e2]
    constructor
    · rintro ⟨⟨h1, h2, h3⟩, h4, h5⟩
      refine ⟨h1, h2, h3, fun w hw => ?_⟩
      obtain ⟨i, hi, e⟩ := List.mem_iff_getElem.mp hw
      refine h5 i w (b :: T) ?_ ?_
      · rw [List.getElem?_eq_getElem hi, e]
      · rw [List.getElem?_replicate, if_pos (by rw [← flo_len]; exact hi)]
    · rintro ⟨h1, h2, h3, h4⟩
      refine ⟨⟨h1, h2, h3⟩, by rw [List.length_replicate, flo_len], fun i w U hw hU => ?_⟩
      rw [List.getElem?_replicate] at hU
      split at hU
      · cases hU; exact h4 w (List.mem_of_getElem? hw)
      · cases hU
theorem rty_ne {m : Md} {t : Ty} (h : t ≠ []) : rty m t ≠ [] := by
  cases t with
  | nil => exact absurd rfl h
  | cons b t =>
    show (if b = 6 then 6 :: t.map (sid m) else b :: rty m t) ≠ []
    split <;> simp
theorem rty_len {m : Md} : ∀ {t : Ty}, (rty m t).length = t.length
  | [] => rfl
  | b :: t => by
    show (if b = 6 then 6 :: t.map (sid m) else b :: rty m t).length = _
    split
    · simp
    · simp [rty_len]
theorem fT.len {m : Md} {t : Ty} (h : fT m t) : t.length ≤ 6 := by
  have := bas_len h.2.1
  have := h.2.2.1
  omega
theorem gT.len {m : Md} {t : Ty} (h : gT m t) : t.length ≤ 7 := wty_len h.2.1
theorem tst_7 {W : Wd} {T : List Nat} {i : Nat} (hT : T ≠ []) : tst W (7 :: T) i = some T := by
  cases T with
  | nil => exact absurd rfl hT
  | cons b T => cases T <;> rfl
theorem uS_u {α : Type} {F : Nat → α} {t : Nat} {x y : α} : uS (uS F t x) t y = uS F t y := by
  funext j
  unfold uS
  split <;> rfl
theorem uS_e {α : Type} {F : Nat → α} {t : Nat} : uS F t (F t) = F := by
  funext j
  unfold uS
  split
  · next c => rw [c]
  · rfl
theorem lsw_m {l : List VL} {i j : Nat} {w : VL} (h : w ∈ lsw l i j) : w ∈ l := by
  unfold lsw at h
  split at h
  · next a b ha hb =>
    rcases List.mem_or_eq_of_mem_set h with z | z
    · rcases List.mem_or_eq_of_mem_set z with z | z
      · exact z
      · rw [z]; exact List.mem_of_getElem? hb
    · rw [z]; exact List.mem_of_getElem? ha
  · exact h
theorem lsw_l {l : List VL} {i j : Nat} : (lsw l i j).length = l.length := by
  unfold lsw
  split
  · simp
  · rfl
theorem hby_t {W : Wd} {c : Fo} : VT W [7, 2] (7, (0, 0), fof (hby c)) := by
  refine (VT_7 (by simp)).mpr ⟨rfl, rfl, ⟨?_, by decide⟩, fun w hw => ?_⟩
  · show fln (fof (hby c)) ≤ 256
    rw [← flo_len, flo_fof]
    simp [hby]
  · have hw : w ∈ flo (fof (hby c)) := hw
    rw [flo_fof] at hw
    obtain ⟨k, -, e⟩ := List.mem_map.mp hw
    subst e
    refine VT_p (by omega) (by omega) ⟨Or.inr rfl, fun z => by omega, fun _ => ?_⟩
    have : dby ((flo c).map fun v => i8 v.2.1.2.toInt32) k < 256 := Nat.mod_lt _ (by omega)
    show un (lN _) < 256
    rw [un_l (by omega)]; exact this
section
variable {W : Wd} {s : Ms} {A : Nat → Nat → Rx} {MM : Nat → Md} {UU : Nat → Ux} {SS : Nat → Sk} {LL : Nat → Ls} {t : Nat}
theorem OpG.trans {d d' : Cs} {s1 s2 : Ms} (h : OpG W s A MM UU SS LL t d s1) (h' : OpG W s1 A MM UU (uS SS t d.1) (uS LL t d.2) t d' s2) : OpG W s A MM UU SS LL t d' s2 := by
  obtain ⟨a1, a2, a3, a4, a5⟩ := h
  obtain ⟨b1, b2, b3, b4, b5⟩ := h'
  rw [uS_u, uS_u] at b2
  rw [a1] at b3 b4
  exact ⟨by rw [b1, a1], b2, a3.trans b3, fun j hj => by rw [b4 j hj, a4 j hj], fun j hj => by rw [b5 j hj, a5 j hj]⟩
theorem stk_K {k : List It} : stk (sK s k) = k := by
  show (uF s.2.1 (s.1 - 1) _ (s.1 - 1)).2.2.2 = k
  rw [uF_s]
theorem wrf_stk {r : Rx} {v w : VL} (h : drf s r = some v) : stk (wrf s r w) = stk s := by
  unfold drf at h
  cases hh : rtv s r.1 with
  | none => rw [hh] at h; cases h
  | some v0 =>
    have e : wrf s r w = rst s r.1 (vst v0 r.2 w) := by unfold wrf; rw [hh]
    rw [e]
    unfold stk tpf
    rw [rst_d]
    exact (rfF_rst hh (s.1 - 1)).2.2.2
theorem oVec_g (h : Cor W s A MM UU SS LL) (ht : t + 1 = s.1) (hk : Lkf s A UU t) (g : gM (MM t)) {lim o a b : Nat} {d : Cs} (ho : 52 ≤ o ∧ o < 59) (ha : a < (MM t).2.2.2.2.1.length) (hb : b ≤ 255) (hc : cVec (MM t) (lty (UU t)) o a b (SS t, LL t) = .ok d) : Okr W (oVec lim o b s) (OpG W s A MM UU SS LL t d) := by
  have he := h.2.1
  have hv := h.vs ht
  have h1 := (h.tp ht).2.1
  have hfE : fT (MM t) (elt (MM t) a) := by
    unfold elt
    rw [List.getElem?_eq_getElem ha]
    exact g.2.2.1 _ (List.getElem_mem ha)
  have hne := hfE.ne
  have hnr := hfE.rf
  have rne : rty (MM t) (elt (MM t) a) ≠ [] := rty_ne hne
  have r7 : rty (MM t) (7 :: elt (MM t) a) = 7 :: rty (MM t) (elt (MM t) a) := rty_c (by omega)
  have n7 : isRf (7 :: elt (MM t) a) = false := rfl
  unfold cVec at hc
  unfold oVec
  rw [if_neg (show ¬ o = 59 by omega)]
  by_cases c52 : o = 52
  · rw [if_pos c52] at hc ⊢
    obtain ⟨q, a1, hc⟩ := eb_ok hc
    obtain ⟨s', a2, hc⟩ := eb_ok hc
    cases hc
    have := pt_i a2
    subst this
    obtain ⟨e1, e2⟩ := tkL_len a1
    rw [List.reverse_replicate] at e2
    have ql : q.1.length = b := by have := congrArg List.length e2; simpa using this
    have e1 : SS t = q.1.reverse ++ q.2 := e1
    rw [e1] at h1
    have qt : ∀ x ∈ q.1, x.1 = elt (MM t) a := fun x hx => by
      have : x.1 ∈ q.1.map Prod.fst := List.mem_map_of_mem hx
      rw [e2] at this
      exact (List.mem_replicate.mp this).2
    obtain ⟨l, k', f1, f2, f3, f4, f5⟩ := tkV_g h1 fun x hx => by rw [qt x (by simpa using hx)]; exact hnr
    rw [List.length_reverse, ql] at f1 f2
    refine Okr.pay he fun gg => ?_
    rw [show stk (sG s gg) = stk s from rfl, f1]
    refine OpG.pushV (s := sG s gg) h ht f4 n7 ?_ fun r hr => hv r (f5 r hr)
    rw [r7]
    refine (VT_7 rne).mpr ⟨rfl, rfl, ⟨?_, by rw [rty_len]; exact Nat.le_trans hfE.len (by decide)⟩, fun w hw => ?_⟩
    · show fln (fof l.reverse) ≤ 256
      rw [← flo_len, flo_fof, List.length_reverse, f2]; omega
    · have hw : w ∈ flo (fof l.reverse) := hw
      rw [flo_fof, List.mem_reverse] at hw
      obtain ⟨i, hi, ei⟩ := List.mem_iff_getElem.mp hw
      have hx : i < q.1.reverse.length := by rw [List.length_reverse, ql, ← f2]; exact hi
      have := f3 i w (q.1.reverse[i]) (by rw [List.getElem?_eq_getElem hi, ei]) (List.getElem?_eq_getElem hx)
      rw [qt _ (by have := List.getElem_mem hx; simpa using this)] at this
      exact this
  rw [if_neg c52] at hc ⊢
  by_cases c53 : o = 53
  · rw [if_pos c53] at hc ⊢
    obtain ⟨r0, a1, hc⟩ := eb_ok hc
    obtain ⟨s', a2, hc⟩ := eb_ok hc
    cases hc
    have := pt_i a2
    subst this
    obtain ⟨b1, b2, b3, b4⟩ := tkR_i a1
    obtain ⟨r, k, v, k1, k2, k3, k4, k5, k6⟩ := one_r h ht b1 b2
    rw [b3, r7] at k4
    rw [k1]
    simp only
    rw [k3]
    simp only
    refine Okr.re (by rw [((VT_7 rne).mp k4).1]; rfl) ?_
    exact OpG.pushN h ht k5 (by omega) (rng_z (Or.inl rfl)) k6
  rw [if_neg c53] at hc ⊢
  by_cases c54 : o = 54 ∨ o = 55
  · rw [if_pos c54] at hc ⊢
    obtain ⟨r1, a0, hc⟩ := eb_ok hc
    obtain ⟨r0, a1, hc⟩ := eb_ok hc
    obtain ⟨s', a2, hc⟩ := eb_ok hc
    cases hc
    have := pt_i a2
    subst this
    obtain ⟨d1, d2⟩ := tkT_i a0
    obtain ⟨b1, b2, b3, b4⟩ := tkR_i a1
    obtain ⟨vi, ki, i1, i2, i3, i4⟩ := one_n h ht d1 d2 (by omega)
    have hp := OpG.sk h ht i3 i4
    obtain ⟨r, k, v, k1, k2, k3, k4, k5, k6⟩ := one_r hp.2.1 ht (x := r0.1) (sk := r0.2) (by rw [uS_s]; exact b1) b2
    rw [stk_K] at k1
    rw [sgn_K] at k2 k5
    rw [drf_K] at k3
    rw [b3, r7] at k4
    rw [i1, k1]
    simp only
    rw [k3]
    simp only
    have hw7 := (VT_7 rne).mp k4
    refine Okr.re (by rw [hw7.1]; rfl) (Okr.nd he fun c => ?_)
    have hlt : un vi.2 < fln v.2.2 := of_decide_eq_true c
    have hty : isRf ((if o = 55 then 9 else 8) :: elt (MM t) a) = true := by
      rw [isRf_h]
      show ((if o = 55 then 9 else 8) == 8 || (if o = 55 then 9 else 8) == 9) = true
      split <;> rfl
    refine OpG.sk h ht ⟨show RfT W (sgn s) A t (MM t) (UU t) _ _ _ from k2.ins hty (fun z => b4 ?_) ?_, k5⟩ fun q hq => ?_
    · rw [isWr_h] at z
      have z : ((if o = 55 then 9 else 8) == 9) = true := z
      split at z
      · next c => rw [c]; rfl
      · cases z
    · rw [b3, r7]; exact tst_7 rne
    · rw [List.flatMap_cons, List.mem_append] at hq
      rcases hq with z | z
      · have z : q = (r.1, r.2 ++ [un vi.2]) := by simpa [rfI] using z
        subst z
        exact drf_in k3 (by rw [flo_len]; exact hlt)
      · have := k6 q z; rw [drf_K] at this; exact this
  rw [if_neg c54] at hc ⊢
  by_cases c56 : o = 56
  · rw [if_pos c56] at hc ⊢
    obtain ⟨r1, a0, hc⟩ := eb_ok hc
    obtain ⟨r0, a1, hc⟩ := eb_ok hc
    obtain ⟨_, a2, hc⟩ := eb_ok hc
    cases hc
    obtain ⟨d1, d2⟩ := tkT_i a0
    obtain ⟨b1, b2, b3, b4⟩ := tkR_i a1
    have d1 : SS t = r1.1 :: r1.2 := d1
    rw [d1] at h1
    obtain ⟨i, ki, i1, i2, i3⟩ := h1.inv
    obtain ⟨w, rfl, w2⟩ := i2.v (by rw [d2]; exact hnr)
    rw [d2] at w2
    have i4 : ∀ q ∈ ki.flatMap rfI, (drf s q).isSome = true := fun q hq => hv q (by rw [i1]; exact vt_fl hq)
    have hp := OpG.sk h ht i3 i4
    obtain ⟨r, k, v, k1, k2, k3, k4, k5, k6⟩ := one_r hp.2.1 ht (x := r0.1) (sk := r0.2) (by rw [uS_s]; exact b1) b2
    rw [stk_K] at k1
    rw [sgn_K] at k2 k5
    rw [drf_K] at k3
    rw [b3, r7] at k4
    rw [i1, k1]
    simp only
    rw [k3]
    simp only
    have hw7 := (VT_7 rne).mp k4
    refine Okr.re (by rw [hw7.1]; rfl) (Okr.nd he fun c => ?_)
    have hlt : fln v.2.2 < 256 := of_decide_eq_true c
    obtain ⟨T, t1, t2⟩ := k2.2.1
    rw [b3, r7] at t2
    refine OpG.wr (OpG.sk h ht k5 fun q hq => by have := k6 q hq; rw [drf_K] at this; exact this) (by have := k2.2.2.1; omega) (by rw [sgn_K]; exact t1) t2 (by rw [drf_K]; exact k3) ?_ fun q hq => Or.inr fun z hz => ?_
    · refine (VT_7 rne).mpr ⟨hw7.1, hw7.2.1, ⟨?_, hw7.2.2.1.2⟩, fun y hy => ?_⟩
      · show fln (fof (flo v.2.2 ++ [w])) ≤ 256
        rw [← flo_len, flo_fof, List.length_append, flo_len]
        show fln v.2.2 + 1 ≤ 256
        omega
      · have hy : y ∈ flo (fof (flo v.2.2 ++ [w])) := hy
        rw [flo_fof, List.mem_append] at hy
        rcases hy with z | z
        · exact hw7.2.2.2 y z
        · have z : y = w := by simpa using z
          rw [z]; exact w2
    · cases z with
      | nil => rfl
      | cons i z =>
        have hz : (match (flo v.2.2)[i]? with | some w => vgt w z | none => none).isSome = true := hz
        show (match (flo (fof (flo v.2.2 ++ [w])))[i]? with | some w => vgt w z | none => none).isSome = true
        rw [flo_fof]
        cases hh : (flo v.2.2)[i]? with
        | none => rw [hh] at hz; cases hz
        | some y =>
          rw [List.getElem?_append_left (get_lt hh), hh]
          rw [hh] at hz; exact hz
  rw [if_neg c56] at hc ⊢
  by_cases c57 : o = 57
  · rw [if_pos c57] at hc ⊢
    obtain ⟨r0, a1, hc⟩ := eb_ok hc
    obtain ⟨_, a2, hc⟩ := eb_ok hc
    obtain ⟨s', a3, hc⟩ := eb_ok hc
    cases hc
    have := pt_i a3
    subst this
    obtain ⟨b1, b2, b3, b4⟩ := tkR_i a1
    obtain ⟨r, k, v, k1, k2, k3, k4, k5, k6⟩ := one_r h ht b1 b2
    have hl6 : liv (lty (UU t)) r0.2 (LL t) r0.1.2.1 2 = false := by simpa using nee_i a2
    obtain ⟨n1, n2⟩ := nlw_K h ht hk k2 (b4 rfl) k5 hl6
    rw [b3, r7] at k4
    rw [k1]
    simp only
    rw [k3]
    simp only
    have hw7 := (VT_7 rne).mp k4
    refine Okr.re (by rw [hw7.1]; rfl) ?_
    cases hgl : (flo v.2.2).getLast? with
    | none => exact he
    | some w =>
      refine Okr.re n1 ?_
      obtain ⟨T, t1, t2⟩ := k2.2.1
      rw [b3, r7] at t2
      have hdk : drf (sK s k) r = some v := by rw [drf_K]; exact k3
      have o1 := OpG.wr (w := (v.1, v.2.1, fof (flo v.2.2).dropLast)) (OpG.sk h ht k5 k6) (by have := k2.2.2.1; omega) (by rw [sgn_K]; exact t1) t2 hdk (by
        refine (VT_7 rne).mpr ⟨hw7.1, hw7.2.1, ⟨?_, hw7.2.2.1.2⟩, fun y hy => ?_⟩
        · show fln (fof (flo v.2.2).dropLast) ≤ 256
          rw [← flo_len, flo_fof, List.length_dropLast, flo_len]
          have := hw7.2.2.1.1
          omega
        · have hy : y ∈ flo (fof (flo v.2.2).dropLast) := hy
          rw [flo_fof] at hy
          exact hw7.2.2.2 y (List.dropLast_subset _ hy)) (fun q hq => Or.inl (n2 q hq))
      refine o1.trans ?_
      have c1 := o1.2.1
      have ht1 : t + 1 = (wrf (sK s k) r (v.1, v.2.1, fof (flo v.2.2).dropLast)).1 := by rw [o1.1]; exact ht
      have st := (c1.tp ht1).2.1
      rw [uS_s] at st
      have oo := OpG.pushV (v := w) (ty := elt (MM t) a) (og := (0, false)) c1 ht1 st hnr (hw7.2.2.2 w (List.mem_of_getLast? hgl)) (c1.vs ht1)
      rw [uS_s] at oo
      exact oo
  · rw [if_neg c57] at hc ⊢
    obtain ⟨r2, a00, hc⟩ := eb_ok hc
    obtain ⟨r1, a0, hc⟩ := eb_ok hc
    obtain ⟨r0, a1, hc⟩ := eb_ok hc
    obtain ⟨_, a2, hc⟩ := eb_ok hc
    cases hc
    obtain ⟨d1, d2⟩ := tkT_i a00
    obtain ⟨d3, d4⟩ := tkT_i a0
    obtain ⟨b1, b2, b3, b4⟩ := tkR_i a1
    obtain ⟨vi, wi, ki, i1, i2, i2', i3, i4⟩ := two_n (b := 3) h ht (x := r2.1) (y := r1.1) (sk := r1.2) (by rw [← d3]; exact d1) d2 d4 (by omega)
    have hp := OpG.sk h ht i3 i4
    obtain ⟨r, k, v, k1, k2, k3, k4, k5, k6⟩ := one_r hp.2.1 ht (x := r0.1) (sk := r0.2) (by rw [uS_s]; exact b1) b2
    rw [stk_K] at k1
    rw [sgn_K] at k2 k5
    rw [drf_K] at k3
    have hl6 : liv (lty (UU t)) r0.2 (LL t) r0.1.2.1 2 = false := by simpa using nee_i a2
    obtain ⟨n1, n2⟩ := nlw_K h ht hk k2 (b4 rfl) k5 hl6
    rw [b3, r7] at k4
    rw [i1, k1]
    simp only
    rw [k3]
    simp only
    have hw7 := (VT_7 rne).mp k4
    refine Okr.re (by rw [hw7.1]; rfl) (Okr.nd he fun c => Okr.re n1 ?_)
    obtain ⟨T, t1, t2⟩ := k2.2.1
    rw [b3, r7] at t2
    refine OpG.wr (OpG.sk h ht k5 fun q hq => by have := k6 q hq; rw [drf_K] at this; exact this) (by have := k2.2.2.1; omega) (by rw [sgn_K]; exact t1) t2 (by rw [drf_K]; exact k3) ?_ fun q hq => Or.inl (n2 q hq)
    refine (VT_7 rne).mpr ⟨hw7.1, hw7.2.1, ⟨?_, hw7.2.2.1.2⟩, fun y hy => ?_⟩
    · show fln (fof (lsw (flo v.2.2) (un vi.2) (un wi.2))) ≤ 256
      rw [← flo_len, flo_fof, lsw_l, flo_len]
      exact hw7.2.2.1.1
    · have hy : y ∈ flo (fof (lsw (flo v.2.2) (un vi.2) (un wi.2))) := hy
      rw [flo_fof] at hy
      exact hw7.2.2.2 y (lsw_m hy)
/-- bytes become their digest -/
theorem oDig_g (h : Cor W s A MM UU SS LL) (ht : t + 1 = s.1) {lim b : Nat} {d : Cs} (hc : (eb (tkT [7, 2] (SS t)) fun r => eb (pt [7, 2] (0, false) r.2) fun s => .ok (s, LL t)) = .ok d) : Okr W (oVec lim 59 b s) (OpG W s A MM UU SS LL t d) := by
  have he := h.2.1
  have hv := h.vs ht
  have h1 := (h.tp ht).2.1
  obtain ⟨r, a1, hc⟩ := eb_ok hc
  obtain ⟨s', a2, hc⟩ := eb_ok hc
  cases hc
  have := pt_i a2
  subst this
  obtain ⟨d1, d2⟩ := tkT_i a1
  rw [d1] at h1
  obtain ⟨i, ki, i1, i2, i3⟩ := h1.inv
  obtain ⟨w, rfl, w2⟩ := i2.v (by rw [d2]; rfl)
  rw [d2] at w2
  unfold oVec
  rw [if_neg (by omega), if_pos rfl, i1]
  simp only
  refine Okr.re (by rw [((VT_7 (T := [2]) (by simp)).mp w2).1]; rfl) (Okr.pay he fun gg => ?_)
  exact OpG.pushV (s := sG s gg) h ht i3 rfl hby_t fun q hq => hv q (by rw [i1]; exact vt_fl hq)
end
