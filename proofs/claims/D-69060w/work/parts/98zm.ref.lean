/-! what holds while a transaction goes on: references, packing -/
theorem sid_o {m : Md} {k : Nat} (hk : k < m.2.1.length) : sid m k = 256 * m.1 + k := by unfold sid; rw [if_pos hk]
theorem fdi_o {W : Wd} {m : Md} {k : Nat} (hw : W m.1 = some m) (hk : k < m.2.1.length) (h32 : m.2.1.length ≤ 32) : fdi W (sid m k) = (fdl m k).map (rty m) := by
  unfold fdi
  rw [sid_o hk, show (256 * m.1 + k) / 256 = m.1 by omega, show (256 * m.1 + k) % 256 = k by omega, hw]
  exact if_pos hk
theorem fdl_o {m : Md} {k : Nat} {st : Sx} (h : m.2.1[k]? = some st) : fdl m k = st.2.2.map Prod.fst := by unfold fdl; rw [h]
theorem fdt_o {m : Md} {k i : Nat} {st : Sx} (h : m.2.1[k]? = some st) (hi : i < st.2.2.length) : ((fdl m k).map (rty m))[i]? = some (rty m (fdt m k i)) := by
  rw [fdl_o h, List.getElem?_map, List.getElem?_map, List.getElem?_eq_getElem hi]
  unfold fdt
  rw [h]
  simp only
  rw [List.getElem?_eq_getElem hi]; rfl
section
variable {W : Wd} {s : Ms} {A : Nat → Nat → Rx} {MM : Nat → Md} {UU : Nat → Ux} {SS : Nat → Sk} {LL : Nat → Ls} {t : Nat}
theorem Cor.rvv (h : Cor W s A MM UU SS LL) : RTV W s := RTV.mk (fun j hj => ⟨(h.2.2.1 j hj).1, (h.2.2.1 j hj).2.2.1⟩) h.2.1
/-- a reference on top, and what it points to -/
theorem one_r (h : Cor W s A MM UU SS LL) (ht : t + 1 = s.1) {x : Ty × Og} {sk : Sk} (hs : SS t = x :: sk) (hx : isRf x.1 = true) : ∃ r k v, stk s = .inr r :: k ∧ RfT W (sgn s) A t (MM t) (UU t) x.1 x.2 r ∧ drf s r = some v ∧ VT W (rty (MM t) x.1.tail) v ∧ StT W (sgn s) A t (MM t) (UU t) k sk ∧ ∀ q ∈ k.flatMap rfI, (drf s q).isSome = true := by
  obtain ⟨-, h1, -, -⟩ := h.tp ht
  have hv := h.vs ht
  rw [hs] at h1
  obtain ⟨i, k1, e1, e2, e3⟩ := h1.inv
  obtain ⟨r, rfl, r2⟩ := e2.r hx
  have hd := hv r (by rw [e1, List.flatMap_cons]; exact List.mem_append_left _ (by simp [rfI]))
  obtain ⟨v, v1, v2⟩ := r2.val (by omega) h.rvv hd
  exact ⟨r, k1, v, e1, r2, v1, v2, e3, fun q hq => hv q (by rw [e1]; exact vt_fl hq)⟩
/-- further in: a part of what is pointed to -/
theorem RfT.ins {g : Sg} {j : Nat} {m : Md} {u : Ux} {ty ty' : Ty} {og : Og} {r : Rx} {i : Nat} (h : RfT W g A j m u ty og r) (h1 : isRf ty' = true) (h2 : isWr ty' = true → isWr ty = true) (h3 : tst W (rty m ty.tail) i = some (rty m ty'.tail)) : RfT W g A j m u ty' (og.1, true) (r.1, r.2 ++ [i]) := by
  obtain ⟨a1, ⟨T, a2, a3⟩, a4, a5⟩ := h
  refine ⟨h1, ⟨T, a2, ?_⟩, a4, (a5.wr h2).ins i⟩
  show tpa W T (r.2 ++ [i]) = _
  rw [tpa_ap, a3]
  show (match tst W (rty m ty.tail) i with | some U => tpa W U [] | none => none) = _
  rw [h3]; rfl
theorem drf_in {r : Rx} {v : VL} {i : Nat} (h : drf s r = some v) (hi : i < (flo v.2.2).length) : (drf s (r.1, r.2 ++ [i])).isSome = true := by
  unfold drf at h ⊢
  cases hh : rtv s r.1 with
  | none => rw [hh] at h; cases h
  | some v0 =>
    rw [hh] at h
    have h : vgt v0 r.2 = some v := h
    show (vgt v0 (r.2 ++ [i])).isSome = true
    rw [vgt_ap, h]
    show (match (flo v.2.2)[i]? with | some w => vgt w [] | none => none).isSome = true
    rw [List.getElem?_eq_getElem hi]; rfl
theorem OpG.wr {d : Cs} {s1 : Ms} (h : OpG W s A MM UU SS LL t d s1) {r : Rx} {T U : List Nat} {v w : VL} (hr : r.1.1 ≤ s.1) (h1 : rtT W (sgn s1) r.1 = some T) (h2 : tpa W T r.2 = some U) (hd : drf s1 r = some v) (hw : VT W U w) (hv : ∀ q ∈ rfs s1, blw r q = false ∨ ∀ z, (vgt v z).isSome = true → (vgt w z).isSome = true) : OpG W s A MM UU SS LL t d (wrf s1 r w) := by
  obtain ⟨a1, a2, a3, a4, a5⟩ := h
  obtain ⟨b1, b2, b3, b4⟩ := a2.wr (by rw [a1]; exact hr) h1 h2 hd hw hv
  exact ⟨by rw [b2, a1], b1, by rw [b3]; exact a3, fun j hj => by rw [(b4 j).2.2.1]; exact a4 j hj, fun j hj => by rw [(b4 j).1]; exact a5 j hj⟩
theorem drf_K {k : List It} {r : Rx} : drf (sK s k) r = drf s r := drf_F (s := s) (f := ((tpf s).1, (tpf s).2.1, (tpf s).2.2.1, k)) rfl r
theorem sgn_K {k : List It} : sgn (sK s k) = sgn s := sgn_F (s := s) (f := ((tpf s).1, (tpf s).2.1, (tpf s).2.2.1, k)) rfl
/-- nothing alive lies below, where the checker says so -/
theorem nlw_K (h : Cor W s A MM UU SS LL) (ht : t + 1 = s.1) (hk : Lkf s A UU t) {r : Rx} {ty : Ty} {og : Og} (hr : RfT W (sgn s) A t (MM t) (UU t) ty og r) (hw : isWr ty = true) {k : List It} {sk : Sk} (h1 : StT W (sgn s) A t (MM t) (UU t) k sk) (hv : liv (lty (UU t)) sk (LL t) og.1 2 = false) : nlw (sK s k) r = true ∧ ∀ q ∈ rfs (sK s k), blw r q = false := by
  obtain ⟨-, -, h2, hl⟩ := h.tp ht
  obtain ⟨n1, n2⟩ := nlw_of h ht hk hr hw h1 h2 hl hv
  have : ∀ q ∈ rfs (sK s k), blw r q = false := fun q hq => by
    rcases rfs_K ht hq with z | ⟨j, j1, j2⟩
    · exact n1 q z
    · exact n2 j j1 q j2
  refine ⟨?_, this⟩
  unfold nlw
  rw [List.all_eq_true]
  intro q hq
  rw [this q hq]; rfl
theorem oRef_g (h : Cor W s A MM UU SS LL) (ht : t + 1 = s.1) (hk : Lkf s A UU t) (hw : W (MM t).1 = some (MM t)) (h32 : (MM t).2.1.length ≤ 32) {lim o a b : Nat} {d : Cs} (ho : 16 ≤ o ∧ o < 21) (hfd : o < 18 → ∃ st, (MM t).2.1[a]? = some st ∧ b < st.2.2.length) (hc : (if o < 18 then cFld (MM t) (o == 17) a b (SS t, LL t) else cRef (MM t) (lty (UU t)) o (SS t, LL t)) = .ok d) : Okr W (oRef lim o b s) (OpG W s A MM UU SS LL t d) := by
  have he := h.2.1
  unfold oRef
  by_cases c18 : o < 18
  · rw [if_pos c18] at hc
    obtain ⟨r0, a1, hc⟩ := eb_ok hc
    obtain ⟨s', a2, hc⟩ := eb_ok hc
    cases hc
    have := pt_i a2
    subst this
    obtain ⟨b1, b2, b3, b4⟩ := tkR_i a1
    obtain ⟨r, k, v, k1, k2, k3, k4, k5, k6⟩ := one_r h ht b1 b2
    obtain ⟨st, st1, st2⟩ := hfd c18
    have hal := get_lt st1
    rw [k1]
    simp only
    rw [k3]
    simp only
    rw [if_pos c18]
    rw [b3, rty_6] at k4
    have ef := fdi_o hw hal h32
    have len : (flo v.2.2).length = st.2.2.length := by
      have := (VT_iff.mp k4).2.1
      rw [this]
      show (fdi W (sid (MM t) a)).length = _
      rw [ef, fdl_o st1]; simp
    have hb : b < (flo v.2.2).length := by rw [len]; exact st2
    rw [List.getElem?_eq_getElem hb]
    simp only
    have k41 : v.1 = 6 := hdk_h k4.1
    refine Okr.re (by rw [k41]; rfl) ?_
    have hty : isRf ((if (o == 17) = true then 9 else 8) :: fdt (MM t) a b) = true := by
      rw [isRf_h]
      show ((if (o == 17) = true then 9 else 8) == 8 || (if (o == 17) = true then 9 else 8) == 9) = true
      split <;> rfl
    refine OpG.sk h ht ⟨show RfT W (sgn s) A t (MM t) (UU t) _ _ _ from k2.ins hty (fun z => b4 ?_) ?_, k5⟩ fun q hq => ?_
    · rw [isWr_h] at z
      have z : ((if (o == 17) = true then 9 else 8) == 9) = true := z
      split at z
      · assumption
      · cases z
    · rw [b3, rty_6]
      show (fdi W (sid (MM t) a))[b]? = _
      rw [ef]
      exact fdt_o st1 st2
    · rw [List.flatMap_cons, List.mem_append] at hq
      rcases hq with z | z
      · have z : q = (r.1, r.2 ++ [b]) := by simpa [rfI] using z
        subst z
        exact drf_in k3 hb
      · exact k6 q z
  · rw [if_neg c18] at hc
    unfold cRef at hc
    obtain ⟨r0, a1, hc⟩ := eb_ok hc
    obtain ⟨_, a2, hc⟩ := eb_ok hc
    have b1 := tk_i a1
    have b2 := nee_i a2
    obtain ⟨r, k, v, k1, k2, k3, k4, k5, k6⟩ := one_r h ht b1 b2
    rw [k1]
    simp only
    rw [k3]
    simp only
    rw [if_neg c18]
    by_cases c1 : o = 18
    · rw [if_pos c1] at hc ⊢
      obtain ⟨_, a3, hc⟩ := eb_ok hc
      obtain ⟨s', a4, hc⟩ := eb_ok hc
      cases hc
      have := pt_i a4
      subst this
      exact Okr.pay he fun g => OpG.pushV (s := sG s g) h ht k5 (VT_nr k4) k4 k6
    · rw [if_neg c1] at hc ⊢
      obtain ⟨_, a3, hc⟩ := eb_ok hc
      have b3 := nee_i a3
      by_cases c2 : o = 20
      · rw [if_pos c2] at hc
        rw [if_neg (by omega)]
        obtain ⟨s', a4, hc⟩ := eb_ok hc
        cases hc
        have := pt_i a4
        subst this
        have e := OpG.sk h ht (k := .inr r :: k) (sk := (8 :: r0.1.1.tail, r0.1.2) :: r0.2) ⟨show RfT W (sgn s) A t (MM t) (UU t) _ _ _ from ⟨rfl, k2.2.1, k2.2.2.1, k2.2.2.2.wr (fun z => by cases z)⟩, k5⟩ fun q hq => h.vs ht q (by rw [k1]; exact hq)
        have e2 : sK s (.inr r :: k) = s := by
          rw [← k1]
          refine Prod.ext rfl (Prod.ext (funext fun j => ?_) rfl)
          show uF s.2.1 (s.1 - 1) _ j = s.2.1 j
          by_cases c : j = s.1 - 1
          · rw [c, uF_s]; rfl
          · rw [uF_n c]
        rw [e2] at e
        exact e
      · rw [if_neg c2] at hc
        have c19 : o = 19 := by omega
        rw [if_pos c19]
        obtain ⟨q0, a4, hc⟩ := eb_ok hc
        obtain ⟨_, a5, hc⟩ := eb_ok hc
        obtain ⟨_, a6, hc⟩ := eb_ok hc
        cases hc
        obtain ⟨d1, d2⟩ := tkT_i a4
        rw [d1] at k5
        obtain ⟨i, k', f1, f2, f3⟩ := k5.inv
        have hnr := VT_nr k4
        obtain ⟨w, rfl, w2⟩ := f2.v (by rw [d2]; exact hnr)
        rw [d2] at w2
        subst f1
        have hv6 : liv (lty (UU t)) q0.2 (LL t) r0.1.2.1 2 = false := by simpa using nee_i a6
        obtain ⟨n1, n2⟩ := nlw_K h ht hk k2 b3 f3 hv6
        simp only
        refine Okr.re ?_ ?_
        · rw [Bool.and_eq_true, hdk_k w2.1 k4.1]
          exact ⟨by simp, n1⟩
        · obtain ⟨T, t1, t2⟩ := k2.2.1
          refine OpG.wr (OpG.sk h ht f3 fun q hq => k6 q (vt_fl hq)) (by have := k2.2.2.1; omega) (by rw [sgn_K]; exact t1) t2 (by rw [drf_K]; exact k3) w2 fun q hq => Or.inl (n2 q hq)
end
