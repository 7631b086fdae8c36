/-! what holds while a transaction goes on: entries -/
section
variable {W : Wd} {s : Ms} {A : Nat → Nat → Rx} {MM : Nat → Md} {UU : Nat → Ux} {SS : Nat → Sk} {LL : Nat → Ls} {t : Nat}
theorem Cor.en (h : Cor W s A MM UU SS LL) {e : Nat} {x : En} {c : Cn} {ch : Bool} (hx : (ens s)[e]? = some x) (h1 : x.1.1 = 3 → c.1 = c.2.2.2.isSome ∧ ∀ v, c.2.2.2 = some v → VT W [6, x.1.2.2] v) (h2 : c.2.2.2 = x.2.2.1.2.2.2 ∨ ∀ q ∈ rfs s, q.1 ≠ (0, e)) : Cor W (sEn s e (cEn c ch)) A MM UU SS LL ∧ sgs s.1 (sgn s) (sgn (sEn s e (cEn c ch))) := by
  have es : sEn s e (cEn c ch) = sE s ((ens s).set e (cEn c ch x)) := by unfold sEn; rw [hx]
  rw [es]
  obtain ⟨c1, c2, c3, c4⟩ := id h
  have eg : sgs s.1 (sgn s) (sgn (sE s ((ens s).set e (cEn c ch x)))) := ⟨by show (ens s).map _ <+: ((ens s).set e (cEn c ch x)).map _; rw [map_set (f := fun e : En => e.1) (y := cEn c ch x) hx rfl]; exact List.prefix_rfl, fun _ _ => rfl, fun i z => chg_on hx (fun y => by show (x.2.2.2 || ch) = true; rw [y]; rfl) z⟩
  refine ⟨⟨c1, ?_, fun j hj => by
    obtain ⟨f1, f2, f3, f4⟩ := c3 j hj
    exact ⟨f1, f2.m eg hj rfl, f3.m eg hj rfl, f4⟩, fun j hj q hq => ?_⟩, eg⟩
  · intro y hy hy3
    have hy : y ∈ (ens s).set e (cEn c ch x) := hy
    rcases List.mem_or_eq_of_mem_set hy with z | z
    · exact c2 y z hy3
    · subst z
      exact ⟨(c2 x (List.mem_of_getElem? hx) hy3).1, h1 hy3⟩
  · have hs := c4 j hj q hq
    have : rtv (sE s ((ens s).set e (cEn c ch x))) q.1 = rtv s q.1 := by
      obtain ⟨⟨a, k⟩, p⟩ := q
      cases a with
      | succ i => rfl
      | zero =>
        show (match ((ens s).set e (cEn c ch x))[k]? with | some e => e.2.2.1.2.2.2 | none => none) = (match (ens s)[k]? with | some e => e.2.2.1.2.2.2 | none => none)
        by_cases z : e = k
        · subst z
          rw [List.getElem?_set_self (get_lt hx), hx]
          rcases h2 with h2 | h2
          · exact h2
          · exact absurd rfl (h2 _ (rfs_m.mpr ⟨j, hj, hq⟩))
        · rw [List.getElem?_set_ne z]
    unfold drf at hs ⊢
    rw [this]; exact hs
theorem OpG.en {d : Cs} {s1 : Ms} (h : OpG W s A MM UU SS LL t d s1) {e : Nat} {x : En} {c : Cn} {ch : Bool} (hx : (ens s1)[e]? = some x) (h1 : x.1.1 = 3 → c.1 = c.2.2.2.isSome ∧ ∀ v, c.2.2.2 = some v → VT W [6, x.1.2.2] v) (h2 : c.2.2.2 = x.2.2.1.2.2.2 ∨ ∀ q ∈ rfs s1, q.1 ≠ (0, e)) : OpG W s A MM UU SS LL t d (sEn s1 e (cEn c ch)) := by
  obtain ⟨a1, a2, a3, a4, a5⟩ := h
  obtain ⟨b1, b2⟩ := a2.en (ch := ch) hx h1 h2
  have es : sEn s1 e (cEn c ch) = sE s1 ((ens s1).set e (cEn c ch x)) := by unfold sEn; rw [hx]
  refine ⟨?_, b1, a3.trans (by rw [a1] at b2; exact b2), ?_, ?_⟩
  · rw [es]; exact a1
  · rw [es]; exact a4
  · rw [es]; exact a5
theorem OpG.ask {d : Cs} {s1 s2 : Ms} (e1 : s1.1 = s.1) (e2 : s1.2.1 = s.2.1) (g1 : sgs s.1 (sgn s) (sgn s1)) (h : OpG W s1 A MM UU SS LL t d s2) : OpG W s A MM UU SS LL t d s2 := by
  obtain ⟨b1, b2, b3, b4, b5⟩ := h
  rw [e1] at b3 b4
  rw [e2] at b4 b5
  exact ⟨by rw [b1, e1], b2, g1.trans b3, b4, b5⟩
theorem stk_a {s1 : Ms} (e1 : s1.1 = s.1) (e2 : s1.2.1 = s.2.1) : stk s1 = stk s ∧ lcs s1 = lcs s := by
  unfold stk lcs tpf
  rw [e1, e2]; exact ⟨rfl, rfl⟩
theorem Lkf.a {s1 : Ms} (e2 : s1.2.1 = s.2.1) {j : Nat} (h : Lkf s A UU j) : Lkf s1 A UU j := by
  unfold Lkf at h ⊢
  rw [e2]; exact h
theorem oRes_g (h : Cor W s A MM UU SS LL) (ht : t + 1 = s.1) (hk : Lkf s A UU t) (hw : W (MM t).1 = some (MM t)) (h32 : (MM t).2.1.length ≤ 32) {env : Pc → Cn} (hV : EV W env) {snd : Int64} {lim o a : Nat} {d : Cs} (ho : 47 ≤ o ∧ o < 52) (ha : a < (MM t).2.1.length) (hc : cRes (MM t) (UU t) (lty (UU t)) o a (SS t, LL t) = .ok d) : Okr W (oRes snd env lim o (MM t) a s) (OpG W s A MM UU SS LL t d) := by
  have hv := h.vs ht
  obtain ⟨hf, h1, h2, hl⟩ := h.tp ht
  unfold cRes at hc
  obtain ⟨r, a1, hc⟩ := eb_ok hc
  obtain ⟨_, a2, hc⟩ := eb_ok hc
  obtain ⟨_, a3, hc⟩ := eb_ok hc
  obtain ⟨d1, d2⟩ := tkT_i a1
  have hR := nee_i a2
  have d1 : SS t = r.1 :: r.2 := d1
  rw [d1] at h1
  obtain ⟨i, k, i1, i2, i3⟩ := h1.inv
  have hnr : isRf r.1.1 = false := by
    rw [d2]
    split <;> rfl
  obtain ⟨v, rfl, v2⟩ := i2.v hnr
  have i4 : ∀ q ∈ k.flatMap rfI, (drf s q).isSome = true := fun q hq => hv q (by rw [i1]; exact vt_fl hq)
  have hid : sid (MM t) a = 256 * (MM t).1 + a := sid_o ha
  unfold oRes
  rw [i1]
  simp only
  refine Okr.re ?_ ?_
  · have := hdk_h v2.1
    rw [rty_h, d2] at this
    rw [this]
    by_cases c : o = 47
    · rw [if_pos c, if_pos c]; rfl
    · rw [if_neg c, if_neg c]; rfl
  refine Okr.ask hV h (fun _ => ⟨MM t, by show W ((256 * (MM t).1 + a) / 256) = _; rw [show (256 * (MM t).1 + a) / 256 = (MM t).1 by omega]; exact hw, by show (256 * (MM t).1 + a) % 256 < _; omega⟩) fun e s1 x c1 e1 e2 g1 hx hp => ?_
  have ht1 : t + 1 = s1.1 := by rw [e1]; exact ht
  obtain ⟨es1, es2⟩ := stk_a e1 e2
  have he := c1.2.1
  obtain ⟨-, t1, t2, tl⟩ := c1.tp ht1
  rw [es1, i1, d1] at t1
  obtain ⟨t3, t4⟩ : ItT W (sgn s1) A t (MM t) (UU t) r.1 (.inl v) ∧ StT W (sgn s1) A t (MM t) (UU t) k r.2 := t1
  have j4 : ∀ q ∈ k.flatMap rfI, (drf s1 q).isSome = true := fun q hq => c1.vs ht1 q (by rw [es1, i1]; exact vt_fl hq)
  have x3 : x.1.1 = 3 := by rw [hp]
  have xid : x.1.2.2 = 256 * (MM t).1 + a := by rw [hp]
  obtain ⟨-, xe, xt⟩ := he x (List.mem_of_getElem? hx) x3
  rw [xid] at xt
  have gp : (sgn s1).1[e]? = some x.1 := by unfold sgn; rw [List.getElem?_map, hx]; rfl
  rw [hx]
  simp only
  by_cases c47 : o = 47
  · rw [if_pos c47] at hc ⊢
    cases hc
    refine Okr.nd he fun nb => Okr.pay he fun gg => ?_
    have hno : x.2.2.1.2.2.2 = none := by
      have : x.2.2.1.1 = false := by simpa using nb
      rw [xe] at this
      simpa using this
    rw [d2, if_pos c47, rty_6, hid] at v2
    refine OpG.ask e1 e2 g1 (OpG.en (OpG.sk (s := sG s1 gg) c1 ht1 t4 j4) hx (fun _ => ⟨rfl, fun w hw => ?_⟩) (Or.inr fun q hq z => ?_))
    · cases hw; rw [xid]; exact v2
    · obtain ⟨j, j1, j2⟩ := rfs_m.mp hq
      have := (OpG.sk (s := sG s1 gg) c1 ht1 t4 j4).2.1.2.2.2 j j1 q j2
      unfold drf rtv at this
      rw [z] at this
      simp only at this
      rw [show ens (sK (sG s1 gg) k) = ens s1 from rfl, hx, ] at this
      simp only at this
      rw [hno] at this; cases this
  rw [if_neg c47] at hc ⊢
  by_cases c49 : o = 49
  · rw [if_neg (by omega), if_pos c49] at hc
    rw [if_pos c49]
    obtain ⟨s', a4, hc⟩ := eb_ok hc
    cases hc
    have := pt_i a4
    subst this
    refine Okr.pay he fun gg => ?_
    exact OpG.ask e1 e2 g1 (OpG.pushN (s := sG s1 gg) c1 ht1 t4 (by omega) (rng_t _) j4)
  rw [if_neg c49]
  refine Okr.nd he fun nb => Okr.pay he fun gg => ?_
  obtain ⟨w, hwv⟩ : ∃ w, x.2.2.1.2.2.2 = some w := by
    rw [xe] at nb
    exact Option.isSome_iff_exists.mp nb
  by_cases c48 : o = 48
  · rw [if_pos c48] at hc ⊢
    obtain ⟨_, a4, hc⟩ := eb_ok hc
    obtain ⟨s', a5, hc⟩ := eb_ok hc
    cases hc
    have := pt_i a5
    subst this
    rw [hwv]
    simp only
    have hv6 : liv (lty (UU t)) r.2 (LL t) (2 ^ (48 + a % 15)) 0 = false := by simpa using nee_i a4
    have nr := nrt_g c1 ht1 (hk.a e2) (e := e) (x := a % 15) gp (by rw [xid]; congr 1; omega) hR t4 t2 tl hv6
    have nq : ∀ q ∈ rfs s1, q.1 ≠ (0, e) := fun q hq => by
      obtain ⟨j, j1, j2⟩ := rfs_m.mp hq
      by_cases c : j = t
      · subst c
        refine nr.1 q ?_
        have j2 : q ∈ (s1.2.1 j).2.2.2.flatMap rfI ++ (List.range 40).flatMap (fun k => rfO ((s1.2.1 j).2.2.1 k)) := j2
        have z1 : (s1.2.1 j).2.2.2 = .inl v :: k := by rw [← i1, ← es1]; unfold stk; rw [tpt ht1]
        have z2 : (s1.2.1 j).2.2.1 = lcs s1 := by unfold lcs; rw [tpt ht1]
        rw [z1, z2, List.flatMap_cons] at j2
        exact j2
      · exact nr.2 j (by omega) q j2
    refine Okr.re ?_ ?_
    · unfold nrr
      rw [List.all_eq_true]
      intro q hq
      simpa using nq q hq
    · have o1 := OpG.pushV (s := sG s1 gg) (v := w) (ty := [6, a]) (og := (0, false)) c1 ht1 t4 rfl (by rw [rty_6, hid]; exact xt w hwv) j4
      refine OpG.ask e1 e2 g1 (OpG.en o1 hx (fun _ => ⟨rfl, fun w hw => by cases hw⟩) (Or.inr fun q hq => ?_))
      rcases rfs_K (s := sG s1 gg) ht1 hq with z | ⟨j, j1, j2⟩
      · refine nr.1 q ?_
        rw [List.flatMap_cons] at z
        exact z
      · exact nq q (rfs_m.mpr ⟨j, by omega, j2⟩)
  · rw [if_neg c48, if_neg c49] at hc
    rw [if_neg c48]
    obtain ⟨_, a4, hc⟩ := eb_ok hc
    obtain ⟨s', a5, hc⟩ := eb_ok hc
    cases hc
    have := pt_i a5
    subst this
    have hty : isRf [if o = 50 then 8 else 9, 6, a] = true := by
      rw [isRf_h]
      show ((if o = 50 then 8 else 9) == 8 || (if o = 50 then 8 else 9) == 9) = true
      split <;> rfl
    have hdr : (drf s1 ((0, e), [])).isSome = true := by
      unfold drf rtv
      simp only
      rw [hx]
      simp only
      rw [hwv]; rfl
    have hx0 : (ens (sG s1 gg))[e]? = some x := hx
    obtain ⟨c1', g1'⟩ := Cor.en (s := sG s1 gg) (ch := o == 51) c1 hx0 (c := x.2.2.1) (fun _ => ⟨xe, fun w hw => by rw [xid]; exact xt w hw⟩) (Or.inl rfl)
    have es : sEn (sG s1 gg) e (cEn x.2.2.1 (o == 51)) = sE (sG s1 gg) ((ens s1).set e (cEn x.2.2.1 (o == 51) x)) := by unfold sEn; rw [hx0]; rfl
    have es2 : sEn (sK (sG s1 gg) (.inr ((0, e), []) :: k)) e (cEn x.2.2.1 (o == 51)) = sK (sE (sG s1 gg) ((ens s1).set e (cEn x.2.2.1 (o == 51) x))) (.inr ((0, e), []) :: k) := by
      have hx1 : (ens (sK (sG s1 gg) (.inr ((0, e), []) :: k)))[e]? = some x := hx
      unfold sEn; rw [hx1]; rfl
    rw [es] at c1' g1'
    have g1'' : sgs s1.1 (sgn s1) (sgn (sE (sG s1 gg) ((ens s1).set e (cEn x.2.2.1 (o == 51) x)))) := g1'
    have gp2 : (sgn (sE (sG s1 gg) ((ens s1).set e (cEn x.2.2.1 (o == 51) x)))).1[e]? = some x.1 := pre_get g1''.1 gp
    have hch : isWr [if o = 50 then 8 else 9, 6, a] = true → (sgn (sE (sG s1 gg) ((ens s1).set e (cEn x.2.2.1 (o == 51) x)))).2.2 e = true := fun z => by
      show chgd ((ens s1).set e (cEn x.2.2.1 (o == 51) x)) e = true
      unfold chgd
      rw [List.getElem?_set_self (get_lt hx)]
      show (x.2.2.2 || (o == 51)) = true
      have : o = 51 := by
        by_cases c : o = 50
        · rw [isWr_h, if_pos c] at z; cases z
        · omega
      rw [this]; simp
    have rv2 : ∀ q : Rx, drf (sE (sG s1 gg) ((ens s1).set e (cEn x.2.2.1 (o == 51) x))) q = drf s1 q := fun q => by
      unfold drf
      have : rtv (sE (sG s1 gg) ((ens s1).set e (cEn x.2.2.1 (o == 51) x))) q.1 = rtv s1 q.1 := by
        obtain ⟨⟨a', k'⟩, p'⟩ := q
        cases a' with
        | succ i => rfl
        | zero =>
          show (match ((ens s1).set e (cEn x.2.2.1 (o == 51) x))[k']? with | some e => e.2.2.1.2.2.2 | none => none) = (match (ens s1)[k']? with | some e => e.2.2.1.2.2.2 | none => none)
          by_cases z : e = k'
          · subst z
            rw [List.getElem?_set_self (get_lt hx), hx]
            rfl
          · rw [List.getElem?_set_ne z]
      rw [this]
    rw [es2]
    refine OpG.ask (s1 := sE (sG s1 gg) ((ens s1).set e (cEn x.2.2.1 (o == 51) x))) e1 e2 (g1.trans (by have h9 := g1''; rw [e1] at h9; exact h9)) (OpG.sk (s := sE (sG s1 gg) ((ens s1).set e (cEn x.2.2.1 (o == 51) x))) c1' ht1 (k := .inr ((0, e), []) :: k) (sk := ([if o = 50 then 8 else 9, 6, a], (2 ^ (48 + a % 15), false)) :: r.2) ⟨show RfT W (sgn (sE (sG s1 gg) ((ens s1).set e (cEn x.2.2.1 (o == 51) x)))) A t (MM t) (UU t) _ _ _ from ⟨hty, ⟨[6, 256 * (MM t).1 + a], ?_, ?_⟩, by show 0 ≤ t + 1; omega, Or.inr (Or.inr ⟨e, a % 15, x.1, hR, by rw [Nat.testBit_two_pow]; simp, ⟨Nat.mod_lt _ (by omega), hch⟩, rfl, gp2, x3, by rw [xid]; omega, by rw [xid]; congr 1; omega, fun _ => rfl⟩)⟩, t4.m g1'' (by have := ht1; show t < s1.1; omega) rfl⟩ fun q hq => ?_)
    · unfold rtT
      simp only
      rw [gp2]
      simp only
      rw [if_pos x3, xid]
    · show some [6, 256 * (MM t).1 + a] = some (rty (MM t) [6, a])
      rw [rty_6, hid]
    · rw [rv2]
      rw [List.flatMap_cons, List.mem_append] at hq
      rcases hq with z | z
      · have z : q = ((0, e), []) := by simpa [rfI] using z
        subst z
        exact hdr
      · exact j4 q z
end
