/-! what holds while a transaction goes on: ends -/
theorem StT.len {W : Wd} {g : Sg} {A : Nat → Nat → Rx} {j : Nat} {m : Md} {u : Ux} : ∀ {k : List It} {sk : Sk}, StT W g A j m u k sk → k.length = sk.length
  | [], [], _ => rfl
  | i :: k, x :: sk, h => by rw [List.length_cons, List.length_cons, StT.len h.2]
  | [], _ :: _, h => h.elim
  | _ :: _, [], h => h.elim
theorem StT.nth {W : Wd} {g : Sg} {A : Nat → Nat → Rx} {j : Nat} {m : Md} {u : Ux} : ∀ {k : List It} {sk : Sk}, StT W g A j m u k sk → ∀ (i : Nat) (x : It) (y : Ty × Og), (k)[i]? = some x → sk[i]? = some y → ItT W g A j m u y x
  | [], [], _, i, x, y, hx, _ => by simp at hx
  | a :: k, b :: sk, h, i, x, y, hx, hy => by
    cases i with
    | zero => cases hx; cases hy; exact h.1
    | succ i => exact StT.nth h.2 i x y hx hy
  | [], _ :: _, h, _, _, _, _, _ => h.elim
  | _ :: _, [], h, _, _, _, _, _ => h.elim
theorem msk_l {k : Nat} (h : k < 40) : (2 ^ 40 - 1 + GLB).testBit k = true := by
  have : ∀ k, k < 40 → (2 ^ 40 - 1 + GLB).testBit k = true := by decide
  exact this k h
theorem msk_g {c : Nat} (h : c < 15) : (2 ^ 40 - 1 + GLB).testBit (48 + c) = true := by
  have : ∀ c, c < 15 → (2 ^ 40 - 1 + GLB).testBit (48 + c) = true := by decide
  exact this c h
/-- what lies below comes from where the other comes from -/
theorem OgM.bel {g : Sg} {A : Nat → Nat → Rx} {j : Nat} {m : Md} {u : Ux} {t : Ty} {og : Og} {r r' : Rx} (h : OgM g A j m u t og r) (h1 : r'.1 = r.1) (h2 : r.2 <+: r'.2) : OgM g A j m u t (og.1, true) r' := by
  rcases h with ⟨k, a1, a2, a3, a4⟩ | ⟨a, a1, a2, a3, a4, a5, a6⟩ | ⟨e, c, p, a1, a2, a3, a4, a5, a6, a7, a8, a9⟩
  · exact Or.inl ⟨k, a1, a2, by rw [h1]; exact a3, fun z => (by cases z)⟩
  · exact Or.inr (Or.inl ⟨a, a1, a2, by rw [h1]; exact a3, a4.trans h2, fun z => (by cases z), a6⟩)
  · exact Or.inr (Or.inr ⟨e, c, p, a1, a2, a3, by rw [h1]; exact a4, a5, a6, a7, a8, fun z => (by cases z)⟩)
section
variable {W : Wd} {s : Ms} {A : Nat → Nat → Rx} {MM : Nat → Md} {UU : Nat → Ux} {SS : Nat → Sk} {LL : Nat → Ls} {t : Nat}
theorem mset_g (h : Cor W s A MM UU SS LL) {env : Pc → Cn} (hV : EV W env) {P : Ms → Prop} : Okr W (mset env s) P := by
  have he := h.2.1
  unfold mset
  split
  · exact he
  · split
    · exact he
    · refine Okr.ask hV h (fun z => absurd z (by show (4 : Nat) ≠ 3; omega)) fun e s1 x c1 e1 e2 g1 hx hp => ?_
      rw [hx]
      simp only
      split
      · exact (c1.en (c := (x.2.2.1.1, Int64.ofInt (x.2.2.1.2.1.toInt + mor (ens s1)), x.2.2.1.2.2)) (ch := true) hx (fun z => by rw [hp] at z; exact absurd z (by show (4 : Nat) ≠ 3; omega)) (Or.inl rfl)).1.2.1
      · exact c1.2.1
theorem mend_g {KK : Nat → Sk} {SJ : Nat → Nat → Sk} (h : Cor W s A MM UU SS LL) (hk : ∀ j, j < s.1 → Lkf s A UU j) (ha : ∀ j, j < s.1 → (MM j).1 ≠ 0 ∧ Ann (MM j) (UU j) (SJ j) (lnt (MM j) (UU j)) ∧ (s.2.1 j).2.1 < (ui (UU j)).length ∧ LL j = lnt (MM j) (UU j) (s.2.1 j).2.1 ∧ SJ j (s.2.1 j).2.1 = (if j + 1 = s.1 then SS j else KK j) ∧ (SJ j (s.2.1 j).2.1).length ≤ 64) (hr : ∀ j, j + 1 < s.1 → Rtf W (sgn s) A MM UU j (SS j) (KK j)) (ht : t + 1 = s.1) {env : Pc → Cn} (hV : EV W env) {d : Cs} (hc : cEnd (MM t) (UU t) (lty (UU t)) (SS t, LL t) = .ok d) : Okr W (mend env (UU t) s) (Inv W) := by
  obtain ⟨hf, h1, h2, hll⟩ := h.tp ht
  have hv := h.vs ht
  have he := h.2.1
  unfold cEnd at hc
  obtain ⟨_, a1, hc⟩ := eb_ok hc
  obtain ⟨_, a2, hc⟩ := eb_ok hc
  have a1 : (SS t).reverse.map Prod.fst = (UU t).2.2.1.map Prod.fst := by simpa using nee_i a1
  have a2 := nee_i a2
  have ln : (SS t).length = (UU t).2.2.1.length := by have := congrArg List.length a1; simpa using this
  have lk : (stk s).length = (UU t).2.2.1.length := by rw [h1.len, ln]
  unfold mend
  refine Okr.re (by rw [lk]; simp) ?_
  by_cases c1 : s.1 = 1
  · rw [if_pos c1]
    exact mset_g h hV
  · rw [if_neg c1]
    obtain ⟨t', rfl⟩ : ∃ t', t = t' + 1 := ⟨t - 1, by have := h.1.1; omega⟩
    let s1 : Ms := (s.1 - 1, s.2.1, s.2.2)
    have ht1 : t' + 1 = s1.1 := by show t' + 1 = s.1 - 1; omega
    have c0 : Cor W s1 A MM UU SS LL := ⟨⟨by omega, by have := h.1.2; show s.1 - 1 ≤ 32; omega⟩, he, fun j hj => h.2.2.1 j (by have : j < s.1 - 1 := hj; omega), fun j hj => h.2.2.2 j (by have : j < s.1 - 1 := hj; omega)⟩
    obtain ⟨g, q, e1, e2, e3⟩ := hr t' (by omega)
    have lf : (fls (MM t') g 1).length = (UU (t' + 1)).2.2.1.length := by have := congrArg List.length e2; simpa using this
    have lr : (rsl (MM t') g q).length = (UU (t' + 1)).2.2.1.length := by unfold rsl; rw [List.length_map, lf]
    have st := (c0.tp ht1).2.1
    -- what comes, as the frame below takes it
    have items : StT W (sgn s1) A t' (MM t') (UU t') (stk s ++ stk s1) ((rsl (MM t') g q).reverse ++ SS t') := by
      refine StT.app (by rw [List.length_reverse, lr, lk]) (fun i x z hx hz => ?_) st
      have hi := get_lt hx
      have hy : (SS (t' + 1))[i]? = some ((SS (t' + 1))[i]'(by omega)) := List.getElem?_eq_getElem (by omega)
      have it := h1.nth i x _ hx hy
      generalize (SS (t' + 1))[i]'(by omega) = y at hy it
      have hz2 := rev_get hz
      rw [lr] at hz2
      have hn : (UU (t' + 1)).2.2.1.length - 1 - i < (UU (t' + 1)).2.2.1.length := by omega
      have hw : (fls (MM t') g 1)[(UU (t' + 1)).2.2.1.length - 1 - i]? = some ((fls (MM t') g 1)[(UU (t' + 1)).2.2.1.length - 1 - i]'(by omega)) := List.getElem?_eq_getElem (by omega)
      have hgv : (UU (t' + 1)).2.2.1[(UU (t' + 1)).2.2.1.length - 1 - i]? = some ((UU (t' + 1)).2.2.1[(UU (t' + 1)).2.2.1.length - 1 - i]) := List.getElem?_eq_getElem hn
      have ety := map_get e2 hw hgv
      generalize (fls (MM t') g 1)[(UU (t' + 1)).2.2.1.length - 1 - i]'(by omega) = w at hw ety
      generalize (UU (t' + 1)).2.2.1[(UU (t' + 1)).2.2.1.length - 1 - i] = gv at hgv ety
      -- its type there and here
      have eyt : y.1 = gv.1 := by
        have h3 : (SS (t' + 1)).reverse[(UU (t' + 1)).2.2.1.length - 1 - i]? = some y := by
          rw [List.getElem?_reverse (by omega), show (SS (t' + 1)).length - 1 - ((UU (t' + 1)).2.2.1.length - 1 - i) = i by omega]
          exact hy
        exact map_get a1 h3 hgv
      have ez : z = (w.1, if isRf w.1 then (if isWr w.1 then gWr q else gAll q, true) else (0, false)) := by
        unfold rsl at hz2
        rw [List.getElem?_map, hw] at hz2
        exact (Option.some.inj hz2).symm
      have ert : rty (MM t') w.1 = rty (MM (t' + 1)) y.1 := by rw [eyt]; exact ety
      have erf : isRf w.1 = isRf y.1 := by rw [isRf_h, ← rty_h (m := MM t'), ert, rty_h, ← isRf_h]
      have ewr : isWr w.1 = isWr y.1 := by rw [isWr_h, ← rty_h (m := MM t'), ert, rty_h, ← isWr_h]
      subst ez
      cases x with
      | inl v => exact ⟨by show isRf w.1 = false; rw [erf]; exact it.1, by show VT W (rty (MM t') w.1) v; rw [ert]; exact it.2⟩
      | inr r =>
        have hrx := (it : RfT W (sgn s) A (t' + 1) (MM (t' + 1)) (UU (t' + 1)) y.1 y.2 r)
        have hm0 : y.2.1 &&& (2 ^ 40 - 1 + GLB) = 0 := by
          have := List.all_eq_true.mp a2 y (List.mem_of_getElem? hy)
          rw [hrx.1] at this
          simpa using this
        obtain ⟨T, t1, t2⟩ := hrx.2.1
        rcases hrx.2.2.2 with ⟨k, b1, b2, b3, b4⟩ | ⟨a, b1, b2, b3, b4, b5, b6, b7, b8⟩ | ⟨e', c, p, b1, b2, b3, -⟩
        · exact absurd hm0 (bit_ne b2 (msk_l b1))
        · obtain ⟨x, x1, x2, x3⟩ := e3 a b7 b8
          have hw1 : isRf w.1 = true := by rw [erf]; exact hrx.1
          refine show RfT W (sgn s1) A t' (MM t') (UU t') w.1 _ r from ⟨hw1, ⟨T, t1, ?_⟩, by rw [b3]; exact x3.2.2.1, ?_⟩
          · rw [t2]
            obtain ⟨b, rr, eb1, eb2⟩ := isRf_c hrx.1
            obtain ⟨b', rr', eb1', eb2'⟩ := isRf_c hw1
            rw [eb1, eb1', rty_c (by omega), rty_c (by omega)] at ert
            rw [eb1, eb1']
            exact congrArg some (List.cons.inj ert).2.symm
          · have hwx : isWr w.1 = true → isWr x.1 = true := fun z => by rw [x2]; exact b6 (by rw [← ewr]; exact z)
            have o1 := (x3.2.2.2.wr hwx).bel b3 b4
            rw [if_pos hw1]
            refine o1.le ?_ (fun z => z)
            by_cases cw : isWr w.1 = true
            · rw [if_pos cw]
              exact gWr_sub (List.mem_of_getElem? x1) (hwx cw)
            · rw [if_neg cw]
              exact (gAll_sub (List.mem_of_getElem? x1)).1
        · exact absurd hm0 (bit_ne b2 (msk_g b3.1))
    rw [← e1] at items
    have op := OpG.sk c0 ht1 items fun r hr' => by
      rw [List.flatMap_append, List.mem_append] at hr'
      rcases hr' with z | z
      · exact hv r z
      · exact c0.vs ht1 r z
    obtain ⟨o1, o2, o3, o4, o5⟩ := op
    refine Okr.re ?_ ?_
    · rw [List.all_eq_true]
      intro r hr'
      obtain ⟨j, j1, j2⟩ := rfs_m.mp hr'
      have := o2.low j1 j2
      have j1 : j < s.1 - 1 := j1
      have : r.1.1 ≠ s.1 := by omega
      simpa using this
    · show Inv W (sK s1 (stk s ++ stk s1))
      rw [uS_e] at o2
      have es2 : (sK s1 (stk s ++ stk s1)).1 = t' + 1 := ht1.symm
      refine ⟨A, MM, UU, uS SS t' (KK t'), LL, KK, SJ, o2, fun j hj => ?_, fun j hj => ?_, fun j hj => ?_⟩
      · rw [es2] at hj
        obtain ⟨k1, k2, k3, k4⟩ := hk j (by omega)
        have same : ∀ x, x < j → rfF ((sK s1 (stk s ++ stk s1)).2.1 x) = rfF (s.2.1 x) := fun x hx => o5 x (by omega)
        exact ⟨k1, fun a h1 h2 h3 x hx r hr' => k2 a h1 h2 h3 x hx r (by rw [← same x hx]; exact hr'), k3, fun z => ⟨fun x hx r hr' => (k4 z).1 x hx r (by rw [← same x hx]; exact hr'), (k4 z).2⟩⟩
      · rw [es2] at hj
        obtain ⟨b0, b1, b2, b3, b4, b5⟩ := ha j (by omega)
        have e4 : ((sK s1 (stk s ++ stk s1)).2.1 j).2.1 = (s.2.1 j).2.1 := o4 j (by rw [← ht1]; exact hj)
        rw [e4, es2]
        refine ⟨b0, b1, b2, b3, ?_, b5⟩
        rw [b4, if_neg (by omega)]
        by_cases c : j = t'
        · subst c
          rw [if_pos rfl, uS_s]
        · rw [if_neg (by omega)]
      · rw [es2] at hj
        rw [uS_n (by omega), sgn_K]
        exact hr j (by omega)
end
