/-! what holds while a transaction goes on: coins -/
/-- what functions of the coin's module take and give -/
def cft (n : Nat) : List (List Nat) × List (List Nat) := if n = 0 then ([[3]], [[6, 0]]) else if n = 1 then ([[5], [6, 0]], []) else if n = 2 then ([[8, 6, 0]], [[3]]) else if n = 3 then ([[6, 0], [6, 0]], [[6, 0]]) else if n = 4 then ([[6, 0], [3]], [[6, 0], [6, 0]]) else ([[5]], [[3]])
theorem map_1 {α β : Type} {f : α → β} {l : List α} {b : β} (h : l.map f = [b]) : ∃ x, l = [x] ∧ f x = b := by
  cases l with
  | nil => cases h
  | cons x l =>
    cases l with
    | nil => exact ⟨x, rfl, by simpa using h⟩
    | cons y l => simp at h
theorem map_2 {α β : Type} {f : α → β} {l : List α} {b c : β} (h : l.map f = [b, c]) : ∃ x y, l = [x, y] ∧ f x = b ∧ f y = c := by
  cases l with
  | nil => cases h
  | cons x l =>
    have h : f x :: l.map f = [b, c] := h
    obtain ⟨h1, h2⟩ := List.cons.inj h
    obtain ⟨y, rfl, h3⟩ := map_1 h2
    exact ⟨x, y, rfl, h1, h3⟩
theorem rf_of {m : Md} {t : Ty} {b : Nat} {T : List Nat} (h : rty m t = b :: T) : isRf t = (b == 8 || b == 9) ∧ isWr t = (b == 9) := by
  have : t.headD 0 = b := by rw [← rty_h (m := m), h]; rfl
  rw [isRf_h, isWr_h, this]; exact ⟨rfl, rfl⟩
theorem VT_c {W : Wd} {v : VL} (hF : fdi W 0 = [[3]]) (h : VT W [6, 0] v) : v.1 = 6 ∧ ∃ y, cvl v = some y := by
  obtain ⟨g1, g2, g3⟩ := VT_iff.mp h
  have g1 : v.1 = 6 ∧ _ := g1
  have g2 : (flo v.2.2).length = (fdi W 0).length := g2
  rw [hF] at g2
  refine ⟨g1.1, ?_⟩
  unfold cvl
  rw [if_pos g1.1]
  have : 0 < (flo v.2.2).length := by rw [g2]; decide
  rw [List.getElem?_eq_getElem this]
  exact ⟨_, rfl⟩
theorem vC_t {W : Wd} {y : Int64} (hF : fdi W 0 = [[3]]) : VT W [6, 0] (6, (0, 0), fof [(3, (0, y), .leaf)]) := by
  refine VT_iff.mpr ⟨⟨rfl, rfl⟩, ?_, fun i w U hw hU => ?_⟩
  · show 1 = (fdi W 0).length
    rw [hF]; rfl
  · have hU : (fdi W 0)[i]? = some U := hU
    rw [hF] at hU
    cases i with
    | zero => cases hU; cases hw; exact VT_p (by omega) (by omega) (rng_z (Or.inl rfl))
    | succ i => simp at hU
section
variable {W : Wd} {s : Ms} {A : Nat → Nat → Rx} {MM : Nat → Md} {UU : Nat → Ux} {SS : Nat → Sk} {LL : Nat → Ls} {t : Nat}
theorem oCoi_g (h : Cor W s A MM UU SS LL) (ht : t + 1 = s.1) {env : Pc → Cn} (hV : EV W env) (hF : fdi W 0 = [[3]]) {snd : Int64} {lim g n : Nat} {d : Cs} (hT : (fls (MM t) g 0).map (fun x => rty (MM t) x.1) = (cft n).1) (hG : (fls (MM t) g 1).map (fun x => rty (MM t) x.1) = (cft n).2) (hn : n < 6) (hc : cCall (MM t) (UU t) (lty (UU t)) g (SS t, LL t) = .ok d) : Okr W (oCoi snd env lim n s) (OpG W s A MM UU SS LL t d) := by
  have hv := h.vs ht
  obtain ⟨hf, h1, h2, hl⟩ := h.tp ht
  have he := h.2.1
  unfold cCall at hc
  obtain ⟨q, a1, hc⟩ := eb_ok hc
  obtain ⟨_, a2, hc⟩ := eb_ok hc
  obtain ⟨_, a3, hc⟩ := eb_ok hc
  obtain ⟨_, a4, hc⟩ := eb_ok hc
  obtain ⟨sk, a5, hc⟩ := eb_ok hc
  cases hc
  obtain ⟨d1, d2⟩ := tkL_len a1
  rw [List.reverse_reverse] at d2
  have d3 := ptL_i a5
  subst d3
  have d1 : SS t = q.1.reverse ++ q.2 := d1
  rw [d1] at h1
  have hq : q.1.map (fun x => rty (MM t) x.1) = (cft n).1 := by
    rw [← hT]
    have : q.1.map (fun x => rty (MM t) x.1) = (q.1.map Prod.fst).map (rty (MM t)) := by rw [List.map_map]; rfl
    rw [this, d2, List.map_map]; rfl
  have ask : ∀ {p : Pc} {k : Nat → Ms → Rz} {P : Ms → Prop}, p.1 ≠ 3 → (∀ e s1 x, Cor W s1 A MM UU SS LL → s1.1 = s.1 → s1.2.1 = s.2.1 → sgs s.1 (sgn s) (sgn s1) → (ens s1)[e]? = some x → x.1 = p → Okr W (k e s1) P) → Okr W (mask env true p s k) P := fun hp hk => Okr.ask hV h (fun z => absurd z hp) hk
  unfold oCoi
  rcases (show n = 0 ∨ n = 1 ∨ n = 2 ∨ n = 3 ∨ n = 4 ∨ n = 5 by omega) with z | z | z | z | z | z
  · -- coins of the sender's
    subst z
    obtain ⟨x, hx, x1⟩ := map_1 hq
    obtain ⟨y, hy, y1⟩ := map_1 hG
    rw [hx] at h1
    rw [hy]
    rw [if_pos rfl]
    obtain ⟨i, k, i1, i2, i3⟩ := StT.inv (x := x) (sk := q.2) h1
    obtain ⟨v, rfl, v2⟩ := i2.v (rf_of x1).1
    rw [x1] at v2
    obtain ⟨v3, v4, -⟩ := VT_b v2
    rw [i1]
    simp only
    refine Okr.re (by rw [v3]; rfl) (ask (by show (1 : Nat) ≠ 3; omega) fun e s1 x' c1 e1 e2 g1 hx' hp => ?_)
    have ht1 : t + 1 = s1.1 := by rw [e1]; exact ht
    obtain ⟨es1, es2⟩ := stk_a e1 e2
    refine Okr.pay c1.2.1 fun gg => ?_
    rw [show ens (sG s1 gg) = ens s1 from rfl, hx']
    simp only
    split
    · exact c1.2.1
    · have t1 := (c1.tp ht1).2.1
      rw [es1, i1, d1, hx] at t1
      have t4 : StT W (sgn s1) A t (MM t) (UU t) k q.2 := t1.2
      have j4 : ∀ r ∈ k.flatMap rfI, (drf s1 r).isSome = true := fun r hr => c1.vs ht1 r (by rw [es1, i1]; exact vt_fl hr)
      exact OpG.ask e1 e2 g1 (OpG.en (OpG.pushV (s := sG s1 gg) c1 ht1 t4 (rf_of y1).1 (by rw [y1]; exact vC_t hF) j4) hx' (fun z => by rw [hp] at z; exact absurd z (by show (1 : Nat) ≠ 3; omega)) (Or.inl rfl))
  · -- coins to an account
    subst z
    obtain ⟨x, x', hx, x1, x1'⟩ := map_2 hq
    have hy : fls (MM t) g 1 = [] := List.map_eq_nil_iff.mp hG
    rw [hx] at h1
    rw [hy]
    rw [if_neg (by omega), if_pos rfl]
    obtain ⟨i, k0, i1, i2, i3⟩ := StT.inv (x := x') (sk := x :: q.2) h1
    obtain ⟨i', k, j1, j2, j3⟩ := i3.inv
    obtain ⟨v, rfl, v2⟩ := i2.v (rf_of x1').1
    obtain ⟨w, rfl, w2⟩ := j2.v (rf_of x1).1
    rw [x1'] at v2
    rw [x1] at w2
    obtain ⟨w3, w4, -⟩ := VT_b w2
    obtain ⟨v3, y, v4⟩ := VT_c hF v2
    subst j1
    rw [i1]
    simp only
    refine Okr.re (by rw [w3]; rfl) ?_
    rw [v4]
    simp only
    refine ask (by show (1 : Nat) ≠ 3; omega) fun e s1 x'' c1 e1 e2 g1 hx' hp => ?_
    have ht1 : t + 1 = s1.1 := by rw [e1]; exact ht
    obtain ⟨es1, es2⟩ := stk_a e1 e2
    refine Okr.pay c1.2.1 fun gg => ?_
    rw [show ens (sG s1 gg) = ens s1 from rfl, hx']
    simp only
    have t1 := (c1.tp ht1).2.1
    rw [es1, i1, d1, hx] at t1
    have t4 : StT W (sgn s1) A t (MM t) (UU t) k q.2 := t1.2.2
    have j4 : ∀ r ∈ k.flatMap rfI, (drf s1 r).isSome = true := fun r hr => c1.vs ht1 r (by rw [es1, i1]; exact vt_fl (vt_fl hr))
    exact OpG.ask e1 e2 g1 (OpG.en (OpG.sk (s := sG s1 gg) c1 ht1 t4 j4) hx' (fun z => by rw [hp] at z; exact absurd z (by show (1 : Nat) ≠ 3; omega)) (Or.inl rfl))
  · -- how many
    subst z
    obtain ⟨x, hx, x1⟩ := map_1 hq
    obtain ⟨y, hy, y1⟩ := map_1 hG
    rw [hy]
    rw [if_neg (by omega), if_neg (by omega), if_pos rfl]
    obtain ⟨r, k, v, k1, k2, k3, k4, k5, k6⟩ := one_r h ht (x := x) (sk := q.2) (by rw [d1, hx]; rfl) (rf_of x1).1
    have hta : rty (MM t) x.1.tail = [6, 0] := by
      obtain ⟨b, r', e, hb⟩ := isRf_c (rf_of x1).1
      rw [e, rty_c (by omega)] at x1
      rw [e]
      exact (List.cons.inj x1).2
    rw [hta] at k4
    obtain ⟨v3, y', v4⟩ := VT_c hF k4
    rw [k1]
    simp only
    rw [k3]
    simp only
    rw [v4]
    simp only
    refine Okr.pay he fun gg => ?_
    exact OpG.pushV (s := sG s gg) h ht k5 (rf_of y1).1 (by rw [y1]; exact VT_p (by omega) (by omega) (rng_z (Or.inl rfl))) k6
  · -- two become one
    subst z
    obtain ⟨x, x', hx, x1, x1'⟩ := map_2 hq
    obtain ⟨y, hy, y1⟩ := map_1 hG
    rw [hx] at h1
    rw [hy]
    rw [if_neg (by omega), if_neg (by omega), if_neg (by omega), if_pos rfl]
    obtain ⟨i, k0, i1, i2, i3⟩ := StT.inv (x := x') (sk := x :: q.2) h1
    obtain ⟨i', k, j1, j2, j3⟩ := i3.inv
    obtain ⟨v, rfl, v2⟩ := i2.v (rf_of x1').1
    obtain ⟨w, rfl, w2⟩ := j2.v (rf_of x1).1
    rw [x1'] at v2
    rw [x1] at w2
    obtain ⟨v3, y', v4⟩ := VT_c hF v2
    obtain ⟨w3, y2, w4⟩ := VT_c hF w2
    subst j1
    rw [i1]
    simp only
    rw [v4, w4]
    simp only
    refine Okr.pay he fun gg => ?_
    exact OpG.pushV (s := sG s gg) h ht j3 (rf_of y1).1 (by rw [y1]; exact vC_t hF) fun r hr => hv r (by rw [i1]; exact vt_fl (vt_fl hr))
  · -- one becomes two
    subst z
    obtain ⟨x, x', hx, x1, x1'⟩ := map_2 hq
    obtain ⟨y, y', hy, y1, y1'⟩ := map_2 hG
    rw [hx] at h1
    rw [hy]
    rw [if_neg (by omega), if_neg (by omega), if_neg (by omega), if_neg (by omega), if_pos rfl]
    obtain ⟨i, k0, i1, i2, i3⟩ := StT.inv (x := x') (sk := x :: q.2) h1
    obtain ⟨i', k, j1, j2, j3⟩ := i3.inv
    obtain ⟨v, rfl, v2⟩ := i2.v (rf_of x1').1
    obtain ⟨w, rfl, w2⟩ := j2.v (rf_of x1).1
    rw [x1'] at v2
    rw [x1] at w2
    obtain ⟨v3, v4, -⟩ := VT_b v2
    obtain ⟨w3, y2, w4⟩ := VT_c hF w2
    subst j1
    rw [i1]
    simp only
    refine Okr.re (by rw [v3]; rfl) ?_
    rw [w4]
    simp only
    refine Okr.pay he fun gg => ?_
    split
    · exact he
    · exact OpG.sk (s := sG s gg) h ht ⟨⟨(rf_of y1').1, by rw [y1']; exact vC_t hF⟩, ⟨(rf_of y1).1, by rw [y1]; exact vC_t hF⟩, j3⟩ fun r hr => hv r (by rw [i1]; exact vt_fl (vt_fl hr))
  · -- a balance
    subst z
    obtain ⟨x, hx, x1⟩ := map_1 hq
    obtain ⟨y, hy, y1⟩ := map_1 hG
    rw [hx] at h1
    rw [hy]
    rw [if_neg (by omega), if_neg (by omega), if_neg (by omega), if_neg (by omega), if_neg (by omega), if_pos rfl]
    obtain ⟨i, k, i1, i2, i3⟩ := StT.inv (x := x) (sk := q.2) h1
    obtain ⟨v, rfl, v2⟩ := i2.v (rf_of x1).1
    rw [x1] at v2
    obtain ⟨v3, v4, -⟩ := VT_b v2
    rw [i1]
    simp only
    refine Okr.re (by rw [v3]; rfl) (ask (by show (1 : Nat) ≠ 3; omega) fun e s1 x' c1 e1 e2 g1 hx' hp => ?_)
    have ht1 : t + 1 = s1.1 := by rw [e1]; exact ht
    obtain ⟨es1, es2⟩ := stk_a e1 e2
    refine Okr.pay c1.2.1 fun gg => ?_
    rw [show ens (sG s1 gg) = ens s1 from rfl, hx']
    simp only
    have t1 := (c1.tp ht1).2.1
    rw [es1, i1, d1, hx] at t1
    have t4 : StT W (sgn s1) A t (MM t) (UU t) k q.2 := t1.2
    have j4 : ∀ r ∈ k.flatMap rfI, (drf s1 r).isSome = true := fun r hr => c1.vs ht1 r (by rw [es1, i1]; exact vt_fl hr)
    exact OpG.ask e1 e2 g1 (OpG.pushV (s := sG s1 gg) c1 ht1 t4 (rf_of y1).1 (by rw [y1]; exact VT_p (by omega) (by omega) (rng_z (Or.inl rfl))) j4)
end
