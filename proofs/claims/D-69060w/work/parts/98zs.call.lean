/-! what holds while a transaction goes on: calls -/
theorem StT.split {W : Wd} {g : Sg} {A : Nat → Nat → Rx} {j : Nat} {m : Md} {u : Ux} : ∀ {p : Sk} {k : List It} {sk : Sk}, StT W g A j m u k (p ++ sk) → ∃ l k', k = l ++ k' ∧ l.length = p.length ∧ (∀ (i : Nat) (x : It) (y : Ty × Og), l[i]? = some x → p[i]? = some y → ItT W g A j m u y x) ∧ StT W g A j m u k' sk
  | [], k, sk, h => ⟨[], k, rfl, rfl, fun i x y hx _ => by simp at hx, h⟩
  | y :: p, k, sk, h => by
    obtain ⟨i, k1, e1, e2, e3⟩ := StT.inv (sk := p ++ sk) h
    obtain ⟨l, k', f1, f2, f3, f4⟩ := StT.split e3
    refine ⟨i :: l, k', by rw [e1, f1]; rfl, by simp [f2], fun n x z hx hz => ?_, f4⟩
    cases n with
    | zero => cases hx; cases hz; exact e2
    | succ n => exact f3 n x z hx hz
theorem map_get {α β γ : Type} {f : α → γ} {g : β → γ} {l : List α} {r : List β} (h : l.map f = r.map g) {i : Nat} {x : α} {y : β} (hx : l[i]? = some x) (hy : r[i]? = some y) : f x = g y := by
  have : (l.map f)[i]? = (r.map g)[i]? := by rw [h]
  rw [List.getElem?_map, List.getElem?_map, hx, hy] at this
  exact Option.some.inj this
theorem isWr_r {t : Ty} (h : isWr t = true) : isRf t = true := by
  rw [isWr_h] at h
  rw [isRf_h, h, Bool.or_true]
theorem gAll_sub {q : Sk} : ∀ {x : Ty × Og} {a : Nat}, x ∈ q → x.2.1 &&& (q.foldl (fun a x => a ||| x.2.1) a) = x.2.1 ∧ a &&& (q.foldl (fun a x => a ||| x.2.1) a) = a := by
  have key : ∀ (q : Sk) (a : Nat), a &&& (q.foldl (fun a x => a ||| x.2.1) a) = a := by
    intro q
    induction q with
    | nil => intro a; exact Nat.and_self a
    | cons y q ih =>
      intro a
      have := ih (a ||| y.2.1)
      refine sub_tr ?_ this
      refine Nat.eq_of_testBit_eq fun i => ?_
      rw [Nat.testBit_and, Nat.testBit_or]
      cases a.testBit i <;> simp
  induction q with
  | nil => intro x a hx; cases hx
  | cons y q ih =>
    intro x a hx
    refine ⟨?_, key _ a⟩
    rcases List.mem_cons.mp hx with z | z
    · subst z
      refine sub_tr ?_ (key q (a ||| x.2.1))
      refine Nat.eq_of_testBit_eq fun i => ?_
      rw [Nat.testBit_and, Nat.testBit_or]
      cases x.2.1.testBit i <;> simp
    · exact (ih z).1
theorem gWr_sub {q : Sk} : ∀ {x : Ty × Og} {a : Nat}, x ∈ q → isWr x.1 = true → x.2.1 &&& (q.foldl (fun a x => if isWr x.1 then a ||| x.2.1 else a) a) = x.2.1 := by
  have key : ∀ (q : Sk) (a : Nat), a &&& (q.foldl (fun a x => if isWr x.1 then a ||| x.2.1 else a) a) = a := by
    intro q
    induction q with
    | nil => intro a; exact Nat.and_self a
    | cons y q ih =>
      intro a
      refine sub_tr ?_ (ih _)
      show a &&& (if isWr y.1 = true then a ||| y.2.1 else a) = a
      split
      · refine Nat.eq_of_testBit_eq fun i => ?_
        rw [Nat.testBit_and, Nat.testBit_or]
        cases a.testBit i <;> simp
      · exact Nat.and_self a
  induction q with
  | nil => intro x a hx; cases hx
  | cons y q ih =>
    intro x a hx hw
    rcases List.mem_cons.mp hx with z | z
    · subst z
      refine sub_tr ?_ (key q _)
      show x.2.1 &&& (if isWr x.1 = true then a ||| x.2.1 else a) = x.2.1
      rw [if_pos hw]
      refine Nat.eq_of_testBit_eq fun i => ?_
      rw [Nat.testBit_and, Nat.testBit_or]
      cases x.2.1.testBit i <;> simp
    · exact ih z hw
theorem glb_t {c : Nat} (h : c < 15) : GLB.testBit (48 + c) = true := by
  have : GLB = (2 ^ 15 - 1) * 2 ^ 48 := rfl
  rw [this, Nat.testBit_mul_two_pow, Nat.testBit_two_pow_sub_one]
  simp
  omega
section
variable {W : Wd} {s : Ms} {A : Nat → Nat → Rx} {MM : Nat → Md} {UU : Nat → Ux} {SS : Nat → Sk} {LL : Nat → Ls} {t : Nat}
/-- two references that come from different places do not overlap, where one writes -/
theorem apart (hk : Lkf s A UU t) {x y : Ty × Og} {r q : Rx} (hr : RfT W (sgn s) A t (MM t) (UU t) x.1 x.2 r) (hq : RfT W (sgn s) A t (MM t) (UU t) y.1 y.2 q) (hw : isWr x.1 = true) (h0 : y.2.1 &&& x.2.1 = 0) : ¬ (r.1 = q.1 ∧ (r.2 <+: q.2 ∨ q.2 <+: r.2)) := by
  rintro ⟨e, hp⟩
  obtain ⟨k1, k2, k3, k4⟩ := hk
  have sh : ∀ z, x.2.1.testBit z = true → y.2.1.testBit z = true → False := fun z z1 z2 => bit_ne z2 z1 h0
  rcases hr.2.2.2 with ⟨k, a1, a2, a3, a4⟩ | ⟨a, a1, a2, a3, a4, a5, a6, a7, a8⟩ | ⟨e', c, p, a1, a2, a3, a4, a5, a6, a7, a8, a9⟩
  · rcases hq.2.2.2 with ⟨k', c1, c2, c3, c4⟩ | ⟨b, c1, c2, c3, c4, c5, c6, c7, c8⟩ | ⟨e2, c, p, c1, c2, c3, c4, -⟩
    · have : k = k' := by rw [← e, a3] at c3; exact (Prod.mk.inj c3).2
      subst this
      exact sh k a2 c2
    · have := (k1 b c7 c8).2
      rw [← e, a3] at c3
      rw [← c3] at this
      exact absurd this (by simp)
    · rw [← e, a3] at c4; cases c4
  · rcases hq.2.2.2 with ⟨k', c1, c2, c3, c4⟩ | ⟨b, c1, c2, c3, c4, c5, c6, c7, c8⟩ | ⟨e2, c, p, c1, c2, c3, c4, -⟩
    · have := (k1 a a7 a8).2
      rw [← a3, e, c3] at this
      exact absurd this (by simp)
    · by_cases ab : a = b
      · subst ab; exact sh _ a2 c2
      · refine k3 a b a7 c7 ab a8 c8 (a6 hw) ⟨by rw [← a3, ← c3, e], ?_⟩
        rcases hp with z | z
        · exact pre_or (a4.trans z) c4
        · exact pre_or a4 (c4.trans z)
    · refine (k4 c1).2 a a7 a8 ?_
      rw [← a3, e, c4]
  · rcases hq.2.2.2 with ⟨k', c1, c2, c3, c4⟩ | ⟨b, c1, c2, c3, c4, c5, c6, c7, c8⟩ | ⟨e2, c', p', c1, c2, c3, c4, c5, c6, c7, c8, c9⟩
    · rw [← e, a4] at c3; cases c3
    · refine (k4 a1).2 b c7 c8 ?_
      rw [← c3, ← e, a4]
    · have ee : e' = e2 := by rw [← e, a4] at c4; exact (Prod.mk.inj c4).2
      subst ee
      rw [a5] at c5
      cases c5
      have : c = c' := by rw [← a8, c8]
      subst this
      exact sh _ a2 c2
/-- none is of a resource -/
theorem no_glb (hk : Lkf s A UU t) (hR : hsR (UU t).1 = true) {ty : Ty} {og : Og} {r : Rx} (hr : RfT W (sgn s) A t (MM t) (UU t) ty og r) (h0 : og.1 &&& GLB = 0) : r.1.1 ≠ 0 := fun z => by
  obtain ⟨k1, k2, k3, k4⟩ := hk
  rcases hr.2.2.2 with ⟨k, a1, a2, a3, a4⟩ | ⟨a, a1, a2, a3, a4, a5, a6, a7, a8⟩ | ⟨e', c, p, a1, a2, a3, a4, -⟩
  · rw [a3] at z; cases z
  · rw [a3] at z; exact (k4 hR).2 a a7 a8 z
  · exact bit_ne a2 (glb_t a3.1) h0
theorem mcall_g {KK : Nat → Sk} {SJ : Nat → Nat → Sk} (h : Cor W s A MM UU SS LL) (hk : ∀ j, j < s.1 → Lkf s A UU j) (ha : ∀ j, j < s.1 → (MM j).1 ≠ 0 ∧ Ann (MM j) (UU j) (SJ j) (lnt (MM j) (UU j)) ∧ (s.2.1 j).2.1 < (ui (UU j)).length ∧ LL j = lnt (MM j) (UU j) (s.2.1 j).2.1 ∧ SJ j (s.2.1 j).2.1 = (if j + 1 = s.1 then SS j else KK j) ∧ (SJ j (s.2.1 j).2.1).length ≤ 64) (hr : ∀ j, j + 1 < s.1 → Rtf W (sgn s) A MM UU j (SS j) (KK j)) (ht : t + 1 = s.1) (hW : WV W)
    {g lim i : Nat} {G : Nat × Nat} {m' : Md} {u' : Ux} {d : Cs} (hm : W G.1 = some m') (hu : m'.2.2.2.2.2[G.2]? = some u') (hG : G.1 ≠ 0) (hfl : hsR (fgs (MM t) g) = hsR u'.1) (htk : (fls (MM t) g 0).map (fun x => rty (MM t) x.1) = u'.2.1.map (fun x => rty m' x.1)) (hgv : (fls (MM t) g 1).map (fun x => rty (MM t) x.1) = u'.2.2.1.map (fun x => rty m' x.1)) (hc : cCall (MM t) (UU t) (lty (UU t)) g (SS t, LL t) = .ok d) (hi : i + 1 < (ui (UU t)).length) (hS : SJ t (i + 1) = d.1) (hl : lsl d.2 (lnt (MM t) (UU t) (i + 1))) (h64 : d.1.length ≤ 64) : Okr W (mcall W lim (MM t) (UU t) i G s) (Inv W) := by
  obtain ⟨hf, h1, h2, hll⟩ := h.tp ht
  have hv := h.vs ht
  have he := h.2.1
  have hkt := hk t (by omega)
  unfold cCall at hc
  obtain ⟨q, a1, hc⟩ := eb_ok hc
  obtain ⟨_, a2, hc⟩ := eb_ok hc
  obtain ⟨_, a3, hc⟩ := eb_ok hc
  obtain ⟨_, a4, hc⟩ := eb_ok hc
  obtain ⟨sk, a5, hc⟩ := eb_ok hc
  cases hc
  obtain ⟨d1, d2⟩ := tkL_len a1
  rw [List.reverse_reverse] at d2
  have d3 := ptL_i a5
  have d1 : SS t = q.1.reverse ++ q.2 := d1
  rw [d1] at h1
  have a2 := nee_i a2
  have a3 := nee_i a3
  have a4 := nee_i a4
  have hq : q.1.map (fun x => rty (MM t) x.1) = u'.2.1.map (fun x => rty m' x.1) := by
    rw [← htk]
    have : q.1.map (fun x => rty (MM t) x.1) = (q.1.map Prod.fst).map (rty (MM t)) := by rw [List.map_map]; rfl
    rw [this, d2, List.map_map]; rfl
  have qn : q.1.length = u'.2.1.length := by have := congrArg List.length hq; simpa using this
  obtain ⟨wm1, wm2, wm3, wm4, wm5, wm6⟩ := hW.2 G.1 m' hm
  have um := List.mem_of_getElem? hu
  obtain ⟨wu1, wu2, wr, wu3⟩ := wm5 hG u' um
  have gu := (wm2.2.2.2.2.1 u' um).2
  obtain ⟨S', hS'⟩ := chk_ann wu3 (fun x hx z1 z2 => (wu1 x hx).br (by omega)) wu2
  obtain ⟨l, k, f1, f2, f3, f4⟩ := h1.split
  rw [List.length_reverse, qn] at f2
  have etk : (stk s).take u'.2.1.length = l := by rw [f1, List.take_left' f2]
  have edr : (stk s).drop u'.2.1.length = k := by rw [f1, List.drop_left' f2]
  unfold mcall
  rw [hm]
  simp only
  rw [hu]
  simp only
  refine Okr.nd he fun h32 => Okr.pay he fun gg => ?_
  have h32 : s.1 < 32 := of_decide_eq_true h32
  rw [show stk (sG s gg) = stk s from rfl, etk, edr]
  refine Okr.re (decide_eq_true (by rw [f1, List.length_append]; omega)) ?_
  -- each argument
  have arg : ∀ a, a < u'.2.1.length → ∃ x y z, q.1[a]? = some x ∧ l.reverse[a]? = some y ∧ u'.2.1[a]? = some z ∧ tgt (lty u') a = z.1 ∧ rty (MM t) x.1 = rty m' z.1 ∧ ItT W (sgn s) A t (MM t) (UU t) x y := fun a ha => by
    obtain ⟨z, z1, z2⟩ := lty_a ha
    have hx : q.1[a]? = some q.1[a] := List.getElem?_eq_getElem (by omega)
    have hy : l.reverse[a]? = some (l.reverse[a]'(by rw [List.length_reverse]; omega)) := List.getElem?_eq_getElem (by rw [List.length_reverse]; omega)
    refine ⟨_, _, z, hx, hy, z1, z2, map_get hq hx z1, ?_⟩
    have hy2 := rev_get hy
    refine f3 _ _ _ hy2 ?_
    rw [List.getElem?_reverse (by omega), show q.1.length - 1 - (l.length - 1 - a) = a by omega]
    exact hx
  generalize hA' : (fun (a : Nat) => (match l.reverse[a]? with | some (Sum.inr r) => r | _ => ((0, 0), []) : Rx)) = A0
  have argr : ∀ a, a < u'.2.1.length → isRf (tgt (lty u') a) = true → ∃ x, q.1[a]? = some x ∧ isWr x.1 = isWr (tgt (lty u') a) ∧ l.reverse[a]? = some (.inr (A0 a)) ∧ RfT W (sgn s) A t (MM t) (UU t) x.1 x.2 (A0 a) ∧ rty (MM t) x.1 = rty m' (tgt (lty u') a) := fun a ha hrf => by
    obtain ⟨x, y, z, e1, e2, e3, e4, e5, e6⟩ := arg a ha
    have hx : isRf x.1 = true := by
      rw [isRf_h, ← rty_h (m := MM t), e5, rty_h, ← isRf_h, ← e4]; exact hrf
    obtain ⟨r, rfl, r2⟩ := e6.r hx
    have eA : A0 a = r := by rw [← hA']; simp only; rw [e2]
    refine ⟨x, e1, ?_, by rw [eA]; exact e2, by rw [eA]; exact r2, by rw [e4]; exact e5⟩
    rw [isWr_h, ← rty_h (m := MM t), e5, rty_h, ← isWr_h, e4]
  -- the caller's frame
  let s1 : Ms := nx (MM t) (UU t) (i + 1) (sK (sG s gg) k)
  have hts : t + 1 = (sG s gg).1 := ht
  have htk1 : t + 1 = (sK (sG s gg) k).1 := ht
  have fr1 : ∀ j, s1.2.1 j = if j = t then ((s.2.1 t).1, i + 1, fgl (lnt (MM t) (UU t) (i + 1)) (s.2.1 t).2.2.1, k) else s.2.1 j := fun j => by
    show (nx (MM t) (UU t) (i + 1) (sK (sG s gg) k)).2.1 j = _
    rw [nx_fr htk1]
    have e : (sK (sG s gg) k).2.1 t = ((s.2.1 t).1, (s.2.1 t).2.1, (s.2.1 t).2.2.1, k) := by
      show uF s.2.1 (s.1 - 1) ((tpf s).1, (tpf s).2.1, (tpf s).2.2.1, k) t = _
      rw [show s.1 - 1 = t by omega, uF_s, tpt ht]
    rw [e]
    by_cases c : j = t
    · rw [if_pos c, if_pos c]
    · rw [if_neg c, if_neg c]
      show uF s.2.1 (s.1 - 1) _ j = _
      rw [uF_n (by omega)]
  let s2 : Ms := (s1.1 + 1, uF s1.2.1 s1.1 (ent G l.reverse), s1.2.2)
  show Inv W s2
  have es1 : s1.1 = t + 1 := ht.symm
  have fr2 : ∀ j, s2.2.1 j = if j = t + 1 then ent G l.reverse else if j = t then ((s.2.1 t).1, i + 1, fgl (lnt (MM t) (UU t) (i + 1)) (s.2.1 t).2.2.1, k) else s.2.1 j := fun j => by
    show uF s1.2.1 s1.1 (ent G l.reverse) j = _
    rw [es1]
    by_cases c : j = t + 1
    · rw [c, uF_s, if_pos rfl]
    · rw [uF_n c, if_neg c]; exact fr1 j
  have ee : ens s2 = ens s := rfl
  have hg : sgs s.1 (sgn s) (sgn s2) := by
    refine ⟨List.prefix_rfl, fun j hj => ?_, fun _ z => z⟩
    show (s2.2.1 j).1 = (s.2.1 j).1
    rw [fr2, if_neg (by omega)]
    by_cases c : j = t
    · rw [if_pos c, c]
    · rw [if_neg c]
  have rv : ∀ r : Nat × Nat, r.1 ≤ t + 1 → rtv s2 r = rtv s r := by
    rintro ⟨a, x⟩ hr
    cases a with
    | zero => rfl
    | succ j =>
      have hr : j + 1 ≤ t + 1 := hr
      show (match (s2.2.1 j).2.2.1 x with | some (.inl v) => some v | _ => none) = (match (s.2.1 j).2.2.1 x with | some (.inl v) => some v | _ => none)
      rw [fr2, if_neg (by omega)]
      by_cases c : j = t
      · subst c
        rw [if_pos rfl]
        exact fgl_v
      · rw [if_neg c]
  have dv : ∀ r : Rx, r.1.1 ≤ t + 1 → drf s2 r = drf s r := fun r hr => by unfold drf; rw [rv r.1 hr]
  have top : ∀ q, q ∈ (stk s).flatMap rfI ++ (List.range 40).flatMap (fun x => rfO (lcs s x)) ↔ q ∈ rfF (s.2.1 t) := fun q => by
    unfold stk lcs; rw [tpt ht]; rfl
  -- what is alive in the caller's frame
  have reft : ∀ r, r ∈ rfF (s2.2.1 t) → r ∈ k.flatMap rfI ++ (List.range 40).flatMap (fun x => rfO (lcs s x)) := fun r hr => by
    rw [fr2, if_neg (by omega), if_pos rfl] at hr
    rcases rfF_i.mp hr with z | ⟨x, x1, x2⟩
    · exact List.mem_append_left _ z
    · refine List.mem_append_right _ (List.mem_flatMap.mpr ⟨x, List.mem_range.mpr x1, ?_⟩)
      have := fgl_r x2
      have e : lcs s x = some (.inr r) := by unfold lcs; rw [tpt ht]; exact this
      rw [e]; simp [rfO, rfI]
  have reft' : ∀ r, r ∈ rfF (s2.2.1 t) → r ∈ rfF (s.2.1 t) := fun r hr => by
    refine (top r).mp ?_
    rcases List.mem_append.mp (reft r hr) with z | z
    · refine List.mem_append_left _ ?_
      rw [f1, List.flatMap_append]
      exact List.mem_append_right _ z
    · exact List.mem_append_right _ z
  have refl' : ∀ j, j < t → rfF (s2.2.1 j) = rfF (s.2.1 j) := fun j hj => by rw [fr2, if_neg (by omega), if_neg (by omega)]
  -- what is alive in the frame that begins
  have refc : ∀ r, r ∈ rfF (s2.2.1 (t + 1)) → r ∈ rfF (s.2.1 t) := fun r hr => by
    rw [fr2, if_pos rfl] at hr
    rcases rfF_i.mp hr with z | ⟨x, x1, x2⟩
    · cases z
    · have x2 : l.reverse[x]? = some (.inr r) := x2
      have : (.inr r : It) ∈ l := by simpa using List.mem_of_getElem? x2
      refine (top r).mp (List.mem_append_left _ ?_)
      rw [f1, List.flatMap_append]
      exact List.mem_append_left _ (List.mem_flatMap.mpr ⟨_, this, by simp [rfI]⟩)
  have hA1 : ∀ j, j ≤ t → uS A (t + 1) A0 j = A j := fun j hj => uS_n (by omega)
  have nlo40 := gu.n
  have hls : lnt m' u' 0 = ls0 u' := hS'.1.2
  refine ⟨uS A (t + 1) A0, uS MM (t + 1) m', uS UU (t + 1) u', uS (uS SS t q.2) (t + 1) [], uS (uS LL t (lnt (MM t) (UU t) (i + 1))) (t + 1) (lnt m' u' 0), uS KK t sk, uS SJ (t + 1) S', ⟨⟨by show 1 ≤ s1.1 + 1; omega, by show s1.1 + 1 ≤ 32; omega⟩, he, fun j hj => ?_, fun j hj r hr' => ?_⟩, fun j hj => ?_, fun j hj => ?_, fun j hj => ?_⟩
  · -- types
    have hj : j < t + 2 := by rw [← show s1.1 + 1 = t + 2 by omega]; exact hj
    by_cases c : j = t + 1
    · subst c
      rw [uS_s, uS_s, uS_s, uS_s, fr2, if_pos rfl, hls]
      refine ⟨⟨hm, hu⟩, trivial, ⟨fun a ha => ?_, fun a ha => ?_⟩, ls0_len u'⟩
      · rw [ls0_v ha]
        show match (if a < u'.2.1.length then _ else _ : Option Og) with | some og => ∃ i, l.reverse[a]? = some i ∧ _ | none => l.reverse[a]? = none ∨ _
        by_cases c : a < u'.2.1.length
        · rw [if_pos c]
          simp only
          obtain ⟨x, y, z, e1, e2, e3, e4, e5, e6⟩ := arg a c
          refine ⟨y, e2, ?_⟩
          cases y with
          | inl v =>
            refine ⟨?_, ?_⟩
            · show isRf (tgt (lty u') a) = false
              rw [e4, isRf_h, ← rty_h (m := m'), ← e5, rty_h, ← isRf_h]; exact e6.1
            · show VT W (rty m' (tgt (lty u') a)) v
              rw [e4, ← e5]; exact e6.2
          | inr r =>
            have hrx := (e6 : RfT W (sgn s) A t (MM t) (UU t) x.1 x.2 r)
            have hrf : isRf (tgt (lty u') a) = true := by rw [e4, isRf_h, ← rty_h (m := m'), ← e5, rty_h, ← isRf_h]; exact hrx.1
            have eA : A0 a = r := by rw [← hA']; simp only; rw [e2]
            obtain ⟨T, t1, t2⟩ := hrx.2.1
            refine show RfT W (sgn s2) (uS A (t + 1) A0) (t + 1) m' u' _ _ r from ⟨hrf, ⟨T, rtT_m hg (by have := hrx.2.2.1; omega) t1, ?_⟩, by have := hrx.2.2.1; omega, Or.inr (Or.inl ⟨a, by have := gu.1; omega, ?_, ?_, ?_, ?_, fun z => z, c, hrf⟩)⟩
            · rw [t2]
              obtain ⟨b, rr, eb1, eb2⟩ := isRf_c hrx.1
              obtain ⟨b', rr', eb1', eb2'⟩ := isRf_c hrf
              rw [← e4, eb1, eb1', rty_c (by omega), rty_c (by omega)] at e5
              rw [eb1, eb1']
              exact congrArg some (List.cons.inj e5).2
            · show (if isRf (tgt (lty u') a) = true then 2 ^ (40 + a) else 0).testBit (40 + a) = true
              rw [if_pos hrf, Nat.testBit_two_pow]; simp
            · rw [uS_s, eA]
            · rw [uS_s, eA]; exact List.prefix_rfl
            · intro _; rw [uS_s, eA]
        · rw [if_neg c]
          simp only
          exact Or.inl (List.getElem?_eq_none (by rw [List.length_reverse]; omega))
      · show l.reverse[a]? = none
        refine List.getElem?_eq_none ?_
        rw [List.length_reverse, f2]
        unfold nlo at ha
        omega
    · rw [uS_n c, uS_n c, uS_n c, uS_n c]
      obtain ⟨b1, b2, b3, b4⟩ := h.2.2.1 j (by omega)
      by_cases c2 : j = t
      · subst c2
        rw [uS_s, uS_s, fr2, if_neg (by omega), if_pos rfl]
        refine ⟨b1, f4.m hg (by omega) (hA1 j (by omega)), (b3.nx hl).m hg (by omega) (hA1 j (by omega)), by rw [← hl.1]; exact b4⟩
      · rw [uS_n c2, uS_n c2, fr2, if_neg c, if_neg c2]
        exact ⟨b1, b2.m hg (by omega) (hA1 j (by omega)), b3.m hg (by omega) (hA1 j (by omega)), b4⟩
  · -- what is alive is there
    have hj : j < t + 2 := by rw [← show s1.1 + 1 = t + 2 by omega]; exact hj
    have key : r ∈ rfF (s.2.1 t) ∨ ∃ x, x < t ∧ r ∈ rfF (s.2.1 x) := by
      by_cases c : j = t + 1
      · subst c; exact Or.inl (refc r hr')
      · by_cases c2 : j = t
        · subst c2; exact Or.inl (reft' r hr')
        · rw [refl' j (by omega)] at hr'
          exact Or.inr ⟨j, by omega, hr'⟩
    rcases key with z | ⟨x, x1, x2⟩
    · rw [dv r (h.low (by omega) z)]
      exact h.2.2.2 t (by omega) r z
    · rw [dv r (by have := h.low (i := x) (by omega) x2; omega)]
      exact h.2.2.2 x (by omega) r x2
  · -- arguments
    have hj : j < t + 2 := by rw [← show s1.1 + 1 = t + 2 by omega]; exact hj
    by_cases c : j = t + 1
    · subst c
      unfold Lkf
      rw [uS_s, uS_s]
      refine ⟨fun a ha hrf => ?_, fun a ha hrf hw x hx r hr' => ?_, fun a b ha hb hab hra hrb hw => ?_, fun hR => ?_⟩
      · obtain ⟨x, x1, x2, x3, x4, x5⟩ := argr a ha hrf
        exact ⟨by omega, x4.2.2.1⟩
      · obtain ⟨y, x1, x2, x3, x4, x5⟩ := argr a ha hrf
        -- none of the caller's lies below
        have hliv : liv (lty (UU t)) q.2 (LL t) y.2.1 2 = false := by
          unfold gAl at a3
          rw [List.all_eq_true] at a3
          have hm : (y, a) ∈ q.1.zipIdx := List.mem_zipIdx_iff_getElem?.mpr x1
          have := a3 _ hm
          have hwy : isWr y.1 = true := by rw [x2]; exact hw
          simp only [hwy, Bool.not_true, Bool.false_or, Bool.and_eq_true] at this
          simpa using this.1
        obtain ⟨n1, n2⟩ := nlw_of h ht hkt x4 (by rw [x2]; exact hw) f4 h2 hll hliv
        by_cases c : x = t
        · subst c
          exact n1 r (reft r hr')
        · rw [refl' x (by omega)] at hr'
          exact n2 x (by omega) r hr'
      · obtain ⟨y, y1, y2, y3, y4, y5⟩ := argr a ha hra
        obtain ⟨z, z1, z2, z3, z4, z5⟩ := argr b hb hrb
        have h0 : z.2.1 &&& y.2.1 = 0 := by
          unfold gAl at a3
          rw [List.all_eq_true] at a3
          have hm : (y, a) ∈ q.1.zipIdx := List.mem_zipIdx_iff_getElem?.mpr y1
          have := a3 _ hm
          have hwy : isWr y.1 = true := by rw [y2]; exact hw
          simp only [hwy, Bool.not_true, Bool.false_or, Bool.and_eq_true] at this
          have := List.all_eq_true.mp this.2 (z, b) (List.mem_zipIdx_iff_getElem?.mpr z1)
          simp only [Bool.or_eq_true] at this
          rcases this with w | w
          · exact absurd (by simpa using w) (fun e : b = a => hab e.symm)
          · simpa using w
        exact apart hkt y4 z4 (by rw [y2]; exact hw) h0
      · have hg' : hsR (fgs (MM t) g) = true := by rw [hfl]; exact hR
        rw [hg'] at a2 a4
        have hRt : hsR (UU t).1 = true := by simpa using a2
        have a4 : (gAll q.1 &&& GLB) = 0 ∧ liv (lty (UU t)) q.2 (LL t) GLB 0 = false := by simpa using a4
        refine ⟨fun x hx r hr' => ?_, fun a ha hrf => ?_⟩
        · by_cases c : x = t
          · subst c
            obtain ⟨ty, og, b1, b2⟩ := rf_any f4 h2 hll (reft r hr')
            refine no_glb hkt hRt b1 ?_
            rcases Nat.eq_zero_or_pos (og.1 &&& GLB) with z | z
            · exact z
            · have := b2 GLB 0 a4.2 (by omega)
              cases this
          · rw [refl' x (by omega)] at hr'
            exact (hkt.2.2.2 hRt).1 x (by omega) r hr'
        · obtain ⟨y, y1, y2, y3, y4, y5⟩ := argr a ha hrf
          refine no_glb hkt hRt y4 ?_
          have := (gAll_sub (a := 0) (List.mem_of_getElem? y1)).1
          rw [← this, Nat.and_assoc]
          show y.2.1 &&& (gAll q.1 &&& GLB) = 0
          rw [a4.1, Nat.and_zero]
    · obtain ⟨k1, k2, k3, k4⟩ := hk j (by omega)
      unfold Lkf
      rw [uS_n c, hA1 j (by omega)]
      refine ⟨k1, fun a b1 b2 b3 x hx r hr' => k2 a b1 b2 b3 x hx r ?_, k3, fun z => ⟨fun x hx r hr' => (k4 z).1 x hx r ?_, (k4 z).2⟩⟩
      · rw [← refl' x (by omega)]; exact hr'
      · rw [← refl' x (by omega)]; exact hr'
  · -- notes
    have hj : j < t + 2 := by rw [← show s1.1 + 1 = t + 2 by omega]; exact hj
    have es2 : s2.1 = t + 2 := by show s1.1 + 1 = t + 2; omega
    rw [es2]
    by_cases c : j = t + 1
    · subst c
      rw [uS_s, uS_s, uS_s, uS_s, uS_s, fr2, if_pos rfl, if_pos rfl]
      exact ⟨by rw [wm1]; exact hG, hS', by show 0 < (ui u').length; omega, rfl, hS'.1.1, by rw [show S' (ent G l.reverse).2.1 = [] from hS'.1.1]; decide⟩
    · rw [uS_n c, uS_n c, uS_n c, uS_n c, uS_n c, if_neg (by omega)]
      obtain ⟨b0, b1, b2, b3, b4, b5⟩ := ha j (by omega)
      by_cases c2 : j = t
      · subst c2
        rw [uS_s, uS_s, fr2, if_neg (by omega), if_pos rfl]
        exact ⟨b0, b1, hi, rfl, hS, by rw [hS]; exact h64⟩
      · rw [uS_n c2, uS_n c2, fr2, if_neg c, if_neg c2]
        refine ⟨b0, b1, b2, b3, ?_, b5⟩
        rw [b4, if_neg (by omega)]
  · -- what comes back
    have hj : j + 1 < t + 2 := by rw [← show s1.1 + 1 = t + 2 by omega]; exact hj
    rw [uS_n (show j ≠ t + 1 by omega)]
    by_cases c : j = t
    · subst c
      unfold Rtf
      rw [uS_s, uS_s, uS_s, uS_s, uS_s, uS_n (by omega), uS_n (by omega)]
      refine ⟨g, q.1, d3, hgv, fun a ha hrf => ?_⟩
      obtain ⟨x, x1, x2, x3, x4, x5⟩ := argr a ha hrf
      exact ⟨x, x1, x2, x4.m hg (by omega) (hA1 j (by omega))⟩
    · obtain ⟨g', q', e1, e2, e3⟩ := hr j (by omega)
      unfold Rtf
      rw [uS_n c, uS_n c, uS_n (show j ≠ t + 1 by omega), uS_n (show j + 1 ≠ t + 1 by omega), uS_n (show j ≠ t + 1 by omega), uS_n (show j + 1 ≠ t + 1 by omega), uS_n (show j + 1 ≠ t + 1 by omega)]
      refine ⟨g', q', e1, e2, fun a ha hrf => ?_⟩
      obtain ⟨x, x1, x2, x3⟩ := e3 a ha hrf
      exact ⟨x, x1, x2, x3.m hg (by omega) (hA1 j (by omega))⟩
end
