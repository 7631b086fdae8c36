/-! what holds while a transaction goes on: packing, vectors -/
section
variable {W : Wd} {s : Ms} {A : Nat → Nat → Rx} {MM : Nat → Md} {UU : Nat → Ux} {SS : Nat → Sk} {LL : Nat → Ls} {t : Nat}
theorem tkL_len : ∀ {l : List Ty} {sk : Sk} {q : Sk × Sk}, tkL l sk = .ok q → sk = q.1.reverse ++ q.2 ∧ q.1.map Prod.fst = l.reverse
  | [], sk, q, h => by cases h; exact ⟨rfl, rfl⟩
  | ty :: l, sk, q, h => by
    obtain ⟨r, h1, h⟩ := eb_ok h
    obtain ⟨q', h2, h⟩ := eb_ok h
    cases h
    obtain ⟨e1, e2⟩ := tkT_i h1
    obtain ⟨e3, e4⟩ := tkL_len h2
    refine ⟨?_, ?_⟩
    · rw [e1, e3]
      simp
    · simp [e4, e2]
/-- values of these types on top -/
theorem tkV_g {g : Sg} {j : Nat} {m : Md} {u : Ux} : ∀ {q : Sk} {k : List It} {sk : Sk}, StT W g A j m u k (q ++ sk) → (∀ x ∈ q, isRf x.1 = false) → ∃ l k', tkV q.length k = some (l, k') ∧ l.length = q.length ∧ (∀ (i : Nat) (v : VL) (x : Ty × Og), l[i]? = some v → q[i]? = some x → VT W (rty m x.1) v) ∧ StT W g A j m u k' sk ∧ ∀ r ∈ k'.flatMap rfI, r ∈ k.flatMap rfI
  | [], k, sk, h, _ => ⟨[], k, rfl, rfl, fun i v x hv _ => by simp at hv, h, fun r hr => hr⟩
  | x :: q, k, sk, h, hq => by
    obtain ⟨i, k1, e1, e2, e3⟩ := StT.inv (sk := q ++ sk) h
    obtain ⟨v, rfl, v2⟩ := e2.v (hq x (by simp))
    obtain ⟨l, k', f1, f2, f3, f4, f5⟩ := tkV_g e3 fun y hy => hq y (List.mem_cons_of_mem _ hy)
    refine ⟨v :: l, k', ?_, by simp [f2], fun i w y hw hy => ?_, f4, fun r hr => ?_⟩
    · rw [e1]
      show (match tkV q.length k1 with | some (l, r) => some (v :: l, r) | none => none) = _
      rw [f1]
    · cases i with
      | zero => cases hw; cases hy; exact v2
      | succ i => exact f3 i w y hw hy
    · rw [e1]; exact vt_fl (f5 r hr)
theorem rev_get {α : Type} {l : List α} {i : Nat} {x : α} (h : l.reverse[i]? = some x) : l[l.length - 1 - i]? = some x := by
  have hi := get_lt h
  rw [List.length_reverse] at hi
  rw [List.getElem?_reverse hi] at h
  exact h
theorem oPck_g (h : Cor W s A MM UU SS LL) (ht : t + 1 = s.1) (hw : W (MM t).1 = some (MM t)) (h32 : (MM t).2.1.length ≤ 32) (g : gM (MM t)) {a : Nat} {d : Cs} (ha : a < (MM t).2.1.length) (hc : cPack (MM t) a (SS t, LL t) = .ok d) : Okr W (oPck (MM t) a s) (OpG W s A MM UU SS LL t d) := by
  obtain ⟨q, a1, hc⟩ := eb_ok hc
  obtain ⟨s', a2, hc⟩ := eb_ok hc
  cases hc
  have := pt_i a2
  subst this
  obtain ⟨e1, e2⟩ := tkL_len a1
  rw [List.reverse_reverse] at e2
  have st1 : (MM t).2.1[a]? = some (MM t).2.1[a] := List.getElem?_eq_getElem ha
  generalize (MM t).2.1[a] = st at st1
  have hT := (g.2.1 st (List.mem_of_getElem? st1)).2
  have el := fdl_o st1
  have ql : q.1.length = (fdl (MM t) a).length := by rw [← e2]; simp
  obtain ⟨-, h1, -, -⟩ := h.tp ht
  have e1 : SS t = q.1.reverse ++ q.2 := e1
  rw [e1] at h1
  have hnr : ∀ x ∈ q.1.reverse, isRf x.1 = false := fun x hx => by
    have hx : x ∈ q.1 := by simpa using hx
    have : x.1 ∈ fdl (MM t) a := by rw [← e2]; exact List.mem_map_of_mem hx
    rw [el] at this
    obtain ⟨y, y1, y2⟩ := List.mem_map.mp this
    rw [← y2]; exact (hT y y1).rf
  obtain ⟨l, k', f1, f2, f3, f4, f5⟩ := tkV_g h1 hnr
  rw [List.length_reverse, ql] at f1
  rw [List.length_reverse, ql] at f2
  unfold oPck
  rw [f1]
  simp only
  have ef := fdi_o hw ha h32
  refine OpG.pushV h ht f4 rfl ?_ fun r hr => h.vs ht r (f5 r hr)
  rw [rty_6]
  have en : fln (fof l.reverse) = (fdl (MM t) a).length := by rw [← flo_len, flo_fof, List.length_reverse, f2]
  refine VT_iff.mpr ⟨?_, ?_, fun i v U hv hU => ?_⟩
  · show 6 = 6 ∧ (lN (MM t).1, lN a) = (lN (sid (MM t) a / 256), lN (sid (MM t) a % 256))
    rw [sid_o ha, show (256 * (MM t).1 + a) / 256 = (MM t).1 by omega, show (256 * (MM t).1 + a) % 256 = a by omega]
    exact ⟨rfl, rfl⟩
  · show (flo (fof l.reverse)).length = (fdi W (sid (MM t) a)).length
    rw [flo_fof, List.length_reverse, f2, ef, List.length_map]
  · have hv : (flo (fof l.reverse))[i]? = some v := hv
    have hU : (fdi W (sid (MM t) a))[i]? = some U := hU
    rw [flo_fof] at hv
    rw [ef, List.getElem?_map] at hU
    have hi := get_lt hv
    rw [List.length_reverse, f2] at hi
    rw [List.getElem?_eq_getElem hi] at hU
    cases hU
    have hv := rev_get hv
    rw [f2] at hv
    have hx : q.1.reverse[(fdl (MM t) a).length - 1 - i]? = some q.1[i] := by
      rw [List.getElem?_reverse (by omega), show q.1.length - 1 - ((fdl (MM t) a).length - 1 - i) = i by omega]
      exact List.getElem?_eq_getElem (by omega)
    have := f3 _ v _ hv hx
    have e3 : q.1[i].1 = (fdl (MM t) a)[i] := by
      have : (q.1.map Prod.fst)[i]'(by simp; omega) = (fdl (MM t) a)[i] := by
        congr 1
      rw [← this]; simp
    rw [e3] at this; exact this
theorem ptL_i : ∀ {l : List (Ty × Og)} {sk sk' : Sk}, ptL l sk = .ok sk' → sk' = l.reverse ++ sk
  | [], sk, sk', h => by cases h; rfl
  | x :: l, sk, sk', h => by
    obtain ⟨s1, h1, h2⟩ := eb_ok h
    have := pt_i h1
    subst this
    rw [ptL_i h2]; simp
/-- values come, the first one first -/
theorem StT.app {g : Sg} {j : Nat} {m : Md} {u : Ux} : ∀ {q : Sk} {l : List It} {k : List It} {sk : Sk}, l.length = q.length → (∀ (i : Nat) (x : It) (y : Ty × Og), l[i]? = some x → q[i]? = some y → ItT W g A j m u y x) → StT W g A j m u k sk → StT W g A j m u (l ++ k) (q ++ sk)
  | [], [], k, sk, _, _, h => h
  | [], _ :: _, k, sk, hl, _, _ => by simp at hl
  | _ :: _, [], k, sk, hl, _, _ => by simp at hl
  | y :: q, x :: l, k, sk, hl, hi, h => ⟨hi 0 x y rfl rfl, StT.app (by simpa using hl) (fun i a b ha hb => hi (i + 1) a b ha hb) h⟩
theorem oUnp_g (h : Cor W s A MM UU SS LL) (ht : t + 1 = s.1) (hw : W (MM t).1 = some (MM t)) (h32 : (MM t).2.1.length ≤ 32) (g : gM (MM t)) {a : Nat} {d : Cs} (ha : a < (MM t).2.1.length) (hc : cUnp (MM t) a (SS t, LL t) = .ok d) : Okr W (oUnp (MM t) a s) (OpG W s A MM UU SS LL t d) := by
  obtain ⟨r, a1, hc⟩ := eb_ok hc
  obtain ⟨s', a2, hc⟩ := eb_ok hc
  cases hc
  obtain ⟨b1, b2⟩ := tkT_i a1
  have := ptL_i a2
  subst this
  have st1 : (MM t).2.1[a]? = some (MM t).2.1[a] := List.getElem?_eq_getElem ha
  generalize (MM t).2.1[a] = st at st1
  have hT := (g.2.1 st (List.mem_of_getElem? st1)).2
  have el := fdl_o st1
  obtain ⟨-, h1, -, -⟩ := h.tp ht
  have b1 : SS t = r.1 :: r.2 := b1
  rw [b1] at h1
  obtain ⟨i, k, f1, f2, f3⟩ := h1.inv
  obtain ⟨v, rfl, v2⟩ := f2.v (by rw [b2]; rfl)
  rw [b2, rty_6] at v2
  have ef := fdi_o hw ha h32
  obtain ⟨g1, g2, g3⟩ := VT_iff.mp v2
  have g2 : (flo v.2.2).length = (fdi W (sid (MM t) a)).length := g2
  rw [ef, List.length_map] at g2
  obtain ⟨z1, z2⟩ : v.1 = 6 ∧ v.2.1 = (lN (sid (MM t) a / 256), lN (sid (MM t) a % 256)) := g1
  rw [sid_o ha, show (256 * (MM t).1 + a) / 256 = (MM t).1 by omega, show (256 * (MM t).1 + a) % 256 = a by omega] at z2
  unfold oUnp
  rw [f1]
  simp only
  refine Okr.re (by rw [z1, z2]; simp) ?_
  refine OpG.sk h ht (StT.app (by simp [g2]) (fun i x y hx hy => ?_) f3) fun q hq => ?_
  · rw [List.getElem?_map] at hx
    cases hh : (flo v.2.2).reverse[i]? with
    | none => rw [hh] at hx; cases hx
    | some w =>
      rw [hh] at hx
      cases hx
      have hw' := rev_get hh
      have hi := get_lt hh
      rw [List.length_reverse] at hi
      rw [List.getElem?_reverse (by simp; omega), List.length_map, List.getElem?_map] at hy
      have hj : (fdl (MM t) a).length - 1 - i < (fdl (MM t) a).length := by omega
      rw [List.getElem?_eq_getElem hj] at hy
      cases hy
      rw [g2] at hw'
      have := g3 _ w (rty (MM t) (fdl (MM t) a)[(fdl (MM t) a).length - 1 - i]) hw' (by
        show (fdi W (sid (MM t) a))[_]? = _
        rw [ef, List.getElem?_map, List.getElem?_eq_getElem hj]; rfl)
      exact ⟨VT_nr this, this⟩
  · rw [List.flatMap_append, List.mem_append] at hq
    rcases hq with z | z
    · obtain ⟨x, x1, x2⟩ := List.mem_flatMap.mp z
      obtain ⟨w, -, w2⟩ := List.mem_map.mp x1
      subst w2
      cases x2
    · exact h.vs ht q (by rw [f1]; exact vt_fl z)
end
