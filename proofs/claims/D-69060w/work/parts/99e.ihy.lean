/-! what is known of an instruction's state -/
theorem pt_l {t : Ty} {o : Og} {s s' : Sk} (h : pt t o s = .ok s') : s.length < 64 := by
  unfold pt at h
  obtain ⟨_, h1, -⟩ := eb_ok h
  simpa using nee_i h1
theorem tkV_len : ∀ {n : Nat} {k t : List It} {l : List VL}, tkV n k = some (l, t) → k.length = n + t.length
  | 0, k, t, l, h => by cases h; omega
  | n + 1, [], t, l, h => by cases h
  | n + 1, .inr r :: k, t, l, h => by cases h
  | n + 1, .inl v :: k, t, l, h => by
    unfold tkV at h
    cases hh : tkV n k with
    | none => rw [hh] at h; cases h
    | some q =>
      obtain ⟨l', t'⟩ := q
      rw [hh] at h
      cases h
      have := tkV_len hh
      rw [List.length_cons, this]; omega
section
variable {W : Wd} {D : Nat → Nat} {s : Ms} {A : Nat → Nat → Rx} {MM : Nat → Md} {UU : Nat → Ux} {SS : Nat → Sk} {LL : Nat → Ls} {KK : Nat → Sk} {SJ : Nat → Nat → Sk} {t : Nat}
theorem StT.mem {g : Sg} {j : Nat} {m : Md} {u : Ux} : ∀ {k : List It} {sk : Sk}, StT W g A j m u k sk → ∀ i ∈ k, ∃ x ∈ sk, ItT W g A j m u x i
  | [], [], _, i, hi => by cases hi
  | i' :: k, x :: sk, h, i, hi => by
    rcases List.mem_cons.mp hi with z | z
    · subst z; exact ⟨x, List.mem_cons_self, h.1⟩
    · obtain ⟨y, y1, y2⟩ := h.2.mem i z
      exact ⟨y, List.mem_cons_of_mem _ y1, y2⟩
  | [], _ :: _, h, _, _ => h.elim
  | _ :: _, [], h, _, _ => h.elim
/-- roots of references lie within -/
theorem RfT.rin (h : Cor W s A MM UU SS LL) (hW : WV W) {j : Nat} (hj : j < s.1) {ty : Ty} {og : Og} {r : Rx} (hr : RfT W (sgn s) A j (MM j) (UU j) ty og r) : rin s r := by
  refine ⟨by have := hr.2.2.1; omega, fun hn => ?_⟩
  obtain ⟨T, t1, -⟩ := hr.2.1
  have hle := hr.2.2.1
  obtain ⟨⟨a, k⟩, p⟩ := r
  cases a with
  | zero => exact absurd rfl hn
  | succ i =>
    have hle : i + 1 ≤ j + 1 := hle
    obtain ⟨f1, -⟩ := h.2.2.1 i (by omega)
    obtain ⟨g1, -, -⟩ := tgt_rf (g := sgn s) (j := i) (m := MM i) (u := UU i) f1 t1
    have gu := ((hW.2 _ _ f1.1).2.1.2.2.2.2.1 _ (List.mem_of_getElem? f1.2)).2
    have := gu.n
    show k < 40
    omega
/-- references that write lead to what was noted as changed -/
theorem RfT.wok (h : Cor W s A MM UU SS LL) (hk : ∀ j, j < s.1 → Lkf s A UU j) (hr : ∀ j, j + 1 < s.1 → Rtf W (sgn s) A MM UU j (SS j) (KK j)) : ∀ {j : Nat} {ty : Ty} {og : Og} {r : Rx}, j < s.1 → RfT W (sgn s) A j (MM j) (UU j) ty og r → isWr ty = true → wok s r := by
  intro j
  induction j with
  | zero =>
    intro ty og r hj hx hw hz
    rcases hx.2.2.2 with ⟨k, a1, a2, a3, a4⟩ | ⟨a, a1, a2, a3, a4, a5, a6, a7, a8⟩ | ⟨e, c, p, a1, a2, a3, a4, a5, a6, a7⟩
    · rw [a3] at hz; cases hz
    · have := ((hk 0 hj).1 a a7 a8).1; omega
    · have a5 : ((ens s).map fun e => e.1)[e]? = some p := a5
      rw [List.getElem?_map] at a5
      cases hx : (ens s)[e]? with
      | none => rw [hx] at a5; cases a5
      | some x =>
        rw [hx] at a5
        have a5 : x.1 = p := Option.some.inj a5
        refine ⟨x, by rw [a4]; exact hx, by rw [a5]; exact a6, ?_⟩
        have : chgd (ens s) e = true := a3.2 hw
        unfold chgd at this
        rw [hx] at this
        exact this
  | succ j ih =>
    intro ty og r hj hx hw hz
    rcases hx.2.2.2 with ⟨k, a1, a2, a3, a4⟩ | ⟨a, a1, a2, a3, a4, a5, a6, a7, a8⟩ | ⟨e, c, p, a1, a2, a3, a4, a5, a6, a7⟩
    · rw [a3] at hz; cases hz
    · obtain ⟨g, q, -, -, e3⟩ := hr j hj
      obtain ⟨x, -, x2, x3⟩ := e3 a a7 a8
      have := ih (by omega) x3 (by rw [x2]; exact a6 hw)
      have this : (A (j + 1) a).1.1 = 0 → ∃ x, (ens s)[(A (j + 1) a).1.2]? = some x ∧ x.1.1 = 3 ∧ x.2.2.2 = true := this
      rw [← a3] at this
      exact this hz
    · have a5 : ((ens s).map fun e => e.1)[e]? = some p := a5
      rw [List.getElem?_map] at a5
      cases hx : (ens s)[e]? with
      | none => rw [hx] at a5; cases a5
      | some x =>
        rw [hx] at a5
        have a5 : x.1 = p := Option.some.inj a5
        refine ⟨x, by rw [a4]; exact hx, by rw [a5]; exact a6, ?_⟩
        have : chgd (ens s) e = true := a3.2 hw
        unfold chgd at this
        rw [hx] at this
        exact this
theorem i_stk (h : Cor W s A MM UU SS LL) (ht : t + 1 = s.1) (hW : WV W) (hD : DW W D) (hz : szs s ≤ 150000) {v : VL} (hv : (Sum.inl v : It) ∈ stk s) : VW v := by
  obtain ⟨-, h1, -, -⟩ := h.tp ht
  obtain ⟨x, -, x2⟩ := h1.mem _ hv
  have := stk_sz (s := s) (by omega) hv
  refine x2.2.vw hW hD ?_
  have e : vsz v = 1 + fsz v.2.2 := rfl
  omega
theorem LcT.val {g : Sg} {j : Nat} {m : Md} {u : Ux} {l : Nat → Option It} {ls : Ls} (h : LcT W g A j m u l ls) {k : Nat} {v : VL} (hv : l k = some (.inl v)) : ∃ T, VT W T v := by
  by_cases c : k < nlo u
  · have h1 := h.1 k c
    cases hh : lgt ls k with
    | none =>
      rw [hh] at h1
      rcases h1 with z | ⟨v', z1, z2, z3⟩
      · rw [hv] at z; cases z
      · rw [hv] at z1; cases z1; exact ⟨_, z3⟩
    | some og =>
      rw [hh] at h1
      obtain ⟨i, z1, z2⟩ := h1
      rw [hv] at z1; cases z1
      exact ⟨_, z2.2⟩
  · have := h.2 k (by omega)
    rw [this] at hv; cases hv
theorem frl_sz {j k : Nat} {v : VL} (hj : j < s.1) (hk : k < 40) (hv : (s.2.1 j).2.2.1 k = some (.inl v)) : vsz v ≤ szs s := by
  refine rtv_sz (r := ((j + 1, k), [])) ⟨by show j + 1 ≤ s.1; omega, fun _ => hk⟩ ?_
  show (match (s.2.1 j).2.2.1 k with | some (.inl v) => some v | _ => none) = some v
  rw [hv]
theorem i_frl (h : Cor W s A MM UU SS LL) (hW : WV W) (hD : DW W D) (hz : szs s ≤ 150000) {j k : Nat} (hj : j < s.1) {v : VL} (hv : (s.2.1 j).2.2.1 k = some (.inl v)) : VW v := by
  obtain ⟨f1, -, h2, -⟩ := h.2.2.1 j hj
  obtain ⟨T, hT⟩ := h2.val hv
  have gu := ((hW.2 _ _ f1.1).2.1.2.2.2.2.1 _ (List.mem_of_getElem? f1.2)).2
  have hk : k < 40 := by
    have := gu.n
    by_cases c : k < nlo (UU j)
    · omega
    · have := h2.2 k (by omega)
      rw [this] at hv; cases hv
  have := frl_sz hj hk hv
  refine hT.vw hW hD ?_
  have e : vsz v = 1 + fsz v.2.2 := rfl
  omega
theorem i_frs (h : Cor W s A MM UU SS LL) (hW : WV W) (hD : DW W D) (hz : szs s ≤ 150000) {j : Nat} (hj : j < s.1) {v : VL} (hv : (Sum.inl v : It) ∈ (s.2.1 j).2.2.2) : VW v := by
  obtain ⟨f1, h1, -, -⟩ := h.2.2.1 j hj
  obtain ⟨x, -, x2⟩ := h1.mem _ hv
  have a := szN_u (F := s.2.1) (t := j) (n := s.1) (f := ((0, 0), 0, fun _ => none, [])) hj
  have e0 : szF ((0, 0), 0, fun _ => none, []) = 0 := by decide
  have e3 : szF (s.2.1 j) = szK (s.2.1 j).2.2.2 + szL (s.2.1 j).2.2.1 := rfl
  have : vsz v ≤ szK (s.2.1 j).2.2.2 := by
    obtain ⟨i, hi, ei⟩ := List.mem_iff_getElem.mp hv
    have := sum_set (l := (s.2.1 j).2.2.2.map isz) (i := i) (a := vsz v) (b := 0) (by rw [List.getElem?_map, List.getElem?_eq_getElem hi, ei]; rfl)
    unfold szK; omega
  refine x2.2.vw hW hD ?_
  have e : vsz v = 1 + fsz v.2.2 := rfl
  unfold szs at hz
  omega
theorem i_en (h : Cor W s A MM UU SS LL) (hW : WV W) (hD : DW W D) (hz : szs s ≤ 150000) {x : En} (hx : x ∈ ens s) (h3 : x.1.1 = 3) {v : VL} (hv : x.2.2.1.2.2.2 = some v) : VW v := by
  have hT := (h.2.1 x hx h3).2.2 v hv
  obtain ⟨i, hi, ei⟩ := List.mem_iff_getElem.mp hx
  have := rtv_sz (s := s) (r := ((0, i), [])) (v := v) ⟨Nat.zero_le _, fun z => absurd rfl z⟩ (by
    show (match (ens s)[i]? with | some e => e.2.2.1.2.2.2 | none => none) = some v
    rw [List.getElem?_eq_getElem hi, ei]; exact hv)
  refine hT.vw hW hD ?_
  have e : vsz v = 1 + fsz v.2.2 := rfl
  omega
theorem i_ref (h : Cor W s A MM UU SS LL) (ht : t + 1 = s.1) (hW : WV W) (hD : DW W D) (hz : szs s ≤ 150000) {r : Rx} (hr : (Sum.inr r : It) ∈ stk s) : rin s r ∧ ∀ v, drf s r = some v → VW v ∧ (v.1 = 7 → ∀ w ∈ flo v.2.2, ∀ w' ∈ flo v.2.2, w.1 = w'.1) := by
  obtain ⟨-, h1, -, -⟩ := h.tp ht
  obtain ⟨x, -, x2⟩ := h1.mem _ hr
  have x2 : RfT W (sgn s) A t (MM t) (UU t) x.1 x.2 r := x2
  have hn := x2.rin h hW (by omega)
  refine ⟨hn, fun v hv => ?_⟩
  have hT : RTV W s := RTV.mk (fun j hj => ⟨(h.2.2.1 j hj).1, (h.2.2.1 j hj).2.2.1⟩) h.2.1
  obtain ⟨v', e1, e2⟩ := x2.val (by omega) hT (by rw [hv]; rfl)
  rw [hv] at e1; cases e1
  have := drf_sz hn hv
  have e : vsz v = 1 + fsz v.2.2 := rfl
  exact ⟨e2.vw hW hD (by omega), fun z w hw w' hw' => e2.knd z hw hw'⟩
theorem ixw_b {m : Md} {u : Ux} {x : Ix} (g : gX m u x) (h : (16 ≤ x.1 ∧ x.1 < 21) ∨ (52 ≤ x.1 ∧ x.1 < 59)) : x.2.2.1 < 256 := by
  have h3 := g.2.2.2.1
  have : fq2 x.1 ≤ 1 := by
    rcases (show x.1 = 16 ∨ x.1 = 17 ∨ x.1 = 18 ∨ x.1 = 19 ∨ x.1 = 20 ∨ x.1 = 52 ∨ x.1 = 53 ∨ x.1 = 54 ∨ x.1 = 55 ∨ x.1 = 56 ∨ x.1 = 57 ∨ x.1 = 58 by omega) with z | z | z | z | z | z | z | z | z | z | z | z <;> rw [z] <;> decide
  exact Nat.lt_of_lt_of_le h3 (Nat.le_trans (Nat.pow_le_pow_right (by decide) this) (by decide))
/-- what an instruction needs -/
theorem i_ihy (h : Cor W s A MM UU SS LL) (ht : t + 1 = s.1) (hW : WV W) (hD : DW W D) (hz : szs s ≤ 150000) {x : Ix} {d : Cs} (hw : W (MM t).1 = some (MM t)) (h32 : (MM t).2.1.length ≤ 32) (gu : gU (MM t) (UU t)) (gx : gX (MM t) (UU t) x) (a5 : (SS t).length ≤ 64) (n3 : cOp (MM t) (UU t) (lty (UU t)) x.1 x.2.1 x.2.2.1 (SS t, LL t) = .ok d) : IHY (MM t) x s := by
  obtain ⟨hf, h1, h2, hl⟩ := h.tp ht
  have hlen := h1.len
  refine ⟨⟨fun v hv => i_stk h ht hW hD hz hv, fun k v hv => i_frl h hW hD hz (j := t) (by omega) (by rw [← tpt ht]; exact hv), fun r hr v hv => (i_ref h ht hW hD hz hr).2 v hv⟩, fun hx => ?_, fun hx => ⟨?_, fun hn => ?_, fun h13 r t' hs e => ?_⟩, fun hx => ⟨?_, fun k vs hk => ?_⟩, fun hx v k hs => ?_, fun hx k vs hk => ?_, fun hx => ixw_b gx hx, fun hx => ?_⟩
  · rw [hlen]
    unfold cOp at n3
    rw [if_neg (by omega), if_neg (by omega), if_neg (by omega), if_neg (by omega)] at n3
    by_cases c8 : x.1 < 8
    · rw [if_pos c8] at n3
      obtain ⟨_, b1, -⟩ := eb_ok n3
      exact pt_l b1
    · rw [if_neg c8] at n3
      by_cases c10 : x.1 < 10
      · rw [if_pos c10] at n3
        obtain ⟨_, b1, -⟩ := eb_ok n3
        exact pt_l b1
      · rw [if_neg c10, if_pos (by omega)] at n3
        obtain ⟨_, b1, -⟩ := eb_ok n3
        exact pt_l b1
  · have := gx.lo (by omega)
    have := gu.n
    omega
  · rw [hlen]
    unfold cOp at n3
    rw [if_neg (by omega), if_neg (by omega), if_neg (by omega), if_neg (by omega), if_neg (by omega), if_neg (by omega), if_neg (by omega), if_pos (by omega)] at n3
    unfold cLoc at n3
    rw [if_neg hn] at n3
    split at n3
    · cases n3
    · split at n3
      · obtain ⟨_, -, n3⟩ := eb_ok n3
        obtain ⟨_, -, n3⟩ := eb_ok n3
        obtain ⟨_, b1, -⟩ := eb_ok n3
        exact pt_l b1
      · split at n3
        · obtain ⟨_, -, n3⟩ := eb_ok n3
          obtain ⟨_, b1, -⟩ := eb_ok n3
          exact pt_l b1
        · obtain ⟨_, -, n3⟩ := eb_ok n3
          obtain ⟨_, -, n3⟩ := eb_ok n3
          obtain ⟨_, b1, -⟩ := eb_ok n3
          exact pt_l b1
  · unfold cOp at n3
    rw [if_neg (by omega), if_neg (by omega), if_neg (by omega), if_neg (by omega), if_neg (by omega), if_neg (by omega), if_neg (by omega), if_pos (by omega)] at n3
    unfold cLoc at n3
    rw [if_pos h13] at n3
    obtain ⟨r0, b1, -⟩ := eb_ok n3
    obtain ⟨d1, d2⟩ := tkT_i b1
    have d1 : SS t = r0.1 :: r0.2 := d1
    rw [hs, d1] at h1
    have hx1 : RfT W (sgn s) A t (MM t) (UU t) r0.1.1 r0.1.2 r := h1.1
    obtain ⟨T, t1, -⟩ := hx1.2.1
    rw [e, ← ht] at t1
    obtain ⟨-, g2, -⟩ := tgt_rf (g := sgn s) (j := t) (m := MM t) (u := UU t) hf t1
    have := hx1.1
    rw [d2, g2] at this; cases this
  · have := gx.ow (Or.inl hx)
    exact ⟨_, List.getElem?_eq_getElem this⟩
  · unfold cOp at n3
    rw [if_neg (by omega), if_neg (by omega), if_neg (by omega), if_neg (by omega), if_neg (by omega), if_neg (by omega), if_neg (by omega), if_neg (by omega), if_neg (by omega), if_neg (by omega), if_pos hx] at n3
    unfold cPack at n3
    obtain ⟨q, b1, n3⟩ := eb_ok n3
    obtain ⟨_, b2, -⟩ := eb_ok n3
    have := pt_l b2
    obtain ⟨e1, e2⟩ := tkL_len b1
    have e1 : SS t = q.1.reverse ++ q.2 := e1
    have e3 := congrArg List.length e2
    rw [List.length_map, List.length_reverse, List.length_reverse] at e3
    have e4 := tkV_len hk
    rw [hlen, e1, List.length_append, List.length_reverse] at e4
    omega
  · unfold cOp at n3
    rw [if_neg (by omega), if_neg (by omega), if_neg (by omega), if_neg (by omega), if_neg (by omega), if_neg (by omega), if_neg (by omega), if_neg (by omega), if_neg (by omega), if_neg (by omega), if_neg (by omega), if_pos hx] at n3
    unfold cUnp at n3
    obtain ⟨r0, b1, n3⟩ := eb_ok n3
    obtain ⟨s', b2, n3⟩ := eb_ok n3
    obtain ⟨d1, d2⟩ := tkT_i b1
    have d1 : SS t = r0.1 :: r0.2 := d1
    have l64 : r0.2.length ≤ 64 := by rw [d1, List.length_cons] at a5; omega
    have := ptL_64 l64 b2
    rw [ptL_i b2, List.length_append, List.length_reverse, List.length_map] at this
    rw [hs, d1] at h1
    have hv : VT W (rty (MM t) r0.1.1) v := h1.1.2
    rw [d2, rty_6] at hv
    have ha := gx.ow (Or.inr (Or.inl hx))
    have ef := fdi_o hw ha h32
    have e1 : (flo v.2.2).length = (fdl (MM t) x.2.1).length := by
      rw [(VT_iff.mp hv).2.1]
      show (fdi W (sid (MM t) x.2.1)).length = _
      rw [ef, List.length_map]
    have e2 := h1.2.len
    omega
  · unfold cOp at n3
    rw [if_neg (by omega), if_neg (by omega), if_neg (by omega), if_neg (by omega), if_neg (by omega), if_neg (by omega), if_neg (by omega), if_neg (by omega), if_neg (by omega), if_neg (by omega), if_neg (by omega), if_neg (by omega), if_neg (by omega), if_neg (by omega), if_neg (by omega), if_neg (by omega), if_pos (by omega)] at n3
    unfold cVec at n3
    rw [if_pos hx] at n3
    obtain ⟨q, b1, n3⟩ := eb_ok n3
    obtain ⟨_, b2, -⟩ := eb_ok n3
    have := pt_l b2
    obtain ⟨e1, e2⟩ := tkL_len b1
    have e1 : SS t = q.1.reverse ++ q.2 := e1
    have e3 := congrArg List.length e2
    rw [List.length_map, List.length_reverse, List.length_replicate] at e3
    have e4 := tkV_len hk
    rw [hlen, e1, List.length_append, List.length_reverse] at e4
    omega
  · have := gx.ow (Or.inr (Or.inr (by omega)))
    omega
/-- references that are written through -/
theorem i_wrs (h : Cor W s A MM UU SS LL) (ht : t + 1 = s.1) (hk : ∀ j, j < s.1 → Lkf s A UU j) (hr : ∀ j, j + 1 < s.1 → Rtf W (sgn s) A MM UU j (SS j) (KK j)) {x : Ix} {d : Cs} (n3 : cOp (MM t) (UU t) (lty (UU t)) x.1 x.2.1 x.2.2.1 (SS t, LL t) = .ok d) : wrs x.1 s := by
  obtain ⟨hf, h1, h2, hl⟩ := h.tp ht
  refine ⟨fun hx r k hs => ?_, fun hx w r k hs => ?_, fun hx a b r k hs => ?_⟩
  · rcases hx with hx | hx
    · unfold cOp at n3
      rw [if_neg (by omega), if_neg (by omega), if_neg (by omega), if_neg (by omega), if_neg (by omega), if_neg (by omega), if_neg (by omega), if_neg (by omega), if_neg (by omega), if_pos (by omega)] at n3
      unfold cRef at n3
      obtain ⟨r0, b1, n3⟩ := eb_ok n3
      obtain ⟨_, b2, n3⟩ := eb_ok n3
      rw [if_neg (by omega)] at n3
      obtain ⟨_, b3, n3⟩ := eb_ok n3
      have d1 : SS t = r0.1 :: r0.2 := tk_i b1
      rw [hs, d1] at h1
      exact RfT.wok h hk hr (by omega) (show RfT W (sgn s) A t (MM t) (UU t) r0.1.1 r0.1.2 r from h1.1) (nee_i b3)
    · unfold cOp at n3
      rw [if_neg (by omega), if_neg (by omega), if_neg (by omega), if_neg (by omega), if_neg (by omega), if_neg (by omega), if_neg (by omega), if_neg (by omega), if_neg (by omega), if_neg (by omega), if_neg (by omega), if_neg (by omega), if_neg (by omega), if_neg (by omega), if_neg (by omega), if_neg (by omega), if_pos (by omega)] at n3
      unfold cVec at n3
      rw [if_neg (by omega), if_neg (by omega), if_neg (by omega), if_neg (by omega), if_pos hx] at n3
      obtain ⟨q, b1, n3⟩ := eb_ok n3
      obtain ⟨d1, d2, d3, d4⟩ := tkR_i b1
      have d1 : SS t = q.1 :: q.2 := d1
      rw [hs, d1] at h1
      exact RfT.wok h hk hr (by omega) (show RfT W (sgn s) A t (MM t) (UU t) q.1.1 q.1.2 r from h1.1) (d4 rfl)
  · unfold cOp at n3
    rw [if_neg (by omega), if_neg (by omega), if_neg (by omega), if_neg (by omega), if_neg (by omega), if_neg (by omega), if_neg (by omega), if_neg (by omega), if_neg (by omega), if_neg (by omega), if_neg (by omega), if_neg (by omega), if_neg (by omega), if_neg (by omega), if_neg (by omega), if_neg (by omega), if_pos (by omega)] at n3
    unfold cVec at n3
    rw [if_neg (by omega), if_neg (by omega), if_neg (by omega), if_pos hx] at n3
    obtain ⟨r0, b1, n3⟩ := eb_ok n3
    obtain ⟨q, b2, n3⟩ := eb_ok n3
    obtain ⟨d1, -⟩ := tkT_i b1
    obtain ⟨d2, -, -, d4⟩ := tkR_i b2
    have d1 : SS t = r0.1 :: r0.2 := d1
    rw [hs, d1, d2] at h1
    exact RfT.wok h hk hr (by omega) (show RfT W (sgn s) A t (MM t) (UU t) q.1.1 q.1.2 r from h1.2.1) (d4 rfl)
  · unfold cOp at n3
    rw [if_neg (by omega), if_neg (by omega), if_neg (by omega), if_neg (by omega), if_neg (by omega), if_neg (by omega), if_neg (by omega), if_neg (by omega), if_neg (by omega), if_neg (by omega), if_neg (by omega), if_neg (by omega), if_neg (by omega), if_neg (by omega), if_neg (by omega), if_neg (by omega), if_pos (by omega)] at n3
    unfold cVec at n3
    rw [if_neg (by omega), if_neg (by omega), if_neg (by omega), if_neg (by omega), if_neg (by omega)] at n3
    obtain ⟨r0, b1, n3⟩ := eb_ok n3
    obtain ⟨p0, b2, n3⟩ := eb_ok n3
    obtain ⟨q, b3, n3⟩ := eb_ok n3
    obtain ⟨d1, -⟩ := tkT_i b1
    obtain ⟨d2, -⟩ := tkT_i b2
    obtain ⟨d3, -, -, d4⟩ := tkR_i b3
    have d1 : SS t = r0.1 :: r0.2 := d1
    rw [hs, d1, d2, d3] at h1
    exact RfT.wok h hk hr (by omega) (show RfT W (sgn s) A t (MM t) (UU t) q.1.1 q.1.2 r from h1.2.2.1) (d4 rfl)
end
