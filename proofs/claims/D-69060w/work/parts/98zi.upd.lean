/-! what holds while a transaction goes on: changes -/
def uS {α : Type} (F : Nat → α) (t : Nat) (x : α) : Nat → α := fun j => if j = t then x else F j
theorem uS_s {α : Type} {F : Nat → α} {t : Nat} {x : α} : uS F t x t = x := if_pos rfl
theorem uS_n {α : Type} {F : Nat → α} {t j : Nat} {x : α} (h : j ≠ t) : uS F t x j = F j := if_neg h
theorem uF_s {F : Nat → Fm} {t : Nat} {x : Fm} : uF F t x t = x := if_pos rfl
theorem uF_n {F : Nat → Fm} {t j : Nat} {x : Fm} (h : j ≠ t) : uF F t x j = F j := if_neg h
theorem sgs.refl {n : Nat} (g : Sg) : sgs n g g := ⟨List.prefix_rfl, fun _ _ => rfl, fun _ z => z⟩
theorem sgs.trans {n : Nat} {a b c : Sg} (h1 : sgs n a b) (h2 : sgs n b c) : sgs n a c := ⟨h1.1.trans h2.1, fun j hj => by rw [h2.2.1 j hj, h1.2.1 j hj], fun e z => h2.2.2 e (h1.2.2 e z)⟩
theorem sgn_F {s : Ms} {f : Fm} (h : f.1 = (tpf s).1) : sgn (sF s f) = sgn s := by
  refine Prod.ext rfl (Prod.ext (funext fun j => ?_) rfl)
  show (uF s.2.1 (s.1 - 1) f j).1 = (s.2.1 j).1
  by_cases c : j = s.1 - 1
  · rw [c, uF_s]; exact h
  · rw [uF_n c]
theorem map_set {α β : Type} {l : List α} {f : α → β} {i : Nat} {x y : α} (hx : l[i]? = some x) (h : f y = f x) : (l.set i y).map f = l.map f := by
  refine List.ext_getElem? fun j => ?_
  rw [List.getElem?_map, List.getElem?_map, List.getElem?_set]
  by_cases c : i = j
  · subst c
    rw [if_pos rfl, if_pos (get_lt hx), hx]
    exact congrArg some h
  · rw [if_neg c]
theorem chg_set {es : List En} {i : Nat} {x y : En} (hx : es[i]? = some x) (h : y.2.2.2 = x.2.2.2) : chgd (es.set i y) = chgd es := by
  funext e
  unfold chgd
  by_cases c : i = e
  · subst c
    rw [List.getElem?_set_self (get_lt hx), hx]
    exact h
  · rw [List.getElem?_set_ne c]
theorem chg_on {es : List En} {i : Nat} {x y : En} (hx : es[i]? = some x) (h : x.2.2.2 = true → y.2.2.2 = true) {e : Nat} (he : chgd es e = true) : chgd (es.set i y) e = true := by
  unfold chgd at he ⊢
  by_cases c : i = e
  · subst c
    rw [List.getElem?_set_self (get_lt hx)]
    rw [hx] at he
    exact h he
  · rw [List.getElem?_set_ne c]; exact he
theorem sgn_rst {s : Ms} {r : Nat × Nat} {v : VL} : sgn (rst s r v) = sgn s := by
  obtain ⟨a, k⟩ := r
  cases a with
  | zero =>
    unfold rst
    simp only
    split
    · next e he => exact Prod.ext (map_set he rfl) (Prod.ext rfl (chg_set he rfl))
    · rfl
  | succ j =>
    unfold rst
    refine Prod.ext rfl (Prod.ext (funext fun i => ?_) rfl)
    show (uF s.2.1 j _ i).1 = (s.2.1 i).1
    by_cases c : i = j
    · rw [c, uF_s]
    · rw [uF_n c]
theorem rst_d {s : Ms} {r : Nat × Nat} {v : VL} : (rst s r v).1 = s.1 := by
  obtain ⟨a, k⟩ := r
  cases a with
  | zero =>
    unfold rst
    simp only
    split <;> rfl
  | succ j => rfl
/-- what a change of a root leaves -/
theorem rst_v {s : Ms} {r : Nat × Nat} {v w : VL} (h : rtv s r = some v) : rtv (rst s r w) r = some w ∧ ∀ q, q ≠ r → rtv (rst s r w) q = rtv s q := by
  obtain ⟨a, k⟩ := r
  cases a with
  | zero =>
    unfold rtv at h
    simp only at h
    cases he : (ens s)[k]? with
    | none => rw [he] at h; cases h
    | some e =>
      have hr : rst s (0, k) w = sE s ((ens s).set k (e.1, e.2.1, (e.2.2.1.1, e.2.2.1.2.1, e.2.2.1.2.2.1, some w), e.2.2.2)) := by
        unfold rst; simp only [he]
      rw [hr]
      refine ⟨?_, fun q hq => ?_⟩
      · show (match ((ens s).set k _)[k]? with | some e => e.2.2.1.2.2.2 | none => none) = some w
        rw [List.getElem?_set_self (get_lt he)]
      · obtain ⟨b, i⟩ := q
        cases b with
        | zero =>
          show (match ((ens s).set k _)[i]? with | some e => e.2.2.1.2.2.2 | none => none) = (match (ens s)[i]? with | some e => e.2.2.1.2.2.2 | none => none)
          rw [List.getElem?_set_ne (fun z => hq (by rw [z]))]
        | succ j => rfl
  | succ j =>
    refine ⟨?_, fun q hq => ?_⟩
    · show (match (uF s.2.1 j _ j).2.2.1 k with | some (.inl v) => some v | _ => none) = some w
      rw [uF_s]
      show (match uLc (s.2.1 j).2.2.1 k (some (.inl w)) k with | some (.inl v) => some v | _ => none) = some w
      unfold uLc
      rw [if_pos rfl]
    · obtain ⟨b, i⟩ := q
      cases b with
      | zero => rfl
      | succ j' =>
        show (match (uF s.2.1 j _ j').2.2.1 i with | some (.inl v) => some v | _ => none) = (match (s.2.1 j').2.2.1 i with | some (.inl v) => some v | _ => none)
        by_cases c : j' = j
        · subst c
          rw [uF_s]
          show (match uLc (s.2.1 j').2.2.1 k (some (.inl w)) i with | some (.inl v) => some v | _ => none) = _
          unfold uLc
          rw [if_neg (fun z => hq (by rw [z]))]
        · rw [uF_n c]
theorem rfF_rst {s : Ms} {r : Nat × Nat} {v w : VL} (h : rtv s r = some v) (j : Nat) : rfF ((rst s r w).2.1 j) = rfF (s.2.1 j) ∧ ((rst s r w).2.1 j).1 = (s.2.1 j).1 ∧ ((rst s r w).2.1 j).2.1 = (s.2.1 j).2.1 ∧ ((rst s r w).2.1 j).2.2.2 = (s.2.1 j).2.2.2 := by
  obtain ⟨a, k⟩ := r
  cases a with
  | zero =>
    have : (rst s (0, k) w).2.1 = s.2.1 := by
      unfold rst
      simp only
      split <;> rfl
    rw [this]; exact ⟨rfl, rfl, rfl, rfl⟩
  | succ i =>
    have h : (match (s.2.1 i).2.2.1 k with | some (.inl v) => some v | _ => none) = some v := h
    show rfF (uF s.2.1 i _ j) = _ ∧ (uF s.2.1 i _ j).1 = _ ∧ (uF s.2.1 i _ j).2.1 = _ ∧ (uF s.2.1 i _ j).2.2.2 = _
    by_cases c : j = i
    · subst c
      rw [uF_s]
      refine ⟨?_, rfl, rfl, rfl⟩
      unfold rfF
      show _ ++ (List.range 40).flatMap (fun x => rfO (uLc (s.2.1 j).2.2.1 k (some (.inl w)) x)) = _
      congr 2
      funext x
      unfold uLc
      by_cases c : x = k
      · subst c
        rw [if_pos rfl]
        split at h
        · next v' e => rw [e]; rfl
        · cases h
      · rw [if_neg c]
    · rw [uF_n c]; exact ⟨rfl, rfl, rfl, rfl⟩
/-- a value is written, and types stay -/
theorem Cor.wr {W : Wd} {s : Ms} {A : Nat → Nat → Rx} {MM : Nat → Md} {UU : Nat → Ux} {SS : Nat → Sk} {LL : Nat → Ls} (h : Cor W s A MM UU SS LL) {r : Rx} {T U : List Nat} {v w : VL} (hr : r.1.1 ≤ s.1) (h1 : rtT W (sgn s) r.1 = some T) (h2 : tpa W T r.2 = some U) (hd : drf s r = some v) (hw : VT W U w) (hv : ∀ q ∈ rfs s, blw r q = false ∨ ∀ z, (vgt v z).isSome = true → (vgt w z).isSome = true) :
    Cor W (wrf s r w) A MM UU SS LL ∧ (wrf s r w).1 = s.1 ∧ sgn (wrf s r w) = sgn s ∧ ∀ j, rfF ((wrf s r w).2.1 j) = rfF (s.2.1 j) ∧ ((wrf s r w).2.1 j).1 = (s.2.1 j).1 ∧ ((wrf s r w).2.1 j).2.1 = (s.2.1 j).2.1 ∧ ((wrf s r w).2.1 j).2.2.2 = (s.2.1 j).2.2.2 := by
  obtain ⟨c1, c2, c3, c4⟩ := id h
  have hrt : RTV W s := RTV.mk (fun j hj => ⟨(c3 j hj).1, (c3 j hj).2.2.1⟩) c2
  unfold drf at hd
  cases hv0 : rtv s r.1 with
  | none => rw [hv0] at hd; cases hd
  | some v0 =>
    rw [hv0] at hd
    have hd : vgt v0 r.2 = some v := hd
    have e : wrf s r w = rst s r.1 (vst v0 r.2 w) := by unfold wrf; rw [hv0]
    rw [e]
    have t0 := hrt r.1 T v0 hr h1 hv0
    have t1 : VT W T (vst v0 r.2 w) := t0.set hd h2 hw
    have rf := fun j => rfF_rst (w := vst v0 r.2 w) hv0 j
    obtain ⟨v1, v2⟩ := rst_v (w := vst v0 r.2 w) hv0
    refine ⟨⟨by rw [rst_d]; exact c1, ?_, fun j hj => ?_, fun j hj q hq => ?_⟩, rst_d, sgn_rst, rf⟩
    · -- entries
      generalize hq : vst v0 r.2 w = y at *
      obtain ⟨⟨a, k⟩, p⟩ := r
      cases a with
      | zero =>
        unfold rst
        simp only
        split
        · next x hx =>
          intro z hz hz3
          have hz : z ∈ (ens s).set k (x.1, x.2.1, (x.2.2.1.1, x.2.2.1.2.1, x.2.2.1.2.2.1, some y), x.2.2.2) := hz
          rcases List.mem_or_eq_of_mem_set hz with z1 | z1
          · exact c2 z z1 hz3
          · subst z1
            obtain ⟨g1, g2, g3⟩ := c2 x (List.mem_of_getElem? hx) hz3
            have hv0 : (match (ens s)[k]? with | some e => e.2.2.1.2.2.2 | none => none) = some v0 := hv0
            rw [hx] at hv0
            have hv0 : x.2.2.1.2.2.2 = some v0 := hv0
            refine ⟨g1, ?_, fun v' hv' => ?_⟩
            · show x.2.2.1.1 = true
              rw [g2, hv0]; rfl
            · cases hv'
              have h1 : (match (sgn s).1[k]? with | some p => if p.1 = 3 then some [6, p.2.2] else none | none => none) = some T := h1
              have e1 : (sgn s).1[k]? = some x.1 := by unfold sgn; rw [List.getElem?_map, hx]; rfl
              rw [e1] at h1
              simp only at h1
              rw [if_pos hz3] at h1
              cases h1
              exact t1
        · exact c2
      | succ j => exact c2
    · -- frames
      rw [rst_d] at hj
      obtain ⟨f1, f2, f3, f4⟩ := c3 j hj
      obtain ⟨r1, r2, r3, r4⟩ := rf j
      rw [sgn_rst]
      refine ⟨?_, ?_, ?_, f4⟩
      · unfold frU; rw [r2]; exact f1
      · rw [r4]; exact f2
      · obtain ⟨⟨a, k⟩, p⟩ := r
        cases a with
        | zero =>
          have : (rst s (0, k) (vst v0 p w)).2.1 = s.2.1 := by
            unfold rst
            simp only
            split <;> rfl
          show LcT W (sgn s) A j (MM j) (UU j) ((rst s (0, k) (vst v0 p w)).2.1 j).2.2.1 (LL j)
          rw [this]; exact f3
        | succ i =>
          show LcT W (sgn s) A j (MM j) (UU j) (uF s.2.1 i _ j).2.2.1 (LL j)
          by_cases c : j = i
          · subst c
            rw [uF_s]
            obtain ⟨g1, g2, g3⟩ := tgt_rf (g := sgn s) (j := j) (m := MM j) (u := UU j) f1 h1
            exact f3.chg g1 g2 (by rw [← g3]; exact t1)
          · rw [uF_n c]; exact f3
    · -- what is alive is there
      rw [rst_d] at hj
      rw [(rf j).1] at hq
      have hs := c4 j hj q hq
      unfold drf at hs ⊢
      by_cases c : q.1 = r.1
      · rw [c, v1]
        rw [c, hv0] at hs
        have hs : (vgt v0 q.2).isSome = true := hs
        show (vgt (vst v0 r.2 w) q.2).isSome = true
        rcases hv q (rfs_m.mpr ⟨j, hj, hq⟩) with z | z
        · refine vgt_sn (fun z2 => ?_) hd hs
          have : blw r q = true := blw_t.mpr ⟨c, z2⟩
          rw [z] at this; cases this
        · exact vgt_sub hd z hs
      · rw [v2 q.1 c]; exact hs
/-- a place that is asked for -/
def EV (W : Wd) (env : Pc → Cn) : Prop := ∀ a i, (env (3, a, i)).1 = (env (3, a, i)).2.2.2.isSome ∧ ∀ v, (env (3, a, i)).2.2.2 = some v → VT W [6, i] v
theorem Cor.ask {W : Wd} {s s1 : Ms} {A : Nat → Nat → Rx} {MM : Nat → Md} {UU : Nat → Ux} {SS : Nat → Sk} {LL : Nat → Ls} {env : Pc → Cn} (hV : EV W env) {p : Pc} (h : Cor W s A MM UU SS LL) (hp : p.1 = 3 → ∃ m, W (p.2.2 / 256) = some m ∧ p.2.2 % 256 < m.2.1.length) (e1 : s1.1 = s.1) (e2 : s1.2.1 = s.2.1) (e3 : ens s1 = ens s ++ [(p, env p, env p, false)]) : Cor W s1 A MM UU SS LL ∧ sgs s.1 (sgn s) (sgn s1) := by
  obtain ⟨c1, c2, c3, c4⟩ := id h
  have hg : sgs s.1 (sgn s) (sgn s1) := by
    refine ⟨?_, fun j _ => ?_, fun e z => ?_⟩
    · show (ens s).map _ <+: (ens s1).map _
      rw [e3, List.map_append]
      exact List.prefix_append _ _
    · show (s1.2.1 j).1 = (s.2.1 j).1
      rw [e2]
    · show chgd (ens s1) e = true
      have z : chgd (ens s) e = true := z
      rw [e3]
      unfold chgd at z ⊢
      cases hh : (ens s)[e]? with
      | none => rw [hh] at z; cases z
      | some y =>
        rw [List.getElem?_append_left (get_lt hh), hh]
        rw [hh] at z; exact z
  refine ⟨⟨by rw [e1]; exact c1, ?_, fun j hj => ?_, fun j hj q hq => ?_⟩, hg⟩
  · intro x hx hx3
    rw [e3, List.mem_append] at hx
    rcases hx with z | z
    · exact c2 x z hx3
    · have z : x = (p, env p, env p, false) := by simpa using z
      subst z
      obtain ⟨p1, p2, p3⟩ := p
      have hx3 : p1 = 3 := hx3
      subst hx3
      exact ⟨hp rfl, (hV p2 p3).1, (hV p2 p3).2⟩
  · rw [e1] at hj
    rw [e2]
    obtain ⟨f1, f2, f3, f4⟩ := c3 j hj
    exact ⟨f1, f2.m hg hj rfl, f3.m hg hj rfl, f4⟩
  · rw [e1] at hj
    rw [e2] at hq
    have hs := c4 j hj q hq
    have : rtv s1 q.1 = rtv s q.1 := by
      obtain ⟨⟨a, k⟩, pp⟩ := q
      cases a with
      | zero =>
        show (match (ens s1)[k]? with | some e => e.2.2.1.2.2.2 | none => none) = (match (ens s)[k]? with | some e => e.2.2.1.2.2.2 | none => none)
        have : ∃ x, (ens s)[k]? = some x := by
          cases hh : (ens s)[k]? with
          | some x => exact ⟨x, rfl⟩
          | none =>
            unfold drf rtv at hs
            simp only at hs
            rw [hh] at hs; cases hs
        obtain ⟨x, hx⟩ := this
        rw [e3, List.getElem?_append_left (get_lt hx)]
      | succ i =>
        show (match (s1.2.1 i).2.2.1 k with | some (.inl v) => some v | _ => none) = _
        rw [e2]; rfl
    unfold drf at hs ⊢
    rw [this]; exact hs
/-- never stuck; what is then -/
def Okr (W : Wd) (r : Rz) (P : Ms → Prop) : Prop := match r with
  | none => False
  | some (.error e) => EnT W (ens e.2.2)
  | some (.ok s) => P s
theorem Okr.mono {W : Wd} {r : Rz} {P Q : Ms → Prop} (h : Okr W r P) (hq : ∀ s, P s → Q s) : Okr W r Q := by
  cases r with
  | none => exact h
  | some e =>
    cases e with
    | error e => exact h
    | ok s => exact hq s h
theorem Okr.bnd {W : Wd} {r : Rz} {f : Ms → Rz} {P Q : Ms → Prop} (h : Okr W r P) (hq : ∀ s, P s → Okr W (f s) Q) : Okr W (rb r f) Q := by
  cases r with
  | none => exact h
  | some e =>
    cases e with
    | error e => exact h
    | ok s => exact hq s h
theorem Okr.pay {W : Wd} {lim n : Nat} {s : Ms} {k : Ms → Rz} {P : Ms → Prop} (he : EnT W (ens s)) (hk : ∀ g, Okr W (k (sG s g)) P) : Okr W (mpay lim n s k) P := by
  unfold mpay
  split
  · exact hk _
  · exact he
theorem Okr.nd {W : Wd} {b : Bool} {w : Int64} {s : Ms} {k : Rz} {P : Ms → Prop} (he : EnT W (ens s)) (hk : b = true → Okr W k P) : Okr W (mnd b w s k) P := by
  unfold mnd
  split
  · next c => exact hk c
  · exact he
theorem Okr.re {W : Wd} {b : Bool} {k : Rz} {P : Ms → Prop} (hb : b = true) (hk : Okr W k P) : Okr W (mre b k) P := by
  unfold mre
  rw [if_pos hb]; exact hk
theorem Okr.ask {W : Wd} {s : Ms} {A : Nat → Nat → Rx} {MM : Nat → Md} {UU : Nat → Ux} {SS : Nat → Sk} {LL : Nat → Ls} {env : Pc → Cn} (hV : EV W env) {c : Bool} {p : Pc} {k : Nat → Ms → Rz} {P : Ms → Prop} (h : Cor W s A MM UU SS LL) (hp : p.1 = 3 → ∃ m, W (p.2.2 / 256) = some m ∧ p.2.2 % 256 < m.2.1.length)
    (hk : ∀ e s1 x, Cor W s1 A MM UU SS LL → s1.1 = s.1 → s1.2.1 = s.2.1 → sgs s.1 (sgn s) (sgn s1) → (ens s1)[e]? = some x → x.1 = p → Okr W (k e s1) P) : Okr W (mask env c p s k) P := by
  unfold mask
  split
  · next i hi =>
    have hi := List.findIdx?_eq_some_iff_getElem.mp hi
    obtain ⟨hl, h1, -⟩ := hi
    exact hk i s (ens s)[i] h rfl rfl (sgs.refl _) (List.getElem?_eq_getElem hl) (by simpa using h1)
  · split
    · exact h.2.1
    · obtain ⟨q1, q2⟩ := h.ask hV hp (s1 := (s.1, s.2.1, ens s ++ [(p, env p, env p, false)], (if c then s.2.2.2.1 + 1 else s.2.2.2.1), gas s)) rfl rfl rfl
      refine hk _ _ (p, env p, env p, false) q1 rfl rfl q2 ?_ rfl
      show (ens s ++ [(p, env p, env p, false)])[(ens s).length]? = _
      rw [List.getElem?_append_right (Nat.le_refl _), Nat.sub_self]; rfl
