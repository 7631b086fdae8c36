/-! the world with one more module -/
def wup (W : Wd) (m : Md) : Wd := fun n => if n = m.1 then some m else W n
def WLe (W W' : Wd) : Prop := ∀ n m, W n = some m → W' n = some m
theorem wup_le {W : Wd} {m : Md} (h : W m.1 = none) : WLe W (wup W m) := fun n m' hm => by
  unfold wup
  rw [if_neg (fun e => by rw [e, h] at hm; cases hm)]
  exact hm
theorem fdi_up {W W' : Wd} (h : WLe W W') {c : Fo} {i : Nat} (ft : FT W c (fdi W i)) : fdi W' i = fdi W i := by
  unfold fdi at ft ⊢
  cases hm : W (i / 256) with
  | some m => rw [h _ _ hm]
  | none =>
    rw [hm] at ft
    cases c with
    | leaf => exact absurd (show ([[]] : List (List Nat)) = [] from ft) (by simp)
    | inner k x _ c nx => exact (show False from ft.1).elim
theorem exs_up {W W' : Wd} (h : WLe W W') {c : Fo} {T : List Nat} {n : Nat} (ft : FT W c (exs W T n)) : exs W' T n = exs W T n := by
  unfold exs at ft ⊢
  split
  · rfl
  · exact fdi_up h ft
  · rfl
  · rfl
theorem FT.up {W W' : Wd} (h : WLe W W') : ∀ {c : Fo} {l : List (List Nat)}, FT W c l → FT W' c l
  | .leaf, _, ft => ft
  | .inner k x _ c nx, l, ft => by
    cases l with
    | nil => exact ft.elim
    | cons T l =>
      obtain ⟨f1, f2, f3⟩ := ft
      exact ⟨f1, by rw [exs_up h f2]; exact FT.up h f2, FT.up h f3⟩
theorem VT.up {W W' : Wd} (h : WLe W W') {T : List Nat} {v : VL} (t : VT W T v) : VT W' T v := ⟨t.1, by rw [exs_up h t.2]; exact t.2.up h⟩
theorem CKn.up {W W' : Wd} (h : WLe W W') {p : Pc} {c : Cn} (t : CKn W p c) : CKn W' p c := by
  obtain ⟨a, b, d⟩ := t
  refine ⟨a, b, fun k3 => ?_⟩
  obtain ⟨d1, d2, d3, d4⟩ := d k3
  exact ⟨d1, d2, d3, fun v hv => ⟨(d4 v hv).1.up h, (d4 v hv).2⟩⟩
/-- the coin's module -/
def CMC (cm : Md) : Prop := (cm.1 = 0 ∧ cm.2.2.2.2.2.length = 6) ∧ gM cm ∧ (∀ k, k < nst cm → snb cm k < 256) ∧ ∀ k u, cm.2.2.2.2.2[k]? = some u → u.2.1.map (fun x => rty cm x.1) = (cft k).1 ∧ u.2.2.1.map (fun x => rty cm x.1) = (cft k).2
theorem GDm.sn {m : Md} (g : GDm m) : ∀ k, k < nst m → snb m k < 256 := fun k hk => by
  unfold snb
  split
  · have := g.2.2.2.1.2.1; omega
  · split
    · rename_i s hs
      exact (g.2.2.2.2.2.1 s (List.mem_of_getElem? hs)).2
    · omega
theorem GDm.sm {m : Md} (g : GDm m) : smB m := fun k hk => by
  refine ⟨?_, by have := g.sn k hk; omega⟩
  unfold smd
  split
  · have := g.2.2.2.1.1; omega
  · split
    · rename_i s hs
      have := (g.2.2.2.2.2.1 s (List.mem_of_getElem? hs)).1
      omega
    · omega
theorem stl_r {m m' : Md} (hb : ∀ k, k < nst m → snb m k < 256) (hb' : ∀ k, k < nst m' → snb m' k < 256) : ∀ {l l' : TL}, l.length = l'.length → (∀ x ∈ l, gT m x.1) → (∀ x ∈ l', gT m' x.1) → stl m l m' l' = true → l.map (fun x => rty m x.1) = l'.map (fun x => rty m' x.1)
  | [], [], _, _, _, _ => rfl
  | [], _ :: _, h, _, _, _ => by simp at h
  | _ :: _, [], h, _, _, _ => by simp at h
  | a :: l, b :: l', h, ha, hb2, hs => by
    unfold stl at hs
    rw [List.zip_cons_cons, List.all_cons, Bool.and_eq_true] at hs
    rw [List.map_cons, List.map_cons, (sty_rty (ha a (List.mem_cons_self ..)) (hb2 b (List.mem_cons_self ..)) hb hb').mp hs.1]
    rw [stl_r hb hb' (by simpa using h) (fun x hx => ha x (List.mem_cons_of_mem _ hx)) (fun x hx => hb2 x (List.mem_cons_of_mem _ hx)) hs.2]
theorem vlk_okf {W : Wd} {cm m : Md} (h : (vlk W cm m).1 = none) : ∀ c ∈ m.2.2.2.1, fok W cm m c = true := by
  unfold vlk at h
  cases hf : ffl (sok W cm) m.2.2.1 with
  | some k => rw [hf] at h; cases h
  | none =>
    rw [hf] at h
    simp only at h
    cases hg : ffl (fok W cm m) m.2.2.2.1 with
    | some k => rw [hg] at h; cases h
    | none =>
      unfold ffl at hg
      rw [List.findIdx?_eq_none_iff] at hg
      intro s hs
      have := hg s hs
      simpa using this
theorem vch_ok {m : Md} : ∀ {us : List Ux} {i : Nat}, vch m us i = none → ∀ u ∈ us, ∃ r, chk m u = .ok r
  | [], _, _, u, hu => by simp at hu
  | v :: l, i, h, u, hu => by
    unfold vch at h
    cases hc : chk m v with
    | error e => rw [hc] at h; cases h
    | ok r =>
      rw [hc] at h
      rcases List.mem_cons.mp hu with q | q
      · rw [q]; exact ⟨r, hc⟩
      · exact vch_ok h u q
theorem vla_ok {m : Md} {dq : Nat → Nat} (h : vla m dq = none) : (∀ k, k < m.2.1.length → dq k ≤ 24) ∧ ∀ u ∈ m.2.2.2.2.2, ∃ r, chk m u = .ok r := by
  unfold vla at h
  cases h1 : ffl (bears m) m.2.1 with
  | some k => rw [h1] at h; cases h
  | none =>
    rw [h1] at h
    simp only at h
    cases h2 : ffl (fun k => decide (dq k ≤ 24)) (List.range m.2.1.length) with
    | some k => rw [h2] at h; cases h
    | none =>
      rw [h2] at h
      refine ⟨fun k hk => ?_, vch_ok h⟩
      unfold ffl at h2
      rw [List.findIdx?_eq_none_iff] at h2
      have := h2 k (List.mem_range.mpr hk)
      simpa using this
theorem slk_4 {a b : Nat} (h : a &&& 4 = b &&& 4) : hsR a = hsR b := by unfold hsR; rw [h]
/-- a module that was linked and looked at may join the world -/
theorem WV.up {W : Wd} {cm m : Md} (hW : WV W) (h0 : W 0 = some cm) (cc : CMC cm) (hn : W m.1 = none) (gd : GDm m) (hl : (vlk W cm m).1 = none) {dq : Nat → Nat} (hv : vla m dq = none) (hg : ∀ n m', W n = some m' → ∀ k, k < nst m' → snb m' k < 256) : WV (wup W m) := by
  have le := wup_le hn
  have m0 : m.1 ≠ 0 := fun e => by rw [e, h0] at hn; cases hn
  obtain ⟨w0, w1⟩ := hW
  refine ⟨?_, fun M m' hm => ?_⟩
  · rw [← w0]
    unfold fdi wup
    rw [show 0 / 256 = 0 from rfl, if_neg (fun e => m0 e.symm)]
  · have mono : ∀ c : Cx, (if c.1 = 0 then c.2.1 < 6 ∧ c.2.2.2.1.map (fun x => rty m' x.1) = (cft c.2.1).1 ∧ c.2.2.2.2.map (fun x => rty m' x.1) = (cft c.2.1).2 else ∃ m2 u', W c.1 = some m2 ∧ m2.2.2.2.2.2[c.2.1]? = some u' ∧ hsR c.2.2.1 = hsR u'.1 ∧ c.2.2.2.1.map (fun x => rty m' x.1) = u'.2.1.map (fun x => rty m2 x.1) ∧ c.2.2.2.2.map (fun x => rty m' x.1) = u'.2.2.1.map (fun x => rty m2 x.1)) → (if c.1 = 0 then c.2.1 < 6 ∧ c.2.2.2.1.map (fun x => rty m' x.1) = (cft c.2.1).1 ∧ c.2.2.2.2.map (fun x => rty m' x.1) = (cft c.2.1).2 else ∃ m2 u', wup W m c.1 = some m2 ∧ m2.2.2.2.2.2[c.2.1]? = some u' ∧ hsR c.2.2.1 = hsR u'.1 ∧ c.2.2.2.1.map (fun x => rty m' x.1) = u'.2.1.map (fun x => rty m2 x.1) ∧ c.2.2.2.2.map (fun x => rty m' x.1) = u'.2.2.1.map (fun x => rty m2 x.1)) := fun c q => by
      split at q
      · rename_i e; rw [if_pos e]; exact q
      · rename_i e
        rw [if_neg e]
        obtain ⟨m2, u', q1, q2⟩ := q
        exact ⟨m2, u', le _ _ q1, q2⟩
    by_cases e : M = m.1
    · have em : wup W m M = some m := if_pos e
      rw [em] at hm
      have hm := Option.some.inj hm
      subst hm
      refine ⟨e.symm, gd.1, gd.2.2.2.1.2.1, by rw [e]; exact gd.2.2.2.1.1, fun _ u hu => ⟨(gd.2.2.1 u hu).1, (gd.2.2.1 u hu).2.2, (vla_ok hv).2 u hu⟩, fun c hc => mono c ?_⟩
      have fo := vlk_okf hl c hc
      obtain ⟨-, g2, g3, g4, g5⟩ := gd.1.2.2.2.1 c hc
      unfold fok mof at fo
      by_cases c0 : c.1 = 0
      · rw [if_pos c0] at fo ⊢
        simp only at fo
        cases hu : cm.2.2.2.2.2[c.2.1]? with
        | none => rw [hu] at fo; cases fo
        | some u =>
          rw [hu] at fo
          have fo : slk m c cm u = true := fo
          unfold slk at fo
          simp only [Bool.and_eq_true, decide_eq_true_eq] at fo
          obtain ⟨⟨f1, f2, f3, f4⟩, f5, f6⟩ := fo
          obtain ⟨⟨z1, z2⟩, z3, z4, z5⟩ := cc
          obtain ⟨t1, t2⟩ := z5 _ u hu
          obtain ⟨-, gu⟩ := z3.2.2.2.2.1 u (List.mem_of_getElem? hu)
          exact ⟨by rw [← z2]; exact get_lt hu, by rw [stl_r gd.sn z4 f3 g4 gu.2.2.2.1 f5]; exact t1, by rw [stl_r gd.sn z4 f4 g5 gu.2.2.2.2.1 f6]; exact t2⟩
      · rw [if_neg c0] at fo ⊢
        cases hm2 : W c.1 with
        | none => rw [hm2] at fo; cases fo
        | some m2 =>
          rw [hm2] at fo
          simp only at fo
          cases hu : m2.2.2.2.2.2[c.2.1]? with
          | none => rw [hu] at fo; cases fo
          | some u =>
            rw [hu] at fo
            have fo : slk m c m2 u = true := fo
            unfold slk at fo
            simp only [Bool.and_eq_true, decide_eq_true_eq] at fo
            obtain ⟨⟨f1, f2, f3, f4⟩, f5, f6⟩ := fo
            obtain ⟨-, gu⟩ := (w1 _ _ hm2).2.1.2.2.2.2.1 u (List.mem_of_getElem? hu)
            exact ⟨m2, u, rfl, hu, slk_4 f2, stl_r gd.sn (hg _ _ hm2) f3 g4 gu.2.2.2.1 f5, stl_r gd.sn (hg _ _ hm2) f4 g5 gu.2.2.2.2.1 f6⟩
    · have em : wup W m M = W M := if_neg e
      rw [em] at hm
      obtain ⟨a1, a2, a3, a4, a5, a6⟩ := w1 M m' hm
      exact ⟨a1, a2, a3, a4, a5, fun c hc => mono c (a6 c hc)⟩
