/-! what a run leaves is well typed -/
def LWV (W : Wd) (lo : Int) (l : Lw) : Prop := ∀ x ∈ l, CKn W x.1 (nrm x.2.1) ∧ x.1.1 ≠ 2 ∧ (x.1 = (4, 0, 0) → lo ≤ x.2.1.2.1.toInt ∧ x.2.1.2.1.toInt ≤ 256) ∧ ∀ v, x.2.1.2.2.2 = some v → x.2.1.1 = true
theorem LWV.mono {W : Wd} {lo lo' : Int} {l : Lw} (h : LWV W lo l) (hl : lo' ≤ lo) : LWV W lo' l := fun x hx => by
  obtain ⟨a, b, c, d⟩ := h x hx
  exact ⟨a, b, fun e => ⟨Int.le_trans hl (c e).1, (c e).2⟩, d⟩
/-- how many places there are, at least and at most -/
def EVL (lo : Int) (env : Pc → Cn) : Prop := lo ≤ (env (4, 0, 0)).2.1.toInt ∧ (env (4, 0, 0)).2.1.toInt ≤ 256
theorem bfr_f {Lf : Nat → Lw} {p : Pc} {fs : Nat} : bfr Lf p fs fs = none := by
  cases fs with
  | zero => rfl
  | succ k => rw [bfr_s, if_pos (by omega)]
theorem nrm_b {c : Cn} {lo : Int} (h0 : lo ≤ 0) (h : lo ≤ c.2.1.toInt ∧ c.2.1.toInt ≤ 256) : lo ≤ (nrm c).2.1.toInt ∧ (nrm c).2.1.toInt ≤ 256 := by
  unfold nrm
  split
  · exact h
  · show lo ≤ (0 : Int64).toInt ∧ (0 : Int64).toInt ≤ 256
    have : (0 : Int64).toInt = 0 := by decide
    rw [this]; omega
theorem vew_m {st : Lw} {Lf : Nat → Lw} {fs t : Nat} {p : Pc} : vew st Lf fs t p = vew st Lf fs fs p ∨ ∃ k x, fs ≤ k ∧ k < t ∧ (p, x) ∈ Lf k ∧ vew st Lf fs t p = nrm x.1 := by
  cases hb : bfr Lf p fs t with
  | none => left; unfold vew; rw [hb, bfr_f]
  | some k =>
    right
    obtain ⟨k1, k2, e, he⟩ := bfr_b hb
    obtain ⟨x, x1, x2⟩ := lfd_b he
    refine ⟨k, x, k2, k1, x2, ?_⟩
    unfold vew lfc
    rw [hb]
    simp only [x1]
theorem EVW.mk {W : Wd} {st : Lw} {Lf : Nat → Lw} {fs t : Nat} {lo : Int} (h0 : EVW W (vew st Lf fs fs)) (l0 : EVL lo (vew st Lf fs fs)) (hl : -100000 ≤ lo ∧ lo ≤ 0) (h : ∀ k, fs ≤ k → k < t → LWV W lo (Lf k)) : EVW W (vew st Lf fs t) ∧ EVL lo (vew st Lf fs t) := by
  have ev : EVL lo (vew st Lf fs t) := by
    unfold EVL
    rcases vew_m (st := st) (Lf := Lf) (fs := fs) (t := t) (p := (4, 0, 0)) with e | ⟨k, x, k1, k2, k3, e⟩
    · rw [e]; exact l0
    · rw [e]; exact nrm_b hl.2 ((h k k1 k2 _ k3).2.2.1 rfl)
  have nm : ∀ n, vew st Lf fs t (2, lN n, 0) = vew st Lf fs fs (2, lN n, 0) := fun n => by
    rcases vew_m (st := st) (Lf := Lf) (fs := fs) (t := t) (p := (2, lN n, 0)) with e | ⟨k, x, k1, k2, k3, e⟩
    · exact e
    · exact absurd rfl (h k k1 k2 _ k3).2.1
  refine ⟨⟨fun p => ?_, fun n m hm hn => by rw [nm]; exact h0.2.1 n m hm hn, fun n hn ht => by rw [nm] at ht; exact h0.2.2.1 n hn ht, Int.le_trans hl.1 ev.1, by have := ev.2; omega⟩, ev⟩
  rcases vew_m (st := st) (Lf := Lf) (fs := fs) (t := t) (p := p) with e | ⟨k, x, k1, k2, k3, e⟩
  · rw [e]; exact h0.1 p
  · rw [e]; exact (h k k1 k2 _ k3).1
/-- what a run leaves -/
def lR1 (lim : Nat) (pub : Bool) (r : TxR) : Lw := match r.2.2.1 with
  | [] => []
  | e0 :: es => lfE r.1 pub lim (if r.1 = 3 then 0 else r.2.2.2.1) e0.2.1.2.1 e0.2.1.2.2.1 e0 es
theorem lR1_f {lim : Nat} {pub : Bool} {r : TxR} : ∀ y ∈ lR1 lim pub r, y.2.2 = false := fun y hy => by
  unfold lR1 at hy
  split at hy
  · simp at hy
  · unfold lfE at hy
    split at hy
    · simp at hy
    · rcases List.mem_cons.mp hy with e | e
      · rw [e]
      · unfold lfl at e
        obtain ⟨x, -, x2⟩ := List.mem_map.mp e
        rw [← x2]
/-- where a call is done -/
def Q0e (lo : Int) (o : Nat) (s : Ms) : Prop := o = 0 → tlg (ens s) = false ∧ (∀ x ∈ ens s, x.1.1 = 4 → lo - 26 ≤ x.2.2.1.2.1.toInt ∧ x.2.2.1.2.1.toInt ≤ 256) ∧ (stk s).length ≤ 8
theorem tlg_ap {es : List En} {x : En} (h : x.1.1 ≠ 3) : tlg (es ++ [x]) = tlg es := by
  unfold tlg
  rw [List.any_append]
  simp [h]
theorem Q0e_m {env : Pc → Cn} {lo : Int} {s : Ms} (hE : EVL lo env) (hl : -100000 ≤ lo) (h4 : ∀ x ∈ ens s, x.1.1 < 4) (hn : (ens s).length ≤ 26) (h8 : (stk s).length ≤ 8) : rzE (Q0e lo) (mset env s) := by
  unfold mset
  by_cases c1 : tlg (ens s) = true
  · rw [if_pos c1]
    exact fun z => absurd z (show (2 : Nat) ≠ 0 by decide)
  · rw [if_neg c1]
    have c1 : tlg (ens s) = false := by simpa using c1
    by_cases c2 : mor (ens s) = 0
    · rw [if_pos c2]
      exact fun _ => ⟨c1, fun x hx h => absurd (h4 x hx) (by omega), h8⟩
    · rw [if_neg c2]
      have hf : ((ens s).findIdx? fun e => e.1 == (4, 0, 0)) = none := by
        rw [List.findIdx?_eq_none_iff]
        intro x hx
        rw [beq_eq_false_iff_ne]
        intro e
        have := h4 x hx
        rw [e] at this
        exact absurd this (by decide)
      unfold mask
      rw [hf]
      show rzE (Q0e lo) (if (false && s.2.2.2.1 == 24) = true then _ else _)
      rw [if_neg (by simp)]
      have gx : (ens s ++ [(((4, 0, 0), env (4, 0, 0), env (4, 0, 0), false) : En)])[(ens s).length]? = some ((4, 0, 0), env (4, 0, 0), env (4, 0, 0), false) := by simp
      have ge : (ens ((s.1, s.2.1, ens s ++ [((4, 0, 0), env (4, 0, 0), env (4, 0, 0), false)], (if false = true then s.2.2.2.1 + 1 else s.2.2.2.1), gas s) : Ms))[(ens s).length]? = some ((4, 0, 0), env (4, 0, 0), env (4, 0, 0), false) := gx
      simp only [ge]
      have em : mor (ens ((s.1, s.2.1, ens s ++ [((4, 0, 0), env (4, 0, 0), env (4, 0, 0), false)], (if false = true then s.2.2.2.1 + 1 else s.2.2.2.1), gas s) : Ms)) = mor (ens s) := by
        show mor (ens s ++ [_]) = _
        rw [mor_ap, mo1_4 rfl, Int.add_zero]
      rw [em]
      split
      · rename_i c3
        have c3 : (env (4, 0, 0)).2.1.toInt + mor (ens s) ≤ 256 := c3
        intro _
        unfold sEn
        simp only [ge]
        have hb := mor_b (ens s)
        have el : ∀ y : En, (ens s ++ [(((4, 0, 0), env (4, 0, 0), env (4, 0, 0), false) : En)]).set (ens s).length y = ens s ++ [y] := fun y => by
          rw [List.set_append_right _ _ (Nat.le_refl _), Nat.sub_self]; rfl
        refine ⟨?_, fun x hx h => ?_, h8⟩
        · show tlg ((ens s ++ [_]).set (ens s).length _) = false
          rw [el, tlg_ap (by show (4 : Nat) ≠ 3; decide)]
          exact c1
        · have hx : x ∈ (ens s ++ [(((4, 0, 0), env (4, 0, 0), env (4, 0, 0), false) : En)]).set (ens s).length (cEn ((env (4, 0, 0)).1, Int64.ofInt ((env (4, 0, 0)).2.1.toInt + mor (ens s)), (env (4, 0, 0)).2.2) true ((4, 0, 0), env (4, 0, 0), env (4, 0, 0), false)) := hx
          rw [el] at hx
          rcases List.mem_append.mp hx with y | y
          · exact absurd (h4 x y) (by omega)
          · have y : x = cEn ((env (4, 0, 0)).1, Int64.ofInt ((env (4, 0, 0)).2.1.toInt + mor (ens s)), (env (4, 0, 0)).2.2) true ((4, 0, 0), env (4, 0, 0), env (4, 0, 0), false) := by simpa using y
            rw [y]
            show lo - 26 ≤ (Int64.ofInt ((env (4, 0, 0)).2.1.toInt + mor (ens s))).toInt ∧ (Int64.ofInt ((env (4, 0, 0)).2.1.toInt + mor (ens s))).toInt ≤ 256
            obtain ⟨e1, e2⟩ := hE
            have hb1 : -26 ≤ mor (ens s) := by omega
            rw [Int64.toInt_ofInt_of_le (by omega) (by omega)]
            omega
      · exact fun z => absurd z (show (2 : Nat) ≠ 0 by decide)
theorem CKn_n {W : Wd} {p : Pc} {c : Cn} (hp : p.1 ≠ 3) (hv : c.2.2.2 = none) : CKn W p (nrm c) := by
  unfold nrm
  split
  · rename_i c1
    exact ⟨fun z => (by rw [c1] at z; cases z), fun _ => hv, fun z => absurd z hp⟩
  · exact ⟨fun _ => rfl, fun _ => rfl, fun z => absurd z hp⟩
theorem CKn_3 {W : Wd} {p : Pc} {c : Cn} (h1 : c.2.1 = 0) (h2 : c.2.2.1 = 0) (h3 : c.1 = c.2.2.2.isSome) (h4 : ∀ v, c.2.2.2 = some v → VT W [6, p.2.2] v) (h5 : ∀ v, c.1 = true → c.2.2.2 = some v → vsz v ≤ 64) (hp : p.1 = 3) : CKn W p (nrm c) := by
  unfold nrm
  split
  · rename_i c1
    exact ⟨fun z => (by rw [c1] at z; cases z), fun z => absurd hp z, fun _ => ⟨h1, h2, h3, fun v hv => ⟨h4 v hv, h5 v c1 hv⟩⟩⟩
  · exact ⟨fun _ => rfl, fun _ => rfl, fun _ => ⟨rfl, rfl, rfl, fun v hv => by cases hv⟩⟩
/-- what holds of a run's result -/
def RTY (W : Wd) (x : TxC) (lo : Int) (r : TxR) : Prop := (r.1 < 4 ∧ r.2.2.2.1 ≤ x.2.2.1 ∧ r.2.2.1.length ≤ 25 ∧ r.2.2.2.2.1.length ≤ 8 ∧ r.2.2.2.2.2 = 0) ∧ (∃ e0 es, r.2.2.1 = e0 :: es ∧ e0.1 = (1, x.1, 0)) ∧ (∀ e ∈ r.2.2.1, ∀ v, e.2.2.1.2.2.2 = some v → VW v) ∧ LWV W lo (lR1 x.2.2.1 false r)
section
variable {W : Wd} {D : Nat → Nat} {env : Pc → Cn} {s : Ms} {x : TxC} {lo : Int}
theorem mbg_er {e : Int64 × List En} (h : mbg W x env = .error e) : e.2 = [((1, x.1, 0), env (1, x.1, 0), env (1, x.1, 0), false)] ∨ e.2 = [((1, x.1, 0), env (1, x.1, 0), env (1, x.1, 0), false), ((2, lN x.2.2.2.1, 0), env (2, lN x.2.2.2.1, 0), env (2, lN x.2.2.2.1, 0), false)] := by
  unfold mbg at h
  simp only at h
  split at h
  · left; rw [← Except.error.inj h]
  · split at h
    · left; rw [← Except.error.inj h]
    · split at h
      · left; rw [← Except.error.inj h]
      · split at h
        · left; rw [← Except.error.inj h]
        · right
          split at h
          · rw [← Except.error.inj h]
          · split at h
            · rw [← Except.error.inj h]
            · split at h
              · rw [← Except.error.inj h]
              · split at h
                · rw [← Except.error.inj h]
                · split at h
                  · rw [← Except.error.inj h]
                  · cases h
theorem RTY.beg {e : Int64 × List En} (hE : EVW W env) (h : mbg W x env = .error e) : RTY W x lo (3, e.1, e.2, 0, [], 0) := by
  have n1 := (hE.1 (1, x.1, 0)).2.1 (by show (1 : Nat) ≠ 3; decide)
  have n2 := (hE.1 (2, lN x.2.2.2.1, 0)).2.1 (by show (2 : Nat) ≠ 3; decide)
  have hl : LWV W lo (lR1 x.2.2.1 false (3, e.1, e.2, 0, [], 0)) := fun y hy => by
    exfalso
    unfold lR1 at hy
    split at hy
    · simp at hy
    · simp [lfE] at hy
  refine ⟨⟨by show (3 : Nat) < 4; decide, Nat.zero_le _, ?_, Nat.zero_le _, rfl⟩, ?_, fun y hy v hv => ?_, hl⟩
  · show e.2.length ≤ 25
    rcases mbg_er h with z | z <;> (rw [z]; simp)
  · show ∃ e0 es, e.2 = e0 :: es ∧ e0.1 = (1, x.1, 0)
    rcases mbg_er h with z | z <;> (rw [z]; exact ⟨_, _, rfl, rfl⟩)
  · have hy : y ∈ e.2 := hy
    exfalso
    rcases mbg_er h with z | z
    · rw [z, List.mem_singleton] at hy
      rw [hy] at hv
      rw [show ((((1, x.1, 0), env (1, x.1, 0), env (1, x.1, 0), false) : En)).2.2.1.2.2.2 = none from n1] at hv
      cases hv
    · rw [z] at hy
      simp only [List.mem_cons, List.mem_nil_iff, or_false] at hy
      rcases hy with q | q
      · rw [q] at hv
        rw [show ((((1, x.1, 0), env (1, x.1, 0), env (1, x.1, 0), false) : En)).2.2.1.2.2.2 = none from n1] at hv
        cases hv
      · rw [q] at hv
        rw [show ((((2, lN x.2.2.2.1, 0), env (2, lN x.2.2.2.1, 0), env (2, lN x.2.2.2.1, 0), false) : En)).2.2.1.2.2.2 = none from n2] at hv
        cases hv
theorem LWV.of {e0 : En} {es : List En} {oc lim used : Nat} {c : Int64} {rs : List VL} {pl : Nat} (hq : ENQ W x.1 lim (e0 :: es)) (hT : EnT W (e0 :: es)) (h0 : oc = 0 → tlg (e0 :: es) = false ∧ ∀ y ∈ e0 :: es, y.1.1 = 4 → lo ≤ y.2.2.1.2.1.toInt ∧ y.2.2.1.2.1.toInt ≤ 256) : LWV W lo (lR1 lim false (oc, c, e0 :: es, used, rs, pl)) := by
  obtain ⟨-, ⟨x0, q2, q3, q4⟩, q5⟩ := hq
  have e00 : x0 = e0 := (Option.some.inj q2).symm
  subst e00
  have k1 : ∀ (i : Nat) (y : En), (x0 :: es)[i]? = some y → y.1.1 = 1 → y.2.2.1.2.2.2 = none := fun i y hy h1 => by
    obtain ⟨-, b1, b2, -⟩ := q5 i y hy
    have hk : (bsE lim i y).1.1 = 1 := by unfold bsE; split <;> exact h1
    have := (b2.2.2.2.2.2.1 hk).2
    have ev : (bsE lim i y).2.2.1.2.2.2 = y.2.1.2.2.2 := by unfold bsE; split <;> rfl
    rw [congrArg Prod.snd this, ev]
    exact b1.2.1 (by omega)
  intro y hy
  unfold lR1 lfE at hy
  simp only at hy
  split at hy
  · simp at hy
  · rcases List.mem_cons.mp hy with z | z
    · rw [z]
      have nv : x0.2.2.1.2.2.2 = none := k1 0 x0 rfl (by rw [q3])
      refine ⟨CKn_n (by show x0.1.1 ≠ 3; rw [q3]; show (1 : Nat) ≠ 3; decide) nv, by show x0.1.1 ≠ 2; rw [q3]; show (1 : Nat) ≠ 2; decide, fun e => ?_, fun v hv => by rw [show x0.2.2.1.2.2.2 = some v from hv] at nv; cases nv⟩
      have e : x0.1 = (4, 0, 0) := e
      rw [q3] at e
      exact absurd (congrArg Prod.fst e) (show (1 : Nat) ≠ 4 by decide)
    · unfold lfl at z
      obtain ⟨w, w1, w2⟩ := List.mem_map.mp z
      rw [List.mem_filter, Bool.and_eq_true] at w1
      obtain ⟨w3, w4, w5⟩ := w1
      have oc0 : oc = 0 := by simpa using w4
      obtain ⟨t1, t2⟩ := h0 oc0
      obtain ⟨i, hi, ei⟩ := List.mem_iff_getElem.mp w3
      have gi : (x0 :: es)[i + 1]? = some w := by
        rw [List.getElem?_cons_succ, List.getElem?_eq_getElem hi, ei]
      have wm : w ∈ x0 :: es := List.mem_cons_of_mem _ w3
      obtain ⟨⟨⟨a1, a2⟩, a3⟩, b1, b2, b3⟩ := q5 (i + 1) w gi
      have eb : bsE lim (i + 1) w = (w.1, w.2.1, w.2.1, false) := by unfold bsE; rw [if_neg (by omega)]
      rw [eb] at b2
      obtain ⟨-, -, -, -, x2, x1, x3, x4⟩ := b2
      rw [← w2]
      have kc : w.1.1 = 1 ∨ w.1.1 = 2 ∨ w.1.1 = 3 ∨ w.1.1 = 4 := by omega
      rcases kc with kc | kc | kc | kc
      · have nv := k1 _ w gi kc
        refine ⟨CKn_n (by show w.1.1 ≠ 3; omega) nv, by show w.1.1 ≠ 2; omega, fun e => ?_, fun v hv => by rw [show w.2.2.1.2.2.2 = some v from hv] at nv; cases nv⟩
        have e : w.1 = (4, 0, 0) := e
        rw [e] at kc
        exact absurd kc (by decide)
      · exfalso
        have := congrArg Prod.snd (x2 kc)
        have : w.2.2.2 = false := this
        rw [this] at w5; cases w5
      · obtain ⟨y1, y2⟩ := x3 kc
        obtain ⟨z1, z2, -⟩ := b1.2.2 kc
        obtain ⟨-, t3, t4⟩ := hT w wm kc
        refine ⟨CKn_3 (y1.trans z1) (y2.trans z2) t3 t4 (fun v hc hv => ?_) kc, by show w.1.1 ≠ 2; omega, fun e => ?_, fun v hv => by rw [show w.2.2.1.2.2.2 = some v from hv] at t3; exact t3⟩
        · unfold tlg at t1
          rw [List.any_eq_false] at t1
          have := t1 w wm
          have hc : w.2.2.1.1 = true := hc
          have hv : w.2.2.1.2.2.2 = some v := hv
          rw [kc, w5, hc, hv] at this
          simpa using this
        · have e : w.1 = (4, 0, 0) := e
          rw [e] at kc
          exact absurd kc (by decide)
      · have y1 := (x4 kc).2
        have nv : w.2.2.1.2.2.2 = none := by
          rw [congrArg Prod.snd y1]
          exact b1.2.1 (by omega)
        exact ⟨CKn_n (by show w.1.1 ≠ 3; omega) nv, by show w.1.1 ≠ 2; omega, fun _ => t2 w wm kc, fun v hv => by rw [show w.2.2.1.2.2.2 = some v from hv] at nv; cases nv⟩
theorem RTY.end {e : Nat × Int64 × Ms} (hW : WV W) (hD : DW W D) (hE : EVW W env) (hL : EVL lo env) (hlo : -100000 ≤ lo) (hl : x.2.2.1 ≤ 20000) (h : PIq W x.2.2.1 x.1 s) (hm : mstp W x.1 x.2.2.1 env s = some (.error e)) : RTY W x (lo - 26) (e.1, e.2.1, ens e.2.2, gas e.2.2, (if e.1 = 0 then rsv e.2.2 else []), 0) := by
  have st := (h.step hW hD hE hl).1
  rw [hm] at st
  obtain ⟨pe, -, -⟩ := st
  obtain ⟨p1, p2, p3, p4, p5⟩ := id pe
  have hz := h.sz hl
  obtain ⟨h1, h2, h3, h4, h5, h6, h9⟩ := h
  obtain ⟨m, u, y, T⟩ := Inv.top hW hD h1 (by omega)
  have o3 := oc_mst (snd := x.1) (lim := x.2.2.1) (env := env) T
  rw [hm] at o3
  have o3 : e.1 < 3 := o3
  have gu := ((hW.2 _ _ T.1.1).2.1.2.2.2.2.1 u (List.mem_of_getElem? T.1.2.1)).2
  have q0 := fo_mst (P := Q0e lo) (snd := x.1) (lim := x.2.2.1) (env := env) (fun o s o1 _ z => by omega) T (fun hk => Q0e_m hL hlo h9 (by show (ens s).length ≤ 26; omega) (by rw [hk]; exact gu.2.1))
  rw [hm] at q0
  have q0 : Q0e lo e.1 e.2.2 := q0
  obtain ⟨x0, x1, x2, x3⟩ := p5.2.1
  obtain ⟨es, he⟩ : ∃ es, ens e.2.2 = x0 :: es := by
    cases hh : ens e.2.2 with
    | nil => rw [hh] at x1; cases x1
    | cons a es => rw [hh] at x1; exact ⟨es, by rw [Option.some.inj x1]⟩
  refine ⟨⟨by show e.1 < 4; omega, p2, p3, ?_, rfl⟩, ⟨x0, es, he, x2⟩, pe.en hW hD hl, ?_⟩
  · show (if e.1 = 0 then rsv e.2.2 else []).length ≤ 8
    split
    · rename_i c
      have := (q0 c).2.2
      have l2 : (rsv e.2.2).length ≤ (stk e.2.2).reverse.length := List.length_filterMap_le _ _
      rw [List.length_reverse] at l2
      omega
    · exact Nat.zero_le _
  · rw [he]
    rw [he] at p5 p1
    refine LWV.of p5 p1 (fun c => ?_)
    obtain ⟨a, b, -⟩ := q0 c
    rw [he] at a b
    exact ⟨a, b⟩
end
