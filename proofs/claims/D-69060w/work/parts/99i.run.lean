/-! a call from its beginning to its end -/
/-- sender, sequence, limit, module, function, arguments -/
abbrev TxC : Type := Int64 × Int64 × Nat × Nat × Nat × List (Nat × Int64 × Int64)
/-- outcome, code, entries, gas, results, place -/
abbrev TxR : Type := Nat × Int64 × List En × Nat × List VL × Nat
def agi (as : List (Nat × Int64 × Int64)) : List It := as.map fun a => .inl (a.1, a.2, .leaf)
def pln (u : Ux) : Bool := u.2.2.1.all fun x => decide (tyc x.1 ≤ 5)
def fts (u : Ux) (as : List (Nat × Int64 × Int64)) : Bool := u.2.1.map (fun x => tyc x.1) == as.map fun a => a.1
def mbg (W : Wd) (x : TxC) (env : Pc → Cn) : Except (Int64 × List En) Ms :=
  let c := env (1, x.1, 0)
  let e0 : En := ((1, x.1, 0), c, c, false)
  if c.1 = false then .error (1, [e0]) else if c.2.2.1 ≠ x.2.1 then .error (2, [e0]) else if c.2.1 < lN x.2.2.1 then .error (3, [e0])
  else if x.2.2.2.1 = 0 then .error (if 6 ≤ x.2.2.2.2.1 then 5 else 6, [e0])
  else
    let c1 := env (2, lN x.2.2.2.1, 0)
    let e1 : En := ((2, lN x.2.2.2.1, 0), c1, c1, false)
    match W x.2.2.2.1 with
    | none => .error (4, [e0, e1])
    | some m => (match m.2.2.2.2.2[x.2.2.2.2.1]? with
      | none => .error (5, [e0, e1])
      | some u => if u.1 &&& 2 = 0 then .error (6, [e0, e1]) else if fts u x.2.2.2.2.2 = false then .error (7, [e0, e1]) else if pln u = false then .error (8, [e0, e1])
        else .ok (1, fun _ => ent (x.2.2.2.1, x.2.2.2.2.1) (agi x.2.2.2.2.2), [((1, x.1, 0), c, (c.1, c.2.1 - lN x.2.2.1, c.2.2.1 + 1, c.2.2.2), true), e1], 2, 0))
def mit (W : Wd) (snd : Int64) (lim : Nat) (env : Pc → Cn) : Nat → Ms → Rz
  | 0, s => mgo s
  | k + 1, s => rb (mit W snd lim env k s) (mstp W snd lim env)
def rsv (s : Ms) : List VL := (stk s).reverse.filterMap fun i => match i with
  | .inl v => some v
  | .inr _ => none
def MTX (W : Wd) (x : TxC) (env : Pc → Cn) (r : TxR) : Prop := match mbg W x env with
  | .error e => r = (3, e.1, e.2, 0, [], 0)
  | .ok s0 => ∃ k s e, mit W x.1 x.2.2.1 env k s0 = mgo s ∧ mstp W x.1 x.2.2.1 env s = some (.error e) ∧ r = (e.1, e.2.1, ens e.2.2, gas e.2.2, (if e.1 = 0 then rsv e.2.2 else []), 0)
section
variable {W : Wd} {D : Nat → Nat} {env env' : Pc → Cn} {s s0 s1 s2 : Ms} {snd : Int64} {lim : Nat} {x : TxC}
theorem mit_no {k j : Nat} {e : Nat × Int64 × Ms} (h : mit W snd lim env k s0 = mgo s) (he : mstp W snd lim env s = some (.error e)) : ∀ s', mit W snd lim env (k + 1 + j) s0 ≠ mgo s' := by
  have a : mit W snd lim env (k + 1 + j) s0 = some (.error e) := by
    induction j with
    | zero =>
      show rb (mit W snd lim env k s0) (mstp W snd lim env) = _
      rw [h]; exact he
    | succ j ih =>
      show rb (mit W snd lim env (k + 1 + j) s0) (mstp W snd lim env) = _
      rw [ih]; rfl
  intro s' z
  rw [a] at z; cases z
theorem mit_det {k k' : Nat} {s' : Ms} {e e' : Nat × Int64 × Ms} (h : mit W snd lim env k s0 = mgo s) (he : mstp W snd lim env s = some (.error e)) (h' : mit W snd lim env k' s0 = mgo s') (he' : mstp W snd lim env s' = some (.error e')) : e = e' := by
  rcases Nat.lt_trichotomy k k' with c | c | c
  · exact absurd h' (by have := mit_no (j := k' - k - 1) h he s'; rw [show k + 1 + (k' - k - 1) = k' by omega] at this; exact this)
  · subst c
    rw [h] at h'
    cases h'
    rw [he] at he'; cases he'; rfl
  · exact absurd h (by have := mit_no (j := k - k' - 1) h' he' s; rw [show k' + 1 + (k - k' - 1) = k by omega] at this; exact this)
theorem MTX.det {r r' : TxR} (h : MTX W x env r) (h' : MTX W x env r') : r = r' := by
  unfold MTX at h h'
  cases hb : mbg W x env with
  | error e => rw [hb] at h h'; rw [h, h']
  | ok s0 =>
    rw [hb] at h h'
    obtain ⟨k, s, e, a1, a2, a3⟩ := h
    obtain ⟨k', s', e', b1, b2, b3⟩ := h'
    have := mit_det a1 a2 b1 b2
    subst this
    rw [a3, b3]
/-- a run so far, whatever lies at places that were not asked for -/
def RUN (W : Wd) (x : TxC) (s : Ms) : Prop := ∃ k s0, ∀ env, agE env s → mbg W x env = .ok s0 ∧ mit W x.1 x.2.2.1 env k s0 = mgo s
def FIN (W : Wd) (x : TxC) (r : TxR) : Prop := ∀ env, (∀ e ∈ r.2.2.1, env e.1 = e.2.1) → MTX W x env r
theorem RUN.step (h : RUN W x s) (hs : mstp W x.1 x.2.2.1 env s = some (.ok s2)) {c : Bool} (st : STQ env c s s2) (hl : ∀ env', rzP (agE env') (mstp W x.1 x.2.2.1 env s) → mstp W x.1 x.2.2.1 env' s = mstp W x.1 x.2.2.1 env s) : RUN W x s2 := by
  obtain ⟨k, s0, hk⟩ := h
  refine ⟨k + 1, s0, fun env' ha => ?_⟩
  obtain ⟨a, b⟩ := hk env' (st.ag ha)
  refine ⟨a, ?_⟩
  show rb (mit W x.1 x.2.2.1 env' k s0) (mstp W x.1 x.2.2.1 env') = _
  rw [b]
  show mstp W x.1 x.2.2.1 env' s = _
  rw [hl env' (by rw [hs]; exact ha), hs]; rfl
theorem RUN.fin (h : RUN W x s) {e : Nat × Int64 × Ms} (hs : mstp W x.1 x.2.2.1 env s = some (.error e)) {c : Bool} (st : STQ env c s e.2.2) (hl : ∀ env', rzP (agE env') (mstp W x.1 x.2.2.1 env s) → mstp W x.1 x.2.2.1 env' s = mstp W x.1 x.2.2.1 env s) : FIN W x (e.1, e.2.1, ens e.2.2, gas e.2.2, (if e.1 = 0 then rsv e.2.2 else []), 0) := by
  obtain ⟨k, s0, hk⟩ := h
  intro env' ha
  have ha : agE env' e.2.2 := ha
  obtain ⟨a, b⟩ := hk env' (st.ag ha)
  unfold MTX
  rw [a]
  exact ⟨k, s, e, b, by rw [hl env' (by rw [hs]; exact ha), hs], rfl⟩
/-! the beginning -/
theorem mbg_ok (h : mbg W x env = .ok s0) (env' : Pc → Cn) (ha : agE env' s0) : mbg W x env' = .ok s0 := by
  unfold mbg at h ⊢
  simp only at h ⊢
  split at h
  · cases h
  · rename_i c1
    split at h
    · cases h
    · rename_i c2
      split at h
      · cases h
      · rename_i c3
        split at h
        · cases h
        · rename_i c4
          cases hW : W x.2.2.2.1 with
          | none => rw [hW] at h; cases h
          | some m =>
            rw [hW] at h
            simp only at h ⊢
            cases hu : m.2.2.2.2.2[x.2.2.2.2.1]? with
            | none => rw [hu] at h; cases h
            | some u =>
              rw [hu] at h
              simp only at h ⊢
              split at h
              · cases h
              · rename_i c5
                split at h
                · cases h
                · rename_i c6
                  split at h
                  · cases h
                  · rename_i c7
                    have h := Except.ok.inj h
                    have e0 := ha ((1, x.1, 0), env (1, x.1, 0), ((env (1, x.1, 0)).1, (env (1, x.1, 0)).2.1 - lN x.2.2.1, (env (1, x.1, 0)).2.2.1 + 1, (env (1, x.1, 0)).2.2.2), true) (by rw [← h]; simp [ens])
                    have e1 := ha ((2, lN x.2.2.2.1, 0), env (2, lN x.2.2.2.1, 0), env (2, lN x.2.2.2.1, 0), false) (by rw [← h]; simp [ens])
                    have e0 : env' (1, x.1, 0) = env (1, x.1, 0) := e0
                    have e1 : env' (2, lN x.2.2.2.1, 0) = env (2, lN x.2.2.2.1, 0) := e1
                    rw [e0, e1, if_neg c1, if_neg c2, if_neg c3, if_neg c4, if_neg c5, if_neg c6, if_neg c7, h]
theorem RUN.beg (h : mbg W x env = .ok s0) : RUN W x s0 := ⟨0, s0, fun env' ha => ⟨mbg_ok h env' ha, rfl⟩⟩
theorem FIN.beg {e : Int64 × List En} (h : mbg W x env = .error e) : FIN W x (3, e.1, e.2, 0, [], 0) := fun env' ha => by
  have ha : ∀ y ∈ e.2, env' y.1 = y.2.1 := ha
  have key : mbg W x env' = .error e := by
    unfold mbg at h ⊢
    simp only at h ⊢
    have e0 : ((1, x.1, 0), env (1, x.1, 0), env (1, x.1, 0), false) ∈ e.2 → env' (1, x.1, 0) = env (1, x.1, 0) := fun z => ha _ z
    have e1 : ((2, lN x.2.2.2.1, 0), env (2, lN x.2.2.2.1, 0), env (2, lN x.2.2.2.1, 0), false) ∈ e.2 → env' (2, lN x.2.2.2.1, 0) = env (2, lN x.2.2.2.1, 0) := fun z => ha _ z
    split at h
    · rename_i c1
      have h := Except.error.inj h
      rw [e0 (by rw [← h]; simp), if_pos c1, h]
    · rename_i c1
      split at h
      · rename_i c2
        have h := Except.error.inj h
        rw [e0 (by rw [← h]; simp), if_neg c1, if_pos c2, h]
      · rename_i c2
        split at h
        · rename_i c3
          have h := Except.error.inj h
          rw [e0 (by rw [← h]; simp), if_neg c1, if_neg c2, if_pos c3, h]
        · rename_i c3
          split at h
          · rename_i c4
            have h := Except.error.inj h
            rw [e0 (by rw [← h]; simp), if_neg c1, if_neg c2, if_neg c3, if_pos c4, h]
          · rename_i c4
            cases hW : W x.2.2.2.1 with
            | none =>
              rw [hW] at h
              have h := Except.error.inj h
              rw [e0 (by rw [← h]; simp), e1 (by rw [← h]; simp), if_neg c1, if_neg c2, if_neg c3, if_neg c4]
              simp only
              rw [h]
            | some m =>
              rw [hW] at h
              simp only at h ⊢
              cases hu : m.2.2.2.2.2[x.2.2.2.2.1]? with
              | none =>
                rw [hu] at h
                have h := Except.error.inj h
                rw [e0 (by rw [← h]; simp), e1 (by rw [← h]; simp), if_neg c1, if_neg c2, if_neg c3, if_neg c4]
                simp only
                rw [h]
              | some u =>
                rw [hu] at h
                simp only at h ⊢
                split at h
                · rename_i c5
                  have h := Except.error.inj h
                  rw [e0 (by rw [← h]; simp), e1 (by rw [← h]; simp), if_neg c1, if_neg c2, if_neg c3, if_neg c4, if_pos c5, h]
                · rename_i c5
                  split at h
                  · rename_i c6
                    have h := Except.error.inj h
                    rw [e0 (by rw [← h]; simp), e1 (by rw [← h]; simp), if_neg c1, if_neg c2, if_neg c3, if_neg c4, if_neg c5, if_pos c6, h]
                  · rename_i c6
                    split at h
                    · rename_i c7
                      have h := Except.error.inj h
                      rw [e0 (by rw [← h]; simp), e1 (by rw [← h]; simp), if_neg c1, if_neg c2, if_neg c3, if_neg c4, if_neg c5, if_neg c6, if_pos c7, h]
                    · cases h
  unfold MTX
  rw [key]
/-- arguments are what they are said to be -/
def AGv (as : List (Nat × Int64 × Int64)) : Prop := as.length ≤ 8 ∧ ∀ a ∈ as, (1 ≤ a.1 ∧ a.1 ≤ 5) ∧ rng a.1 a.2
theorem tyc_1 {t : Ty} (h : wty true t) (h5 : tyc t ≤ 5) (hb : tby t) : t = [tyc t] ∧ isRf t = false := by
  cases t with
  | nil => exact h.elim
  | cons b t =>
    cases t with
    | nil =>
      have e : tyc [b] = b := by show b * 256 ^ 0 + 0 = b; simp
      rw [e]
      refine ⟨rfl, ?_⟩
      rw [e] at h5
      rw [isRf_h]
      show (b == 8 || b == 9) = false
      rw [Bool.or_eq_false_iff]
      exact ⟨beq_eq_false_iff_ne.mpr (by omega), beq_eq_false_iff_ne.mpr (by omega)⟩
    | cons c t =>
      exfalso
      have e : tyc (b :: c :: t) = b * 256 ^ (c :: t).length + tyc (c :: t) := rfl
      have h1 : 1 ≤ b := by
        have h : if b = 8 ∨ b = 9 then true = true ∧ bas (c :: t) = true ∧ nve (c :: t) ≤ 4 else bas (b :: c :: t) = true ∧ nve (b :: c :: t) ≤ 4 := h
        split at h
        · omega
        · have h := h.1
          by_cases c0 : b = 0
          · rw [c0] at h
            cases t with
            | nil => simp [bas] at h
            | cons d t => simp [bas] at h
          · omega
      have h2 : 256 ^ 1 ≤ 256 ^ (c :: t).length := Nat.pow_le_pow_right (by decide) (by rw [List.length_cons]; omega)
      have h3 : 256 ^ (c :: t).length ≤ b * 256 ^ (c :: t).length := Nat.le_mul_of_pos_left _ h1
      omega
theorem PIq.beg (hW : WV W) (hE : EVW W env) (ha : AGv x.2.2.2.2.2) (h : mbg W x env = .ok s0) : PIq W x.2.2.1 x.1 s0 := by
  unfold mbg at h
  simp only at h
  split at h
  · cases h
  · rename_i c1
    split at h
    · cases h
    · rename_i c2
      split at h
      · cases h
      · rename_i c3
        split at h
        · cases h
        · rename_i c4
          cases hm : W x.2.2.2.1 with
          | none => rw [hm] at h; cases h
          | some m =>
            rw [hm] at h
            simp only at h
            cases hu : m.2.2.2.2.2[x.2.2.2.2.1]? with
            | none => rw [hu] at h; cases h
            | some u =>
              rw [hu] at h
              simp only at h
              split at h
              · cases h
              · rename_i c5
                split at h
                · cases h
                · rename_i c6
                  split at h
                  · cases h
                  · rename_i c7
                    have h := Except.ok.inj h
                    obtain ⟨w1, w2, w3, w4, w5, w6⟩ := hW.2 _ _ hm
                    have um := List.mem_of_getElem? hu
                    obtain ⟨u1, u2, rr, u3⟩ := w5 c4 u um
                    have gu := (w2.2.2.2.2.1 _ um).2
                    obtain ⟨S, an⟩ := chk_ann u3 (fun y hy z1 z2 => (u1 y hy).br (by omega)) u2
                    have c1 : (env (1, x.1, 0)).1 = true := by simpa using c1
                    have ft : u.2.1.map (fun x => tyc x.1) = x.2.2.2.2.2.map fun a => a.1 := by
                      have : fts u x.2.2.2.2.2 = true := by simpa using c6
                      unfold fts at this
                      simpa using this
                    have hlen : u.2.1.length = x.2.2.2.2.2.length := by have := congrArg List.length ft; simpa using this
                    have arg : ∀ (k : Nat) (a : Nat × Int64 × Int64), x.2.2.2.2.2[k]? = some a → tgt (lty u) k = [a.1] ∧ isRf (tgt (lty u) k) = false ∧ (1 ≤ a.1 ∧ a.1 ≤ 5) ∧ rng a.1 a.2 := fun k a hk => by
                      have hl := get_lt hk
                      have am := ha.2 a (List.mem_of_getElem? hk)
                      have e1 : (u.2.1[k]?).map (fun x => tyc x.1) = some a.1 := by
                        rw [← List.getElem?_map, ft, List.getElem?_map, hk]; rfl
                      have hlu : k < u.2.1.length := by omega
                      have gt := gu.lt (k := k) (by unfold nlo; omega)
                      have e2 : tyc (tgt (lty u) k) = a.1 := by
                        rw [List.getElem?_eq_getElem hlu] at e1
                        rw [tgt_t hlu]
                        exact Option.some.inj e1
                      obtain ⟨f1, f2⟩ := tyc_1 gt.2.1 (by rw [e2]; exact am.1.2) gt.1
                      exact ⟨by rw [f1, e2], f2, am.1, am.2⟩
                    have noref : ∀ a, a < u.2.1.length → isRf (tgt (lty u) a) = false := fun a h => (arg a _ (List.getElem?_eq_getElem (by omega))).2.1
                    have hmod : (env (2, lN x.2.2.2.1, 0)).1 = true := hE.2.1 _ _ hm c4
                    have hcn : CKn W (1, x.1, 0) (env (1, x.1, 0)) := hE.1 _
                    have c1v : (env (1, x.1, 0)).2.2.2 = none := hcn.2.1 (by show (1 : Nat) ≠ 3; decide)
                    have c2v : (env (2, lN x.2.2.2.1, 0)).2.2.2 = none := (hE.1 (2, lN x.2.2.2.1, 0)).2.1 (by show (2 : Nat) ≠ 3; decide)
                    subst h
                    refine ⟨?_, Nat.zero_le _, ⟨Nat.le_refl _, by show (2 : Nat) ≤ 24; decide⟩, ?_, ?_, ⟨m, u, hm, hu, fun y hy => ?_⟩, fun y hy => ?_⟩
                    · refine ⟨fun _ _ => ((0, 0), []), fun _ => m, fun _ => u, fun _ => [], fun _ => lnt m u 0, fun _ => [], fun _ => S, ⟨⟨Nat.le_refl _, by show (1 : Nat) ≤ 32; decide⟩, ?_, fun j hj => ⟨⟨hm, hu⟩, trivial, ?_, ?_⟩, fun j hj r hr => ?_⟩, fun j hj => ?_, fun j hj => ?_, fun j hj => ?_⟩
                      · intro e he h3
                        have he : e ∈ [((1, x.1, 0), env (1, x.1, 0), ((env (1, x.1, 0)).1, (env (1, x.1, 0)).2.1 - lN x.2.2.1, (env (1, x.1, 0)).2.2.1 + 1, (env (1, x.1, 0)).2.2.2), true), ((2, lN x.2.2.2.1, 0), env (2, lN x.2.2.2.1, 0), env (2, lN x.2.2.2.1, 0), false)] := he
                        simp only [List.mem_cons, List.mem_nil_iff, or_false] at he
                        rcases he with z | z
                        · rw [z] at h3; cases h3
                        · rw [z] at h3; cases h3
                      · rw [an.1.2]
                        refine ⟨fun k hk => ?_, fun k hk => ?_⟩
                        · unfold lgt
                          rw [ls0_at hk]
                          by_cases ck : k < u.2.1.length
                          · rw [if_pos ck]
                            simp only [Option.getD_some]
                            have ha' : x.2.2.2.2.2[k]? = some x.2.2.2.2.2[k] := List.getElem?_eq_getElem (by omega)
                            obtain ⟨g1, g2, g3, g4⟩ := arg k _ ha'
                            refine ⟨.inl (x.2.2.2.2.2[k].1, x.2.2.2.2.2[k].2, .leaf), ?_, g2, ?_⟩
                            · show (agi x.2.2.2.2.2)[k]? = _
                              unfold agi
                              rw [List.getElem?_map, ha']; rfl
                            · rw [g1]
                              have : rty m [x.2.2.2.2.2[k].1] = [x.2.2.2.2.2[k].1] := by
                                show (if x.2.2.2.2.2[k].1 = 6 then _ else _ :: rty m []) = _
                                rw [if_neg (by omega)]; rfl
                              rw [this]
                              exact ⟨⟨rfl, rfl, g3, g4⟩, rfl⟩
                          · rw [if_neg ck]
                            left
                            show (agi x.2.2.2.2.2)[k]? = none
                            rw [List.getElem?_eq_none_iff]
                            unfold agi
                            rw [List.length_map]; omega
                        · show (agi x.2.2.2.2.2)[k]? = none
                          rw [List.getElem?_eq_none_iff]
                          unfold agi
                          rw [List.length_map]
                          have hk : nlo u ≤ k := hk
                          unfold nlo at hk
                          omega
                      · rw [an.1.2, ls0_len]
                      · exfalso
                        rcases rfF_i.mp hr with z | ⟨k, -, k2⟩
                        · simp [ent] at z
                        · have k2 : (agi x.2.2.2.2.2)[k]? = some (.inr r) := k2
                          unfold agi at k2
                          rw [List.getElem?_map] at k2
                          cases hx : x.2.2.2.2.2[k]? with
                          | none => rw [hx] at k2; cases k2
                          | some a => rw [hx] at k2; cases k2
                      · have hj : j < 1 := hj
                        have nr : ∀ a, a < u.2.1.length → isRf (tgt (lty u) a) = true → False := fun a h1 h2 => by rw [noref a h1] at h2; cases h2
                        exact ⟨fun a h1 h2 => (nr a h1 h2).elim, fun a h1 h2 => (nr a h1 h2).elim, fun a b h1 h2 h3 h4 => (nr a h1 h4).elim, fun _ => ⟨fun i hi => absurd hi (by omega), fun a h1 h2 => (nr a h1 h2).elim⟩⟩
                      · have hj : j < 1 := hj
                        have : j = 0 := by omega
                        subst this
                        refine ⟨by rw [w1]; exact c4, an, u2, rfl, ?_, ?_⟩
                        · show S 0 = if 0 + 1 = 1 then [] else []
                          rw [if_pos rfl]; exact an.1.1
                        · show (S 0).length ≤ 64
                          rw [an.1.1]; decide
                      · have hj : j + 1 < 1 := hj
                        omega
                    · have e1 : szL (fun k => (agi x.2.2.2.2.2)[k]?) ≤ szK (agi x.2.2.2.2.2) := szL_get _ 40
                      have e2 : szK (agi x.2.2.2.2.2) = x.2.2.2.2.2.length := by
                        unfold szK agi
                        rw [List.map_map]
                        have : (isz ∘ fun a : Nat × Int64 × Int64 => (.inl (a.1, a.2, .leaf) : It)) = fun _ => 1 := by funext a; rfl
                        rw [this, List.map_const', List.sum_replicate_nat]; omega
                      have e3 : szE [((1, x.1, 0), env (1, x.1, 0), ((env (1, x.1, 0)).1, (env (1, x.1, 0)).2.1 - lN x.2.2.1, (env (1, x.1, 0)).2.2.1 + 1, (env (1, x.1, 0)).2.2.2), true), ((2, lN x.2.2.2.1, 0), env (2, lN x.2.2.2.1, 0), env (2, lN x.2.2.2.1, 0), false)] = 0 := by
                        unfold szE csz
                        simp only [List.map_cons, List.map_nil, List.sum_cons, List.sum_nil, c1v, c2v]
                        rfl
                      have e4 : szN (fun _ => ent (x.2.2.2.1, x.2.2.2.2.1) (agi x.2.2.2.2.2)) 1 = szL (fun k => (agi x.2.2.2.2.2)[k]?) := by
                        show 0 + szL (fun k => (agi x.2.2.2.2.2)[k]?) + 0 = _
                        omega
                      have := ha.1
                      show szN (fun _ => ent (x.2.2.2.1, x.2.2.2.2.1) (agi x.2.2.2.2.2)) 1 + szE [((1, x.1, 0), env (1, x.1, 0), ((env (1, x.1, 0)).1, (env (1, x.1, 0)).2.1 - lN x.2.2.1, (env (1, x.1, 0)).2.2.1 + 1, (env (1, x.1, 0)).2.2.2), true), ((2, lN x.2.2.2.1, 0), env (2, lN x.2.2.2.1, 0), env (2, lN x.2.2.2.1, 0), false)] ≤ 0 + 64 * 2 + 8
                      rw [e4, e3]
                      omega
                    · refine ⟨by simp [ens], ⟨_, rfl, rfl, c1⟩, fun i y hy => ?_⟩
                      have hy : [((1, x.1, 0), env (1, x.1, 0), ((env (1, x.1, 0)).1, (env (1, x.1, 0)).2.1 - lN x.2.2.1, (env (1, x.1, 0)).2.2.1 + 1, (env (1, x.1, 0)).2.2.2), true), ((2, lN x.2.2.2.1, 0), env (2, lN x.2.2.2.1, 0), env (2, lN x.2.2.2.1, 0), false)][i]? = some y := hy
                      cases i with
                      | zero =>
                        cases hy
                        exact ⟨⟨⟨by show 1 ≤ (1 : Nat); decide, by show (1 : Nat) < 5; decide⟩, by show (1 : Nat) < 16; decide, by show (0 : Nat) < 2147483648; decide⟩, hE.1 _, EX.refl _, fun z => by cases z⟩
                      | succ i =>
                        cases i with
                        | zero =>
                          cases hy
                          exact ⟨⟨⟨by show 1 ≤ (2 : Nat); decide, by show (2 : Nat) < 5; decide⟩, by show (2 : Nat) < 16; decide, by show (0 : Nat) < 2147483648; decide⟩, hE.1 _, EX.refl _, fun _ => hmod⟩
                        | succ i => simp at hy
                    · have hp : pln u = true := by simpa using c7
                      unfold pln at hp
                      rw [List.all_eq_true] at hp
                      have gt := gu.2.2.2.2.1 y hy
                      exact (tyc_1 gt.2.1 (by simpa using hp y hy) gt.1).2
                    · have hy : y ∈ [((1, x.1, 0), env (1, x.1, 0), ((env (1, x.1, 0)).1, (env (1, x.1, 0)).2.1 - lN x.2.2.1, (env (1, x.1, 0)).2.2.1 + 1, (env (1, x.1, 0)).2.2.2), true), ((2, lN x.2.2.2.1, 0), env (2, lN x.2.2.2.1, 0), env (2, lN x.2.2.2.1, 0), false)] := hy
                      simp only [List.mem_cons, List.mem_nil_iff, or_false] at hy
                      rcases hy with z | z
                      · rw [z]; show (1 : Nat) < 4; decide
                      · rw [z]; show (2 : Nat) < 4; decide
end
