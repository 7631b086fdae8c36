/-! what others left: the state, and what transactions before left -/
/-- place, what lies there, whether it is only guessed -/
abbrev Lw : Type := List (Pc × Cn × Bool)
def EtR1 (h : AH) (o : Lc) (c i E e : Nat) (MA : Ma) (x : Pc × Cn × Bool) : Prop := (h.I 1155 (E + 2 + e) = bI x.2.1.1 ∧ h.J 1156 (E + 2 + e) = x.2.1.2.1 ∧ h.J 1157 (E + 2 + e) = x.2.1.2.2.1) ∧ (h.I 1164 (E + 2 + e) = bI x.2.2 ∧ (x.1.1 = 2 → x.2.1.1 = true → h.R 1158 (E + 2 + e) = some (MA.1 (un x.1.2.1)))) ∧
  match x.2.1.2.2.2 with
    | some v => ∃ y, o (c, i, e, 0) = some y ∧ h.R 1159 (E + 2 + e) = some y.1 ∧ lvE y = v
    | none => o (c, i, e, 0) = none ∧ h.R 1159 (E + 2 + e) = none
def EtR (h : AH) (o : Lc) (c i E n : Nat) (MA : Ma) (ls : Lw) : Prop := EtP h E n (ls.map fun x => x.1) ∧ (∀ (e : Nat) (x : Pc × Cn × Bool), ls[e]? = some x → EtR1 h o c i E e MA x) ∧ ∀ e, ls.length ≤ e → o (c, i, e, 0) = none
def etF : List Nat := [1024, 1025, 10000 + 342, 1152, 1153, 1154, 1155, 1156, 1157, 1164, 1158, 1159]
theorem IP.far {W : Nat} {l : List Nat} (h : l.all (fun f => !((3712 ≤ f && f ≤ 3718) || f == 1280 || ipL.contains f)) = true) {f a : Nat} (hf : l.contains f = true) (ha : a < W ∨ W + 130 ≤ a) : ¬ IP W f a := fun z => by
  rw [List.all_eq_true] at h
  have := h f (List.contains_iff_mem.mp hf)
  simp only [Bool.not_eq_true', Bool.or_eq_false_iff, Bool.and_eq_false_iff] at this
  obtain ⟨⟨t1, t2⟩, t3⟩ := this
  rcases z with (z | z) | z | z
  · rcases t1 with t | t
    · exact absurd z.1 (by simpa using t)
    · exact absurd z.2 (by simpa using t)
  · rw [z] at t2; simp at t2
  · omega
  · rw [t3] at z; cases z
theorem EtP.fr {P : Nat → Nat → Prop} {h h' : AH} {E n : Nat} {ps : List Pc} (q : Fr P h h') (np : ∀ f a, etF.contains f = true → E ≤ a → a < E + 2 + n → ¬ P f a) (s : EtP h E n ps) : EtP h' E n ps := by
  obtain ⟨⟨⟨s1, s2, s3⟩, s4⟩, ⟨s5, s6, s7⟩, s8⟩ := s
  refine ⟨⟨⟨q.tag s1, by rw [q.R (np _ _ rfl (by omega) (by omega))]; exact s2, q.tag s3⟩, fun e he => ⟨by rw [q.ER (np _ _ rfl (by omega) (by omega))]; exact (s4 e he).1, q.tag (s4 e he).2⟩⟩, ⟨by rw [q.I (np _ _ rfl (by omega) (by omega))]; exact s5, s6, s7⟩, fun e p hp => ?_⟩
  obtain ⟨⟨a1, a2, a3⟩, a4⟩ := s8 e p hp
  have he := get_lt hp
  have z : ∀ g, etF.contains g = true → ¬ P g (E + 2 + e) := fun g hg => np g _ hg (by omega) (by omega)
  exact ⟨⟨by rw [q.I (z _ rfl)]; exact a1, by rw [q.J (z _ rfl)]; exact a2, by rw [q.I (z _ rfl)]; exact a3⟩, a4⟩
theorem EtR.fr {P : Nat → Nat → Prop} {h h' : AH} {o o' : Lc} {c i E n : Nat} {MA : Ma} {ls : Lw} (q : Fr P h h') (np : ∀ f a, etF.contains f = true → E ≤ a → a < E + 2 + n → ¬ P f a) (ho : ∀ e, o' (c, i, e, 0) = o (c, i, e, 0)) (s : EtR h o c i E n MA ls) : EtR h' o' c i E n MA ls := by
  obtain ⟨s1, s2, s3⟩ := s
  refine ⟨s1.fr q np, fun e x hx => ?_, fun e he => by rw [ho]; exact s3 e he⟩
  have he : e < n := by
    have := get_lt hx
    have := s1.2.1.2.1
    simp at this
    omega
  have z : ∀ g, etF.contains g = true → ¬ P g (E + 2 + e) := fun g hg => np g _ hg (by omega) (by omega)
  obtain ⟨⟨a1, a2, a3⟩, ⟨b1, b2⟩, c1⟩ := s2 e x hx
  refine ⟨⟨by rw [q.I (z _ rfl)]; exact a1, by rw [q.J (z _ rfl)]; exact a2, by rw [q.J (z _ rfl)]; exact a3⟩, ⟨by rw [q.I (z _ rfl)]; exact b1, fun u1 u2 => by rw [q.R (z _ rfl)]; exact b2 u1 u2⟩, ?_⟩
  rw [ho, q.R (z _ rfl)]; exact c1
theorem EtR.out {h h' : AH} {o o' : Lc} {c i E n W wi : Nat} {MA : Ma} {ls : Lw} (u : OUT wi W h h' o o') (hc : c = 0 ∨ 3 < c) (hE : E + 2 + n ≤ W ∨ W + 130 ≤ E) (s : EtR h o c i E n MA ls) : EtR h' o' c i E n MA ls :=
  s.fr u.1 (fun f a hf h1 h2 => IP.far (l := etF) rfl hf (by omega)) (fun e => (u.2 _ (Or.inl hc)).1)
/-- the latest one before that left something at a place -/
def bfr (Lf : Nat → Lw) (p : Pc) (fs : Nat) : Nat → Option Nat
  | 0 => none
  | k + 1 => if k < fs then none else if ((Lf k).findIdx? fun x => x.1 == p).isSome then some k else bfr Lf p fs k
theorem bfr_s {Lf : Nat → Lw} {p : Pc} {fs k : Nat} : bfr Lf p fs (k + 1) = if k < fs then none else if ((Lf k).findIdx? fun x => x.1 == p).isSome then some k else bfr Lf p fs k := rfl
theorem bfr_b {Lf : Nat → Lw} {p : Pc} {fs : Nat} : ∀ {n k : Nat}, bfr Lf p fs n = some k → k < n ∧ fs ≤ k ∧ ∃ e, ((Lf k).findIdx? fun x => x.1 == p) = some e
  | 0, k, h => by cases h
  | n + 1, k, h => by
    unfold bfr at h
    split at h
    · cases h
    · rename_i c1
      split at h
      · rename_i c2
        rw [← Option.some.inj h]
        exact ⟨by omega, by omega, Option.isSome_iff_exists.mp c2⟩
      · obtain ⟨a, b, c⟩ := bfr_b h
        exact ⟨by omega, b, c⟩
/-- the world about a worker: the state, what was left by others, and their runs -/
def WRD (h : AH) (o : Lc) (A W BA tt : Nat) (MA : Ma) (fs : Nat) (st : Lw) (Lf : Nat → Lw) (RN : Nat → Int32) : Prop := (∃ SA, h.R 1 A = some SA ∧ EtR h o 0 0 SA 256 MA st ∧ (SA + 2 + 256 ≤ W ∨ W + 130 ≤ SA)) ∧ (h.I 5 A = nI fs ∧ fs ≤ tt ∧ ∀ x ∈ st, x.1.1 < 4) ∧ ∀ k, k < 32 → ∃ XA LA, h.ER 71 BA k = some XA ∧ h.tag XA = some (21, 0) ∧ h.R 2705 XA = some LA ∧ h.I 2703 XA = RN k ∧ EtR h o 4 k LA 30 MA (Lf k) ∧ (LA + 2 + 30 ≤ W ∨ W + 130 ≤ LA)
def wdF : List Nat := [1, 5, 10000 + 71, 2705, 2703]
theorem WRD.out {h h' : AH} {o o' : Lc} {A W BA tt fs wi : Nat} {MA : Ma} {st : Lw} {Lf : Nat → Lw} {RN : Nat → Int32} (u : OUT wi W h h' o o') (w : WRD h o A W BA tt MA fs st Lf RN) : WRD h' o' A W BA tt MA fs st Lf RN := by
  obtain ⟨⟨SA, a1, a2, a3⟩, ⟨b1, b2⟩, c⟩ := w
  have np : ∀ f a, wdF.contains f = true → ¬ IP W f a := IP.no rfl
  refine ⟨⟨SA, by rw [u.1.R (np _ _ rfl)]; exact a1, a2.out u (Or.inl rfl) a3, a3⟩, ⟨by rw [u.1.I (np _ _ rfl)]; exact b1, b2⟩, fun k hk => ?_⟩
  obtain ⟨XA, LA, c1, c2, c3, c4, c5, c6⟩ := c k hk
  exact ⟨XA, LA, by rw [u.1.ER (np _ _ rfl)]; exact c1, u.1.tag c2, by rw [u.1.R (np _ _ rfl)]; exact c3, by rw [u.1.I (np _ _ rfl)]; exact c4, c5.out u (Or.inr (by omega)) c6, c6⟩
/-- only from where entries came is other -/
theorem EtR.ma {h : AH} {o : Lc} {c i E n : Nat} {MA MA' : Ma} {ls : Lw} (e : MA'.1 = MA.1) (s : EtR h o c i E n MA ls) : EtR h o c i E n MA' ls := by
  obtain ⟨s1, s2, s3⟩ := s
  exact ⟨s1, fun e' x hx => by
    obtain ⟨a, ⟨b1, b2⟩, c⟩ := s2 e' x hx
    exact ⟨a, ⟨b1, fun u1 u2 => by rw [e]; exact b2 u1 u2⟩, c⟩, s3⟩
theorem WRD.ma {h : AH} {o : Lc} {A W BA tt fs : Nat} {MA MA' : Ma} {st : Lw} {Lf : Nat → Lw} {RN : Nat → Int32} (e : MA'.1 = MA.1) (w : WRD h o A W BA tt MA fs st Lf RN) : WRD h o A W BA tt MA' fs st Lf RN := by
  obtain ⟨⟨SA, a1, a2, a3⟩, b, c⟩ := w
  refine ⟨⟨SA, a1, a2.ma e, a3⟩, b, fun k hk => ?_⟩
  obtain ⟨XA, LA, c1, c2, c3, c4, c5, c6⟩ := c k hk
  exact ⟨XA, LA, c1, c2, c3, c4, c5.ma e, c6⟩
theorem fidx_map {ls : Lw} {q : Pc} : ((ls.map fun x => x.1).findIdx? fun p => p == q) = ls.findIdx? fun x => x.1 == q := by
  rw [List.findIdx?_map]; rfl
section
variable {G : Gt} {d : Nat} {h : AH} {o : Lc} {A W BA tt fs : Nat} {MA : Ma} {st : Lw} {Lf : Nat → Lw} {RN : Nat → Int32} {K : Outcome → AH → Prop}
def bfI (x : Option Nat) : Int32 := match x with
  | some k => nI k
  | none => -1
theorem before_ok {q : Pc} (t0 : h.tag A = some (0, 0)) (r0 : h.R 3 A = some BA) (tb : h.tag BA = some (71, 32)) (w : WRD h o A W BA tt MA fs st Lf RN) (ht : tt < 32) (hq : PB q) (hd : 3 ≤ d) (kk : K (.returned (some (.int (bfI (bfr Lf q fs tt))))) h) : MW G d e_X1_before [.ref A, .int (nI tt), .int (nI q.1), .long q.2.1, .int (nI q.2.2)] h K := by
  refine st_X1_before fun X oo hG hD _ => ?_
  subst hG; subst hD
  obtain ⟨-, ⟨b1, b2, -⟩, c⟩ := w
  have l1 : ∀ (k : Nat), nI (k + 1) - nI 1 = nI k := fun k => by rw [nI_sub (by omega)]; rfl
  have am : ∀ x : Int32, x + (-1) = x - nI 1 := fun x => by rw [Int32.sub_eq_add_neg]; rfl
  have m1 : nI 0 - nI 1 = (-1 : Int32) := by decide
  have lt : ∀ k, k < 32 → (nI k < nI fs ↔ k < fs) := fun k hk => by rw [um_ltI (by rw [um_n (by omega)]; omega) (by rw [um_n (by omega)]; omega), um_n (by omega), um_n (by omega)]
  have lm : (-1 : Int32) < nI fs := by
    have : ¬ nI fs < 0 := nI_nn (by omega)
    have := Int32.not_lt.mp this
    exact Int32.lt_of_lt_of_le (by decide) this
  have key : ∀ k, k ≤ tt → bfr Lf q fs tt = bfr Lf q fs k → V X K 5 [.ref A, .int (nI tt), .int (nI q.1), .long q.2.1, nov, .int (nI q.2.2), .int (nI k - nI 1)] [] h := by
    intro k
    induction k with
    | zero =>
      intro _ he
      rw [m1]
      refine k_X1_before_5 (r2 := b1) oo (fun _ => ?_) (fun c => absurd lm c)
      refine k_X1_before_40 (r2 := b1) oo (fun _ => ?_) (fun c => absurd lm c)
      refine k_X1_before_54 oo ?_
      refine k_X1_before_55 oo ?_
      rw [he] at kk
      exact kk
    | succ k ih =>
      intro hk he
      rw [l1]
      by_cases c1 : k < fs
      · refine k_X1_before_5 (r2 := b1) oo (fun _ => ?_) (fun c => absurd ((lt k (by omega)).mpr c1) c)
        refine k_X1_before_40 (r2 := b1) oo (fun _ => ?_) (fun c => absurd ((lt k (by omega)).mpr c1) c)
        refine k_X1_before_54 oo ?_
        refine k_X1_before_55 oo ?_
        rw [he] at kk
        rw [bfr_s, if_pos c1] at kk
        exact kk
      · obtain ⟨XA, LA, x1, x2, x3, x4, x5, x6⟩ := c k (by omega)
        have t5 := x5.1.1.1.1
        have ix : IX (nI k) 32 k := IX.mk (by omega) (by omega)
        refine k_X1_before_5 (r2 := b1) oo (fun c => absurd ((lt k (by omega)).mp c) c1) (fun _ => ?_)
        refine k_X1_before_14 oo ?_
        refine find_ok x5.1 hq (by omega) ?_
        rw [fidx_map]
        rw [bfr_s, if_neg c1] at he
        cases hf : (Lf k).findIdx? fun x => x.1 == q with
        | none =>
          rw [hf] at he
          refine k_X1_before_31 (s0 := none) oo (fun _ => ?_) (fun a c => by cases c)
          refine k_X1_before_34 oo ?_
          rw [am]
          exact ih (by omega) he
        | some e =>
          rw [hf] at he
          refine k_X1_before_31 (s0 := some (LA + 2 + e)) oo (fun c => by cases c) (fun a _ => ?_)
          refine k_X1_before_40 (r2 := b1) oo (fun c => absurd ((lt k (by omega)).mp c) c1) (fun _ => ?_)
          refine k_X1_before_49 oo ?_
          refine k_X1_before_55 oo ?_
          rw [he] at kk
          exact kk
  refine k_X1_before_0 oo ?_
  exact key tt (Nat.le_refl _) rfl
def mdn (st : Lw) : Nat := (st.filter fun x => x.1.1 == 2).length
theorem mthere_ok (t0 : h.tag A = some (0, 0)) (w : WRD h o A W BA tt MA fs st Lf RN) (kk : K (.returned (some (.int (nI (mdn st))))) h) : MW G d e_X1_modulesThere [.ref A] h K := by
  refine st_X1_modulesThere fun X oo hG hD _ => ?_
  subst hG; subst hD
  obtain ⟨⟨SA, a1, a2, a3⟩, -, -⟩ := w
  obtain ⟨⟨⟨s1, s2, s3⟩, s4⟩, ⟨s5, s6, s7⟩, s8⟩ := a2.1
  rw [List.length_map] at s5 s6
  have key : ∀ (m i : Nat), m + i = st.length → V X K 4 [.ref A, .int (nI (mdn (st.take i))), .int (nI i)] [] h := by
    intro m
    induction m with
    | zero =>
      intro i hm
      refine k_X1_modulesThere_4 (r5 := s5) oo (fun _ => ?_) (fun c => absurd ((nI_leI (by omega) (by omega)).mpr (by omega)) c)
      refine k_X1_modulesThere_45 oo ?_
      rw [List.take_of_length_le (by omega)]
      exact kk
    | succ m ih =>
      intro i hm
      obtain ⟨p, hp⟩ : ∃ p, (st)[i]? = some p := ⟨_, List.getElem?_eq_getElem (by omega)⟩
      obtain ⟨⟨p1, -, -⟩, p4⟩ := s8 i p.1 (by rw [List.getElem?_map, hp]; rfl)
      obtain ⟨q1, q2⟩ := s4 i (by omega)
      have ix : IX (nI i) 256 i := IX.mk (by omega) (by omega)
      have etk : st.take (i + 1) = st.take i ++ [p] := by rw [List.take_add_one, hp]; rfl
      have hk := p4.1
      refine k_X1_modulesThere_4 (r5 := s5) oo (fun c => absurd ((nI_leI (by omega) (by omega)).mp c) (by omega)) (fun _ => ?_)
      have nx := ih (i + 1) (by omega)
      rw [etk] at nx
      unfold mdn at nx
      rw [List.filter_append, List.length_append] at nx
      by_cases c : p.1.1 = 2
      · refine k_X1_modulesThere_15 (r14 := p1) oo (fun c' => absurd (by rw [c]) c') (fun _ => ?_)
        refine k_X1_modulesThere_32 oo ?_
        refine k_X1_modulesThere_37 oo ?_
        rw [nI_add, nI_add]
        simpa [c, mdn] using nx
      · refine k_X1_modulesThere_15 (r14 := p1) oo (fun _ => ?_) (fun c' => absurd ((nI_eq (by omega) (by omega)).mp c') c)
        refine k_X1_modulesThere_36 oo ?_
        refine k_X1_modulesThere_37 oo ?_
        rw [nI_add, nI_add]
        simpa [c, mdn] using nx
  refine k_X1_modulesThere_0 oo ?_
  exact key st.length 0 (by omega)
end
