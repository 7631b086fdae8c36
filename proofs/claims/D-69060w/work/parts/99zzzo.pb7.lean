/-! a publication that is done: what it leaves -/
theorem LKI.lk {env : Pc → Cn} {ms : List Nat} {bs : List Pc} : ∀ {ns : List Nat} {es : List En}, LKI env ms bs es → (∀ n ∈ ns, n ∈ ms) → LKI env ms bs (lkE env ns es)
  | [], _, s, _ => s
  | n :: ns, es, s, h => LKI.lk (ns := ns) (es := las env es n) (s.ls (Or.inr (h n (List.mem_cons_self ..)))) (fun k hk => h k (List.mem_cons_of_mem _ hk))
def pbs (k : Nat) (p : Pc) : Bool := p == (4, 0, 0) || p == (5, 0, 0) || p == (2, lN k, 0)
def pbc (env : Pc → Cn) (k : Nat) (p : Pc) : Cn := if p = (4, 0, 0) then inB (env p) else if p = (5, 0, 0) then inB (env p) else if p = (2, lN k, 0) then onT (env p) else env p
def pbe (env : Pc → Cn) (k : Nat) (y : En) : En := (y.1, env y.1, pbc env k y.1, pbs k y.1)
/-- entries of a publication that is done -/
def pE4 (env : Pc → Cn) (ns : List Nat) (k : Nat) (es : List En) : List En := qsk env (lkE env ns (qsk env (qsk env es (5, 0, 0)) (2, lN k, 0))) (4, 0, 0)
theorem upE_4 {env : Pc → Cn} {k : Nat} {es : List En} (h : ∀ x ∈ es, x = (x.1, env x.1, env x.1, false)) : upE (2, lN k, 0) onT (upE (5, 0, 0) inB (upE (4, 0, 0) inB es)) = es.map (pbe env k) := by
  unfold upE
  rw [List.map_map, List.map_map]
  refine List.map_congr_left fun x hx => ?_
  have e := h x hx
  have n1 : ((2, lN k, 0) : Pc) ≠ (4, 0, 0) := fun z => absurd (congrArg Prod.fst z) (show (2 : Nat) ≠ 4 by decide)
  have n2 : ((2, lN k, 0) : Pc) ≠ (5, 0, 0) := fun z => absurd (congrArg Prod.fst z) (show (2 : Nat) ≠ 5 by decide)
  have n3 : ((5, 0, 0) : Pc) ≠ (4, 0, 0) := by decide
  obtain ⟨p, c1, c2, b⟩ := x
  have e1 : c1 = env p := congrArg (fun y : En => y.2.1) e
  have e2 : c2 = env p := congrArg (fun y : En => y.2.2.1) e
  have e3 : b = false := congrArg (fun y : En => y.2.2.2) e
  subst e1; subst e2; subst e3
  simp only [Function.comp, pbe, pbc, pbs, cEn]
  by_cases h4 : p = (4, 0, 0)
  · subst h4
    simp
  · by_cases h5 : p = (5, 0, 0)
    · subst h5
      have : ¬ ((5, 0, 0) : Pc) = (2, lN k, 0) := fun z => n2 z.symm
      simp [this]
    · by_cases h2 : p = (2, lN k, 0)
      · subst h2
        simp
      · simp [h4, h5, h2]
theorem mpb_0 {W : Wd} {cm : Md} {dw : Nat → Nat → Nat} {env : Pc → Cn} {lim n : Nat} {r : Except (Nat × Nat) Md} {es : List En} (h : (mpb W cm dw env lim n r es).1 = 0) : ∃ m, r = .ok m ∧ (¬ lim < pgas n ∧ m.1 ≠ 0 ∧ (env (2, lN m.1, 0)).1 = false) ∧ ((vlk W cm m).1 = none ∧ vla m (mdw m dw) = none) ∧ ((env (5, 0, 0)).2.1 < 8 ∧ (env (4, 0, 0)).2.1 < 256) ∧ mpb W cm dw env lim n r es = (0, 0, upE (2, lN m.1, 0) onT (upE (5, 0, 0) inB (upE (4, 0, 0) inB (pE4 env (vlk W cm m).2 m.1 es))), pgas n, [], 0) := by
  unfold mpb at h ⊢
  have t2 : ¬ (2 : Nat) = 0 := by decide
  have t4 : ¬ (4 : Nat) = 0 := by decide
  by_cases c1 : lim < pgas n
  · rw [if_pos c1] at h; exact absurd h t2
  rw [if_neg c1] at h ⊢
  by_cases c2 : (8 : Int64) ≤ (env (5, 0, 0)).2.1
  · rw [if_pos c2] at h; exact absurd h t2
  rw [if_neg c2] at h ⊢
  cases r with
  | error e => exact absurd h t4
  | ok m =>
    simp only at h ⊢
    by_cases c3 : m.1 = 0
    · rw [if_pos c3] at h; exact absurd h t4
    rw [if_neg c3] at h ⊢
    by_cases c4 : (env (2, lN m.1, 0)).1 = true
    · rw [if_pos c4] at h; exact absurd h t4
    rw [if_neg c4] at h ⊢
    cases c5 : (vlk W cm m).1 with
    | some e => rw [c5] at h; exact absurd h t4
    | none =>
      rw [c5] at h
      simp only at h ⊢
      cases c6 : vla m (mdw m dw) with
      | some e => rw [c6] at h; exact absurd h t4
      | none =>
        rw [c6] at h
        simp only at h ⊢
        by_cases c7 : (256 : Int64) ≤ (env (4, 0, 0)).2.1
        · rw [if_pos c7] at h; exact absurd h t2
        rw [if_neg c7]
        exact ⟨m, rfl, ⟨c1, c3, by rw [Bool.eq_false_iff]; exact c4⟩, ⟨c5, by first | exact c6 | rfl⟩, ⟨Int64.not_le.mp c2, Int64.not_le.mp c7⟩, rfl⟩
theorem qsk_has {env : Pc → Cn} {es : List En} {p : Pc} : ∃ y ∈ qsk env es p, y.1 = p := by
  unfold qsk
  cases hf : es.findIdx? (fun e => e.1 == p) with
  | some i =>
    rw [List.findIdx?_eq_some_iff_getElem] at hf
    obtain ⟨i1, i2, -⟩ := hf
    exact ⟨es[i], List.getElem_mem i1, by simpa using i2⟩
  | none => exact ⟨_, List.mem_append_right _ (List.mem_singleton.mpr rfl), rfl⟩
/-- what a publication that is done leaves, by places -/
def pbL (env : Pc → Cn) (snd : Int64) (used k : Nat) (p : Pc) : Option Cn := if p = (1, snd, 0) then some ((env p).1, (env p).2.1 - lN used, (env p).2.2.1 + 1, none) else if pbs k p = true then some (pbc env k p) else none
theorem pE4_i {env : Pc → Cn} {ns : List Nat} {k : Nat} {snd : Int64} : LKI env ns [(1, snd, 0), (5, 0, 0), (2, lN k, 0), (4, 0, 0)] (pE4 env ns k [((1, snd, 0), env (1, snd, 0), env (1, snd, 0), false)]) ∧ (pE4 env ns k [((1, snd, 0), env (1, snd, 0), env (1, snd, 0), false)])[0]? = some ((1, snd, 0), env (1, snd, 0), env (1, snd, 0), false) ∧ ∀ p, pbs k p = true → ∃ y ∈ pE4 env ns k [((1, snd, 0), env (1, snd, 0), env (1, snd, 0), false)], y.1 = p := by
  have i0 : LKI env ns [(1, snd, 0), (5, 0, 0), (2, lN k, 0), (4, 0, 0)] [((1, snd, 0), env (1, snd, 0), env (1, snd, 0), false)] := ⟨by simp, fun x hx => by
    rw [List.mem_singleton] at hx
    subst hx
    exact ⟨rfl, Or.inl (by simp)⟩⟩
  have i1 := i0.qs (p := (5, 0, 0)) (Or.inl (by simp))
  have i2 := i1.qs (p := (2, lN k, 0)) (Or.inl (by simp))
  have i3 := i2.lk (ns := ns) (fun n hn => hn)
  have i4 := i3.qs (p := (4, 0, 0)) (Or.inl (by simp))
  refine ⟨i4, preg qsk_pre (preg lkE_pre (preg qsk_pre (preg qsk_pre rfl))), fun p hp => ?_⟩
  unfold pbs at hp
  simp only [Bool.or_eq_true, beq_iff_eq] at hp
  rcases hp with (hp | hp) | hp
  · rw [hp]; exact qsk_has
  · rw [hp]
    obtain ⟨y, y1, y2⟩ := qsk_has (env := env) (es := [((1, snd, 0), env (1, snd, 0), env (1, snd, 0), false)]) (p := (5, 0, 0))
    exact ⟨y, List.IsPrefix.subset qsk_pre (List.IsPrefix.subset lkE_pre (List.IsPrefix.subset qsk_pre y1)), y2⟩
  · rw [hp]
    obtain ⟨y, y1, y2⟩ := qsk_has (env := env) (es := qsk env [((1, snd, 0), env (1, snd, 0), env (1, snd, 0), false)] (5, 0, 0)) (p := (2, lN k, 0))
    exact ⟨y, List.IsPrefix.subset qsk_pre (List.IsPrefix.subset lkE_pre y1), y2⟩
/-- a list's sum where only one counts -/
theorem sum_1p {f : Pc × Cn × Bool → Int} {p : Pc} : ∀ {l : Lw}, (plw l).Nodup → (∀ x ∈ l, x.1 ≠ p → f x = 0) → (∀ x ∈ l, f x ≤ 1) → (l.map f).sum ≤ 1
  | [], _, _, _ => by simp
  | a :: l, nd, h0, h1 => by
    have nd : (a.1 :: plw l).Nodup := nd
    rw [List.nodup_cons] at nd
    rw [List.map_cons, List.sum_cons]
    by_cases c : a.1 = p
    · have z : ∀ l' : Lw, (∀ x ∈ l', f x = 0) → (l'.map f).sum = 0 := fun l' => by
        induction l' with
        | nil => intro _; rfl
        | cons b l' ih =>
          intro h
          rw [List.map_cons, List.sum_cons, h b (List.mem_cons_self ..), ih (fun x hx => h x (List.mem_cons_of_mem _ hx))]
          rfl
      rw [z l fun x hx => h0 x (List.mem_cons_of_mem _ hx) (fun e => nd.1 (by rw [c, ← e]; exact List.mem_map.mpr ⟨x, hx, rfl⟩))]
      have := h1 a (List.mem_cons_self ..)
      omega
    · have := sum_1p nd.2 (fun x hx => h0 x (List.mem_cons_of_mem _ hx)) (fun x hx => h1 x (List.mem_cons_of_mem _ hx))
      rw [h0 a (List.mem_cons_self ..) c]
      omega
section
variable {W : Wd} {cm : Md} {dw : Nat → Nat → Nat} {env : Pc → Cn} {x : TxC} {n : Nat} {rd : Except (Nat × Nat) Md}
/-- a publication that is done -/
theorem mpx_0 (h : (mpx W cm dw env x n rd).1 = 0) : ∃ m, rd = .ok m ∧ (((env (1, x.1, 0)).1 = true ∧ (env (1, x.1, 0)).2.2.1 = x.2.1 ∧ lN x.2.2.1 ≤ (env (1, x.1, 0)).2.1) ∧ pgas n ≤ x.2.2.1 ∧ m.1 ≠ 0 ∧ (env (2, lN m.1, 0)).1 = false) ∧ ((vlk W cm m).1 = none ∧ vla m (mdw m dw) = none) ∧ ((env (5, 0, 0)).2.1 < 8 ∧ (env (4, 0, 0)).2.1 < 256) ∧ mpx W cm dw env x n rd = (0, 0, (pE4 env (vlk W cm m).2 m.1 [((1, x.1, 0), env (1, x.1, 0), env (1, x.1, 0), false)]).map (pbe env m.1), pgas n, [], 0) := by
  unfold mpx at h ⊢
  have t3 : ¬ (3 : Nat) = 0 := by decide
  by_cases c1 : (env (1, x.1, 0)).1 = false
  · rw [if_pos c1] at h; exact absurd h t3
  rw [if_neg c1] at h ⊢
  by_cases c2 : (env (1, x.1, 0)).2.2.1 ≠ x.2.1
  · rw [if_pos c2] at h; exact absurd h t3
  rw [if_neg c2] at h ⊢
  by_cases c3 : (env (1, x.1, 0)).2.1 < lN x.2.2.1
  · rw [if_pos c3] at h; exact absurd h t3
  rw [if_neg c3] at h ⊢
  obtain ⟨m, a1, ⟨a2, a3, a4⟩, a5, a6, a7⟩ := mpb_0 h
  refine ⟨m, a1, ⟨⟨by cases hb : (env (1, x.1, 0)).1 with
    | true => rfl
    | false => exact absurd hb c1, Classical.byContradiction c2, Int64.not_lt.mp c3⟩, Nat.not_lt.mp a2, a3, a4⟩, a5, a6, ?_⟩
  rw [a7, upE_4 fun y hy => (pE4_i.1.2 y hy).1]
theorem mpx_ls (h : (mpx W cm dw env x n rd).1 = 0) (hp : (env (1, x.1, 0)).2.2.2 = none) : ∃ m, rd = .ok m ∧ (plw (lR1 x.2.2.1 true (mpx W cm dw env x n rd))).Nodup ∧ ∀ p c b, (p, c, b) ∈ lR1 x.2.2.1 true (mpx W cm dw env x n rd) ↔ b = false ∧ pbL env x.1 (pgas n) m.1 p = some c := by
  obtain ⟨m, a1, -, -, -, a7⟩ := mpx_0 h
  rw [a7]
  obtain ⟨i1, i2, i3⟩ := pE4_i (env := env) (ns := (vlk W cm m).2) (k := m.1) (snd := x.1)
  generalize pE4 env (vlk W cm m).2 m.1 [((1, x.1, 0), env (1, x.1, 0), env (1, x.1, 0), false)] = es at i1 i2 i3 ⊢
  cases es with
  | nil => simp at i2
  | cons s0 t =>
    rw [List.getElem?_cons_zero] at i2
    have i2 := Option.some.inj i2
    subst i2
    have n1 : ∀ y ∈ t, y.1 ≠ (1, x.1, 0) := fun y hy e => by
      have := i1.1
      rw [List.map_cons, List.nodup_cons] at this
      exact this.1 (by rw [← e]; exact List.mem_map.mpr ⟨y, hy, rfl⟩)
    have ps : pbs m.1 (1, x.1, 0) = false := by
      have q1 : ¬ ((1, x.1, 0) : Pc) = (4, 0, 0) := fun z => absurd (congrArg Prod.fst z) (show (1 : Nat) ≠ 4 by decide)
      have q2 : ¬ ((1, x.1, 0) : Pc) = (5, 0, 0) := fun z => absurd (congrArg Prod.fst z) (show (1 : Nat) ≠ 5 by decide)
      have q3 : ¬ ((1, x.1, 0) : Pc) = (2, lN m.1, 0) := fun z => absurd (congrArg Prod.fst z) (show (1 : Nat) ≠ 2 by decide)
      unfold pbs
      rw [beq_eq_false_iff_ne.mpr q1, beq_eq_false_iff_ne.mpr q2, beq_eq_false_iff_ne.mpr q3]
      rfl
    have pc : pbc env m.1 (1, x.1, 0) = env (1, x.1, 0) := by
      have q1 : ¬ ((1, x.1, 0) : Pc) = (4, 0, 0) := fun z => absurd (congrArg Prod.fst z) (show (1 : Nat) ≠ 4 by decide)
      have q2 : ¬ ((1, x.1, 0) : Pc) = (5, 0, 0) := fun z => absurd (congrArg Prod.fst z) (show (1 : Nat) ≠ 5 by decide)
      have q3 : ¬ ((1, x.1, 0) : Pc) = (2, lN m.1, 0) := fun z => absurd (congrArg Prod.fst z) (show (1 : Nat) ≠ 2 by decide)
      unfold pbc
      rw [if_neg q1, if_neg q2, if_neg q3]
    refine ⟨m, a1, lR1_nd (x := x) ⟨_, _, rfl⟩ (fun _ => ?_), fun p c b => ?_⟩
    · have : (List.map (fun x => x.1) (List.map (pbe env m.1) (((1, x.1, 0), env (1, x.1, 0), env (1, x.1, 0), false) :: t))) = (((1, x.1, 0), env (1, x.1, 0), env (1, x.1, 0), false) :: t).map fun x => x.1 := by
        rw [List.map_map]; rfl
      show (List.map (fun x => x.1) (List.map (pbe env m.1) (((1, x.1, 0), env (1, x.1, 0), env (1, x.1, 0), false) :: t))).Nodup
      rw [this]; exact i1.1
    · have el : lR1 x.2.2.1 true (0, 0, (((1, x.1, 0), env (1, x.1, 0), env (1, x.1, 0), false) :: t).map (pbe env m.1), pgas n, [], 0) = ((1, x.1, 0), ((env (1, x.1, 0)).1, (env (1, x.1, 0)).2.1 - lN (pgas n), (env (1, x.1, 0)).2.2.1 + 1, none), false) :: lfl true (t.map (pbe env m.1)) := by
        unfold lR1 lfE lvB
        simp only [List.map_cons, pbe]
        rw [pc, hp]
        simp
      rw [el]
      constructor
      · intro hm
        rcases List.mem_cons.mp hm with e | e
        · have e1 : p = (1, x.1, 0) := congrArg Prod.fst e
          have e2 : c = _ := congrArg (fun y : Pc × Cn × Bool => y.2.1) e
          have e3 : b = false := congrArg (fun y : Pc × Cn × Bool => y.2.2) e
          refine ⟨e3, ?_⟩
          unfold pbL
          rw [if_pos e1, e1, e2]
        · unfold lfl at e
          obtain ⟨y, y1, y2⟩ := List.mem_map.mp e
          obtain ⟨y3, y4⟩ := List.mem_filter.mp y1
          obtain ⟨w, w1, w2⟩ := List.mem_map.mp y3
          have y4 : y.2.2.2 = true := y4
          rw [← w2] at y2 y4
          have e1 : w.1 = p := congrArg Prod.fst y2
          have e2 : pbc env m.1 w.1 = c := congrArg (fun y : Pc × Cn × Bool => y.2.1) y2
          have e3 : false = b := congrArg (fun y : Pc × Cn × Bool => y.2.2) y2
          have y4 : pbs m.1 w.1 = true := y4
          refine ⟨e3.symm, ?_⟩
          unfold pbL
          rw [← e1, if_neg (n1 w w1), if_pos y4, e2]
      · rintro ⟨e3, e⟩
        unfold pbL at e
        by_cases c1 : p = (1, x.1, 0)
        · rw [if_pos c1] at e
          rw [e3, ← Option.some.inj e, c1]
          exact List.mem_cons_self ..
        · rw [if_neg c1] at e
          by_cases c2 : pbs m.1 p = true
          · rw [if_pos c2] at e
            obtain ⟨w, w1, w2⟩ := i3 p c2
            refine List.mem_cons_of_mem _ ?_
            rcases List.mem_cons.mp w1 with q | q
            · rw [q] at w2
              exact absurd w2.symm c1
            · unfold lfl
              refine List.mem_map.mpr ⟨pbe env m.1 w, List.mem_filter.mpr ⟨List.mem_map.mpr ⟨w, q, rfl⟩, ?_⟩, ?_⟩
              · show pbs m.1 w.1 = true
                rw [w2]; exact c2
              · show (w.1, pbc env m.1 w.1, false) = (p, c, b)
                rw [w2, e3, Option.some.inj e]
          · rw [if_neg c2] at e; cases e
end
