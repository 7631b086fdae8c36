/-! a call's run: what holds in it -/
def CKn (W : Wd) (p : Pc) (c : Cn) : Prop := (c.1 = false → c = (false, 0, 0, none)) ∧ (p.1 ≠ 3 → c.2.2.2 = none) ∧ (p.1 = 3 → c.2.1 = 0 ∧ c.2.2.1 = 0 ∧ c.1 = c.2.2.2.isSome ∧ ∀ v, c.2.2.2 = some v → VT W [6, p.2.2] v ∧ vsz v ≤ 64)
def EVW (W : Wd) (env : Pc → Cn) : Prop := (∀ p, CKn W p (env p)) ∧ (∀ n m, W n = some m → n ≠ 0 → (env (2, lN n, 0)).1 = true) ∧ (∀ n, n < 65536 → (env (2, lN n, 0)).1 = true → n ≠ 0 ∧ ∃ m, W n = some m) ∧ -100000 ≤ (env (4, 0, 0)).2.1.toInt ∧ (env (4, 0, 0)).2.1.toInt ≤ 100000
section
variable {W : Wd} {D : Nat → Nat} {env env' : Pc → Cn} {s s1 s2 : Ms} {snd : Int64} {lim : Nat}
theorem EVW.ev (h : EVW W env) : EV W env := fun a i => by
  obtain ⟨-, -, h3⟩ := h.1 (3, a, i)
  obtain ⟨-, -, b, c⟩ := h3 rfl
  exact ⟨b, fun v hv => (c v hv).1⟩
theorem EVW.sz (h : EVW W env) (p : Pc) : csz (env p) ≤ 64 := by
  obtain ⟨-, h2, h3⟩ := h.1 p
  unfold csz
  by_cases c : p.1 = 3
  · cases hv : (env p).2.2.2 with
    | none => exact Nat.zero_le _
    | some v => exact ((h3 c).2.2.2 v hv).2
  · rw [h2 c]; exact Nat.zero_le _
/-- an entry as it began -/
def bsE (lim i : Nat) (x : En) : En := if i = 0 then (x.1, x.2.1, (x.2.1.1, x.2.1.2.1 - lN lim, x.2.1.2.2.1 + 1, x.2.1.2.2.2), true) else (x.1, x.2.1, x.2.1, false)
def ENQ (W : Wd) (snd : Int64) (lim : Nat) (es : List En) : Prop := (es.map fun x => x.1).Nodup ∧ (∃ x, es[0]? = some x ∧ x.1 = (1, snd, 0) ∧ x.2.1.1 = true) ∧ ∀ (i : Nat) (x : En), es[i]? = some x → ((1 ≤ x.1.1 ∧ x.1.1 < 5) ∧ PB x.1) ∧ CKn W x.1 x.2.1 ∧ EX (bsE lim i x) x ∧ (x.1.1 = 2 → x.2.1.1 = true)
theorem esX.back {es es2 : List En} (h : esX es es2) {i : Nat} {y : En} (hy : es2[i]? = some y) : ∃ x, es[i]? = some x ∧ EX x y := by
  have hi : i < es.length := by rw [← h.1]; exact get_lt hy
  obtain ⟨y', y1, y2⟩ := h.2 i _ (List.getElem?_eq_getElem hi)
  rw [hy] at y1; cases y1
  exact ⟨_, List.getElem?_eq_getElem hi, y2⟩
theorem esX.pl {es es2 : List En} (h : esX es es2) : (es2.map fun x => x.1) = es.map fun x => x.1 := by
  refine List.ext_getElem? fun i => ?_
  rw [List.getElem?_map, List.getElem?_map]
  cases hx : es[i]? with
  | none =>
    have : es2[i]? = none := by
      rw [List.getElem?_eq_none_iff] at hx ⊢
      rw [h.1]; exact hx
    rw [this]
  | some x =>
    obtain ⟨y, y1, y2⟩ := h.2 i x hx
    rw [y1]
    exact congrArg some y2.1
theorem bsE_x {i : Nat} {x y : En} (h : EX x y) : bsE lim i y = bsE lim i x := by
  unfold bsE
  rw [h.1, h.2.1]
theorem ENQ.x {es es2 : List En} (q : ENQ W snd lim es) (h : esX es es2) : ENQ W snd lim es2 := by
  obtain ⟨q1, ⟨x0, q2, q3, q4⟩, q5⟩ := q
  refine ⟨by rw [h.pl]; exact q1, ?_, fun i y hy => ?_⟩
  · obtain ⟨y, y1, y2⟩ := h.2 0 x0 q2
    exact ⟨y, y1, by rw [y2.1]; exact q3, by rw [y2.2.1]; exact q4⟩
  · obtain ⟨x, x1, x2⟩ := h.back hy
    obtain ⟨a, b, c, d⟩ := q5 i x x1
    refine ⟨by rw [x2.1]; exact a, by rw [x2.1, x2.2.1]; exact b, ?_, by rw [x2.1, x2.2.1]; exact d⟩
    rw [bsE_x x2]
    exact c.trans x2
theorem ENQ.ap {es : List En} (q : ENQ W snd lim es) (hE : EVW W env) {p : Pc} (hn : ∀ x ∈ es, x.1 ≠ p) (h1 : 1 ≤ p.1 ∧ p.1 < 5 ∧ (p.1 = 2 → (env p).1 = true)) (h2 : PB p) : ENQ W snd lim (es ++ [(p, env p, env p, false)]) := by
  obtain ⟨q1, ⟨x0, q2, q3, q4⟩, q5⟩ := q
  have l0 := get_lt q2
  refine ⟨?_, ⟨x0, by rw [List.getElem?_append_left l0]; exact q2, q3, q4⟩, fun i y hy => ?_⟩
  · rw [List.map_append, List.nodup_append]
    refine ⟨q1, by simp, fun a ha b hb => ?_⟩
    obtain ⟨x, x1, x2⟩ := List.mem_map.mp ha
    have : b = p := by simpa using hb
    rw [this, ← x2]
    exact hn x x1
  · by_cases c : i < es.length
    · rw [List.getElem?_append_left c] at hy
      exact q5 i y hy
    · have : i = es.length := by
        have := get_lt hy
        rw [List.length_append] at this
        simp at this
        omega
      rw [this, List.getElem?_append_right (Nat.le_refl _), Nat.sub_self] at hy
      cases hy
      refine ⟨⟨⟨h1.1, h1.2.1⟩, h2⟩, hE.1 p, ?_, h1.2.2⟩
      unfold bsE
      rw [if_neg (by omega)]
      exact EX.refl _
theorem ENQ.step {c : Bool} (hE : EVW W env) (q : ENQ W snd lim (ens s)) (h : STQ env c s s2) : ENQ W snd lim (ens s2) := by
  obtain ⟨s1, a, b⟩ := h
  refine ENQ.x ?_ b.2
  rcases a.2 with ⟨e, -⟩ | ⟨p, e, h1, h2, h3, -⟩
  · rw [e]; exact q
  · rw [e]; exact q.ap hE h1 ⟨h2.1, h2.2.1, h2.2.2.1⟩ h3.1
theorem STQ.ag {c : Bool} (h : STQ env c s s2) (ha : agE env' s2) : agE env' s := by
  obtain ⟨s1, a, b⟩ := h
  have h1 : ∀ x ∈ ens s1, env' x.1 = x.2.1 := b.2.agE ha
  rcases a.2 with ⟨e, -⟩ | ⟨p, e, -⟩
  · rw [e] at h1; exact h1
  · intro x hx
    exact h1 x (by rw [e]; exact List.mem_append_left _ hx)
theorem STQ.ln {c : Bool} (h : STQ env c s s2) : (ens s).length ≤ (ens s2).length ∧ (ens s2).length ≤ (ens s).length + 1 ∧ (c = true → (ens s2).length + s.2.2.2.1 = (ens s).length + s2.2.2.2.1 ∧ (s.2.2.2.1 ≤ 24 → s2.2.2.2.1 ≤ 24)) := by
  obtain ⟨s1, a, b⟩ := h
  rw [b.2.1, b.1]
  rcases a.2 with ⟨e, f⟩ | ⟨p, e, h1, h2, h3, h4⟩
  · rw [e, f]; exact ⟨Nat.le_refl _, by omega, fun _ => ⟨by omega, id⟩⟩
  · rw [e, List.length_append, h4]
    simp only [List.length_cons, List.length_nil]
    refine ⟨by omega, by omega, fun z => ?_⟩
    rw [if_pos z]
    refine ⟨by omega, fun z2 => ?_⟩
    have : s.2.2.2.1 ≠ 24 := fun z3 => h3.2 ⟨z, z3⟩
    omega
theorem STQ.k4 (h : STQ env true s s2) (h4 : ∀ x ∈ ens s, x.1.1 < 4) : ∀ x ∈ ens s2, x.1.1 < 4 := fun y hy => by
  obtain ⟨s1, a, b⟩ := h
  obtain ⟨i, hi, ei⟩ := List.mem_iff_getElem.mp hy
  obtain ⟨x, x1, x2⟩ := b.2.back (show (ens s2)[i]? = some y by rw [List.getElem?_eq_getElem hi, ei])
  rw [x2.1]
  have hx := List.mem_of_getElem? x1
  rcases a.2 with ⟨e, -⟩ | ⟨p, e, h1, h2, -⟩
  · rw [e] at hx; exact h4 x hx
  · rw [e] at hx
    rcases List.mem_append.mp hx with z | z
    · exact h4 x z
    · have : x = (p, env p, env p, false) := by simpa using z
      rw [this]; exact h2.2.2.2 rfl
/-- results are plain -/
def PL0 (W : Wd) (s : Ms) : Prop := ∃ m u, W (s.2.1 0).1.1 = some m ∧ m.2.2.2.2.2[(s.2.1 0).1.2]? = some u ∧ ∀ x ∈ u.2.2.1, isRf x.1 = false
def PIq (W : Wd) (lim : Nat) (snd : Int64) (s : Ms) : Prop := Inv W s ∧ gas s ≤ lim ∧ ((ens s).length ≤ s.2.2.2.1 ∧ s.2.2.2.1 ≤ 24) ∧ szs s ≤ gas s + 64 * (ens s).length + 8 ∧ ENQ W snd lim (ens s) ∧ PL0 W s ∧ ∀ x ∈ ens s, x.1.1 < 4
def PEq (W : Wd) (lim : Nat) (snd : Int64) (s : Ms) : Prop := EnT W (ens s) ∧ gas s ≤ lim ∧ (ens s).length ≤ 25 ∧ szs s ≤ gas s + 64 * (ens s).length + 8 ∧ ENQ W snd lim (ens s)
theorem PIq.sz (h : PIq W lim snd s) (hl : lim ≤ 20000) : szs s ≤ 22000 := by
  obtain ⟨-, h2, h3, h4, -⟩ := h
  omega
theorem f0_nx {m : Md} {u : Ux} {i : Nat} {s : Ms} : ((nx m u i s).2.1 0).1 = (s.2.1 0).1 := by
  show (uF s.2.1 (s.1 - 1) _ 0).1 = _
  by_cases c : 0 = s.1 - 1
  · rw [← c, uF_s]
    show (s.2.1 (s.1 - 1)).1 = _
    rw [← c]
  · rw [uF_n c]
theorem f0_K {k : List It} {s : Ms} : ((sK s k).2.1 0).1 = (s.2.1 0).1 := by
  show (uF s.2.1 (s.1 - 1) _ 0).1 = _
  by_cases c : 0 = s.1 - 1
  · rw [← c, uF_s]
    show (s.2.1 (s.1 - 1)).1 = _
    rw [← c]
  · rw [uF_n c]
def f0R (s s2 : Ms) : Prop := (s2.2.1 0).1 = (s.2.1 0).1
theorem f0_call {i : Nat} {m : Md} {u : Ux} {g : Nat × Nat} (h1 : 1 ≤ s2.1) (h : f0R s s2) : rzP (f0R s) (mcall W lim m u i g s2) := by
  unfold mcall
  split
  · trivial
  · split
    · trivial
    · refine rzP.nd h (rzP.py h (rzP.re (rz_go ?_)))
      show (uF _ _ _ 0).1 = (s.2.1 0).1
      rw [uF_n (by show 0 ≠ s2.1; omega)]
      rw [f0_nx, f0_K]
      exact h
theorem f0_rb {r : Rz} {m : Md} {u : Ux} (h : rzP (pcE s) r) : rzP (f0R s) (rb r fun s => mgo (nx m u ((tpf s).2.1 + 1) s)) := by
  cases r with
  | none => trivial
  | some e =>
    cases e with
    | ok s2 => exact f0_nx.trans (h.2 0).1
    | error e => exact (h.2 0).1
theorem f0_mst {m : Md} {u : Ux} {x : Ix} (T : TOPI W s m u x) : rzP (f0R s) (mstp W snd lim env s) := by
  obtain ⟨⟨t1, t2, t3⟩, ⟨t4, -⟩, -⟩ := T
  rw [mstp_1 t1 t2 t3]
  refine rzP.py rfl ?_
  have h : f0R s (sG s (gas s + 1)) := rfl
  have h1 : 1 ≤ (sG s (gas s + 1)).1 := t4.1
  have pc : ∀ {r : Rz}, rzP (pcE (sG s (gas s + 1))) r → rzP (pcE s) r := fun z => z
  generalize sG s (gas s + 1) = s' at *
  have h0 : ∀ {r : Rz}, rzP (f0R s') r → rzP (f0R s) r := fun z => z.mono fun s2 y => y.trans h
  unfold mst1
  split
  · unfold mend
    refine rzP.re ?_
    split
    · unfold mset
      split
      · exact h
      · split
        · exact h
        · refine rzP.msk h (fun i => ?_) (fun i es n => ?_)
          · split
            · trivial
            · split
              · show (_ : Nat × Nat) = _
                rw [show (sEn s' i _).2.1 = s'.2.1 from by unfold sEn; split <;> rfl]; exact h
              · exact h
          · split
            · trivial
            · split
              · show (_ : Nat × Nat) = _
                rw [show (sEn (s'.1, s'.2.1, es, n, gas s') i _).2.1 = s'.2.1 from by unfold sEn; split <;> rfl]; exact h
              · exact h
    · exact rzP.re (rz_go (f0_K.trans h))
  · split
    · split
      · exact rzP.re h
      · trivial
    · split
      · unfold mbr
        split
        · exact f0_nx.trans h
        · split
          · exact rzP.re (rz_go ((f0_nx.trans f0_K).trans h))
          · trivial
      · split
        · unfold mcl
          split
          · exact f0_call h1 h
          · split
            · trivial
            · split
              · exact h0 (f0_rb pcE_coi)
              · exact rzP.msk h (fun i => f0_call h1 h) (fun i es n => f0_call h1 h)
        · exact h0 (f0_rb pcE_mop)
/-- a step -/
theorem PIq.step (hW : WV W) (hD : DW W D) (hE : EVW W env) (hl : lim ≤ 20000) (h : PIq W lim snd s) : (match mstp W snd lim env s with
    | none => False
    | some (.ok s2) => PIq W lim snd s2 ∧ gas s < gas s2 ∧ STQ env true s s2
    | some (.error e) => PEq W lim snd e.2.2 ∧ gas s ≤ gas e.2.2 ∧ ∃ c, STQ env c s e.2.2) ∧ ∀ env', rzP (agE env') (mstp W snd lim env s) → mstp W snd lim env' s = mstp W snd lim env s := by
  have hz := h.sz hl
  obtain ⟨h1, h2, h3, h4, h5, ⟨m0, u0, h6, h7, h8⟩, h9⟩ := h
  obtain ⟨m, u, x, T⟩ := Inv.top hW hD h1 (by omega)
  have hth : ∀ c ∈ m.2.2.2.1, c.1 ≠ 0 → (env (2, lN c.1, 0)).1 = true := fun c hc c0 => by
    have := (hW.2 _ _ T.1.1).2.2.2.2.2 c hc
    rw [if_neg c0] at this
    obtain ⟨m', u', e1, -⟩ := this
    exact hE.2.1 _ _ e1 c0
  obtain ⟨q1, q2⟩ := T.q (snd := snd) h2 hE.sz hth
  have g := g_mst (W := W) (snd := snd) (env := env) h2
  have f := f0_mst (snd := snd) (lim := lim) (env := env) T
  have o := mstp_g (snd := snd) (lim := lim) hW hE.ev h1
  cases hm : mstp W snd lim env s with
  | none => rw [hm] at o; exact o.elim
  | some r =>
    refine ⟨?_, fun env' ha => by rw [← hm]; exact q2 env' (by rw [hm]; exact fun z => by cases z) (by rw [hm]; exact ha)⟩
    rw [hm] at q1 g f o
    cases r with
    | ok s2 =>
      have q1 : SQ 0 s s2 ∧ STQ env true s s2 := q1
      have g : gas s < gas s2 ∧ gas s2 ≤ lim := g
      have f : (s2.2.1 0).1 = (s.2.1 0).1 := f
      obtain ⟨l1, l2, l3⟩ := q1.2.ln
      obtain ⟨l4, l5⟩ := l3 rfl
      have sq := q1.1
      unfold SQ at sq
      exact ⟨⟨o, g.2, ⟨by omega, l5 h3.2⟩, by omega, h5.step hE q1.2, ⟨m0, u0, by rw [f]; exact h6, by rw [f]; exact h7, h8⟩, q1.2.k4 h9⟩, g.1, q1.2⟩
    | error e =>
      have q1 : SQ 0 s e.2.2 ∧ ∃ c, STQ env c s e.2.2 := q1
      have g : gas s ≤ gas e.2.2 ∧ gas e.2.2 ≤ lim := g
      obtain ⟨sq, c, st⟩ := q1
      obtain ⟨l1, l2, l3⟩ := st.ln
      unfold SQ at sq
      exact ⟨⟨o, g.2, by omega, by omega, h5.step hE st⟩, g.1, c, st⟩
end
