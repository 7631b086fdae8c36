/-! the state behind a publication that is done -/
section
variable {W : Wd} {cm m : Md} {dw : Nat → Nat → Nat} {st : Lw} {x : TxC} {n : Nat} {rd : Except (Nat × Nat) Md}
theorem dl1_le {y : Pc × Cn × Bool} : dl1 st y ≤ 1 := by
  unfold dl1
  split <;> split <;> omega
theorem pub_st (w : STW st) (h256 : st.length ≤ 256) (hE : EVW W (vsw st)) (h : (mpx W cm dw (vsw st) x n rd).1 = 0) : ∃ m, rd = .ok m ∧ STW (tkOv st (lR1 x.2.2.1 true (mpx W cm dw (vsw st) x n rd))) ∧ (tkOv st (lR1 x.2.2.1 true (mpx W cm dw (vsw st) x n rd))).length ≤ 256 ∧ ∀ p, p.1 < 4 → vsw (tkOv st (lR1 x.2.2.1 true (mpx W cm dw (vsw st) x n rd))) p = match pbL (vsw st) x.1 (pgas n) m.1 p with
    | some c => nrm c
    | none => vsw st p := by
  obtain ⟨m, a1, nd, mem⟩ := mpx_ls h ((hE.1 (1, x.1, 0)).2.1 (by show (1 : Nat) ≠ 3; decide))
  obtain ⟨m', a1', ⟨⟨b1, -⟩, -⟩, -, ⟨-, b4⟩, -⟩ := mpx_0 h
  rw [a1] at a1'
  have a1' : m = m' := by injection a1'
  subst a1'
  obtain ⟨t1, t2, -⟩ := tkO_w w nd
  refine ⟨m, a1, t1, ?_, fun p hp => ?_⟩
  · have tl := tkO_len w nd
    have ts : ((lR1 x.2.2.1 true (mpx W cm dw (vsw st) x n rd)).map (dl1 st)).sum ≤ 1 := by
      refine sum_1p (p := (2, lN m.1, 0)) nd (fun y hy hne => ?_) (fun y _ => dl1_le)
      obtain ⟨p, c, b⟩ := y
      obtain ⟨-, e⟩ := (mem p c b).mp hy
      have hne : p ≠ (2, lN m.1, 0) := hne
      unfold pbL at e
      by_cases c1 : p = (1, x.1, 0)
      · rw [if_pos c1] at e
        have e := Option.some.inj e
        have k1 : p.1 < 4 := by rw [c1]; show 1 < 4; omega
        have ct : c.1 = true := by rw [← e, c1]; exact b1
        have tn : tn1 st p = 1 := by
          rw [tn1_c w, ← vsw_3 k1, c1, if_pos b1]
        unfold dl1
        rw [if_pos ⟨k1, ct⟩, if_pos k1, tn]
        rfl
      · rw [if_neg c1] at e
        by_cases c2 : pbs m.1 p = true
        · unfold pbs at c2
          simp only [Bool.or_eq_true, beq_iff_eq] at c2
          have k4 : ¬ p.1 < 4 := by
            rcases c2 with (c2 | c2) | c2
            · rw [c2]; show ¬ 4 < 4; omega
            · rw [c2]; show ¬ 5 < 4; omega
            · exact absurd c2 hne
          unfold dl1
          rw [if_neg (fun z => k4 z.1), if_neg k4]
          rfl
        · rw [if_neg c2] at e; cases e
    have sl : st.length < 256 := by
      rw [vsw_4] at b4
      have b4 : lN st.length < (256 : Int64) := b4
      rw [Int64.lt_iff_toInt_lt, lN_toI (by omega)] at b4
      have : (256 : Int64).toInt = 256 := by decide
      omega
    omega
  · rw [vsw_3 hp, t2 p hp, vsw_3 hp]
    cases hc : pbL (vsw st) x.1 (pgas n) m.1 p with
    | some c =>
      rw [(lfd_i nd).mpr ((mem p c false).mpr ⟨rfl, hc⟩)]
    | none =>
      cases hf : lfd (lR1 x.2.2.1 true (mpx W cm dw (vsw st) x n rd)) p with
      | none => rfl
      | some y =>
        obtain ⟨-, e⟩ := (mem p y.1 y.2).mp (lfd_mem hf)
        rw [hc] at e; cases e
theorem EVW.pub (hE : EVW W (vsw st)) (hb : ∀ n m', W n = some m' → n < 65536) (m16 : m.1 < 65536) (m0 : m.1 ≠ 0) (hn : W m.1 = none) {st' : Lw} {snd : Int64} {us : Nat} (s1 : (vsw st (1, snd, 0)).1 = true) (h256 : st'.length ≤ 256) (hp : ∀ p, p.1 < 4 → vsw st' p = match pbL (vsw st) snd us m.1 p with
    | some c => nrm c
    | none => vsw st p) : EVW (wup W m) (vsw st') := by
  have le := wup_le hn
  have nt : (vsw st (2, lN m.1, 0)).1 = false := by
    cases hb' : (vsw st (2, lN m.1, 0)).1 with
    | false => rfl
    | true =>
      obtain ⟨-, m', hm'⟩ := hE.2.2.1 _ m16 hb'
      rw [hn] at hm'; cases hm'
  have c2 := (hE.1 (2, lN m.1, 0)).1 nt
  have pm : vsw st' (2, lN m.1, 0) = (true, 0, 0, none) := by
    rw [hp _ (by show 2 < 4; omega)]
    have : pbL (vsw st) snd us m.1 (2, lN m.1, 0) = some (true, 0, 0, none) := by
      unfold pbL
      rw [if_neg (fun z => absurd (congrArg Prod.fst z) (show ¬ ((2 : Nat) = 1) by decide))]
      have q1 : ¬ ((2, lN m.1, 0) : Pc) = (4, 0, 0) := fun z => absurd (congrArg Prod.fst z) (show (2 : Nat) ≠ 4 by decide)
      have q2 : ¬ ((2, lN m.1, 0) : Pc) = (5, 0, 0) := fun z => absurd (congrArg Prod.fst z) (show (2 : Nat) ≠ 5 by decide)
      rw [if_pos (by unfold pbs; simp)]
      unfold pbc
      rw [if_neg q1, if_neg q2, if_pos rfl, c2]
      rfl
    rw [this]
    rfl
  have po : ∀ k, k < 65536 → k ≠ m.1 → vsw st' (2, lN k, 0) = vsw st (2, lN k, 0) := fun k hk hne => by
    rw [hp _ (by show 2 < 4; omega)]
    have : pbL (vsw st) snd us m.1 (2, lN k, 0) = none := by
      unfold pbL
      rw [if_neg (fun z => absurd (congrArg Prod.fst z) (show ¬ ((2 : Nat) = 1) by decide)), if_neg]
      unfold pbs
      simp only [Bool.or_eq_true, beq_iff_eq]
      rintro ((z | z) | z)
      · exact absurd (congrArg Prod.fst z) (show (2 : Nat) ≠ 4 by decide)
      · exact absurd (congrArg Prod.fst z) (show (2 : Nat) ≠ 5 by decide)
      · have e : lN k = lN m.1 := congrArg (fun p : Pc => p.2.1) z
        exact hne ((lN_iff (by omega) (by omega)).mp e)
    rw [this]
  refine ⟨fun p => ?_, fun k m' hm hk => ?_, fun k hk ht => ?_, ?_⟩
  · rcases Nat.lt_or_ge p.1 4 with c | c
    · rw [hp p c]
      cases hc : pbL (vsw st) snd us m.1 p with
      | none => exact (hE.1 p).up le
      | some cn =>
        unfold pbL at hc
        by_cases c1 : p = (1, snd, 0)
        · rw [if_pos c1] at hc
          rw [← Option.some.inj hc]
          show CKn _ p (nrm _)
          rw [ctf (show ((vsw st p).1, (vsw st p).2.1 - lN us, (vsw st p).2.2.1 + 1, (none : Option VL)).1 = true from by rw [c1]; exact s1), c1, s1]
          exact CKn.nr (show (1 : Nat) ≠ 3 by decide)
        · rw [if_neg c1] at hc
          by_cases c3 : pbs m.1 p = true
          · have e : p = (2, lN m.1, 0) := by
              unfold pbs at c3
              simp only [Bool.or_eq_true, beq_iff_eq] at c3
              rcases c3 with (q | q) | q
              · rw [q] at c; exact absurd c (show ¬ 4 < 4 by omega)
              · rw [q] at c; exact absurd c (show ¬ 5 < 4 by omega)
              · exact q
            have := hp p c
            unfold pbL at this
            rw [if_neg c1, hc] at this
            have this : vsw st' p = nrm cn := this
            show CKn _ p (nrm cn)
            rw [← this, e, pm]
            exact CKn.nr (show (2 : Nat) ≠ 3 by decide)
          · rw [if_neg c3] at hc; cases hc
    · rw [vsw_o c]
      exact CKn.nr (by omega)
  · by_cases e : k = m.1
    · rw [e, pm]
    · have em : wup W m k = W k := if_neg e
      rw [em] at hm
      rw [po k (hb _ _ hm) e]
      exact hE.2.1 k m' hm hk
  · by_cases e : k = m.1
    · exact ⟨by rw [e]; exact m0, m, if_pos e⟩
    · rw [po k hk e] at ht
      obtain ⟨q1, m', q2⟩ := hE.2.2.1 k hk ht
      exact ⟨q1, m', le _ _ q2⟩
  · rw [vsw_4]
    have : (lN st'.length).toInt = (st'.length : Int) := lN_toI (by omega)
    show -100000 ≤ (lN st'.length).toInt ∧ (lN st'.length).toInt ≤ 100000
    rw [this]
    omega
end
