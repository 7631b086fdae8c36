/-! a checked module never gets stuck -/
theorem tk_64 {s : Sk} {r : (Ty × Og) × Sk} (h : tk s = .ok r) : r.2.length ≤ s.length := by rw [tk_i h]; simp
theorem pt_64 {t : Ty} {o : Og} {s s' : Sk} (h : pt t o s = .ok s') : s'.length ≤ 64 := by
  have h0 := pt_i h
  obtain ⟨_, h1, -⟩ := eb_ok h
  have := of_decide_eq_true (nee_i h1)
  rw [h0, List.length_cons]; omega
theorem tkT_64 {t : Ty} {s : Sk} {r : (Ty × Og) × Sk} (h : tkT t s = .ok r) : r.2.length ≤ s.length := by rw [(tkT_i h).1]; simp
theorem tkR_64 {t : Ty} {w : Bool} {s : Sk} {r : (Ty × Og) × Sk} (h : tkR t w s = .ok r) : r.2.length ≤ s.length := by rw [(tkR_i h).1]; simp
theorem tkL_64 {l : List Ty} {s : Sk} {q : Sk × Sk} (h : tkL l s = .ok q) : q.2.length ≤ s.length := by rw [(tkL_len h).1]; simp
theorem ptL_64 : ∀ {l : List (Ty × Og)} {s s' : Sk}, s.length ≤ 64 → ptL l s = .ok s' → s'.length ≤ 64
  | [], s, s', h0, h => by cases h; exact h0
  | x :: l, s, s', _, h => by
    obtain ⟨s1, h1, h2⟩ := eb_ok h
    exact ptL_64 (pt_64 h1) h2
theorem cOp_64 {m : Md} {u : Ux} {lt : List Ty} {o a b : Nat} {c d : Cs} (h0 : c.1.length ≤ 64) (h : cOp m u lt o a b c = .ok d) : d.1.length ≤ 64 := by
  have e1 : ∀ {t : Ty} {g : Og} {r : Sk}, (eb (pt t g r) fun s => .ok (s, c.2)) = .ok d → d.1.length ≤ 64 := fun {t g r} z => by
    obtain ⟨_, z1, z⟩ := eb_ok z
    cases z; exact pt_64 z1
  unfold cOp at h
  by_cases c0 : o = 0
  · rw [if_pos c0] at h
    obtain ⟨_, z1, h⟩ := eb_ok h
    obtain ⟨_, z2, h⟩ := eb_ok h
    cases h; first | exact h0 | exact Nat.le_trans (tk_64 z1) h0 | exact Nat.le_trans (tkT_64 z1) h0 | exact Nat.le_trans (tkT_64 z4) (Nat.le_trans (tk_64 z1) h0) | exact Nat.le_trans (tkR_64 z2) (Nat.le_trans (tkT_64 z1) h0) | exact Nat.le_trans (tkR_64 z3) (Nat.le_trans (tkT_64 z2) (Nat.le_trans (tkT_64 z1) h0))
  rw [if_neg c0] at h
  by_cases c1 : o = 1
  · rw [if_pos c1] at h
    unfold cEnd at h
    obtain ⟨_, z1, h⟩ := eb_ok h
    obtain ⟨_, z2, h⟩ := eb_ok h
    obtain ⟨_, z3, h⟩ := eb_ok h
    cases h; first | exact h0 | exact Nat.le_trans (tk_64 z1) h0 | exact Nat.le_trans (tkT_64 z1) h0 | exact Nat.le_trans (tkT_64 z4) (Nat.le_trans (tk_64 z1) h0) | exact Nat.le_trans (tkR_64 z2) (Nat.le_trans (tkT_64 z1) h0) | exact Nat.le_trans (tkR_64 z3) (Nat.le_trans (tkT_64 z2) (Nat.le_trans (tkT_64 z1) h0))
  rw [if_neg c1] at h
  by_cases c2 : o = 2
  · rw [if_pos c2] at h
    obtain ⟨_, z1, h⟩ := eb_ok h
    cases h; first | exact h0 | exact Nat.le_trans (tk_64 z1) h0 | exact Nat.le_trans (tkT_64 z1) h0 | exact Nat.le_trans (tkT_64 z4) (Nat.le_trans (tk_64 z1) h0) | exact Nat.le_trans (tkR_64 z2) (Nat.le_trans (tkT_64 z1) h0) | exact Nat.le_trans (tkR_64 z3) (Nat.le_trans (tkT_64 z2) (Nat.le_trans (tkT_64 z1) h0))
  rw [if_neg c2] at h
  by_cases c3 : o < 5
  · rw [if_pos c3] at h
    obtain ⟨_, z1, h⟩ := eb_ok h
    obtain ⟨_, z2, h⟩ := eb_ok h
    cases h; first | exact h0 | exact Nat.le_trans (tk_64 z1) h0 | exact Nat.le_trans (tkT_64 z1) h0 | exact Nat.le_trans (tkT_64 z4) (Nat.le_trans (tk_64 z1) h0) | exact Nat.le_trans (tkR_64 z2) (Nat.le_trans (tkT_64 z1) h0) | exact Nat.le_trans (tkR_64 z3) (Nat.le_trans (tkT_64 z2) (Nat.le_trans (tkT_64 z1) h0))
  rw [if_neg c3] at h
  by_cases c4 : o < 8
  · rw [if_pos c4] at h
    first | exact e1 h | (obtain ⟨_, y1, h⟩ := eb_ok h; cases h; first | exact ptL_64 (Nat.le_trans (tkT_64 z1) h0) y1 | exact ptL_64 (Nat.le_trans (tkL_64 z1) h0) y1)
  rw [if_neg c4] at h
  by_cases c5 : o < 10
  · rw [if_pos c5] at h
    first | exact e1 h | (obtain ⟨_, y1, h⟩ := eb_ok h; cases h; first | exact ptL_64 (Nat.le_trans (tkT_64 z1) h0) y1 | exact ptL_64 (Nat.le_trans (tkL_64 z1) h0) y1)
  rw [if_neg c5] at h
  by_cases c6 : o = 10 ∨ o = 46
  · rw [if_pos c6] at h
    first | exact e1 h | (obtain ⟨_, y1, h⟩ := eb_ok h; cases h; first | exact ptL_64 (Nat.le_trans (tkT_64 z1) h0) y1 | exact ptL_64 (Nat.le_trans (tkL_64 z1) h0) y1)
  rw [if_neg c6] at h
  by_cases c7 : o < 16
  · rw [if_pos c7] at h
    unfold cLoc at h
    split at h
    · obtain ⟨_, z1, h⟩ := eb_ok h
      obtain ⟨_, z2, h⟩ := eb_ok h
      obtain ⟨_, z3, h⟩ := eb_ok h
      cases h; first | exact pt_64 z2 | exact Nat.le_trans (tkT_64 z1) h0
    · split at h
      · cases h
      · split at h
        · obtain ⟨_, z1, h⟩ := eb_ok h
          obtain ⟨_, z2, h⟩ := eb_ok h
          first | exact e1 h | (obtain ⟨_, y1, h⟩ := eb_ok h; cases h; first | exact ptL_64 (Nat.le_trans (tkT_64 z1) h0) y1 | exact ptL_64 (Nat.le_trans (tkL_64 z1) h0) y1)
        · split at h
          · obtain ⟨_, z1, h⟩ := eb_ok h
            obtain ⟨_, z2, h⟩ := eb_ok h
            cases h; first | exact pt_64 z2 | exact Nat.le_trans (tkT_64 z1) h0
          · obtain ⟨_, z1, h⟩ := eb_ok h
            obtain ⟨_, z2, h⟩ := eb_ok h
            first | exact e1 h | (obtain ⟨_, y1, h⟩ := eb_ok h; cases h; first | exact ptL_64 (Nat.le_trans (tkT_64 z1) h0) y1 | exact ptL_64 (Nat.le_trans (tkL_64 z1) h0) y1)
  rw [if_neg c7] at h
  by_cases c8 : o < 18
  · rw [if_pos c8] at h
    unfold cFld at h
    obtain ⟨_, z1, h⟩ := eb_ok h
    first | exact e1 h | (obtain ⟨_, y1, h⟩ := eb_ok h; cases h; first | exact ptL_64 (Nat.le_trans (tkT_64 z1) h0) y1 | exact ptL_64 (Nat.le_trans (tkL_64 z1) h0) y1)
  rw [if_neg c8] at h
  by_cases c9 : o < 21
  · rw [if_pos c9] at h
    unfold cRef at h
    obtain ⟨_, z1, h⟩ := eb_ok h
    obtain ⟨_, z2, h⟩ := eb_ok h
    split at h
    · obtain ⟨_, z3, h⟩ := eb_ok h
      first | exact e1 h | (obtain ⟨_, y1, h⟩ := eb_ok h; cases h; first | exact ptL_64 (Nat.le_trans (tkT_64 z1) h0) y1 | exact ptL_64 (Nat.le_trans (tkL_64 z1) h0) y1)
    · obtain ⟨_, z3, h⟩ := eb_ok h
      split at h
      · first | exact e1 h | (obtain ⟨_, y1, h⟩ := eb_ok h; cases h; first | exact ptL_64 (Nat.le_trans (tkT_64 z1) h0) y1 | exact ptL_64 (Nat.le_trans (tkL_64 z1) h0) y1)
      · obtain ⟨_, z4, h⟩ := eb_ok h
        obtain ⟨_, z5, h⟩ := eb_ok h
        obtain ⟨_, z6, h⟩ := eb_ok h
        cases h; first | exact h0 | exact Nat.le_trans (tk_64 z1) h0 | exact Nat.le_trans (tkT_64 z1) h0 | exact Nat.le_trans (tkT_64 z4) (Nat.le_trans (tk_64 z1) h0) | exact Nat.le_trans (tkR_64 z2) (Nat.le_trans (tkT_64 z1) h0) | exact Nat.le_trans (tkR_64 z3) (Nat.le_trans (tkT_64 z2) (Nat.le_trans (tkT_64 z1) h0))
  rw [if_neg c9] at h
  by_cases c10 : o = 21
  · rw [if_pos c10] at h
    unfold cPack at h
    obtain ⟨_, z1, h⟩ := eb_ok h
    first | exact e1 h | (obtain ⟨_, y1, h⟩ := eb_ok h; cases h; first | exact ptL_64 (Nat.le_trans (tkT_64 z1) h0) y1 | exact ptL_64 (Nat.le_trans (tkL_64 z1) h0) y1)
  rw [if_neg c10] at h
  by_cases c11 : o = 22
  · rw [if_pos c11] at h
    unfold cUnp at h
    obtain ⟨_, z1, h⟩ := eb_ok h
    first | exact e1 h | (obtain ⟨_, y1, h⟩ := eb_ok h; cases h; first | exact ptL_64 (Nat.le_trans (tkT_64 z1) h0) y1 | exact ptL_64 (Nat.le_trans (tkL_64 z1) h0) y1)
  rw [if_neg c11] at h
  by_cases c12 : o = 23
  · rw [if_pos c12] at h
    unfold cCall at h
    obtain ⟨_, z1, h⟩ := eb_ok h
    obtain ⟨_, z2, h⟩ := eb_ok h
    obtain ⟨_, z3, h⟩ := eb_ok h
    obtain ⟨_, z4, h⟩ := eb_ok h
    first | exact e1 h | (obtain ⟨_, y1, h⟩ := eb_ok h; cases h; first | exact ptL_64 (Nat.le_trans (tkT_64 z1) h0) y1 | exact ptL_64 (Nat.le_trans (tkL_64 z1) h0) y1)
  rw [if_neg c12] at h
  by_cases c13 : o < 45
  · rw [if_pos c13] at h
    unfold cNum at h
    split at h
    · obtain ⟨_, z1, h⟩ := eb_ok h
      obtain ⟨_, z2, h⟩ := eb_ok h
      obtain ⟨_, z3, h⟩ := eb_ok h
      first | exact e1 h | (obtain ⟨_, y1, h⟩ := eb_ok h; cases h; first | exact ptL_64 (Nat.le_trans (tkT_64 z1) h0) y1 | exact ptL_64 (Nat.le_trans (tkL_64 z1) h0) y1)
    split at h
    · obtain ⟨_, z1, h⟩ := eb_ok h
      obtain ⟨_, z2, h⟩ := eb_ok h
      first | exact e1 h | (obtain ⟨_, y1, h⟩ := eb_ok h; cases h; first | exact ptL_64 (Nat.le_trans (tkT_64 z1) h0) y1 | exact ptL_64 (Nat.le_trans (tkL_64 z1) h0) y1)
    split at h
    · obtain ⟨_, z1, h⟩ := eb_ok h
      first | exact e1 h | (obtain ⟨_, y1, h⟩ := eb_ok h; cases h; first | exact ptL_64 (Nat.le_trans (tkT_64 z1) h0) y1 | exact ptL_64 (Nat.le_trans (tkL_64 z1) h0) y1)
    split at h
    · obtain ⟨_, z1, h⟩ := eb_ok h
      first | exact e1 h | (obtain ⟨_, y1, h⟩ := eb_ok h; cases h; first | exact ptL_64 (Nat.le_trans (tkT_64 z1) h0) y1 | exact ptL_64 (Nat.le_trans (tkL_64 z1) h0) y1)
    split at h
    · obtain ⟨_, z1, h⟩ := eb_ok h
      obtain ⟨_, z2, h⟩ := eb_ok h
      first | exact e1 h | (obtain ⟨_, y1, h⟩ := eb_ok h; cases h; first | exact ptL_64 (Nat.le_trans (tkT_64 z1) h0) y1 | exact ptL_64 (Nat.le_trans (tkL_64 z1) h0) y1)
    split at h
    · obtain ⟨_, z1, h⟩ := eb_ok h
      obtain ⟨_, z2, h⟩ := eb_ok h
      obtain ⟨_, z3, h⟩ := eb_ok h
      obtain ⟨_, z4, h⟩ := eb_ok h
      first | exact e1 h | (obtain ⟨_, y1, h⟩ := eb_ok h; cases h; first | exact ptL_64 (Nat.le_trans (tkT_64 z1) h0) y1 | exact ptL_64 (Nat.le_trans (tkL_64 z1) h0) y1)
    · cases h; first | exact h0 | exact Nat.le_trans (tk_64 z1) h0 | exact Nat.le_trans (tkT_64 z1) h0 | exact Nat.le_trans (tkT_64 z4) (Nat.le_trans (tk_64 z1) h0) | exact Nat.le_trans (tkR_64 z2) (Nat.le_trans (tkT_64 z1) h0) | exact Nat.le_trans (tkR_64 z3) (Nat.le_trans (tkT_64 z2) (Nat.le_trans (tkT_64 z1) h0))
  rw [if_neg c13] at h
  by_cases c14 : o = 45
  · rw [if_pos c14] at h
    obtain ⟨_, z1, h⟩ := eb_ok h
    cases h; first | exact h0 | exact Nat.le_trans (tk_64 z1) h0 | exact Nat.le_trans (tkT_64 z1) h0 | exact Nat.le_trans (tkT_64 z4) (Nat.le_trans (tk_64 z1) h0) | exact Nat.le_trans (tkR_64 z2) (Nat.le_trans (tkT_64 z1) h0) | exact Nat.le_trans (tkR_64 z3) (Nat.le_trans (tkT_64 z2) (Nat.le_trans (tkT_64 z1) h0))
  rw [if_neg c14] at h
  by_cases c15 : o < 52
  · rw [if_pos c15] at h
    unfold cRes at h
    obtain ⟨_, z1, h⟩ := eb_ok h
    obtain ⟨_, z2, h⟩ := eb_ok h
    obtain ⟨_, z3, h⟩ := eb_ok h
    split at h
    · cases h; first | exact h0 | exact Nat.le_trans (tk_64 z1) h0 | exact Nat.le_trans (tkT_64 z1) h0 | exact Nat.le_trans (tkT_64 z4) (Nat.le_trans (tk_64 z1) h0) | exact Nat.le_trans (tkR_64 z2) (Nat.le_trans (tkT_64 z1) h0) | exact Nat.le_trans (tkR_64 z3) (Nat.le_trans (tkT_64 z2) (Nat.le_trans (tkT_64 z1) h0))
    split at h
    · obtain ⟨_, z4, h⟩ := eb_ok h
      first | exact e1 h | (obtain ⟨_, y1, h⟩ := eb_ok h; cases h; first | exact ptL_64 (Nat.le_trans (tkT_64 z1) h0) y1 | exact ptL_64 (Nat.le_trans (tkL_64 z1) h0) y1)
    split at h
    · first | exact e1 h | (obtain ⟨_, y1, h⟩ := eb_ok h; cases h; first | exact ptL_64 (Nat.le_trans (tkT_64 z1) h0) y1 | exact ptL_64 (Nat.le_trans (tkL_64 z1) h0) y1)
    · obtain ⟨_, z4, h⟩ := eb_ok h
      first | exact e1 h | (obtain ⟨_, y1, h⟩ := eb_ok h; cases h; first | exact ptL_64 (Nat.le_trans (tkT_64 z1) h0) y1 | exact ptL_64 (Nat.le_trans (tkL_64 z1) h0) y1)
  rw [if_neg c15] at h
  by_cases c16 : o < 59
  · rw [if_pos c16] at h
    unfold cVec at h
    split at h
    · obtain ⟨_, z1, h⟩ := eb_ok h
      first | exact e1 h | (obtain ⟨_, y1, h⟩ := eb_ok h; cases h; first | exact ptL_64 (Nat.le_trans (tkT_64 z1) h0) y1 | exact ptL_64 (Nat.le_trans (tkL_64 z1) h0) y1)
    split at h
    · obtain ⟨_, z1, h⟩ := eb_ok h
      first | exact e1 h | (obtain ⟨_, y1, h⟩ := eb_ok h; cases h; first | exact ptL_64 (Nat.le_trans (tkT_64 z1) h0) y1 | exact ptL_64 (Nat.le_trans (tkL_64 z1) h0) y1)
    split at h
    · obtain ⟨_, z1, h⟩ := eb_ok h
      obtain ⟨_, z2, h⟩ := eb_ok h
      first | exact e1 h | (obtain ⟨_, y1, h⟩ := eb_ok h; cases h; first | exact ptL_64 (Nat.le_trans (tkT_64 z1) h0) y1 | exact ptL_64 (Nat.le_trans (tkL_64 z1) h0) y1)
    split at h
    · obtain ⟨_, z1, h⟩ := eb_ok h
      obtain ⟨_, z2, h⟩ := eb_ok h
      obtain ⟨_, z3, h⟩ := eb_ok h
      cases h; first | exact h0 | exact Nat.le_trans (tk_64 z1) h0 | exact Nat.le_trans (tkT_64 z1) h0 | exact Nat.le_trans (tkT_64 z4) (Nat.le_trans (tk_64 z1) h0) | exact Nat.le_trans (tkR_64 z2) (Nat.le_trans (tkT_64 z1) h0) | exact Nat.le_trans (tkR_64 z3) (Nat.le_trans (tkT_64 z2) (Nat.le_trans (tkT_64 z1) h0))
    split at h
    · obtain ⟨_, z1, h⟩ := eb_ok h
      obtain ⟨_, z2, h⟩ := eb_ok h
      first | exact e1 h | (obtain ⟨_, y1, h⟩ := eb_ok h; cases h; first | exact ptL_64 (Nat.le_trans (tkT_64 z1) h0) y1 | exact ptL_64 (Nat.le_trans (tkL_64 z1) h0) y1)
    · obtain ⟨_, z1, h⟩ := eb_ok h
      obtain ⟨_, z2, h⟩ := eb_ok h
      obtain ⟨_, z3, h⟩ := eb_ok h
      obtain ⟨_, z4, h⟩ := eb_ok h
      cases h; first | exact h0 | exact Nat.le_trans (tk_64 z1) h0 | exact Nat.le_trans (tkT_64 z1) h0 | exact Nat.le_trans (tkT_64 z4) (Nat.le_trans (tk_64 z1) h0) | exact Nat.le_trans (tkR_64 z2) (Nat.le_trans (tkT_64 z1) h0) | exact Nat.le_trans (tkR_64 z3) (Nat.le_trans (tkT_64 z2) (Nat.le_trans (tkT_64 z1) h0))
  · rw [if_neg c16] at h
    obtain ⟨_, z1, h⟩ := eb_ok h
    first | exact e1 h | (obtain ⟨_, y1, h⟩ := eb_ok h; cases h; first | exact ptL_64 (Nat.le_trans (tkT_64 z1) h0) y1 | exact ptL_64 (Nat.le_trans (tkL_64 z1) h0) y1)
theorem fls_f {m : Md} {f : Nat} {c : Cx} (h : m.2.2.2.1[f - m.2.2.2.2.2.length]? = some c) (hf : ¬ f < m.2.2.2.2.2.length) : fls m f 0 = c.2.2.2.1 ∧ fls m f 1 = c.2.2.2.2 ∧ fgs m f = c.2.2.1 := by
  unfold fls fgs
  rw [if_neg hf, if_neg hf, if_neg hf, h]
  exact ⟨rfl, rfl, rfl⟩
theorem fgs_u {m : Md} {f : Nat} {u : Ux} (h : m.2.2.2.2.2[f]? = some u) : fgs m f = u.1 := by
  unfold fgs
  rw [if_pos (get_lt h), h]
section
variable {W : Wd} {s : Ms} {A : Nat → Nat → Rx} {MM : Nat → Md} {UU : Nat → Ux} {SS : Nat → Sk} {LL : Nat → Ls} {t : Nat}
theorem OpG.id (h : Cor W s A MM UU SS LL) : OpG W s A MM UU SS LL t (SS t, LL t) s := ⟨rfl, by rw [uS_e, uS_e]; exact h, sgs.refl _, fun _ _ => rfl, fun _ _ => rfl⟩
theorem mop_g (h : Cor W s A MM UU SS LL) (ht : t + 1 = s.1) (hk : Lkf s A UU t) (hw : W (MM t).1 = some (MM t)) (h32 : (MM t).2.1.length ≤ 32) (g : gM (MM t)) (hu : gU (MM t) (UU t)) {env : Pc → Cn} (hV : EV W env) {snd : Int64} {lim : Nat} {x : Ix} (gx : gX (MM t) (UU t) x) {d : Cs} (hx : x.1 = 0 ∨ (5 ≤ x.1 ∧ x.1 ≠ 23 ∧ x.1 ≠ 45)) (hc : cOp (MM t) (UU t) (lty (UU t)) x.1 x.2.1 x.2.2.1 (SS t, LL t) = .ok d) : Okr W (mop snd env lim (MM t) x s) (OpG W s A MM UU SS LL t d) := by
  have h60 := gx.2.1
  have h40 := hu.n
  unfold mop
  by_cases c0 : x.1 = 0
  · rw [if_pos c0]
    unfold cOp at hc
    rw [if_pos c0] at hc
    obtain ⟨r, a1, hc⟩ := eb_ok hc
    obtain ⟨_, a2, hc⟩ := eb_ok hc
    cases hc
    have e1 := tk_i a1
    have h1 := (h.tp ht).2.1
    have e1 : SS t = r.1 :: r.2 := e1
    rw [e1] at h1
    obtain ⟨i, k, i1, i2, i3⟩ := h1.inv
    rw [i1]
    exact OpG.sk h ht i3 fun q hq => h.vs ht q (by rw [i1]; exact vt_fl hq)
  rw [if_neg c0]
  by_cases c11 : x.1 < 11 ∨ x.1 = 46
  · rw [if_pos c11]
    refine oCon_g h ht (by omega) (fun z => ?_) hc
    have := gx.2.2.1
    rw [z] at this
    exact this
  rw [if_neg c11]
  unfold cOp at hc
  rw [if_neg c0, if_neg (by omega), if_neg (by omega), if_neg (by omega), if_neg (by omega), if_neg (by omega), if_neg (by omega)] at hc
  by_cases c16 : x.1 < 16
  · rw [if_pos c16] at hc ⊢
    exact oLoc_g h ht hk (by omega) (gx.lo (by omega)) h40 hc
  rw [if_neg c16] at hc ⊢
  by_cases c21 : x.1 < 21
  · rw [if_pos c21]
    refine oRef_g h ht hk hw h32 (a := x.2.1) (by omega) (fun z => gx.fd (by omega)) ?_
    by_cases c18 : x.1 < 18
    · rw [if_pos c18] at hc ⊢; exact hc
    · rw [if_neg c18, if_pos c21] at hc
      rw [if_neg c18]; exact hc
  rw [if_neg c21]
  rw [if_neg (by omega), if_neg c21] at hc
  by_cases d21 : x.1 = 21
  · rw [if_pos d21] at hc ⊢
    exact oPck_g h ht hw h32 g (gx.ow (by omega)) hc
  rw [if_neg d21] at hc ⊢
  by_cases d22 : x.1 = 22
  · rw [if_pos d22] at hc ⊢
    exact oUnp_g h ht hw h32 g (gx.ow (by omega)) hc
  rw [if_neg d22] at hc ⊢
  rw [if_neg (by omega)] at hc
  by_cases c45 : x.1 < 45
  · rw [if_pos c45] at hc ⊢
    exact oNum_g h ht (by omega) hc
  rw [if_neg c45] at hc ⊢
  rw [if_neg (by omega)] at hc
  by_cases c52 : x.1 < 52
  · rw [if_pos c52] at hc ⊢
    exact oRes_g h ht hk hw h32 hV (by omega) (gx.ow (by omega)) hc
  rw [if_neg c52] at hc ⊢
  by_cases c59 : x.1 < 59
  · rw [if_pos c59] at hc
    exact oVec_g h ht hk g (by omega) (gx.el (by omega)).1 (gx.el (by omega)).2 hc
  · rw [if_neg c59] at hc
    rw [show x.1 = 59 by omega]
    exact oDig_g h ht hc
end
theorem mstp_g {W : Wd} {snd : Int64} {lim : Nat} {env : Pc → Cn} {s : Ms} (hW : WV W) (hV : EV W env) (hI : Inv W s) : Okr W (mstp W snd lim env s) (Inv W) := by
  obtain ⟨A, MM, UU, SS, LL, KK, SJ, h, hk, ha, hr⟩ := id hI
  obtain ⟨t, ht⟩ : ∃ t, t + 1 = s.1 := ⟨s.1 - 1, by have := h.1.1; omega⟩
  have he := h.2.1
  have e0 := tpt ht
  obtain ⟨hf, -, -, -⟩ := h.tp ht
  obtain ⟨a0, a1, a2, a3, a4, a5⟩ := ha t (by omega)
  rw [if_pos ht] at a4
  obtain ⟨w1, w2, w3, w4, w5, w6⟩ := hW.2 _ _ hf.1
  have um := List.mem_of_getElem? hf.2
  have hw : W (MM t).1 = some (MM t) := by rw [w1]; exact hf.1
  obtain ⟨u1, u2, -⟩ := w5 (by rw [← w1]; exact a0) (UU t) um
  have gu := (w2.2.2.2.2.1 _ um).2
  have hxx : (ui (UU t))[(s.2.1 t).2.1]? = some (ui (UU t))[(s.2.1 t).2.1] := List.getElem?_eq_getElem a2
  generalize (ui (UU t))[(s.2.1 t).2.1] = x at hxx
  have gx := u1 x (List.mem_of_getElem? hxx)
  obtain ⟨n1, n2, d, n3, n4, n5⟩ := a1.2 _ x hxx
  rw [a4] at a5
  rw [a4, ← a3] at n3
  have h64 : d.1.length ≤ 64 := cOp_64 a5 n3
  unfold mstp
  rw [e0, hf.1]
  simp only
  rw [hf.2]
  simp only
  rw [hxx]
  simp only
  refine Okr.pay he fun gg => ?_
  have h' : Cor W (sG s gg) A MM UU SS LL := h
  have hk' : ∀ j, j < (sG s gg).1 → Lkf (sG s gg) A UU j := hk
  have ht' : t + 1 = (sG s gg).1 := ht
  have e0' : tpf (sG s gg) = s.2.1 t := e0
  have on : ∀ {i : Nat} {dd : Cs} {s1 : Ms}, OpG W (sG s gg) A MM UU SS LL t dd s1 → i < (ui (UU t)).length → SJ t i = dd.1 → lsl dd.2 (lnt (MM t) (UU t) i) → dd.1.length ≤ 64 → Inv W (nx (MM t) (UU t) i s1) := fun ho hi hs hl h6 => Inv.on (s := sG s gg) hk ha hr ht ho hi hs hl h6
  -- the next instruction
  have nxt : ∀ {r : Rz}, ¬ (x.1 = 1 ∨ x.1 = 2 ∨ x.1 = 45) → Okr W r (OpG W (sG s gg) A MM UU SS LL t d) → Okr W (rb r fun s => mgo (nx (MM t) (UU t) ((tpf s).2.1 + 1) s)) (Inv W) := fun hn hr' => hr'.bnd fun s1 ho => by
    obtain ⟨b1, b2, b3⟩ := n5 hn
    have : (tpf s1).2.1 = (s.2.1 t).2.1 := by
      unfold tpf
      rw [ho.1, show (sG s gg).1 - 1 = t by omega]
      exact ho.2.2.2.1 t (by show t < s.1; omega)
    show Inv W (nx (MM t) (UU t) ((tpf s1).2.1 + 1) s1)
    rw [this]
    exact on ho b1 b2 b3 h64
  by_cases c1 : x.1 = 1
  · rw [if_pos c1]
    unfold cOp at n3
    rw [if_neg (by omega), if_pos c1] at n3
    exact mend_g h' hk' ha hr ht' hV n3
  rw [if_neg c1]
  by_cases c45 : x.1 = 45
  · rw [if_pos c45]
    unfold cOp at n3
    rw [if_neg (by omega), if_neg (by omega), if_neg (by omega), if_neg (by omega), if_neg (by omega), if_neg (by omega), if_neg (by omega), if_neg (by omega), if_neg (by omega), if_neg (by omega), if_neg (by omega), if_neg (by omega), if_neg (by omega), if_neg (by omega), if_pos c45] at n3
    obtain ⟨r, b1, n3⟩ := eb_ok n3
    obtain ⟨d1, d2⟩ := tkT_i b1
    obtain ⟨v, k, k1, -⟩ := one_n h' ht' d1 d2 (by omega)
    rw [k1]
    exact Okr.re rfl he
  rw [if_neg c45]
  by_cases c2 : x.1 = 2
  · rw [if_pos c2]
    unfold cOp at n3
    rw [if_neg (by omega), if_neg (by omega), if_pos c2] at n3
    obtain ⟨_, b1, n3⟩ := eb_ok n3
    cases n3
    obtain ⟨m1, m2⟩ := n4 (by omega) (by omega)
    have b1 : SS t = [] := by simpa using nee_i b1
    exact on (OpG.id h') (gx.br (by omega)) (by rw [m1, b1]) m2 h64
  rw [if_neg c2]
  by_cases c5 : x.1 < 5 ∧ 2 < x.1
  · rw [if_pos c5]
    unfold cOp at n3
    rw [if_neg (by omega), if_neg (by omega), if_neg (by omega), if_pos c5.1] at n3
    obtain ⟨r, b1, n3⟩ := eb_ok n3
    obtain ⟨_, b2, n3⟩ := eb_ok n3
    cases n3
    obtain ⟨d1, d2⟩ := tkT_i b1
    obtain ⟨v, k, k1, k2, k3, k4⟩ := one_n h' ht' d1 d2 (by omega)
    rw [k1]
    simp only
    refine Okr.re rfl ?_
    have b2 : r.2 = [] := by simpa using nee_i b2
    obtain ⟨m1, m2⟩ := n4 (by omega) (by omega)
    obtain ⟨m3, m4, m5⟩ := n5 (by omega)
    have op := OpG.sk h' ht' k3 k4
    rw [e0']
    show Inv W (nx (MM t) (UU t) (if (v.2 == 1) == (x.1 == 3) then x.2.1 else (s.2.1 t).2.1 + 1) (sK (sG s gg) k))
    split
    · exact on op (gx.br (by omega)) (by rw [m1, b2]) m2 h64
    · exact on op m3 m4 m5 h64
  rw [if_neg c5]
  by_cases c23 : x.1 = 23
  · rw [if_pos c23]
    have hcc : cCall (MM t) (UU t) (lty (UU t)) x.2.1 (SS t, LL t) = .ok d := by
      unfold cOp at n3
      rw [if_neg (by omega), if_neg (by omega), if_neg (by omega), if_neg (by omega), if_neg (by omega), if_neg (by omega), if_neg (by omega), if_neg (by omega), if_neg (by omega), if_neg (by omega), if_neg (by omega), if_neg (by omega), if_pos c23] at n3
      exact n3
    obtain ⟨m3, m4, m5⟩ := n5 (by omega)
    by_cases own : x.2.1 < (MM t).2.2.2.2.2.length
    · rw [if_pos own]
      have hu : (MM t).2.2.2.2.2[x.2.1]? = some (MM t).2.2.2.2.2[x.2.1] := List.getElem?_eq_getElem own
      generalize (MM t).2.2.2.2.2[x.2.1] = u' at hu
      rw [e0']
      exact mcall_g h' hk' ha hr ht' hW (G := ((MM t).1, x.2.1)) hw hu a0 (by rw [fgs_u hu]) (by rw [fls_u hu]; rfl) (by rw [fls_u hu]; rfl) hcc m3 m4 m5 h64
    · rw [if_neg own]
      have hfu := gx.fu c23
      have hci : x.2.1 - (MM t).2.2.2.2.2.length < (MM t).2.2.2.1.length := by omega
      have hcg : (MM t).2.2.2.1[x.2.1 - (MM t).2.2.2.2.2.length]? = some (MM t).2.2.2.1[x.2.1 - (MM t).2.2.2.2.2.length] := List.getElem?_eq_getElem hci
      generalize (MM t).2.2.2.1[x.2.1 - (MM t).2.2.2.2.2.length] = c at hcg
      have hlc := w6 c (List.mem_of_getElem? hcg)
      obtain ⟨g1, g2, g3⟩ := fls_f hcg own
      rw [hcg]
      simp only
      by_cases c0 : c.1 = 0
      · rw [if_pos c0] at hlc ⊢
        obtain ⟨l1, l2, l3⟩ := hlc
        exact nxt (by omega) (oCoi_g h' ht' hV hW.1 (by rw [g1]; exact l2) (by rw [g2]; exact l3) l1 hcc)
      · rw [if_neg c0] at hlc ⊢
        obtain ⟨m', u', l1, l2, l3, l4, l5⟩ := hlc
        refine Okr.ask hV h' (fun z => absurd z (by show (2 : Nat) ≠ 3; omega)) fun e s1 y q1 q2 q3 q4 _ _ => ?_
        have ht1 : t + 1 = s1.1 := by rw [q2]; exact ht'
        have e1 : tpf s1 = s.2.1 t := by
          unfold tpf
          rw [q2, q3, show (sG s gg).1 - 1 = t by omega]
          rfl
        rw [e1]
        refine mcall_g (KK := KK) (SJ := SJ) q1 (fun j hj => (hk j (by rw [q2] at hj; exact hj)).a q3) (fun j hj => ?_) (fun j hj => ?_) ht1 hW (G := (c.1, c.2.1)) l1 l2 c0 (by rw [g3]; exact l3) (by rw [g1]; exact l4) (by rw [g2]; exact l5) hcc m3 m4 m5 h64
        · rw [q2] at hj ⊢
          rw [q3]
          exact ha j hj
        · rw [q2] at hj
          obtain ⟨g', q', f1, f2, f3⟩ := hr j hj
          refine ⟨g', q', f1, f2, fun a z1 z2 => ?_⟩
          obtain ⟨y, y1, y2, y3⟩ := f3 a z1 z2
          exact ⟨y, y1, y2, y3.m q4 (by have : j + 1 < s.1 := hj; show j < s.1; omega) rfl⟩
  rw [if_neg c23]
  exact nxt (by omega) (mop_g h' ht' (hk' t (by show t < s.1; omega)) hw w3 w2 gu hV gx (by omega) n3)
