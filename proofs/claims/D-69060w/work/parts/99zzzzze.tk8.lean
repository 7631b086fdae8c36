/-! the twin's machine: values aside, numbers -/
def clr (o : Lc) : Lc := fun p => if p.1 = 5 then none else o p
def tnO : Fo → Fo
  | .leaf => .leaf
  | .inner k x u c r => .inner k (tn k x) u (tnO c) (tnO r)
theorem fer_tn : ∀ c : LF, fer (tnF c) = tnO (fer c)
  | .leaf => rfl
  | .inner k x u c r => by
    show Std.DTreeMap.Internal.Impl.inner k (tn k x.2) u (fer (tnF c)) (fer (tnF r)) = .inner k (tn k x.2) u (tnO (fer c)) (tnO (fer r))
    rw [fer_tn c, fer_tn r]
/-- alike to the one as to the other -/
def TEQ (a b : VL) : Prop := veq a.1 b.1 (tn a.1 a.2.1) (tn b.1 b.2.1) (tnO a.2.2) (tnO b.2.2) = vsm a.1 b.1 a.2.1 b.2.1 a.2.2 b.2.2
/-- the twin's helpers -/
def TCY (h : AH) (A : Nat) : Prop := ∃ w a b r D, (h.R 2833 A = some w ∧ SW h w a b r) ∧ h.R 2834 A = some D ∧ SMd h D
theorem TCY.fs {l : List Nat} {h h' : AH} {A : Nat} (q : Fq (FS l) h h') (hl : [2833, 2834, 3200, 3201, 3202, 3328, 3330, 3331].all (fun f => !(l.contains f)) = true) (t : TCY h A) : TCY h' A := by
  obtain ⟨w, a, b, r, D, ⟨t1, t2⟩, t3, t4⟩ := t
  exact ⟨w, a, b, r, D, ⟨by rw [q.1.R (FS.no hl _ _ rfl)]; exact t1, t2.fr q.1 ⟨FS.no hl _ _ rfl, FS.no hl _ _ rfl, FS.no hl _ _ rfl⟩⟩, by rw [q.1.R (FS.no hl _ _ rfl)]; exact t3, ⟨q.1.tag t4.1.1, by rw [q.1.R (FS.no hl _ _ rfl)]; exact t4.1.2.1, by rw [q.1.R (FS.no hl _ _ rfl)]; exact t4.1.2.2.1, by rw [q.1.R (FS.no hl _ _ rfl)]; exact t4.1.2.2.2⟩, q.1.tag t4.2.1, q.1.tag t4.2.2.1, q.1.tag t4.2.2.2⟩
section
variable {G : Gt} {d : Nat} {h h' : AH} {o o' : Lc} {tx UX at' : Nat → Nat} {A n n' lim : Nat} {snd : Int64} {s : Ms} {K : Outcome → AH → Prop}
theorem T5.clr : T5 (clr o) := fun a b c => if_pos rfl
theorem TH.sub {T : Nat} (v : TH h T n o) (ho : ∀ p, o' p = none ∨ o' p = o p) : TH h T n o' := by
  obtain ⟨v1, v4, v5⟩ := v
  have e : ∀ p x, o' p = some x → o p = some x := fun p x hx => by
    rcases ho p with z | z
    · rw [z] at hx; cases hx
    · rw [← z]; exact hx
  exact ⟨v1, ⟨fun p x hx => v4.1 p x (e p x hx), fun u p c x hu hc hx => v4.2 u p c x hu (e u c hc) (e p x hx)⟩, fun p x hx => v5 p x (e p x hx)⟩
theorem TK.cl (k : TK h A tx UX at' o n s) : TK h A tx UX at' (clr o) n s := k.asd (Fq.refl h) (k.1.2.sub fun p => by
  unfold clr
  by_cases c : p.1 = 5
  · rw [if_pos c]; exact Or.inl rfl
  · rw [if_neg c]; exact Or.inr rfl) (fun p hp => if_neg hp)
/-- what is told of an owned value -/
theorem TK.rd {p : Sl} {y : LV} (k : TK h A tx UX at' o n s) (hy : o p = some y) : IX (nI y.1) 24576 y.1 ∧ h.EI 1633 (tx 0 + 1) y.1 = nI y.2.1 ∧ h.EJ 1651 (tx 0 + 2) y.1 = (tn y.2.1 y.2.2.1).1 ∧ h.EJ 1667 (tx 0 + 3) y.1 = (tn y.2.1 y.2.2.1).2 ∧ TVL h (tx 0) y ∧ y.1 < n := by
  obtain ⟨⟨-, sz, n24⟩, -, v5⟩ := k.1.2
  obtain ⟨tv, ad, -⟩ := v5 p y hy
  have yl := ad y.1 (adr_1 y)
  exact ⟨IX.mk (by omega) (by omega), tv.2.1, tv.2.2.1, tv.2.2.2.1, tv, yl⟩
theorem tn_6 {k : Nat} {x : Int64 × Int64} (h : k ≠ 6) : tn k x = x := if_neg h
theorem tkmk_ok {kd : Nat} {x y : Int64} (k : TK h A tx UX at' o n s) (t5 : T5 o) (h1 : 1 ≤ s.1) (h64 : (stk s).length < 64) (hn : n < 24576) (hk : kd < 6) (hd : 2 ≤ d) (kk : ∀ h' o', Fq (FS twF) h h' → TK h' A tx UX at' o' (n + 1) (mpu s (vI kd x y)) → T5 o' → K (.returned none) h') : MW G d e_X23_make [.ref A, .int (nI kd), .long x, .long y] h K := by
  have := tkmake_ok (G := G) (d := d) (K := K) (kd := kd) (x := (x, y)) k h1 h64 (t5 0 0 0) hn (by omega) hd (fun h' q k' => kk h' _ q k' (T5.mk1 t5 (by show (1 : Nat) ≠ 5; decide)))
  rw [tn_6 (by omega)] at this
  exact this
theorem tkend_ok {oc : Nat} {c : Int64} (k : TK h A tx UX at' o n s) (kk : ∀ h', Fq (FS twF) h h' → TKX h' A oc c (gas s) → K (.returned none) h') : MW G d e_X23_end [.ref A, .int (nI oc), .long c] h K :=
  mEnd_ok k.t0 k.2.1.1 (fun h' q e1 e2 => kk h' (twq q (by decide)) ⟨e1, e2, by rw [q.1.I (FS.n rfl)]; exact k.2.1.2.1⟩)
theorem bitsOf_ok {kd : Nat} (hk : kd < 128) (kk : K (.returned (some (.int (nI (mbits kd))))) h) : MW G d e_X23_bitsOf [.int (nI kd)] h K := by
  refine st_X23_bitsOf fun X oo hG hD _ => ?_
  have ev : ∀ j, j < 100 → (nI kd = nI j ↔ kd = j) := fun j hj => nI_eq (by omega) (by omega)
  unfold mbits at kk
  by_cases c2 : kd = 2
  · rw [if_pos c2] at kk
    refine k_X23_bitsOf_0 oo (fun q => absurd ((ev 2 (by omega)).mpr c2) q) (fun _ => ?_)
    refine k_X23_bitsOf_5 oo ?_
    exact k_X23_bitsOf_23 oo kk
  · rw [if_neg c2] at kk
    refine k_X23_bitsOf_0 oo (fun _ => ?_) (fun q => absurd ((ev 2 (by omega)).mp q) c2)
    by_cases c4 : kd = 4
    · rw [if_pos c4] at kk
      refine k_X23_bitsOf_10 oo (fun q => absurd ((ev 4 (by omega)).mpr c4) q) (fun _ => ?_)
      refine k_X23_bitsOf_15 oo ?_
      exact k_X23_bitsOf_23 oo kk
    · rw [if_neg c4] at kk
      refine k_X23_bitsOf_10 oo (fun _ => ?_) (fun q => absurd ((ev 4 (by omega)).mp q) c4)
      refine k_X23_bitsOf_21 oo ?_
      exact k_X23_bitsOf_23 oo kk
/-- op 42 .. 44 -/
theorem tconv_ok {op : Nat} (k : TK h A tx UX at' o n s) (t5 : T5 o) (cx : TCX h A snd lim) (h1 : 1 ≤ s.1) (hN : n + 1 ≤ gas s + 64 * (ens s).length + 8) (hg : gas s ≤ lim) (hop : 41 < op ∧ op < 45) (hne : oNum lim op s ≠ none) (hd : 10 ≤ d) (kk : RZT K h A tx UX at' (oNum lim op s)) : MW G d e_X23_convert [.ref A, .int (nI (op - 40))] h K := by
  refine st_X23_convert fun X oo hG hD _ => ?_
  subst hG; subst hD
  have t0 := k.t0
  have l2 := cx.2.2
  have le24 := k.2.2.1.2.1
  obtain ⟨-, -, e3, -⟩ := k.hgt h1
  unfold oNum at kk hne
  rw [if_neg (by omega), if_neg (by omega), if_pos (by omega)] at kk hne
  cases hs : stk s with
  | nil => rw [hs] at hne; exact absurd rfl hne
  | cons x t =>
    rw [hs] at kk hne e3
    have e3 : t.length + 1 ≤ 64 := e3
    cases x with
    | inr r => exact absurd rfl hne
    | inl v =>
      simp only at kk hne
      obtain ⟨hm, he⟩ := mre_n hne
      rw [he] at kk
      have hm := of_decide_eq_true hm
      refine k_X23_convert_0 oo ?_
      refine tktv_ok (sl := 0) k h1 hs (t5 0 0 0) (by omega) (fun h2 y q2 hy k2 _ => ?_)
      have t02 := k2.t0
      obtain ⟨ix, r1, r2, r3, tv, yl⟩ := k2.rd (p := (5, 0, 0, 0)) uO_s
      have y1 : y.2.1 = v.1 := by rw [← hy]; rfl
      have y2 : y.2.2.1 = v.2.1 := by rw [← hy]; rfl
      rw [tn_6 (by omega), y2] at r2 r3
      have rT := k2.1.1.1.2
      obtain ⟨⟨s1, s2, s3, s4, s5, s6⟩, s7, s8, s9, s10, s11⟩ := id k2.1.2.1.1
      refine k_X23_convert_5 oo ?_
      refine goes_ok t02 k2.2.1.1 ?_
      refine k_X23_convert_10 oo (fun _ => ?_) (fun q => absurd q (by decide))
      refine k_X23_convert_14 (r2 := rT) (r5 := s3) (r11 := r2) (r13 := rT) (r16 := s4) (r22 := r3) oo ?_
      refine bitsOf_ok (by omega) ?_
      refine k_X23_convert_36 oo ?_
      refine isOf_ok (by unfold mbits; split <;> (try split) <;> simp) ?_
      unfold mnd at kk
      by_cases c : w128 v.2.1.1 v.2.1.2 < 2 ^ mbits (op - 40)
      · rw [if_pos (decide_eq_true c)] at kk
        rw [decide_eq_true c]
        refine k_X23_convert_39 oo (fun q => absurd q (by decide)) (fun _ => ?_)
        refine k_X23_convert_42 (r2 := rT) (r5 := s3) (r11 := r2) (r13 := rT) (r16 := s4) (r22 := r3) oo ?_
        refine tkmk_ok k2.cl T5.clr h1 (by rw [stk_K]; omega) (by omega) (by omega) (by omega) (fun h3 o3 q3 k3 t3 => ?_)
        refine k_X23_convert_65 oo ?_
        refine k_X23_convert_74 oo ?_
        rw [mpu_K] at k3
        exact kk h3 o3 _ ((twq q2 (by decide)).trans q3) k3 t3 hN
      · rw [if_neg (by simpa using c)] at kk
        rw [decide_eq_false c]
        refine k_X23_convert_39 oo (fun _ => ?_) (fun q => absurd rfl q)
        refine k_X23_convert_68 oo ?_
        refine tkend_ok k2 (fun h3 q3 x3 => ?_)
        refine k_X23_convert_74 oo ?_
        exact kk h3 ((twq q2 (by decide)).trans q3) x3
/-- op 32, 33 -/
theorem tshift_ok {op : Nat} (k : TK h A tx UX at' o n s) (t5 : T5 o) (cx : TCX h A snd lim) (cy : TCY h A) (h1 : 1 ≤ s.1) (hN : n + 1 ≤ gas s + 64 * (ens s).length + 8) (hg : gas s ≤ lim) (hop : op = 32 ∨ op = 33) (vw : ∀ v, (Sum.inl v : It) ∈ stk s → VW v) (hne : oNum lim op s ≠ none) (hd : 10 ≤ d) (kk : RZT K h A tx UX at' (oNum lim op s)) : MW G d e_X23_shift [.ref A, .int (bI (op == 32))] h K := by
  refine st_X23_shift fun X oo hG hD _ => ?_
  subst hG; subst hD
  have t0 := k.t0
  have l2 := cx.2.2
  have le24 := k.2.2.1.2.1
  obtain ⟨-, -, e3, -⟩ := k.hgt h1
  unfold oNum at kk hne
  rw [if_neg (by omega), if_neg (by omega), if_neg (by omega)] at kk hne
  cases hs : stk s with
  | nil => rw [hs] at hne; exact absurd rfl hne
  | cons x t =>
    rw [hs] at kk hne e3
    cases x with
    | inr r => exact absurd rfl hne
    | inl b =>
      cases t with
      | nil => exact absurd rfl hne
      | cons x t =>
        have e3 : t.length + 1 + 1 ≤ 64 := e3
        cases x with
        | inr r => exact absurd rfl hne
        | inl a =>
          simp only at kk hne
          rw [if_neg (by omega), if_neg (by omega), if_pos (by omega)] at kk hne
          obtain ⟨hm, he⟩ := mre_n hne
          rw [he] at kk
          rw [Bool.and_eq_true] at hm
          have hb2 : b.1 = 2 := by simpa using hm.1
          have ha := of_decide_eq_true hm.2
          have vb := (vw b (by rw [hs]; simp)).2.1 (by omega)
          have ub : un b.2.1.2 < 256 := vb.1.2.2 hb2
          refine k_X23_shift_0 oo ?_
          have tk := tktk_ok (G := X.G) (d := X.d - 1) (sl := 0) (K := kin (V X K 5) K [.ref A, .int (bI (op == 32)), nov, nov, nov] []) k h1 hs (t5 0 0 0) (by omega) (by omega) (fun h2 yb q2 hyb k2 => ?_)
          · rw [hb2] at tk; exact tk
          have t02 := k2.t0
          refine k_X23_shift_5 oo ?_
          refine tktv_ok (sl := 1) k2 h1 stk_K (by rw [uO_n (by decide), uO_n (by intro e; cases e)]; exact t5 0 1 0) (by omega) (fun h3 ya q3 hya k3 _ => ?_)
          have t03 := k3.t0
          obtain ⟨ixa, a1, a2, a3, tva, yal⟩ := k3.rd (p := (5, 0, 1, 0)) uO_s
          obtain ⟨ixb, b1, b2, b3, tvb, ybl⟩ := k3.rd (p := (5, 0, 0, 0)) (by rw [uO_n (by decide), uO_n (by intro e; cases e), uO_s])
          have ea : ya.2.1 = a.1 := by rw [← hya]; rfl
          have ea2 : ya.2.2.1 = a.2.1 := by rw [← hya]; rfl
          have eb : yb.2.1 = b.1 := by rw [← hyb]; rfl
          have eb2 : yb.2.2.1 = b.2.1 := by rw [← hyb]; rfl
          rw [ea] at a1
          rw [tn_6 (by omega), ea2] at a2 a3
          rw [tn_6 (by omega), eb2] at b3
          have rT := k3.1.1.1.2
          obtain ⟨⟨s1, s2, s3, s4, s5, s6⟩, s7, s8, s9, s10, s11⟩ := id k3.1.2.1.1
          obtain ⟨w, wa, wb, wr, D, ⟨rw', sw⟩, -⟩ := (cy.fs q2 (by decide)).fs q3 (by decide)
          refine k_X23_shift_11 oo ?_
          refine goes_ok t03 k3.2.1.1 ?_
          refine k_X23_shift_16 oo (fun _ => ?_) (fun q => absurd q (by decide))
          refine k_X23_shift_20 (r2 := rT) (r5 := s2) (r11 := a1) oo ?_
          refine bitsOf_ok (by omega) ?_
          have mb : mbits a.1 ≤ 128 := by unfold mbits; split <;> (try split) <;> omega
          have lb : b.2.1.2 = lN (un b.2.1.2) := (lN_un _).symm
          unfold mnd at kk
          by_cases c : un b.2.1.2 < mbits a.1
          · rw [if_pos (decide_eq_true c)] at kk
            refine k_X23_shift_32 (r2 := rT) (r5 := s4) (r11 := b3) oo (fun _ => ?_) (fun q => absurd (by rw [lb, nI_64 (by omega)]; exact (lN_ltI (by omega) (by omega)).mpr c) q)
            have b32 : b.2.1.2.toInt32 = nI (un b.2.1.2) := by
              conv => lhs; rw [lb]
              exact lN_32 _
            have tw := sw.1
            refine k_X23_shift_57 (r2 := rw') (r4 := rT) (r7 := s3) (r13 := a2) (r15 := rT) (r18 := s4) (r24 := a3) (r26 := rT) (r29 := s4) (r35 := b3) oo ?_
            rw [b32]
            refine mshift_ok (k := a.1) tw (by omega) (by omega) (fun h4 H2 L2 q4 hw j1 j2 => ?_)
            have k4 : TK h4 A tx UX at' _ n _ := k3.fr q4.1 (FS.no (by decide))
            have t04 := k4.t0
            have rT4 := k4.1.1.1.2
            obtain ⟨⟨z1, z2, z3, z4, z5, z6⟩, z7, z8, z9, z10, z11⟩ := id k4.1.2.1.1
            obtain ⟨-, a4, -⟩ := k4.rd (p := (5, 0, 1, 0)) uO_s
            rw [ea] at a4
            have rw4 : h4.R 2833 A = some w := by rw [q4.1.R (FS.n (by decide))]; exact rw'
            have tw4 : h4.tag w = some (25, 0) := q4.1.tag tw
            refine k_X23_shift_95 (r2 := rT4) (r5 := z2) (r11 := a4) (r13 := rw4) (r16 := j1) (r18 := rw4) (r21 := j2) oo ?_
            refine tkmk_ok k4.cl T5.clr h1 (by rw [stk_K]; omega) (by omega) (by omega) (by omega) (fun h5 o5 q5 k5 t55 => ?_)
            refine k_X23_shift_122 oo ?_
            rw [mpu_K, sK_K] at k5
            have ew : vI a.1 (wcutH a.1 H2) (wcutL a.1 L2) = .inl (a.1, msh op a.1 (un b.2.1.2) a.2.1, .leaf) := by
              have hw2 : w128 H2 L2 = (if op = 32 then (w128 a.2.1.1 a.2.1.2 * 2 ^ un b.2.1.2) % 340282366920938463463374607431768211456 else w128 a.2.1.1 a.2.1.2 / 2 ^ un b.2.1.2) := by
                rw [hw]
                by_cases c : op = 32
                · rw [if_pos c, if_pos (by simpa using c)]
                · rw [if_neg c, if_neg (by simpa using c)]
              have e1 : H2 = lN (w128 H2 L2 / 18446744073709551616) := by
                unfold w128
                have := un_lt L2
                rw [show (un H2 * 18446744073709551616 + un L2) / 18446744073709551616 = un H2 by omega, lN_un]
              have e2 : L2 = lN (w128 H2 L2 % 18446744073709551616) := by
                unfold w128
                have := un_lt L2
                rw [show (un H2 * 18446744073709551616 + un L2) % 18446744073709551616 = un L2 by omega, lN_un]
              unfold msh vI
              rw [← hw2, ← e1, ← e2]
            rw [ew] at k5
            exact kk h5 o5 _ ((twq q2 (by decide)).trans ((twq q3 (by decide)).trans ((twq q4 (by decide)).trans q5))) k5 t55 hN
          · rw [if_neg (by simpa using c)] at kk
            refine k_X23_shift_32 (r2 := rT) (r5 := s4) (r11 := b3) oo (fun q => absurd (by rw [lb, nI_64 (by omega)] at q; exact (lN_ltI (by omega) (by omega)).mp q) c) (fun _ => ?_)
            refine k_X23_shift_50 oo ?_
            refine tkend_ok k3 (fun h4 q4 x4 => ?_)
            refine k_X23_shift_56 oo ?_
            exact kk h4 ((twq q2 (by decide)).trans ((twq q3 (by decide)).trans q4)) x4
end
