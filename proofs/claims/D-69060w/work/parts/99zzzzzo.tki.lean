/-! the twin's machine: coins -/
theorem v_isnp {E : Et} {X : Xt} (o : OK E X) {K : Outcome → AH → Prop} {pc j : Nat} {L r : List Value} {h : AH} {i : Fin 4} {x y : Int32} {L2 : List Value} (hd : decode E.cc pc = .ok (.istore_n i, 1)) (hi : Nat.ble (i.val + 1) L.length = true) (hj : j + 1 = i.val ∧ L[j]? = some (.int y)) (hl : L.set i.val (.int x) = L2) (H : V X K (pc + 1) L2 r h) : V X K pc L (.int x :: r) h := by
  subst hl
  intro H' locs cells slots ls h1 h2 h3 h4 h5
  refine lv_istore_n o.1.1 o.1.2.1 hd rfl h2.1.1 (Nat.le_of_ble_eq_true hi) rfl (fun ls' h' => H H' locs cells slots ls' h1 (h2.st1p rfl (fun j' w e1 e2 => ?_) h') h3 h4 h5)
  have : j' = j := by omega
  subst this
  rw [hj.2] at e2; cases e2; exact (show (1 : Nat) ≠ 2 by decide)
theorem kco73 {X : Xt} (o : OK e_X23_coin X) {K : Outcome → AH → Prop} {h : AH} {s0 l2 : Int32} {l0 : Nat} {l1 l3 l4 l5 l6 : Value} (H : MW X.G (X.d - 1) e_X23_goesOn [.ref l0] h (kin (V X K 78) K [.ref l0, l1, .int l2, .int s0, l4, l5, l6] [])) (hd : 1 ≤ X.d) (t1 : h.tag l0 = some (22, 0)) : V X K 73 [.ref l0, l1, .int l2, l3, l4, l5, l6] [.int s0] h :=
  have hs : gb cX23_coin 73 = some 62 ∧ gb cX23_coin 74 = some 42 ∧ gb cX23_coin 75 = some 182 ∧ gb cX23_coin 76 = some 1 ∧ gb cX23_coin 77 = some 1 ∧ True := sg_of (l := [62, 42, 182, 1, 1]) (by decide +kernel)
  v_isnp (j := 2) (y := l2) (L2 := [.ref l0, l1, .int l2, .int s0, l4, l5, l6]) o (dc_62 hs.1) rfl ⟨rfl, rfl⟩ rfl (v_aln o (dc_42 hs.2.1) rfl rfl (v_invv (as := []) (r := []) (r0 := (RX23, TX23, 78)) o (dc_182 ⟨hs.2.2.1, hs.2.2.2.1, hs.2.2.2.2.1⟩) mk_X23_goesOn (ml_X23_257 _ rfl) rfl (by decide) q2964 qs146 rfl hd rfl rfl rfl rfl t1 H))
theorem kco217 {X : Xt} (o : OK e_X23_coin X) {K : Outcome → AH → Prop} {h : AH} {s0 l2 : Int32} {l0 : Nat} {l1 l3 l4 l5 l6 : Value} (H : MW X.G (X.d - 1) e_X23_spend [.ref l0, .int (nI 5)] h (kin (V X K 223) K [.ref l0, l1, .int l2, .int s0, l4, l5, l6] [])) (hd : 1 ≤ X.d) (t1 : h.tag l0 = some (22, 0)) : V X K 217 [.ref l0, l1, .int l2, l3, l4, l5, l6] [.int s0] h :=
  have hs : gb cX23_coin 217 = some 62 ∧ gb cX23_coin 218 = some 42 ∧ gb cX23_coin 219 = some 8 ∧ gb cX23_coin 220 = some 182 ∧ gb cX23_coin 221 = some 1 ∧ gb cX23_coin 222 = some 97 ∧ True := sg_of (l := [62, 42, 8, 182, 1, 97]) (by decide +kernel)
  v_isnp (j := 2) (y := l2) (L2 := [.ref l0, l1, .int l2, .int s0, l4, l5, l6]) o (dc_62 hs.1) rfl ⟨rfl, rfl⟩ rfl (v_aln o (dc_42 hs.2.1) rfl rfl (v_iconst (x := (nI 5)) o (dc_8 hs.2.2.1) rfl (v_invv (as := [.int (nI 5)]) (r := []) (r0 := (RX23, TX23, 78)) o (dc_182 ⟨hs.2.2.2.1, hs.2.2.2.2.1, hs.2.2.2.2.2.1⟩) mk_X23_spend (ml_X23_353 _ rfl) rfl (by decide) q2960 qs145 rfl hd rfl rfl rfl rfl t1 H)))
section
variable {G : Gt} {d : Nat} {h h' : AH} {o o' : Lc} {tx ax UX at' : Nat → Nat} {A n n' lim : Nat} {snd : Int64} {s : Ms} {K : Outcome → AH → Prop} {t : Tst} {env : Pc → Cn}
theorem tbel_ok {a b : Int64} (kk : K (.returned (some (.int (bI (decide (un a < un b)))))) h) : MW G d e_X23_isBelow [.long a, .long b] h K := by
  refine st_X23_isBelow fun X oo hG hD _ => ?_
  by_cases c : un a < un b
  · rw [decide_eq_true c] at kk
    refine k_X23_isBelow_0 oo (fun q => absurd (min_lt.mpr c) (Int64.not_lt.mpr q)) (fun _ => ?_)
    refine k_X23_isBelow_14 oo ?_
    exact k_X23_isBelow_19 oo kk
  · rw [decide_eq_false c] at kk
    refine k_X23_isBelow_0 oo (fun _ => ?_) (fun q => absurd (Int64.not_lt.mp (fun z => c (min_lt.mp z))) q)
    refine k_X23_isBelow_18 oo ?_
    exact k_X23_isBelow_19 oo kk
theorem tkcoin_ok {x : Int64} (k : TK h A tx UX at' o n s) (t5 : T5 o) (h1 : 1 ≤ s.1) (h64 : (stk s).length < 64) (hn : n + 2 ≤ 24576) (hd : 3 ≤ d) (kk : ∀ h' o', Fq (FS twF) h h' → TK h' A tx UX at' o' (n + 2) (mpu s (vC x)) → T5 o' → K (.returned none) h') : MW G d e_X23_makeCoin [.ref A, .long x] h K := by
  refine st_X23_makeCoin fun X oo hG hD _ => ?_
  subst hG; subst hD
  have t0 := k.t0
  have rT := k.1.1.1.2
  have tT := k.1.2.1.1.1.1
  refine k_X23_makeCoin_0 (r2 := rT) oo ?_
  have mk := thmake_ok (G := X.G) (d := X.d - 1) (K := kin (V X K 11) K [.ref A, .long x, nov, nov] []) (p := (5, 0, 0, 0)) (kd := 6) (x := (0, 0)) k.1.2 (t5 0 0 0) (by omega) (by omega) (fun h2 q2 th2 => ?_)
  · exact mk
  have t02 := q2.1.tag t0
  have rT2 : h2.R 2831 A = some (tx 0) := by rw [q2.1.R (FS.n (by decide))]; exact rT
  have tT2 := th2.1.1.1.1
  refine k_X23_makeCoin_11 (r2 := rT2) (r4 := rT2) oo ?_
  have mk2 := thmake_ok (G := X.G) (d := X.d - 1) (K := kin (V X K 27) K [.ref A, .long x, nov, .int (nI n)] [.int (nI n), .ref (tx 0)]) (p := (5, 0, 1, 0)) (kd := 3) (x := (0, x)) th2 (by rw [uO_n (by decide)]; exact t5 0 1 0) (by omega) (by omega) (fun h3 q3 th3 => ?_)
  · exact mk2
  have tT3 := th3.1.1.1.1
  refine k_X23_makeCoin_27 oo ?_
  refine thadd_ok (p := (5, 0, 0, 0)) (r := (5, 0, 1, 0)) (pa := []) (x := (n, 6, (0, 0), .leaf)) (y := (n, 6, (0, 0), .leaf)) (w := (n + 1, 3, (0, x), .leaf)) th3 (by rw [uO_n (by decide), uO_s]) rfl uO_s (by decide) (fun h4 q4 th4 => ?_)
  have q24 : Fq (FS tFl) h h4 := q2.trans (q3.trans q4)
  have k4 := k.asd q24 th4 (fun p p5 => by rw [uO_n (fun e => p5 (by rw [e])), uO_n (fun e => p5 (by rw [e])), uO_n (fun e => p5 (by rw [e])), uO_n (fun e => p5 (by rw [e]))])
  have t04 := k4.t0
  refine k_X23_makeCoin_30 oo ?_
  refine tkpv_ok (y := (n, 6, (0, 0), lof [(n + 1, 3, (0, x), .leaf)])) (sl := 0) k4 h1 h64 uO_s (by omega) (fun h5 q5 k5 => ?_)
  refine k_X23_makeCoin_36 oo ?_
  refine kk h5 _ ((twq q24 (by decide)).trans (twq q5 (by decide))) k5 (fun a b c => ?_)
  rw [uO_n (by intro e; cases e)]
  by_cases e : ((5, a, b, c) : Sl) = (5, 0, 0, 0)
  · rw [e, uO_s]
  · rw [uO_n e, uO_n e]
    by_cases e2 : ((5, a, b, c) : Sl) = (5, 0, 1, 0)
    · rw [e2, uO_s]
    · rw [uO_n e2, uO_n e2, uO_n e]; exact t5 a b c
/-- a coin's number, as the twin reads it -/
def CNV (v : VL) : Prop := ∀ w, (flo v.2.2)[0]? = some w → w.1 = 3
theorem cn_rd {T : Nat} {y : LV} {v : VL} {x : Int64} (tv : TVL h T y) (hy : lvE y = v) (hv : cvl v = some x) (hc : CNV v) : v.1 = 6 ∧ ∃ b, h.EI 1680 (T + 4) y.1 = nI b ∧ b < 24576 ∧ h.EJ 1667 (T + 3) b = x := by
  unfold cvl at hv
  by_cases c : v.1 = 6
  · rw [if_pos c] at hv
    refine ⟨c, ?_⟩
    have ef : flo v.2.2 = (llo y.2.2.2).map lvE := by rw [← flo_fer, ← hy]; rfl
    cases hf : y.2.2.2 with
    | leaf => rw [ef, hf] at hv; cases hv
    | inner kd z u c0 r =>
      have e0 : (flo v.2.2)[0]? = some (kd, z.2, fer c0) := by rw [ef, hf]; rfl
      rw [e0] at hv
      have hv : z.2.2 = x := Option.some.inj hv
      have k3 : kd = 3 := hc _ e0
      have := tv.2.2.2.2
      rw [hf] at this
      obtain ⟨⟨p1, p2⟩, p3, p4, p5, p6, p7⟩ := this
      have p5 : h.EJ 1667 (T + 3) z.1 = (tn kd z.2).2 := p5
      exact ⟨z.1, p1, p2, by rw [p5, tn_6 (by omega), hv]⟩
  · rw [if_neg c] at hv; cases hv
end
