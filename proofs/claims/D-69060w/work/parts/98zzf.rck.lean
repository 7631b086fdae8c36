/-! a worker of the component's: reckoning -/
theorem lN_w {H L : Int64} : lN (w128 H L / 18446744073709551616) = H ∧ lN (w128 H L % 18446744073709551616) = L := by
  have h1 := un_lt H
  have h2 := un_lt L
  unfold w128
  rw [show (un H * 18446744073709551616 + un L) / 18446744073709551616 = un H by omega, show (un H * 18446744073709551616 + un L) % 18446744073709551616 = un L by omega]
  exact ⟨lN_un H, lN_un L⟩
theorem rkn_24 {a b c d : Int64} : rkn 24 a b c d = some (w128 a b + w128 c d) := by unfold rkn; rw [if_pos rfl]
theorem rkn_25 {a b c d : Int64} : rkn 25 a b c d = if w128 c d ≤ w128 a b then some (w128 a b - w128 c d) else none := by unfold rkn; rw [if_neg (by decide), if_pos rfl]
theorem rkn_26 {a b c d : Int64} : rkn 26 a b c d = some (w128 a b * w128 c d) := by unfold rkn; rw [if_neg (by decide), if_neg (by decide), if_pos rfl]
theorem rkn_z {op : Nat} {a b c d : Int64} (h : op = 27 ∨ op = 28) (hz : w128 c d = 0) : rkn op a b c d = none := by
  unfold rkn
  rw [if_neg (by omega), if_neg (by omega), if_neg (by omega), if_pos hz]
theorem rkn_27 {a b c d : Int64} (hz : ¬ w128 c d = 0) : rkn 27 a b c d = some (w128 (dv a b c d 128 (0, 0, 0, 0)).2.2.1 (dv a b c d 128 (0, 0, 0, 0)).2.2.2) := by
  unfold rkn
  rw [if_neg (by decide), if_neg (by decide), if_neg (by decide), if_neg hz, if_pos rfl]
theorem rkn_28 {a b c d : Int64} (hz : ¬ w128 c d = 0) : rkn 28 a b c d = some (w128 (dv a b c d 128 (0, 0, 0, 0)).1 (dv a b c d 128 (0, 0, 0, 0)).2.1) := by
  unfold rkn
  rw [if_neg (by decide), if_neg (by decide), if_neg (by decide), if_neg hz, if_neg (by decide)]
section
variable {G : Gt} {B d : Nat} {h : AH} {l : List Nat} {o : Lc} {wi W A q BA X tt lim SP t : Nat} {snd : Int64} {MA : Ma} {s : Ms} {K : Outcome → AH → Prop}
/-- what a reckoning is to give -/
def rck (op : Nat) (va vb : VL) (k : List It) (s : Ms) : Rz := if op < 29 then (match rkb (mbits va.1) (rkn op va.2.1.1 va.2.1.2 vb.2.1.1 vb.2.1.2) with
    | some x => mgo (sK s (vI va.1 x.1 x.2 :: k))
    | none => mst 2 1 s)
  else if op < 32 then mgo (sK s (vI va.1 (if op = 29 then va.2.1.1 &&& vb.2.1.1 else if op = 30 then va.2.1.1 ||| vb.2.1.1 else va.2.1.1 ^^^ vb.2.1.1) (if op = 29 then va.2.1.2 &&& vb.2.1.2 else if op = 30 then va.2.1.2 ||| vb.2.1.2 else va.2.1.2 ^^^ vb.2.1.2) :: k))
  else mnd (decide (un vb.2.1.2 < mbits va.1)) 1 s (mgo (sK s (.inl (va.1, msh op va.1 (un vb.2.1.2) va.2.1, .leaf) :: k)))
theorem rkb_y {bits : Nat} {N : Int64 × Int64} (h : w128 N.1 N.2 < 2 ^ bits) : rkb bits (some (w128 N.1 N.2)) = some N := by
  unfold rkb
  rw [Option.bind_some, if_pos h, lN_w.1, lN_w.2]
theorem rkb_x {bits n : Nat} (h : ¬ n < 2 ^ bits) : rkb bits (some n) = none := by
  unfold rkb
  rw [Option.bind_some, if_neg h]
theorem rck_y {op : Nat} {va vb : VL} {k : List It} {s : Ms} {N : Int64 × Int64} (hop : op < 29) (h : rkb (mbits va.1) (rkn op va.2.1.1 va.2.1.2 vb.2.1.1 vb.2.1.2) = some N) : rck op va vb k s = mgo (sK s (vI va.1 N.1 N.2 :: k)) := by
  unfold rck
  rw [if_pos hop, h]
theorem rck_x {op : Nat} {va vb : VL} {k : List It} {s : Ms} (hop : op < 29) (h : rkb (mbits va.1) (rkn op va.2.1.1 va.2.1.2 vb.2.1.1 vb.2.1.2) = none) : rck op va vb k s = mst 2 1 s := by
  unfold rck
  rw [if_pos hop, h]
theorem rck_num {op : Nat} {va vb : VL} {k : List It} {s : Ms} {N : Int64 × Int64} {b2 : Bool} {r : Option Nat} (hop : op < 29) (hv : 2 ≤ va.1 ∧ va.1 ≤ 4) (hr : rkn op va.2.1.1 va.2.1.2 vb.2.1.1 vb.2.1.2 = r) (n1 : b2 = false → r = some (w128 N.1 N.2)) (n2 : b2 = true → rkb (mbits va.1) r = none) : ((va.1 == 1 || (!b2 && wfit va.1 N.1 N.2)) = true → rck op va vb k s = mgo (sK s (vI va.1 N.1 N.2 :: k))) ∧ ((va.1 == 1 || (!b2 && wfit va.1 N.1 N.2)) = false → rck op va vb k s = mst 2 1 s) := by
  have ne1 : (va.1 == 1) = false := beq_eq_false_iff_ne.mpr (by omega)
  have e0 : (va.1 == 1 || (!b2 && wfit va.1 N.1 N.2)) = (!b2 && decide (w128 N.1 N.2 < 2 ^ mbits va.1)) := by rw [ne1, Bool.false_or, wfit_w hv]
  rw [e0]
  by_cases hb : b2 = true
  · have e1 := n2 hb
    rw [← hr] at e1
    refine ⟨fun z => ?_, fun _ => rck_x hop e1⟩
    rw [hb, Bool.not_true, Bool.false_and] at z
    exact absurd z Bool.false_ne_true
  · have hb : b2 = false := by
      cases b2 with
      | true => exact absurd rfl hb
      | false => rfl
    have e1 := n1 hb
    rw [hb, Bool.not_false, Bool.true_and]
    refine ⟨fun z => rck_y hop ?_, fun z => rck_x hop ?_⟩
    · rw [hr, e1]; exact rkb_y (of_decide_eq_true z)
    · rw [hr, e1]; exact rkb_x (of_decide_eq_false z)
theorem mbits_le (k : Nat) : mbits k ≤ 128 := by
  unfold mbits
  split
  · decide
  · split <;> decide
theorem rkb_big {k n : Nat} (hn : 2 ^ 128 ≤ n) : rkb (mbits k) (some n) = none := by
  unfold rkb
  rw [Option.bind_some]
  have : 2 ^ mbits k ≤ 2 ^ 128 := Nat.pow_le_pow_right (by decide) (mbits_le k)
  rw [if_neg (Nat.not_lt.mpr (Nat.le_trans this hn))]
theorem rng_fit {k : Nat} {x : Int64 × Int64} (hk : 1 ≤ k ∧ k ≤ 4) (h : rng k x) : (k == 1 || wfit k x.1 x.2) = true := by
  rcases (show k = 1 ∨ k = 2 ∨ k = 3 ∨ k = 4 by omega) with z | z | z | z
  · subst z; rfl
  · subst z
    have h1 : x.1 = 0 := h.1.resolve_left (by omega)
    have h2 := h.2.2 rfl
    unfold wfit
    rw [h1]
    show ((2 : Nat) == 1 || ((2 : Nat) == 4 || (un 0 == 0 && ((2 : Nat) == 3 || decide (un x.2 < 256))))) = true
    rw [decide_eq_true h2]; rfl
  · subst z
    have h1 : x.1 = 0 := h.1.resolve_left (by omega)
    unfold wfit
    rw [h1]; rfl
  · subst z; rfl
theorem creckon_ok {op : Nat} {va vb : VL} {k : List It} (H : OPR G B h A W q BA X tt snd lim SP wi MA l o s) (ho : 24 ≤ op ∧ op < 34) (hs : stk s = .inl vb :: .inl va :: k) (hA : va.2.2 = .leaf ∧ (1 ≤ va.1 ∧ va.1 ≤ 4) ∧ rng va.1 va.2.1) (hB : vb.2.2 = .leaf ∧ rng vb.1 vb.2.1) (h1 : op < 29 → 2 ≤ va.1) (h2 : op < 32 → vb.1 = va.1) (h3 : 32 ≤ op → vb.1 = 2 ∧ 2 ≤ va.1) (hd : 8 ≤ d) (kk : RZ K G B h A W q BA X tt snd lim SP wi MA o (rck op va vb k s)) : MW G d e_X1_reckon [.ref A, .int (nI op)] h K := by
  refine st_X1_reckon fun XX oo hG hD _ => ?_
  subst hG; subst hD
  have w := H.2.2.1
  obtain ⟨t, ht⟩ : ∃ t, t + 1 = s.1 := ⟨s.1 - 1, by have := w.1.2.2.1; omega⟩
  have est : s.1 - 1 = t := by omega
  have hf : h.R 28 A = some (Fa W t) := by have := H.2.2.2.1; rw [est] at this; exact this
  have t0 := H.1.1.1
  obtain ⟨y, y1, y2, y3⟩ := H.at ht (b := 0) (v := vb) (by rw [hs]; rfl)
  obtain ⟨x, x1, x2, x3⟩ := H.at ht (b := 1) (v := va) (by rw [hs]; rfl)
  have e0 : (stk s).length - 1 - 0 = k.length + 1 := by rw [hs]; simp
  have e1 : (stk s).length - 1 - 1 = k.length := by rw [hs]; simp
  rw [e0] at y1
  rw [e1] at x1
  have ev : va = (x.2.1, x.2.2.1, fer x.2.2.2) := x2.symm
  have eb' : vb = (y.2.1, y.2.2.1, fer y.2.2.2) := y2.symm
  obtain ⟨x4, x5, x6, x7, -⟩ := id (x3 : RV h x.1 x.2.1 x.2.2.1 x.2.2.2)
  obtain ⟨y4, y5, y6, y7, -⟩ := id (y3 : RV h y.1 y.2.1 y.2.2.1 y.2.2.2)
  have ekx : x.2.1 = va.1 := by rw [ev]
  have enx : x.2.2.1 = va.2.1 := by rw [ev]
  have eny : y.2.2.1 = vb.2.1 := by rw [eb']
  rw [ekx] at x5
  rw [enx] at x6 x7
  rw [eny] at y6 y7
  have hk4 := hA.2.1
  obtain ⟨WD, bb, r1, r2, r3⟩ := H.2.2.2.2.2
  have nw : ∀ g a, g ≠ 2304 → g ≠ 2305 → g ≠ 2306 → ¬ WW g a := fun g a h1 h2 h3 z => by
    rcases z with z | z | z
    · exact h1 z
    · exact h2 z
    · exact h3 z
  -- the end
  have fin : ∀ h2 (N : Int64 × Int64) b2, Fq WW h h2 → RW h2 WD N.1 N.2 b2 → ((va.1 == 1 || (!b2 && wfit va.1 N.1 N.2)) = true → RZ K XX.G B h A W q BA X tt snd lim SP wi MA o (mgo (sK s (vI va.1 N.1 N.2 :: k)))) → ((va.1 == 1 || (!b2 && wfit va.1 N.1 N.2)) = false → RZ K XX.G B h A W q BA X tt snd lim SP wi MA o (mst 2 1 s)) → V XX K 339 [.ref A, .int (nI op), .ref y.1, .ref x.1, .int (nI va.1)] [] h2 := fun h2 N b2 f2 w2 kg kb => by
    obtain ⟨u2, H2, a2⟩ := H.wd f2 fun WD' b' q1 _ _ => ⟨b2, by rw [r1] at q1; cases q1; exact w2.2.2.2⟩
    have t2 := H2.1.1.1
    have q1 : h2.R 27 A = some WD := by rw [f2.1.R (nw _ _ (by decide) (by decide) (by decide))]; exact r1
    have t3 := w2.1
    have go : ∀ e : Bool, e = (va.1 == 1 || (!b2 && wfit va.1 N.1 N.2)) → V XX K 364 [.ref A, .int (nI op), .ref y.1, .ref x.1, .int (nI va.1)] [.int (bI e), .ref A] h2 := fun e he => by
      refine k_X1_reckon_364 oo ?_
      refine cneed2_ok (b := e) (w := 1) H2.1 (by omega) (by omega) (fun z => ?_) (fun z => ?_)
      · have kg := kg (by rw [← he]; exact z)
        refine k_X1_reckon_368 oo ?_
        refine cdropTop_ok H2 hs (fun v hv => by cases hv; rw [hB.1]; simp [fdp]; omega) (by omega) fun h3 l3 o3 u3 H3 a3 f3 ok3 => ?_
        rw [est] at f3 ok3
        have t4 := H3.1.1.1
        have np : ∀ g a, g ≠ 2565 → g ≠ 10000 + 747 → ¬ (3712 ≤ g ∧ g ≤ 3718) → g ≠ 1280 → ¬ (PH (Fa W t) g a ∨ VQ g a) := fun g a g1 g2 g3 g4 z => by
          rcases z with z | z
          · rcases z.1 with z | z
            · exact g1 z
            · exact g2 z
          · rcases z with z | z
            · exact g3 z
            · exact g4 z
        have q3 : h3.R 27 A = some WD := by rw [f3.R (np _ _ (by decide) (by decide) (by decide) (by decide))]; exact q1
        have t5 := f3.tag t3
        have q4 : h3.J 2304 WD = N.1 := by rw [f3.J (np _ _ (by decide) (by decide) (by decide) (by decide))]; exact w2.2.1
        have q5 : h3.J 2305 WD = N.2 := by rw [f3.J (np _ _ (by decide) (by decide) (by decide) (by decide))]; exact w2.2.2.1
        have hx3 : o3 (1, wi, t, k.length) = some x := by
          rw [ok3 _ (fun e => by have := congrArg (fun p : Sl => p.2.2.2) e; have : k.length = k.length + 1 := this; omega)]; exact x1
        have rx3 : RV h3 x.1 x.2.1 x.2.2.1 x.2.2.2 := (H3.2.1.2.2.2 _ x hx3).1
        have t6 := rx3.1
        refine k_X1_reckon_372 oo ?_
        obtain ⟨o4, u4, H4, -⟩ := H3.num (kd := va.1) (n := N) ht stk_K hx3 (h' := (h3.sJ 3713 x.1 N.1).sJ 3714 x.1 N.2) (((Fq.refl h3).sJ (f := 3713) (a := x.1) ⟨Or.inr (Or.inl rfl), rfl⟩).sJ (f := 3714) (a := x.1) ⟨Or.inr (Or.inr rfl), rfl⟩) (by
          have := rx3.2.1
          rw [ekx] at this
          simpa [n_sI, z_sI, tag_sI, I_sI, J_sI, R_sI, EI_sI, EJ_sI, ER_sI, n_sJ, z_sJ, tag_sJ, I_sJ, J_sJ, R_sJ, EI_sJ, EJ_sJ, ER_sJ, n_sR, z_sR, tag_sR, I_sR, J_sR, R_sR, EI_sR, EJ_sR, ER_sR, n_sEI, z_sEI, tag_sEI, I_sEI, J_sEI, R_sEI, EI_sEI, EJ_sEI, ER_sEI, n_sEJ, z_sEJ, tag_sEJ, I_sEJ, J_sEJ, R_sEJ, EI_sEJ, EJ_sEJ, ER_sEJ, n_sER, z_sER, tag_sER, I_sER, J_sER, R_sER, EI_sER, EJ_sER, ER_sER, n_nw, z_nw, tag_nw, I_nw, J_nw, R_nw, EI_nw, EJ_nw, ER_nw] using this) (by simp [n_sI, z_sI, tag_sI, I_sI, J_sI, R_sI, EI_sI, EJ_sI, ER_sI, n_sJ, z_sJ, tag_sJ, I_sJ, J_sJ, R_sJ, EI_sJ, EJ_sJ, ER_sJ, n_sR, z_sR, tag_sR, I_sR, J_sR, R_sR, EI_sR, EJ_sR, ER_sR, n_sEI, z_sEI, tag_sEI, I_sEI, J_sEI, R_sEI, EI_sEI, EJ_sEI, ER_sEI, n_sEJ, z_sEJ, tag_sEJ, I_sEJ, J_sEJ, R_sEJ, EI_sEJ, EJ_sEJ, ER_sEJ, n_sER, z_sER, tag_sER, I_sER, J_sER, R_sER, EI_sER, EJ_sER, ER_sER, n_nw, z_nw, tag_nw, I_nw, J_nw, R_nw, EI_nw, EJ_nw, ER_nw]) (by simp [n_sI, z_sI, tag_sI, I_sI, J_sI, R_sI, EI_sI, EJ_sI, ER_sI, n_sJ, z_sJ, tag_sJ, I_sJ, J_sJ, R_sJ, EI_sJ, EJ_sJ, ER_sJ, n_sR, z_sR, tag_sR, I_sR, J_sR, R_sR, EI_sR, EJ_sR, ER_sR, n_sEI, z_sEI, tag_sEI, I_sEI, J_sEI, R_sEI, EI_sEI, EJ_sEI, ER_sEI, n_sEJ, z_sEJ, tag_sEJ, I_sEJ, J_sEJ, R_sEJ, EI_sEJ, EJ_sEJ, ER_sEJ, n_sER, z_sER, tag_sER, I_sER, J_sER, R_sER, EI_sER, EJ_sER, ER_sER, n_nw, z_nw, tag_nw, I_nw, J_nw, R_nw, EI_nw, EJ_nw, ER_nw])
        rw [stkK] at H4
        refine kg _ l3 o4 ((u2.trans u3).trans u4) ?_
        have : (Sum.inl (va.1, N, va.2.2) : It) = vI va.1 N.1 N.2 := by rw [hA.1]; rfl
        rw [← this]; exact H4
      · exact H2.stop ((kb (by rw [← he]; exact z)).out u2)
    by_cases c1 : va.1 = 1
    · refine k_X1_reckon_339 oo (fun _ => ?_) (fun c => absurd (by rw [c1]) c)
      refine k_X1_reckon_359 oo ?_
      exact go true (by rw [c1]; rfl)
    · refine k_X1_reckon_339 oo (fun c => absurd ((nI_eq (by omega) (by omega)).mp c) c1) (fun _ => ?_)
      refine k_X1_reckon_346 oo ?_
      rw [nI_l (by omega)]
      refine fits_ok w2 (by omega) ?_
      have eg : (va.1 == 1 || (!b2 && wfit va.1 N.1 N.2)) = (!b2 && wfit va.1 N.1 N.2) := by rw [show (va.1 == 1) = false by simpa using c1]; rfl
      cases hg : (!b2 && wfit va.1 N.1 N.2) with
      | false =>
        refine k_X1_reckon_356 oo (fun _ => ?_) (fun c => absurd rfl c)
        refine k_X1_reckon_363 oo ?_
        exact go false (by rw [eg, hg])
      | true =>
        refine k_X1_reckon_356 oo (fun c => absurd (show bI true = 0 from c) (by decide)) (fun _ => ?_)
        refine k_X1_reckon_359 oo ?_
        exact go true (by rw [eg, hg])
  refine k_X1_reckon_0 oo ?_
  refine ctop_ok (b := 0) (i := .inl vb) H.1 w hf ht (by rw [hs]; rfl) fun y' q1 _ => ?_
  have : y = y' := by rw [e0, y1] at q1; exact Option.some.inj q1
  subst this
  refine k_X1_reckon_5 oo ?_
  refine ctop_ok (b := 1) (i := .inl va) H.1 w hf ht (by rw [hs]; rfl) fun x' q1 _ => ?_
  have : x = x' := by rw [e1, x1] at q1; exact Option.some.inj q1
  subst this
  refine k_X1_reckon_11 oo ?_
  refine wset_ok (H := h.J 2304 WD) (L := h.J 2305 WD) (b := bb) ⟨r2, rfl, rfl, r3⟩ fun h1' f1 w1 => ?_
  have q1 : h1'.R 27 A = some WD := by rw [f1.1.R (nw _ _ (by decide) (by decide) (by decide))]; exact r1
  have t1 : h1'.tag A = some (0, 0) := f1.1.tag t0
  have ty1 := f1.1.tag y4
  have tx1 := f1.1.tag x4
  have tw1 := w1.1
  have y61 : h1'.J 3713 y.1 = vb.2.1.1 := by rw [f1.1.J (nw _ _ (by decide) (by decide) (by decide))]; exact y6
  have y71 : h1'.J 3714 y.1 = vb.2.1.2 := by rw [f1.1.J (nw _ _ (by decide) (by decide) (by decide))]; exact y7
  have x61 : h1'.J 3713 x.1 = va.2.1.1 := by rw [f1.1.J (nw _ _ (by decide) (by decide) (by decide))]; exact x6
  have x71 : h1'.J 3714 x.1 = va.2.1.2 := by rw [f1.1.J (nw _ _ (by decide) (by decide) (by decide))]; exact x7
  -- a number that came out, or none
  have num : ∀ h2 (N : Int64 × Int64) (b2 : Bool) (r : Option Nat), op < 29 → rkn op va.2.1.1 va.2.1.2 vb.2.1.1 vb.2.1.2 = r → (b2 = false → r = some (w128 N.1 N.2)) → (b2 = true → rkb (mbits va.1) r = none) → Fq WW h h2 → RW h2 WD N.1 N.2 b2 → V XX K 339 [.ref A, .int (nI op), .ref y.1, .ref x.1, .int (nI va.1)] [] h2 := fun h2 N b2 r hop hr n1 n2 f2 w2 => by
    obtain ⟨z1, z2⟩ := rck_num (k := k) (s := s) (N := N) hop ⟨h1 hop, by omega⟩ hr n1 n2
    exact fin h2 N b2 f2 w2 (fun z => by rw [z1 z] at kk; exact kk) (fun z => by rw [z2 z] at kk; exact kk)
  -- by bits
  have h2' := h2
  have bit : ∀ h2 (N : Int64 × Int64), rng va.1 N → Fq WW h h2 → RW h2 WD N.1 N.2 false → rck op va vb k s = mgo (sK s (vI va.1 N.1 N.2 :: k)) → V XX K 339 [.ref A, .int (nI op), .ref y.1, .ref x.1, .int (nI va.1)] [] h2 := fun h2 N hr f2 w2 e => by
    have gd : (va.1 == 1 || (!false && wfit va.1 N.1 N.2)) = true := rng_fit hk4 hr
    exact fin h2 N false f2 w2 (fun _ => by rw [e] at kk; exact kk) (fun z => by rw [gd] at z; exact absurd z.symm Bool.false_ne_true)
  obtain ⟨u1, H1, a1⟩ := H.wd f1 fun WD' b' q1 _ _ => ⟨false, by rw [r1] at q1; cases q1; exact w1.2.2.2⟩
  -- quotients
  have dvd : op = 27 ∨ op = 28 → V XX K 134 [.ref A, .int (nI op), .ref y.1, .ref x.1, .int (nI va.1)] [] h1' := fun hop => by
    have zz : (vb.2.1.1 ||| vb.2.1.2) = 0 ↔ w128 vb.2.1.1 vb.2.1.2 = 0 := by
      have l1 := un_lt vb.2.1.1
      have l2 := un_lt vb.2.1.2
      unfold w128
      constructor
      · intro z
        have := congrArg un z
        rw [un_or] at this
        have z0 : un vb.2.1.1 ||| un vb.2.1.2 = 0 := this
        have a1 : un vb.2.1.1 ≤ un vb.2.1.1 ||| un vb.2.1.2 := Nat.left_le_or
        have a2 : un vb.2.1.2 ≤ un vb.2.1.1 ||| un vb.2.1.2 := Nat.right_le_or
        omega
      · intro z
        refine un_inj ?_
        rw [un_or, show un vb.2.1.1 = 0 by omega, show un vb.2.1.2 = 0 by omega]; rfl
    refine k_X1_reckon_134 (r2 := y61) (r4 := y71) oo (fun c => ?_) (fun c => ?_)
    · refine k_X1_reckon_153 oo ?_
      refine k_X1_reckon_154 oo ?_
      refine cneed2_ok (b := false) (w := 1) H1.1 (by omega) (by omega) (fun z => by cases z) (fun _ => H1.stop ?_)
      have := rck_x (k := k) (s := s) (va := va) (vb := vb) (op := op) (by omega) (by rw [rkn_z hop (zz.mp c)]; rfl)
      rw [this] at kk
      exact kk.out u1
    · have nz : ¬ w128 vb.2.1.1 vb.2.1.2 = 0 := fun z => c (zz.mpr z)
      refine k_X1_reckon_149 oo ?_
      refine k_X1_reckon_154 oo ?_
      refine cneed2_ok (b := true) (w := 1) H1.1 (by omega) (by omega) (fun _ => ?_) (fun z => by cases z)
      have go : ∀ r : Bool, r = decide (op = 28) → V XX K 181 [.ref A, .int (nI op), .ref y.1, .ref x.1, .int (nI va.1)] [.int (bI r), .long vb.2.1.2, .long vb.2.1.1, .ref WD] h1' := fun r hr => by
        refine k_X1_reckon_181 oo ?_
        refine divide_ok w1 (by omega) fun hz rh rl qh ql f2 e2 w2 => ?_
        refine k_X1_reckon_184 oo ?_
        rcases hop with z | z
        · subst z
          have : r = false := hr
          subst this
          refine num hz (qh, ql) false _ (by omega) (rkn_27 nz) (fun _ => ?_) (fun z => by cases z) (f1.trans f2) w2
          rw [← e2]
        · subst z
          have : r = true := hr
          subst this
          refine num hz (rh, rl) false _ (by omega) (rkn_28 nz) (fun _ => ?_) (fun z => by cases z) (f1.trans f2) w2
          rw [← e2]
      rcases hop with z | z
      · subst z
        refine k_X1_reckon_158 oo (fun _ => ?_) (fun c => absurd c (by decide))
        refine k_X1_reckon_180 oo ?_
        exact go false rfl
      · subst z
        refine k_X1_reckon_158 oo (fun c => absurd rfl c) (fun _ => ?_)
        refine k_X1_reckon_176 oo ?_
        exact go true rfl
  -- shifts
  have shf : op = 32 ∨ op = 33 → V XX K 271 [.ref A, .int (nI op), .ref y.1, .ref x.1, .int (nI va.1)] [] h1' := fun hop => by
    obtain ⟨b2, a2⟩ := h3 (by omega)
    have hlow : un vb.2.1.2 < 256 := by have := hB.2.2.2 b2; exact this
    have etb : tbits va.1 = mbits va.1 := by
      rcases (show va.1 = 2 ∨ va.1 = 3 ∨ va.1 = 4 by omega) with z | z | z <;> (rw [z]; rfl)
    have hmb := mbits_le va.1
    have elow : vb.2.1.2 = lN (un vb.2.1.2) := (lN_un _).symm
    have erck : rck op va vb k s = mnd (decide (un vb.2.1.2 < mbits va.1)) 1 s (mgo (sK s (.inl (va.1, msh op va.1 (un vb.2.1.2) va.2.1, .leaf) :: k))) := by
      unfold rck; rw [if_neg (by omega), if_neg (by omega)]
    rw [erck] at kk
    refine k_X1_reckon_271 (r2 := y71) oo ?_
    rw [nI_l (by omega)]
    refine bits_ok (by omega) ?_
    rw [etb]
    have nd : ∀ e : Bool, e = decide (un vb.2.1.2 < mbits va.1) → V XX K 292 [.ref A, .int (nI op), .ref y.1, .ref x.1, .int (nI va.1)] [.int (bI e), .ref A] h1' := fun e he => by
      rw [← he] at kk
      refine k_X1_reckon_292 oo ?_
      refine cneed2_ok (b := e) (w := 1) H1.1 (by omega) (by omega) (fun z => ?_) (fun z => ?_)
      · subst z
        have hn : un vb.2.1.2 < mbits va.1 := of_decide_eq_true he.symm
        have kk : RZ K XX.G B h A W q BA X tt snd lim SP wi MA o (mgo (sK s (.inl (va.1, msh op va.1 (un vb.2.1.2) va.2.1, .leaf) :: k))) := kk
        -- behind the shift
        have aft : ∀ h2 H2 L2, Fq WW h1' h2 → RW h2 WD H2 L2 false → w128 H2 L2 = (if op = 32 then (w128 va.2.1.1 va.2.1.2 * 2 ^ un vb.2.1.2) % 340282366920938463463374607431768211456 else w128 va.2.1.1 va.2.1.2 / 2 ^ un vb.2.1.2) → V XX K 329 [.ref A, .int (nI op), .ref y.1, .ref x.1, .int (nI va.1)] [] h2 := fun h2 H2 L2 f2 w2 e2 => by
          have t2 : h2.tag A = some (0, 0) := f2.1.tag t1
          have q2 : h2.R 27 A = some WD := by rw [f2.1.R (nw _ _ (by decide) (by decide) (by decide))]; exact q1
          have t3 := w2.1
          refine k_X1_reckon_329 oo ?_
          rw [nI_l (by omega)]
          refine cut_ok w2 (by omega) fun h3 f3 w3 => ?_
          have em : msh op va.1 (un vb.2.1.2) va.2.1 = (wcutH va.1 H2, wcutL va.1 L2) := by
            unfold msh
            rw [← e2, lN_w.1, lN_w.2]
          rw [em] at kk
          have hr : rng va.1 (wcutH va.1 H2, wcutL va.1 L2) := by rw [← em]; exact rng_sh ⟨a2, by omega⟩
          have gd : (va.1 == 1 || (!false && wfit va.1 (wcutH va.1 H2) (wcutL va.1 L2))) = true := rng_fit hk4 hr
          exact fin h3 (wcutH va.1 H2, wcutL va.1 L2) false ((f1.trans f2).trans f3) w3 (fun _ => kk) (fun z => by rw [gd] at z; exact absurd z.symm Bool.false_ne_true)
        rcases hop with z | z
        · subst z
          refine k_X1_reckon_296 oo (fun c => absurd rfl c) (fun _ => ?_)
          refine k_X1_reckon_302 oo ?_
          rw [elow, lN_32]
          refine up_ok w1 (by omega) fun h2 H2 L2 f2 w2 e2 => ?_
          refine k_X1_reckon_314 oo ?_
          exact aft h2 H2 L2 f2 w2 (by rw [if_pos rfl]; exact e2)
        · subst z
          refine k_X1_reckon_296 oo (fun _ => ?_) (fun c => absurd c (by decide))
          refine k_X1_reckon_317 oo ?_
          rw [elow, lN_32]
          refine down_ok w1 (by omega) fun h2 H2 L2 f2 w2 e2 => ?_
          exact aft h2 H2 L2 f2 w2 (by rw [if_neg (by decide)]; exact e2)
      · subst z
        exact H1.stop (kk.out u1)
    have cmp : (nI (mbits va.1)).toInt64 ≤ vb.2.1.2 ↔ mbits va.1 ≤ un vb.2.1.2 := by
      rw [nI_l (by omega)]
      conv => lhs; rw [elow]
      exact lN_leI (by omega) (by omega)
    refine k_X1_reckon_282 oo (fun c => ?_) (fun c => ?_)
    · refine k_X1_reckon_291 oo ?_
      exact nd false (decide_eq_false (Nat.not_lt.mpr (cmp.mp c))).symm
    · refine k_X1_reckon_287 oo ?_
      exact nd true (decide_eq_true (Nat.not_le.mp fun z => c (cmp.mpr z))).symm
  refine k_X1_reckon_33 oo ?_
  rcases (show op = 24 ∨ op = 25 ∨ op = 26 ∨ op = 27 ∨ op = 28 ∨ op = 29 ∨ op = 30 ∨ op = 31 ∨ op = 32 ∨ op = 33 by omega) with z | z | z | z | z | z | z | z | z | z
  · subst z
    show V XX K 80 _ _ _
    refine k_X1_reckon_80 oo ?_
    refine wadd_ok w1 (by omega) fun h2 H2 L2 b2 f2 w2 e2 e3 => ?_
    refine k_X1_reckon_95 oo ?_
    refine num h2 (H2, L2) b2 _ (by omega) rkn_24 (fun z => ?_) (fun z => rkb_big (e3.mp z)) (f1.trans f2) w2
    have : ¬ 340282366920938463463374607431768211456 ≤ w128 va.2.1.1 va.2.1.2 + w128 vb.2.1.1 vb.2.1.2 := fun q => by rw [z] at e3; exact absurd (e3.mpr q) (by decide)
    rw [e2, Nat.mod_eq_of_lt (Nat.not_le.mp this)]
  · subst z
    show V XX K 98 _ _ _
    refine k_X1_reckon_98 oo ?_
    refine wsub_ok w1 (by omega) fun h2 H2 L2 b2 f2 w2 e2 e3 => ?_
    refine k_X1_reckon_113 oo ?_
    refine num h2 (H2, L2) b2 _ (by omega) rkn_25 (fun z => ?_) (fun z => ?_) (f1.trans f2) w2
    · have hle : w128 vb.2.1.1 vb.2.1.2 ≤ w128 va.2.1.1 va.2.1.2 := Nat.not_lt.mp fun q => by rw [z] at e3; exact absurd (e3.mpr q) (by decide)
      rw [if_pos hle, e2 hle]
    · rw [if_neg (Nat.not_le.mpr (e3.mp z))]; rfl
  · subst z
    show V XX K 116 _ _ _
    refine k_X1_reckon_116 oo ?_
    refine multiply_ok w1 (by omega) fun h2 H2 L2 b2 f2 w2 e2 e3 => ?_
    refine k_X1_reckon_131 oo ?_
    exact num h2 (H2, L2) b2 _ (by omega) rkn_26 (fun z => by rw [e2 z]) (fun z => rkb_big (e3.mp z)) (f1.trans f2) w2
  · subst z
    show V XX K 134 _ _ _
    exact dvd (Or.inl rfl)
  · subst z
    show V XX K 134 _ _ _
    exact dvd (Or.inr rfl)
  · subst z
    show V XX K 187 _ _ _
    refine k_X1_reckon_187 oo ?_
    refine wset_ok w1 fun h2 f2 w2 => ?_
    refine k_X1_reckon_212 oo ?_
    refine bit h2 (va.2.1.1 &&& vb.2.1.1, va.2.1.2 &&& vb.2.1.2) (rng_and hA.2.2 (by rw [← h2' (by omega)]; exact hB.2)) (f1.trans f2) w2 ?_
    unfold rck; rw [if_neg (by omega), if_pos (by omega), if_pos rfl, if_pos rfl]
  · subst z
    show V XX K 215 _ _ _
    refine k_X1_reckon_215 oo ?_
    refine wset_ok w1 fun h2 f2 w2 => ?_
    refine k_X1_reckon_240 oo ?_
    refine bit h2 (va.2.1.1 ||| vb.2.1.1, va.2.1.2 ||| vb.2.1.2) (rng_or hA.2.2 (by rw [← h2' (by omega)]; exact hB.2)) (f1.trans f2) w2 ?_
    unfold rck; rw [if_neg (by omega), if_pos (by omega), if_neg (show ¬ (30 : Nat) = 29 by omega), if_pos (show (30 : Nat) = 30 from rfl), if_neg (show ¬ (30 : Nat) = 29 by omega), if_pos (show (30 : Nat) = 30 from rfl)]
  · subst z
    show V XX K 243 _ _ _
    refine k_X1_reckon_243 oo ?_
    refine wset_ok w1 fun h2 f2 w2 => ?_
    refine k_X1_reckon_268 oo ?_
    refine bit h2 (va.2.1.1 ^^^ vb.2.1.1, va.2.1.2 ^^^ vb.2.1.2) (rng_xor hA.2.2 (by rw [← h2' (by omega)]; exact hB.2)) (f1.trans f2) w2 ?_
    unfold rck; rw [if_neg (by omega), if_pos (by omega), if_neg (by omega), if_neg (by omega), if_neg (by omega), if_neg (by omega)]
  · subst z
    show V XX K 271 _ _ _
    exact shf (Or.inl rfl)
  · subst z
    show V XX K 271 _ _ _
    exact shf (Or.inr rfl)
end
