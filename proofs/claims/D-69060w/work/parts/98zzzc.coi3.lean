/-! functions of the coin's module -/
section
variable {G : Gt} {B d : Nat} {h : AH} {l : List Nat} {o : Lc} {wi W A q BA X tt lim SP t : Nat} {snd : Int64} {MA : Ma} {s : Ms} {K : Outcome → AH → Prop} {fs : Nat} {st : Lw} {Lf : Nat → Lw} {RN : Nat → Int32}
theorem coin_2 {XX : Xt} (oo : OK e_X1_ofCoin XX) {r : Rx} {c : VL} {y : Int64} {k : List It} {l2 l3 l4 l5 l6 l7 l8 l9 : Value} (H : OPR XX.G B h A W q BA X tt snd lim SP wi MA l o s) (hs : stk s = .inr r :: k) (hr : drf s r = some c) (hc : cvl c = some y) (hav : lim + 8 ≤ av XX.G h l + gas s) (hd : 60 ≤ XX.d) (kk : RZ K XX.G B h A W q BA X tt snd lim SP wi MA o (mpay lim 5 s fun s => mgo (sK s (vI 3 0 y :: k)))) : V XX K 71 [.ref A, .int (nI 2), l2, l3, l4, l5, l6, l7, l8, l9] [] h := by
  have t0 := H.1.1.1
  refine k_X1_ofCoin_71 oo ?_
  refine cpay_ok (n := 5) (k := fun s => mgo (sK s (vI 3 0 y :: k))) H (by omega) (by omega) (fun h1 s1 u1 H1 es1 av1 em => ?_) (fun em => by rw [em] at kk; exact kk)
  rw [em] at kk
  subst es1
  have kk : ∀ h' l' o', OUT wi W h h' o o' → OPR XX.G B h' A W q BA X tt snd lim SP wi MA l' o' (sK (sG s (gas s + 5)) (vI 3 0 y :: k)) → K (.returned none) h' := kk
  have hg1 : gas s + 5 ≤ lim := H1.2.2.2.2.1
  refine k_X1_ofCoin_76 oo ?_
  show V XX K 215 _ _ _
  have t1 := H1.1.1.1
  obtain ⟨t, ht⟩ : ∃ t, t + 1 = s.1 := ⟨s.1 - 1, by have := H.2.2.1.1.2.2.1; omega⟩
  have hs1 : stk (sG s (gas s + 5)) = .inr r :: k := hs
  have hf1 : h1.R 28 A = some (Fa W t) := by rw [H1.2.2.2.1]; show some (Fa W (s.1 - 1)) = _; rw [show s.1 - 1 = t by omega]
  refine k_X1_ofCoin_215 oo ?_
  refine ctop_ok (b := 0) (t := t) H1.1 H1.2.2.1 hf1 ht (by rw [hs1]; rfl) fun xr x1 x2 => ?_
  obtain ⟨z, y', z1, z2, z3, z4, -⟩ := H1.2.2.1.ref x2 (show drf (sG s (gas s + 5)) r = some c from hr)
  have hfl : ∃ w0, (flo c.2.2)[0]? = some w0 ∧ w0.2.1.2 = y := by
    unfold cvl at hc
    split at hc
    · cases hq : (flo c.2.2)[0]? with
      | none => rw [hq] at hc; cases hc
      | some w0 => rw [hq] at hc; exact ⟨w0, rfl, Option.some.inj hc⟩
    · cases hc
  obtain ⟨w0, hw0, hw1⟩ := hfl
  have ry := RVL.sub (H1.2.1.2.2.2 _ _ z1).1 z2
  rw [← z3] at hw0
  obtain ⟨y0, -, f1, -, -, f4, f5⟩ := ry.first hw0
  have tx := (H1.2.1.2.2.2 _ _ x1).1.1
  have ty := ry.1
  rw [hw1] at f5
  refine k_X1_ofCoin_220 oo ?_
  refine cdropTop_ok H1 hs1 (fun v hv => by cases hv) (by omega) fun h2 l2' o2 u2 H2 av2 _ _ => ?_
  have t2 := H2.1.1.1
  refine k_X1_ofCoin_235 oo ?_
  have hl : (stk s).length = k.length + 1 := by rw [hs]; rfl
  have h64 := H.hd
  refine cpushNumber_ok (kd := 3) H2 rfl (by rw [stk_K]; omega) (by omega) (by omega) fun h3 l3' o3 u3 H3 av3 => ?_
  refine k_X1_ofCoin_245 oo ?_
  refine k_X1_ofCoin_378 oo ?_
  refine kk h3 l3' o3 ((u1.trans u2).trans u3) ?_
  have e : mpu (sK (sG s (gas s + 5)) k) (vI 3 0 y) = sK (sG s (gas s + 5)) (vI 3 0 y :: k) := by unfold mpu; rw [stk_K, stkK]
  rw [← e]; exact H3
theorem coin_3 {XX : Xt} (oo : OK e_X1_ofCoin XX) {x y : Int64} {k : List It} {l2 l3 l4 l5 l6 l7 l8 l9 : Value} (H : OPR XX.G B h A W q BA X tt snd lim SP wi MA l o s) (hs : stk s = vC y :: vC x :: k) (hd : 60 ≤ XX.d) (kk : RZ K XX.G B h A W q BA X tt snd lim SP wi MA o (mpay lim 5 s fun s => mgo (sK s (vC (x + y) :: k)))) : V XX K 71 [.ref A, .int (nI 3), l2, l3, l4, l5, l6, l7, l8, l9] [] h := by
  have t0 := H.1.1.1
  refine k_X1_ofCoin_71 oo ?_
  refine cpay_ok (n := 5) (k := fun s => mgo (sK s (vC (x + y) :: k))) H (by omega) (by omega) (fun h1 s1 u1 H1 es1 av1 em => ?_) (fun em => by rw [em] at kk; exact kk)
  rw [em] at kk
  subst es1
  have kk : ∀ h' l' o', OUT wi W h h' o o' → OPR XX.G B h' A W q BA X tt snd lim SP wi MA l' o' (sK (sG s (gas s + 5)) (vC (x + y) :: k)) → K (.returned none) h' := kk
  refine k_X1_ofCoin_76 oo ?_
  show V XX K 248 _ _ _
  have t1 := H1.1.1.1
  obtain ⟨t, ht⟩ : ∃ t, t + 1 = s.1 := ⟨s.1 - 1, by have := H.2.2.1.1.2.2.1; omega⟩
  have hs1 : stk (sG s (gas s + 5)) = vC y :: vC x :: k := hs
  have hf1 : h1.R 28 A = some (Fa W t) := by rw [H1.2.2.2.1]; show some (Fa W (s.1 - 1)) = _; rw [show s.1 - 1 = t by omega]
  refine k_X1_ofCoin_248 oo ?_
  refine ctop_ok (b := 0) (t := t) H1.1 H1.2.2.1 hf1 ht (by rw [hs1]; rfl) fun z z1 z2 => ?_
  have ez : lvE z = vCv y := z2
  have rz := (H1.2.1.2.2.2 _ _ z1).1
  obtain ⟨y0, -, f1, -, -, f4, f5⟩ := rz.first (w0 := (3, (0, y), .leaf)) (by rw [ez]; rfl)
  have tz := rz.1
  refine k_X1_ofCoin_253 oo ?_
  refine cdropTop_ok H1 hs1 (fun v hv => by
    have : v = vCv y := (Sum.inl.inj hv).symm
    rw [this]
    have : fdp (vCv y).2.2 ≤ 2 := by simp [vCv, fof, fdp]
    omega) (by omega) fun h2 l2' o2 u2 H2 av2 _ _ => ?_
  have t2 := H2.1.1.1
  have hs2 : stk (sK (sG s (gas s + 5)) (vC x :: k)) = vC x :: k := stk_K
  have hf2 : h2.R 28 A = some (Fa W t) := by rw [H2.2.2.2.1]; show some (Fa W (s.1 - 1)) = _; rw [show s.1 - 1 = t by omega]
  refine k_X1_ofCoin_265 oo ?_
  refine ctop_ok (b := 0) (t := t) H2.1 H2.2.2.1 hf2 ht (by rw [hs2]; rfl) fun w w1 w2 => ?_
  have ew : lvE w = vCv x := w2
  have rw2 := (H2.2.1.2.2.2 _ _ w1).1
  obtain ⟨y1, g0, g1, -, g3, g4, g5⟩ := rw2.first (w0 := (3, (0, x), .leaf)) (by rw [ew]; rfl)
  have tw := rw2.1
  rw [hs2] at w1
  obtain ⟨o3, u3, H3, av3, -⟩ := H2.coin (x' := x + y) (pre := []) (k := k) ht hs2 w1 g0 g3
  refine k_X1_ofCoin_270 oo ?_
  refine k_X1_ofCoin_378 oo ?_
  refine kk _ l2' o3 ((u1.trans u2).trans u3) ?_
  rw [stkK] at H3
  exact H3
theorem coin_4 {XX : Xt} (oo : OK e_X1_ofCoin XX) {x : Int64} {v : VL} {k : List It} {l2 l3 l4 l5 l6 l7 l8 l9 : Value} (H : OPR XX.G B h A W q BA X tt snd lim SP wi MA l o s) (hs : stk s = .inl v :: vC x :: k) (hv : fdp v.2.2 ≤ 40) (hav : lim + 8 ≤ av XX.G h l + gas s) (hd : 60 ≤ XX.d) (kk : RZ K XX.G B h A W q BA X tt snd lim SP wi MA o (mpay lim 5 s fun s => if un x < un v.2.1.2 then mst 1 2 s else mgo (sK s (vC v.2.1.2 :: vC (x - v.2.1.2) :: k)))) : V XX K 71 [.ref A, .int (nI 4), l2, l3, l4, l5, l6, l7, l8, l9] [] h := by
  have t0 := H.1.1.1
  refine k_X1_ofCoin_71 oo ?_
  refine cpay_ok (n := 5) (k := fun s => if un x < un v.2.1.2 then mst 1 2 s else mgo (sK s (vC v.2.1.2 :: vC (x - v.2.1.2) :: k))) H (by omega) (by omega) (fun h1 s1 u1 H1 es1 av1 em => ?_) (fun em => by rw [em] at kk; exact kk)
  rw [em] at kk
  subst es1
  have hg1 : gas s + 5 ≤ lim := H1.2.2.2.2.1
  refine k_X1_ofCoin_76 oo ?_
  show V XX K 286 _ _ _
  have t1 := H1.1.1.1
  obtain ⟨t, ht⟩ : ∃ t, t + 1 = s.1 := ⟨s.1 - 1, by have := H.2.2.1.1.2.2.1; omega⟩
  have hs1 : stk (sG s (gas s + 5)) = .inl v :: vC x :: k := hs
  have hf1 : h1.R 28 A = some (Fa W t) := by rw [H1.2.2.2.1]; show some (Fa W (s.1 - 1)) = _; rw [show s.1 - 1 = t by omega]
  refine k_X1_ofCoin_286 oo ?_
  refine ctop_ok (b := 0) (t := t) H1.1 H1.2.2.1 hf1 ht (by rw [hs1]; rfl) fun z z1 z2 => ?_
  have ez : lvE z = v := z2
  have rz := (H1.2.1.2.2.2 _ _ z1).1
  have tz := rz.1
  have lz : h1.J 3714 z.1 = v.2.1.2 := by rw [← ez]; exact rz.2.2.2.1
  refine k_X1_ofCoin_291 oo ?_
  refine ctop_ok (b := 1) (t := t) H1.1 H1.2.2.1 hf1 ht (by rw [hs1]; rfl) fun w w1 w2 => ?_
  have ew : lvE w = vCv x := w2
  have rw1 := (H1.2.1.2.2.2 _ _ w1).1
  obtain ⟨y1, g0, g1, -, g3, g4, g5⟩ := rw1.first (w0 := (3, (0, x), .leaf)) (by rw [ew]; rfl)
  have tw := rw1.1
  refine k_X1_ofCoin_303 oo ?_
  refine compareU_ok (by omega) ?_
  by_cases cc : un x < un v.2.1.2
  · rw [if_pos cc] at kk
    refine k_X1_ofCoin_312 oo (fun c => ?_) (fun _ => ?_)
    · exfalso
      change cmu v.2.1.2 x ≤ 0 at c
      unfold cmu at c
      rw [if_neg (by omega), if_neg (by omega)] at c
      exact absurd c (by decide)
    · refine k_X1_ofCoin_315 oo ?_
      exact cstop_ok (w := 1) H1.1 (H1.stop (RZ.out u1 kk))
  · rw [if_neg cc] at kk
    have kk : ∀ h' l' o', OUT wi W h h' o o' → OPR XX.G B h' A W q BA X tt snd lim SP wi MA l' o' (sK (sG s (gas s + 5)) (vC v.2.1.2 :: vC (x - v.2.1.2) :: k)) → K (.returned none) h' := kk
    refine k_X1_ofCoin_312 oo (fun _ => ?_) (fun c => ?_)
    · refine k_X1_ofCoin_323 oo ?_
      refine ctop_ok (b := 1) (t := t) H1.1 H1.2.2.1 hf1 ht (by rw [hs1]; rfl) fun w' w1' _ => ?_
      have : w' = w := by rw [w1] at w1'; exact (Option.some.inj w1').symm
      subst this
      rw [hs1] at w1 z1
      obtain ⟨o3, u3, H3, av3, ho3⟩ := H1.coin (x := x) (x' := x - v.2.1.2) (pre := [.inl v]) (k := k) ht hs1 w1 g0 g3
      have z3 : o3 (1, wi, t, (Sum.inl v :: vC x :: k).length - 1 - 0) = some z := by
        rw [ho3 _ (fun e => by
          have := congrArg (fun p : Sl => p.2.2.2) e
          have : (Sum.inl v :: vC x :: k).length - 1 - 0 = k.length := this
          simp at this), z1]
      have l3 : (h1.sJ 3714 y1.1 (x - v.2.1.2)).J 3714 z.1 = v.2.1.2 := by
        have := (H3.2.1.2.2.2 _ _ z3).1.2.2.2.1
        exact this.trans (by rw [← ez]; rfl)
      refine k_X1_ofCoin_328 (x6 := x) (x9 := v.2.1.2) (x11 := v.2.1.2) (r10 := l3) oo ?_
      have hs3 : stk (sK (sG s (gas s + 5)) ([.inl v] ++ vC (x - v.2.1.2) :: k)) = .inl v :: vC (x - v.2.1.2) :: k := stk_K
      refine ccoinOf_ok H3 hs3 hv (by rw [av3]; omega) (by omega) fun h4 l4' o4 u4 H4 => ?_
      refine k_X1_ofCoin_353 oo ?_
      refine k_X1_ofCoin_378 oo ?_
      rw [stkK] at H4
      exact kk h4 l4' o4 ((u1.trans u3).trans u4) H4
    · exfalso
      change ¬ cmu v.2.1.2 x ≤ 0 at c
      unfold cmu at c
      split at c
      · exact c (by decide)
      · rw [if_pos (by omega)] at c
        exact c (by decide)
end
