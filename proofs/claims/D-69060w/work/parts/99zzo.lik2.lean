/-! whether a function is what another module takes it for: the whole -/
section
variable {G : Gt} {d : Nat} {h : AH} {K : Outcome → AH → Prop}
theorem isLike_ok {M M' k j : Nat} {m m' : Md} {f : Cx} {g : Ux} (md : MDR h M m) (md' : MDR h M' m') (hf : m.2.2.2.1[k]? = some f) (hg : m'.2.2.2.2.2[j]? = some g) (gm : gM m) (gm' : gM m') (hb : smB m) (hb' : smB m') (hd : 4 ≤ d) (kk : K (.returned (some (.int (bI (slk m f m' g))))) h) : MW G d e_X1_isLike [.ref M, .ref (M + 397 + 4 * k), .ref M', .ref (M' + 141 + 4 * j)] h K := by
  refine st_X1_isLike fun X o hG hD _ => ?_
  subst hG; subst hD
  obtain ⟨⟨tM, rT⟩, sT, ty, -, mx⟩ := id md
  obtain ⟨⟨tM', rT'⟩, sT', ty', -, mx'⟩ := id md'
  have hk := get_lt hf
  have hj := get_lt hg
  have k32 := mx.2.1.2.2.2.1
  have j64 := mx'.2.1.2.2.2.2.2
  obtain ⟨-, d2, ⟨d3, d4, -⟩, d6, d7, -⟩ := sT.2.2.2.2 (64 + k) (by omega)
  obtain ⟨-, q2, ⟨q3, q4, -⟩, q6, q7, -⟩ := sT'.2.2.2.2 j (by omega)
  rw [show M + 1 + 140 + 4 * (64 + k) = M + 397 + 4 * k by omega] at d2 d3 d4
  rw [show M + 1 + 141 + 4 * (64 + k) = M + 397 + 4 * k + 1 by omega] at d3 d6
  rw [show M + 1 + 142 + 4 * (64 + k) = M + 397 + 4 * k + 2 by omega] at d4 d7
  rw [show M' + 1 + 140 + 4 * j = M' + 141 + 4 * j by omega] at q2 q3 q4
  rw [show M' + 1 + 141 + 4 * j = M' + 141 + 4 * j + 1 by omega] at q3 q6
  rw [show M' + 1 + 142 + 4 * j = M' + 141 + 4 * j + 2 by omega] at q4 q7
  obtain ⟨-, -, c3, c4, c5⟩ := mx.2.2.2.2.1 k f hf
  obtain ⟨u1, u2, u3, -⟩ := mx'.2.2.2.2.2.2 j g hg
  rw [show M + 1 + 396 + 4 * k = M + 397 + 4 * k by omega] at c3 c4 c5
  rw [show M' + 1 + 140 + 4 * j = M' + 141 + 4 * j by omega] at u1 u2 u3
  obtain ⟨gf1, gf2, gf3, gf4, gf5⟩ := gm.2.2.2.1 f (List.mem_of_getElem? hf)
  obtain ⟨gg1, gu⟩ := gm'.2.2.2.2.1 g (List.mem_of_getElem? hg)
  obtain ⟨p1, r1, -, -, z1⟩ := id c4
  obtain ⟨p2, r2, -, -, z2⟩ := id c5
  obtain ⟨p3, r3, -, -, z3⟩ := id u2
  obtain ⟨p4, r4, -, -, z4⟩ := id u3
  have tl := gm.2.2.2.2.2.2
  have tl' := gm'.2.2.2.2.2.2
  have g8 := gu.1
  have g8' := gu.2.1
  have no : slk m f m' g = false → V X K 63 [.ref M, .ref (M + 397 + 4 * k), .ref M', .ref (M' + 141 + 4 * j), nov, nov] [] h := fun e => by
    rw [e] at kk
    have p140 : ∀ l5, V X K 137 [.ref M, .ref (M + 397 + 4 * k), .ref M', .ref (M' + 141 + 4 * j), .int (nI 0), l5] [] h := fun l5 => by
      refine k_X1_isLike_137 o ?_
      refine k_X1_isLike_140 (r5 := z2) o (fun _ => k_X1_isLike_208 o kk) (fun _ => ?_)
      exact k_X1_isLike_152 o (fun _ => k_X1_isLike_208 o kk) (fun c => absurd rfl c)
    refine k_X1_isLike_63 o ?_
    refine k_X1_isLike_64 o ?_
    refine k_X1_isLike_69 (r5 := z1) o (fun _ => p140 _) (fun _ => ?_)
    exact k_X1_isLike_81 o (fun _ => p140 _) (fun c => absurd rfl c)
  have b1 : (nI g.1 &&& nI 1 = nI 1) ↔ g.1 &&& 1 = 1 := by
    rw [nI_and (by omega) (by omega)]
    exact nI_eq (by have := Nat.and_le_left (n := g.1) (m := 1); omega) (by omega)
  have b4 : (nI f.2.2.1 &&& nI 4 = nI g.1 &&& nI 4) ↔ f.2.2.1 &&& 4 = g.1 &&& 4 := by
    rw [nI_and (by omega) (by omega), nI_and (by omega) (by omega)]
    exact nI_eq (by have := Nat.and_le_left (n := f.2.2.1) (m := 4); omega) (by have := Nat.and_le_left (n := g.1) (m := 4); omega)
  refine k_X1_isLike_0 (r2 := u1) o (fun c => no ?_) (fun c1 => ?_)
  · unfold slk
    rw [decide_eq_false (fun q => c (b1.mpr q))]; rfl
  refine k_X1_isLike_10 (r2 := c3) (r5 := u1) o (fun c => no ?_) (fun c2 => ?_)
  · unfold slk
    rw [decide_eq_false (p := f.2.2.1 &&& 4 = g.1 &&& 4) (fun q => c (b4.mpr q))]; simp
  refine k_X1_isLike_25 (r5 := z1) (r11 := z3) o (fun c => no ?_) (fun c3' => ?_)
  · unfold slk
    rw [decide_eq_false (p := f.2.2.2.1.length = g.2.1.length) (fun q => c (by rw [q]))]; simp
  refine k_X1_isLike_42 (r5 := z2) (r11 := z4) o (fun c => no ?_) (fun c4' => ?_)
  · unfold slk
    rw [decide_eq_false (p := f.2.2.2.2.length = g.2.2.1.length) (fun q => c (by rw [q]))]; simp
  have l1 : f.2.2.2.1.length = g.2.1.length := (nI_eq (by omega) (by omega)).mp c3'
  have l2 : f.2.2.2.2.length = g.2.2.1.length := (nI_eq (by omega) (by omega)).mp c4'
  have ev : slk m f m' g = (stl m f.2.2.2.1 m' g.2.1 && stl m f.2.2.2.2 m' g.2.2.1) := by
    unfold slk
    rw [decide_eq_true (b1.mp c1), decide_eq_true (b4.mp c2), decide_eq_true l1, decide_eq_true l2]; rfl
  rw [ev] at kk
  refine k_X1_isLike_59 o ?_
  refine k_X1_isLike_64 o ?_
  refine like_69 o md md' d2 q2 d3 q3 d6 q6 c4 u2 l1 (by omega) tl tl' gf4 gu.2.2.2.1 hb hb' (by omega) (fun v5 => ?_) f.2.2.2.1.length 0 (by omega) (fun j x y hj => absurd hj (Nat.not_lt_zero j))
  refine k_X1_isLike_137 o ?_
  cases hs : stl m f.2.2.2.1 m' g.2.1 with
  | true =>
    rw [hs, Bool.true_and] at kk
    exact like_140 o md md' d2 q2 d4 q4 d7 q7 c5 u3 l2 (by omega) tl tl' gf5 gu.2.2.2.2.1 hb hb' (by omega) kk f.2.2.2.2.length 0 (by omega) (fun j x y hj => absurd hj (Nat.not_lt_zero j))
  | false =>
    rw [hs, Bool.false_and] at kk
    refine k_X1_isLike_140 (r5 := z2) o (fun _ => k_X1_isLike_208 o kk) (fun _ => ?_)
    exact k_X1_isLike_152 o (fun _ => k_X1_isLike_208 o kk) (fun c => absurd rfl c)
end
