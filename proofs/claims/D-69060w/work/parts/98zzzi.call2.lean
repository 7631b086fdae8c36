/-! calls, whole -/
section
variable {G : Gt} {B d : Nat} {h : AH} {l : List Nat} {o : Lc} {wi W A q BA X tt lim SP t : Nat} {snd : Int64} {MA : Ma} {s : Ms} {K : Outcome → AH → Prop} {fs : Nat} {st : Lw} {Lf : Nat → Lw} {RN : Nat → Int32}
theorem call_78 {XX : Xt} (oo : OK e_X1_call XX) {Wd' : Wd} {m m' : Md} {u u' : Ux} {i n : Nat} {sc : Pc → Option (Int32 × Int32)} {g : Nat × Nat} {l1 l2 l5 l6 l7 l8 : Value} (H : OPR XX.G B h A W q BA X tt snd lim SP wi MA l o s) (hat : ∀ j, j + 1 < s.1 → MA.2.2.1 j = (s.2.1 j).2.1) (hat2 : MA.2.2.1 (s.1 - 1) = i + 1) (hW : Wd' g.1 = some m') (hU : m'.2.2.2.2.2[g.2]? = some u') (hm : MDR h (MA.1 g.1) m') (hF : MA.2.1 g = MA.1 g.1 + 141 + 4 * g.2) (hn : (plc s).length ≤ n) (h8 : u'.2.1.length ≤ 8) (hd : 10 ≤ XX.d) (hne : mcall Wd' lim m u i g s ≠ none) (kk : RZI K XX.G B h A W q BA X tt snd lim SP wi MA o n sc (mcall Wd' lim m u i g s)) : V XX K 78 [.ref A, l1, l2, .ref (MA.1 g.1), .ref (MA.2.1 g), l5, l6, l7, l8] [] h := by
  unfold mcall at kk hne
  simp only [hW, hU] at kk hne
  obtain ⟨c, vh, w, hf, hgs, hw⟩ := id H
  obtain ⟨t, ht⟩ : ∃ t, t + 1 = s.1 := ⟨s.1 - 1, by have := w.1.2.2.1; omega⟩
  have t0 := c.1.1
  have rw0 := c.1.2.2.1
  have tW := w.1.1.1.1
  have dW := w.1.2.1
  have h32 := w.1.2.2.2.1
  by_cases c32 : s.1 < 32
  · have em : ∀ r, mnd (decide (s.1 < 32)) 4 s r = r := fun r => by unfold mnd; rw [if_pos (by simpa using c32)]
    rw [em] at kk hne
    refine k_X1_call_78 (r5 := dW) oo (fun c => absurd ((nI_leI (by omega) (by omega)).mp c) (by omega)) (fun _ => ?_)
    refine k_X1_call_91 oo ?_
    refine k_X1_call_96 oo ?_
    refine cneed2_ok (b := true) (w := 4) c (by omega) (by omega) (fun _ => ?_) (fun c => by cases c)
    refine k_X1_call_100 oo ?_
    refine cpay_ok (n := 5) (k := fun s => mre (decide (u'.2.1.length ≤ (stk s).length)) (let s1 := nx m u (i + 1) (sK s ((stk s).drop u'.2.1.length)); mgo (s1.1 + 1, uF s1.2.1 s1.1 (ent g ((stk s).take u'.2.1.length).reverse), s1.2.2))) H (by omega) (by omega) (fun h1 s1 u1 H1 es1 av1 em1 => ?_) (fun em1 => ?_)
    · rw [em1] at kk hne
      obtain ⟨c1, v1, w1, hf1, hg1, hw1⟩ := id H1
      have e11 : s1.1 = s.1 := by rw [es1]; rfl
      have hst : stk s1 = stk s := by rw [es1]; rfl
      have hm1 := hm.ip u1.1
      have k8 := get_lt hU
      obtain ⟨x1, x2, x3, x4, x5⟩ := hm1.2.2.2.2.2.2.2.2.2.2 g.2 u' hU
      have b6 := hm1.2.2.2.2.2.1.2.2.2.2.2
      obtain ⟨d1, d2, ⟨d3, d4, d5⟩, d6, d7, d8⟩ := hm1.2.1.2.2.2.2 g.2 (by omega)
      obtain ⟨pre, post, p1, p2, p3⟩ := x2
      have ea : MA.1 g.1 + 1 + 140 + 4 * g.2 = MA.2.1 g := by rw [hF]
      have eb : MA.1 g.1 + 1 + 141 + 4 * g.2 = MA.2.1 g + 1 := by rw [hF]; omega
      rw [ea] at d2 d3 p3
      rw [eb] at d3 d6
      have t1 := c1.1.1
      refine k_X1_call_105 oo ?_
      refine enter_ok (g := g) c1 w1 (by omega) rfl rfl fun h2 f2 w2 => ?_
      refine k_X1_call_128 oo ?_
      by_cases cn : u'.2.1.length ≤ (stk s1).length
      · have em2 : ∀ r, mre (decide (u'.2.1.length ≤ (stk s1).length)) r = r := fun r => by unfold mre; rw [if_pos (by simpa using cn)]
        rw [em2] at kk
        have ht1 : t + 1 = s1.1 := by omega
        have e0 := cst_0 (s := s1) (g := g) (n := u'.2.1.length) (by omega)
        rw [← e0] at w2
        obtain ⟨v2, tg2⟩ := v1.oth f2 PEn.vq
        have fi2 := f2.1.mono (PEn.ip (W := W) (t := s1.1) (by omega))
        rw [show Fa W s1.1 = Fa W (t + 1) by rw [ht1], show s1.1 - 1 = t by omega]
        refine call_136 oo (h := h1) (o := o) (l := l) (n := u'.2.1.length) (g := g) ht1 cn (by omega) (by omega) (fun h3 o3 u3 v3 w3 n3 z3 => ?_) u'.2.1.length 0 (by omega) h2 o (OUT.mk0 fi2 tg2) v2 w2 f2.2.1 (hw1.fr f2.1 (fun a => PEn.no (l := [27]) rfl _ a rfl) (fun a => PEn.no (l := [2306]) rfl _ a rfl)) (fun k _ => ?_)
        · have e3 := cst_n (s := s1) (g := g) (n := u'.2.1.length) (i := i) (m := m) (u := u) ht1 cn
          have w4 := w3.fgt (j := t) (p := i + 1) (lc := fgl (lnt m u (i + 1)) ((cst s1 g u'.2.1.length u'.2.1.length).2.1 t).2.2.1) (fun k => by
            unfold fgl
            cases hq : ((cst s1 g u'.2.1.length u'.2.1.length).2.1 t).2.2.1 k with
            | none => exact Or.inl rfl
            | some it =>
              cases it with
              | inl v => exact Or.inl rfl
              | inr r =>
                by_cases cl : (lgt (lnt m u (i + 1)) k).isSome = true
                · left; simp only [cl]; rfl
                · right; exact ⟨by simp only [cl]; rfl, r, rfl⟩)
          rw [← e3] at w4
          have fi3 := u3.1
          refine kk h3 l o3 (maA MA s1.1 0) (u1.trans u3) ⟨c1.ip fi3, v3, w4, hg1, z3⟩ ⟨⟨rfl, rfl⟩, fun e _ => rfl, fun e p he hp => ?_⟩ (fun j hj => ?_)
          · have := get_lt hp
            have e5 : (plc s1).length = (plc s).length := by rw [es1]; rfl
            change e < (plc s1).length at this
            omega
          · rw [e3] at hj ⊢
            have hj : j < s1.1 + 1 := hj
            show (if j = s1.1 then 0 else MA.2.2.1 j) = (uF (cst s1 g u'.2.1.length u'.2.1.length).2.1 t _ j).2.1
            by_cases cj : j = s1.1
            · rw [if_pos cj, uF_e (by omega)]
              show 0 = (uF (uF s1.2.1 (s1.1 - 1) _) s1.1 _ j).2.1
              rw [cj]; unfold uF; rw [if_pos rfl]
            · rw [if_neg cj]
              by_cases cj2 : j = t
              · rw [cj2, show t = s.1 - 1 by omega, hat2]; unfold uF; rw [if_pos rfl]
              · rw [uF_e cj2]
                show _ = (uF (uF s1.2.1 (s1.1 - 1) _) s1.1 _ j).2.1
                rw [uF_e cj, uF_e (by omega), hat j (by omega), es1]; rfl
        · exact (w1.2.2.1 (t + 1) (by omega) k).2
      · exfalso
        apply hne
        unfold mre
        rw [if_neg (by simpa using cn)]
    · rw [em1] at kk
      exact fun h' l' o' u2 H2 e1 e2 => kk h' l' o' MA u2 H2.ipr ⟨⟨rfl, rfl⟩, fun _ _ => rfl, fun e p he hp => by
        have := get_lt hp
        change e < (plc s).length at this
        omega⟩ e1 e2
  · have em : ∀ r, mnd (decide (s.1 < 32)) 4 s r = mst 2 4 s := fun r => by unfold mnd; rw [if_neg (by simpa using c32)]
    rw [em] at kk
    refine k_X1_call_78 (r5 := dW) oo (fun _ => ?_) (fun c => absurd ((nI_leI (by omega) (by omega)).mpr (by omega)) c)
    refine k_X1_call_95 oo ?_
    refine k_X1_call_96 oo ?_
    refine cneed2_ok (b := false) (w := 4) c (by omega) (by omega) (fun c => by cases c) (fun _ => H.stop ?_)
    exact fun h' l' o' u2 H2 e1 e2 => kk h' l' o' MA u2 H2.ipr ⟨⟨rfl, rfl⟩, fun _ _ => rfl, fun e p he hp => by
        have := get_lt hp
        change e < (plc s).length at this
        omega⟩ e1 e2
end
