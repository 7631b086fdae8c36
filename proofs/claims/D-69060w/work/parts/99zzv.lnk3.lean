/-! a publication: the loop over the structures of other modules -/
def lkB (m : Md) : Prop := (∀ s ∈ m.2.2.1, s.1 < 65536 ∧ s.2.1 < 2147483648) ∧ ∀ c ∈ m.2.2.2.1, c.1 < 65536 ∧ c.2.1 < 2147483648
/-- depths of the structures of other modules -/
def fdn (m : Md) (dw : Nat → Nat → Nat) (i : Nat) : Nat := match m.2.2.1[i - m.2.1.length]? with
  | some s => dw s.1 s.2.1
  | none => 0
def dpF (m : Md) (dw : Nat → Nat → Nat) (dp0 : Nat → Nat) (k i : Nat) : Nat := if m.2.1.length ≤ i ∧ i < m.2.1.length + k then fdn m dw i else dp0 i
theorem dpF_0 {m : Md} {dw : Nat → Nat → Nat} {dp0 : Nat → Nat} : dpF m dw dp0 0 = dp0 := funext fun i => if_neg (by omega)
section
variable {B : Nat} {h0 : AH} {o0 : Lc} {MA0 : Ma} {es0 : List En} {dp0 : Nat → Nat} {wi W A q BA X tt lim SP DP M CM C CW ak g : Nat} {F : Nat → Fm} {snd : Int64} {K : Outcome → AH → Prop} {fs : Nat} {fx : Option Nat} {st : Lw} {Lf : Nat → Lw} {RN : Nat → Int32} {Wd' : Wd} {cm m : Md} {DA : Nat → Nat} {dw : Nat → Nat → Nat} {ms : List Nat} {bs : List Pc}
theorem link_7 {XX : Xt} (oo : OK e_X1_link XX) (ls : LKS h0 A CM M DP C CW MA0 Wd' cm m DA dw) (wd : WRD h0 o0 A W BA tt MA0 fs st Lf RN) (hE : EVW Wd' (vew st Lf fs tt)) (hg : ∀ p, gss Lf fs tt p = none) (hak : ak ≤ 24) (hms : ∀ n m', Wd' n = some m' → n ≠ 0 → n ∈ ms) (hm8 : bs.length + ms.length ≤ 25) (lb : lkB m) (g4 : ab4 m) (hd : 53 ≤ XX.d)
    (kf : ∀ k s, m.2.2.1[k]? = some s → sok Wd' cm s = false → (∀ j s', j < k → m.2.2.1[j]? = some s' → sok Wd' cm s' = true) → ∀ h' l' o' MA', PBA fx XX.G B A W q BA X tt snd lim SP wi F ak g DP (sco Lf RN fs tt) h0 o0 MA0 es0.length h' l' o' MA' (lkE (vew st Lf fs tt) ((m.2.2.1.take (k + 1)).map fun s => s.1) es0) → (h'.I 2709 X = nI k ∧ h'.I 24 A = nI 4 ∧ h'.J 25 A = (nI 22).toInt64) → (∃ dp, DPR h' M DP dp) → K (.threw SP) h')
    (kk : (∀ s ∈ m.2.2.1, sok Wd' cm s = true) → ∀ h l o MA l4 l5 l6, PBA fx XX.G B A W q BA X tt snd lim SP wi F ak g DP (sco Lf RN fs tt) h0 o0 MA0 es0.length h l o MA (lkE (vew st Lf fs tt) (m.2.2.1.map fun s => s.1) es0) → DPR h M DP (dpF m dw dp0 m.2.2.1.length) → LKI (vew st Lf fs tt) ms bs (lkE (vew st Lf fs tt) (m.2.2.1.map fun s => s.1) es0) → V XX K 131 [.ref A, .ref M, .ref (M + 1), .int (nI m.2.2.1.length), l4, l5, l6] [] h) :
    ∀ n k h l o MA, n + k = m.2.2.1.length → PBA fx XX.G B A W q BA X tt snd lim SP wi F ak g DP (sco Lf RN fs tt) h0 o0 MA0 es0.length h l o MA (lkE (vew st Lf fs tt) ((m.2.2.1.take k).map fun s => s.1) es0) → DPR h M DP (dpF m dw dp0 k) → (∀ j s', j < k → m.2.2.1[j]? = some s' → sok Wd' cm s' = true) → LKI (vew st Lf fs tt) ms bs (lkE (vew st Lf fs tt) ((m.2.2.1.take k).map fun s => s.1) es0) → ∀ l4 l5 l6, V XX K 7 [.ref A, .ref M, .ref (M + 1), .int (nI k), l4, l5, l6] [] h := by
  intro n
  induction n with
  | zero =>
    intro k h l o MA hk pb dr ok li l4 l5 l6
    obtain rfl : k = m.2.2.1.length := by omega
    rw [List.take_of_length_le (Nat.le_refl _)] at pb li
    have tT := (ls.ul pb.1).1.2.2.1.1.1
    have mx := (ls.ul pb.1).1.2.2.2.2.2
    refine k_X1_link_7 (r2 := mx.1.2.2.1) oo (fun _ => ?_) (fun c => absurd (Int32.le_refl _) c)
    refine kk (fun s hs => ?_) h l o MA l4 l5 l6 pb dr li
    obtain ⟨j, hj⟩ := List.mem_iff_getElem?.mp hs
    exact ok j s (get_lt hj) hj
  | succ n ih =>
    intro k h l o MA hk pb dr ok li l4 l5 l6
    obtain ⟨u, H, mx0, hn0⟩ := pb
    have ls1 := ls.ul u
    have e1 := mx0.1.1
    obtain ⟨⟨hcn, ⟨tM, rT⟩, sT, ty, co, mx⟩, lc, -⟩ := ls1
    have tT := sT.1.1
    have rS := sT.1.2.1
    obtain ⟨s, hs⟩ : ∃ s, m.2.2.1[k]? = some s := ⟨_, List.getElem?_eq_getElem (by omega)⟩
    have sm := List.mem_of_getElem? hs
    obtain ⟨b1, b2⟩ := lb.1 s sm
    have f32 := mx.2.1.2.2.1
    have o32 := mx.2.1.2.1
    obtain ⟨f1, f2, f3⟩ := mx.2.2.2.1 k s hs
    rw [show M + 1 + 76 + 2 * k = M + 77 + 2 * k by omega] at f1 f2 f3
    obtain ⟨d1, d2, -, -⟩ := sT.2.2.2.1 (32 + k) (by omega)
    rw [show M + 1 + 12 + 2 * (32 + k) = M + 77 + 2 * k by omega] at d1 d2
    have ix : IX (nI 32 + nI k) 64 (32 + k) := by rw [nI_add]; exact IX.mk (by omega) (by omega)
    have t1 := sT.2.1.1
    refine k_X1_link_7 (r2 := mx.1.2.2.1) oo (fun c => absurd ((nI_leI (by omega) (by omega)).mp c) (by omega)) (fun _ => ?_)
    have t0 := H.1.1.1
    refine k_X1_link_15 (r8 := d1) (r11 := f1) oo ?_
    have tk : (m.2.2.1.take (k + 1)).map (fun s => s.1) = (m.2.2.1.take k).map (fun s => s.1) ++ [s.1] := by
      rw [List.take_add_one, hs, List.map_append]; rfl
    refine cmod_l (Wd' := Wd') (cm := cm) H ((wd.ul u).ma e1) hcn b1 (by have := li.len; omega) hak li.es hE hg (by omega) fun h1 l1 o1 MA1 u1 H1 mx1 => ?_
    have uu : OUL wi W DP X h0 h1 o0 o1 := u.trans u1.ul
    have dr1 : DPR h1 M DP (dpF m dw dp0 k) := dr.oub u1.oub
    have ls2 := ls.ul uu
    obtain ⟨⟨hcn1, ⟨tM1, rT1⟩, sT1, ty1, co1, mxx1⟩, lc1, -⟩ := id ls2
    obtain ⟨g1, g2, g3⟩ := mxx1.2.2.2.1 k s hs
    rw [show M + 1 + 76 + 2 * k = M + 77 + 2 * k by omega] at g1 g2 g3
    obtain ⟨-, d2', -, -⟩ := sT1.2.2.2.1 (32 + k) (by omega)
    rw [show M + 1 + 12 + 2 * (32 + k) = M + 77 + 2 * k by omega] at d2'
    have pb1 : PBA fx XX.G B A W q BA X tt snd lim SP wi F ak g DP (sco Lf RN fs tt) h0 o0 MA0 es0.length h1 l1 o1 MA1 (lkE (vew st Lf fs tt) ((m.2.2.1.take (k + 1)).map fun s => s.1) es0) := by
      rw [tk, lkE_s]
      refine ⟨uu, H1, mx0.tr2 (by rw [List.length_map]; exact mx1) (fun e he => ?_) (by rw [List.length_map]; exact hn0), Nat.le_trans hn0 las_p.1⟩
      exact las_p.2 e (by rw [List.length_map] at he; exact he)
    -- a fault
    have no : sok Wd' cm s = false → ∀ l5 l6, V XX K 88 [.ref A, .ref M, .ref (M + 1), .int (nI k), .ref (M + 77 + 2 * k), l5, l6] [] h1 := fun hs0 l5 l6 => by
      refine k_X1_link_88 oo ?_
      refine k_X1_link_89 oo (fun c => absurd rfl c) (fun _ => ?_)
      have t0' := H1.1.1.1
      refine k_X1_link_96 oo ?_
      refine flt_ok (DP := DP) H1 (by omega) fun h2 u2 H2 dp2 st2 => ?_
      refine kf k s hs hs0 ok h2 l1 o1 MA1 ⟨pb1.1.trans u2, ?_, pb1.2.2⟩ st2 ⟨_, dp2 _ _ dr1⟩
      rw [tk, lkE_s]; exact H2
    cases hm : mof Wd' cm s.1 with
    | none =>
      have hs0 : sok Wd' cm s = false := by unfold sok; rw [hm]
      rw [show (none : Option Md).isSome = false from rfl, if_neg (by decide)]
      exact k_X1_link_36 oo (fun _ => no hs0 _ _) (fun a ca => by cases ca)
    | some m' =>
      rw [show (some m').isSome = true from rfl, if_pos rfl, e1]
      obtain ⟨md', dr', ne', d24, gm', -⟩ := lc1 s.1 m' hm
      generalize (if s.1 = 0 then CM else MA0.1 s.1) = M' at md' dr' ⊢
      obtain ⟨⟨tM', rT'⟩, sT', ty', co', mx'⟩ := id md'
      have tT' := sT'.1.1
      have rS' := sT'.1.2.1
      have tS' := sT'.2.1.1
      have o32' := mx'.2.1.2.1
      refine k_X1_link_36 oo (fun c => by cases c) (fun a ca => ?_)
      rw [← Option.some.inj ca]
      refine k_X1_link_43 (r2 := g2) (r8 := mx'.1.2.1) oo (fun c => no ?_ _ _) (fun c => ?_)
      · have c := (nI_leI (by omega) (by omega)).mp c
        unfold sok
        rw [hm]
        simp only [List.getElem?_eq_none c]
      have c' : s.2.1 < m'.2.1.length := by
        apply Nat.lt_of_not_le
        exact fun q => c ((nI_leI (by omega) (by omega)).mpr q)
      obtain ⟨s', hs'⟩ : ∃ s', m'.2.1[s.2.1]? = some s' := ⟨_, List.getElem?_eq_getElem c'⟩
      obtain ⟨w1, w2, -, -⟩ := sT'.2.2.2.1 s.2.1 (by omega)
      obtain ⟨-, w3, -⟩ := mx'.2.2.1 s.2.1 s' hs'
      have ix' : IX (nI s.2.1) 64 s.2.1 := IX.mk (by omega) (by omega)
      have a1 := gm'.1.1 s' (List.mem_of_getElem? hs')
      have a2 := g4.2 s sm
      have sk : sok Wd' cm s = decide (s'.2.1 = s.2.2) := by
        unfold sok
        rw [hm]
        simp only [hs']
      refine k_X1_link_59 (r8 := g2) (r14 := w1) (r17 := w3) (r19 := g3) oo (fun c => no ?_ _ _) (fun c => ?_)
      · rw [sk]
        exact decide_eq_false fun q => c (by rw [q])
      have sk1 : sok Wd' cm s = true := by
        rw [sk]
        exact decide_eq_true ((nI_eq (by omega) (by omega)).mp c)
      refine k_X1_link_84 oo ?_
      refine k_X1_link_89 oo (fun _ => ?_) (fun c => absurd c (by decide))
      have tT1 := sT1.1.1
      obtain ⟨y1, y2, y3⟩ := dr1
      obtain ⟨x1, x2, x3⟩ := dr'
      obtain ⟨x3, -⟩ := x3 s.2.1 (by omega)
      have ix2 : IX (nI m.2.1.length + nI k) 64 (m.2.1.length + k) := by rw [nI_add]; exact IX.mk (by omega) (by omega)
      refine k_X1_link_103 (r5 := mxx1.1.2.1) (r11 := g2) (r17 := x3) oo ?_
      rw [nI_add]
      have q2 : Fq (P2 DP X) h1 (h1.sEI 192 DP (m.2.1.length + k) (nI (dw s.1 s.2.1))) := Fq.sEI (Fq.refl h1) (Or.inl ⟨rfl, rfl⟩)
      have rd : ∀ i, i < 64 → (h1.sEI 192 DP (m.2.1.length + k) (nI (dw s.1 s.2.1))).EI 192 DP i = nI (dpF m dw dp0 (k + 1) i) ∧ dpF m dw dp0 (k + 1) i < 1000000 := fun i hi => by
        by_cases ci : i = m.2.1.length + k
        · subst ci
          have e : dpF m dw dp0 (k + 1) (m.2.1.length + k) = dw s.1 s.2.1 := by
            unfold dpF
            rw [if_pos (by omega)]
            unfold fdn
            rw [show m.2.1.length + k - m.2.1.length = k by omega, hs]
          rw [e]
          exact ⟨by simp [n_sI, z_sI, tag_sI, I_sI, J_sI, R_sI, EI_sI, EJ_sI, ER_sI, n_sJ, z_sJ, tag_sJ, I_sJ, J_sJ, R_sJ, EI_sJ, EJ_sJ, ER_sJ, n_sR, z_sR, tag_sR, I_sR, J_sR, R_sR, EI_sR, EJ_sR, ER_sR, n_sEI, z_sEI, tag_sEI, I_sEI, J_sEI, R_sEI, EI_sEI, EJ_sEI, ER_sEI, n_sEJ, z_sEJ, tag_sEJ, I_sEJ, J_sEJ, R_sEJ, EI_sEJ, EJ_sEJ, ER_sEJ, n_sER, z_sER, tag_sER, I_sER, J_sER, R_sER, EI_sER, EJ_sER, ER_sER, n_nw, z_nw, tag_nw, I_nw, J_nw, R_nw, EI_nw, EJ_nw, ER_nw], by have := d24 s.2.1 c'; omega⟩
        · have e : dpF m dw dp0 (k + 1) i = dpF m dw dp0 k i := by
            unfold dpF
            by_cases c1 : m.2.1.length ≤ i ∧ i < m.2.1.length + k
            · rw [if_pos c1, if_pos (by omega)]
            · rw [if_neg c1, if_neg (by omega)]
          rw [e]
          refine ⟨?_, (y3 i hi).2⟩
          rw [← (y3 i hi).1]
          simp [n_sI, z_sI, tag_sI, I_sI, J_sI, R_sI, EI_sI, EJ_sI, ER_sI, n_sJ, z_sJ, tag_sJ, I_sJ, J_sJ, R_sJ, EI_sJ, EJ_sJ, ER_sJ, n_sR, z_sR, tag_sR, I_sR, J_sR, R_sR, EI_sR, EJ_sR, ER_sR, n_sEI, z_sEI, tag_sEI, I_sEI, J_sEI, R_sEI, EI_sEI, EJ_sEI, ER_sEI, n_sEJ, z_sEJ, tag_sEJ, I_sEJ, J_sEJ, R_sEJ, EI_sEJ, EJ_sEJ, ER_sEJ, n_sER, z_sER, tag_sER, I_sER, J_sER, R_sER, EI_sER, EJ_sER, ER_sER, n_nw, z_nw, tag_nw, I_nw, J_nw, R_nw, EI_nw, EJ_nw, ER_nw, ci]
      have tg2 : (h1.sEI 192 DP (m.2.1.length + k) (nI (dw s.1 s.2.1))).R 131 M = some DP := y1
      generalize h1.sEI 192 DP (m.2.1.length + k) (nI (dw s.1 s.2.1)) = h2 at q2 rd tg2
      obtain ⟨u2, H2⟩ := pb1.2.1.p2 q2
      refine ih (k + 1) h2 l1 o1 MA1 (by omega) ⟨pb1.1.trans u2, H2, pb1.2.2⟩ ⟨tg2, q2.1.tag y2, rd⟩ (fun j s'' hj hs'' => ?_) ?_ _ _ _
      · rcases Nat.lt_or_ge j k with c1 | c1
        · exact ok j s'' c1 hs''
        · obtain rfl : j = k := by omega
          rw [hs] at hs''
          rw [← Option.some.inj hs'']; exact sk1
      · rw [tk, lkE_s]
        refine li.ls ?_
        by_cases c0 : s.1 = 0
        · exact Or.inl c0
        · refine Or.inr (hms s.1 m' ?_ c0)
          unfold mof at hm
          rw [if_neg c0] at hm
          exact hm
end
