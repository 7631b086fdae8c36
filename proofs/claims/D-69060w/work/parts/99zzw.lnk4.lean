/-! a publication: the loop over the functions of other modules; the whole of link -/
def fok (W : Wd) (cm m : Md) (f : Cx) : Bool := match mof W cm f.1 with
  | none => false
  | some m' => (match m'.2.2.2.2.2[f.2.1]? with
    | some g => slk m f m' g
    | none => false)
section
variable {B : Nat} {h0 : AH} {o0 : Lc} {MA0 : Ma} {es0 es1 : List En} {dp : Nat → Nat} {wi W A q BA X tt lim SP DP M CM C CW ak g n0 : Nat} {F : Nat → Fm} {snd : Int64} {K : Outcome → AH → Prop} {fs : Nat} {fx : Option Nat} {st : Lw} {Lf : Nat → Lw} {RN : Nat → Int32} {Wd' : Wd} {cm m : Md} {DA : Nat → Nat} {dw : Nat → Nat → Nat} {ms : List Nat} {bs : List Pc}
theorem link_133 {XX : Xt} (oo : OK e_X1_link XX) (ls : LKS h0 A CM M DP C CW MA0 Wd' cm m DA dw) (wd : WRD h0 o0 A W BA tt MA0 fs st Lf RN) (hE : EVW Wd' (vew st Lf fs tt)) (hg : ∀ p, gss Lf fs tt p = none) (hak : ak ≤ 24) (hms : ∀ n m', Wd' n = some m' → n ≠ 0 → n ∈ ms) (hm8 : bs.length + ms.length ≤ 25) (lb : lkB m) (gm : gM m) (hb : smB m) (hd : 53 ≤ XX.d)
    (kf : ∀ k s, m.2.2.2.1[k]? = some s → fok Wd' cm m s = false → (∀ j s', j < k → m.2.2.2.1[j]? = some s' → fok Wd' cm m s' = true) → ∀ h' l' o' MA', PBA fx XX.G B A W q BA X tt snd lim SP wi F ak g DP (sco Lf RN fs tt) h0 o0 MA0 n0 h' l' o' MA' (lkE (vew st Lf fs tt) ((m.2.2.2.1.take (k + 1)).map fun s => s.1) es1) → (h'.I 2709 X = nI k ∧ h'.I 24 A = nI 4 ∧ h'.J 25 A = (nI 23).toInt64) → (∃ dp, DPR h' M DP dp) → K (.threw SP) h')
    (kk : (∀ s ∈ m.2.2.2.1, fok Wd' cm m s = true) → ∀ h l o MA, PBA fx XX.G B A W q BA X tt snd lim SP wi F ak g DP (sco Lf RN fs tt) h0 o0 MA0 n0 h l o MA (lkE (vew st Lf fs tt) (m.2.2.2.1.map fun s => s.1) es1) → DPR h M DP dp → LKI (vew st Lf fs tt) ms bs (lkE (vew st Lf fs tt) (m.2.2.2.1.map fun s => s.1) es1) → K (.returned none) h) :
    ∀ n k h l o MA, n + k = m.2.2.2.1.length → PBA fx XX.G B A W q BA X tt snd lim SP wi F ak g DP (sco Lf RN fs tt) h0 o0 MA0 n0 h l o MA (lkE (vew st Lf fs tt) ((m.2.2.2.1.take k).map fun s => s.1) es1) → DPR h M DP dp → (∀ j s', j < k → m.2.2.2.1[j]? = some s' → fok Wd' cm m s' = true) → LKI (vew st Lf fs tt) ms bs (lkE (vew st Lf fs tt) ((m.2.2.2.1.take k).map fun s => s.1) es1) → ∀ l4 l5 l6, V XX K 133 [.ref A, .ref M, .ref (M + 1), .int (nI k), l4, l5, l6] [] h := by
  intro n
  induction n with
  | zero =>
    intro k h l o MA hk pb dr ok li l4 l5 l6
    obtain rfl : k = m.2.2.2.1.length := by omega
    rw [List.take_of_length_le (Nat.le_refl _)] at pb li
    have tT := (ls.ul pb.1).1.2.2.1.1.1
    have mx := (ls.ul pb.1).1.2.2.2.2.2
    refine k_X1_link_133 (r2 := mx.1.2.2.2.1) oo (fun _ => ?_) (fun c => absurd (Int32.le_refl _) c)
    refine k_X1_link_235 oo ?_
    refine kk (fun s hs => ?_) h l o MA pb dr li
    obtain ⟨j, hj⟩ := List.mem_iff_getElem?.mp hs
    exact ok j s (get_lt hj) hj
  | succ n ih =>
    intro k h l o MA hk pb dr ok li l4 l5 l6
    obtain ⟨u, H, mx0, hn0⟩ := pb
    have ls1 := ls.ul u
    have e1 := mx0.1.1
    obtain ⟨⟨hcn, ⟨tM, rT⟩, sT, ty, co, mx⟩, lc, -⟩ := ls1
    have tT := sT.1.1
    have rS := sT.1.2.2.1
    obtain ⟨s, hs⟩ : ∃ s, m.2.2.2.1[k]? = some s := ⟨_, List.getElem?_eq_getElem (by omega)⟩
    have sm := List.mem_of_getElem? hs
    obtain ⟨b1, b2⟩ := lb.2 s sm
    have f32 := mx.2.1.2.2.2.1
    obtain ⟨f1, -⟩ := mx.2.2.2.2.1 k s hs
    rw [show M + 1 + 396 + 4 * k = M + 397 + 4 * k by omega] at f1
    obtain ⟨d1, d2, -⟩ := sT.2.2.2.2 (64 + k) (by omega)
    rw [show M + 1 + 140 + 4 * (64 + k) = M + 397 + 4 * k by omega] at d1 d2
    have ix : IX (nI 64 + nI k) 96 (64 + k) := by rw [nI_add]; exact IX.mk (by omega) (by omega)
    have t1 := sT.2.1.2.1
    refine k_X1_link_133 (r2 := mx.1.2.2.2.1) oo (fun c => absurd ((nI_leI (by omega) (by omega)).mp c) (by omega)) (fun _ => ?_)
    have t0 := H.1.1.1
    refine k_X1_link_141 (r8 := d1) (r11 := f1) oo ?_
    have tk : (m.2.2.2.1.take (k + 1)).map (fun s => s.1) = (m.2.2.2.1.take k).map (fun s => s.1) ++ [s.1] := by
      rw [List.take_add_one, hs, List.map_append]; rfl
    refine cmod_l (Wd' := Wd') (cm := cm) H ((wd.ul u).ma e1) hcn b1 (by have := li.len; omega) hak li.es hE hg (by omega) fun h1 l1 o1 MA1 u1 H1 mx1 => ?_
    have uu : OUL wi W DP X h0 h1 o0 o1 := u.trans u1.ul
    have dr1 : DPR h1 M DP dp := dr.oub u1.oub
    have ls2 := ls.ul uu
    obtain ⟨⟨hcn1, md1⟩, lc1, -⟩ := id ls2
    obtain ⟨⟨tM1, rT1⟩, sT1, ty1, co1, mxx1⟩ := id md1
    obtain ⟨g1, g2, -⟩ := mxx1.2.2.2.2.1 k s hs
    rw [show M + 1 + 396 + 4 * k = M + 397 + 4 * k by omega] at g1 g2
    obtain ⟨-, d2', -⟩ := sT1.2.2.2.2 (64 + k) (by omega)
    rw [show M + 1 + 140 + 4 * (64 + k) = M + 397 + 4 * k by omega] at d2'
    have pb1 : PBA fx XX.G B A W q BA X tt snd lim SP wi F ak g DP (sco Lf RN fs tt) h0 o0 MA0 n0 h1 l1 o1 MA1 (lkE (vew st Lf fs tt) ((m.2.2.2.1.take (k + 1)).map fun s => s.1) es1) := by
      rw [tk, lkE_s]
      refine ⟨uu, H1, mx0.tr2 (by rw [List.length_map]; exact mx1) (fun e he => ?_) (by rw [List.length_map]; exact hn0), Nat.le_trans hn0 las_p.1⟩
      exact las_p.2 e (by rw [List.length_map] at he; exact he)
    -- a fault
    have no : fok Wd' cm m s = false → ∀ l5 l6, V XX K 214 [.ref A, .ref M, .ref (M + 1), .int (nI k), .ref (M + 397 + 4 * k), l5, l6] [] h1 := fun hs0 l5 l6 => by
      refine k_X1_link_214 oo ?_
      refine k_X1_link_215 oo (fun c => absurd rfl c) (fun _ => ?_)
      have t0' := H1.1.1.1
      refine k_X1_link_222 oo ?_
      refine flt_ok (DP := DP) H1 (by omega) fun h2 u2 H2 dp2 st2 => ?_
      refine kf k s hs hs0 ok h2 l1 o1 MA1 ⟨pb1.1.trans u2, ?_, pb1.2.2⟩ st2 ⟨_, dp2 _ _ dr1⟩
      rw [tk, lkE_s]; exact H2
    cases hm : mof Wd' cm s.1 with
    | none =>
      have hs0 : fok Wd' cm m s = false := by unfold fok; rw [hm]
      rw [show (none : Option Md).isSome = false from rfl, if_neg (by decide)]
      exact k_X1_link_162 oo (fun _ => no hs0 _ _) (fun a ca => by cases ca)
    | some m' =>
      rw [show (some m').isSome = true from rfl, if_pos rfl, e1]
      obtain ⟨md', -, -, -, gm', hb'⟩ := lc1 s.1 m' hm
      generalize (if s.1 = 0 then CM else MA0.1 s.1) = M' at md' ⊢
      obtain ⟨⟨tM', rT'⟩, sT', ty', co', mx'⟩ := id md'
      have tT' := sT'.1.1
      have rS' := sT'.1.2.2.1
      have tS' := sT'.2.1.2.1
      have o64' := mx'.2.1.2.2.2.2.2
      refine k_X1_link_162 oo (fun c => by cases c) (fun a ca => ?_)
      rw [← Option.some.inj ca]
      refine k_X1_link_169 (r2 := g2) (r8 := mx'.1.2.2.2.2) oo (fun c => no ?_ _ _) (fun c => ?_)
      · have c := (nI_leI (by omega) (by omega)).mp c
        unfold fok
        rw [hm]
        simp only [List.getElem?_eq_none c]
      have c' : s.2.1 < m'.2.2.2.2.2.length := by
        apply Nat.lt_of_not_le
        exact fun q => c ((nI_leI (by omega) (by omega)).mpr q)
      obtain ⟨g', hs'⟩ : ∃ g', m'.2.2.2.2.2[s.2.1]? = some g' := ⟨_, List.getElem?_eq_getElem c'⟩
      obtain ⟨w1, w2, -⟩ := sT'.2.2.2.2 s.2.1 (by omega)
      rw [show M' + 1 + 140 + 4 * s.2.1 = M' + 141 + 4 * s.2.1 by omega] at w1 w2
      have ix' : IX (nI s.2.1) 96 s.2.1 := IX.mk (by omega) (by omega)
      have sk : fok Wd' cm m s = slk m s m' g' := by
        unfold fok
        rw [hm]
        simp only [hs']
      refine k_X1_link_185 (r8 := g2) (r14 := w1) oo ?_
      refine isLike_ok md1 md' hs hs' gm gm' hb hb' (by omega) ?_
      rw [← sk]
      cases hf : fok Wd' cm m s with
      | false => exact k_X1_link_207 oo (fun _ => no hf _ _) (fun c => absurd rfl c)
      | true =>
        refine k_X1_link_207 oo (fun c => absurd c (by decide)) (fun _ => ?_)
        refine k_X1_link_210 oo ?_
        refine k_X1_link_215 oo (fun _ => ?_) (fun c => absurd c (by decide))
        refine k_X1_link_229 oo ?_
        rw [nI_add]
        refine ih (k + 1) h1 l1 o1 MA1 (by omega) pb1 dr1 (fun j s'' hj hs'' => ?_) ?_ _ _ _
        · rcases Nat.lt_or_ge j k with c1 | c1
          · exact ok j s'' c1 hs''
          · obtain rfl : j = k := by omega
            rw [hs] at hs''
            rw [← Option.some.inj hs'']; exact hf
        · rw [tk, lkE_s]
          refine li.ls ?_
          by_cases c0 : s.1 = 0
          · exact Or.inl c0
          · refine Or.inr (hms s.1 m' ?_ c0)
            unfold mof at hm
            rw [if_neg c0] at hm
            exact hm
end
