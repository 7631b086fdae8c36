/-! all numbers, looked at -/
theorem rdL_v {n : Nat} {B : Nat → Nat} {hi p q : Nat} {l : TL} (h : rdL n B hi p = .ok (l, q)) : B p = l.length ∧ p < n ∧ rep (rdT n B true) l.length (p + 1) = .ok (l, q) := by
  obtain ⟨k, p1, h1, h2⟩ := bd_ok h
  obtain ⟨rfl, rfl, e1, -⟩ := rdC_ok h1
  have := rep_len h2
  rw [this]
  exact ⟨rfl, e1, h2⟩
theorem rdU_v {n : Nat} {B : Nat → Nat} {p q : Nat} {u : Ux} (h : rdU n B p = .ok (u, q)) : B p = u.1 ∧ p < n ∧ ∃ p2 p3 p4, rdL n B 8 (p + 1) = .ok (u.2.1, p2) ∧ rdL n B 8 p2 = .ok (u.2.2.1, p3) ∧ rdL n B 32 p3 = .ok (u.2.2.2.1, p4) ∧ rep (rdI n B) (ui u).length (p4 + 2) = .ok (ui u, q) := by
  obtain ⟨a, p1, h1, h⟩ := bd_ok h
  obtain ⟨rfl, rfl, e1, -⟩ := rdC_ok h1
  obtain ⟨t, p2, h2, h⟩ := bd_ok h
  obtain ⟨g, p3, h3, h⟩ := bd_ok h
  obtain ⟨l, p4, h4, h⟩ := bd_ok h
  obtain ⟨k, p5, h5, h⟩ := bd_ok h
  obtain ⟨rfl, rfl, -⟩ := rdN_ok h5
  obtain ⟨w, p6, h6, h⟩ := bd_ok h
  obtain ⟨-, rfl⟩ := nd_ok h6
  obtain ⟨is, p7, h7, h⟩ := bd_ok h
  cases h
  have := rep_len h7
  refine ⟨rfl, e1, p2, p3, p4, h2, h3, h4, ?_⟩
  show rep (rdI n B) is.length (p4 + 2) = _
  rw [this]; exact h7
theorem rdI_at {n : Nat} {B : Nat → Nat} : ∀ {k p q : Nat} {l : List Ix}, rep (rdI n B) k p = .ok (l, q) → ∀ x ∈ l, ∃ q', rdI n B x.2.2.2 = .ok (x, q')
  | 0, p, q, l, h, x, hx => by cases h; cases hx
  | k + 1, p, q, l, h, x, hx => by
    obtain ⟨a, p1, h1, h2⟩ := bd_ok h
    obtain ⟨l', p2, h3, h4⟩ := bd_ok h2
    cases h4
    rcases List.mem_cons.mp hx with rfl | hx
    · have := (rdI_v h1).2.2.2.2.1
      rw [this]; exact ⟨_, h1⟩
    · exact rdI_at h3 x hx
theorem uis_get {us : List Ux} {f i : Nat} {u : Ux} {x : Ix} (hu : us[f]? = some u) (hx : (ui u)[i]? = some x) : (uis us)[(uis (us.take f)).length + i]? = some x := by
  have hf := get_lt hu
  have e : us = us.take f ++ u :: us.drop (f + 1) := by
    have hh := List.getElem?_eq_some_iff.mp hu
    obtain ⟨h1, h2⟩ := hh
    rw [← h2, ← List.drop_eq_getElem_cons h1, List.take_append_drop]
  have e2 : uis us = uis (us.take f) ++ (ui u ++ uis (us.drop (f + 1))) := by
    conv => lhs; rw [e]
    simp [uis]
  rw [e2, List.getElem?_append_right (by omega), Nat.add_sub_cancel_left, List.getElem?_append_left (get_lt hx)]
  exact hx
theorem uis_tk {us : List Ux} {f : Nat} {u : Ux} (hu : us[f]? = some u) : (uis (us.take (f + 1))).length = (uis (us.take f)).length + (ui u).length := by
  rw [List.take_succ, hu]
  show (uis (us.take f ++ [u])).length = _
  rw [uis_s, List.length_append]
/-- where a function's lists begin -/
theorem uLA_ok {G : Gt} {d : Nat} {h : AH} {K : Outcome → AH → Prop} {U n f w : Nat} {B : Nat → Nat} {m : Md} {u : Ux} (hs : SU h U n B) (hm : UM h U n B m) (hu : m.2.2.2.2.2[f]? = some u) (hw : w ≤ 2) (hd : 3 ≤ d)
    (kk : ∀ p l hi q, rdL n B hi p = .ok (l, q) → (w = 0 → l = u.2.1) → (w = 1 → l = u.2.2.1) → (w = 2 → l = u.2.2.2.1) → K (.returned (some (.int (nI p)))) h) : MW G d e_X29_listAt [.ref U, .int (nI f), .int (nI w)] h K := by
  refine st_X29_listAt fun X o hG hD _ => ?_
  subst hG; subst hD
  obtain ⟨⟨u3, ⟨z1, z2, z3, z4, z5, z6, z7, z8⟩, y1, y2, y3, y4, y5, y6, y7, y8⟩, -⟩ := id hs
  have hn := hs.2.2.1
  have hf := get_lt hu
  have h64 := hm.2.2.2.2.1.2.1
  obtain ⟨p, q, e1, e2, e3⟩ := hm.2.2.2.2.2.1 f u hu
  rw [Nat.zero_add] at e1
  have ix : IX (nI f) 64 f := IX.mk (by omega) (by omega)
  obtain ⟨-, -, p2, p3, p4, l1, l2, l3, -⟩ := rdU_v e3
  refine k_X29_listAt_0 o ?_
  rw [nI_add]
  have fin : ∀ i p', w ≤ i → i ≤ 2 → K (.returned (some (.int (nI p')))) h → V X K 12 [.ref U, .int (nI f), .int (nI w), .int (nI p'), .int (nI i)] [] h := fun i p' hi hi2 k => by
    refine k_X29_listAt_12 o (fun _ => ?_) (fun c => absurd ((nI_leI (by omega) (by omega)).mpr hi) c)
    refine k_X29_listAt_30 o ?_
    exact k
  have go : ∀ i p' l hi p'', i < w → rdL n B hi p' = .ok (l, p'') → V X K 12 [.ref U, .int (nI f), .int (nI w), .int (nI p''), .int (nI (i + 1))] [] h → V X K 12 [.ref U, .int (nI f), .int (nI w), .int (nI p'), .int (nI i)] [] h := fun i p' l hi p'' hi' hl v => by
    refine k_X29_listAt_12 o (fun c => ?_) (fun _ => ?_)
    · exact absurd ((nI_leI (by omega) (by omega)).mp c) (by omega)
    refine k_X29_listAt_18 o ?_
    refine ulE_ok hs hl (by omega) ?_
    refine k_X29_listAt_23 o ?_
    rw [nI_add]
    exact v
  rcases (show w = 0 ∨ w = 1 ∨ w = 2 by omega) with e | e | e
  · subst e
    exact fin 0 _ (by omega) (by omega) (kk _ _ _ _ l1 (fun _ => rfl) (fun z => by cases z) (fun z => by cases z))
  · subst e
    refine go 0 _ _ _ _ (by omega) l1 ?_
    exact fin 1 _ (by omega) (by omega) (kk _ _ _ _ l2 (fun z => by cases z) (fun _ => rfl) (fun z => by cases z))
  · subst e
    refine go 0 _ _ _ _ (by omega) l1 ?_
    refine go 1 _ _ _ _ (by omega) l2 ?_
    exact fin 2 _ (by omega) (by omega) (kk _ _ _ _ l3 (fun z => by cases z) (fun z => by cases z) (fun _ => rfl))
def ulst (u : Ux) (w : Nat) : TL := if w = 0 then u.2.1 else if w = 1 then u.2.2.1 else u.2.2.2.1
theorem uMI_ok {G : Gt} {d : Nat} {h : AH} {K : Outcome → AH → Prop} {U n f w : Nat} {B : Nat → Nat} {m : Md} {u : Ux} (hs : SU h U n B) (hm : UM h U n B m) (hu : m.2.2.2.2.2[f]? = some u) (hw : w ≤ 2) (hd : 4 ≤ d)
    (kk : K (.returned (some (.int (nI (ulst u w).length)))) h) : MW G d e_X29_manyIn [.ref U, .int (nI f), .int (nI w)] h K := by
  refine st_X29_manyIn fun X o hG hD _ => ?_
  subst hG; subst hD
  have s0 := hs.1.1
  have hn := hs.2.2.1
  refine k_X29_manyIn_0 o ?_
  refine uLA_ok hs hm hu hw (by omega) fun p l hi q el w0 w1 w2 => ?_
  obtain ⟨e1, e2, -⟩ := rdL_v el
  have el : l = ulst u w := by
    unfold ulst
    rcases (show w = 0 ∨ w = 1 ∨ w = 2 by omega) with e | e | e
    · rw [if_pos e]; exact w0 e
    · rw [if_neg (by omega), if_pos e]; exact w1 e
    · rw [if_neg (by omega), if_neg (by omega)]; exact w2 e
  rw [← el, ← e1] at kk
  refine k_X29_manyIn_7 o ?_
  refine ubyte_ok hs (by omega) ?_
  exact k_X29_manyIn_10 o kk
theorem LFt.or {h : AH} {U : Nat} {e : Nat × Nat} {r : Option (Nat × Nat)} (l : LFt h U (some e)) : LFt h U ((some e).or r) := l
theorem ulA_ok {G : Gt} {d : Nat} {h : AH} {K : Outcome → AH → Prop} {U n : Nat} {B : Nat → Nat} {m : Md} (hs : SU h U n B) (hm : UM h U n B m) (hr : h.I 3587 U = 0) (hul : ∀ u ∈ m.2.2.2.2.2, nlo u < 256 ∧ (ui u).length ≤ 1024) (hd : 5 ≤ d)
    (kk : ∀ h', Fq (UQ ulF U) h h' → LFt h' U (bds m) → K (.returned none) h') : MW G d e_X29_lookAll [.ref U] h K := by
  refine st_X29_lookAll fun X o hG hD _ => ?_
  subst hG; subst hD
  have s0 := hs.1.1
  have hn := hs.2.2.1
  have hB := hs.2.2.2.1
  have cz : ∀ {hx : AH}, Fq (UQ ulF U) h hx → SU hx U n B ∧ UM hx U n B m ∧ hx.I 3589 U = nI m.2.1.length ∧ hx.I 3590 U = nI m.2.2.1.length ∧ hx.I 3591 U = nI m.2.2.2.1.length ∧ hx.I 3592 U = nI m.2.2.2.2.1.length ∧ hx.I 3593 U = nI m.2.2.2.2.2.length := fun fx =>
    have mx := hm.uq fx rfl
    ⟨hs.uq fx rfl, mx, mx.1.1, mx.2.1.1, mx.2.2.1.1, mx.2.2.2.1.1, mx.2.2.2.2.1.1⟩
  have b1 := hm.1.2.1
  have b2 := hm.2.1.2.1
  have b3 := hm.2.2.1.2.1
  have b4 := hm.2.2.2.1.2.1
  have b5 := hm.2.2.2.2.1.2.1
  have b6 := hm.2.2.2.2.1.2.2
  have dropc : ∀ {α : Type} {l l' : List α} {j : Nat} {x : α}, l.drop j = x :: l' → l[j]? = some x ∧ l.drop (j + 1) = l' ∧ j < l.length := fun {α l l' j x} e => by
    have h1 : j < l.length := by
      rcases Nat.lt_or_ge j l.length with z | z
      · exact z
      · rw [List.drop_eq_nil_iff.mpr z] at e; cases e
    refine ⟨?_, ?_, h1⟩
    · have : (l.drop j)[0]? = some x := by rw [e]; rfl
      rw [List.getElem?_drop, Nat.add_zero] at this; exact this
    · rw [← List.drop_drop, e]; rfl
  have goodc : ∀ {hx : AH} {r : Option (Nat × Nat)}, LFt hx U r → (r = none ∧ hx.I 3587 U = 0) ∨ ((∀ r', r.or r' = r) ∧ hx.I 3587 U ≠ 0) := fun {hx r} l => by
    cases r with
    | none => exact Or.inl ⟨rfl, l⟩
    | some e => exact Or.inr ⟨fun _ => rfl, l.2.1⟩
  -- functions
  have ph4 : ∀ us j r hx v2 v3, m.2.2.2.2.2.drop j = us → j ≤ m.2.2.2.2.2.length → Fq (UQ ulF U) h hx → LFt hx U r → (∀ h', Fq (UQ ulF U) h h' → LFt h' U (r.or (bfs m us)) → K (.returned none) h') → V X K 131 [.ref U, .int (nI j), v2, v3] [] hx := by
    intro us
    induction us with
    | nil =>
      intro j r hx v2 v3 hj hjl fx lx kx
      obtain ⟨sx, mx, c1, c2, c3, c4, c5⟩ := cz fx
      have u0 := sx.1.1
      have hj := List.drop_eq_nil_iff.mp hj
      refine k_X29_lookAll_131 o (fun _ => ?_) (fun c => ?_)
      rotate_left
      · exact absurd ((nI_leI (by omega) (by omega)).mpr hj) c
      refine k_X29_lookAll_245 o ?_
      refine kx hx fx ?_
      show LFt hx U (r.or none)
      rw [or_none']; exact lx
    | cons u us ih =>
      intro j r hx v2 v3 hj hjl fx lx kx
      obtain ⟨sx, mx, c1, c2, c3, c4, c5⟩ := cz fx
      obtain ⟨hu, hj2, hjl2⟩ := dropc hj
      obtain ⟨u0, ⟨z1, z2, z3, z4, z5, z6, z7, z8⟩, y1, y2, y3, y4, y5, y6, y7, y8⟩ := sx.1
      refine k_X29_lookAll_131 o (fun c => ?_) (fun _ => ?_)
      · exact absurd ((nI_leI (by omega) (by omega)).mp c) (by omega)
      refine k_X29_lookAll_139 o ?_
      rcases goodc lx with ⟨rn, g⟩ | ⟨rs, g⟩
      rotate_left
      · refine ubad_ok u0 g ?_
        refine k_X29_lookAll_143 o (fun _ => ?_) (fun c => absurd rfl c)
        refine k_X29_lookAll_245 o ?_
        rw [rs] at kx
        exact kx hx fx lx
      subst rn
      refine ugood_ok u0 g ?_
      refine k_X29_lookAll_143 o (fun c => absurd c (by decide)) (fun _ => ?_)
      obtain ⟨p, q, e1, e2, e3⟩ := mx.2.2.2.2.2.1 j u hu
      rw [Nat.zero_add] at e1
      have ixj : IX (nI j) 64 j := IX.mk (by omega) (by omega)
      have ixj2 : IX (nI j) 65 j := IX.mk (by omega) (by omega)
      have ixj3 : IX (nI j + nI 1) 65 (j + 1) := by rw [nI_add]; exact IX.mk (by omega) (by omega)
      obtain ⟨-, hpn, p2, p3, p4, l1, l2, l3, l4⟩ := rdU_v e3
      have hul' := hul u (List.mem_of_getElem? hu)
      refine k_X29_lookAll_146 o ?_
      rw [nI_add]
      refine ulL_ok sx l1 c1 c2 b1 b2 lx (by omega) fun h1 f1 r1 => ?_
      have F1 := fx.trans f1
      obtain ⟨sx1, mx1, c11, c12, -⟩ := cz F1
      have u1 := sx1.1.1
      refine k_X29_lookAll_160 o ?_
      refine ulL_ok sx1 l2 c11 c12 b1 b2 r1 (by omega) fun h2 f2 r2 => ?_
      have F2 := F1.trans f2
      obtain ⟨sx2, mx2, c21, c22, -⟩ := cz F2
      have u2 := sx2.1.1
      refine k_X29_lookAll_163 o ?_
      refine ulL_ok sx2 l3 c21 c22 b1 b2 r2 (by omega) fun h3 f3 r3 => ?_
      have F3 := F2.trans f3
      obtain ⟨sx3, mx3, -⟩ := cz F3
      obtain ⟨w0, ⟨w1, w2, w3, w4, w5, w6, w7, w8⟩, x1, x2, x3, x4, x5, x6, x7, x8⟩ := sx3.1
      have eut : ((none.or (u.2.1.findSome? (tck (m.2.1.length + m.2.2.1.length)))).or (u.2.2.1.findSome? (tck (m.2.1.length + m.2.2.1.length)))).or (u.2.2.2.1.findSome? (tck (m.2.1.length + m.2.2.1.length))) = (ut u).findSome? (tck (nst m)) := by
        show (((u.2.1.findSome? (tck (nst m)))).or (u.2.2.1.findSome? (tck (nst m)))).or (u.2.2.2.1.findSome? (tck (nst m))) = (u.2.1 ++ u.2.2.1 ++ u.2.2.2.1).findSome? (tck (nst m))
        rw [fsm_or, fsm_or]
      rw [eut] at r3
      refine k_X29_lookAll_166 o ?_
      refine uMI_ok sx3 mx3 hu (by omega) (by omega) ?_
      refine k_X29_lookAll_173 o ?_
      refine uMI_ok sx3 mx3 hu (by omega) (by omega) ?_
      have hfs := mx3.2.2.2.2.2.2.1 j hjl2
      obtain ⟨hf1, hf2⟩ := hfs
      refine k_X29_lookAll_179 o ?_
      rw [nI_add]
      have enl : (ulst u 0).length + (ulst u 2).length = nlo u := rfl
      rw [enl]
      have htk := uis_tk hu
      have hle : (uis (m.2.2.2.2.2.take (j + 1))).length ≤ n := by
        refine Nat.le_trans ?_ b6
        have : uis m.2.2.2.2.2 = uis (m.2.2.2.2.2.take (j + 1)) ++ uis (m.2.2.2.2.2.drop (j + 1)) := by
          unfold uis; rw [← List.flatMap_append, List.take_append_drop]
        rw [this]; simp
      generalize hN : (uis (m.2.2.2.2.2.take j)).length = N at *
      -- its instructions
      have inner : ∀ is i r hy, (ui u).drop i = is → i ≤ (ui u).length → Fq (UQ ulF U) h hy → LFt hy U r → (∀ h', Fq (UQ ulF U) h h' → LFt h' U ((r.or (is.findSome? (ick m u))).or (bfs m us)) → K (.returned none) h') → V X K 188 [.ref U, .int (nI j), .int (nI (nlo u)), .int (nI (N + i))] [] hy := by
        intro is
        induction is with
        | nil =>
          intro i r hy hi hil fy ly ky
          obtain ⟨sy, my, -⟩ := cz fy
          obtain ⟨t0, ⟨t1, t2, t3, t4, t5, t6, t7, t8⟩, v1, v2, v3, v4, v5, v6, v7, v8⟩ := sy.1
          have hi := List.drop_eq_nil_iff.mp hi
          have hg2 := (my.2.2.2.2.2.2.1 j hjl2).2
          rw [htk] at hg2
          refine k_X29_lookAll_188 o (fun _ => ?_) (fun c => ?_)
          rotate_left
          · exact absurd ((nI_leI (by omega) (by omega)).mpr (by omega)) c
          refine k_X29_lookAll_239 o ?_
          rw [nI_add]
          refine ih (j + 1) r hy _ _ hj2 (by omega) fy ly fun h' f' l' => ky h' f' ?_
          show LFt h' U ((r.or none).or (bfs m us))
          rw [or_none']; exact l'
        | cons x is ih2 =>
          intro i r hy hi hil fy ly ky
          obtain ⟨sy, my, -⟩ := cz fy
          obtain ⟨t0, ⟨t1, t2, t3, t4, t5, t6, t7, t8⟩, v1, v2, v3, v4, v5, v6, v7, v8⟩ := sy.1
          obtain ⟨hx, hi2, hil2⟩ := dropc hi
          have hg1 := (my.2.2.2.2.2.2.1 j hjl2).1
          have hg2 := (my.2.2.2.2.2.2.1 j hjl2).2
          rw [htk] at hg2
          rw [hN] at hg1
          refine k_X29_lookAll_188 o (fun c => ?_) (fun _ => ?_)
          · exact absurd ((nI_leI (by omega) (by omega)).mp c) (by omega)
          refine k_X29_lookAll_200 o ?_
          rcases goodc ly with ⟨rn, g⟩ | ⟨rs, g⟩
          rotate_left
          · refine ubad_ok t0 g ?_
            refine k_X29_lookAll_204 o (fun _ => ?_) (fun c => absurd rfl c)
            refine k_X29_lookAll_239 o ?_
            rw [nI_add]
            refine ih (j + 1) r hy _ _ hj2 (by omega) fy ly fun h' f' l' => ky h' f' ?_
            rw [rs]; exact l'
          subst rn
          refine ugood_ok t0 g ?_
          refine k_X29_lookAll_204 o (fun c => absurd c (by decide)) (fun _ => ?_)
          have hxi := my.2.2.2.2.2.2.2 _ x (uis_get hu hx)
          rw [Nat.zero_add, hN] at hxi
          have ixx : IX (nI (N + i)) 2049 (N + i) := IX.mk (by omega) (by omega)
          obtain ⟨qx, hrx⟩ := rdI_at l4 x (List.mem_of_getElem? hx)
          refine k_X29_lookAll_207 o ?_
          rw [nI_sub (by omega), show N + (ui u).length - N = (ui u).length by omega]
          refine ulI_ok sy my hrx g hul' (by omega) fun h' f' l' => ?_
          refine k_X29_lookAll_233 o ?_
          rw [nI_add]
          refine ih2 (i + 1) _ h' hi2 (by omega) (fy.trans f') l' fun h'' f'' l'' => ky h'' f'' ?_
          rw [fsm_c]; exact l''
      refine inner (ui u) 0 _ h3 rfl (by omega) F3 r3 fun h' f' l' => kx h' f' ?_
      show LFt h' U (((ut u).findSome? (tck (nst m))).or (((ui u).findSome? (ick m u)).or (bfs m us)))
      rw [← or_as]; exact l'
  -- elements
  have ph3 : ∀ es j r hx v2 v3, m.2.2.2.2.1.drop j = es → j ≤ m.2.2.2.2.1.length → Fq (UQ ulF U) h hx → LFt hx U r → (∀ h', Fq (UQ ulF U) h h' → LFt h' U ((r.or (es.findSome? (tck (nst m)))).or (bfs m m.2.2.2.2.2)) → K (.returned none) h') → V X K 97 [.ref U, .int (nI j), v2, v3] [] hx := by
    intro es
    induction es with
    | nil =>
      intro j r hx v2 v3 hj hjl fx lx kx
      obtain ⟨sx, mx, c1, c2, c3, c4, c5⟩ := cz fx
      have u0 := sx.1.1
      have hj := List.drop_eq_nil_iff.mp hj
      refine k_X29_lookAll_97 o (fun _ => ?_) (fun c => ?_)
      rotate_left
      · exact absurd ((nI_leI (by omega) (by omega)).mpr hj) c
      refine k_X29_lookAll_129 o ?_
      refine ph4 _ 0 r hx _ _ rfl (by omega) fx lx fun h' f' l' => kx h' f' ?_
      show LFt h' U ((r.or none).or _)
      rw [or_none']; exact l'
    | cons x es ih =>
      intro j r hx v2 v3 hj hjl fx lx kx
      obtain ⟨sx, mx, c1, c2, c3, c4, c5⟩ := cz fx
      obtain ⟨hu, hj2, hjl2⟩ := dropc hj
      obtain ⟨u0, ⟨z1, z2, z3, z4, z5, z6, z7, z8⟩, y1, y2, y3, y4, y5, y6, y7, y8⟩ := sx.1
      refine k_X29_lookAll_97 o (fun c => ?_) (fun _ => ?_)
      · exact absurd ((nI_leI (by omega) (by omega)).mp c) (by omega)
      refine k_X29_lookAll_105 o ?_
      rcases goodc lx with ⟨rn, g⟩ | ⟨rs, g⟩
      rotate_left
      · refine ubad_ok u0 g ?_
        refine k_X29_lookAll_109 o (fun _ => ?_) (fun c => absurd rfl c)
        refine k_X29_lookAll_129 o ?_
        refine ph4 _ 0 r hx _ _ rfl (by omega) fx lx fun h' f' l' => kx h' f' ?_
        rw [rs (List.findSome? _ _)]; exact l'
      subst rn
      refine ugood_ok u0 g ?_
      refine k_X29_lookAll_109 o (fun c => absurd c (by decide)) (fun _ => ?_)
      obtain ⟨p, q, e1, e2, e3⟩ := mx.2.2.2.1.2.2 j x hu
      rw [Nat.zero_add] at e1
      have ixj : IX (nI j) 32 j := IX.mk (by omega) (by omega)
      refine k_X29_lookAll_112 o ?_
      refine ulT_ok sx e3 c1 c2 b1 b2 lx (by omega) fun h1 f1 r1 => ?_
      refine k_X29_lookAll_122 o ?_
      rw [nI_add]
      refine ih (j + 1) _ h1 _ _ hj2 (by omega) (fx.trans f1) r1 fun h' f' l' => kx h' f' ?_
      rw [fsm_c]; exact l'
  -- foreign functions
  have ph2 : ∀ cs j r hx v2 v3, m.2.2.2.1.drop j = cs → j ≤ m.2.2.2.1.length → Fq (UQ ulF U) h hx → LFt hx U r → (∀ h', Fq (UQ ulF U) h h' → LFt h' U (((r.or ((ccs cs).findSome? (tck (nst m)))).or (m.2.2.2.2.1.findSome? (tck (nst m)))).or (bfs m m.2.2.2.2.2)) → K (.returned none) h') → V X K 57 [.ref U, .int (nI j), v2, v3] [] hx := by
    intro cs
    induction cs with
    | nil =>
      intro j r hx v2 v3 hj hjl fx lx kx
      obtain ⟨sx, mx, c1, c2, c3, c4, c5⟩ := cz fx
      have u0 := sx.1.1
      have hj := List.drop_eq_nil_iff.mp hj
      refine k_X29_lookAll_57 o (fun _ => ?_) (fun c => ?_)
      rotate_left
      · exact absurd ((nI_leI (by omega) (by omega)).mpr hj) c
      refine k_X29_lookAll_95 o ?_
      refine ph3 _ 0 r hx _ _ rfl (by omega) fx lx fun h' f' l' => kx h' f' ?_
      show LFt h' U (((r.or none).or _).or _)
      rw [or_none']; exact l'
    | cons x cs ih =>
      intro j r hx v2 v3 hj hjl fx lx kx
      obtain ⟨sx, mx, c1, c2, c3, c4, c5⟩ := cz fx
      obtain ⟨hu, hj2, hjl2⟩ := dropc hj
      obtain ⟨u0, ⟨z1, z2, z3, z4, z5, z6, z7, z8⟩, y1, y2, y3, y4, y5, y6, y7, y8⟩ := sx.1
      refine k_X29_lookAll_57 o (fun c => ?_) (fun _ => ?_)
      · exact absurd ((nI_leI (by omega) (by omega)).mp c) (by omega)
      refine k_X29_lookAll_65 o ?_
      rcases goodc lx with ⟨rn, g⟩ | ⟨rs, g⟩
      rotate_left
      · refine ubad_ok u0 g ?_
        refine k_X29_lookAll_69 o (fun _ => ?_) (fun c => absurd rfl c)
        refine k_X29_lookAll_95 o ?_
        refine ph3 _ 0 r hx _ _ rfl (by omega) fx lx fun h' f' l' => kx h' f' ?_
        rw [rs (List.findSome? _ (ccs _))]; exact l'
      subst rn
      refine ugood_ok u0 g ?_
      refine k_X29_lookAll_69 o (fun c => absurd c (by decide)) (fun _ => ?_)
      obtain ⟨p, q, e1, e2, e3⟩ := mx.2.2.1.2.2 j x hu
      rw [Nat.zero_add] at e1
      have ixj : IX (nI j) 32 j := IX.mk (by omega) (by omega)
      obtain ⟨p4, p5, l1, l2⟩ : ∃ p4 p5, rdL n B 8 (p + 4) = .ok (x.2.2.2.1, p4) ∧ rdL n B 8 p4 = .ok (x.2.2.2.2, p5) := by
        obtain ⟨_, p1, h1, hh⟩ := bd_ok e3
        obtain ⟨-, rfl, -⟩ := rdN_ok h1
        obtain ⟨_, p2, h2, hh⟩ := bd_ok hh
        obtain ⟨-, rfl, -⟩ := rdB_ok h2
        obtain ⟨_, p3, h3, hh⟩ := bd_ok hh
        obtain ⟨-, rfl, -⟩ := rdC_ok h3
        obtain ⟨t, p4, h4, hh⟩ := bd_ok hh
        obtain ⟨g', p5, h5, hh⟩ := bd_ok hh
        cases hh
        exact ⟨_, _, h4, h5⟩
      refine k_X29_lookAll_72 o ?_
      rw [nI_add]
      refine ulL_ok sx l1 c1 c2 b1 b2 lx (by omega) fun h1 f1 r1 => ?_
      have F1 := fx.trans f1
      obtain ⟨sx1, mx1, c11, c12, -⟩ := cz F1
      have u1 := sx1.1.1
      refine k_X29_lookAll_85 o ?_
      refine ulL_ok sx1 l2 c11 c12 b1 b2 r1 (by omega) fun h2 f2 r2 => ?_
      refine k_X29_lookAll_88 o ?_
      rw [nI_add]
      refine ih (j + 1) _ h2 _ _ hj2 (by omega) (F1.trans f2) r2 fun h' f' l' => kx h' f' ?_
      have e : (ccs (x :: cs)).findSome? (tck (nst m)) = ((x.2.2.2.1.findSome? (tck (nst m))).or (x.2.2.2.2.findSome? (tck (nst m)))).or ((ccs cs).findSome? (tck (nst m))) := by
        show ((x.2.2.2.1 ++ x.2.2.2.2) ++ ccs cs).findSome? (tck (nst m)) = _
        rw [fsm_or, fsm_or]
      rw [e]; exact l'
  -- structures
  have ph1 : ∀ ss j r hx v2 v3, m.2.1.drop j = ss → j ≤ m.2.1.length → Fq (UQ ulF U) h hx → LFt hx U r → (∀ h', Fq (UQ ulF U) h h' → LFt h' U ((((r.or ((sst ss).findSome? (tck (nst m)))).or ((ccs m.2.2.2.1).findSome? (tck (nst m)))).or (m.2.2.2.2.1.findSome? (tck (nst m)))).or (bfs m m.2.2.2.2.2)) → K (.returned none) h') → V X K 2 [.ref U, .int (nI j), v2, v3] [] hx := by
    intro ss
    induction ss with
    | nil =>
      intro j r hx v2 v3 hj hjl fx lx kx
      obtain ⟨sx, mx, c1, c2, c3, c4, c5⟩ := cz fx
      have u0 := sx.1.1
      have hj := List.drop_eq_nil_iff.mp hj
      refine k_X29_lookAll_2 o (fun _ => ?_) (fun c => ?_)
      rotate_left
      · exact absurd ((nI_leI (by omega) (by omega)).mpr hj) c
      refine k_X29_lookAll_55 o ?_
      refine ph2 _ 0 r hx _ _ rfl (by omega) fx lx fun h' f' l' => kx h' f' ?_
      show LFt h' U ((((r.or none).or _).or _).or _)
      rw [or_none']; exact l'
    | cons s ss ih =>
      intro j r hx v2 v3 hj hjl fx lx kx
      obtain ⟨sx, mx, c1, c2, c3, c4, c5⟩ := cz fx
      obtain ⟨hu, hj2, hjl2⟩ := dropc hj
      obtain ⟨u0, ⟨z1, z2, z3, z4, z5, z6, z7, z8⟩, y1, y2, y3, y4, y5, y6, y7, y8⟩ := sx.1
      refine k_X29_lookAll_2 o (fun c => ?_) (fun _ => ?_)
      · exact absurd ((nI_leI (by omega) (by omega)).mp c) (by omega)
      refine k_X29_lookAll_10 o ?_
      rcases goodc lx with ⟨rn, g⟩ | ⟨rs, g⟩
      rotate_left
      · refine ubad_ok u0 g ?_
        refine k_X29_lookAll_14 o (fun _ => ?_) (fun c => absurd rfl c)
        refine k_X29_lookAll_55 o ?_
        refine ph2 _ 0 r hx _ _ rfl (by omega) fx lx fun h' f' l' => kx h' f' ?_
        rw [rs (List.findSome? _ (sst _))]; exact l'
      subst rn
      refine ugood_ok u0 g ?_
      refine k_X29_lookAll_14 o (fun c => absurd c (by decide)) (fun _ => ?_)
      obtain ⟨p, q, e1, e2, e3⟩ := mx.1.2.2 j s hu
      rw [Nat.zero_add] at e1
      have ixj : IX (nI j) 64 j := IX.mk (by omega) (by omega)
      have hsl := (rdSt_q hB e3).2.2.2.2.2.2.1
      obtain ⟨q2, e4⟩ : ∃ q2, rep (rdT n B false) s.2.2.length (p + 2) = .ok (s.2.2, q2) := by
        obtain ⟨_, p1, h1, hh⟩ := bd_ok e3
        obtain ⟨-, rfl, -⟩ := rdC_ok h1
        obtain ⟨_, p2, h2, hh⟩ := bd_ok hh
        obtain ⟨rfl, rfl, -⟩ := rdC_ok h2
        obtain ⟨l, p3, h3, hh⟩ := bd_ok hh
        cases hh
        have := rep_len h3
        refine ⟨q, ?_⟩
        show rep (rdT n B false) l.length (p + 2) = _
        rw [this]; exact h3
      refine k_X29_lookAll_17 o ?_
      rw [nI_add]
      have inner : ∀ l k i p1 r hy, k + i = s.2.2.length → rep (rdT n B false) k p1 = .ok (l, q2) → Fq (UQ ulF U) h hy → LFt hy U r → (∀ h', Fq (UQ ulF U) h h' → LFt h' U (((((r.or (l.findSome? (tck (nst m)))).or ((sst ss).findSome? (tck (nst m)))).or ((ccs m.2.2.2.1).findSome? (tck (nst m)))).or (m.2.2.2.2.1.findSome? (tck (nst m)))).or (bfs m m.2.2.2.2.2)) → K (.returned none) h') → V X K 28 [.ref U, .int (nI j), .int (nI p1), .int (nI i)] [] hy := by
        intro l
        induction l with
        | nil =>
          intro k i p1 r hy hk er fy ly ky
          obtain ⟨sy, my, -⟩ := cz fy
          have t0 := sy.1.1
          cases k with
          | succ k =>
            obtain ⟨_, _, _, z⟩ := bd_ok er
            obtain ⟨_, _, _, z⟩ := bd_ok z
            cases z
          | zero =>
            refine k_X29_lookAll_28 o ?_
            refine ufo_ok sy my hu (by omega) ?_
            refine k_X29_lookAll_34 o (fun _ => ?_) (fun c => absurd ((nI_leI (by omega) (by omega)).mpr (by omega)) c)
            refine k_X29_lookAll_49 o ?_
            rw [nI_add]
            refine ih (j + 1) r hy _ _ hj2 (by omega) fy ly fun h' f' l' => ky h' f' ?_
            show LFt h' U (((((r.or none).or _).or _).or _).or _)
            rw [or_none']; exact l'
        | cons y l ih2 =>
          intro k i p1 r hy hk er fy ly ky
          obtain ⟨sy, my, t1, t2, -⟩ := cz fy
          have t0 := sy.1.1
          cases k with
          | zero => cases er
          | succ k =>
            obtain ⟨y', p2, ey, z⟩ := bd_ok er
            obtain ⟨l', p3, el', z⟩ := bd_ok z
            cases z
            refine k_X29_lookAll_28 o ?_
            refine ufo_ok sy my hu (by omega) ?_
            refine k_X29_lookAll_34 o (fun c => ?_) (fun _ => ?_)
            · exact absurd ((nI_leI (by omega) (by omega)).mp c) (by omega)
            refine k_X29_lookAll_37 o ?_
            refine ulT_ok sy ey t1 t2 b1 b2 ly (by omega) fun h1 f1 r1 => ?_
            refine k_X29_lookAll_42 o ?_
            rw [nI_add]
            refine ih2 k (i + 1) p2 _ h1 (by omega) el' (fy.trans f1) r1 fun h' f' l' => ky h' f' ?_
            rw [fsm_c, ← or_as]; exact l'
      refine inner s.2.2 s.2.2.length 0 (p + 2) none hx (by omega) e4 fx lx fun h' f' l' => kx h' f' ?_
      have e : (sst (s :: ss)).findSome? (tck (nst m)) = (s.2.2.findSome? (tck (nst m))).or ((sst ss).findSome? (tck (nst m))) := by
        show (s.2.2 ++ sst ss).findSome? (tck (nst m)) = _
        rw [fsm_or]
      rw [e]; exact l'
  refine k_X29_lookAll_0 o ?_
  refine ph1 m.2.1 0 none h _ _ rfl (by omega) (Fq.refl h) hr fun h' f' l' => kk h' f' ?_
  unfold bds
  rw [fsm_or, fsm_or]
  exact l'
