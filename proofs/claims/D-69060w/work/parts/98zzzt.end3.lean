/-! frames end, whole -/
section
variable {G : Gt} {B d : Nat} {h : AH} {l : List Nat} {o : Lc} {wi W A q BA X tt lim SP t : Nat} {snd : Int64} {MA : Ma} {s : Ms} {K : Outcome → AH → Prop} {fs : Nat} {st : Lw} {Lf : Nat → Lw} {RN : Nat → Int32}
theorem OPR.edr (H : OPR G B h A W q BA X tt snd lim SP wi MA l o s) : OPR G B h A W q BA X tt snd lim SP wi MA l o (Edr s 0) := ⟨H.1, H.2.1, H.2.2.1.edr, H.2.2.2.1, H.2.2.2.2.1, H.2.2.2.2.2⟩
theorem end_0 {XX : Xt} (oo : OK e_X1_end XX) {m : Md} {u : Ux} {l1 l2 l3 l4 l5 : Value} (H : OPR XX.G B h A W q BA X tt snd lim SP wi MA l o s) (ht : t + 1 = s.1) (hm : MDR h (MA.1 (tpf s).1.1) m) (hU : m.2.2.2.2.2[(tpf s).1.2]? = some u) (hF : MA.2.1 (tpf s).1 = MA.1 (tpf s).1.1 + 141 + 4 * (tpf s).1.2) (kk : V XX K 16 [.ref A, .int (nI u.2.2.1.length), .int (nI 0), l3, l4, l5] [] h) : V XX K 0 [.ref A, l1, l2, l3, l4, l5] [] h := by
  obtain ⟨c, v, w, hf, hg, hw⟩ := id H
  have hf : h.R 28 A = some (Fa W t) := by rw [hf, show s.1 - 1 = t by omega]
  obtain ⟨⟨sf1, sf2, sf3, sf4, sf5⟩, ⟨⟨m1, m2, m3, m4, m5⟩, -, -, -, -⟩, es, el⟩ := w.F ht
  rw [← tpt ht] at m2
  have t0 := c.1.1
  have k8 := get_lt hU
  have b6 := hm.2.2.2.2.2.1.2.2.2.2.2
  obtain ⟨x1, x2, x3, x4, x5⟩ := hm.2.2.2.2.2.2.2.2.2.2 (tpf s).1.2 u hU
  obtain ⟨d1, d2, ⟨d3, d4, d5⟩, d6, d7, d8⟩ := hm.2.1.2.2.2.2 (tpf s).1.2 (by omega)
  obtain ⟨pre, post, p1, p2, p3⟩ := x3
  have ea : MA.1 (tpf s).1.1 + 1 + 140 + 4 * (tpf s).1.2 = MA.2.1 (tpf s).1 := by rw [hF]
  have eb : MA.1 (tpf s).1.1 + 1 + 142 + 4 * (tpf s).1.2 = MA.2.1 (tpf s).1 + 2 := by rw [hF]; omega
  rw [ea] at d2 d4 p3
  rw [eb] at d4 d7
  exact k_X1_end_0 (r11 := p3) oo kk
theorem end_refs {t1 : Nat} (ht : t1 + 2 = s.1) (hr : ((rfs (sK ((s.1 - 1, s.2.1, s.2.2) : Ms) (stk s ++ stk ((s.1 - 1, s.2.1, s.2.2) : Ms)))).all fun q => q.1.1 != s.1) = true) : (∀ r ∈ (stk s).flatMap rfI, r.1.1 ≠ s.1) ∧ ∀ j, j < t1 + 1 → ∀ r ∈ rfF (s.2.1 j), r.1.1 ≠ s.1 := by
  rw [List.all_eq_true] at hr
  have go : ∀ r, (∃ j, j < t1 + 1 ∧ r ∈ rfF ((sK ((s.1 - 1, s.2.1, s.2.2) : Ms) (stk s ++ stk ((s.1 - 1, s.2.1, s.2.2) : Ms))).2.1 j)) → r.1.1 ≠ s.1 := fun r ⟨j, hj, hq⟩ => by
    have := hr r (rfs_i.mpr ⟨j, by show j < s.1 - 1; omega, hq⟩)
    simpa using this
  have ft : (sK ((s.1 - 1, s.2.1, s.2.2) : Ms) (stk s ++ stk ((s.1 - 1, s.2.1, s.2.2) : Ms))).2.1 t1 = ((s.2.1 t1).1, (s.2.1 t1).2.1, (s.2.1 t1).2.2.1, stk s ++ (s.2.1 t1).2.2.2) := by
    show uF s.2.1 (s.1 - 1 - 1) ((s.2.1 (s.1 - 1 - 1)).1, (s.2.1 (s.1 - 1 - 1)).2.1, (s.2.1 (s.1 - 1 - 1)).2.2.1, stk s ++ (s.2.1 (s.1 - 1 - 1)).2.2.2) t1 = _
    rw [show s.1 - 1 - 1 = t1 by omega]
    unfold uF; rw [if_pos rfl]
  refine ⟨fun r hq => go r ⟨t1, by omega, ?_⟩, fun j hj r hq => go r ⟨j, hj, ?_⟩⟩
  · rw [ft]
    unfold rfF
    refine List.mem_append_left _ ?_
    show r ∈ (stk s ++ (s.2.1 t1).2.2.2).flatMap rfI
    rw [List.flatMap_append]
    exact List.mem_append_left _ hq
  · by_cases c : j = t1
    · subst c
      rw [ft]
      refine rfF_sub (f := ((s.2.1 j).1, (s.2.1 j).2.1, (s.2.1 j).2.2.1, stk s ++ (s.2.1 j).2.2.2)) (f' := s.2.1 j) rfl (fun r' hr' => ?_) hq
      show r' ∈ (stk s ++ (s.2.1 j).2.2.2).flatMap rfI
      rw [List.flatMap_append]
      exact List.mem_append_right _ hr'
    · have : (sK ((s.1 - 1, s.2.1, s.2.2) : Ms) (stk s ++ stk ((s.1 - 1, s.2.1, s.2.2) : Ms))).2.1 j = s.2.1 j := by
        show uF s.2.1 (s.1 - 1 - 1) _ j = _
        exact uF_e (by omega)
      rw [this]; exact hq
/-- the end of a frame that lies above another -/
theorem cend_hi {t1 : Nat} {m : Md} {u : Ux} (H : OPR G B h A W q BA X tt snd lim SP wi MA l o s) (ht : t1 + 2 = s.1) (hm : MDR h (MA.1 (tpf s).1.1) m) (hU : m.2.2.2.2.2[(tpf s).1.2]? = some u) (hF : MA.2.1 (tpf s).1 = MA.1 (tpf s).1.1 + 141 + 4 * (tpf s).1.2) (hl : (stk s).length = u.2.2.1.length) (hr : ((rfs (sK ((s.1 - 1, s.2.1, s.2.2) : Ms) (stk s ++ stk ((s.1 - 1, s.2.1, s.2.2) : Ms)))).all fun q => q.1.1 != s.1) = true) (hL : ∀ k v, lcs s k = some (.inl v) → VW v) (h64 : (s.2.1 t1).2.2.2.length + (stk s).length ≤ 64) (hd : 64 ≤ d) (kk : ∀ h' l' o', OUT wi W h h' o o' → OPR G B h' A W q BA X tt snd lim SP wi MA l' o' (sK ((s.1 - 1, s.2.1, s.2.2) : Ms) (stk s ++ stk ((s.1 - 1, s.2.1, s.2.2) : Ms))) → K (.returned none) h') : MW G d e_X1_end [.ref A] h K := by
  refine st_X1_end fun XX oo hG hD _ => ?_
  subst hG; subst hD
  have hnr := end_refs ht hr
  refine end_0 oo (t := t1 + 1) H (by omega) hm hU hF ?_
  rw [← hl]
  exact end_16 oo (t := t1 + 1) (by omega) hnr hL (by omega) (fun h1 l1 o1 u1 H1 n1 => end_66 oo H1 ht n1 h64 (by omega) fun h2 l2 o2 u2 H2 => kk h2 l2 o2 (u1.trans u2) H2) 40 0 (by omega) h l o OUT.refl H.edr (fun k hk => by omega)
/-- the end of a call -/
theorem cend_lo {m : Md} {u : Ux} {RT RH RL : Nat} {vs : List VL} {env : Pc → Cn} (H : OPR G B h A W q BA X tt snd lim SP wi MA l o s) (hs1 : s.1 = 1) (hm : MDR h (MA.1 (tpf s).1.1) m) (hU : m.2.2.2.2.2[(tpf s).1.2]? = some u) (hF : MA.2.1 (tpf s).1 = MA.1 (tpf s).1.1 + 141 + 4 * (tpf s).1.2) (hl : (stk s).length = u.2.2.1.length) (hL : ∀ k v, lcs s k = some (.inl v) → VW v) (hst : stk s = (vs.map Sum.inl).reverse) (h8 : vs.length ≤ 8) (hT : ∀ v ∈ vs, VW v) (tx : TXS h X RT RH RL) (wd : WRD h o A W BA tt MA fs st Lf RN) (hen : ∀ x ∈ ens s, x.1.1 = 3 → x.2.2.1.1 = x.2.2.1.2.2.2.isSome) (hvw : ∀ x ∈ ens s, ∀ v, x.2.2.1.2.2.2 = some v → VW v) (henv : ∀ p, gss Lf fs tt p = none → env p = vew st Lf fs tt p) (hn2 : (ens s).length < 26) (hak : s.2.2.2.1 ≤ 24) (hv : ∀ p v, (vew st Lf fs tt p).2.2.2 = some v → vsz v ≤ 64 ∧ fdp v.2.2 ≤ 40) (hb : ∀ x ∈ ens s, x.1 = (4, 0, 0) → -100000 ≤ x.2.2.1.2.1.toInt ∧ x.2.2.1.2.1.toInt ≤ 100000) (hb2 : gss Lf fs tt (4, 0, 0) = none → -100000 ≤ (vew st Lf fs tt (4, 0, 0)).2.1.toInt ∧ (vew st Lf fs tt (4, 0, 0)).2.1.toInt ≤ 100000) (hav : ∀ h' l' o', OUT wi W h h' o o' → OPR G B h' A W q BA X tt snd lim SP wi MA l' o' (Edr s 40) → 64 ≤ av G h' l') (hd : 64 ≤ d) (wt : ∀ k p, PB p → gss Lf fs tt p = some k → ∀ h' l' o' s' MA', OUX wi W X RT RH RL h h' o o' → OPQ 0 (some (Fa W 0)) G B h' A W q BA X tt snd lim SP wi MA' l' o' s' → s'.1 = 0 ∧ ens s' = ens s → h'.I 24 A = nI 9 → h'.J 25 A = lN k → K (.threw SP) h') (kk : REN K G B h A W q BA X tt snd lim SP wi MA o (ens s).length (sco Lf RN fs tt) RT RH RL vs (msq env (s00 s))) : MW G d e_X1_end [.ref A] h K := by
  refine st_X1_end fun XX oo hG hD _ => ?_
  subst hG; subst hD
  have hnr : (∀ r ∈ (stk s).flatMap rfI, r.1.1 ≠ s.1) ∧ ∀ j, j < 0 → ∀ r ∈ rfF (s.2.1 j), r.1.1 ≠ s.1 := by
    refine ⟨fun r hr => ?_, fun j hj => absurd hj (Nat.not_lt_zero j)⟩
    rw [hst] at hr
    obtain ⟨i, h1, h2⟩ := List.mem_flatMap.mp hr
    rw [List.mem_reverse] at h1
    obtain ⟨v, -, e⟩ := List.mem_map.mp h1
    rw [← e] at h2
    cases h2
  have hlv : (stk s).length = vs.length := by rw [hst]; simp
  refine end_0 oo (t := 0) H (by omega) hm hU hF ?_
  rw [← hl, hlv]
  refine end_16 oo (t := 0) (by omega) hnr hL (by omega) (fun h1 l1 o1 u1 H1 n1 => ?_) 40 0 (by omega) h l o OUT.refl H.edr (fun k hk => by omega)
  have tx1 : TXS h1 X RT RH RL := by
    obtain ⟨⟨a1, a2, a3⟩, a4, a5, a6⟩ := tx
    have np := IP.no (W := W) (l := [2713, 2711, 2712]) rfl
    exact ⟨⟨by rw [u1.1.R (np _ _ rfl)]; exact a1, by rw [u1.1.R (np _ _ rfl)]; exact a2, by rw [u1.1.R (np _ _ rfl)]; exact a3⟩, u1.1.tag a4, u1.1.tag a5, u1.1.tag a6⟩
  refine end_66b oo H1 hs1 n1 hst h8 hT tx1 (wd.out u1) hen hvw henv hn2 hak hv hb hb2 (hav h1 l1 o1 u1 H1) (by omega) (fun a b c d h' l' o' s' MA' u H3 e e1 e2 => wt a b c d h' l' o' s' MA' (u1.oux u) H3 e e1 e2) ?_
  cases hr : msq env (s00 s) with
  | none => trivial
  | some e =>
    rw [hr] at kk
    cases e with
    | error e => exact fun h' l' o' MA' u H3 mx e1 e2 => kk h' l' o' MA' (u1.oux u) H3 mx e1 e2
    | ok s' => exact fun h' l' o' MA' u H3 mx rs e1 e2 => kk h' l' o' MA' (u1.oux u) H3 mx rs e1 e2
end
