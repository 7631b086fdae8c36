/-! at a call's end, whole -/
theorem mor_ap {es : List En} {x : En} : mor (es ++ [x]) = mor es + mo1 x := by
  rw [mor_s, List.map_append, List.sum_append]; simp [mor_s]
theorem mo1_4 {x : En} (h : x.1.1 = 4) : mo1 x = 0 := by
  unfold mo1
  rw [if_neg (by omega)]
theorem bal_64 {b : Int64} {m : Int} (h1 : -100000 ≤ b.toInt) (h2 : b.toInt ≤ 100000) (h3 : -100 ≤ m) (h4 : m ≤ 100) : b + (Int32.ofInt m).toInt64 = Int64.ofInt (b.toInt + m) ∧ ((256 : Int64) < b + (Int32.ofInt m).toInt64 ↔ ¬ b.toInt + m ≤ 256) := by
  have e : b + (Int32.ofInt m).toInt64 = Int64.ofInt (b.toInt + m) := by
    rw [ofI_64 h3 h4, Int64.ofInt_add, Int64.ofInt_toInt]
  refine ⟨e, ?_⟩
  rw [e, Int64.lt_iff_toInt_lt, Int64.toInt_ofInt_of_le (by omega) (by omega)]
  have : (256 : Int64).toInt = 256 := by decide
  rw [this]
  omega
section
variable {G : Gt} {B d : Nat} {h : AH} {l : List Nat} {o : Lc} {wi W A q BA X tt lim SP t : Nat} {snd : Int64} {MA : Ma} {s : Ms} {K : Outcome → AH → Prop} {fs z : Nat} {fx : Option Nat} {st : Lw} {Lf : Nat → Lw} {RN : Nat → Int32}
/-- an entry's numbers are written -/
theorem OPQ.acc {h' : AH} {e : Nat} {x : En} {th : Bool} {bal : Int64} (H : OPQ z fx G B h A W q BA X tt snd lim SP wi MA l o s) (hx : (ens s)[e]? = some x) (h2 : x.1.1 ≠ 2) (f : Fq (PEb W e) h h') (e1 : h'.I 1155 (Ea W e) = bI th) (e2 : h'.J 1156 (Ea W e) = bal) (e3 : h'.I 1163 (Ea W e) = nI 1) : OUT wi W h h' o o ∧ OPQ z fx G B h' A W q BA X tt snd lim SP wi MA l o (sEn s e (cEn (th, bal, x.2.2.1.2.2) true)) := by
  obtain ⟨⟨⟨a1, a2, a3, a4⟩, ⟨b1, b2, b3⟩, ⟨g1, g2⟩, ⟨c1, c2, c3⟩, d1⟩, -, e26⟩ := H.en hx
  have f1 := f.mono PEb.e
  obtain ⟨v1, tg1⟩ := H.2.1.oth f1 PE1.vq
  have np : ∀ g, g ≠ 1155 → g ≠ 1156 → g ≠ 1163 → ∀ a, ¬ PEb W e g a := fun g n1 n2 n3 a z => by
    rcases z.1 with q | q | q
    · exact n1 q
    · exact n2 q
    · exact n3 q
  have nw : EnR1 h' o wi W e MA (cEn (th, bal, x.2.2.1.2.2) true x) := by
    refine ⟨⟨by rw [f.1.I (np _ (by decide) (by decide) (by decide) _)]; exact a1, by rw [f.1.J (np _ (by decide) (by decide) (by decide) _)]; exact a2, by rw [f.1.I (np _ (by decide) (by decide) (by decide) _)]; exact a3, a4⟩, ⟨e1, e2, by rw [f.1.J (np _ (by decide) (by decide) (by decide) _)]; exact b3⟩, ⟨by rw [f.1.I (np _ (by decide) (by decide) (by decide) _)]; exact g1, by rw [e3]; simp [cEn]; rfl⟩, ⟨by rw [f.1.I (np _ (by decide) (by decide) (by decide) _)]; exact c1, by rw [f.1.I (np _ (by decide) (by decide) (by decide) _)]; exact c2, fun q1 _ => absurd q1 h2⟩, ?_⟩
    rw [f.1.R (np _ (by decide) (by decide) (by decide) _)]
    exact d1
  have fi := (f1.1.mono fun g a z => Or.inr z).mono (PE2.ip (W := W) (e := e) (by omega))
  have w1 := H.2.2.1.enc hx (f1.1.mono fun g a z => Or.inr z) (fun _ _ => rfl) (fun p y _ hy => tg1 p y (by simp) hy) (fun _ _ _ _ _ ha => ha) nw
  refine ⟨OUT.mk0 fi tg1, ?_⟩
  rw [sEn_at hx]
  refine ⟨H.1.ip fi, v1, w1, ?_, H.2.2.2.2.1, ?_⟩
  · rw [f.1.R (np _ (by decide) (by decide) (by decide) _)]; exact H.2.2.2.1
  · exact H.2.2.2.2.2.fr f.1 (fun _ => np _ (by decide) (by decide) (by decide) _) (fun _ => np _ (by decide) (by decide) (by decide) _)
theorem csettle_ok {env : Pc → Cn} (H : OPQ z fx G B h A W q BA X tt snd lim SP wi MA l o s) (wd : WRD h o A W BA tt MA fs st Lf RN) (hen : ∀ x ∈ ens s, x.1.1 = 3 → x.2.2.1.1 = x.2.2.1.2.2.2.isSome) (hvw : ∀ x ∈ ens s, ∀ v, x.2.2.1.2.2.2 = some v → VW v) (henv : ∀ p, gss Lf fs tt p = none → env p = vew st Lf fs tt p) (hn2 : (ens s).length < 26) (hak : s.2.2.2.1 ≤ 24) (hv : ∀ p v, (vew st Lf fs tt p).2.2.2 = some v → vsz v ≤ 64 ∧ fdp v.2.2 ≤ 40) (hb : ∀ x ∈ ens s, x.1 = (4, 0, 0) → -100000 ≤ x.2.2.1.2.1.toInt ∧ x.2.2.1.2.1.toInt ≤ 100000) (hb2 : gss Lf fs tt (4, 0, 0) = none → -100000 ≤ (vew st Lf fs tt (4, 0, 0)).2.1.toInt ∧ (vew st Lf fs tt (4, 0, 0)).2.1.toInt ≤ 100000) (hav : 64 ≤ av G h l) (hd : 62 ≤ d) (wt : WTQ z fx s K G B h A W q BA X tt snd lim SP wi o Lf fs) (kk : RZQ z fx K G B h A W q BA X tt snd lim SP wi MA o (ens s).length (sco Lf RN fs tt) (msq env s)) : MW G d e_X1_settlePlaces [.ref A] h K := by
  refine st_X1_settlePlaces fun XX oo hG hD _ => ?_
  subst hG; subst hD
  have t0 := H.1.1.1
  have rw0 := H.1.1.2.2.1
  have tW := H.2.2.1.1.1.1.1
  obtain ⟨w2, w3, w4, w5⟩ := H.2.2.1.1.1.2.1
  have w9 := H.2.2.1.2.2.2.1.1
  have mx0 : MAX (ens s).length MA MA (plc s) (sco Lf RN fs tt) := MAX.refl (by unfold plc; rw [List.length_map]; exact Nat.le_refl _)
  refine k_X1_settlePlaces_0 (r8 := w9) oo ?_
  refine settle_15 oo H hen hvw (by omega) (fun htl => ?_) (fun l4 htl => ?_) (ens s).length 0 (by omega) rfl _
  · unfold msq at kk
    rw [if_pos htl] at kk
    exact H.stop (fun h' l' o' u H2 e1 e2 => kk h' l' o' MA u H2 mx0 e1 e2)
  · refine settle_136 oo (n := (ens s).length) H rfl htl kk (fun hm => ?_)
    unfold msq at kk
    rw [if_neg (by rw [htl]; decide), if_neg hm] at kk
    have mb := mor_b (ens s)
    -- behind the asking
    have s149 : ∀ e s1 MA1 h1 l1 o1 x, OUT wi W h h1 o o1 → OPQ z fx XX.G B h1 A W q BA X tt snd lim SP wi MA1 l1 o1 s1 → (ens s1)[e]? = some x → x.1 = (4, 0, 0) → mor (ens s1) = mor (ens s) → (-100000 ≤ x.2.2.1.2.1.toInt ∧ x.2.2.1.2.1.toInt ≤ 100000) → MAX (ens s).length MA MA1 (plc s1) (sco Lf RN fs tt) → RZQ z fx K XX.G B h A W q BA X tt snd lim SP wi MA o (ens s).length (sco Lf RN fs tt) (if x.2.2.1.2.1.toInt + mor (ens s1) ≤ 256 then mgo (sEn s1 e (cEn (x.2.2.1.1, Int64.ofInt (x.2.2.1.2.1.toInt + mor (ens s1)), x.2.2.1.2.2) true)) else mst 2 4 s1) → V XX K 149 [.ref A, .int (Int32.ofInt (mor (ens s))), .int (nI (ens s).length), .int (nI (ens s).length), l4] [.ref (Ea W e)] h1 := by
      intro e s1 MA1 h1 l1 o1 x u1 H1 hx hxp hmo hbx mx kk
      rw [hmo] at kk
      obtain ⟨⟨-, ⟨b1, b2, b3⟩, -⟩, ⟨tE, -⟩, -⟩ := H1.en hx
      have t1 := H1.1.1.1
      obtain ⟨be, bl⟩ := bal_64 (m := mor (ens s)) hbx.1 hbx.2 (by omega) (by omega)
      by_cases c : x.2.2.1.2.1.toInt + mor (ens s) ≤ 256
      · rw [if_pos c] at kk
        refine k_X1_settlePlaces_149 (r2 := b2) oo (fun q => absurd c (bl.mp q)) (fun _ => ?_)
        refine k_X1_settlePlaces_165 oo ?_
        refine k_X1_settlePlaces_170 oo ?_
        refine cneed2_ok (b := true) (w := 4) H1.1 (by omega) (by omega) (fun _ => ?_) (fun c => by cases c)
        refine k_X1_settlePlaces_174 (r2 := b2) oo ?_
        rw [be]
        obtain ⟨u2, H2⟩ := H1.acc (h' := (h1.sJ 1156 (Ea W e) (Int64.ofInt (x.2.2.1.2.1.toInt + mor (ens s)))).sI 1163 (Ea W e) (nI 1)) (th := x.2.2.1.1) (bal := Int64.ofInt (x.2.2.1.2.1.toInt + mor (ens s))) hx (by rw [hxp]; decide) (by refine Fq.sI (Fq.sJ (Fq.refl h1) ?_) ?_; exact ⟨Or.inr (Or.inl rfl), rfl⟩; exact ⟨Or.inr (Or.inr rfl), rfl⟩) (by simp [n_sI, z_sI, tag_sI, I_sI, J_sI, R_sI, EI_sI, EJ_sI, ER_sI, n_sJ, z_sJ, tag_sJ, I_sJ, J_sJ, R_sJ, EI_sJ, EJ_sJ, ER_sJ, n_sR, z_sR, tag_sR, I_sR, J_sR, R_sR, EI_sR, EJ_sR, ER_sR, n_sEI, z_sEI, tag_sEI, I_sEI, J_sEI, R_sEI, EI_sEI, EJ_sEI, ER_sEI, n_sEJ, z_sEJ, tag_sEJ, I_sEJ, J_sEJ, R_sEJ, EI_sEJ, EJ_sEJ, ER_sEJ, n_sER, z_sER, tag_sER, I_sER, J_sER, R_sER, EI_sER, EJ_sER, ER_sER, n_nw, z_nw, tag_nw, I_nw, J_nw, R_nw, EI_nw, EJ_nw, ER_nw]; exact b1) (by simp [n_sI, z_sI, tag_sI, I_sI, J_sI, R_sI, EI_sI, EJ_sI, ER_sI, n_sJ, z_sJ, tag_sJ, I_sJ, J_sJ, R_sJ, EI_sJ, EJ_sJ, ER_sJ, n_sR, z_sR, tag_sR, I_sR, J_sR, R_sR, EI_sR, EJ_sR, ER_sR, n_sEI, z_sEI, tag_sEI, I_sEI, J_sEI, R_sEI, EI_sEI, EJ_sEI, ER_sEI, n_sEJ, z_sEJ, tag_sEJ, I_sEJ, J_sEJ, R_sEJ, EI_sEJ, EJ_sEJ, ER_sEJ, n_sER, z_sER, tag_sER, I_sER, J_sER, R_sER, EI_sER, EJ_sER, ER_sER, n_nw, z_nw, tag_nw, I_nw, J_nw, R_nw, EI_nw, EJ_nw, ER_nw]) (by simp [n_sI, z_sI, tag_sI, I_sI, J_sI, R_sI, EI_sI, EJ_sI, ER_sI, n_sJ, z_sJ, tag_sJ, I_sJ, J_sJ, R_sJ, EI_sJ, EJ_sJ, ER_sJ, n_sR, z_sR, tag_sR, I_sR, J_sR, R_sR, EI_sR, EJ_sR, ER_sR, n_sEI, z_sEI, tag_sEI, I_sEI, J_sEI, R_sEI, EI_sEI, EJ_sEI, ER_sEI, n_sEJ, z_sEJ, tag_sEJ, I_sEJ, J_sEJ, R_sEJ, EI_sEJ, EJ_sEJ, ER_sEJ, n_sER, z_sER, tag_sER, I_sER, J_sER, R_sER, EI_sER, EJ_sER, ER_sER, n_nw, z_nw, tag_nw, I_nw, J_nw, R_nw, EI_nw, EJ_nw, ER_nw])
        exact kk _ l1 o1 MA1 (u1.trans u2) H2 (by rw [plc_en (f := cEn (x.2.2.1.1, Int64.ofInt (x.2.2.1.2.1.toInt + mor (ens s)), x.2.2.1.2.2) true) (fun _ => rfl)]; exact mx)
      · rw [if_neg c] at kk
        refine k_X1_settlePlaces_149 (r2 := b2) oo (fun _ => ?_) (fun q => absurd (bl.mpr c) q)
        refine k_X1_settlePlaces_169 oo ?_
        refine k_X1_settlePlaces_170 oo ?_
        refine cneed2_ok (b := false) (w := 4) H1.1 (by omega) (by omega) (fun c => by cases c) (fun _ => ?_)
        exact H1.stop (fun h' l' o' u2 H2 e1 e2 => kk h' l' o' MA1 (u1.trans u2) H2 mx e1 e2)
    refine k_X1_settlePlaces_141 oo ?_
    refine cask_q (p := (4, 0, 0)) (cb := false) H wd ⟨by show 4 < 16; omega, by show 0 < _; omega⟩ (fun _ => hn2) hak (fun v hv' => ⟨by have := (hv _ v hv').1; omega, (hv _ v hv').2⟩) (by omega) (fun a b c d h' l' o' s' MA' u H2 e e1 e2 => wt a b c d h' l' o' s' MA' u H2 e e1 e2) (fun i hi => ?_) (fun _ c => by cases c) (fun h1 h2 h3 h' l' o' u H2 a2 => ?_)
    · have hi2 := hi
      rw [List.findIdx?_eq_some_iff_getElem] at hi2
      obtain ⟨i1, i2, -⟩ := hi2
      have hxp : ((ens s)[i]).1 = (4, 0, 0) := by simpa using i2
      have em : mask env false (4, 0, 0) s msK = msK i s := by
        unfold mask
        rw [hi]
      rw [em] at kk
      unfold msK at kk
      rw [List.getElem?_eq_getElem i1] at kk
      exact s149 i s MA h l o _ OUT.refl H (List.getElem?_eq_getElem i1) hxp rfl (hb _ (List.getElem_mem i1) hxp) mx0 kk
    · have em : mask env false (4, 0, 0) s msK = msK (ens s).length (s.1, s.2.1, ens s ++ [((4, 0, 0), env (4, 0, 0), env (4, 0, 0), false)], s.2.2.2.1, gas s) := by
        unfold mask
        rw [h1]
        rfl
      rw [em, henv _ h3] at kk
      have ee : ens ((s.1, s.2.1, ens s ++ [((4, 0, 0), vew st Lf fs tt (4, 0, 0), vew st Lf fs tt (4, 0, 0), false)], s.2.2.2.1, gas s) : Ms) = ens s ++ [((4, 0, 0), vew st Lf fs tt (4, 0, 0), vew st Lf fs tt (4, 0, 0), false)] := rfl
      have hx : (ens ((s.1, s.2.1, ens s ++ [((4, 0, 0), vew st Lf fs tt (4, 0, 0), vew st Lf fs tt (4, 0, 0), false)], s.2.2.2.1, gas s) : Ms))[(ens s).length]? = some ((4, 0, 0), vew st Lf fs tt (4, 0, 0), vew st Lf fs tt (4, 0, 0), false) := by rw [ee]; simp
      unfold msK at kk
      rw [hx] at kk
      refine s149 _ _ _ h' l' o' _ u H2 hx rfl (by show mor (ens s ++ [_]) = _; rw [mor_ap, mo1_4 rfl, Int.add_zero]) (hb2 h3) ⟨⟨rfl, rfl⟩, fun e he => if_neg (by omega), fun e y he hy => ?_⟩ kk
      have e1 : e = (ens s).length := by
        have := get_lt hy
        change e < ((ens s ++ [_]).map _).length at this
        rw [List.length_map, List.length_append] at this
        simp at this
        omega
      subst e1
      change ((ens s ++ [_]).map _)[(ens s).length]? = some y at hy
      simp at hy
      show some (if (ens s).length = (ens s).length then sce Lf RN fs tt (4, 0, 0) else _) = _
      rw [if_pos rfl, ← hy, sco_n h3]
end
