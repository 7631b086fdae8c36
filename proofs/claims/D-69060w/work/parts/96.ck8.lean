/-! the component's checker: vectors and numbers -/
theorem elt_ok {m : Md} (g : gM m) {a : Nat} (ha : a < m.2.2.2.2.1.length) : fT m (elt m a) := by
  unfold elt
  rw [List.getElem?_eq_getElem ha]
  exact g.2.2.1 _ (List.getElem_mem ha)
theorem cvec_ok {G : Gt} {d : Nat} {h : AH} {K : Outcome → AH → Prop} {C W T F a b op : Nat} {m : Md} {u : Ux} {s : Sk} {l : Ls} (hs : CTb h C W T F m u) (hu : gU m u) (g : gM m) (hk : SKh h C m s) (hl : LSh h C (lty u) l) (ha : a < m.2.2.2.2.1.length) (hb : b ≤ 255) (hop : 52 ≤ op ∧ op ≤ 58) (hd : 8 ≤ d) (kk : EQ (cVec m (lty u) op a b (s, l)) (CN K C m (lty u) h) (CE K C W h)) : MW G d e_X13_vector [.ref C, .int (nI op), .int (nI a), .int (nI b)] h K := by
  refine st_X13_vector fun X o hG hD _ => ?_
  subst hG; subst hD
  obtain ⟨s1, ⟨s2, s3⟩, ⟨s4, s5, s6, s7⟩, -⟩ := id hs
  have t0 := s1.1.1
  obtain ⟨⟨g1, g2, g3, g4', g5, g6⟩, ⟨p1, p2, p3, p4, p5, p6, p7, p8⟩, -⟩ := id s4
  have b5 := s7.2.1.2.2.2.2.1
  have hsp := s7.2.2.2.2.2.1
  have hfe := elt_ok g ha
  obtain ⟨b0, q0, e0, w1, w2⟩ := bas_hd hfe.2.1
  have tve := hfe.ok.tv
  have tvv := hfe.vec.tv
  have hlong : tOK m [3] := tOK.pr (by omega) (by omega)
  refine k_X13_vector_0 o ?_
  refine spget_ok p8 s4 s5 g.2.2.2.2.2.2 hsp (by omega) ?_
  have eel : elt m a = (m.2.2.2.2.1[a]).1 := by unfold elt; rw [List.getElem?_eq_getElem ha]
  rw [List.getElem?_eq_getElem ha]
  refine k_X13_vector_18 o ?_
  simp only
  rw [← eel, e0]
  rw [e0] at tve
  refine with_ok tve.1 (by have := tve.2; simp at this; omega) (by omega) (by omega) ?_
  rw [← e0]
  rw [← e0] at tve
  refine k_X13_vector_27 o ?_
  unfold cVec at kk
  have sw : ∀ k : Fin 7, swt 52 [68, 99, 117, 117, 174, 194] 215 (nI (52 + k.val)) = ([68, 99, 117, 117, 174, 194, 215] : List Nat).getD k.val 0 := by decide +kernel
  have sw2 := sw ⟨op - 52, by omega⟩
  simp only [show 52 + (op - 52) = op by omega] at sw2
  rw [sw2]
  have fin : ∀ h' (v8 : Value), K (.returned none) h' → V X K 240 [.ref C, .int (nI op), .int (nI a), .int (nI b), .long (lN (tyc (elt m a))), nov, .long (lN (tyc (7 :: elt m a))), nov, v8] [] h' := fun h' v8 k => k_X13_vector_240 o k
  rcases (show op = 52 ∨ op = 53 ∨ op = 54 ∨ op = 55 ∨ op = 56 ∨ op = 57 ∨ op = 58 by omega) with e | e | e | e | e | e | e
  · subst e
    show V X K 68 _ _ _
    have kk := EQ_eb.mp (show EQ (eb (tkL (List.replicate b (elt m a)) s) fun q => eb (pt (7 :: elt m a) (0, false) q.2) fun s => .ok (s, l)) (CN K C m (lty u) h) (CE K C W h) from kk)
    have loop : ∀ j i s' h1, j + i = b → Fq (FS tkF) h h1 → SKh h1 C m s' → EQ (tkL (List.replicate j (elt m a)) s') (fun q => EQ (eb (pt (7 :: elt m a) (0, false) q.2) fun s => .ok (s, l)) (CN K C m (lty u) h) (CE K C W h)) (CE K C W h) → V X K 71 [.ref C, .int (nI 52), .int (nI a), .int (nI b), .long (lN (tyc (elt m a))), nov, .long (lN (tyc (7 :: elt m a))), nov, .int (nI i)] [] h1 := by
      intro j
      induction j with
      | zero =>
        intro i s' h1 hi f1 sk1 k1
        have hs1 : CTb h1 C W T F m u := hs.fr f1.1 (FS.no rfl)
        have u0 := hs1.1.1.1
        have k1 := EQ_eb.mp (show EQ (eb (pt (7 :: elt m a) (0, false) s') fun s => .ok (s, l)) (CN K C m (lty u) h) (CE K C W h) from k1)
        refine k_X13_vector_71 o (fun _ => ?_) (fun c => absurd ((nI_leI (by omega) (by omega)).mpr (by omega)) c)
        refine k_X13_vector_89 o ?_
        refine cput0_ok rfl hs1.1 sk1 hfe.vec (by omega) (k1.mono (fun s'' _ k6 h' f' sk' => ?_) (fun w t => CE.fq f1 t rfl))
        refine k_X13_vector_96 o ?_
        exact fin h' _ (k6 h' ((f1.mono (FS.mono rfl)).trans (f'.mono (FS.mono rfl))) sk' ((hl.fr f1 rfl).fr f' rfl))
      | succ j ih =>
        intro i s' h1 hi f1 sk1 k1
        have hs1 : CTb h1 C W T F m u := hs.fr f1.1 (FS.no rfl)
        have u0 := hs1.1.1.1
        rw [List.replicate_succ] at k1
        have k1 := EQ_eb.mp k1
        refine k_X13_vector_71 o (fun c => absurd ((nI_leI (by omega) (by omega)).mp c) (by omega)) (fun _ => ?_)
        refine k_X13_vector_77 o ?_
        refine ctakeT_ok hs1.1 sk1 tve.1 (by omega) (k1.mono (fun r er k2 h2 f2 tn2 sk2 => ?_) (fun w t => CE.fq f1 t rfl))
        refine k_X13_vector_83 o ?_
        rw [nI_add]
        exact ih (i + 1) r.2 h2 (by omega) (f1.trans f2) sk2 ((EQ_eb.mp k2).mono (fun q _ z => z) (fun _ z => z))
    refine k_X13_vector_68 o ?_
    exact loop b 0 s h (by omega) (Fq.refl h) hk kk
  · subst e
    show V X K 99 _ _ _
    have kk := EQ_eb.mp (show EQ (eb (tkR (7 :: elt m a) false s) fun r => eb (pt [3] (0, false) r.2) fun s => .ok (s, l)) (CN K C m (lty u) h) (CE K C W h) from kk)
    refine k_X13_vector_99 o ?_
    refine ctakeR_ok (w := false) hs.1 hk tvv.1 (by omega) (kk.mono (fun r er k2 h1 f1 tn1 sk1 => ?_) (fun w t => t))
    have hs1 : CTb h1 C W T F m u := hs.fr f1.1 (FS.no rfl)
    have u0 := hs1.1.1.1
    show V X K 106 [.ref C, .int (nI 53), .int (nI a), .int (nI b), .long (lN (tyc (elt m a))), nov, .long (lN (tyc (7 :: elt m a))), nov, nov] [] h1
    refine k_X13_vector_106 o ?_
    refine cput0_ok (t := [3]) rfl hs1.1 sk1 hlong (by omega) ((EQ_eb.mp k2).mono (fun s'' _ k6 h' f' sk' => ?_) (fun w t => CE.fq f1 t rfl))
    refine k_X13_vector_114 o ?_
    exact fin h' _ (k6 h' ((f1.mono (FS.mono rfl)).trans (f'.mono (FS.mono rfl))) sk' ((hl.fr f1 rfl).fr f' rfl))
  all_goals subst e
  · have kk : EQ (eb (tkT [3] s) fun r => eb (tkR (7 :: elt m a) false r.2) fun q => eb (pt (8 :: elt m a) (q.1.2.1, true) q.2) fun s => .ok (s, l)) (CN K C m (lty u) h) (CE K C W h) := kk
    have kk := EQ_eb.mp kk
    show V X K 117 _ _ _
    refine k_X13_vector_117 o ?_
    refine ctakeL_ok (t := [3]) rfl hs.1 hk hlong.tv.1 (by omega) (kk.mono (fun r er k2 h1 f1 tn1 sk1 => ?_) (fun w t => t))
    have hs1 : CTb h1 C W T F m u := hs.fr f1.1 (FS.no rfl)
    have u0 := hs1.1.1.1
    refine k_X13_vector_124 o (fun _ => ?_) (fun c => absurd c (by decide))
    refine k_X13_vector_137 o ?_
    refine k_X13_vector_138 o ?_
    refine ctakeR_ok (w := false) hs1.1 sk1 tvv.1 (by omega) ((EQ_eb.mp k2).mono (fun q eq k3 h2 f2 tn2 sk2 => ?_) (fun w t => CE.fq f1 t rfl))
    obtain ⟨-, -, -, q1⟩ := tkR_mem sk1 eq
    have f12 := f1.trans f2
    have hs2 : CTb h2 C W T F m u := hs.fr f12.1 (FS.no rfl)
    have v0 := hs2.1.1.1
    have rO := tn2.2
    refine k_X13_vector_141 o (fun _ => ?_) (fun c => absurd c (by decide))
    refine k_X13_vector_153 o ?_
    refine k_X13_vector_155 o ?_
    rw [e0]
    rw [e0] at tve
    refine with_ok tve.1 (by have := tve.2; simp at this; omega) (by omega) (by omega) ?_
    rw [← e0]
    refine k_X13_vector_160 o ?_
    rw [enc_in]
    refine cput_ok hs2.1 sk2 (hfe.ref (Or.inl rfl)) ⟨q1, fun z => by simp [isRf] at z⟩ (by omega) ((EQ_eb.mp k3).mono (fun s' _ k6 h' f' sk' => ?_) (fun w t => CE.fq f12 t rfl))
    refine k_X13_vector_171 o ?_
    exact fin h' _ (k6 h' ((f12.mono (FS.mono rfl)).trans (f'.mono (FS.mono rfl))) sk' ((hl.fr f12 rfl).fr f' rfl))
  · have kk : EQ (eb (tkT [3] s) fun r => eb (tkR (7 :: elt m a) true r.2) fun q => eb (pt (9 :: elt m a) (q.1.2.1, true) q.2) fun s => .ok (s, l)) (CN K C m (lty u) h) (CE K C W h) := kk
    have kk := EQ_eb.mp kk
    show V X K 117 _ _ _
    refine k_X13_vector_117 o ?_
    refine ctakeL_ok (t := [3]) rfl hs.1 hk hlong.tv.1 (by omega) (kk.mono (fun r er k2 h1 f1 tn1 sk1 => ?_) (fun w t => t))
    have hs1 : CTb h1 C W T F m u := hs.fr f1.1 (FS.no rfl)
    have u0 := hs1.1.1.1
    refine k_X13_vector_124 o (fun c => absurd rfl c) (fun _ => ?_)
    refine k_X13_vector_133 o ?_
    refine k_X13_vector_138 o ?_
    refine ctakeR_ok (w := true) hs1.1 sk1 tvv.1 (by omega) ((EQ_eb.mp k2).mono (fun q eq k3 h2 f2 tn2 sk2 => ?_) (fun w t => CE.fq f1 t rfl))
    obtain ⟨-, -, -, q1⟩ := tkR_mem sk1 eq
    have f12 := f1.trans f2
    have hs2 : CTb h2 C W T F m u := hs.fr f12.1 (FS.no rfl)
    have v0 := hs2.1.1.1
    have rO := tn2.2
    refine k_X13_vector_141 o (fun c => absurd rfl c) (fun _ => ?_)
    refine k_X13_vector_148 o ?_
    refine k_X13_vector_155 o ?_
    rw [e0]
    rw [e0] at tve
    refine with_ok tve.1 (by have := tve.2; simp at this; omega) (by omega) (by omega) ?_
    rw [← e0]
    refine k_X13_vector_160 o ?_
    rw [enc_in]
    refine cput_ok hs2.1 sk2 (hfe.ref (Or.inr rfl)) ⟨q1, fun z => by simp [isRf] at z⟩ (by omega) ((EQ_eb.mp k3).mono (fun s' _ k6 h' f' sk' => ?_) (fun w t => CE.fq f12 t rfl))
    refine k_X13_vector_171 o ?_
    exact fin h' _ (k6 h' ((f12.mono (FS.mono rfl)).trans (f'.mono (FS.mono rfl))) sk' ((hl.fr f12 rfl).fr f' rfl))
  · have kk : EQ (eb (tkT (elt m a) s) fun r => eb (tkR (7 :: elt m a) true r.2) fun q => eb (nee (!liv (lty u) q.2 l q.1.2.1 2) 6) fun _ => .ok (q.2, l)) (CN K C m (lty u) h) (CE K C W h) := kk
    have kk := EQ_eb.mp kk
    show V X K 174 _ _ _
    refine k_X13_vector_174 o ?_
    refine ctakeT_ok hs.1 hk tve.1 (by omega) (kk.mono (fun r er k2 h1 f1 tn1 sk1 => ?_) (fun w t => t))
    have hs1 : CTb h1 C W T F m u := hs.fr f1.1 (FS.no rfl)
    have u0 := hs1.1.1.1
    refine k_X13_vector_180 o ?_
    refine ctakeR_ok (w := true) hs1.1 sk1 tvv.1 (by omega) ((EQ_eb.mp k2).mono (fun q eq k3 h2 f2 tn2 sk2 => ?_) (fun w t => CE.fq f1 t rfl))
    obtain ⟨-, -, -, q1⟩ := tkR_mem sk1 eq
    have f12 := f1.trans f2
    have hs2 : CTb h2 C W T F m u := hs.fr f12.1 (FS.no rfl)
    have v0 := hs2.1.1.1
    refine k_X13_vector_187 o ?_
    refine csol_ok (f := q.1.2.1) hs2 hu sk2 (hl.fr f12 rfl) (by rw [tn2.2, enc_mod q1]) (by omega) ((EQ_eb.mp k3).mono (fun _ _ k6 => ?_) (fun w t => CE.fq f12 t rfl))
    refine k_X13_vector_191 o ?_
    exact fin h2 _ (k6 h2 (f12.mono (FS.mono rfl)) sk2 (hl.fr f12 rfl))
  · have kk : EQ (eb (tkR (7 :: elt m a) true s) fun q => eb (nee (!liv (lty u) q.2 l q.1.2.1 2) 6) fun _ => eb (pt (elt m a) (0, false) q.2) fun s => .ok (s, l)) (CN K C m (lty u) h) (CE K C W h) := kk
    have kk := EQ_eb.mp kk
    show V X K 194 _ _ _
    refine k_X13_vector_194 o ?_
    refine ctakeR_ok (w := true) hs.1 hk tvv.1 (by omega) (kk.mono (fun q eq k3 h2 f2 tn2 sk2 => ?_) (fun w t => t))
    obtain ⟨-, -, -, q1⟩ := tkR_mem hk eq
    have hs2 : CTb h2 C W T F m u := hs.fr f2.1 (FS.no rfl)
    have v0 := hs2.1.1.1
    refine k_X13_vector_201 o ?_
    refine csol_ok (f := q.1.2.1) hs2 hu sk2 (hl.fr f2 rfl) (by rw [tn2.2, enc_mod q1]) (by omega) ((EQ_eb.mp k3).mono (fun _ _ k6 => ?_) (fun w t => CE.fq f2 t rfl))
    refine k_X13_vector_205 o ?_
    refine cput0_ok rfl hs2.1 sk2 hfe.ok (by omega) ((EQ_eb.mp k6).mono (fun s'' _ k7 h' f' sk' => ?_) (fun w t => CE.fq f2 t rfl))
    refine k_X13_vector_212 o ?_
    exact fin h' _ (k7 h' ((f2.mono (FS.mono rfl)).trans (f'.mono (FS.mono rfl))) sk' ((hl.fr f2 rfl).fr f' rfl))
  · have kk : EQ (eb (tkT [3] s) fun r => eb (tkT [3] r.2) fun p => eb (tkR (7 :: elt m a) true p.2) fun q => eb (nee (!liv (lty u) q.2 l q.1.2.1 2) 6) fun _ => .ok (q.2, l)) (CN K C m (lty u) h) (CE K C W h) := kk
    have kk := EQ_eb.mp kk
    show V X K 215 _ _ _
    refine k_X13_vector_215 o ?_
    refine ctakeL_ok (t := [3]) rfl hs.1 hk hlong.tv.1 (by omega) (kk.mono (fun r er k2 h1 f1 tn1 sk1 => ?_) (fun w t => t))
    have hs1 : CTb h1 C W T F m u := hs.fr f1.1 (FS.no rfl)
    have u0 := hs1.1.1.1
    refine k_X13_vector_222 o ?_
    refine ctakeL_ok (t := [3]) rfl hs1.1 sk1 hlong.tv.1 (by omega) ((EQ_eb.mp k2).mono (fun p ep k3 h2 f2 tn2 sk2 => ?_) (fun w t => CE.fq f1 t rfl))
    have f12 := f1.trans f2
    have hs2 : CTb h2 C W T F m u := hs.fr f12.1 (FS.no rfl)
    have v0 := hs2.1.1.1
    refine k_X13_vector_229 o ?_
    refine ctakeR_ok (w := true) hs2.1 sk2 tvv.1 (by omega) ((EQ_eb.mp k3).mono (fun q eq k4 h3 f3 tn3 sk3 => ?_) (fun w t => CE.fq f12 t rfl))
    obtain ⟨-, -, -, q1⟩ := tkR_mem sk2 eq
    have f13 := f12.trans f3
    have hs3 : CTb h3 C W T F m u := hs.fr f13.1 (FS.no rfl)
    have x0 := hs3.1.1.1
    refine k_X13_vector_236 o ?_
    refine csol_ok (f := q.1.2.1) hs3 hu sk3 (hl.fr f13 rfl) (by rw [tn3.2, enc_mod q1]) (by omega) ((EQ_eb.mp k4).mono (fun _ _ k6 => ?_) (fun w t => CE.fq f13 t rfl))
    exact fin h3 _ (k6 h3 (f13.mono (FS.mono rfl)) sk3 (hl.fr f13 rfl))
theorem tkN_mem {m : Md} {h : AH} {C : Nat} {s : Sk} (hk : SKh h C m s) {r : (Ty × Og) × Sk} (er : tkN s = .ok r) : tOK m r.1.1 ∧ isNu r.1.1 = true := by
  obtain ⟨r', e1, e2⟩ := eb_ok er
  obtain ⟨_, e3, e4⟩ := eb_ok e2
  cases e4
  exact ⟨(tk_mem hk e1).1, nee_t e3⟩
theorem crek_ok {G : Gt} {d : Nat} {h : AH} {K : Outcome → AH → Prop} {C W T F op : Nat} {m : Md} {u : Ux} {s : Sk} {l : Ls} (hs : CTb h C W T F m u) (g : gM m) (hk : SKh h C m s) (hl : LSh h C (lty u) l) (hop : 24 ≤ op ∧ op ≤ 44) (hd : 8 ≤ d) (kk : EQ (cNum m op (s, l)) (CN K C m (lty u) h) (CE K C W h)) : MW G d e_X13_reckon [.ref C, .int (nI op)] h K := by
  refine st_X13_reckon fun X o hG hD _ => ?_
  subst hG; subst hD
  have t0 := hs.1.1.1
  have h1t : tOK m [1] := tOK.pr (by omega) (by omega)
  have h2t : tOK m [2] := tOK.pr (by omega) (by omega)
  unfold cNum at kk
  have fin : ∀ h' v2 v3, K (.returned none) h' → V X K 232 [.ref C, .int (nI op), v2, v3] [] h' := fun h' v2 v3 k => k_X13_reckon_232 o k
  have adone : ∀ {h1 : AH} {s1 : Sk} {t : Ty}, Fq (FS tkF) h h1 → EQ (eb (pt t (0, false) s1) fun s => .ok (s, l)) (CN K C m (lty u) h) (CE K C W h) → EQ (pt t (0, false) s1) (fun s' => ∀ h', Fq (FS ptF) h1 h' → SKh h' C m s' → K (.returned none) h') (CE K C W h1) := fun {h1 s1 t} f1 k =>
    (EQ_eb.mp k).mono (fun s' _ k6 h' f' sk' => k6 h' ((f1.mono (FS.mono rfl)).trans (f'.mono (FS.mono rfl))) sk' ((hl.fr f1 rfl).fr f' rfl)) (fun w t => CE.fq f1 t rfl)
  by_cases c32 : op < 32
  · rw [if_pos c32] at kk
    have kk := EQ_eb.mp kk
    refine k_X13_reckon_0 o (fun c => absurd ((nI_leI (by omega) (by omega)).mp c) (by omega)) (fun _ => ?_)
    refine k_X13_reckon_6 o ?_
    refine ctake_ok hs.1 hk (by omega) (kk.mono (fun r er k2 h1 f1 tn1 sk1 => ?_) (fun w t => t))
    have hs1 : CTb h1 C W T F m u := hs.fr f1.1 (FS.no rfl)
    have u0 := hs1.1.1.1
    have r1 := tn1.1
    have q0 := (tk_mem hk er).1
    have k2 := EQ_eb.mp k2
    have key : ∀ b, (isNu r.1.1 || (decide (28 < op) && r.1.1 == [1])) = b → V X K 40 [.ref C, .int (nI op), .long (lN (tyc r.1.1)), nov] [.int (bI b), .ref C] h1 := fun b hb => by
      rw [hb] at k2
      refine k_X13_reckon_40 o ?_
      refine cneed_ok hs1.1 (by omega) (k2.mono (fun _ _ k3 => ?_) (fun w t => CE.fq f1 t rfl))
      show V X K 44 [.ref C, .int (nI op), .long (lN (tyc r.1.1)), nov] [] h1
      refine k_X13_reckon_44 o ?_
      refine ctakeT_ok hs1.1 sk1 q0.tv.1 (by omega) ((EQ_eb.mp k3).mono (fun p ep k4 h2 f2 tn2 sk2 => ?_) (fun w t => CE.fq f1 t rfl))
      have f12 := f1.trans f2
      have hs2 : CTb h2 C W T F m u := hs.fr f12.1 (FS.no rfl)
      have v0 := hs2.1.1.1
      refine k_X13_reckon_49 o ?_
      refine cput0_ok rfl hs2.1 sk2 q0 (by omega) ((adone f12 k4).mono (fun s' _ k6 h' f' sk' => ?_) (fun w t => t))
      refine k_X13_reckon_55 o ?_
      exact fin h' _ _ (k6 h' f' sk')
    refine k_X13_reckon_10 o ?_
    refine isNumber_ok q0.tv.1 ?_
    cases hn : isNu r.1.1 with
    | true =>
      refine k_X13_reckon_20 o (fun _ => ?_) (fun c => absurd (show bI true = 0 from c) (by decide))
      refine k_X13_reckon_35 o ?_
      exact key true (by rw [hn]; rfl)
    | false =>
      refine k_X13_reckon_20 o (fun c => absurd rfl c) (fun _ => ?_)
      refine k_X13_reckon_23 o (fun c => ?_) (fun c => ?_)
      · have c := (nI_leI (by omega) (by omega)).mp c
        refine k_X13_reckon_39 o ?_
        exact key false (by rw [hn, decide_eq_false (by omega)]; rfl)
      · have c : 28 < op := Nat.not_le.mp fun z => c ((nI_leI (by omega) (by omega)).mpr z)
        refine k_X13_reckon_29 o (fun c2 => ?_) (fun c2 => ?_)
        · have c2 : ¬ r.1.1 = [1] := fun z => c2 (by rw [z]; rfl)
          refine k_X13_reckon_39 o ?_
          refine key false ?_
          rw [hn]; simp [c2]
        · have c2 : r.1.1 = [1] := (lN_ty q0 h1t.tv.1).mp c2
          refine k_X13_reckon_35 o ?_
          refine key true ?_
          rw [hn, decide_eq_true c, c2]; rfl
  rw [if_neg c32] at kk
  refine k_X13_reckon_0 o (fun _ => ?_) (fun c => absurd ((nI_leI (by omega) (by omega)).mpr (by omega)) c)
  by_cases c34 : op < 34
  · rw [if_pos c34] at kk
    have kk := EQ_eb.mp kk
    refine k_X13_reckon_58 o (fun c => absurd ((nI_leI (by omega) (by omega)).mp c) (by omega)) (fun _ => ?_)
    refine k_X13_reckon_64 o ?_
    refine ctakeL_ok (t := [2]) rfl hs.1 hk h2t.tv.1 (by omega) (kk.mono (fun r er k2 h1 f1 tn1 sk1 => ?_) (fun w t => t))
    have hs1 : CTb h1 C W T F m u := hs.fr f1.1 (FS.no rfl)
    have u0 := hs1.1.1.1
    refine k_X13_reckon_71 o ?_
    refine ctakeN_ok hs1.1 sk1 (by omega) ((EQ_eb.mp k2).mono (fun p ep k4 h2 f2 tn2 sk2 => ?_) (fun w t => CE.fq f1 t rfl))
    have f12 := f1.trans f2
    have hs2 : CTb h2 C W T F m u := hs.fr f12.1 (FS.no rfl)
    have v0 := hs2.1.1.1
    have v1 := tn2.1
    refine k_X13_reckon_75 o ?_
    refine cput0_ok rfl hs2.1 sk2 (tkN_mem sk1 ep).1 (by omega) ((adone f12 k4).mono (fun s' _ k6 h' f' sk' => ?_) (fun w t => t))
    refine k_X13_reckon_84 o ?_
    exact fin h' _ _ (k6 h' f' sk')
  rw [if_neg c34] at kk
  refine k_X13_reckon_58 o (fun _ => ?_) (fun c => absurd ((nI_leI (by omega) (by omega)).mpr (by omega)) c)
  by_cases e34 : op = 34
  · rw [if_pos e34] at kk
    have kk := EQ_eb.mp kk
    refine k_X13_reckon_87 o (fun c => absurd (by rw [e34]) c) (fun _ => ?_)
    refine k_X13_reckon_93 o ?_
    refine ctakeL_ok (t := [1]) rfl hs.1 hk h1t.tv.1 (by omega) (kk.mono (fun r er k2 h1 f1 tn1 sk1 => ?_) (fun w t => t))
    have hs1 : CTb h1 C W T F m u := hs.fr f1.1 (FS.no rfl)
    have u0 := hs1.1.1.1
    refine k_X13_reckon_98 o ?_
    refine cput0_ok (t := [1]) rfl hs1.1 sk1 h1t (by omega) ((adone f1 k2).mono (fun s' _ k6 h' f' sk' => ?_) (fun w t => t))
    refine k_X13_reckon_104 o ?_
    exact fin h' _ _ (k6 h' f' sk')
  rw [if_neg e34] at kk
  refine k_X13_reckon_87 o (fun _ => ?_) (fun c => absurd ((nI_eq (by omega) (by omega)).mp c) e34)
  by_cases c41 : 41 < op
  · rw [if_pos c41] at kk
    have kk := EQ_eb.mp kk
    refine k_X13_reckon_107 o (fun c => absurd ((nI_leI (by omega) (by omega)).mp c) (by omega)) (fun _ => ?_)
    refine k_X13_reckon_113 o ?_
    refine ctakeN_ok hs.1 hk (by omega) (kk.mono (fun r er k2 h1 f1 tn1 sk1 => ?_) (fun w t => t))
    have hs1 : CTb h1 C W T F m u := hs.fr f1.1 (FS.no rfl)
    have u0 := hs1.1.1.1
    have go : ∀ x : Int64, x = lN (tyc [op - 40]) → V X K 145 [.ref C, .int (nI op), nov, nov] [.long x, .ref C] h1 := fun x hx => by
      refine k_X13_reckon_145 o ?_
      refine cput0_ok hx hs1.1 sk1 (tOK.pr (by omega) (by omega)) (by omega) ((adone f1 k2).mono (fun s' _ k6 h' f' sk' => ?_) (fun w t => t))
      refine k_X13_reckon_149 o ?_
      exact fin h' _ _ (k6 h' f' sk')
    refine k_X13_reckon_117 o (fun c1 => ?_) (fun c => ?_)
    · have c1 : ¬ op = 42 := fun z => c1 (by rw [z])
      refine k_X13_reckon_130 o (fun c2 => ?_) (fun c => ?_)
      · have c2 : ¬ op = 43 := fun z => c2 (by rw [z])
        have e : op = 44 := by omega
        refine k_X13_reckon_142 o ?_
        exact go _ (by rw [e]; rfl)
      · have c : op = 43 := (nI_eq (by omega) (by omega)).mp c
        refine k_X13_reckon_136 o ?_
        exact go _ (by rw [c]; rfl)
    · have c : op = 42 := (nI_eq (by omega) (by omega)).mp c
      refine k_X13_reckon_124 o ?_
      exact go _ (by rw [c]; rfl)
  rw [if_neg c41] at kk
  refine k_X13_reckon_107 o (fun _ => ?_) (fun c => absurd ((nI_leI (by omega) (by omega)).mpr (by omega)) c)
  by_cases c37 : 37 < op
  · rw [if_pos c37] at kk
    have kk := EQ_eb.mp kk
    refine k_X13_reckon_152 o (fun c => absurd ((nI_leI (by omega) (by omega)).mp c) (by omega)) (fun _ => ?_)
    refine k_X13_reckon_158 o ?_
    refine ctakeN_ok hs.1 hk (by omega) (kk.mono (fun r er k2 h1 f1 tn1 sk1 => ?_) (fun w t => t))
    have hs1 : CTb h1 C W T F m u := hs.fr f1.1 (FS.no rfl)
    have u0 := hs1.1.1.1
    have r1 := tn1.1
    refine k_X13_reckon_162 o ?_
    refine ctakeT_ok hs1.1 sk1 (tkN_mem hk er).1.tv.1 (by omega) ((EQ_eb.mp k2).mono (fun p ep k4 h2 f2 tn2 sk2 => ?_) (fun w t => CE.fq f1 t rfl))
    have f12 := f1.trans f2
    have hs2 : CTb h2 C W T F m u := hs.fr f12.1 (FS.no rfl)
    have v0 := hs2.1.1.1
    refine k_X13_reckon_170 o ?_
    refine cput0_ok (t := [1]) rfl hs2.1 sk2 h1t (by omega) ((adone f12 k4).mono (fun s' _ k6 h' f' sk' => ?_) (fun w t => t))
    refine k_X13_reckon_176 o ?_
    exact fin h' _ _ (k6 h' f' sk')
  rw [if_neg c37] at kk
  refine k_X13_reckon_152 o (fun _ => ?_) (fun c => absurd ((nI_leI (by omega) (by omega)).mpr (by omega)) c)
  by_cases c35 : 35 < op
  · rw [if_pos c35] at kk
    have kk := EQ_eb.mp kk
    refine k_X13_reckon_179 o (fun c => absurd ((nI_leI (by omega) (by omega)).mp c) (by omega)) (fun _ => ?_)
    refine k_X13_reckon_185 o ?_
    refine ctake_ok hs.1 hk (by omega) (kk.mono (fun r er k2 h1 f1 tn1 sk1 => ?_) (fun w t => t))
    have hs1 : CTb h1 C W T F m u := hs.fr f1.1 (FS.no rfl)
    have u0 := hs1.1.1.1
    have r1 := tn1.1
    have q0 := (tk_mem hk er).1
    have k2 := EQ_eb.mp k2
    have key : ∀ b, (!isRf r.1.1) = b → V X K 205 [.ref C, .int (nI op), nov, nov] [.int (bI b), .ref C] h1 := fun b hb => by
      rw [hb] at k2
      refine k_X13_reckon_205 o ?_
      refine cneed_ok hs1.1 (by omega) (k2.mono (fun _ _ k3 => ?_) (fun w t => CE.fq f1 t rfl))
      show V X K 209 [.ref C, .int (nI op), nov, nov] [] h1
      refine k_X13_reckon_209 o ?_
      refine ctakeT_ok hs1.1 sk1 q0.tv.1 (by omega) ((EQ_eb.mp k3).mono (fun p ep k4 h2 f2 tn2 sk2 => ?_) (fun w t => CE.fq f1 t rfl))
      have f12 := f1.trans f2
      have hs2 : CTb h2 C W T F m u := hs.fr f12.1 (FS.no rfl)
      have v0 := hs2.1.1.1
      have v1 := tn2.1
      have ep1 := (tkT_mem sk1 ep).1
      rw [ep1] at v1
      refine k_X13_reckon_217 o ?_
      refine cnab_ok hs2 g.1 q0 (by omega) (by omega) ((EQ_eb.mp k4).mono (fun _ _ k5 => ?_) (fun w t => CE.fq f12 t rfl))
      show V X K 226 [.ref C, .int (nI op), nov, nov] [] h2
      refine k_X13_reckon_226 o ?_
      refine cput0_ok (t := [1]) rfl hs2.1 sk2 h1t (by omega) ((adone f12 k5).mono (fun s' _ k6 h' f' sk' => ?_) (fun w t => t))
      exact fin h' _ _ (k6 h' f' sk')
    refine k_X13_reckon_189 o ?_
    refine isReference_ok q0.tv.1 (by omega) ?_
    cases hr : isRf r.1.1 with
    | true =>
      refine k_X13_reckon_197 o (fun _ => ?_) (fun c => absurd (show bI true = 0 from c) (by decide))
      refine k_X13_reckon_204 o ?_
      exact key false (by rw [hr]; rfl)
    | false =>
      refine k_X13_reckon_197 o (fun c => absurd rfl c) (fun _ => ?_)
      refine k_X13_reckon_200 o ?_
      exact key true (by rw [hr]; rfl)
  · rw [if_neg c35] at kk
    refine k_X13_reckon_179 o (fun _ => ?_) (fun c => absurd ((nI_leI (by omega) (by omega)).mpr (by omega)) c)
    exact fin h _ _ (kk h (Fq.refl h) hk hl)
