/-! the component's checker: a call -/
def gvF : List Nat := [10000 + 435, 10000 + 451]
theorem ccal_ok {G : Gt} {d : Nat} {h : AH} {K : Outcome → AH → Prop} {C W T F g f : Nat} {m : Md} {u : Ux} {s : Sk} {l : Ls} (hs : CTb h C W T F m u) (hu : gU m u) (hu7 : u.1 ≤ 7) (gm : gM m) (hk : SKh h C m s) (hl : LSh h C (lty u) l) (hf : f < m.2.2.2.2.2.length + m.2.2.2.1.length) (hg : CG h g m f) (hd : 8 ≤ d) (kk : EQ (cCall m u (lty u) f (s, l)) (CN K C m (lty u) h) (CE K C W h)) : MW G d e_X13_call [.ref C, .ref g] h K := by
  refine st_X13_call fun X o hG hD _ => ?_
  subst hG; subst hD
  obtain ⟨n0, n1, ht0, ht1, hfl7⟩ := fls_ok gm hf
  have hT := gm.2.2.2.2.2.2
  have kk := EQ_eb.mp kk
  have rr2 : 64 ≤ 451 ∧ 451 < 4096 ∧ 451 % 16 = 3 := by decide
  -- gives
  have ph5 : ∀ (gs : Sk), GVo m gs → ∀ j i s' h1 v8 v9 v10, j + i = (fls m f 1).length → Fq (FS opF) h h1 → CTb h1 C W T F m u → CG h1 g m f → SKh h1 C m s' → LSh h1 C (lty u) l → EQ (eb (ptL (((fls m f 1).drop i).map fun x => (x.1, if isRf x.1 then (if isWr x.1 then gWr gs else gAll gs, true) else (0, false))) s') fun s => .ok (s, l)) (CN K C m (lty u) h) (CE K C W h) → V X K 293 [.ref C, .ref g, .int (nI (fls m f 0).length), .long (lN (gAll gs)), nov, .long (lN (gWr gs)), nov, .int (nI i), v8, v9, v10] [] h1 := by
    intro gs hgs j
    induction j with
    | zero =>
      intro i s' h1 v8 v9 v10 hi f1 hs1 hg1 sk1 hl1 k1
      obtain ⟨⟨a1, a2, a3, a4, a5⟩, a6, a7, a8⟩ := id hg1
      have hcnt : h1.I 513 (g + 2) = nI (fls m f 1).length := by obtain ⟨a, b, z1, z2, z3⟩ := a7; exact z3
      refine k_X13_call_293 o (fun _ => ?_) (fun c => ?_)
      rotate_left
      · exact absurd ((nI_leI (by omega) (by omega)).mpr (by omega)) c
      rw [List.drop_eq_nil_iff.mpr (by omega)] at k1
      refine k_X13_call_365 o ?_
      exact k1 h1 f1 sk1 hl1
    | succ j ih =>
      intro i s' h1 v8 v9 v10 hi f1 hs1 hg1 sk1 hl1 k1
      obtain ⟨⟨a1, a2, a3, a4, a5⟩, a6, a7, a8⟩ := id hg1
      have hcnt : h1.I 513 (g + 2) = nI (fls m f 1).length := by obtain ⟨a, b, z1, z2, z3⟩ := a7; exact z3
      obtain ⟨s1, ⟨s2, s3⟩, ⟨s4, s5, s6, s7⟩, -⟩ := id hs1
      have t0 := s1.1.1
      have t1 := s4.1.1
      have t2 := s4.1.2.2.2.1
      have hil : i < (fls m f 1).length := by omega
      rw [List.drop_eq_getElem_cons hil] at k1
      have hgt := ht1 _ (List.getElem_mem hil)
      generalize hx : (fls m f 1)[i] = x at k1 hgt
      have k1 := EQ_eb.mp (EQ_eb.mp (show EQ (eb (eb (pt x.1 (if isRf x.1 then (if isWr x.1 then gWr gs else gAll gs, true) else (0, false)) s') fun s => ptL (((fls m f 1).drop (i + 1)).map fun x => (x.1, if isRf x.1 then (if isWr x.1 then gWr gs else gAll gs, true) else (0, false))) s) fun s => .ok (s, l)) (CN K C m (lty u) h) (CE K C W h) from k1))
      refine k_X13_call_293 o (fun c => ?_) (fun _ => ?_)
      · exact absurd ((nI_leI (by omega) (by omega)).mp c) (by omega)
      refine k_X13_call_305 o ?_
      refine spget_ok a5 s4 s5 hT a7 (by omega) ?_
      rw [List.getElem?_eq_getElem hil, hx]
      refine k_X13_call_321 o ?_
      refine isReference_ok hgt.ok.tv.1 (by omega) ?_
      have fin : ∀ (og : Og), (if isRf x.1 then (if isWr x.1 then gWr gs else gAll gs, true) else (0, false)) = og → og.1 < 9223372036854775808 → V X K 356 [.ref C, .ref g, .int (nI (fls m f 0).length), .long (lN (gAll gs)), nov, .long (lN (gWr gs)), nov, .int (nI i), .long (lN (tyc x.1)), nov, v10] [.long (enc og), .long (lN (tyc x.1)), .ref C] h1 := fun og ho ho63 => by
        rw [ho] at k1
        refine k_X13_call_356 o ?_
        refine cput_ok hs1.1 sk1 hgt.ok ⟨ho63, fun z => by rw [z] at ho; exact ho.symm⟩ (by omega) (k1.mono (fun s'' _ k6 h' f' sk' => ?_) (fun w t => CE.fq f1 t rfl))
        refine k_X13_call_359 o ?_
        rw [nI_add]
        exact ih (i + 1) s'' h' _ _ _ (by omega) (f1.trans (f'.mono (FS.mono rfl))) (hs1.fr f'.1 (FS.no rfl)) (hg1.fr f'.1 (FS.no rfl)) sk' (hl1.fr f' rfl) (EQ_eb.mpr k6)
      cases hr : isRf x.1 with
      | false =>
        refine k_X13_call_331 o (fun c => absurd rfl c) (fun _ => ?_)
        refine k_X13_call_334 o ?_
        rw [← enc_0]
        exact fin (0, false) (by rw [hr]; rfl) (by decide)
      | true =>
        refine k_X13_call_331 o (fun _ => ?_) (fun c => absurd (show bI true = 0 from c) (by decide))
        refine k_X13_call_338 o ?_
        refine isWriting_ok hgt.ok.tv.1 (by omega) ?_
        cases hw : isWr x.1 with
        | false =>
          refine k_X13_call_343 o (fun _ => ?_) (fun c => absurd rfl c)
          refine k_X13_call_351 o ?_
          refine k_X13_call_352 o ?_
          rw [show lN (gAll gs) ||| (-9223372036854775808 : Int64) = enc (gAll gs, true) by rw [← enc_f, enc_in]]
          exact fin (gAll gs, true) (by rw [hr, hw]; rfl) (gAll_lt hgs)
        | true =>
          refine k_X13_call_343 o (fun c => absurd (show bI true = 0 from c) (by decide)) (fun _ => ?_)
          refine k_X13_call_346 o ?_
          refine k_X13_call_352 o ?_
          rw [show lN (gWr gs) ||| (-9223372036854775808 : Int64) = enc (gWr gs, true) by rw [← enc_f, enc_in]]
          exact fin (gWr gs, true) (by rw [hr, hw]; rfl) (gWr_lt hgs)
  -- resources
  have ph4 : ∀ (gs : Sk), GVo m gs → ∀ s' h1 v7 v8 v9 v10, Fq (FS opF) h h1 → CTb h1 C W T F m u → CG h1 g m f → SKh h1 C m s' → LSh h1 C (lty u) l → EQ (eb (nee (!hsR (fgs m f) || ((gAll gs &&& GLB) == 0 && !liv (lty u) s' l GLB 0)) 6) fun _ =>
  eb (ptL ((fls m f 1).map fun x => (x.1, if isRf x.1 then (if isWr x.1 then gWr gs else gAll gs, true) else (0, false))) s') fun s => .ok (s, l)) (CN K C m (lty u) h) (CE K C W h) → V X K 251 [.ref C, .ref g, .int (nI (fls m f 0).length), .long (lN (gAll gs)), nov, .long (lN (gWr gs)), nov, v7, v8, v9, v10] [] h1 := by
    intro gs hgs s' h1 v7 v8 v9 v10 f1 hs1 hg1 sk1 hl1 k1
    obtain ⟨⟨a1, a2, a3, a4, a5⟩, a6, a7, a8⟩ := id hg1
    have t0 := hs1.1.1.1
    have k1 := EQ_eb.mp k1
    have hal := gAll_lt hgs
    have key : ∀ b, (!hsR (fgs m f) || ((gAll gs &&& GLB) == 0 && !liv (lty u) s' l GLB 0)) = b → V X K 285 [.ref C, .ref g, .int (nI (fls m f 0).length), .long (lN (gAll gs)), nov, .long (lN (gWr gs)), nov, v7, v8, v9, v10] [.int (bI b), .ref C] h1 := fun b hb => by
      rw [hb] at k1
      refine k_X13_call_285 o ?_
      refine cneed_ok hs1.1 (by omega) (k1.mono (fun _ _ k2 => ?_) (fun w t => CE.fq f1 t rfl))
      refine k_X13_call_290 o ?_
      exact ph5 gs hgs (fls m f 1).length 0 s' h1 _ _ _ (by omega) f1 hs1 hg1 sk1 hl1 k2
    refine k_X13_call_251 o ?_
    refine chres_ok a1 a8 hfl7 ?_
    cases hr : hsR (fgs m f) with
    | false =>
      refine k_X13_call_256 o (fun _ => ?_) (fun c => absurd rfl c)
      refine k_X13_call_280 o ?_
      exact key true (by rw [hr]; rfl)
    | true =>
      refine k_X13_call_256 o (fun c => absurd (show bI true = 0 from c) (by decide)) (fun _ => ?_)
      have eg : lN (gAll gs) &&& (9223090561878065152 : Int64) = lN (gAll gs &&& GLB) := by
        rw [show (9223090561878065152 : Int64) = lN GLB from rfl, lN_and]
      have hlt : gAll gs &&& GLB < 18446744073709551616 := Nat.lt_of_le_of_lt Nat.and_le_left (by omega)
      refine k_X13_call_259 o (fun c => ?_) (fun c => ?_)
      · rw [eg] at c
        have c : ¬ (gAll gs &&& GLB) = 0 := fun z => c ((lN_0 hlt).mpr z)
        refine k_X13_call_284 o ?_
        refine key false ?_
        have : ((gAll gs &&& GLB) == 0) = false := by simpa using c
        rw [hr, this]; rfl
      · rw [eg] at c
        have c := (lN_0 hlt).mp c
        have e0 : ((gAll gs &&& GLB) == 0) = true := by simpa using c
        refine k_X13_call_269 o ?_
        refine cliv_ok (f := GLB) hs1 hu sk1 hl1 rfl (by omega) (by omega) ?_
        cases hh : liv (lty u) s' l GLB 0 with
        | true =>
          refine k_X13_call_277 o (fun _ => ?_) (fun c => absurd (show bI true = 0 from c) (by decide))
          refine k_X13_call_284 o ?_
          exact key false (by rw [hr, e0, hh]; rfl)
        | false =>
          refine k_X13_call_277 o (fun c => absurd rfl c) (fun _ => ?_)
          refine k_X13_call_280 o ?_
          exact key true (by rw [hr, e0, hh]; rfl)
  -- each writing one alone
  have ph3 : ∀ (gs : Sk), GVo m gs → gs.length = (fls m f 0).length → ∀ s' h1, Fq (FS opF) h h1 → CTb h1 C W T F m u → CG h1 g m f → SKh h1 C m s' → LSh h1 C (lty u) l → GVh h1 C 0 gs → ∀ j i v8 v9 v10, j + i = gs.length → EQ (eb (nee ((gs.zipIdx.drop i).all (P1c (lty u) s' l gs)) 6) fun _ => eb (nee (!hsR (fgs m f) || ((gAll gs &&& GLB) == 0 && !liv (lty u) s' l GLB 0)) 6) fun _ =>
  eb (ptL ((fls m f 1).map fun x => (x.1, if isRf x.1 then (if isWr x.1 then gWr gs else gAll gs, true) else (0, false))) s') fun s => .ok (s, l)) (CN K C m (lty u) h) (CE K C W h) → V X K 115 [.ref C, .ref g, .int (nI (fls m f 0).length), .long (lN (gAll (gs.take i))), nov, .long (lN (gWr (gs.take i))), nov, .int (nI i), v8, v9, v10] [] h1 := by
    intro gs hgs hgl s' h1 f1 hs1 hg1 sk1 hl1 gv1 j
    induction j with
    | zero =>
      intro i v8 v9 v10 hi k1
      refine k_X13_call_115 o (fun _ => ?_) (fun c => absurd ((nI_leI (by omega) (by omega)).mpr (by omega)) c)
      rw [List.drop_eq_nil_iff.mpr (by simp; omega)] at k1
      rw [List.take_of_length_le (by omega)]
      exact ph4 gs hgs s' h1 _ _ _ _ f1 hs1 hg1 sk1 hl1 k1
    | succ j ih =>
      intro i v8 v9 v10 hi k1
      have hil : i < gs.length := by omega
      have hiz : i < gs.zipIdx.length := by simp; omega
      have hx : gs[i]? = some gs[i] := List.getElem?_eq_getElem hil
      have hgx := hgs _ (List.getElem_mem hil)
      obtain ⟨e1, e2⟩ := gv1 i _ hx
      rw [Nat.zero_add] at e1 e2
      have ez : gs.zipIdx[i] = (gs[i], i) := by simp
      rw [List.drop_eq_getElem_cons hiz, ez, List.all_cons] at k1
      have etk : gs.take (i + 1) = gs.take i ++ [gs[i]] := by rw [List.take_succ, hx]; rfl
      generalize hxe : gs[i] = x at *
      have t0 := hs1.1.1.1
      have t1 := hs1.1.2.1.2.2.2.1
      have t2 := hs1.1.2.1.2.2.2.2.1
      have t3 := hs1.1.2.2.2.2.2.2.2.2.1
      have t4 := hs1.1.2.2.2.2.2.2.2.2.2.1
      have ixi : IX (nI i) 8 i := IX.mk (by omega) (by omega)
      have nxt : ∀ al wr v8 v9 v10, al = lN (gAll (gs.take (i + 1))) → wr = lN (gWr (gs.take (i + 1))) → EQ (eb (nee ((gs.zipIdx.drop (i + 1)).all (P1c (lty u) s' l gs)) 6) fun _ => eb (nee (!hsR (fgs m f) || ((gAll gs &&& GLB) == 0 && !liv (lty u) s' l GLB 0)) 6) fun _ =>
  eb (ptL ((fls m f 1).map fun x => (x.1, if isRf x.1 then (if isWr x.1 then gWr gs else gAll gs, true) else (0, false))) s') fun s => .ok (s, l)) (CN K C m (lty u) h) (CE K C W h) → V X K 245 [.ref C, .ref g, .int (nI (fls m f 0).length), .long al, nov, .long wr, nov, .int (nI i), v8, v9, v10] [] h1 := fun al wr v8 v9 v10 ea ew k => by
        subst ea; subst ew
        refine k_X13_call_245 o ?_
        rw [nI_add]
        exact ih (i + 1) _ _ _ (by omega) k
      refine k_X13_call_115 o (fun c => absurd ((nI_leI (by omega) (by omega)).mp c) (by omega)) (fun _ => ?_)
      refine k_X13_call_121 o ?_
      refine isWriting_ok hgx.1.tv.1 (by omega) ?_
      have eal : lN (gAll (gs.take i)) ||| lN x.2.1 = lN (gAll (gs.take (i + 1))) := by rw [lN_or, etk, gAll_s]
      cases hw : isWr x.1 with
      | false =>
        have ep : P1c (lty u) s' l gs (x, i) = true := by unfold P1c; rw [hw]; rfl
        rw [ep, Bool.true_and] at k1
        refine k_X13_call_131 o (fun c => absurd rfl c) (fun _ => ?_)
        refine k_X13_call_148 o ?_
        exact nxt _ _ _ _ _ eal (by rw [etk, gWr_s, hw]; rfl) k1
      | true =>
        have ewr : lN (gWr (gs.take i)) ||| lN x.2.1 = lN (gWr (gs.take (i + 1))) := by rw [lN_or, etk, gWr_s, hw]; rfl
        have ep : P1c (lty u) s' l gs (x, i) = (!liv (lty u) s' l x.2.1 2 && gs.zipIdx.all fun y => y.2 == i || (y.1.2.1 &&& x.2.1) == 0) := by unfold P1c; rw [hw]; rfl
        refine k_X13_call_131 o (fun _ => ?_) (fun c => absurd (show bI true = 0 from c) (by decide))
        refine k_X13_call_151 o ?_
        rw [eal, ewr]
        refine cliv_ok (f := x.2.1) hs1 hu sk1 hl1 (by rw [un_l (by omega)]; exact Nat.mod_eq_of_lt hgx.2.1) (by omega) (by omega) ?_
        -- beside the others
        have inner : ∀ j' i' a, j' + i' = gs.length → (a && (gs.zipIdx.drop i').all fun y => y.2 == i || (y.1.2.1 &&& x.2.1) == 0) = P1c (lty u) s' l gs (x, i) → V X K 188 [.ref C, .ref g, .int (nI (fls m f 0).length), .long (lN (gAll (gs.take (i + 1)))), nov, .long (lN (gWr (gs.take (i + 1)))), nov, .int (nI i), nov, .int (bI a), .int (nI i')] [] h1 := by
          intro j'
          induction j' with
          | zero =>
            intro i' a hi' ha
            rw [List.drop_eq_nil_iff.mpr (by simp; omega)] at ha
            have ha : a = P1c (lty u) s' l gs (x, i) := by simpa using ha
            refine k_X13_call_188 o (fun _ => ?_) (fun c => absurd ((nI_leI (by omega) (by omega)).mpr (by omega)) c)
            refine k_X13_call_237 o ?_
            cases hp : P1c (lty u) s' l gs (x, i) with
            | false =>
              rw [hp] at ha k1
              subst ha
              exact cneed_ok (b := false) hs1.1 (by omega) (EQ_e.mpr (CE.fq f1 (EQ_nf.mp (EQ_eb.mp k1)) rfl))
            | true =>
              rw [hp] at ha k1
              rw [Bool.true_and] at k1
              subst ha
              refine cneed_ok (b := true) hs1.1 (by omega) ?_
              exact nxt _ _ _ _ _ rfl rfl k1
          | succ j' ih' =>
            intro i' a hi' ha
            have hil' : i' < gs.length := by omega
            have hiz' : i' < gs.zipIdx.length := by simp; omega
            have hy : gs[i']? = some gs[i'] := List.getElem?_eq_getElem hil'
            have hgy := hgs _ (List.getElem_mem hil')
            obtain ⟨w1, w2⟩ := gv1 i' _ hy
            rw [Nat.zero_add] at w1 w2
            have ez' : gs.zipIdx[i'] = (gs[i'], i') := by simp
            rw [List.drop_eq_getElem_cons hiz', ez', List.all_cons] at ha
            generalize gs[i'] = y at *
            have ixj : IX (nI i') 8 i' := IX.mk (by omega) (by omega)
            have step : ∀ b, (i' == i || (y.2.1 &&& x.2.1) == 0) = b → V X K 228 [.ref C, .ref g, .int (nI (fls m f 0).length), .long (lN (gAll (gs.take (i + 1)))), nov, .long (lN (gWr (gs.take (i + 1)))), nov, .int (nI i), nov, .int (bI a), .int (nI i')] [.int (bI b), .int (bI a)] h1 := fun b hb => by
              refine k_X13_call_228 o ?_
              have eb' : bI a &&& bI b = bI (a && b) := by cases a <;> cases b <;> rfl
              rw [nI_add, eb']
              refine ih' (i' + 1) (a && b) (by omega) ?_
              rw [← ha]
              show _ = (a && ((i' == i || (y.2.1 &&& x.2.1) == 0) && _))
              rw [hb, Bool.and_assoc]
            refine k_X13_call_188 o (fun c => absurd ((nI_leI (by omega) (by omega)).mp c) (by omega)) (fun _ => ?_)
            refine k_X13_call_194 o (fun c => ?_) (fun c => ?_)
            · have c : i' = i := (nI_eq (by omega) (by omega)).mp c
              refine k_X13_call_223 o ?_
              exact step true (by rw [c]; simp)
            · have c : ¬ i' = i := fun z => c (by rw [z])
              have c' : (i' == i) = false := by simpa using c
              have hlt : y.2.1 &&& x.2.1 < 18446744073709551616 := Nat.lt_of_le_of_lt Nat.and_le_left (by have := hgy.2.1; omega)
              refine k_X13_call_203 o (fun z => ?_) (fun z => ?_)
              · rw [lN_and] at z
                have z : ¬ (y.2.1 &&& x.2.1) = 0 := fun q => z ((lN_0 hlt).mpr q)
                refine k_X13_call_227 o ?_
                refine step false ?_
                rw [c']; simpa using z
              · rw [lN_and] at z
                have z := (lN_0 hlt).mp z
                refine k_X13_call_223 o ?_
                refine step true ?_
                rw [c', z]; rfl
        cases hh : liv (lty u) s' l x.2.1 2 with
        | true =>
          refine k_X13_call_175 o (fun _ => ?_) (fun c => absurd (show bI true = 0 from c) (by decide))
          refine k_X13_call_182 o ?_
          refine k_X13_call_183 o ?_
          refine inner gs.length 0 false (by omega) ?_
          rw [ep, hh]; rfl
        | false =>
          refine k_X13_call_175 o (fun c => absurd rfl c) (fun _ => ?_)
          refine k_X13_call_178 o ?_
          refine k_X13_call_183 o ?_
          refine inner gs.length 0 true (by omega) ?_
          rw [ep, hh]; rfl
  -- may it have resources
  have ph2 : ∀ (gs : Sk), GVo m gs → gs.length = (fls m f 0).length → ∀ s' h1 v3 v4 v5 v6 v7 v8 v9 v10, Fq (FS opF) h h1 → CTb h1 C W T F m u → CG h1 g m f → SKh h1 C m s' → LSh h1 C (lty u) l → GVh h1 C 0 gs → EQ (eb (nee (!hsR (fgs m f) || hsR u.1) 15) fun _ => eb (nee (gAl (lty u) s' l gs) 6) fun _ => eb (nee (!hsR (fgs m f) || ((gAll gs &&& GLB) == 0 && !liv (lty u) s' l GLB 0)) 6) fun _ =>
  eb (ptL ((fls m f 1).map fun x => (x.1, if isRf x.1 then (if isWr x.1 then gWr gs else gAll gs, true) else (0, false))) s') fun s => .ok (s, l)) (CN K C m (lty u) h) (CE K C W h) → V X K 79 [.ref C, .ref g, .int (nI (fls m f 0).length), v3, v4, v5, v6, v7, v8, v9, v10] [] h1 := by
    intro gs hgs hgl s' h1 v3 v4 v5 v6 v7 v8 v9 v10 f1 hs1 hg1 sk1 hl1 gv1 k1
    obtain ⟨⟨a1, a2, a3, a4, a5⟩, a6, a7, a8⟩ := id hg1
    have t0 := hs1.1.1.1
    have t1 := hs1.2.1.2
    have k1 := EQ_eb.mp k1
    have key : ∀ b, (!hsR (fgs m f) || hsR u.1) = b → V X K 102 [.ref C, .ref g, .int (nI (fls m f 0).length), v3, v4, v5, v6, v7, v8, v9, v10] [.int (bI b), .ref C] h1 := fun b hb => by
      rw [hb] at k1
      refine k_X13_call_102 o ?_
      refine cneed_ok hs1.1 (by omega) (k1.mono (fun _ _ k2 => ?_) (fun w t => CE.fq f1 t rfl))
      refine k_X13_call_107 o ?_
      rw [gAl_P] at k2
      exact ph3 gs hgs hgl s' h1 f1 hs1 hg1 sk1 hl1 gv1 gs.length 0 _ _ _ (by omega) k2
    refine k_X13_call_79 o ?_
    refine chres_ok a1 a8 hfl7 ?_
    cases hr : hsR (fgs m f) with
    | false =>
      refine k_X13_call_84 o (fun _ => ?_) (fun c => absurd rfl c)
      refine k_X13_call_97 o ?_
      exact key true (by rw [hr]; rfl)
    | true =>
      refine k_X13_call_84 o (fun c => absurd (show bI true = 0 from c) (by decide)) (fun _ => ?_)
      refine k_X13_call_87 o ?_
      refine chres_ok hs1.2.2.2.1.1 hs1.2.2.2.2.1 hu7 ?_
      cases hr2 : hsR u.1 with
      | false =>
        refine k_X13_call_94 o (fun _ => ?_) (fun c => absurd rfl c)
        refine k_X13_call_101 o ?_
        exact key false (by rw [hr, hr2]; rfl)
      | true =>
        refine k_X13_call_94 o (fun c => absurd (show bI true = 0 from c) (by decide)) (fun _ => ?_)
        refine k_X13_call_97 o ?_
        exact key true (by rw [hr, hr2]; rfl)
  -- what is given
  have ph1 : ∀ i gs s' h1 v4 v5 v6 v7 v8 v9 v10, i + gs.length = (fls m f 0).length → GVo m gs → Fq (FS clF) h h1 → SKh h1 C m s' → GVh h1 C i gs → EQ (tkL ((((fls m f 0).map Prod.fst).take i).reverse) s') (fun q => EQ (eb (nee (!hsR (fgs m f) || hsR u.1) 15) fun _ => eb (nee (gAl (lty u) q.2 l (q.1 ++ gs)) 6) fun _ => eb (nee (!hsR (fgs m f) || ((gAll (q.1 ++ gs) &&& GLB) == 0 && !liv (lty u) q.2 l GLB 0)) 6) fun _ =>
  eb (ptL ((fls m f 1).map fun x => (x.1, if isRf x.1 then (if isWr x.1 then gWr (q.1 ++ gs) else gAll (q.1 ++ gs), true) else (0, false))) q.2) fun s => .ok (s, l)) (CN K C m (lty u) h) (CE K C W h)) (CE K C W h) → V X K 12 [.ref C, .ref g, .int (nI (fls m f 0).length), .int (nI i - nI 1), v4, v5, v6, v7, v8, v9, v10] [] h1 := by
    intro i
    induction i with
    | zero =>
      intro gs s' h1 v4 v5 v6 v7 v8 v9 v10 hi hgs f1 sk1 gv1 k1
      have hs1 : CTb h1 C W T F m u := hs.fr f1.1 (FS.no rfl)
      refine k_X13_call_12 o (fun _ => ?_) (fun c => absurd (by decide) c)
      exact ph2 gs hgs (by omega) s' h1 _ _ _ _ _ _ _ _ (f1.mono (FS.mono rfl)) hs1 (hg.fr f1.1 (FS.no rfl)) sk1 (hl.fr f1 rfl) gv1 k1
    | succ i ih =>
      intro gs s' h1 v4 v5 v6 v7 v8 v9 v10 hi hgs f1 sk1 gv1 k1
      have hs1 : CTb h1 C W T F m u := hs.fr f1.1 (FS.no rfl)
      have hg1 : CG h1 g m f := hg.fr f1.1 (FS.no rfl)
      obtain ⟨⟨a1, a2, a3, a4, a5⟩, a6, a7, a8⟩ := id hg1
      obtain ⟨s1, ⟨s2, s3⟩, ⟨s4, s5, s6, s7⟩, -⟩ := id hs1
      have t0 := s1.1.1
      have t1 := s4.1.1
      have t2 := s4.1.2.2.2.1
      have hil : i < (fls m f 0).length := by omega
      have hgt := ht0 _ (List.getElem_mem hil)
      have e1 : ((((fls m f 0).map Prod.fst).take (i + 1)).reverse) = (fls m f 0)[i].1 :: (((fls m f 0).map Prod.fst).take i).reverse := by
        rw [List.take_succ, List.getElem?_map, List.getElem?_eq_getElem hil]; simp
      rw [e1] at k1
      generalize hx : (fls m f 0)[i] = x at *
      have k1 := EQ_eb.mp k1
      rw [nI_sub (by omega), Nat.add_sub_cancel]
      refine k_X13_call_12 o (fun c => absurd c (nI_nn (by omega))) (fun _ => ?_)
      refine k_X13_call_16 o ?_
      refine spget_ok a4 s4 s5 hT a6 (by omega) ?_
      rw [List.getElem?_eq_getElem hil, hx]
      refine k_X13_call_32 o ?_
      refine ctakeT_ok hs1.1 sk1 hgt.ok.tv.1 (by omega) (k1.mono (fun r er k2 h2 f2 tn2 sk2 => ?_) (fun w t => CE.fq f1 t rfl))
      obtain ⟨er1, er2, er3⟩ := tkT_mem sk1 er
      have hs2 : CTb h2 C W T F m u := hs1.fr f2.1 (FS.no rfl)
      have w0 := hs2.1.1.1
      have w1 := hs2.1.2.1.2.2.2.1
      have w2 := hs2.1.2.1.2.2.2.2.1
      have w3 := hs2.1.2.2.2.2.2.2.2.2.1
      have w4 := hs2.1.2.2.2.2.2.2.2.2.2.1
      have ix : IX (nI i) 8 i := IX.mk (by omega) (by omega)
      have tn := tn2.1
      rw [er1] at tn
      have tno := tn2.2
      refine k_X13_call_35 o ?_
      refine isReference_ok hgt.ok.tv.1 (by omega) ?_
      have f3 : Fq (FS clF) h (h2.sEJ 435 (C + 8) i (lN (tyc x.1))) := (f1.trans (f2.mono (FS.mono rfl))).sEJ rfl
      have w0' : (h2.sEJ 435 (C + 8) i (lN (tyc x.1))).tag C = some (12, 0) := f3.1.tag hs.1.1.1
      have w4' : (h2.sEJ 435 (C + 8) i (lN (tyc x.1))).tag (C + 9) = some (451, 8) := f3.1.tag hs.1.2.2.2.2.2.2.2.2.2.1
      have tno' : (h2.sEJ 435 (C + 8) i (lN (tyc x.1))).J 1546 C = enc r.1.2 := by simpa [n_sI, z_sI, tag_sI, I_sI, J_sI, R_sI, EI_sI, EJ_sI, ER_sI, n_sJ, z_sJ, tag_sJ, I_sJ, J_sJ, R_sJ, EI_sJ, EJ_sJ, ER_sJ, n_sR, z_sR, tag_sR, I_sR, J_sR, R_sR, EI_sR, EJ_sR, ER_sR, n_sEI, z_sEI, tag_sEI, I_sEI, J_sEI, R_sEI, EI_sEI, EJ_sEI, ER_sEI, n_sEJ, z_sEJ, tag_sEJ, I_sEJ, J_sEJ, R_sEJ, EI_sEJ, EJ_sEJ, ER_sEJ, n_sER, z_sER, tag_sER, I_sER, J_sER, R_sER, EI_sER, EJ_sER, ER_sER, n_nw, z_nw, tag_nw, I_nw, J_nw, R_nw, EI_nw, EJ_nw, ER_nw] using tno
      have fin : ∀ z : Int64, z = lN r.1.2.1 → V X K 72 [.ref C, .ref g, .int (nI (fls m f 0).length), .int (nI i), v4, v5, v6, v7, v8, v9, v10] [.long z, .int (nI i), .ref (C + 9)] (h2.sEJ 435 (C + 8) i (lN (tyc x.1))) := fun z hz => by
        subst hz
        refine k_X13_call_72 (T1 := 451) o ?_
        have e2 : nI i + (-1 : Int32) = nI i - nI 1 := by rw [Int32.sub_eq_add_neg]; rfl
        rw [e2]
        refine ih (r.1 :: gs) r.2 ((h2.sEJ 435 (C + 8) i (lN (tyc x.1))).sEJ 451 (C + 9) i (lN r.1.2.1)) _ _ _ _ _ _ _ (by simp; omega) (fun y hy => ?_) (f3.sEJ rfl) ?_ (fun j y hy => ?_) ?_
        · rcases List.mem_cons.mp hy with rfl | hy
          · exact ⟨by rw [er1]; exact hgt.ok, er2, fun z => er3 (by rw [← er1]; exact z)⟩
          · exact hgs y hy
        · refine SKh.fr (l := gvF) ?_ rfl sk2
          exact (by refine (Fq.sEJ (Fq.sEJ (Fq.refl h2) ?_) ?_) <;> exact rfl)
        · cases j with
          | zero =>
            cases hy
            rw [Nat.add_zero]
            refine ⟨?_, ?_⟩
            · rw [er1]; simp [n_sI, z_sI, tag_sI, I_sI, J_sI, R_sI, EI_sI, EJ_sI, ER_sI, n_sJ, z_sJ, tag_sJ, I_sJ, J_sJ, R_sJ, EI_sJ, EJ_sJ, ER_sJ, n_sR, z_sR, tag_sR, I_sR, J_sR, R_sR, EI_sR, EJ_sR, ER_sR, n_sEI, z_sEI, tag_sEI, I_sEI, J_sEI, R_sEI, EI_sEI, EJ_sEI, ER_sEI, n_sEJ, z_sEJ, tag_sEJ, I_sEJ, J_sEJ, R_sEJ, EI_sEJ, EJ_sEJ, ER_sEJ, n_sER, z_sER, tag_sER, I_sER, J_sER, R_sER, EI_sER, EJ_sER, ER_sER, n_nw, z_nw, tag_nw, I_nw, J_nw, R_nw, EI_nw, EJ_nw, ER_nw]
            · simp [n_sI, z_sI, tag_sI, I_sI, J_sI, R_sI, EI_sI, EJ_sI, ER_sI, n_sJ, z_sJ, tag_sJ, I_sJ, J_sJ, R_sJ, EI_sJ, EJ_sJ, ER_sJ, n_sR, z_sR, tag_sR, I_sR, J_sR, R_sR, EI_sR, EJ_sR, ER_sR, n_sEI, z_sEI, tag_sEI, I_sEI, J_sEI, R_sEI, EI_sEI, EJ_sEI, ER_sEI, n_sEJ, z_sEJ, tag_sEJ, I_sEJ, J_sEJ, R_sEJ, EI_sEJ, EJ_sEJ, ER_sEJ, n_sER, z_sER, tag_sER, I_sER, J_sER, R_sER, EI_sER, EJ_sER, ER_sER, n_nw, z_nw, tag_nw, I_nw, J_nw, R_nw, EI_nw, EJ_nw, ER_nw]
          | succ j =>
            have hy : gs[j]? = some y := hy
            obtain ⟨z1, z2⟩ := gv1 j y hy
            have ne : i + (j + 1) ≠ i := by omega
            have c1 : h2.EJ 435 (C + 8) (i + (j + 1)) = lN (tyc y.1) := by
              rw [f2.1.EJ (FS.n rfl), ← z1]; congr 1; omega
            have c2 : h2.EJ 451 (C + 9) (i + (j + 1)) = lN y.2.1 := by
              rw [f2.1.EJ (FS.n rfl), ← z2]; congr 1; omega
            refine ⟨?_, ?_⟩
            · simpa [n_sI, z_sI, tag_sI, I_sI, J_sI, R_sI, EI_sI, EJ_sI, ER_sI, n_sJ, z_sJ, tag_sJ, I_sJ, J_sJ, R_sJ, EI_sJ, EJ_sJ, ER_sJ, n_sR, z_sR, tag_sR, I_sR, J_sR, R_sR, EI_sR, EJ_sR, ER_sR, n_sEI, z_sEI, tag_sEI, I_sEI, J_sEI, R_sEI, EI_sEI, EJ_sEI, ER_sEI, n_sEJ, z_sEJ, tag_sEJ, I_sEJ, J_sEJ, R_sEJ, EI_sEJ, EJ_sEJ, ER_sEJ, n_sER, z_sER, tag_sER, I_sER, J_sER, R_sER, EI_sER, EJ_sER, ER_sER, n_nw, z_nw, tag_nw, I_nw, J_nw, R_nw, EI_nw, EJ_nw, ER_nw, ne] using c1
            · simpa [n_sI, z_sI, tag_sI, I_sI, J_sI, R_sI, EI_sI, EJ_sI, ER_sI, n_sJ, z_sJ, tag_sJ, I_sJ, J_sJ, R_sJ, EI_sJ, EJ_sJ, ER_sJ, n_sR, z_sR, tag_sR, I_sR, J_sR, R_sR, EI_sR, EJ_sR, ER_sR, n_sEI, z_sEI, tag_sEI, I_sEI, J_sEI, R_sEI, EI_sEI, EJ_sEI, ER_sEI, n_sEJ, z_sEJ, tag_sEJ, I_sEJ, J_sEJ, R_sEJ, EI_sEJ, EJ_sEJ, ER_sEJ, n_sER, z_sER, tag_sER, I_sER, J_sER, R_sER, EI_sER, EJ_sER, ER_sER, n_nw, z_nw, tag_nw, I_nw, J_nw, R_nw, EI_nw, EJ_nw, ER_nw, ne] using c2
        · refine (EQ_eb.mp k2).mono (fun q _ z => ?_) (fun _ z => z)
          have z : EQ (eb (nee (!hsR (fgs m f) || hsR u.1) 15) fun _ => eb (nee (gAl (lty u) q.2 l ((q.1 ++ [r.1]) ++ gs)) 6) fun _ => eb (nee (!hsR (fgs m f) || ((gAll ((q.1 ++ [r.1]) ++ gs) &&& GLB) == 0 && !liv (lty u) q.2 l GLB 0)) 6) fun _ =>
  eb (ptL ((fls m f 1).map fun x => (x.1, if isRf x.1 then (if isWr x.1 then gWr ((q.1 ++ [r.1]) ++ gs) else gAll ((q.1 ++ [r.1]) ++ gs), true) else (0, false))) q.2) fun s => .ok (s, l)) (CN K C m (lty u) h) (CE K C W h) := z
          rw [List.append_assoc] at z
          exact z
      cases hr : isRf x.1 with
      | false =>
        refine k_X13_call_57 o (fun _ => ?_) (fun c => absurd rfl c)
        refine k_X13_call_71 o ?_
        exact fin _ (by rw [er3 hr]; rfl)
      | true =>
        refine k_X13_call_57 o (fun c => absurd (show bI true = 0 from c) (by decide)) (fun _ => ?_)
        refine k_X13_call_60 o ?_
        refine fin _ ?_
        refine un_inj ?_
        have e3 : (9223372036854775808 : Nat) = 2 ^ 63 := rfl
        rw [un_and, un_enc er2, show un (9223372036854775807 : Int64) = 2 ^ 63 - 1 from rfl, Nat.and_two_pow_sub_one_eq_mod, ← e3, ogn_m er2, un_l (by omega)]
  obtain ⟨⟨a1, a2, a3, a4, a5⟩, a6, a7, a8⟩ := id hg
  have hcnt : h.I 513 (g + 1) = nI (fls m f 0).length := by obtain ⟨a, b, z1, z2, z3⟩ := a6; exact z3
  refine k_X13_call_0 o ?_
  refine ph1 (fls m f 0).length [] s h _ _ _ _ _ _ _ (by simp) (fun x hx => by cases hx) (Fq.refl h) hk (fun j x hx => by simp at hx) ?_
  rw [List.take_of_length_le (by simp)]
  refine kk.mono (fun q _ z => ?_) (fun _ z => z)
  rw [List.append_nil]; exact z
