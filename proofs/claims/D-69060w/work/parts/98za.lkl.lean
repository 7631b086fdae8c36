/-! the twin's looker: one instruction, and all -/
theorem TGd.lo {h : AH} {O : Nat} {m : Md} {lt : List Ty} {x : Ts} (g : TGd h O m lt x) : TGd h O m [] (none, x.2.1, []) :=
  ⟨g.1, g.2.1, ⟨fun k hk => by simp at hk, fun k og hk => by simp at hk, rfl, fun k og hk => by simp at hk⟩, trivial⟩
theorem lcob_ok {G : Gt} {d : Nat} {h : AH} {K : Outcome → AH → Prop} {O w : Nat} {i j : Int32} (h0 : h.tag O = some (24, 0)) (hb : TBd h O w) (kk : K (.returned none) h) : MW G d e_X25_come [.ref O, .int i, .int j] h K := by
  refine st_X25_come fun X o hG hD _ => ?_
  subst hG; subst hD
  obtain ⟨z1, z2, -⟩ := id hb
  refine k_X25_come_0 o (fun c => absurd c (nI_nz z2)) (fun _ => ?_)
  refine k_X25_come_7 o ?_
  exact kk
def lkF : List Nat := trF ++ tmF
theorem cLook_len {m : Md} {u : Ux} {lt : List Ty} {i : Nat} {x : Ix} {s : Sk} {tb : Tb} {c : Sk × Tb} (h : cLook m u lt i x (s, tb) = .ok c) : (∀ q, (tat tb q).isSome = true → (tat c.2 q).isSome = true) ∧ (tat tb i).isSome = true := by
  rw [cLook_one] at h
  obtain ⟨r, h1, h2⟩ := eb_ok h
  obtain ⟨-, q2, q3⟩ := cOne_len h1
  split at h2
  · cases h2
    exact ⟨q2, q3⟩
  · obtain ⟨_, _, h2⟩ := eb_ok h2
    obtain ⟨tb', h3, h2⟩ := eb_ok h2
    cases h2
    exact ⟨fun q hq => (cCome_len h3).2 q (q2 q hq), q3⟩
theorem llok_ok {G : Gt} {d : Nat} {h : AH} {K : Outcome → AH → Prop} {O U n f i N : Nat} {B : Nat → Nat} {m : Md} {u : Ux} {s : Sk} {tb : Tb} {y : Ix} (hs : LC h O U n B m f u) (g : gM m) (hy : (ui u)[i]? = some y) (gx : gX m u y) (hr : TGd h O m [] (none, s, [])) (ht : TMh h O N (lty u) tb) (hle : LEh h O u) (hN : N ≤ 1024) (hNu : N = (ui u).length) (hcm : ∀ j, j < i → (tat tb j).isSome = true) (hd : 8 ≤ d)
    (kk : ∀ h', Fq (FS lkF) h h' → EQ (cLook m u (lty u) i y (s, tb)) (fun c => TGd h' O m [] (none, c.1, []) ∧ TMh h' O N (lty u) c.2) (TBd h' O) → K (.returned none) h') : MW G d e_X25_look [.ref O, .int (nI i)] h K := by
  refine st_X25_look fun X o hG hD _ => ?_
  subst hG; subst hD
  have hu := (g.2.2.2.2.1 u (List.mem_of_getElem? hs.2.1.1)).2
  have h4 := g.1
  have hn40 := hu.n
  have huf := hs.2.1.1
  have hi := get_lt hy
  have h60 := gx.2.1
  have lz : ∀ {hx : AH}, Fq (FS lkF) h hx → LC hx O U n B m f u := fun fx => hs.fr fx.1 (FS.no rfl)
  -- ends
  have bad178 : ∀ h1 w, Fq (FS lkF) h h1 → TBd h1 O w → cLook m u (lty u) i y (s, tb) = .error w → V X K 178 [.ref O, .int (nI i), .int (nI y.1), .int (nI y.2.1)] [] h1 := fun h1 w f1 b1 ec => by
    rw [ec] at kk
    have l1 := lz f1
    have w0 := l1.1.1.1
    have w1 := l1.2.1.2.2.2
    have stop : V X K 194 [.ref O, .int (nI i), .int (nI y.1), .int (nI y.2.1)] [] h1 := by
      refine k_X25_look_194 o ?_
      obtain ⟨z1, z2, -⟩ := b1
      refine kk _ (f1.sI rfl) (show TBd _ O w from ⟨?_, z2, 0, by omega, ?_⟩)
      · simp [n_sI, z_sI, tag_sI, I_sI, J_sI, R_sI, EI_sI, EJ_sI, ER_sI, n_sJ, z_sJ, tag_sJ, I_sJ, J_sJ, R_sJ, EI_sJ, EJ_sJ, ER_sJ, n_sR, z_sR, tag_sR, I_sR, J_sR, R_sR, EI_sR, EJ_sR, ER_sR, n_sEI, z_sEI, tag_sEI, I_sEI, J_sEI, R_sEI, EI_sEI, EJ_sEI, ER_sEI, n_sEJ, z_sEJ, tag_sEJ, I_sEJ, J_sEJ, R_sEJ, EI_sEJ, EJ_sEJ, ER_sEJ, n_sER, z_sER, tag_sER, I_sER, J_sER, R_sER, EI_sER, EJ_sER, ER_sER, n_nw, z_nw, tag_nw, I_nw, J_nw, R_nw, EI_nw, EJ_nw, ER_nw, z1]
      · simp [n_sI, z_sI, tag_sI, I_sI, J_sI, R_sI, EI_sI, EJ_sI, ER_sI, n_sJ, z_sJ, tag_sJ, I_sJ, J_sJ, R_sJ, EI_sJ, EJ_sJ, ER_sJ, n_sR, z_sR, tag_sR, I_sR, J_sR, R_sR, EI_sR, EJ_sR, ER_sR, n_sEI, z_sEI, tag_sEI, I_sEI, J_sEI, R_sEI, EI_sEI, EJ_sEI, ER_sEI, n_sEJ, z_sEJ, tag_sEJ, I_sEJ, J_sEJ, R_sEJ, EI_sEJ, EJ_sEJ, ER_sEJ, n_sER, z_sER, tag_sER, I_sER, J_sER, R_sER, EI_sER, EJ_sER, ER_sER, n_nw, z_nw, tag_nw, I_nw, J_nw, R_nw, EI_nw, EJ_nw, ER_nw]
    refine k_X25_look_178 o (fun _ => stop) (fun _ => ?_)
    refine k_X25_look_183 o (fun _ => stop) (fun _ => ?_)
    refine k_X25_look_188 o (fun _ => ?_) (fun _ => stop)
    have r1 : TRs h1 O m (lty u) (.error w : Except Nat Ts) := b1
    have nd : ∀ v, V X K 216 [.ref O, .int (nI i), .int (nI y.1), .int (nI y.2.1)] [.int v, .ref O] h1 := fun v => by
      refine k_X25_look_216 o ?_
      refine lneed_ok (b := true) w0 r1 (fun x hx => by cases hx) (by decide) (by omega) fun h2 f2 r2 => ?_
      have F2 : Fq (FS lkF) h h2 := f1.trans (f2.mono (FS.mono rfl))
      have y0 := (lz F2).1.1.1
      refine k_X25_look_221 o ?_
      refine lcob_ok y0 r2 ?_
      refine k_X25_look_229 o ?_
      exact kk h2 F2 r2
    refine k_X25_look_200 o (fun _ => ?_) (fun _ => ?_)
    · refine k_X25_look_215 o ?_
      exact nd _
    · refine k_X25_look_211 o ?_
      exact nd _
  have bad162 : ∀ h1 w, Fq (FS lkF) h h1 → TBd h1 O w → cLook m u (lty u) i y (s, tb) = .error w → V X K 162 [.ref O, .int (nI i), .int (nI y.1), .int (nI y.2.1)] [] h1 := fun h1 w f1 b1 ec => by
    have w0 := (lz f1).1.1.1
    refine k_X25_look_162 o (fun _ => bad178 h1 w f1 b1 ec) (fun _ => ?_)
    refine k_X25_look_167 o (fun _ => bad178 h1 w f1 b1 ec) (fun _ => ?_)
    refine k_X25_look_172 o ?_
    exact lcob_ok w0 b1 (bad178 h1 w f1 b1 ec)
  -- needs at first
  obtain ⟨s0, ⟨a1, a2, a3, a4, a5, a6⟩, ⟨b1, b2, b3, b4, b5, b6⟩, ⟨c1, c2, c3, c4, c5, c6⟩, d1, d2, d3, d4, d5, d6⟩ := id hs.1.1
  have ixi : IX (nI i) 1025 i := IX.mk (by omega) (by omega)
  have v1 := (ht.2 i (by omega)).1
  have hr' : TRs h O m [] (.ok (none, s, [])) := hr
  refine k_X25_look_0 o ?_
  refine lneed_ok (b := (tat tb i).isSome) s0 hr' (fun _ _ => rfl) (by decide) (by omega) fun h1 f1 r1 => ?_
  have F1 : Fq (FS lkF) h h1 := f1.mono (FS.mono rfl)
  have l1 := lz F1
  have w0 := l1.1.1.1
  have w1 := l1.1.1.2.1.2.2.1
  have w2 := l1.1.1.2.2.2.1.2.2.1
  have w3 : h1.EI 1746 (O + 3) i = bI (leds u i) := by rw [f1.1.EI (FS.n rfl)]; exact hle i hi
  have w4 : h1.I 3086 O = nI s.length := by rw [f1.1.I (FS.n rfl)]; exact hr.2.1.1
  have hs64 := hr.2.1.2.2.1
  have nd : ∀ b, b = (!leds u i || s.isEmpty) → V X K 34 [.ref O, .int (nI i), nov, nov] [.int (bI b), .ref O] h1 := fun b hb => by
    refine k_X25_look_34 o ?_
    refine lneed_ok (b := b) w0 r1 (fun _ _ => rfl) (by decide) (by omega) fun h2 f2 r2 => ?_
    have F2 : Fq (FS lkF) h h2 := F1.trans (f2.mono (FS.mono rfl))
    have l2 := lz F2
    have y0 := l2.1.1.1
    have badend : ∀ w, TBd h2 O w → cLook m u (lty u) i y (s, tb) = .error w → V X K 39 [.ref O, .int (nI i), nov, nov] [] h2 := fun w b2 ec => by
      obtain ⟨z1, z2, -⟩ := id b2
      refine k_X25_look_39 o (fun c => absurd c (nI_nz z2)) (fun _ => ?_)
      refine k_X25_look_46 o ?_
      rw [ec] at kk
      exact kk h2 F2 b2
    cases hti : tat tb i with
    | none =>
      rw [hti] at r2
      exact badend 10 r2 (by unfold cLook; simp only [hti])
    | some l =>
      rw [hti] at r2
      cases b with
      | false =>
        refine badend 8 r2 ?_
        unfold cLook; simp only [hti]; rw [← hb]; rfl
      | true =>
        have ecl : cLook m u (lty u) i y (s, tb) = eb (cOp m u (lty u) y.1 y.2.1 y.2.2.1 (s, l)) fun d => eb (if 1 < y.1 ∧ y.1 < 5 then cCome m (lty u) i y.2.1 d.2 tb else .ok tb) fun tb => if y.1 = 1 ∨ y.1 = 2 ∨ y.1 = 45 then .ok ([], tb) else eb (nee (decide (i + 1 < (ui u).length)) 11) fun _ => eb (cCome m (lty u) i (i + 1) d.2 tb) fun tb => .ok (d.1, tb) := by
          unfold cLook; simp only [hti]; rw [← hb]; rfl
        have g2 : TGd h2 O m [] (none, s, []) := r2
        have y1 := g2.1
        refine k_X25_look_39 o (fun _ => ?_) (fun c => absurd y1 c)
        refine k_X25_look_47 o ?_
        have t2 : TMh h2 O N (lty u) tb := ht.fr ((f1.mono (FS.mono (l' := [3090]) rfl)).trans f2).1 (FS.no rfl)
        obtain ⟨p1, p2⟩ := (t2.2 i (by omega)).2 l hti
        have hll : l.length = nlo u := by rw [p2.1, lty_len]
        -- behind the copy
        have rest : ∀ h3 v3, Fq (FS lkF) h h3 → TGd h3 O m (lty u) (none, s, l) → TMh h3 O N (lty u) tb → ∀ v2, V X K 114 [.ref O, .int (nI i), v2, v3] [] h3 := fun h3 v3 f3 g3 t3 v2 => by
          have l3 := lz f3
          have q0 := l3.1.1.1
          have q1 := l3.1.2.1
          have q2 := l3.2.1.2.1
          have q3 := l3.1.2.2.1.1.1
          refine k_X25_look_114 o ?_
          refine uope_ok l3.1.2.2.1 l3.1.2.2.2 huf hy (by omega) ?_
          refine k_X25_look_126 o ?_
          refine uopn_ok (w := 0) l3.1.2.2.1 l3.1.2.2.2 huf hy (by omega) (by omega) ?_
          refine k_X25_look_140 o ?_
          refine uopn_ok (w := 1) l3.1.2.2.1 l3.1.2.2.2 huf hy (by omega) (by omega) ?_
          rw [if_pos rfl, if_neg (by decide), lN_32]
          refine k_X25_look_158 o ?_
          rw [lN_32]
          refine lope_ok l3 g gx g3 h60 (by omega) fun h4 f4 r4 => ?_
          have F4 : Fq (FS lkF) h h4 := f3.trans (f4.mono (FS.mono rfl))
          have t4 : TMh h4 O N (lty u) tb := t3.fr f4.1 (FS.no rfl)
          show V X K 162 [.ref O, .int (nI i), .int (nI y.1), .int (nI y.2.1)] [] h4
          have r4 : TRs h4 O m (lty u) (eb (cOp m u (lty u) y.1 y.2.1 y.2.2.1 (s, l)) fun c => .ok (none, c)) := r4
          cases hop : cOp m u (lty u) y.1 y.2.1 y.2.2.1 (s, l) with
          | error w =>
            rw [hop] at r4 ecl
            exact bad162 h4 w F4 r4 ecl
          | ok dd =>
            rw [hop] at r4 ecl
            have g4 : TGd h4 O m (lty u) (none, dd) := r4
            have ecl : cLook m u (lty u) i y (s, tb) = eb (if 1 < y.1 ∧ y.1 < 5 then cCome m (lty u) i y.2.1 dd.2 tb else .ok tb) fun tb => if y.1 = 1 ∨ y.1 = 2 ∨ y.1 = 45 then .ok ([], tb) else eb (nee (decide (i + 1 < (ui u).length)) 11) fun _ => eb (cCome m (lty u) i (i + 1) dd.2 tb) fun tb => .ok (dd.1, tb) := ecl
            -- going on
            have good178 : ∀ h5 tb', Fq (FS lkF) h h5 → TGd h5 O m (lty u) (none, dd) → TMh h5 O N (lty u) tb' → (cLook m u (lty u) i y (s, tb) = if y.1 = 1 ∨ y.1 = 2 ∨ y.1 = 45 then .ok ([], tb') else eb (nee (decide (i + 1 < (ui u).length)) 11) fun _ => eb (cCome m (lty u) i (i + 1) dd.2 tb') fun tb => .ok (dd.1, tb)) → V X K 178 [.ref O, .int (nI i), .int (nI y.1), .int (nI y.2.1)] [] h5 := fun h5 tb' f5 g5 t5 ec => by
              have l5 := lz f5
              have x0 := l5.1.1.1
              have x1 := l5.2.1.2.2.2
              have stop : (y.1 = 1 ∨ y.1 = 2 ∨ y.1 = 45) → V X K 194 [.ref O, .int (nI i), .int (nI y.1), .int (nI y.2.1)] [] h5 := fun hc => by
                rw [if_pos hc] at ec
                rw [ec] at kk
                refine k_X25_look_194 o ?_
                have f6 : Fq (FS [3086]) h5 (h5.sI 3086 O (nI 0)) := (Fq.refl h5).sI rfl
                refine kk _ (f5.sI rfl) ⟨⟨?_, ⟨?_, trivial, by simp, fun x hx => by cases hx⟩, ⟨fun k hk => by simp at hk, fun k og hk => by simp at hk, rfl, fun k og hk => by simp at hk⟩, trivial⟩, t5.fr f6.1 (FS.no rfl)⟩
                · rw [f6.1.I (FS.n rfl)]; exact g5.1
                · simp [n_sI, z_sI, tag_sI, I_sI, J_sI, R_sI, EI_sI, EJ_sI, ER_sI, n_sJ, z_sJ, tag_sJ, I_sJ, J_sJ, R_sJ, EI_sJ, EJ_sJ, ER_sJ, n_sR, z_sR, tag_sR, I_sR, J_sR, R_sR, EI_sR, EJ_sR, ER_sR, n_sEI, z_sEI, tag_sEI, I_sEI, J_sEI, R_sEI, EI_sEI, EJ_sEI, ER_sEI, n_sEJ, z_sEJ, tag_sEJ, I_sEJ, J_sEJ, R_sEJ, EI_sEJ, EJ_sEJ, ER_sEJ, n_sER, z_sER, tag_sER, I_sER, J_sER, R_sER, EI_sER, EJ_sER, ER_sER, n_nw, z_nw, tag_nw, I_nw, J_nw, R_nw, EI_nw, EJ_nw, ER_nw]
              refine k_X25_look_178 o (fun c => stop (Or.inl ((nI_eq (by omega) (by omega)).mp c))) (fun z1 => ?_)
              have z1 : ¬ y.1 = 1 := fun z => z1 (by rw [z])
              refine k_X25_look_183 o (fun c => stop (Or.inr (Or.inl ((nI_eq (by omega) (by omega)).mp c)))) (fun z2 => ?_)
              have z2 : ¬ y.1 = 2 := fun z => z2 (by rw [z])
              refine k_X25_look_188 o (fun z3 => ?_) (fun c => stop (Or.inr (Or.inr ((nI_eq (by omega) (by omega)).mp c))))
              have z3 : ¬ y.1 = 45 := fun z => z3 (by rw [z])
              rw [if_neg (show ¬ (y.1 = 1 ∨ y.1 = 2 ∨ y.1 = 45) by omega)] at ec
              have g5' : TRs h5 O m (lty u) (.ok (none, dd)) := g5
              have nd2 : ∀ b, b = decide (i + 1 < (ui u).length) → V X K 216 [.ref O, .int (nI i), .int (nI y.1), .int (nI y.2.1)] [.int (bI b), .ref O] h5 := fun b hb => by
                refine k_X25_look_216 o ?_
                refine lneed_ok (b := b) x0 g5' (fun _ _ => rfl) (by decide) (by omega) fun h6 f6 r6 => ?_
                have F6 : Fq (FS lkF) h h6 := f5.trans (f6.mono (FS.mono rfl))
                have l6 := lz F6
                have u0 := l6.1.1.1
                have t6 : TMh h6 O N (lty u) tb' := t5.fr f6.1 (FS.no rfl)
                refine k_X25_look_221 o ?_
                rw [← hb] at ec
                cases b with
                | false =>
                  rw [ec] at kk
                  refine lcob_ok u0 (w := 11) r6 ?_
                  refine k_X25_look_229 o ?_
                  exact kk h6 F6 r6
                | true =>
                  have hi1 : i + 1 < (ui u).length := of_decide_eq_true hb.symm
                  rw [nI_add]
                  have g6 : TGd h6 O m (lty u) (none, dd) := r6
                  refine lcom_ok l6 hu g.1 g6 t6 hN (by omega) (by omega) (fun z => by omega) (by omega) fun h7 f7 e7 => ?_
                  refine k_X25_look_229 o ?_
                  have F7 : Fq (FS lkF) h h7 := F6.trans (f7.mono (FS.mono rfl))
                  have ec : cLook m u (lty u) i y (s, tb) = eb (cCome m (lty u) i (i + 1) dd.2 tb') fun tb => .ok (dd.1, tb) := ec
                  rw [ec] at kk
                  refine kk h7 F7 (EQ_eb.mpr (e7.mono (fun tb2 _ z => ?_) (fun _ z => z)))
                  exact ⟨z.1.lo, z.2⟩
              refine k_X25_look_200 (r2 := x1) o (fun c => ?_) (fun c => ?_)
              · rw [nI_add] at c
                have c := (nI_leI (by omega) (by omega)).mp c
                refine k_X25_look_215 o ?_
                exact nd2 false (decide_eq_false (by omega)).symm
              · rw [nI_add] at c
                have c : i + 1 < (ui u).length := Nat.not_le.mp fun z => c ((nI_leI (by omega) (by omega)).mpr z)
                refine k_X25_look_211 o ?_
                exact nd2 true (decide_eq_true c).symm
            have q00 := (lz F4).1.1.1
            refine k_X25_look_162 o (fun c => ?_) (fun c => ?_)
            · have c := (nI_leI (by omega) (by omega)).mp c
              rw [if_neg (by omega)] at ecl
              exact good178 h4 tb F4 g4 t4 ecl
            · have c : 1 < y.1 := Nat.not_le.mp fun z => c ((nI_leI (by omega) (by omega)).mpr z)
              refine k_X25_look_167 o (fun c2 => ?_) (fun c2 => ?_)
              · have c2 := (nI_leI (by omega) (by omega)).mp c2
                rw [if_neg (by omega)] at ecl
                exact good178 h4 tb F4 g4 t4 ecl
              · have c2 : y.1 < 5 := Nat.not_le.mp fun z => c2 ((nI_leI (by omega) (by omega)).mpr z)
                rw [if_pos ⟨c, c2⟩] at ecl
                have hb := gx.br (by omega)
                refine k_X25_look_172 o ?_
                refine lcom_ok (lz F4) hu g.1 g4 t4 hN (by omega) (by omega) (fun z => ?_) (by omega) fun h5 f5 e5 => ?_
                · rcases Nat.lt_or_ge y.2.1 i with z2 | z2
                  · exact hcm _ z2
                  · rw [show y.2.1 = i by omega, hti]; rfl
                · have F5 : Fq (FS lkF) h h5 := F4.trans (f5.mono (FS.mono rfl))
                  show V X K 178 [.ref O, .int (nI i), .int (nI y.1), .int (nI y.2.1)] [] h5
                  have e5 : EQ (cCome m (lty u) i y.2.1 dd.2 tb) (fun tb' => TGd h5 O m (lty u) (none, dd) ∧ TMh h5 O N (lty u) tb') (TBd h5 O) := e5
                  cases hcc : cCome m (lty u) i y.2.1 dd.2 tb with
                  | error w =>
                    rw [hcc] at e5 ecl
                    exact bad178 h5 w F5 e5 ecl
                  | ok tb' =>
                    rw [hcc] at e5 ecl
                    exact good178 h5 tb' F5 e5.1 e5.2 ecl
        -- the copy
        have loop : ∀ k q hx v3, k + q = nlo u → Fq (FS [10000 + 1858, 10000 + 1875, 10000 + 1890]) h2 hx → (∀ z, z < q → hx.EI 1858 (O + 10) z = bI (lgt l z).isSome ∧ hx.EI 1890 (O + 12) z = bI (inO (lgt l z)) ∧ ∀ og, lgt l z = some og → hx.EJ 1875 (O + 11) z = lN og.1) → V X K 49 [.ref O, .int (nI i), .int (nI q), v3] [] hx := by
          intro k
          induction k with
          | zero =>
            intro q hx v3 hq fx cx
            have lx := l2.fr fx.1 (FS.no rfl)
            have x0 := lx.1.1.1
            have x1 := lx.2.1.2.2.1
            refine k_X25_look_49 (r2 := x1) o (fun _ => ?_) (fun c => absurd ((nI_leI (by omega) (by omega)).mpr (by omega)) c)
            refine rest hx _ (F2.trans (fx.mono (FS.mono rfl))) ⟨by rw [fx.1.I (FS.n rfl)]; exact g2.1, ⟨by rw [fx.1.I (FS.n rfl)]; exact g2.2.1.1, g2.2.1.2.1.fr fx.1 (fun _ => FS.n rfl) (fun _ => FS.n rfl) (fun _ => FS.n rfl), g2.2.1.2.2⟩, ⟨fun k hk => (cx k (by have hk : k < l.length := hk; omega)).1, fun k og hk => ?_, p2⟩, trivial⟩ (t2.fr fx.1 (FS.no rfl)) _
            have hk' : k < l.length := get_lt hk
            have e : lgt l k = some og := by unfold lgt; rw [hk]; rfl
            obtain ⟨-, z2, z3⟩ := cx k (by omega)
            rw [e] at z2
            exact ⟨z3 og e, z2⟩
          | succ k ih =>
            intro q hx v3 hq fx cx
            have lx := l2.fr fx.1 (FS.no rfl)
            obtain ⟨s0, ⟨a1, a2, a3, a4, a5, a6⟩, ⟨b1, b2, b3, b4, b5, b6⟩, ⟨c1, c2, c3, c4, c5, c6⟩, d1, d2, d3, d4, d5, d6⟩ := id lx.1.1
            have x1 := lx.2.1.2.2.1
            have ixq : IX (nI q) 40 q := IX.mk (by omega) (by omega)
            have ixp : IX (nI 40 * nI i + nI q) 41000 (40 * i + q) := by rw [nI_mul, nI_add]; exact IX.mk (by omega) (by omega)
            have ce : TCe hx O (40 * i + q) (lgt l q) := (p1 q (by omega)).eq (SCe.fr fx.1 (fun _ => FS.n rfl) (fun _ => FS.n rfl) (fun _ => FS.n rfl))
            obtain ⟨e1, e2, e3⟩ := ce
            have e4 : hx.EJ 1779 (O + 5) (40 * i + q) = hx.EJ 1779 (O + 5) (40 * i + q) := rfl
            refine k_X25_look_49 (r2 := x1) o (fun c => absurd ((nI_leI (by omega) (by omega)).mp c) (by omega)) (fun _ => ?_)
            refine k_X25_look_57 o ?_
            rw [nI_add]
            generalize hh3 : ((hx.sEI 1858 (O + 10) q (bI (lgt l q).isSome)).sEJ 1875 (O + 11) q (hx.EJ 1779 (O + 5) (40 * i + q))).sEI 1890 (O + 12) q (bI (inO (lgt l q))) = h3
            have f3 : Fq (FS [10000 + 1858, 10000 + 1875, 10000 + 1890]) hx h3 := by subst hh3; exact (by refine (Fq.sEI (Fq.sEJ (Fq.sEI (Fq.refl hx) ?_) ?_) ?_) <;> exact rfl)
            refine ih (q + 1) h3 _ (by omega) (fx.trans f3) fun z hz => ?_
            by_cases c : z = q
            · subst c
              refine ⟨?_, ?_, fun og hg => ?_⟩
              · subst hh3; simp [n_sI, z_sI, tag_sI, I_sI, J_sI, R_sI, EI_sI, EJ_sI, ER_sI, n_sJ, z_sJ, tag_sJ, I_sJ, J_sJ, R_sJ, EI_sJ, EJ_sJ, ER_sJ, n_sR, z_sR, tag_sR, I_sR, J_sR, R_sR, EI_sR, EJ_sR, ER_sR, n_sEI, z_sEI, tag_sEI, I_sEI, J_sEI, R_sEI, EI_sEI, EJ_sEI, ER_sEI, n_sEJ, z_sEJ, tag_sEJ, I_sEJ, J_sEJ, R_sEJ, EI_sEJ, EJ_sEJ, ER_sEJ, n_sER, z_sER, tag_sER, I_sER, J_sER, R_sER, EI_sER, EJ_sER, ER_sER, n_nw, z_nw, tag_nw, I_nw, J_nw, R_nw, EI_nw, EJ_nw, ER_nw]
              · subst hh3; simp [n_sI, z_sI, tag_sI, I_sI, J_sI, R_sI, EI_sI, EJ_sI, ER_sI, n_sJ, z_sJ, tag_sJ, I_sJ, J_sJ, R_sJ, EI_sJ, EJ_sJ, ER_sJ, n_sR, z_sR, tag_sR, I_sR, J_sR, R_sR, EI_sR, EJ_sR, ER_sR, n_sEI, z_sEI, tag_sEI, I_sEI, J_sEI, R_sEI, EI_sEI, EJ_sEI, ER_sEI, n_sEJ, z_sEJ, tag_sEJ, I_sEJ, J_sEJ, R_sEJ, EI_sEJ, EJ_sEJ, ER_sEJ, n_sER, z_sER, tag_sER, I_sER, J_sER, R_sER, EI_sER, EJ_sER, ER_sER, n_nw, z_nw, tag_nw, I_nw, J_nw, R_nw, EI_nw, EJ_nw, ER_nw]
              · rw [← e3 og hg]; subst hh3; simp [n_sI, z_sI, tag_sI, I_sI, J_sI, R_sI, EI_sI, EJ_sI, ER_sI, n_sJ, z_sJ, tag_sJ, I_sJ, J_sJ, R_sJ, EI_sJ, EJ_sJ, ER_sJ, n_sR, z_sR, tag_sR, I_sR, J_sR, R_sR, EI_sR, EJ_sR, ER_sR, n_sEI, z_sEI, tag_sEI, I_sEI, J_sEI, R_sEI, EI_sEI, EJ_sEI, ER_sEI, n_sEJ, z_sEJ, tag_sEJ, I_sEJ, J_sEJ, R_sEJ, EI_sEJ, EJ_sEJ, ER_sEJ, n_sER, z_sER, tag_sER, I_sER, J_sER, R_sER, EI_sER, EJ_sER, ER_sER, n_nw, z_nw, tag_nw, I_nw, J_nw, R_nw, EI_nw, EJ_nw, ER_nw]
            · obtain ⟨z1, z2, z3⟩ := cx z (by omega)
              refine ⟨?_, ?_, fun og hg => ?_⟩
              · rw [← z1]; subst hh3; simp [n_sI, z_sI, tag_sI, I_sI, J_sI, R_sI, EI_sI, EJ_sI, ER_sI, n_sJ, z_sJ, tag_sJ, I_sJ, J_sJ, R_sJ, EI_sJ, EJ_sJ, ER_sJ, n_sR, z_sR, tag_sR, I_sR, J_sR, R_sR, EI_sR, EJ_sR, ER_sR, n_sEI, z_sEI, tag_sEI, I_sEI, J_sEI, R_sEI, EI_sEI, EJ_sEI, ER_sEI, n_sEJ, z_sEJ, tag_sEJ, I_sEJ, J_sEJ, R_sEJ, EI_sEJ, EJ_sEJ, ER_sEJ, n_sER, z_sER, tag_sER, I_sER, J_sER, R_sER, EI_sER, EJ_sER, ER_sER, n_nw, z_nw, tag_nw, I_nw, J_nw, R_nw, EI_nw, EJ_nw, ER_nw, c]
              · rw [← z2]; subst hh3; simp [n_sI, z_sI, tag_sI, I_sI, J_sI, R_sI, EI_sI, EJ_sI, ER_sI, n_sJ, z_sJ, tag_sJ, I_sJ, J_sJ, R_sJ, EI_sJ, EJ_sJ, ER_sJ, n_sR, z_sR, tag_sR, I_sR, J_sR, R_sR, EI_sR, EJ_sR, ER_sR, n_sEI, z_sEI, tag_sEI, I_sEI, J_sEI, R_sEI, EI_sEI, EJ_sEI, ER_sEI, n_sEJ, z_sEJ, tag_sEJ, I_sEJ, J_sEJ, R_sEJ, EI_sEJ, EJ_sEJ, ER_sEJ, n_sER, z_sER, tag_sER, I_sER, J_sER, R_sER, EI_sER, EJ_sER, ER_sER, n_nw, z_nw, tag_nw, I_nw, J_nw, R_nw, EI_nw, EJ_nw, ER_nw, c]
              · rw [← z3 og hg]; subst hh3; simp [n_sI, z_sI, tag_sI, I_sI, J_sI, R_sI, EI_sI, EJ_sI, ER_sI, n_sJ, z_sJ, tag_sJ, I_sJ, J_sJ, R_sJ, EI_sJ, EJ_sJ, ER_sJ, n_sR, z_sR, tag_sR, I_sR, J_sR, R_sR, EI_sR, EJ_sR, ER_sR, n_sEI, z_sEI, tag_sEI, I_sEI, J_sEI, R_sEI, EI_sEI, EJ_sEI, ER_sEI, n_sEJ, z_sEJ, tag_sEJ, I_sEJ, J_sEJ, R_sEJ, EI_sEJ, EJ_sEJ, ER_sEJ, n_sER, z_sER, tag_sER, I_sER, J_sER, R_sER, EI_sER, EJ_sER, ER_sER, n_nw, z_nw, tag_nw, I_nw, J_nw, R_nw, EI_nw, EJ_nw, ER_nw, c]
        exact loop (nlo u) 0 h2 _ (by omega) (Fq.refl h2) (fun z hz => by omega)
  cases hl2 : leds u i with
  | false =>
    rw [hl2] at w3
    refine k_X25_look_12 o (fun _ => ?_) (fun c => absurd rfl c)
    refine k_X25_look_29 o ?_
    exact nd true (by rw [hl2]; rfl)
  | true =>
    rw [hl2] at w3
    refine k_X25_look_12 o (fun c => absurd (show bI true = 0 from c) (by decide)) (fun _ => ?_)
    cases s with
    | nil =>
      refine k_X25_look_22 o (fun c => absurd rfl c) (fun _ => ?_)
      refine k_X25_look_29 o ?_
      exact nd true (by rw [hl2]; rfl)
    | cons a s =>
      have hs64 : (a :: s).length ≤ 64 := hs64
      have : ¬ nI (a :: s).length = 0 := fun z => absurd ((nI_eq (b := 0) (by omega) (by omega)).mp z) (by simp)
      refine k_X25_look_22 o (fun _ => ?_) (fun c => absurd c this)
      refine k_X25_look_33 o ?_
      exact nd false (by rw [hl2]; rfl)
def laF : List Nat := lkF ++ [3077]
def LA (K : Outcome → AH → Prop) (O : Nat) (h : AH) (r : Except (Nat × Nat) (Sk × Tb)) : Prop := match r with
  | .ok _ => ∀ h', Fq (FS laF) h h' → K (.returned (some (.int (nI 0)))) h'
  | .error e => ∀ h', Fq (FS laF) h h' → h'.I 3077 O = nI e.2 → K (.returned (some (.int (nI e.1)))) h'
def lxF : List Nat := laF ++ lbF ++ [3072, 3073]
theorem lchk_ok {G : Gt} {d : Nat} {h : AH} {K : Outcome → AH → Prop} {O U n f N : Nat} {B : Nat → Nat} {m : Md} {u : Ux} (hl : SLk h O) (hsu : SU h U n B) (hum : UM h U n B m) (huf : m.2.2.2.2.2[f]? = some u) (g : gM m) (hN : N ≤ 1024) (hN1 : 1 ≤ N) (hNu : N = (ui u).length) (gx : ∀ x ∈ ui u, gX m u x) (hd : 9 ≤ d)
    (kk : match chk m u with
      | .ok _ => ∀ h', Fq (FS lxF) h h' → K (.returned (some (.int (nI 0)))) h'
      | .error e => ∀ h', Fq (FS lxF) h h' → h'.I 3077 O = nI e.2 → K (.returned (some (.int (nI e.1)))) h') : MW G d e_X25_check [.ref O, .ref U, .int (nI f)] h K := by
  refine st_X25_check fun X o hG hD _ => ?_
  subst hG; subst hD
  have hu := (g.2.2.2.2.1 u (List.mem_of_getElem? huf)).2
  have t0 := hl.1
  refine k_X25_check_0 o ?_
  have f1 : Fq (FS [3072, 3073]) h ((h.sR 3072 O (some U)).sI 3073 O (nI f)) := (by refine (Fq.sI (Fq.sR (Fq.refl h) ?_) ?_) <;> exact rfl)
  have e1 : ((h.sR 3072 O (some U)).sI 3073 O (nI f)).R 3072 O = some U := by simp [n_sI, z_sI, tag_sI, I_sI, J_sI, R_sI, EI_sI, EJ_sI, ER_sI, n_sJ, z_sJ, tag_sJ, I_sJ, J_sJ, R_sJ, EI_sJ, EJ_sJ, ER_sJ, n_sR, z_sR, tag_sR, I_sR, J_sR, R_sR, EI_sR, EJ_sR, ER_sR, n_sEI, z_sEI, tag_sEI, I_sEI, J_sEI, R_sEI, EI_sEI, EJ_sEI, ER_sEI, n_sEJ, z_sEJ, tag_sEJ, I_sEJ, J_sEJ, R_sEJ, EI_sEJ, EJ_sEJ, ER_sEJ, n_sER, z_sER, tag_sER, I_sER, J_sER, R_sER, EI_sER, EJ_sER, ER_sER, n_nw, z_nw, tag_nw, I_nw, J_nw, R_nw, EI_nw, EJ_nw, ER_nw]
  have e2 : ((h.sR 3072 O (some U)).sI 3073 O (nI f)).I 3073 O = nI f := by simp [n_sI, z_sI, tag_sI, I_sI, J_sI, R_sI, EI_sI, EJ_sI, ER_sI, n_sJ, z_sJ, tag_sJ, I_sJ, J_sJ, R_sJ, EI_sJ, EJ_sJ, ER_sJ, n_sR, z_sR, tag_sR, I_sR, J_sR, R_sR, EI_sR, EJ_sR, ER_sR, n_sEI, z_sEI, tag_sEI, I_sEI, J_sEI, R_sEI, EI_sEI, EJ_sEI, ER_sEI, n_sEJ, z_sEJ, tag_sEJ, I_sEJ, J_sEJ, R_sEJ, EI_sEJ, EJ_sEJ, ER_sEJ, n_sER, z_sER, tag_sER, I_sER, J_sER, R_sER, EI_sER, EJ_sER, ER_sER, n_nw, z_nw, tag_nw, I_nw, J_nw, R_nw, EI_nw, EJ_nw, ER_nw]
  show MW _ _ _ _ ((h.sR 3072 O (some U)).sI 3073 O (nI f)) _
  generalize (h.sR 3072 O (some U)).sI 3073 O (nI f) = h1 at *
  have lu1 : LU h1 O U n B m := ⟨hl.fr f1.1 (FS.no rfl), e1, hsu.fr f1.1 (fun f a hf _ _ => FS.no rfl f a hf), hum.fr f1.1 (FS.no rfl)⟩
  refine lbeg_ok lu1 huf e2 hu hN hN1 hNu gx (by omega) fun h2 f2 l2 g2 tm2 le2 => ?_
  have F2 : Fq (FS lxF) h h2 := (f1.mono (FS.mono rfl)).trans (f2.mono (FS.mono rfl))
  show V X K 14 [.ref O, .ref U, .int (nI f), nov] [] h2
  refine k_X25_check_14 o ?_
  have kk2 : LA K O h2 (chk m u) := by
    cases hc : chk m u with
    | ok c => rw [hc] at kk; exact fun h' f' => kk h' (F2.trans (f'.mono (FS.mono rfl)))
    | error e => rw [hc] at kk; exact fun h' f' e' => kk h' (F2.trans (f'.mono (FS.mono rfl))) e'
  have loop : ∀ rest i s tb h3, (ui u).drop i = rest → i ≤ N → Fq (FS laF) h2 h3 → TGd h3 O m [] (none, s, []) → TMh h3 O N (lty u) tb → (∀ j, j < i → (tat tb j).isSome = true) → LA K O h2 (cAll m u (lty u) rest i (s, tb)) → V X K 16 [.ref O, .ref U, .int (nI f), .int (nI i)] [] h3 := by
    intro rest
    induction rest with
    | nil =>
      intro i s tb h3 hr hi f3 g3 t3 c3 k3
      have l3 := l2.fr f3.1 (FS.no rfl)
      have w0 := l3.1.1.1
      have w1 := l3.2.1.2.2.2
      have w2 := g3.1
      have hr := List.drop_eq_nil_iff.mp hr
      refine k_X25_check_16 (r2 := w1) o (fun _ => ?_) (fun c => absurd ((nI_leI (by omega) (by omega)).mpr (by omega)) c)
      refine k_X25_check_54 o ?_
      exact k3 h3 f3
    | cons x rest ih =>
      intro i s tb h3 hr hi f3 g3 t3 c3 k3
      have l3 := l2.fr f3.1 (FS.no rfl)
      have w0 := l3.1.1.1
      have w1 := l3.2.1.2.2.2
      have w2 := g3.1
      have le3 : LEh h3 O u := fun q hq => by rw [f3.1.EI (FS.n rfl)]; exact le2 q hq
      have hil : i < (ui u).length := by
        rcases Nat.lt_or_ge i (ui u).length with z | z
        · exact z
        · rw [List.drop_eq_nil_iff.mpr z] at hr; cases hr
      have hxi : (ui u)[i]? = some x := by
        have : ((ui u).drop i)[0]? = some x := by rw [hr]; rfl
        rw [List.getElem?_drop, Nat.add_zero] at this; exact this
      have hr2 : (ui u).drop (i + 1) = rest := by rw [← List.drop_drop, hr]; rfl
      have hgx := gx x (List.mem_of_getElem? hxi)
      refine k_X25_check_16 (r2 := w1) o (fun c => absurd ((nI_leI (by omega) (by omega)).mp c) (by omega)) (fun _ => ?_)
      refine k_X25_check_24 o (fun c => absurd w2 c) (fun _ => ?_)
      refine k_X25_check_31 o ?_
      refine llok_ok l3 g hxi hgx g3 t3 le3 hN hNu c3 (by omega) fun h4 f4 e4 => ?_
      have F4 : Fq (FS laF) h2 h4 := f3.trans (f4.mono (FS.mono rfl))
      have l4 := l2.fr F4.1 (FS.no rfl)
      have v0 := l4.1.1.1
      have k3 : LA K O h2 (match cLook m u (lty u) i x (s, tb) with | .error w => .error (w, i) | .ok c' => cAll m u (lty u) rest (i + 1) c') := k3
      show V X K 36 [.ref O, .ref U, .int (nI f), .int (nI i)] [] h4
      cases hc : cLook m u (lty u) i x (s, tb) with
      | error w =>
        rw [hc] at e4 k3
        obtain ⟨z1, z2, -⟩ := id (e4 : TBd h4 O w)
        refine k_X25_check_36 o (fun c => absurd c (nI_nz z2)) (fun _ => ?_)
        refine k_X25_check_43 o ?_
        refine k_X25_check_48 o ?_
        rw [nI_add]
        have f5 : Fq (FS laF) h2 (h4.sI 3077 O (nI i)) := F4.sI rfl
        have e5 : (h4.sI 3077 O (nI i)).I 3077 O = nI i := by simp [n_sI, z_sI, tag_sI, I_sI, J_sI, R_sI, EI_sI, EJ_sI, ER_sI, n_sJ, z_sJ, tag_sJ, I_sJ, J_sJ, R_sJ, EI_sJ, EJ_sJ, ER_sJ, n_sR, z_sR, tag_sR, I_sR, J_sR, R_sR, EI_sR, EJ_sR, ER_sR, n_sEI, z_sEI, tag_sEI, I_sEI, J_sEI, R_sEI, EI_sEI, EJ_sEI, ER_sEI, n_sEJ, z_sEJ, tag_sEJ, I_sEJ, J_sEJ, R_sEJ, EI_sEJ, EJ_sEJ, ER_sEJ, n_sER, z_sER, tag_sER, I_sER, J_sER, R_sER, EI_sER, EJ_sER, ER_sER, n_nw, z_nw, tag_nw, I_nw, J_nw, R_nw, EI_nw, EJ_nw, ER_nw]
        have e6 : (h4.sI 3077 O (nI i)).I 3090 O = nI w := by simp [n_sI, z_sI, tag_sI, I_sI, J_sI, R_sI, EI_sI, EJ_sI, ER_sI, n_sJ, z_sJ, tag_sJ, I_sJ, J_sJ, R_sJ, EI_sJ, EJ_sJ, ER_sJ, n_sR, z_sR, tag_sR, I_sR, J_sR, R_sR, EI_sR, EJ_sR, ER_sR, n_sEI, z_sEI, tag_sEI, I_sEI, J_sEI, R_sEI, EI_sEI, EJ_sEI, ER_sEI, n_sEJ, z_sEJ, tag_sEJ, I_sEJ, J_sEJ, R_sEJ, EI_sEJ, EJ_sEJ, ER_sEJ, n_sER, z_sER, tag_sER, I_sER, J_sER, R_sER, EI_sER, EJ_sER, ER_sER, n_nw, z_nw, tag_nw, I_nw, J_nw, R_nw, EI_nw, EJ_nw, ER_nw, z1]
        generalize h4.sI 3077 O (nI i) = h5 at *
        have l5 := l2.fr f5.1 (FS.no rfl)
        have u0 := l5.1.1.1
        have u1 := l5.2.1.2.2.2
        have fin : V X K 54 [.ref O, .ref U, .int (nI f), .int (nI (i + 1))] [] h5 := by
          refine k_X25_check_54 o ?_
          exact k3 h5 f5 e5
        refine k_X25_check_16 o (fun _ => fin) (fun _ => ?_)
        exact k_X25_check_24 o (fun _ => fin) (fun c => absurd c (nI_nz z2))
      | ok c' =>
        rw [hc] at e4 k3
        obtain ⟨e5, e6⟩ : TGd h4 O m [] (none, c'.1, []) ∧ TMh h4 O N (lty u) c'.2 := e4
        have z1 := e5.1
        obtain ⟨q1, q2⟩ := cLook_len hc
        refine k_X25_check_36 o (fun _ => ?_) (fun c => absurd z1 c)
        refine k_X25_check_48 o ?_
        rw [nI_add]
        refine ih (i + 1) c'.1 c'.2 h4 hr2 (by omega) F4 e5 e6 (fun j hj => ?_) k3
        rcases Nat.lt_or_ge j i with z | z
        · exact q1 j (c3 j z)
        · rw [show j = i by omega]; exact q1 i q2
  exact loop (ui u) 0 [] (tb0 u) h2 rfl (by omega) (Fq.refl h2) g2 tm2 (fun j hj => by omega) kk2
