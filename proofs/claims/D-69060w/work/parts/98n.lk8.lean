theorem fN_ok {b : Ts → Bool} {w : Nat} {e : Except Nat Ts} {x : Ts} (h : eb e (fN b w) = .ok x) : e = .ok x ∧ b x = true := by
  obtain ⟨y, rfl, h2⟩ := eb_ok h
  unfold fN at h2
  obtain ⟨_, h3, h4⟩ := eb_ok h2
  cases h4
  refine ⟨rfl, ?_⟩
  cases hh : b x with
  | true => rfl
  | false => rw [hh] at h3; cases h3
theorem lloc_ok {G : Gt} {d : Nat} {h : AH} {K : Outcome → AH → Prop} {O U n f a op : Nat} {B : Nat → Nat} {m : Md} {u : Ux} {e : Except Nat Ts} (hs : LC h O U n B m f u) (hu : gU m u) (h4 : ab4 m) (hr : TRs h O m (lty u) e) (ha : a < nlo u) (ho : 11 ≤ op ∧ op ≤ 15) (hd : 4 ≤ d) (kk : ∀ h', Fq (FS trF) h h' → TRs h' O m (lty u) (eb e (cO (cLoc m (lty u) op a))) → K (.returned none) h') : MW G d e_X25_onLocal [.ref O, .int (nI op), .int (nI a)] h K := by
  by_cases h13 : op = 13
  · subst h13; exact llst_ok hs hu h4 hr ha hd kk
  refine st_X25_onLocal fun X o hG hD _ => ?_
  subst hG; subst hD
  obtain ⟨s0, ⟨a1, a2, a3, a4, a5, a6⟩, ⟨b1, b2, b3, b4, b5, b6⟩, ⟨c1, c2, c3, c4, c5, c6⟩, d1, d2, d3, d4, d5, d6⟩ := id hs.1.1
  obtain ⟨-, ⟨v1, v2, v3, v4⟩, v5⟩ := id hs
  have hn := hu.n
  have ix : IX (nI a) 40 a := IX.mk (by omega) (by omega)
  have r1 := v5 a ha
  have hgt := hu.lt ha
  have tv := hgt.ok.tv
  generalize ht : tgt (lty u) a = t at *
  refine k_X25_onLocal_0 o ?_
  refine lirf_ok tv.1 (by omega) ?_
  have main : ∀ pl, pl = !isRf t → V X K 19 [.ref O, .int (nI op), .int (nI a), .long (lN (tyc t)), nov, nov] [.int (bI pl)] h := by
    intro pl hpl
    refine k_X25_onLocal_19 o (fun _ => ?_) (fun c => absurd ((nI_eq (by omega) (by omega)).mp c) h13)
    have q1 : h.EI 1858 (O + 10) a = h.EI 1858 (O + 10) a := rfl
    refine k_X25_onLocal_150 o ?_
    refine lnee_ok (b := fun x => (lgt x.2.2 a).isSome) s0 hr (fun x hx => ?_) (by decide) (by omega) fun h1 f1 r1 => ?_
    · rw [hx] at hr
      have := (hr : TGd h O m _ x).2.2.1
      have hl := this.2.2.1
      rw [lty_len] at hl
      exact this.1 a (by omega)
    have l1 : LC h1 O U n B m f u := hs.fr f1.1 (FS.no rfl)
    have s1 := l1.1.1.1
    generalize hE1 : eb e (fN (fun x => (lgt x.2.2 a).isSome) 5) = E1 at *
    by_cases h11 : op = 11
    · subst h11
      refine k_X25_onLocal_161 o (fun c => absurd rfl c) (fun _ => ?_)
      refine k_X25_onLocal_167 o ?_
      refine lhas_ok l1.1 h4 hgt.ok (by omega) (by omega) ?_
      refine k_X25_onLocal_174 o ?_
      refine lnee_ok (b := fun _ => hsA m t 1) s1 r1 (fun _ _ => rfl) (by decide) (by omega) fun h2 f2 r2 => ?_
      have l2 : LC h2 O U n B m f u := l1.fr f2.1 (FS.no rfl)
      have s2 := l2.1.1.1
      generalize hE2 : eb E1 (fN (fun _ => hsA m t 1) 4) = E2 at *
      have n2 : ∀ v : Int32, (∀ x, E2 = .ok x → v = bI (isRf t || !liv (lty u) x.2.1 x.2.2 (2 ^ a) 1)) → V X K 198 [.ref O, .int (nI 11), .int (nI a), .long (lN (tyc t)), nov, .int (bI pl)] [.int v, .ref O] h2 := by
        intro v hv
        refine k_X25_onLocal_198 o ?_
        refine lnee_ok (b := fun x => isRf t || !liv (lty u) x.2.1 x.2.2 (2 ^ a) 1) s2 r2 hv (by decide) (by omega) fun h3 f3 r3 => ?_
        have l3 : LC h3 O U n B m f u := l2.fr f3.1 (FS.no rfl)
        obtain ⟨x0, -, ⟨-, -, -, x4, x5, x6⟩, -, -, -, -, x7, x8, x9⟩ := id l3.1.1
        have ff : Fq (FS trF) h h3 := ((f1.mono (FS.mono rfl)).trans (f2.mono (FS.mono rfl))).trans (f3.mono (FS.mono rfl))
        generalize hE3 : eb E2 (fN (fun x => isRf t || !liv (lty u) x.2.1 x.2.2 (2 ^ a) 1) 6) = E3 at *
        have goal : eb e (cO (cLoc m (lty u) 11 a)) = eb E3 fun x => eb (fPt t ((lgt x.2.2 a).getD (0, false)) x) fgt := by
          subst hE3; subst hE2; subst hE1
          rw [eb_a, eb_a, eb_a]
          congr 1
          funext x
          obtain ⟨p, s, l⟩ := x
          unfold cO cLoc fN
          rw [if_neg (by decide), ht]
          simp only
          cases hlg : lgt l a with
          | none => rfl
          | some og =>
            simp only [Option.isSome_some, neT, eb_k, if_true]
            cases hsA m t 1 <;> simp only [neT, neF, eb_k, eb_e]
            cases (isRf t || !liv (lty u) s l (2 ^ a) 1) <;> simp only [neT, neF, eb_k, eb_e]
            unfold fPt
            simp only [hlg, Option.getD_some]
            cases pt t (ogr t og) s <;> rfl
        rw [goal] at kk
        have z1 : h3.EJ 1875 (O + 11) a = h3.EJ 1875 (O + 11) a := rfl
        have z2 : h3.EI 1890 (O + 12) a = h3.EI 1890 (O + 12) a := rfl
        refine k_X25_onLocal_203 o ?_
        cases E3 with
        | error w =>
          refine lpush_ok (t := t) (og := (0, false)) l3.1.1 r3 (fun x hx => by cases hx) (by omega) fun h4 f4 r4 => ?_
          refine k_X25_onLocal_220 o ?_
          refine k_X25_onLocal_365 o ?_
          exact kk h4 (ff.trans (f4.mono (FS.mono rfl))) r4
        | ok x =>
          obtain ⟨g1, -⟩ := fN_ok hE3
          subst g1
          obtain ⟨g1, -⟩ := fN_ok hE2
          subst g1
          obtain ⟨-, g2⟩ := fN_ok hE1
          obtain ⟨og, hog⟩ := Option.isSome_iff_exists.mp g2
          have gg := lgt_at (r3 : TGd h3 O m _ x).2.2.1 hog
          refine lpush_ok (t := t) (og := og) l3.1.1 r3 (fun y hy => ⟨rfl, gg.1, gg.2.1, hgt.ok, gg.2.2.1⟩) (by omega) fun h4 f4 r4 => ?_
          refine k_X25_onLocal_220 o ?_
          refine k_X25_onLocal_365 o ?_
          refine kk h4 (ff.trans (f4.mono (FS.mono rfl))) ?_
          have := r4.fg
          rw [eb_k, hog, Option.getD_some]
          exact this
      cases hrf : isRf t with
      | true =>
        rw [hrf] at hpl; subst hpl
        refine k_X25_onLocal_178 o (fun _ => ?_) (fun c => absurd rfl c)
        refine k_X25_onLocal_193 o ?_
        exact n2 _ fun x hx => by rw [hrf]; rfl
      | false =>
        rw [hrf] at hpl; subst hpl
        refine k_X25_onLocal_178 o (fun c => absurd (show bI true = 0 from c) (by decide)) (fun _ => ?_)
        refine k_X25_onLocal_184 o ?_
        refine lptd_ok (w := true) l2 hu r2 (by omega) (by omega) fun b hb => ?_
        cases b with
        | true =>
          refine k_X25_onLocal_190 o (fun _ => ?_) (fun c => absurd (show bI true = 0 from c) (by decide))
          refine k_X25_onLocal_197 o ?_
          refine n2 _ fun x hx => ?_
          have := hb x hx
          rw [if_pos rfl] at this
          rw [hrf, ← this]; rfl
        | false =>
          refine k_X25_onLocal_190 o (fun c => absurd rfl c) (fun _ => ?_)
          refine k_X25_onLocal_193 o ?_
          refine n2 _ fun x hx => ?_
          have := hb x hx
          rw [if_pos rfl] at this
          rw [hrf, ← this]; rfl
    refine k_X25_onLocal_161 o (fun _ => ?_) (fun c => absurd ((nI_eq (by omega) (by omega)).mp c) h11)
    by_cases h12 : op = 12
    · subst h12
      refine k_X25_onLocal_223 o (fun c => absurd rfl c) (fun _ => ?_)
      have n2 : ∀ v : Int32, (∀ x, E1 = .ok x → v = bI (isRf t || !liv (lty u) x.2.1 x.2.2 (2 ^ a) 0)) → V X K 249 [.ref O, .int (nI 12), .int (nI a), .long (lN (tyc t)), nov, .int (bI pl)] [.int v, .ref O] h1 := by
        intro v hv
        refine k_X25_onLocal_249 o ?_
        refine lnee_ok (b := fun x => isRf t || !liv (lty u) x.2.1 x.2.2 (2 ^ a) 0) s1 r1 hv (by decide) (by omega) fun h3 f3 r3 => ?_
        have l3 : LC h3 O U n B m f u := l1.fr f3.1 (FS.no rfl)
        obtain ⟨x0, -, ⟨-, -, -, x4, x5, x6⟩, -, -, -, -, x7, x8, x9⟩ := id l3.1.1
        have ff : Fq (FS trF) h h3 := (f1.mono (FS.mono rfl)).trans (f3.mono (FS.mono rfl))
        generalize hE3 : eb E1 (fN (fun x => isRf t || !liv (lty u) x.2.1 x.2.2 (2 ^ a) 0) 6) = E3 at *
        have goal : eb e (cO (cLoc m (lty u) 12 a)) = eb E3 fun x => eb (fPt t ((lgt x.2.2 a).getD (0, false)) x) fun y => .ok (none, y.2.1, y.2.2.set a none) := by
          subst hE3; subst hE1
          rw [eb_a, eb_a]
          congr 1
          funext x
          obtain ⟨p, s, l⟩ := x
          unfold cO cLoc fN
          rw [if_neg (by decide), ht]
          simp only
          cases hlg : lgt l a with
          | none => rfl
          | some og =>
            simp only [Option.isSome_some, neT, eb_k, if_true]
            rw [if_neg (by decide)]
            cases (isRf t || !liv (lty u) s l (2 ^ a) 0) <;> simp only [neT, neF, eb_k, eb_e]
            unfold fPt
            simp only [hlg, Option.getD_some]
            cases pt t (ogr t og) s <;> rfl
        rw [goal] at kk
        have z1 : h3.EJ 1875 (O + 11) a = h3.EJ 1875 (O + 11) a := rfl
        have z2 : h3.EI 1890 (O + 12) a = h3.EI 1890 (O + 12) a := rfl
        refine k_X25_onLocal_254 o ?_
        -- behind the push
        have fin : ∀ og h5, Fq (FS psG) h3 h5 → TRs h5 O m (lty u) (eb E3 (fPt t og)) → (∀ x, E3 = .ok x → lgt x.2.2 a = some og) → V X K 271 [.ref O, .int (nI 12), .int (nI a), .long (lN (tyc t)), nov, .int (bI pl)] [] h5 := by
          intro og h5 f5 r5 hx5
          have l5 : LC h5 O U n B m f u := l3.fr f5.1 (FS.no rfl)
          obtain ⟨x0, -, ⟨-, -, -, x4, x5, x6⟩, -, -, -, -, x7, x8, x9⟩ := id l5.1.1
          have goal2 : (eb E3 fun x => eb (fPt t ((lgt x.2.2 a).getD (0, false)) x) fun y => .ok (none, y.2.1, y.2.2.set a none)) = eb (eb E3 (fPt t og)) fun y => (.ok (none, y.2.1, y.2.2.set a none) : Except Nat Ts) := by
            cases E3 with
            | error w => rfl
            | ok x => rw [eb_a, eb_k, eb_k, hx5 x rfl, Option.getD_some]
          rw [goal2] at kk
          generalize hE5 : eb E3 (fPt t og) = E5 at *
          have ff5 := ff.trans (f5.mono (FS.mono rfl))
          cases E5 with
          | error w =>
            obtain ⟨z1, z2, -⟩ := id (r5 : TBd h5 O w)
            refine k_X25_onLocal_271 o (fun c => absurd c (nI_nz z2)) (fun _ => ?_)
            refine k_X25_onLocal_278 o ?_
            exact kk h5 ff5 r5
          | ok x =>
            obtain ⟨p1, p2, p3, p4⟩ := id (r5 : TGd h5 O m (lty u) x)
            refine k_X25_onLocal_271 o (fun _ => ?_) (fun c => absurd rfl c)
            refine k_X25_onLocal_279 o ?_
            refine k_X25_onLocal_365 o ?_
            generalize hh6 : (((h5.sEI 1858 (O + 10) a (nI 0)).sEJ 1875 (O + 11) a (0 : Int64)).sEI 1890 (O + 12) a (nI 0)) = h6
            have f6 : Fq (FS [10000 + 1858, 10000 + 1875, 10000 + 1890]) h5 h6 := by subst hh6; exact (by refine (Fq.sEI (Fq.sEJ (Fq.sEI (Fq.refl h5) ?_) ?_) ?_) <;> exact rfl)
            refine kk h6 (ff5.trans (f6.mono (FS.mono rfl))) ?_
            rw [eb_k]
            refine show TGd h6 O m (lty u) (none, x.2.1, x.2.2.set a none) from ⟨by rw [f6.1.I (FS.n rfl)]; exact p1, ⟨by rw [f6.1.I (FS.n rfl)]; exact p2.1, p2.2.1.fr f6.1 (fun _ => FS.n rfl) (fun _ => FS.n rfl) (fun _ => FS.n rfl), p2.2.2⟩, p3.set (by have := p3.2.2.1; rw [lty_len] at this; omega) ?_ (fun g hg => by cases hg) (fun j hj => ?_) (fun j hj => ?_) (fun j hj => ?_), trivial⟩
            · subst hh6; simp [n_sI, z_sI, tag_sI, I_sI, J_sI, R_sI, EI_sI, EJ_sI, ER_sI, n_sJ, z_sJ, tag_sJ, I_sJ, J_sJ, R_sJ, EI_sJ, EJ_sJ, ER_sJ, n_sR, z_sR, tag_sR, I_sR, J_sR, R_sR, EI_sR, EJ_sR, ER_sR, n_sEI, z_sEI, tag_sEI, I_sEI, J_sEI, R_sEI, EI_sEI, EJ_sEI, ER_sEI, n_sEJ, z_sEJ, tag_sEJ, I_sEJ, J_sEJ, R_sEJ, EI_sEJ, EJ_sEJ, ER_sEJ, n_sER, z_sER, tag_sER, I_sER, J_sER, R_sER, EI_sER, EJ_sER, ER_sER, n_nw, z_nw, tag_nw, I_nw, J_nw, R_nw, EI_nw, EJ_nw, ER_nw]; rfl
            · subst hh6; simp [n_sI, z_sI, tag_sI, I_sI, J_sI, R_sI, EI_sI, EJ_sI, ER_sI, n_sJ, z_sJ, tag_sJ, I_sJ, J_sJ, R_sJ, EI_sJ, EJ_sJ, ER_sJ, n_sR, z_sR, tag_sR, I_sR, J_sR, R_sR, EI_sR, EJ_sR, ER_sR, n_sEI, z_sEI, tag_sEI, I_sEI, J_sEI, R_sEI, EI_sEI, EJ_sEI, ER_sEI, n_sEJ, z_sEJ, tag_sEJ, I_sEJ, J_sEJ, R_sEJ, EI_sEJ, EJ_sEJ, ER_sEJ, n_sER, z_sER, tag_sER, I_sER, J_sER, R_sER, EI_sER, EJ_sER, ER_sER, n_nw, z_nw, tag_nw, I_nw, J_nw, R_nw, EI_nw, EJ_nw, ER_nw, hj]
            · subst hh6; simp [n_sI, z_sI, tag_sI, I_sI, J_sI, R_sI, EI_sI, EJ_sI, ER_sI, n_sJ, z_sJ, tag_sJ, I_sJ, J_sJ, R_sJ, EI_sJ, EJ_sJ, ER_sJ, n_sR, z_sR, tag_sR, I_sR, J_sR, R_sR, EI_sR, EJ_sR, ER_sR, n_sEI, z_sEI, tag_sEI, I_sEI, J_sEI, R_sEI, EI_sEI, EJ_sEI, ER_sEI, n_sEJ, z_sEJ, tag_sEJ, I_sEJ, J_sEJ, R_sEJ, EI_sEJ, EJ_sEJ, ER_sEJ, n_sER, z_sER, tag_sER, I_sER, J_sER, R_sER, EI_sER, EJ_sER, ER_sER, n_nw, z_nw, tag_nw, I_nw, J_nw, R_nw, EI_nw, EJ_nw, ER_nw, hj]
            · subst hh6; simp [n_sI, z_sI, tag_sI, I_sI, J_sI, R_sI, EI_sI, EJ_sI, ER_sI, n_sJ, z_sJ, tag_sJ, I_sJ, J_sJ, R_sJ, EI_sJ, EJ_sJ, ER_sJ, n_sR, z_sR, tag_sR, I_sR, J_sR, R_sR, EI_sR, EJ_sR, ER_sR, n_sEI, z_sEI, tag_sEI, I_sEI, J_sEI, R_sEI, EI_sEI, EJ_sEI, ER_sEI, n_sEJ, z_sEJ, tag_sEJ, I_sEJ, J_sEJ, R_sEJ, EI_sEJ, EJ_sEJ, ER_sEJ, n_sER, z_sER, tag_sER, I_sER, J_sER, R_sER, EI_sER, EJ_sER, ER_sER, n_nw, z_nw, tag_nw, I_nw, J_nw, R_nw, EI_nw, EJ_nw, ER_nw, hj]
        cases hE : E3 with
        | error w =>
          refine lpush_ok (t := t) (og := (0, false)) l3.1.1 r3 (fun x hx => by rw [hE] at hx; cases hx) (by omega) fun h5 f5 r5 => ?_
          exact fin (0, false) h5 f5 r5 fun x hx => by rw [hE] at hx; cases hx
        | ok x =>
          obtain ⟨g1, -⟩ := fN_ok (hE3.trans hE)
          obtain ⟨-, g2⟩ := fN_ok (hE1.trans g1)
          obtain ⟨og, hog⟩ := Option.isSome_iff_exists.mp g2
          have r3' := r3
          rw [hE] at r3'
          have gg := lgt_at (r3' : TGd h3 O m _ x).2.2.1 hog
          refine lpush_ok (t := t) (og := og) l3.1.1 r3 (fun y hy => ⟨rfl, gg.1, gg.2.1, hgt.ok, gg.2.2.1⟩) (by omega) fun h5 f5 r5 => ?_
          exact fin og h5 f5 r5 fun y hy => by rw [hE] at hy; cases hy; exact hog
      cases hrf : isRf t with
      | true =>
        rw [hrf] at hpl; subst hpl
        refine k_X25_onLocal_229 o (fun _ => ?_) (fun c => absurd rfl c)
        refine k_X25_onLocal_244 o ?_
        exact n2 _ fun x hx => by rw [hrf]; rfl
      | false =>
        rw [hrf] at hpl; subst hpl
        refine k_X25_onLocal_229 o (fun c => absurd (show bI true = 0 from c) (by decide)) (fun _ => ?_)
        refine k_X25_onLocal_235 o ?_
        refine lptd_ok (w := false) l1 hu r1 (by omega) (by omega) fun b hb => ?_
        cases b with
        | true =>
          refine k_X25_onLocal_241 o (fun _ => ?_) (fun c => absurd (show bI true = 0 from c) (by decide))
          refine k_X25_onLocal_248 o ?_
          refine n2 _ fun x hx => ?_
          have := hb x hx
          rw [if_neg (by decide)] at this
          rw [hrf, ← this]; rfl
        | false =>
          refine k_X25_onLocal_241 o (fun c => absurd rfl c) (fun _ => ?_)
          refine k_X25_onLocal_244 o ?_
          refine n2 _ fun x hx => ?_
          have := hb x hx
          rw [if_neg (by decide)] at this
          rw [hrf, ← this]; rfl
    -- a reference to a local
    refine k_X25_onLocal_223 o (fun _ => ?_) (fun c => absurd ((nI_eq (by omega) (by omega)).mp c) h12)
    refine k_X25_onLocal_303 o ?_
    refine lnee_ok (b := fun _ => pl) s1 r1 (fun _ _ => rfl) (by decide) (by omega) fun h2 f2 r2 => ?_
    have l2 : LC h2 O U n B m f u := l1.fr f2.1 (FS.no rfl)
    have s2 := l2.1.1.1
    generalize hE2 : eb E1 (fN (fun _ => pl) 3) = E2 at *
    have n3 : ∀ w : Bool, w = (op == 14) → V X K 324 [.ref O, .int (nI op), .int (nI a), .long (lN (tyc t)), nov, .int (bI pl)] [.int (bI w), .int (nI a), .ref O, .ref O] h2 := by
      intro w hw
      refine k_X25_onLocal_324 o ?_
      refine lptd_ok (w := w) l2 hu r2 (by omega) (by omega) fun b hb => ?_
      have n4 : ∀ v : Int32, (∀ x, E2 = .ok x → v = bI (!liv (lty u) x.2.1 x.2.2 (2 ^ a) (if op = 14 then 1 else 0))) → V X K 335 [.ref O, .int (nI op), .int (nI a), .long (lN (tyc t)), nov, .int (bI pl)] [.int v, .ref O] h2 := by
        intro v hv
        refine k_X25_onLocal_335 o ?_
        refine lnee_ok (b := fun x => !liv (lty u) x.2.1 x.2.2 (2 ^ a) (if op = 14 then 1 else 0)) s2 r2 hv (by decide) (by omega) fun h3 f3 r3 => ?_
        have l3 : LC h3 O U n B m f u := l2.fr f3.1 (FS.no rfl)
        have ff : Fq (FS trF) h h3 := ((f1.mono (FS.mono rfl)).trans (f2.mono (FS.mono rfl))).trans (f3.mono (FS.mono rfl))
        generalize hE3 : eb E2 (fN (fun x => !liv (lty u) x.2.1 x.2.2 (2 ^ a) (if op = 14 then 1 else 0)) 6) = E3 at *
        have goal : eb e (cO (cLoc m (lty u) op a)) = eb (eb E3 (fPt ((if op = 14 then 8 else 9) :: t) (2 ^ a, false))) fgt := by
          subst hE3; subst hE2; subst hE1
          rw [eb_a, eb_a, eb_a, eb_a]
          congr 1
          funext x
          obtain ⟨p, s, l⟩ := x
          have eog : ogr ((if op = 14 then 8 else 9) :: t) (2 ^ a, false) = (2 ^ a, false) := by
            have : isRf ((if op = 14 then 8 else 9) :: t) = true := by split <;> rfl
            unfold ogr; rw [this]; rfl
          unfold cO cLoc fN
          rw [if_neg h13, ht]
          simp only
          cases hlg : lgt l a with
          | none => rfl
          | some og =>
            simp only [Option.isSome_some, neT, eb_k]
            rw [if_neg h11, if_neg h12, ← hpl]
            cases pl <;> simp only [neT, neF, eb_k, eb_e]
            cases (!liv (lty u) s l (2 ^ a) (if op = 14 then 1 else 0)) <;> simp only [neT, neF, eb_k, eb_e]
            unfold fPt
            simp only [eog]
            cases pt ((if op = 14 then 8 else 9) :: t) (2 ^ a, false) s <;> rfl
        rw [goal] at kk
        have pw : 2 ^ a < 9223372036854775808 := by
          have : (2 : Nat) ^ a < 2 ^ 63 := Nat.pow_lt_pow_right (by omega) (by omega)
          omega
        have n5 : ∀ c, c = (if op = 14 then 8 else 9) → V X K 354 [.ref O, .int (nI op), .int (nI a), .long (lN (tyc t)), nov, .int (bI pl)] [.int (nI c), .ref O] h3 := by
          intro c hc
          have s3 := l3.1.1.1
          refine k_X25_onLocal_354 o ?_
          refine lbef_ok tv.1 tv.2 (by rw [hc]; split <;> omega) (by omega) ?_
          refine k_X25_onLocal_358 o ?_
          rw [lN_pw (by omega)]
          refine lpush_ok (t := c :: t) (og := (2 ^ a, false)) l3.1.1 r3 (fun x hx => ⟨rfl, rfl, rfl, ?_, pw⟩) (by omega) fun h4 f4 r4 => ?_
          · obtain ⟨g1, -⟩ := fN_ok (hE3.trans hx)
            obtain ⟨-, g2⟩ := fN_ok (hE2.trans g1)
            rw [hpl] at g2
            exact (hgt.f (by simpa using g2)).ref (by rw [hc]; split <;> omega)
          refine k_X25_onLocal_365 o ?_
          rw [hc] at r4
          exact kk h4 (ff.trans (f4.mono (FS.mono rfl))) r4.fg
        refine k_X25_onLocal_340 o (fun c => ?_) (fun c => ?_)
        · refine k_X25_onLocal_352 o ?_
          refine n5 9 ?_
          rw [if_neg fun z => c (by rw [z])]
        · refine k_X25_onLocal_347 o ?_
          refine n5 8 ?_
          rw [if_pos ((nI_eq (by omega) (by omega)).mp c)]
      have ew : (if w = true then 1 else 0 : Nat) = if op = 14 then 1 else 0 := by
        rw [hw]; simp
      rw [ew] at hb
      cases b with
      | true =>
        refine k_X25_onLocal_327 o (fun _ => ?_) (fun c => absurd (show bI true = 0 from c) (by decide))
        refine k_X25_onLocal_334 o ?_
        exact n4 _ fun x hx => by rw [← hb x hx]; rfl
      | false =>
        refine k_X25_onLocal_327 o (fun c => absurd rfl c) (fun _ => ?_)
        refine k_X25_onLocal_330 o ?_
        exact n4 _ fun x hx => by rw [← hb x hx]; rfl
    refine k_X25_onLocal_310 o (fun c => ?_) (fun c => ?_)
    · refine k_X25_onLocal_323 o ?_
      refine n3 false ?_
      have : ¬ op = 14 := fun z => c (by rw [z])
      simpa using this
    · refine k_X25_onLocal_319 o ?_
      refine n3 true ?_
      simpa using (nI_eq (by omega) (by omega)).mp c
  cases hrf : isRf t with
  | true =>
    refine k_X25_onLocal_11 o (fun _ => ?_) (fun c => absurd (show bI true = 0 from c) (by decide))
    refine k_X25_onLocal_18 o ?_
    exact main false (by rw [hrf]; rfl)
  | false =>
    refine k_X25_onLocal_11 o (fun c => absurd rfl c) (fun _ => ?_)
    refine k_X25_onLocal_14 o ?_
    exact main true (by rw [hrf]; rfl)
