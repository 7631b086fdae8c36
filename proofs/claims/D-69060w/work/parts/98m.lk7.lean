/-! the twin's looker: locals -/
theorem neT {w : Nat} : nee true w = .ok () := rfl
theorem neF {w : Nat} : nee false w = .error w := rfl
theorem eb_e {α β : Type} {w : Nat} {f : α → Except Nat β} : eb (.error w : Except Nat α) f = .error w := rfl
def fN (b : Ts → Bool) (w : Nat) (x : Ts) : Except Nat Ts := eb (nee (b x) w) fun _ => .ok x
def fgt (x : Ts) : Except Nat Ts := .ok (none, x.2)
def cO (F : Cs → Except Nat Cs) (x : Ts) : Except Nat Ts := eb (F x.2) fun c => .ok (none, c)
theorem TRs.fg {h : AH} {O : Nat} {m : Md} {lt : List Ty} {e : Except Nat Ts} (hr : TRs h O m lt e) : TRs h O m lt (eb e fgt) := by
  cases e with
  | ok x =>
    obtain ⟨s1, s2, s3, -⟩ := (hr : TGd h O m lt x)
    exact show TGd h O m lt (none, x.2) from ⟨s1, s2, s3, trivial⟩
  | error w => exact hr
theorem lnee_ok {G : Gt} {d : Nat} {h : AH} {K : Outcome → AH → Prop} {O w : Nat} {m : Md} {lt : List Ty} {e : Except Nat Ts} {b : Ts → Bool} {v : Int32} (h0 : h.tag O = some (24, 0)) (hr : TRs h O m lt e) (hv : ∀ x, e = .ok x → v = bI (b x)) (hw : 0 < w ∧ w < 16) (hd : 1 ≤ d) (kk : ∀ h', Fq (FS [3090]) h h' → TRs h' O m lt (eb e (fN b w)) → K (.returned none) h') : MW G d e_X25_need [.ref O, .int v, .int (nI w)] h K := by
  cases e with
  | error v' => exact lneed_ok (b := true) h0 hr (fun x hx => by cases hx) hw hd kk
  | ok x => exact lneed_ok (b := b x) h0 hr (fun y hy => hv x rfl) hw hd fun h' f' r' => kk h' f' r'
theorem fTT_ok {h : AH} {O : Nat} {m : Md} {lt : List Ty} {e : Except Nat Ts} {t : Ty} (hr : TRs h O m lt e) {x : Ts} (hx : eb e (fTT t) = .ok x) : ∃ y, x.1 = some y ∧ y.1 = t ∧ tOK m y.1 ∧ y.2.1 < 9223372036854775808 ∧ (isRf y.1 = false → y.2 = (0, false)) ∧ ∃ z, e = .ok z ∧ z.2.1 = y :: x.2.1 ∧ z.2.2 = x.2.2 := by
  obtain ⟨z, rfl, h2⟩ := eb_ok hx
  obtain ⟨r, h3, h4⟩ := eb_ok h2
  obtain ⟨p, s, l⟩ := z
  cases s with
  | nil => cases h3
  | cons y s =>
    unfold tkT at h3
    simp only [tk, eb_k] at h3
    obtain ⟨_, h5, h6⟩ := eb_ok h3
    have : y.1 = t := by
      cases hh : y.1 == t with
      | true => simpa using hh
      | false => rw [hh] at h5; cases h5
    cases h6; cases h4
    obtain ⟨t1, t2, t3⟩ := (hr : TGd h O m lt (p, y :: s, l)).2.1.2.2.2 y (by simp)
    exact ⟨y, rfl, this, t1, t2, t3, _, rfl, rfl, rfl⟩
theorem TLh.set {h h' : AH} {O k : Nat} {lt : List Ty} {l : Ls} {og : Option Og} (s : TLh h O lt l) (hk : k < l.length) (e1 : h'.EI 1858 (O + 10) k = bI og.isSome) (e2 : ∀ g, og = some g → h'.EJ 1875 (O + 11) k = lN g.1 ∧ h'.EI 1890 (O + 12) k = bI g.2 ∧ g.1 < 9223372036854775808 ∧ (isRf (tgt lt k) = false → g = (0, false)))
    (r1 : ∀ j, j ≠ k → h'.EI 1858 (O + 10) j = h.EI 1858 (O + 10) j) (r2 : ∀ j, j ≠ k → h'.EJ 1875 (O + 11) j = h.EJ 1875 (O + 11) j) (r3 : ∀ j, j ≠ k → h'.EI 1890 (O + 12) j = h.EI 1890 (O + 12) j) : TLh h' O lt (l.set k og) := by
  obtain ⟨s1, s2, s3, s4⟩ := s
  refine ⟨fun j hj => ?_, fun j g hj => ?_, ?_, fun j g hj => ?_⟩
  · rw [List.length_set] at hj
    by_cases c : j = k
    · subst c
      rw [e1]; unfold lgt; rw [List.getElem?_set_self hk]; rfl
    · rw [r1 j c, s1 j hj]; unfold lgt; rw [List.getElem?_set_ne (fun z => c z.symm)]
  · by_cases c : j = k
    · subst c
      rw [List.getElem?_set_self hk] at hj
      obtain ⟨q1, q2, -⟩ := e2 g (Option.some.inj hj)
      exact ⟨q1, q2⟩
    · rw [List.getElem?_set_ne (fun z => c z.symm)] at hj
      rw [r2 j c, r3 j c]; exact s2 j g hj
  · rw [List.length_set]; exact s3
  · by_cases c : j = k
    · subst c
      rw [List.getElem?_set_self hk] at hj
      obtain ⟨-, -, q⟩ := e2 g (Option.some.inj hj)
      exact q
    · rw [List.getElem?_set_ne (fun z => c z.symm)] at hj
      exact s4 j g hj
theorem lgt_at {h : AH} {O k : Nat} {lt : List Ty} {l : Ls} {og : Og} (s : TLh h O lt l) (hg : lgt l k = some og) : h.EJ 1875 (O + 11) k = lN og.1 ∧ h.EI 1890 (O + 12) k = bI og.2 ∧ og.1 < 9223372036854775808 ∧ (isRf (tgt lt k) = false → og = (0, false)) := by
  have hq : l[k]? = some (some og) := by
    unfold lgt at hg
    cases hh : l[k]? with
    | none => rw [hh] at hg; cases hg
    | some x => rw [hh] at hg; exact congrArg some hg
  exact ⟨(s.2.1 k og hq).1, (s.2.1 k og hq).2, s.2.2.2 k og hq⟩
theorem lN_pw {k : Nat} (h : k < 63) : ((1 : Int64) <<< ((nI k).toInt64 &&& 63)) = lN (2 ^ k) := un_inj (by
  have : (2 : Nat) ^ k < 2 ^ 63 := Nat.pow_lt_pow_right (by omega) h
  rw [un_shl _ (by omega), un_l (by omega), show un 1 = 1 from rfl, Nat.one_shiftLeft, Nat.mod_eq_of_lt (by omega)])
/-- storing in a local -/
theorem llst_ok {G : Gt} {d : Nat} {h : AH} {K : Outcome → AH → Prop} {O U n f a : Nat} {B : Nat → Nat} {m : Md} {u : Ux} {e : Except Nat Ts} (hs : LC h O U n B m f u) (hu : gU m u) (h4 : ab4 m) (hr : TRs h O m (lty u) e) (ha : a < nlo u) (hd : 4 ≤ d) (kk : ∀ h', Fq (FS trF) h h' → TRs h' O m (lty u) (eb e (cO (cLoc m (lty u) 13 a))) → K (.returned none) h') : MW G d e_X25_onLocal [.ref O, .int (nI 13), .int (nI a)] h K := by
  refine st_X25_onLocal fun X o hG hD _ => ?_
  subst hG; subst hD
  obtain ⟨s0, ⟨a1, a2, a3, a4, a5, a6⟩, ⟨b1, b2, b3, b4, b5, b6⟩, ⟨c1, c2, c3, c4, c5, c6⟩, d1, d2, d3, d4, d5, d6⟩ := id hs.1.1
  obtain ⟨-, ⟨v1, v2, v3, v4⟩, v5⟩ := id hs
  have hn := hu.n
  have ix : IX (nI a) 40 a := IX.mk (by omega) (by omega)
  have r1 := v5 a ha
  have hgt := hu.lt ha
  have tv := hgt.ok.tv.1
  generalize ht : tgt (lty u) a = t at *
  refine k_X25_onLocal_0 o ?_
  refine lirf_ok tv (by omega) ?_
  have main : ∀ pl, pl = !isRf t → V X K 19 [.ref O, .int (nI 13), .int (nI a), .long (lN (tyc t)), nov, nov] [.int (bI pl)] h := by
    intro pl hpl
    refine k_X25_onLocal_19 o (fun c => absurd rfl c) (fun _ => ?_)
    refine k_X25_onLocal_27 o ?_
    refine ltakT_ok (t := t) hs.1.1 hr (fun _ _ => ⟨rfl, tv⟩) (by omega) fun h1 f1 r1 => ?_
    have l1 : LC h1 O U n B m f u := hs.fr f1.1 (FS.no rfl)
    obtain ⟨e0, ⟨-, -, -, -, -, -⟩, ⟨-, -, -, e4, e5, e6⟩, -, -, -, -, g4, g5, g6⟩ := id l1.1.1
    generalize hE1 : eb e (fTT t) = E1 at *
    have q1 : h1.EI 1858 (O + 10) a = h1.EI 1858 (O + 10) a := rfl
    have th1 : ∀ x, E1 = .ok x → h1.EI 1858 (O + 10) a = bI (lgt x.2.2 a).isSome := fun x hx => by
      rw [hx] at r1
      have := (r1 : TGd h1 O m _ x).2.2.1
      have hl := this.2.2.1
      rw [lty_len] at hl
      exact this.1 a (by omega)
    -- behind the first need
    have n1 : ∀ v : Int32, (∀ x, E1 = .ok x → v = bI ((lgt x.2.2 a).isNone || hsA m t 2)) → V X K 56 [.ref O, .int (nI 13), .int (nI a), .long (lN (tyc t)), nov, .int (bI pl)] [.int v, .ref O] h1 := by
      intro v hv
      refine k_X25_onLocal_56 o ?_
      refine lnee_ok (b := fun x => (lgt x.2.2 a).isNone || hsA m t 2) e0 r1 hv (by decide) (by omega) fun h2 f2 r2 => ?_
      have l2 : LC h2 O U n B m f u := l1.fr f2.1 (FS.no rfl)
      have s2 := l2.1.1.1
      generalize hE2 : eb E1 (fN (fun x => (lgt x.2.2 a).isNone || hsA m t 2) 4) = E2 at *
      have n2 : ∀ v : Int32, (∀ x, E2 = .ok x → v = bI (isRf t || !liv (lty u) x.2.1 x.2.2 (2 ^ a) 0)) → V X K 87 [.ref O, .int (nI 13), .int (nI a), .long (lN (tyc t)), nov, .int (bI pl)] [.int v, .ref O] h2 := by
        intro v hv
        refine k_X25_onLocal_87 o ?_
        refine lnee_ok (b := fun x => isRf t || !liv (lty u) x.2.1 x.2.2 (2 ^ a) 0) s2 r2 hv (by decide) (by omega) fun h3 f3 r3 => ?_
        have l3 : LC h3 O U n B m f u := l2.fr f3.1 (FS.no rfl)
        have s3 := l3.1.1.1
        have ff : Fq (FS trF) h h3 := ((f1.mono (FS.mono rfl)).trans (f2.mono (FS.mono rfl))).trans (f3.mono (FS.mono rfl))
        generalize hE3 : eb E2 (fN (fun x => isRf t || !liv (lty u) x.2.1 x.2.2 (2 ^ a) 0) 6) = E3 at *
        have goal : eb e (cO (cLoc m (lty u) 13 a)) = eb E3 fun x => .ok (none, x.2.1, x.2.2.set a (x.1.map Prod.snd)) := by
          subst hE3; subst hE2; subst hE1
          rw [eb_a, eb_a, eb_a]
          congr 1
          funext x
          obtain ⟨p, s, l⟩ := x
          unfold cO cLoc fTT
          rw [if_pos rfl, ht, eb_a, eb_a]
          congr 1
          funext r
          rw [eb_k]
          unfold fN
          simp only
          cases ((lgt l a).isNone || hsA m t 2) <;> simp only [neT, neF, eb_k, eb_e] <;> cases (isRf t || !liv (lty u) r.2 l (2 ^ a) 0) <;> rfl
        rw [goal] at kk
        cases E3 with
        | error w =>
          obtain ⟨z1, z2, -⟩ := id (r3 : TBd h3 O w)
          refine k_X25_onLocal_92 o (fun c => absurd c (nI_nz z2)) (fun _ => ?_)
          refine k_X25_onLocal_99 o ?_
          exact kk h3 ff r3
        | ok x =>
          obtain ⟨w2, hw2, hw3⟩ := eb_ok hE3
          have : w2 = x := by
            unfold fN at hw3
            obtain ⟨_, _, z⟩ := eb_ok hw3
            cases z; rfl
          subst this
          subst hw2
          obtain ⟨w2', hw2, hw3⟩ := eb_ok hE2
          have : w2' = w2 := by
            unfold fN at hw3
            obtain ⟨_, _, z⟩ := eb_ok hw3
            cases z; rfl
          subst this
          subst hw2
          obtain ⟨y, y1, y2, y3, y4, y5, -⟩ := fTT_ok hr hE1
          have g3 := id (r3 : TGd h3 O m (lty u) w2')
          obtain ⟨p1, p2, p3, p4⟩ := g3
          rw [y1] at p4
          obtain ⟨p5, p6, p7⟩ : h3.J 3091 O = lN (tyc y.1) ∧ h3.J 3092 O = lN y.2.1 ∧ h3.I 3093 O = bI y.2.2 := p4
          refine k_X25_onLocal_92 o (fun _ => ?_) (fun c => absurd rfl c)
          obtain ⟨x0, -, ⟨-, -, -, x4, x5, x6⟩, -, -, -, -, x7, x8, x9⟩ := id l3.1.1
          -- the three writes
          have w3 : ∀ (vo : Int64) (vi : Int32), vo = lN y.2.1 → vi = bI y.2.2 → K (.returned none) (((h3.sEI 1858 (O + 10) a (nI 1)).sEJ 1875 (O + 11) a vo).sEI 1890 (O + 12) a vi) := by
            intro vo vi hvo hvi
            subst hvo; subst hvi
            generalize hh4 : (((h3.sEI 1858 (O + 10) a (nI 1)).sEJ 1875 (O + 11) a (lN y.2.1)).sEI 1890 (O + 12) a (bI y.2.2)) = h5
            have f5 : Fq (FS [10000 + 1858, 10000 + 1875, 10000 + 1890]) h3 h5 := by subst hh4; exact (by refine (Fq.sEI (Fq.sEJ (Fq.sEI (Fq.refl h3) ?_) ?_) ?_) <;> exact rfl)
            refine kk h5 (ff.trans (f5.mono (FS.mono rfl))) ?_
            rw [eb_k, y1]
            refine show TGd h5 O m (lty u) (none, w2'.2.1, w2'.2.2.set a (some y.2)) from ⟨by rw [f5.1.I (FS.n rfl)]; exact p1, ⟨by rw [f5.1.I (FS.n rfl)]; exact p2.1, p2.2.1.fr f5.1 (fun _ => FS.n rfl) (fun _ => FS.n rfl) (fun _ => FS.n rfl), p2.2.2⟩, p3.set (by have := p3.2.2.1; rw [lty_len] at this; omega) ?_ (fun g hg => ?_) (fun j hj => ?_) (fun j hj => ?_) (fun j hj => ?_), trivial⟩
            · subst hh4; simp [n_sI, z_sI, tag_sI, I_sI, J_sI, R_sI, EI_sI, EJ_sI, ER_sI, n_sJ, z_sJ, tag_sJ, I_sJ, J_sJ, R_sJ, EI_sJ, EJ_sJ, ER_sJ, n_sR, z_sR, tag_sR, I_sR, J_sR, R_sR, EI_sR, EJ_sR, ER_sR, n_sEI, z_sEI, tag_sEI, I_sEI, J_sEI, R_sEI, EI_sEI, EJ_sEI, ER_sEI, n_sEJ, z_sEJ, tag_sEJ, I_sEJ, J_sEJ, R_sEJ, EI_sEJ, EJ_sEJ, ER_sEJ, n_sER, z_sER, tag_sER, I_sER, J_sER, R_sER, EI_sER, EJ_sER, ER_sER, n_nw, z_nw, tag_nw, I_nw, J_nw, R_nw, EI_nw, EJ_nw, ER_nw]; rfl
            · cases hg
              refine ⟨?_, ?_, y4, fun z => y5 (by rw [y2, ← ht]; exact z)⟩
              · subst hh4; simp [n_sI, z_sI, tag_sI, I_sI, J_sI, R_sI, EI_sI, EJ_sI, ER_sI, n_sJ, z_sJ, tag_sJ, I_sJ, J_sJ, R_sJ, EI_sJ, EJ_sJ, ER_sJ, n_sR, z_sR, tag_sR, I_sR, J_sR, R_sR, EI_sR, EJ_sR, ER_sR, n_sEI, z_sEI, tag_sEI, I_sEI, J_sEI, R_sEI, EI_sEI, EJ_sEI, ER_sEI, n_sEJ, z_sEJ, tag_sEJ, I_sEJ, J_sEJ, R_sEJ, EI_sEJ, EJ_sEJ, ER_sEJ, n_sER, z_sER, tag_sER, I_sER, J_sER, R_sER, EI_sER, EJ_sER, ER_sER, n_nw, z_nw, tag_nw, I_nw, J_nw, R_nw, EI_nw, EJ_nw, ER_nw]
              · subst hh4; simp [n_sI, z_sI, tag_sI, I_sI, J_sI, R_sI, EI_sI, EJ_sI, ER_sI, n_sJ, z_sJ, tag_sJ, I_sJ, J_sJ, R_sJ, EI_sJ, EJ_sJ, ER_sJ, n_sR, z_sR, tag_sR, I_sR, J_sR, R_sR, EI_sR, EJ_sR, ER_sR, n_sEI, z_sEI, tag_sEI, I_sEI, J_sEI, R_sEI, EI_sEI, EJ_sEI, ER_sEI, n_sEJ, z_sEJ, tag_sEJ, I_sEJ, J_sEJ, R_sEJ, EI_sEJ, EJ_sEJ, ER_sEJ, n_sER, z_sER, tag_sER, I_sER, J_sER, R_sER, EI_sER, EJ_sER, ER_sER, n_nw, z_nw, tag_nw, I_nw, J_nw, R_nw, EI_nw, EJ_nw, ER_nw]
            · subst hh4; simp [n_sI, z_sI, tag_sI, I_sI, J_sI, R_sI, EI_sI, EJ_sI, ER_sI, n_sJ, z_sJ, tag_sJ, I_sJ, J_sJ, R_sJ, EI_sJ, EJ_sJ, ER_sJ, n_sR, z_sR, tag_sR, I_sR, J_sR, R_sR, EI_sR, EJ_sR, ER_sR, n_sEI, z_sEI, tag_sEI, I_sEI, J_sEI, R_sEI, EI_sEI, EJ_sEI, ER_sEI, n_sEJ, z_sEJ, tag_sEJ, I_sEJ, J_sEJ, R_sEJ, EI_sEJ, EJ_sEJ, ER_sEJ, n_sER, z_sER, tag_sER, I_sER, J_sER, R_sER, EI_sER, EJ_sER, ER_sER, n_nw, z_nw, tag_nw, I_nw, J_nw, R_nw, EI_nw, EJ_nw, ER_nw, hj]
            · subst hh4; simp [n_sI, z_sI, tag_sI, I_sI, J_sI, R_sI, EI_sI, EJ_sI, ER_sI, n_sJ, z_sJ, tag_sJ, I_sJ, J_sJ, R_sJ, EI_sJ, EJ_sJ, ER_sJ, n_sR, z_sR, tag_sR, I_sR, J_sR, R_sR, EI_sR, EJ_sR, ER_sR, n_sEI, z_sEI, tag_sEI, I_sEI, J_sEI, R_sEI, EI_sEI, EJ_sEI, ER_sEI, n_sEJ, z_sEJ, tag_sEJ, I_sEJ, J_sEJ, R_sEJ, EI_sEJ, EJ_sEJ, ER_sEJ, n_sER, z_sER, tag_sER, I_sER, J_sER, R_sER, EI_sER, EJ_sER, ER_sER, n_nw, z_nw, tag_nw, I_nw, J_nw, R_nw, EI_nw, EJ_nw, ER_nw, hj]
            · subst hh4; simp [n_sI, z_sI, tag_sI, I_sI, J_sI, R_sI, EI_sI, EJ_sI, ER_sI, n_sJ, z_sJ, tag_sJ, I_sJ, J_sJ, R_sJ, EI_sJ, EJ_sJ, ER_sJ, n_sR, z_sR, tag_sR, I_sR, J_sR, R_sR, EI_sR, EJ_sR, ER_sR, n_sEI, z_sEI, tag_sEI, I_sEI, J_sEI, R_sEI, EI_sEI, EJ_sEI, ER_sEI, n_sEJ, z_sEJ, tag_sEJ, I_sEJ, J_sEJ, R_sEJ, EI_sEJ, EJ_sEJ, ER_sEJ, n_sER, z_sER, tag_sER, I_sER, J_sER, R_sER, EI_sER, EJ_sER, ER_sER, n_nw, z_nw, tag_nw, I_nw, J_nw, R_nw, EI_nw, EJ_nw, ER_nw, hj]
          -- within
          have w2 : ∀ vo : Int64, vo = lN y.2.1 → V X K 125 [.ref O, .int (nI 13), .int (nI a), .long (lN (tyc t)), nov, .int (bI pl)] [.long vo, .int (nI a), .ref (O + 11)] (h3.sEI 1858 (O + 10) a (nI 1)) := by
            intro vo hvo
            have m1 : (h3.sEI 1858 (O + 10) a (nI 1)).tag (O + 11) = some (1875, 40) := by simp [n_sI, z_sI, tag_sI, I_sI, J_sI, R_sI, EI_sI, EJ_sI, ER_sI, n_sJ, z_sJ, tag_sJ, I_sJ, J_sJ, R_sJ, EI_sJ, EJ_sJ, ER_sJ, n_sR, z_sR, tag_sR, I_sR, J_sR, R_sR, EI_sR, EJ_sR, ER_sR, n_sEI, z_sEI, tag_sEI, I_sEI, J_sEI, R_sEI, EI_sEI, EJ_sEI, ER_sEI, n_sEJ, z_sEJ, tag_sEJ, I_sEJ, J_sEJ, R_sEJ, EI_sEJ, EJ_sEJ, ER_sEJ, n_sER, z_sER, tag_sER, I_sER, J_sER, R_sER, EI_sER, EJ_sER, ER_sER, n_nw, z_nw, tag_nw, I_nw, J_nw, R_nw, EI_nw, EJ_nw, ER_nw, x8]
            have m2 : (h3.sEI 1858 (O + 10) a (nI 1)).tag O = some (24, 0) := by simp [n_sI, z_sI, tag_sI, I_sI, J_sI, R_sI, EI_sI, EJ_sI, ER_sI, n_sJ, z_sJ, tag_sJ, I_sJ, J_sJ, R_sJ, EI_sJ, EJ_sJ, ER_sJ, n_sR, z_sR, tag_sR, I_sR, J_sR, R_sR, EI_sR, EJ_sR, ER_sR, n_sEI, z_sEI, tag_sEI, I_sEI, J_sEI, R_sEI, EI_sEI, EJ_sEI, ER_sEI, n_sEJ, z_sEJ, tag_sEJ, I_sEJ, J_sEJ, R_sEJ, EI_sEJ, EJ_sEJ, ER_sEJ, n_sER, z_sER, tag_sER, I_sER, J_sER, R_sER, EI_sER, EJ_sER, ER_sER, n_nw, z_nw, tag_nw, I_nw, J_nw, R_nw, EI_nw, EJ_nw, ER_nw, x0]
            have m3 : (h3.sEI 1858 (O + 10) a (nI 1)).R 3089 O = some (O + 12) := by simp [n_sI, z_sI, tag_sI, I_sI, J_sI, R_sI, EI_sI, EJ_sI, ER_sI, n_sJ, z_sJ, tag_sJ, I_sJ, J_sJ, R_sJ, EI_sJ, EJ_sJ, ER_sJ, n_sR, z_sR, tag_sR, I_sR, J_sR, R_sR, EI_sR, EJ_sR, ER_sR, n_sEI, z_sEI, tag_sEI, I_sEI, J_sEI, R_sEI, EI_sEI, EJ_sEI, ER_sEI, n_sEJ, z_sEJ, tag_sEJ, I_sEJ, J_sEJ, R_sEJ, EI_sEJ, EJ_sEJ, ER_sEJ, n_sER, z_sER, tag_sER, I_sER, J_sER, R_sER, EI_sER, EJ_sER, ER_sER, n_nw, z_nw, tag_nw, I_nw, J_nw, R_nw, EI_nw, EJ_nw, ER_nw, x6]
            have fin : ∀ vi : Int32, vi = bI y.2.2 → V X K 148 [.ref O, .int (nI 13), .int (nI a), .long (lN (tyc t)), nov, .int (bI pl)] [.int vi, .int (nI a), .ref (O + 12)] ((h3.sEI 1858 (O + 10) a (nI 1)).sEJ 1875 (O + 11) a vo) := by
              intro vi hvi
              have m4 : ((h3.sEI 1858 (O + 10) a (nI 1)).sEJ 1875 (O + 11) a vo).tag (O + 12) = some (1890, 40) := by simp [n_sI, z_sI, tag_sI, I_sI, J_sI, R_sI, EI_sI, EJ_sI, ER_sI, n_sJ, z_sJ, tag_sJ, I_sJ, J_sJ, R_sJ, EI_sJ, EJ_sJ, ER_sJ, n_sR, z_sR, tag_sR, I_sR, J_sR, R_sR, EI_sR, EJ_sR, ER_sR, n_sEI, z_sEI, tag_sEI, I_sEI, J_sEI, R_sEI, EI_sEI, EJ_sEI, ER_sEI, n_sEJ, z_sEJ, tag_sEJ, I_sEJ, J_sEJ, R_sEJ, EI_sEJ, EJ_sEJ, ER_sEJ, n_sER, z_sER, tag_sER, I_sER, J_sER, R_sER, EI_sER, EJ_sER, ER_sER, n_nw, z_nw, tag_nw, I_nw, J_nw, R_nw, EI_nw, EJ_nw, ER_nw, x9]
              subst hvi
              refine k_X25_onLocal_148 o ?_
              exact w3 vo _ hvo rfl
            cases hrf : isRf t with
            | false =>
              rw [hrf] at hpl; subst hpl
              refine k_X25_onLocal_125 o (fun _ => ?_) (fun c => absurd (show bI true = 0 from c) (by decide))
              refine k_X25_onLocal_147 o ?_
              refine fin _ ?_
              rw [y5 (by rw [y2]; exact hrf)]; rfl
            | true =>
              rw [hrf] at hpl; subst hpl
              refine k_X25_onLocal_125 o (fun c => absurd rfl c) (fun _ => ?_)
              have m5 : ((h3.sEI 1858 (O + 10) a (nI 1)).sEJ 1875 (O + 11) a vo).I 3093 O = bI y.2.2 := by simp [n_sI, z_sI, tag_sI, I_sI, J_sI, R_sI, EI_sI, EJ_sI, ER_sI, n_sJ, z_sJ, tag_sJ, I_sJ, J_sJ, R_sJ, EI_sJ, EJ_sJ, ER_sJ, n_sR, z_sR, tag_sR, I_sR, J_sR, R_sR, EI_sR, EJ_sR, ER_sR, n_sEI, z_sEI, tag_sEI, I_sEI, J_sEI, R_sEI, EI_sEI, EJ_sEI, ER_sEI, n_sEJ, z_sEJ, tag_sEJ, I_sEJ, J_sEJ, R_sEJ, EI_sEJ, EJ_sEJ, ER_sEJ, n_sER, z_sER, tag_sER, I_sER, J_sER, R_sER, EI_sER, EJ_sER, ER_sER, n_nw, z_nw, tag_nw, I_nw, J_nw, R_nw, EI_nw, EJ_nw, ER_nw, p7]
              have m6 : ((h3.sEI 1858 (O + 10) a (nI 1)).sEJ 1875 (O + 11) a vo).tag O = some (24, 0) := by simp [n_sI, z_sI, tag_sI, I_sI, J_sI, R_sI, EI_sI, EJ_sI, ER_sI, n_sJ, z_sJ, tag_sJ, I_sJ, J_sJ, R_sJ, EI_sJ, EJ_sJ, ER_sJ, n_sR, z_sR, tag_sR, I_sR, J_sR, R_sR, EI_sR, EJ_sR, ER_sR, n_sEI, z_sEI, tag_sEI, I_sEI, J_sEI, R_sEI, EI_sEI, EJ_sEI, ER_sEI, n_sEJ, z_sEJ, tag_sEJ, I_sEJ, J_sEJ, R_sEJ, EI_sEJ, EJ_sEJ, ER_sEJ, n_sER, z_sER, tag_sER, I_sER, J_sER, R_sER, EI_sER, EJ_sER, ER_sER, n_nw, z_nw, tag_nw, I_nw, J_nw, R_nw, EI_nw, EJ_nw, ER_nw, x0]
              refine k_X25_onLocal_136 o (fun c => ?_) (fun c => ?_)
              · refine k_X25_onLocal_147 o ?_
                refine fin _ ?_
                rw [bI_0.mp c]; rfl
              · refine k_X25_onLocal_143 o ?_
                refine fin _ ?_
                rcases bI_or y.2.2 with z | z
                · exact absurd z c
                · exact z.symm
          cases hrf : isRf t with
          | false =>
            rw [hrf] at hpl; subst hpl
            refine k_X25_onLocal_100 o (fun c => absurd (show bI true = 0 from c) (by decide)) (fun _ => ?_)
            refine k_X25_onLocal_117 o ?_
            refine w2 _ ?_
            rw [y5 (by rw [y2]; exact hrf)]; rfl
          | true =>
            rw [hrf] at hpl; subst hpl
            refine k_X25_onLocal_100 o (fun _ => ?_) (fun c => absurd rfl c)
            have m7 : (h3.sEI 1858 (O + 10) a (nI 1)).J 3092 O = lN y.2.1 := by simp [n_sI, z_sI, tag_sI, I_sI, J_sI, R_sI, EI_sI, EJ_sI, ER_sI, n_sJ, z_sJ, tag_sJ, I_sJ, J_sJ, R_sJ, EI_sJ, EJ_sJ, ER_sJ, n_sR, z_sR, tag_sR, I_sR, J_sR, R_sR, EI_sR, EJ_sR, ER_sR, n_sEI, z_sEI, tag_sEI, I_sEI, J_sEI, R_sEI, EI_sEI, EJ_sEI, ER_sEI, n_sEJ, z_sEJ, tag_sEJ, I_sEJ, J_sEJ, R_sEJ, EI_sEJ, EJ_sEJ, ER_sEJ, n_sER, z_sER, tag_sER, I_sER, J_sER, R_sER, EI_sER, EJ_sER, ER_sER, n_nw, z_nw, tag_nw, I_nw, J_nw, R_nw, EI_nw, EJ_nw, ER_nw, p6]
            have m8 : (h3.sEI 1858 (O + 10) a (nI 1)).tag O = some (24, 0) := by simp [n_sI, z_sI, tag_sI, I_sI, J_sI, R_sI, EI_sI, EJ_sI, ER_sI, n_sJ, z_sJ, tag_sJ, I_sJ, J_sJ, R_sJ, EI_sJ, EJ_sJ, ER_sJ, n_sR, z_sR, tag_sR, I_sR, J_sR, R_sR, EI_sR, EJ_sR, ER_sR, n_sEI, z_sEI, tag_sEI, I_sEI, J_sEI, R_sEI, EI_sEI, EJ_sEI, ER_sEI, n_sEJ, z_sEJ, tag_sEJ, I_sEJ, J_sEJ, R_sEJ, EI_sEJ, EJ_sEJ, ER_sEJ, n_sER, z_sER, tag_sER, I_sER, J_sER, R_sER, EI_sER, EJ_sER, ER_sER, n_nw, z_nw, tag_nw, I_nw, J_nw, R_nw, EI_nw, EJ_nw, ER_nw, x0]
            refine k_X25_onLocal_121 o ?_
            exact w2 _ rfl
      cases hrf : isRf t with
      | true =>
        rw [hrf] at hpl; subst hpl
        refine k_X25_onLocal_60 o (fun _ => ?_) (fun c => absurd rfl c)
        refine k_X25_onLocal_82 o ?_
        exact n2 _ fun x hx => by rw [hrf]; rfl
      | false =>
        rw [hrf] at hpl; subst hpl
        refine k_X25_onLocal_60 o (fun c => absurd (show bI true = 0 from c) (by decide)) (fun _ => ?_)
        have q3 : h2.I 3090 O = h2.I 3090 O := rfl
        refine k_X25_onLocal_66 o (fun c => ?_) (fun _ => ?_)
        · refine k_X25_onLocal_82 o ?_
          refine n2 _ fun x hx => ?_
          rw [hx] at r2
          exact absurd (r2 : TGd h2 O m _ x).1 c
        · refine k_X25_onLocal_73 o ?_
          refine lptd_ok (w := false) l2 hu r2 (by omega) (by omega) fun b hb => ?_
          cases b with
          | true =>
            refine k_X25_onLocal_79 o (fun _ => ?_) (fun c => absurd (show bI true = 0 from c) (by decide))
            refine k_X25_onLocal_86 o ?_
            refine n2 _ fun x hx => ?_
            have := hb x hx
            rw [hrf, show (if false = true then 1 else 0 : Nat) = 0 from rfl] at *
            rw [← this]; rfl
          | false =>
            refine k_X25_onLocal_79 o (fun c => absurd rfl c) (fun _ => ?_)
            refine k_X25_onLocal_82 o ?_
            refine n2 _ fun x hx => ?_
            have := hb x hx
            rw [hrf, show (if false = true then 1 else 0 : Nat) = 0 from rfl] at *
            rw [← this]; rfl
    refine k_X25_onLocal_32 o (fun c => ?_) (fun c => ?_)
    · refine k_X25_onLocal_51 o ?_
      refine n1 _ fun x hx => ?_
      have := th1 x hx
      rw [c] at this
      have := bI_0.mp this.symm
      have : (lgt x.2.2 a).isNone = true := by rw [Option.isNone_iff_eq_none]; rw [Option.isSome_eq_false_iff] at this; simpa using this
      rw [this]; rfl
    · have nn : ∀ x, E1 = .ok x → (lgt x.2.2 a).isNone = false := fun x hx => by
        have := th1 x hx
        cases hh : lgt x.2.2 a with
        | none => rw [hh] at this; exact absurd this c
        | some og => rfl
      refine k_X25_onLocal_42 o ?_
      refine lhas_ok l1.1 h4 hgt.ok (by omega) (by omega) ?_
      cases hA : hsA m t 2 with
      | false =>
        refine k_X25_onLocal_48 o (fun _ => ?_) (fun c => absurd rfl c)
        refine k_X25_onLocal_55 o ?_
        exact n1 _ fun x hx => by rw [nn x hx, hA]; rfl
      | true =>
        refine k_X25_onLocal_48 o (fun c => absurd (show bI true = 0 from c) (by decide)) (fun _ => ?_)
        refine k_X25_onLocal_51 o ?_
        exact n1 _ fun x hx => by rw [nn x hx, hA]; rfl
  cases hrf : isRf t with
  | true =>
    refine k_X25_onLocal_11 o (fun _ => ?_) (fun c => absurd (show bI true = 0 from c) (by decide))
    refine k_X25_onLocal_18 o ?_
    exact main false (by rw [hrf]; rfl)
  | false =>
    refine k_X25_onLocal_11 o (fun c => absurd rfl c) (fun _ => ?_)
    refine k_X25_onLocal_14 o ?_
    exact main true (by rw [hrf]; rfl)
