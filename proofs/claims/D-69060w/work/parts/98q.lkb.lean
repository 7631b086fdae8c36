/-! the twin's looker: numbers -/
theorem eb_c {α β : Type} {e : Except Nat α} {f g : α → Except Nat β} (h : ∀ x, f x = g x) : eb e f = eb e g := by cases e with
  | error w => rfl
  | ok x => exact h x
theorem cNum_a {m : Md} {op : Nat} (h : op < 32) (x : Ts) : cO (cNum m op) x = eb (fTN (decide (28 < op)) x) fun x => eb (fPt (tkO x).1 (0, false) x) fgt := by
  obtain ⟨p, s, l⟩ := x
  unfold cO cNum fTN fTk
  rw [if_pos h]
  cases s with
  | nil => rfl
  | cons y s =>
    simp only [tk, eb_k]
    cases (isNu y.1 || (decide (28 < op) && y.1 == [1])) <;> simp only [neT, neF, eb_k, eb_e]
    unfold fTT
    cases s with
    | nil => rfl
    | cons z s =>
      unfold tkT
      simp only [tk, eb_k]
      cases hz : (z.1 == y.1) <;> simp only [neT, neF, eb_k, eb_e]
      have : z.1 = y.1 := by simpa using hz
      unfold fPt tkO
      simp only [Option.getD_some, ogr_0, this]
      cases pt y.1 (0, false) s <;> rfl
theorem cNum_b {m : Md} {op : Nat} (h : op < 34) (h2 : ¬ op < 32) (x : Ts) : cO (cNum m op) x = eb (fTT [2] x) fun x => eb (fTk x) fun x => eb (fN (fun x => isNu (tkO x).1) 3 x) fun x => eb (fPt (tkO x).1 (0, false) x) fgt := by
  obtain ⟨p, s, l⟩ := x
  unfold cO cNum fTT
  rw [if_neg h2, if_pos h]
  cases tkT [2] s with
  | error w => rfl
  | ok r =>
    simp only [eb_k]
    unfold tkN fTk
    simp only [eb_a]
    cases r.2 with
    | nil => rfl
    | cons y s =>
      simp only [tk, eb_k]
      unfold fN tkO
      simp only [Option.getD_some]
      cases isNu y.1 <;> simp only [neT, neF, eb_k, eb_e]
      unfold fPt
      simp only [Option.getD_some, ogr_0]
      cases pt y.1 (0, false) s <;> rfl
theorem cNum_c {m : Md} (x : Ts) : cO (cNum m 34) x = eb (fTT [1] x) fun x => eb (fPt [1] (0, false) x) fgt := by
  obtain ⟨p, s, l⟩ := x
  unfold cO cNum fTT
  rw [if_neg (by decide), if_neg (by decide), if_pos rfl]
  cases tkT [1] s with
  | error w => rfl
  | ok r =>
    simp only [eb_k]
    unfold fPt
    simp only [ogr_0]
    cases pt [1] (0, false) r.2 <;> rfl
theorem cNum_d {m : Md} {op : Nat} (h1 : 35 < op) (h2 : op < 38) (x : Ts) : cO (cNum m op) x = eb (fTk x) fun x => eb (fN (fun x => !isRf (tkO x).1) 3 x) fun x => eb (fTT (tkO x).1 x) fun x => eb (fN (fun x => hsA m (tkO x).1 2) 4 x) fun x => eb (fPt [1] (0, false) x) fgt := by
  obtain ⟨p, s, l⟩ := x
  unfold cO cNum fTk
  rw [if_neg (by omega), if_neg (by omega), if_neg (by omega), if_neg (by omega), if_neg (by omega), if_pos h1]
  cases s with
  | nil => rfl
  | cons y s =>
    simp only [tk, eb_k]
    unfold fN tkO
    simp only [Option.getD_some]
    cases (!isRf y.1) <;> simp only [neT, neF, eb_k, eb_e]
    unfold fTT
    simp only [Option.getD_some]
    cases s with
    | nil => rfl
    | cons z s =>
      unfold tkT
      simp only [tk, eb_k]
      cases hz : (z.1 == y.1) <;> simp only [neT, neF, eb_k, eb_e]
      have : z.1 = y.1 := by simpa using hz
      simp only [Option.getD_some, this]
      cases hsA m y.1 2 <;> simp only [neT, neF, eb_k, eb_e]
      unfold fPt
      simp only [ogr_0]
      cases pt [1] (0, false) s <;> rfl
theorem cNum_e {m : Md} {op : Nat} (h1 : 37 < op) (h2 : op < 42) (x : Ts) : cO (cNum m op) x = eb (fTN false x) fun x => eb (fPt [1] (0, false) x) fgt := by
  obtain ⟨p, s, l⟩ := x
  unfold cO cNum fTN fTk
  rw [if_neg (by omega), if_neg (by omega), if_neg (by omega), if_neg (by omega), if_pos h1]
  unfold tkN
  cases s with
  | nil => rfl
  | cons y s =>
    simp only [tk, eb_k, Bool.false_and, Bool.or_false]
    cases isNu y.1 <;> simp only [neT, neF, eb_k, eb_e]
    unfold fTT
    cases s with
    | nil => rfl
    | cons z s =>
      unfold tkT
      simp only [tk, eb_k]
      cases hz : (z.1 == y.1) <;> simp only [neT, neF, eb_k, eb_e]
      unfold fPt
      simp only [ogr_0]
      cases pt [1] (0, false) s <;> rfl
theorem cNum_f {m : Md} {op : Nat} (h1 : 41 < op) (x : Ts) : cO (cNum m op) x = eb (fTk x) fun x => eb (fN (fun x => isNu (tkO x).1) 3 x) fun x => eb (fPt [op - 40] (0, false) x) fgt := by
  obtain ⟨p, s, l⟩ := x
  unfold cO cNum fTk
  rw [if_neg (by omega), if_neg (by omega), if_neg (by omega), if_pos h1]
  unfold tkN
  cases s with
  | nil => rfl
  | cons y s =>
    simp only [tk, eb_k]
    unfold fN tkO
    simp only [Option.getD_some]
    cases isNu y.1 <;> simp only [neT, neF, eb_k, eb_e]
    unfold fPt
    simp only [ogr_0]
    cases pt [op - 40] (0, false) s <;> rfl
theorem fTN_ok {h : AH} {O : Nat} {m : Md} {lt : List Ty} {e : Except Nat Ts} {b : Bool} (hr : TRs h O m lt e) {x : Ts} (hx : eb e (fTN b) = .ok x) : ∃ y, x.1 = some y ∧ tOK m y.1 := by
  obtain ⟨z, rfl, h2⟩ := eb_ok hx
  obtain ⟨x1, h3, h4⟩ := eb_ok h2
  obtain ⟨y, y1, y2, y3, y4, z2, y5, y6, y7⟩ := fTk_ok hr (e := .ok z) h3
  cases y5
  rw [y1] at h4
  obtain ⟨_, h5, h6⟩ := eb_ok h4
  obtain ⟨r, h7, h8⟩ := eb_ok h6
  cases h8
  obtain ⟨p, s, l⟩ := z
  simp only at y6
  subst y6
  have hm := (hr : TGd h O m lt (p, y :: x1.2.1, l)).2.1.2.2.2
  cases hs : x1.2.1 with
  | nil => rw [hs] at h7; cases h7
  | cons w s =>
    rw [hs] at h7 hm
    unfold tkT at h7
    simp only [tk, eb_k] at h7
    obtain ⟨_, _, h9⟩ := eb_ok h7
    cases h9
    exact ⟨w, rfl, (hm w (by simp)).1⟩
theorem tkO_s {x : Ts} {y : Ty × Og} (h : x.1 = some y) : tkO x = y := by unfold tkO; rw [h]; rfl
theorem lnum_ok {G : Gt} {d : Nat} {h : AH} {K : Outcome → AH → Prop} {O U n f op : Nat} {B : Nat → Nat} {m : Md} {u : Ux} {e : Except Nat Ts} (hs : LC h O U n B m f u) (h4 : ab4 m) (hr : TRs h O m (lty u) e) (ho : 24 ≤ op ∧ op ≤ 44 ∧ op ≠ 35) (hd : 4 ≤ d) (kk : ∀ h', Fq (FS trF) h h' → TRs h' O m (lty u) (eb e (cO (cNum m op))) → K (.returned none) h') : MW G d e_X25_onNumbers [.ref O, .int (nI op)] h K := by
  refine st_X25_onNumbers fun X o hG hD _ => ?_
  subst hG; subst hD
  have s0 := hs.1.1.1
  have t1 : tOK m [1] := tOK.pr (by omega) (by omega)
  have fin : ∀ h1, Fq (FS trF) h h1 → TRs h1 O m (lty u) (eb e (cO (cNum m op))) → V X K 224 [.ref O, .int (nI op)] [] h1 := fun h1 f1 r1 => by
    refine k_X25_onNumbers_224 o ?_
    exact kk h1 f1 r1
  by_cases c32 : op < 32
  · have ee : eb e (cO (cNum m op)) = eb (eb e (fTN (decide (28 < op)))) fun x => eb (fPt (tkO x).1 (0, false) x) fgt := by
      rw [eb_a]; exact eb_c (cNum_a c32)
    rw [ee] at fin
    refine k_X25_onNumbers_0 o (fun c => absurd ((nI_leI (by omega) (by omega)).mp c) (by omega)) (fun _ => ?_)
    have n1 : ∀ b, b = decide (28 < op) → V X K 18 [.ref O, .int (nI op)] [.int (bI b), .ref O] h := by
      intro b hb
      rw [← hb] at fin
      refine k_X25_onNumbers_18 o ?_
      refine ltakN_ok (b := b) hs.1.1 hr (by omega) fun h1 f1 r1 => ?_
      have l1 : LC h1 O U n B m f u := hs.fr f1.1 (FS.no rfl)
      have s1 := l1.1.1.1
      have q1 : h1.J 3091 O = h1.J 3091 O := rfl
      generalize hE : eb e (fTN b) = E at *
      refine k_X25_onNumbers_21 o ?_
      cases E with
      | error w =>
        refine lgive_ok (t := []) l1.1.1 r1 (fun x hx => by cases hx) (by omega) fun h2 f2 r2 => ?_
        refine k_X25_onNumbers_29 o ?_
        exact fin h2 ((f1.mono (FS.mono rfl)).trans (f2.mono (FS.mono rfl))) r2
      | ok x =>
        obtain ⟨y, y1, y2⟩ := fTN_ok hr hE
        have g1 := ((r1 : TGd h1 O m _ x).tk y1).1
        refine lgive_ok (t := y.1) l1.1.1 r1 (fun _ _ => ⟨g1, y2⟩) (by omega) fun h2 f2 r2 => ?_
        refine k_X25_onNumbers_29 o ?_
        refine fin h2 ((f1.mono (FS.mono rfl)).trans (f2.mono (FS.mono rfl))) ?_
        rw [eb_k, tkO_s y1]
        exact r2.fg
    refine k_X25_onNumbers_6 o (fun c => ?_) (fun c => ?_)
    · have c := (nI_leI (by omega) (by omega)).mp c
      refine k_X25_onNumbers_17 o ?_
      exact n1 false (decide_eq_false (by omega)).symm
    · have c : ¬ op ≤ 28 := fun z => c ((nI_leI (by omega) (by omega)).mpr z)
      refine k_X25_onNumbers_13 o ?_
      exact n1 true (decide_eq_true (by omega)).symm
  refine k_X25_onNumbers_0 o (fun _ => ?_) (fun c => absurd ((nI_leI (by omega) (by omega)).mpr (by omega)) c)
  by_cases c34 : op < 34
  · have ee : eb e (cO (cNum m op)) = eb (eb (eb (eb e (fTT [2])) fTk) (fN (fun x => isNu (tkO x).1) 3)) fun x => eb (fPt (tkO x).1 (0, false) x) fgt := by
      rw [eb_a, eb_a, eb_a]; exact eb_c (cNum_b c34 c32)
    rw [ee] at fin
    have t2 : tOK m [2] := tOK.pr (by omega) (by omega)
    refine k_X25_onNumbers_32 o (fun c => absurd ((nI_leI (by omega) (by omega)).mp c) (by omega)) (fun _ => ?_)
    refine k_X25_onNumbers_38 o ?_
    refine ltakT_ok (t := [2]) hs.1.1 hr (fun _ _ => ⟨rfl, t2.tv.1⟩) (by omega) fun h1 f1 r1 => ?_
    have l1 : LC h1 O U n B m f u := hs.fr f1.1 (FS.no rfl)
    have s1 := l1.1.1.1
    generalize hE1 : eb e (fTT [2]) = E1 at *
    refine k_X25_onNumbers_45 o ?_
    refine ltake_ok l1.1.1 r1 (by omega) fun h2 f2 r2 => ?_
    have l2 : LC h2 O U n B m f u := l1.fr f2.1 (FS.no rfl)
    have s2 := l2.1.1.1
    generalize hE2 : eb E1 fTk = E2 at *
    have ff2 := (f1.mono (FS.mono (l' := trF) rfl)).trans (f2.mono (FS.mono (l' := trF) rfl))
    have q1 : h2.J 3091 O = h2.J 3091 O := rfl
    cases E2 with
    | error w =>
      obtain ⟨z1, z2, -⟩ := id (r2 : TBd h2 O w)
      refine k_X25_onNumbers_49 o (fun _ => ?_) (fun c => absurd c (nI_nz z2))
      refine k_X25_onNumbers_68 o ?_
      refine lgive_ok (t := []) l2.1.1 r2 (fun x hx => by cases hx) (by omega) fun h3 f3 r3 => ?_
      refine k_X25_onNumbers_76 o ?_
      exact fin h3 (ff2.trans (f3.mono (FS.mono rfl))) r3
    | ok x =>
      obtain ⟨y, y1, y2, -⟩ := fTk_ok r1 hE2
      have g1 := ((r2 : TGd h2 O m _ x).tk y1).1
      have z1 := (r2 : TGd h2 O m _ x).1
      refine k_X25_onNumbers_49 o (fun c => absurd rfl c) (fun _ => ?_)
      refine k_X25_onNumbers_56 o (r2 := g1) ?_
      refine linu_ok y2.tv.1 ?_
      refine k_X25_onNumbers_64 o ?_
      refine lnee_ok (e := .ok x) (b := fun x => isNu (tkO x).1) s2 r2 (fun z hz => by cases hz; rw [tkO_s y1]) (by decide) (by omega) fun h3 f3 r3 => ?_
      have l3 : LC h3 O U n B m f u := l2.fr f3.1 (FS.no rfl)
      have s3 := l3.1.1.1
      have g3 : h3.J 3091 O = lN (tyc y.1) := by rw [f3.1.J (FS.n rfl)]; exact g1
      refine k_X25_onNumbers_68 o ?_
      refine lgive_ok (t := y.1) l3.1.1 r3 (fun _ _ => ⟨rfl, y2⟩) (by omega) fun h4 f4 r4 => ?_
      refine k_X25_onNumbers_76 o ?_
      refine fin h4 ((ff2.trans (f3.mono (FS.mono rfl))).trans (f4.mono (FS.mono rfl))) ?_
      have : (eb (eb (Except.ok x) (fN (fun x => isNu (tkO x).1) 3)) fun x => eb (fPt (tkO x).1 (0, false) x) fgt) = eb (eb (eb (Except.ok x) (fN (fun x => isNu (tkO x).1) 3)) (fPt y.1 (0, false))) fgt := by
        rw [eb_a (f := fPt y.1 (0, false))]
        rw [eb_k]
        unfold fN
        simp only [tkO_s y1]
        cases isNu y.1 with
        | false => rfl
        | true => simp only [neT, eb_k, tkO_s y1]
      rw [this]
      exact r4.fg
  refine k_X25_onNumbers_32 o (fun _ => ?_) (fun c => absurd ((nI_leI (by omega) (by omega)).mpr (by omega)) c)
  by_cases d34 : op = 34
  · subst d34
    have ee : eb e (cO (cNum m 34)) = eb (eb e (fTT [1])) fun x => eb (fPt [1] (0, false) x) fgt := by
      rw [eb_a]; exact eb_c cNum_c
    rw [ee] at fin
    refine k_X25_onNumbers_79 o (fun c => absurd rfl c) (fun _ => ?_)
    refine k_X25_onNumbers_85 o ?_
    refine ltakT_ok (t := [1]) hs.1.1 hr (fun _ _ => ⟨rfl, t1.tv.1⟩) (by omega) fun h1 f1 r1 => ?_
    have l1 : LC h1 O U n B m f u := hs.fr f1.1 (FS.no rfl)
    have s1 := l1.1.1.1
    refine k_X25_onNumbers_90 o ?_
    refine lgive_ok (t := [1]) l1.1.1 r1 (fun _ _ => ⟨rfl, t1⟩) (by omega) fun h2 f2 r2 => ?_
    refine k_X25_onNumbers_95 o ?_
    refine fin h2 ((f1.mono (FS.mono rfl)).trans (f2.mono (FS.mono rfl))) ?_
    rw [← eb_a]
    exact r2.fg
  refine k_X25_onNumbers_79 o (fun _ => ?_) (fun c => absurd ((nI_eq (by omega) (by omega)).mp c) d34)
  by_cases c38 : op < 38
  · have ee : eb e (cO (cNum m op)) = eb (eb (eb (eb (eb e fTk) (fN (fun x => !isRf (tkO x).1) 3)) fun x => fTT (tkO x).1 x) (fN (fun x => hsA m (tkO x).1 2) 4)) fun x => eb (fPt [1] (0, false) x) fgt := by
      rw [eb_a, eb_a, eb_a, eb_a]; exact eb_c (cNum_d (by omega) c38)
    rw [ee] at fin
    refine k_X25_onNumbers_98 o (fun c => absurd ((nI_leI (by omega) (by omega)).mp c) (by omega)) (fun _ => ?_)
    refine k_X25_onNumbers_104 o ?_
    refine ltake_ok hs.1.1 hr (by omega) fun h1 f1 r1 => ?_
    have l1 : LC h1 O U n B m f u := hs.fr f1.1 (FS.no rfl)
    have s1 := l1.1.1.1
    generalize hE1 : eb e fTk = E1 at *
    have ff1 := f1.mono (FS.mono (l' := trF) rfl)
    have q1 : h1.J 3091 O = h1.J 3091 O := rfl
    -- the end: giving a truth
    have giv : ∀ h3 E, Fq (FS trF) h h3 → LC h3 O U n B m f u → TRs h3 O m (lty u) E → (eb (eb (eb (eb E1 (fN (fun x => !isRf (tkO x).1) 3)) fun x => fTT (tkO x).1 x) (fN (fun x => hsA m (tkO x).1 2) 4)) fun x => eb (fPt [1] (0, false) x) fgt) = (eb E fun x => eb (fPt [1] (0, false) x) fgt) → V X K 164 [.ref O, .int (nI op)] [] h3 := by
      intro h3 E f3 l3 r3 ee3
      have s3 := l3.1.1.1
      refine k_X25_onNumbers_164 o ?_
      refine lgive_ok (t := [1]) l3.1.1 r3 (fun _ _ => ⟨rfl, t1⟩) (by omega) fun h4 f4 r4 => ?_
      refine k_X25_onNumbers_169 o ?_
      refine fin h4 (f3.trans (f4.mono (FS.mono rfl))) ?_
      rw [ee3, ← eb_a]
      exact r4.fg
    cases E1 with
    | error w =>
      obtain ⟨z1, z2, -⟩ := id (r1 : TBd h1 O w)
      refine k_X25_onNumbers_108 o (fun _ => ?_) (fun c => absurd c (nI_nz z2))
      refine k_X25_onNumbers_135 o ?_
      refine ltakT_ok (t := []) l1.1.1 r1 (fun x hx => by cases hx) (by omega) fun h2 f2 r2 => ?_
      have l2 : LC h2 O U n B m f u := l1.fr f2.1 (FS.no rfl)
      have s2 := l2.1.1.1
      obtain ⟨z1, z2, -⟩ := id (r2 : TBd h2 O w)
      refine k_X25_onNumbers_143 o (fun _ => ?_) (fun c => absurd c (nI_nz z2))
      exact giv h2 (.error w) (ff1.trans (f2.mono (FS.mono rfl))) l2 r2 rfl
    | ok x =>
      obtain ⟨y, y1, y2, -⟩ := fTk_ok hr hE1
      have g1 := ((r1 : TGd h1 O m _ x).tk y1).1
      have z1 := (r1 : TGd h1 O m _ x).1
      refine k_X25_onNumbers_108 o (fun c => absurd rfl c) (fun _ => ?_)
      refine k_X25_onNumbers_115 o (r2 := g1) ?_
      refine lirf_ok y2.tv.1 (by omega) ?_
      have n1 : ∀ b, b = !isRf y.1 → V X K 131 [.ref O, .int (nI op)] [.int (bI b), .ref O] h1 := by
        intro b hb
        refine k_X25_onNumbers_131 o ?_
        refine lnee_ok (e := .ok x) (b := fun x => !isRf (tkO x).1) s1 r1 (fun z hz => by cases hz; rw [tkO_s y1, hb]) (by decide) (by omega) fun h2 f2 r2 => ?_
        have l2 : LC h2 O U n B m f u := l1.fr f2.1 (FS.no rfl)
        have s2 := l2.1.1.1
        have ff2 := ff1.trans (f2.mono (FS.mono (l' := trF) rfl))
        have g2 : h2.J 3091 O = lN (tyc y.1) := by rw [f2.1.J (FS.n rfl)]; exact g1
        generalize hE2 : eb (Except.ok x) (fN (fun x => !isRf (tkO x).1) 3) = E2 at *
        have tk2 : ∀ x', E2 = .ok x' → tkO x' = y := fun x' hx' => by
          obtain ⟨z, -⟩ := fN_ok (hE2.trans hx')
          cases z; exact tkO_s y1
        refine k_X25_onNumbers_135 o ?_
        refine ltakT_ok (t := y.1) l2.1.1 r2 (fun _ _ => ⟨rfl, y2.tv.1⟩) (by omega) fun h3 f3 r3 => ?_
        have l3 : LC h3 O U n B m f u := l2.fr f3.1 (FS.no rfl)
        have s3 := l3.1.1.1
        have ff3 := ff2.trans (f3.mono (FS.mono (l' := trF) rfl))
        have e3 : (eb E2 fun x => fTT (tkO x).1 x) = eb E2 (fTT y.1) := by
          cases E2 with
          | error w => rfl
          | ok x' => rw [eb_k, eb_k, tk2 x' rfl]
        rw [e3] at giv
        generalize hE3 : eb E2 (fTT y.1) = E3 at *
        cases E3 with
        | error w =>
          obtain ⟨z1, z2, -⟩ := id (r3 : TBd h3 O w)
          refine k_X25_onNumbers_143 o (fun _ => ?_) (fun c => absurd c (nI_nz z2))
          exact giv h3 (.error w) ff3 l3 r3 rfl
        | ok x3 =>
          obtain ⟨y', y1', y2', y3', -⟩ := fTT_ok r2 hE3
          have g3 := ((r3 : TGd h3 O m _ x3).tk y1').1
          have z1 := (r3 : TGd h3 O m _ x3).1
          refine k_X25_onNumbers_143 o (fun c => absurd rfl c) (fun _ => ?_)
          refine k_X25_onNumbers_150 o (r2 := g3) ?_
          refine lhas_ok l3.1 h4 y3' (by omega) (by omega) ?_
          refine k_X25_onNumbers_160 o ?_
          refine lnee_ok (e := .ok x3) (b := fun x => hsA m (tkO x).1 2) s3 r3 (fun z hz => by cases hz; rw [tkO_s y1']) (by decide) (by omega) fun h4 f4 r4 => ?_
          have l4 : LC h4 O U n B m f u := l3.fr f4.1 (FS.no rfl)
          exact giv h4 _ (ff3.trans (f4.mono (FS.mono (l' := trF) rfl))) l4 r4 rfl
      cases hrf : isRf y.1 with
      | true =>
        refine k_X25_onNumbers_123 o (fun _ => ?_) (fun c => absurd (show bI true = 0 from c) (by decide))
        refine k_X25_onNumbers_130 o ?_
        exact n1 false (by rw [hrf]; rfl)
      | false =>
        refine k_X25_onNumbers_123 o (fun c => absurd rfl c) (fun _ => ?_)
        refine k_X25_onNumbers_126 o ?_
        exact n1 true (by rw [hrf]; rfl)
  refine k_X25_onNumbers_98 o (fun _ => ?_) (fun c => absurd ((nI_leI (by omega) (by omega)).mpr (by omega)) c)
  by_cases c42 : op < 42
  · have ee : eb e (cO (cNum m op)) = eb (eb e (fTN false)) fun x => eb (fPt [1] (0, false) x) fgt := by
      rw [eb_a]; exact eb_c (cNum_e (by omega) c42)
    rw [ee] at fin
    refine k_X25_onNumbers_172 o (fun c => absurd ((nI_leI (by omega) (by omega)).mp c) (by omega)) (fun _ => ?_)
    refine k_X25_onNumbers_178 o ?_
    refine ltakN_ok (b := false) hs.1.1 hr (by omega) fun h1 f1 r1 => ?_
    have l1 : LC h1 O U n B m f u := hs.fr f1.1 (FS.no rfl)
    have s1 := l1.1.1.1
    refine k_X25_onNumbers_183 o ?_
    refine lgive_ok (t := [1]) l1.1.1 r1 (fun _ _ => ⟨rfl, t1⟩) (by omega) fun h2 f2 r2 => ?_
    refine k_X25_onNumbers_188 o ?_
    refine fin h2 ((f1.mono (FS.mono rfl)).trans (f2.mono (FS.mono rfl))) ?_
    rw [← eb_a]
    exact r2.fg
  refine k_X25_onNumbers_172 o (fun _ => ?_) (fun c => absurd ((nI_leI (by omega) (by omega)).mpr (by omega)) c)
  have ee : eb e (cO (cNum m op)) = eb (eb (eb e fTk) (fN (fun x => isNu (tkO x).1) 3)) fun x => eb (fPt [op - 40] (0, false) x) fgt := by
    rw [eb_a, eb_a]; exact eb_c (cNum_f (by omega))
  rw [ee] at fin
  refine k_X25_onNumbers_191 o ?_
  refine ltake_ok hs.1.1 hr (by omega) fun h1 f1 r1 => ?_
  have l1 : LC h1 O U n B m f u := hs.fr f1.1 (FS.no rfl)
  have s1 := l1.1.1.1
  generalize hE1 : eb e fTk = E1 at *
  have ff1 := f1.mono (FS.mono (l' := trF) rfl)
  have to : tOK m [op - 40] := tOK.pr (by omega) (by omega)
  have ev : ((nI op).toInt64 - (40 : Int64)) = lN (tyc [op - 40]) := un_inj (by
    rw [un_sub, nI_64 (by omega), un_l (by omega), show un (40 : Int64) = 40 from rfl, show tyc [op - 40] = op - 40 by simp [tyc], un_l (by omega)]
    omega)
  have giv : ∀ h3 E, Fq (FS trF) h h3 → LC h3 O U n B m f u → TRs h3 O m (lty u) E → (eb (eb E1 (fN (fun x => isNu (tkO x).1) 3)) fun x => eb (fPt [op - 40] (0, false) x) fgt) = (eb E fun x => eb (fPt [op - 40] (0, false) x) fgt) → V X K 214 [.ref O, .int (nI op)] [] h3 := by
    intro h3 E f3 l3 r3 ee3
    have s3 := l3.1.1.1
    refine k_X25_onNumbers_214 o ?_
    refine lgive_ok (t := [op - 40]) l3.1.1 r3 (fun _ _ => ⟨ev, to⟩) (by omega) fun h4 f4 r4 => ?_
    refine fin h4 (f3.trans (f4.mono (FS.mono rfl))) ?_
    rw [ee3, ← eb_a]
    exact r4.fg
  cases E1 with
  | error w =>
    obtain ⟨z1, z2, -⟩ := id (r1 : TBd h1 O w)
    refine k_X25_onNumbers_195 o (fun _ => ?_) (fun c => absurd c (nI_nz z2))
    exact giv h1 (.error w) ff1 l1 r1 rfl
  | ok x =>
    obtain ⟨y, y1, y2, -⟩ := fTk_ok hr hE1
    have g1 := ((r1 : TGd h1 O m _ x).tk y1).1
    have z1 := (r1 : TGd h1 O m _ x).1
    refine k_X25_onNumbers_195 o (fun c => absurd rfl c) (fun _ => ?_)
    refine k_X25_onNumbers_202 o (r2 := g1) ?_
    refine linu_ok y2.tv.1 ?_
    refine k_X25_onNumbers_210 o ?_
    refine lnee_ok (e := .ok x) (b := fun x => isNu (tkO x).1) s1 r1 (fun z hz => by cases hz; rw [tkO_s y1]) (by decide) (by omega) fun h2 f2 r2 => ?_
    have l2 : LC h2 O U n B m f u := l1.fr f2.1 (FS.no rfl)
    exact giv h2 _ (ff1.trans (f2.mono (FS.mono (l' := trF) rfl))) l2 r2 rfl
