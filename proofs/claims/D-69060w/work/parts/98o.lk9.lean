/-! the twin's looker: references -/
def tkO (x : Ts) : Ty × Og := x.1.getD ([], (0, false))
theorem ogr_0 (t : Ty) : ogr t (0, false) = (0, false) := by unfold ogr; split <;> rfl
theorem ogr_r {t : Ty} {b : Nat} (hb : b = 8 ∨ b = 9) (og : Og) : ogr (b :: t) og = og := by
  have : isRf (b :: t) = true := by rcases hb with z | z <;> rw [z] <;> rfl
  unfold ogr; rw [this]; rfl
theorem cRef_18 {m : Md} {lt : List Ty} (x : Ts) : cO (cRef m lt 18) x = eb (fTR none false x) fun x => eb (fN (fun x => hsA m (tkO x).1.tail 1) 4 x) fun x => eb (fPt (tkO x).1.tail (0, false) x) fgt := by
  obtain ⟨p, s, l⟩ := x
  cases s with
  | nil => rfl
  | cons y s =>
    unfold cO cRef fTR rtg fN tkO
    simp only [tk, eb_k, Bool.and_true, Bool.not_false, Bool.true_or, neT, if_true]
    cases isRf y.1 <;> simp only [neT, neF, eb_k, eb_e, Option.getD_some]
    cases hsA m y.1.tail 1 <;> simp only [neT, neF, eb_k, eb_e]
    unfold fPt
    rw [ogr_0]
    simp only [Option.getD_some]
    cases pt y.1.tail (0, false) s <;> rfl
theorem cRef_20 {m : Md} {lt : List Ty} (x : Ts) : cO (cRef m lt 20) x = eb (fTR none true x) fun x => eb (fPt (8 :: (tkO x).1.tail) (tkO x).2 x) fgt := by
  obtain ⟨p, s, l⟩ := x
  cases s with
  | nil => rfl
  | cons y s =>
    unfold cO cRef fTR rtg tkO
    simp only [tk, eb_k, Bool.and_true, Bool.not_true, Bool.false_or]
    cases isRf y.1 <;> simp only [neT, neF, eb_k, eb_e, Option.getD_some]
    rw [if_neg (by decide)]
    cases isWr y.1 <;> simp only [neT, neF, eb_k, eb_e, Option.getD_some, if_true]
    unfold fPt
    rw [ogr_r (Or.inl rfl)]
    simp only
    cases pt (8 :: y.1.tail) y.2 s <;> rfl
theorem cRef_19 {m : Md} {lt : List Ty} (x : Ts) : cO (cRef m lt 19) x = eb (fTR none true x) fun x => eb (fTT (tkO x).1.tail x) fun z => eb (fN (fun y => hsA m (tkO y).1 2) 4 z) fun z => eb (fN (fun y => !liv lt y.2.1 y.2.2 (tkO x).2.1 2) 6 z) fgt := by
  obtain ⟨p, s, l⟩ := x
  cases s with
  | nil => rfl
  | cons y s =>
    unfold cO cRef fTR rtg tkO
    simp only [tk, eb_k, Bool.and_true, Bool.not_true, Bool.false_or]
    cases isRf y.1 <;> simp only [neT, neF, eb_k, eb_e, Option.getD_some]
    rw [if_neg (by decide)]
    cases isWr y.1 <;> simp only [neT, neF, eb_k, eb_e, Option.getD_some]
    rw [if_neg (by decide)]
    unfold fTT fN
    cases s with
    | nil => rfl
    | cons z s =>
      unfold tkT
      simp only [tk, eb_k]
      cases hz : (z.1 == y.1.tail) <;> simp only [neT, neF, eb_k, eb_e, Option.getD_some]
      have : z.1 = y.1.tail := by simpa using hz
      rw [this]
      cases hsA m y.1.tail 2 <;> simp only [neT, neF, eb_k, eb_e]
      cases (!liv lt s l y.2.1 2) <;> rfl
theorem cFld_e {m : Md} {w : Bool} {k i : Nat} (x : Ts) : cO (cFld m w k i) x = eb (fTR (some [6, k]) w x) fun x => eb (fPt ((if w then 9 else 8) :: fdt m k i) ((tkO x).2.1, true) x) fgt := by
  obtain ⟨p, s, l⟩ := x
  cases s with
  | nil => rfl
  | cons y s =>
    unfold cO cFld tkR fTR rtg tkO
    simp only [tk, eb_k]
    cases (isRf y.1 && y.1.tail == [6, k]) <;> simp only [neT, neF, eb_k, eb_e]
    cases (!w || isWr y.1) <;> simp only [neT, neF, eb_k, eb_e, Option.getD_some]
    unfold fPt
    rw [ogr_r (by cases w <;> simp)]
    simp only
    cases pt ((if w then 9 else 8) :: fdt m k i) (y.2.1, true) s <;> rfl
theorem fTR_ok {h : AH} {O : Nat} {m : Md} {lt : List Ty} {e : Except Nat Ts} {q : Option Ty} {w : Bool} (hr : TRs h O m lt e) {x : Ts} (hx : eb e (fTR q w) = .ok x) : ∃ y, x.1 = some y ∧ isRf y.1 = true ∧ (∀ t, q = some t → y.1.tail = t) ∧ tOK m y.1 ∧ y.2.1 < 9223372036854775808 := by
  obtain ⟨z, rfl, h2⟩ := eb_ok hx
  obtain ⟨r, h3, h4⟩ := eb_ok h2
  obtain ⟨_, h5, h6⟩ := eb_ok h4
  obtain ⟨_, h7, h8⟩ := eb_ok h6
  cases h8
  obtain ⟨p, s, l⟩ := z
  cases s with
  | nil => cases h3
  | cons y s =>
    cases h3
    have h5 : rtg q y.1 = true := by
      cases hh : rtg q y.1 with
      | true => rfl
      | false => simp only at h5; rw [hh] at h5; cases h5
    unfold rtg at h5
    rw [Bool.and_eq_true] at h5
    obtain ⟨t1, t2, t3⟩ := (hr : TGd h O m lt (p, y :: s, l)).2.1.2.2.2 y (by simp)
    refine ⟨y, rfl, h5.1, fun t ht => ?_, t1, t2⟩
    subst ht
    simpa using h5.2
/-- what was taken -/
theorem TGd.tk {h : AH} {O : Nat} {m : Md} {lt : List Ty} {x : Ts} {y : Ty × Og} (g : TGd h O m lt x) (hx : x.1 = some y) : h.J 3091 O = lN (tyc y.1) ∧ h.J 3092 O = lN y.2.1 ∧ h.I 3093 O = bI y.2.2 := by
  have := g.2.2.2
  rw [hx] at this
  exact this
theorem lref_ok {G : Gt} {d : Nat} {h : AH} {K : Outcome → AH → Prop} {O U n f b op : Nat} {a : Nat} {B : Nat → Nat} {m : Md} {u : Ux} {e : Except Nat Ts} (hs : LC h O U n B m f u) (hu : gU m u) (h4 : ab4 m) (hr : TRs h O m (lty u) e) (ho : 18 ≤ op ∧ op ≤ 20) (hd : 4 ≤ d) (kk : ∀ h', Fq (FS trF) h h' → TRs h' O m (lty u) (eb e (cO (cRef m (lty u) op))) → K (.returned none) h') : MW G d e_X25_onReference [.ref O, .int (nI op), .int (nI a), .int (nI b)] h K := by
  refine st_X25_onReference fun X o hG hD _ => ?_
  subst hG; subst hD
  have s0 := hs.1.1.1
  refine k_X25_onReference_0 o (fun c => absurd ((nI_eq (by omega) (by omega)).mp c) (by omega)) (fun _ => ?_)
  refine k_X25_onReference_6 o (fun _ => ?_) (fun c => absurd ((nI_eq (by omega) (by omega)).mp c) (by omega))
  rcases (show op = 18 ∨ op = 19 ∨ op = 20 by omega) with z | z | z <;> subst z
  · refine k_X25_onReference_75 o (fun c => absurd rfl c) (fun _ => ?_)
    refine k_X25_onReference_81 o ?_
    refine ltakR_ok (q := none) (w := false) hs.1.1 hr rfl (by omega) fun h1 f1 r1 => ?_
    have l1 : LC h1 O U n B m f u := hs.fr f1.1 (FS.no rfl)
    have s1 := l1.1.1.1
    have ee : eb e (cO (cRef m (lty u) 18)) = eb (eb e (fTR none false)) fun x => eb (fN (fun x => hsA m (tkO x).1.tail 1) 4 x) fun x => eb (fPt (tkO x).1.tail (0, false) x) fgt := by
      rw [eb_a]; congr 1; funext x; exact cRef_18 x
    rw [ee] at kk
    generalize hE1 : eb e (fTR none false) = E1 at *
    cases E1 with
    | error w =>
      obtain ⟨z1, z2, -⟩ := id (r1 : TBd h1 O w)
      refine k_X25_onReference_87 o (fun _ => ?_) (fun c => absurd c (nI_nz z2))
      refine k_X25_onReference_111 o (fun _ => ?_) (fun c => absurd c (nI_nz z2))
      refine k_X25_onReference_248 o ?_
      exact kk h1 (f1.mono (FS.mono rfl)) r1
    | ok x =>
      obtain ⟨y, y1, y2, -, y3, y4⟩ := fTR_ok hr hE1
      obtain ⟨bt, t, yt, hbt, hft⟩ := y3.rst y2
      have ex : (tkO x).1.tail = t := by unfold tkO; rw [y1]; show y.1.tail = t; rw [yt]; rfl
      obtain ⟨g1, g2, g3⟩ := (r1 : TGd h1 O m _ x).tk y1
      rw [yt] at g1
      have tv := y3.tv.1
      rw [yt] at tv
      have z1 := (r1 : TGd h1 O m _ x).1
      refine k_X25_onReference_87 o (fun c => absurd rfl c) (fun _ => ?_)
      refine k_X25_onReference_94 o ?_
      refine lpoi_ok tv (by omega) ?_
      refine k_X25_onReference_103 o ?_
      refine lhas_ok l1.1 h4 hft.ok (by omega) (by omega) ?_
      refine k_X25_onReference_107 o ?_
      refine lnee_ok (e := .ok x) (b := fun x => hsA m (tkO x).1.tail 1) s1 r1 (fun y hy => by cases hy; rw [ex]) (by decide) (by omega) fun h2 f2 r2 => ?_
      have l2 : LC h2 O U n B m f u := l1.fr f2.1 (FS.no rfl)
      have s2 := l2.1.1.1
      rw [eb_k] at r2 kk
      generalize hE2 : fN (fun x => hsA m (tkO x).1.tail 1) 4 x = E2 at *
      cases E2 with
      | error w =>
        obtain ⟨z1, z2, -⟩ := id (r2 : TBd h2 O w)
        refine k_X25_onReference_111 o (fun _ => ?_) (fun c => absurd c (nI_nz z2))
        refine k_X25_onReference_248 o ?_
        exact kk h2 ((f1.mono (FS.mono rfl)).trans (f2.mono (FS.mono rfl))) r2
      | ok x' =>
        have : x' = x := ((Except.ok.inj (fN_ok (e := .ok x) (b := fun x => hsA m (tkO x).1.tail 1) (w := 4) (x := x') hE2).1)).symm
        subst this
        have z3 := (r2 : TGd h2 O m _ x').1
        obtain ⟨g1', -, -⟩ := (r2 : TGd h2 O m _ x').tk y1
        rw [yt] at g1'
        refine k_X25_onReference_111 o (fun c => absurd rfl c) (fun _ => ?_)
        refine k_X25_onReference_118 o ?_
        refine lpoi_ok tv (by omega) ?_
        refine k_X25_onReference_126 o ?_
        refine lgive_ok (t := t) l2.1.1 r2 (fun _ _ => ⟨rfl, hft.ok⟩) (by omega) fun h3 f3 r3 => ?_
        refine k_X25_onReference_129 o ?_
        refine k_X25_onReference_248 o ?_
        refine kk h3 (((f1.mono (FS.mono rfl)).trans (f2.mono (FS.mono rfl))).trans (f3.mono (FS.mono rfl))) ?_
        rw [eb_k, ex]
        exact r3.fg
  · refine k_X25_onReference_75 o (fun _ => ?_) (fun c => absurd c (by decide))
    refine k_X25_onReference_132 o (fun c => absurd rfl c) (fun _ => ?_)
    refine k_X25_onReference_138 o ?_
    refine ltakR_ok (q := none) (w := true) hs.1.1 hr rfl (by omega) fun h1 f1 r1 => ?_
    have l1 : LC h1 O U n B m f u := hs.fr f1.1 (FS.no rfl)
    have s1 := l1.1.1.1
    have ee : eb e (cO (cRef m (lty u) 19)) = eb (eb e (fTR none true)) fun x => eb (fTT (tkO x).1.tail x) fun z => eb (fN (fun y => hsA m (tkO y).1 2) 4 z) fun z => eb (fN (fun y => !liv (lty u) y.2.1 y.2.2 (tkO x).2.1 2) 6 z) fgt := by
      rw [eb_a]; congr 1; funext x; exact cRef_19 x
    rw [ee] at kk
    generalize hE1 : eb e (fTR none true) = E1 at *
    have q1 : h1.J 3092 O = h1.J 3092 O := rfl
    have ff1 := f1.mono (FS.mono (l' := trF) rfl)
    cases E1 with
    | error w =>
      obtain ⟨z1, z2, -⟩ := id (r1 : TBd h1 O w)
      refine k_X25_onReference_144 o (fun _ => ?_) (fun c => absurd c (nI_nz z2))
      refine k_X25_onReference_168 o (fun _ => ?_) (fun c => absurd c (nI_nz z2))
      refine k_X25_onReference_189 o (fun _ => ?_) (fun c => absurd c (nI_nz z2))
      refine k_X25_onReference_208 o ?_
      refine k_X25_onReference_248 o ?_
      exact kk h1 ff1 r1
    | ok x =>
      obtain ⟨y, y1, y2, -, y3, y4⟩ := fTR_ok hr hE1
      obtain ⟨bt, t, yt, hbt, hft⟩ := y3.rst y2
      have ex : (tkO x).1.tail = t := by unfold tkO; rw [y1]; show y.1.tail = t; rw [yt]; rfl
      have ex2 : (tkO x).2.1 = y.2.1 := by unfold tkO; rw [y1]; rfl
      obtain ⟨g1, g2, g3⟩ := (r1 : TGd h1 O m _ x).tk y1
      rw [yt] at g1
      have tv := y3.tv.1
      rw [yt] at tv
      have z1 := (r1 : TGd h1 O m _ x).1
      refine k_X25_onReference_144 o (fun c => absurd rfl c) (fun _ => ?_)
      refine k_X25_onReference_157 o ?_
      refine lpoi_ok tv (by omega) ?_
      refine k_X25_onReference_165 o ?_
      refine ltakT_ok (t := t) l1.1.1 r1 (fun _ _ => ⟨rfl, hft.ok.tv.1⟩) (by omega) fun h2 f2 r2 => ?_
      have l2 : LC h2 O U n B m f u := l1.fr f2.1 (FS.no rfl)
      have s2 := l2.1.1.1
      rw [eb_k, ex, ex2] at kk
      have r2' := r2
      rw [eb_k] at r2
      have ff2 := ff1.trans (f2.mono (FS.mono (l' := trF) rfl))
      generalize hE2 : fTT t x = E2 at *
      cases E2 with
      | error w =>
        obtain ⟨z1, z2, -⟩ := id (r2 : TBd h2 O w)
        refine k_X25_onReference_168 o (fun _ => ?_) (fun c => absurd c (nI_nz z2))
        refine k_X25_onReference_189 o (fun _ => ?_) (fun c => absurd c (nI_nz z2))
        refine k_X25_onReference_208 o ?_
        refine k_X25_onReference_248 o ?_
        exact kk h2 ff2 r2
      | ok x2 =>
        obtain ⟨y', y1', y2', y3', -⟩ := fTT_ok (t := t) r1 (x := x2) hE2
        have ex3 : (tkO x2).1 = t := by unfold tkO; rw [y1']; exact y2'
        obtain ⟨g1', -, -⟩ := (r2 : TGd h2 O m _ x2).tk y1'
        rw [y2'] at g1'
        have z1 := (r2 : TGd h2 O m _ x2).1
        refine k_X25_onReference_168 o (fun c => absurd rfl c) (fun _ => ?_)
        refine k_X25_onReference_175 o ?_
        refine lhas_ok l2.1 h4 hft.ok (by omega) (by omega) ?_
        refine k_X25_onReference_185 o ?_
        refine lnee_ok (e := .ok x2) (b := fun y => hsA m (tkO y).1 2) s2 r2 (fun y hy => by cases hy; rw [ex3]) (by decide) (by omega) fun h3 f3 r3 => ?_
        have l3 : LC h3 O U n B m f u := l2.fr f3.1 (FS.no rfl)
        have s3 := l3.1.1.1
        rw [eb_k] at r3 kk
        have ff3 := ff2.trans (f3.mono (FS.mono (l' := trF) rfl))
        generalize hE3 : fN (fun y => hsA m (tkO y).1 2) 4 x2 = E3 at *
        cases E3 with
        | error w =>
          obtain ⟨z1, z2, -⟩ := id (r3 : TBd h3 O w)
          refine k_X25_onReference_189 o (fun _ => ?_) (fun c => absurd c (nI_nz z2))
          refine k_X25_onReference_208 o ?_
          refine k_X25_onReference_248 o ?_
          exact kk h3 ff3 r3
        | ok x3 =>
          have z1 := (r3 : TGd h3 O m _ x3).1
          refine k_X25_onReference_189 o (fun c => absurd rfl c) (fun _ => ?_)
          refine k_X25_onReference_196 o ?_
          refine lsol_ok l3 hu r3 (by omega) fun b hb => ?_
          refine k_X25_onReference_203 o ?_
          rw [un_l (by omega)] at hb
          refine lnee_ok (e := .ok x3) (b := fun z => !liv (lty u) z.2.1 z.2.2 y.2.1 2) s3 r3 (fun z hz => by rw [hb z hz]) (by decide) (by omega) fun h4 f4 r4 => ?_
          refine k_X25_onReference_208 o ?_
          refine k_X25_onReference_248 o ?_
          refine kk h4 (ff3.trans (f4.mono (FS.mono (l' := trF) rfl))) ?_
          exact r4.fg
  · refine k_X25_onReference_75 o (fun _ => ?_) (fun c => absurd c (by decide))
    refine k_X25_onReference_132 o (fun _ => ?_) (fun c => absurd c (by decide))
    refine k_X25_onReference_211 o ?_
    refine ltakR_ok (q := none) (w := true) hs.1.1 hr rfl (by omega) fun h1 f1 r1 => ?_
    have l1 : LC h1 O U n B m f u := hs.fr f1.1 (FS.no rfl)
    have s1 := l1.1.1.1
    have ee : eb e (cO (cRef m (lty u) 20)) = eb (eb e (fTR none true)) fun x => eb (fPt (8 :: (tkO x).1.tail) (tkO x).2 x) fgt := by
      rw [eb_a]; congr 1; funext x; exact cRef_20 x
    rw [ee] at kk
    generalize hE1 : eb e (fTR none true) = E1 at *
    have ff1 := f1.mono (FS.mono (l' := trF) rfl)
    cases E1 with
    | error w =>
      obtain ⟨z1, z2, -⟩ := id (r1 : TBd h1 O w)
      refine k_X25_onReference_217 o (fun _ => ?_) (fun c => absurd c (nI_nz z2))
      refine k_X25_onReference_248 o ?_
      exact kk h1 ff1 r1
    | ok x =>
      obtain ⟨y, y1, y2, -, y3, y4⟩ := fTR_ok hr hE1
      obtain ⟨bt, t, yt, hbt, hft⟩ := y3.rst y2
      have ex : (tkO x).1.tail = t := by unfold tkO; rw [y1]; show y.1.tail = t; rw [yt]; rfl
      have ex2 : (tkO x).2 = y.2 := by unfold tkO; rw [y1]; rfl
      obtain ⟨g1, g2, g3⟩ := (r1 : TGd h1 O m _ x).tk y1
      rw [yt] at g1
      have tv := y3.tv.1
      rw [yt] at tv
      have z1 := (r1 : TGd h1 O m _ x).1
      refine k_X25_onReference_217 o (fun c => absurd rfl c) (fun _ => ?_)
      refine k_X25_onReference_224 o ?_
      refine lpoi_ok tv (by omega) ?_
      refine k_X25_onReference_234 o ?_
      refine lbef_ok hft.ok.tv.1 hft.ok.tv.2 (by omega) (by omega) ?_
      refine k_X25_onReference_237 o ?_
      refine lpush_ok (t := 8 :: t) (og := y.2) l1.1.1 r1 (fun _ _ => ⟨rfl, rfl, rfl, hft.ref (Or.inl rfl), y4⟩) (by omega) fun h2 f2 r2 => ?_
      refine k_X25_onReference_248 o ?_
      refine kk h2 (ff1.trans (f2.mono (FS.mono rfl))) ?_
      rw [eb_k, ex, ex2]
      exact r2.fg
theorem lfld_ok {G : Gt} {d : Nat} {h : AH} {K : Outcome → AH → Prop} {O U n f a b op : Nat} {B : Nat → Nat} {m : Md} {u : Ux} {sx : Sx} {e : Except Nat Ts} (hs : LC h O U n B m f u) (g : gM m) (hr : TRs h O m (lty u) e) (ho : op = 16 ∨ op = 17) (hk : m.2.1[a]? = some sx) (hi : b < sx.2.2.length) (hd : 4 ≤ d) (kk : ∀ h', Fq (FS trF) h h' → TRs h' O m (lty u) (eb e (cO (cFld m (op == 17) a b))) → K (.returned none) h') : MW G d e_X25_onReference [.ref O, .int (nI op), .int (nI a), .int (nI b)] h K := by
  refine st_X25_onReference fun X o hG hD _ => ?_
  subst hG; subst hD
  have s0 := hs.1.1.1
  have hft := fdt_ok g hk hi
  have ha := get_lt hk
  have h64 := g.2.2.2.2.2.1
  have ha' : a < nst m := by unfold nst; omega
  have hTs : TV [6, a] := (tOK.st ha' h64).tv.1
  have main : V X K 12 [.ref O, .int (nI op), .int (nI a), .int (nI b), nov, nov] [] h := by
    refine k_X25_onReference_12 o ?_
    refine lstr_ok (by omega) ?_
    have n1 : ∀ w, w = (op == 17) → V X K 28 [.ref O, .int (nI op), .int (nI a), .int (nI b), nov, nov] [.int (bI w), .long (lN (tyc [6, a])), .ref O] h := by
      intro w hw
      refine k_X25_onReference_28 o ?_
      refine ltakR_ok (q := some [6, a]) (w := w) hs.1.1 hr ⟨rfl, hTs⟩ (by omega) fun h1 f1 r1 => ?_
      have l1 : LC h1 O U n B m f u := hs.fr f1.1 (FS.no rfl)
      have s1 := l1.1.1.1
      rw [← hw] at kk
      have ee : eb e (cO (cFld m w a b)) = eb (eb e (fTR (some [6, a]) w)) fun x => eb (fPt ((if w then 9 else 8) :: fdt m a b) ((tkO x).2.1, true) x) fgt := by
        rw [eb_a]; congr 1; funext x; exact cFld_e x
      rw [ee] at kk
      generalize hE1 : eb e (fTR (some [6, a]) w) = E1 at *
      have ff1 := f1.mono (FS.mono (l' := trF) rfl)
      cases E1 with
      | error w =>
        obtain ⟨z1, z2, -⟩ := id (r1 : TBd h1 O w)
        refine k_X25_onReference_31 o (fun _ => ?_) (fun c => absurd c (nI_nz z2))
        refine k_X25_onReference_248 o ?_
        exact kk h1 ff1 r1
      | ok x =>
        obtain ⟨y, y1, y2, -, y3, y4⟩ := fTR_ok hr hE1
        have ex2 : (tkO x).2.1 = y.2.1 := by unfold tkO; rw [y1]; rfl
        obtain ⟨g1, g2, g3⟩ := (r1 : TGd h1 O m _ x).tk y1
        have z1 := (r1 : TGd h1 O m _ x).1
        have r2' := l1.1.2.1
        have u0 := l1.1.2.2.1.1.1
        refine k_X25_onReference_31 o (fun c => absurd rfl c) (fun _ => ?_)
        have n2 : ∀ c, c = (if w then 9 else 8) → V X K 52 [.ref O, .int (nI op), .int (nI a), .int (nI b), nov, nov] [.int (nI c), .ref O] h1 := by
          intro c hc
          refine k_X25_onReference_52 o ?_
          refine ufld_ok l1.1.2.2.1 l1.1.2.2.2 hk (List.getElem?_eq_getElem hi) (by omega) ?_
          have ef : (sx.2.2[b]).1 = fdt m a b := by unfold fdt; rw [hk]; simp only; rw [List.getElem?_eq_getElem hi]
          rw [ef]
          refine k_X25_onReference_61 o ?_
          refine lbef_ok hft.ok.tv.1 hft.ok.tv.2 (by rw [hc]; split <;> omega) (by omega) ?_
          refine k_X25_onReference_64 o ?_
          refine lpush_ok (t := c :: fdt m a b) (og := (y.2.1, true)) l1.1.1 r1 (fun _ _ => ⟨rfl, rfl, rfl, hft.ref (by rw [hc]; split <;> omega), y4⟩) (by omega) fun h2 f2 r2 => ?_
          refine k_X25_onReference_72 o ?_
          refine k_X25_onReference_248 o ?_
          refine kk h2 (ff1.trans (f2.mono (FS.mono rfl))) ?_
          rw [eb_k, ex2]
          rw [hc] at r2
          exact r2.fg
        refine k_X25_onReference_38 o (fun c => ?_) (fun c => ?_)
        · refine k_X25_onReference_50 o ?_
          refine n2 8 ?_
          have : ¬ op = 17 := fun z => c (by rw [z])
          rw [hw]; simp [this]
        · refine k_X25_onReference_45 o ?_
          refine n2 9 ?_
          rw [hw, (nI_eq (by omega) (by omega)).mp c]; rfl
    refine k_X25_onReference_17 o (fun c => ?_) (fun c => ?_)
    · refine k_X25_onReference_27 o ?_
      refine n1 false ?_
      have : ¬ op = 17 := fun z => c (by rw [z])
      simpa using this
    · refine k_X25_onReference_23 o ?_
      refine n1 true ?_
      simpa using (nI_eq (by omega) (by omega)).mp c
  refine k_X25_onReference_0 o (fun _ => main) (fun c => ?_)
  refine k_X25_onReference_6 o (fun c2 => ?_) (fun _ => main)
  rcases ho with z | z
  · exact absurd (by rw [z]) c
  · exact absurd (by rw [z]) c2
