/-! the twin's looker: vectors -/
/-- behind the index and the value -/
def vecR (m : Md) (lt : List Ty) (o a : Nat) (x : Ts) : Except Nat Ts :=
  if o = 53 then eb (fPt [3] (0, false) x) fgt
  else if o = 54 ∨ o = 55 then eb (fPt ((if o = 55 then 9 else 8) :: elt m a) ((tkO x).2.1, true) x) fgt
  else eb (fN (fun y => !liv lt y.2.1 y.2.2 (tkO x).2.1 2) 6 x) fun x => if o = 57 then eb (fPt (elt m a) (0, false) x) fgt else fgt x
def vecT (m : Md) (o a : Nat) : List Ty := if o = 54 ∨ o = 55 then [[3]] else if o = 58 then [[3], [3]] else if o = 56 then [elt m a] else []
theorem cVec_e {m : Md} {lt : List Ty} {o a b : Nat} (h : 53 ≤ o ∧ o ≤ 58) (x : Ts) : cO (cVec m lt o a b) x = eb (fTL (vecT m o a) x) fun x => eb (fTR (some (7 :: elt m a)) (decide (54 < o)) x) (vecR m lt o a) := by
  obtain ⟨p, s, l⟩ := x
  -- the reference
  have rf : ∀ (w : Bool) (s : Sk) (F : (Ty × Og) × Sk → Except Nat Cs) (R : Ts → Except Nat Ts), (∀ r : (Ty × Og) × Sk, cO (fun _ => F r) (none, r.2, l) = R (some r.1, r.2, l)) → eb (eb (tkR (7 :: elt m a) w s) F) (fun c => .ok ((none, c) : Ts)) = eb (fTR (some (7 :: elt m a)) w (none, s, l)) R := by
    intro w s F R hF
    unfold tkR fTR rtg
    cases s with
    | nil => rfl
    | cons y s =>
      simp only [tk, eb_k]
      cases (isRf y.1 && y.1.tail == 7 :: elt m a) <;> simp only [neT, neF, eb_k, eb_e]
      cases (!w || isWr y.1) <;> simp only [neT, neF, eb_k, eb_e]
      exact hF (y, s)
  unfold cO cVec fTL vecT
  rcases (show o = 53 ∨ o = 54 ∨ o = 55 ∨ o = 56 ∨ o = 57 ∨ o = 58 by omega) with z | z | z | z | z | z <;> subst z
  · show eb (eb (tkR (7 :: elt m a) false s) _) _ = eb (fTR (some (7 :: elt m a)) false (none, s, l)) _
    refine rf false s _ _ fun r => ?_
    unfold cO vecR fPt
    rw [if_pos rfl]
    simp only [ogr_0]
    cases pt [3] (0, false) r.2 <;> rfl
  · show eb (eb (tkT [3] s) fun r => eb (tkR (7 :: elt m a) false r.2) _) _ = eb (eb (tkL [[3]] s) _) _
    simp only [tkL]
    cases tkT [3] s with
    | error w => rfl
    | ok r =>
      simp only [eb_k]
      refine rf false r.2 _ _ fun q => ?_
      show eb (eb (pt (8 :: elt m a) (q.1.2.1, true) q.2) fun s => .ok (s, l)) (fun c => .ok (none, c)) = eb (fPt (8 :: elt m a) (q.1.2.1, true) (some q.1, q.2, l)) fgt
      unfold fPt
      rw [ogr_r (by simp)]
      simp only
      cases pt (8 :: elt m a) (q.1.2.1, true) q.2 <;> rfl
  · show eb (eb (tkT [3] s) fun r => eb (tkR (7 :: elt m a) true r.2) _) _ = eb (eb (tkL [[3]] s) _) _
    simp only [tkL]
    cases tkT [3] s with
    | error w => rfl
    | ok r =>
      simp only [eb_k]
      refine rf true r.2 _ _ fun q => ?_
      show eb (eb (pt (9 :: elt m a) (q.1.2.1, true) q.2) fun s => .ok (s, l)) (fun c => .ok (none, c)) = eb (fPt (9 :: elt m a) (q.1.2.1, true) (some q.1, q.2, l)) fgt
      unfold fPt
      rw [ogr_r (by simp)]
      simp only
      cases pt (9 :: elt m a) (q.1.2.1, true) q.2 <;> rfl
  · show eb (eb (tkT (elt m a) s) fun r => eb (tkR (7 :: elt m a) true r.2) _) _ = eb (eb (tkL [elt m a] s) _) _
    simp only [tkL]
    cases tkT (elt m a) s with
    | error w => rfl
    | ok r =>
      simp only [eb_k]
      refine rf true r.2 _ _ fun q => ?_
      unfold cO vecR fN
      rw [if_neg (by decide), if_neg (by decide)]
      simp only [tkO, Option.getD_some]
      cases (!liv lt q.2 l q.1.2.1 2) <;> rfl
  · show eb (eb (tkR (7 :: elt m a) true s) _) _ = eb (fTR (some (7 :: elt m a)) true (none, s, l)) _
    refine rf true s _ _ fun q => ?_
    unfold cO vecR fN
    rw [if_neg (by decide), if_neg (by decide)]
    simp only [tkO, Option.getD_some]
    cases (!liv lt q.2 l q.1.2.1 2) <;> simp only [neT, neF, eb_k, eb_e]
    rw [if_pos trivial]
    unfold fPt
    simp only [ogr_0]
    cases pt (elt m a) (0, false) q.2 <;> rfl
  · show eb (eb (tkT [3] s) fun r => eb (tkT [3] r.2) fun p => eb (tkR (7 :: elt m a) true p.2) _) _ = eb (eb (tkL [[3], [3]] s) _) _
    simp only [tkL]
    cases tkT [3] s with
    | error w => rfl
    | ok r =>
      simp only [eb_k]
      cases tkT [3] r.2 with
      | error w => rfl
      | ok r2 =>
        simp only [eb_k]
        refine rf true r2.2 _ _ fun q => ?_
        unfold cO vecR fN
        rw [if_neg (by decide), if_neg (by decide)]
        simp only [tkO, Option.getD_some]
        cases (!liv lt q.2 l q.1.2.1 2) <;> rfl
theorem cVec_m {m : Md} {lt : List Ty} {a b : Nat} {e : Except Nat Ts} : eb e (cO (cVec m lt 52 a b)) = eb (eb (eb e (fTL (List.replicate b (elt m a)))) (fPt (7 :: elt m a) (0, false))) fgt := by
  rw [eb_a, eb_a]
  congr 1
  funext x
  unfold cO cVec fTL fPt
  rw [if_pos rfl, ogr_0]
  cases tkL (List.replicate b (elt m a)) x.2.1 with
  | error w => rfl
  | ok q =>
    simp only [eb_k]
    cases pt (7 :: elt m a) (0, false) q.2 <;> rfl
theorem lvec_ok {G : Gt} {d : Nat} {h : AH} {K : Outcome → AH → Prop} {O U n f a b op : Nat} {B : Nat → Nat} {m : Md} {u : Ux} {e : Except Nat Ts} (hs : LC h O U n B m f u) (g : gM m) (hr : TRs h O m (lty u) e) (ho : 52 ≤ op ∧ op ≤ 58) (ha : a < m.2.2.2.2.1.length) (hb : b ≤ 255) (hd : 4 ≤ d) (kk : ∀ h', Fq (FS trF) h h' → TRs h' O m (lty u) (eb e (cO (cVec m (lty u) op a b))) → K (.returned none) h') : MW G d e_X25_onVector [.ref O, .int (nI op), .int (nI a), .int (nI b)] h K := by
  refine st_X25_onVector fun X o hG hD _ => ?_
  subst hG; subst hD
  have s0 := hs.1.1.1
  have r2 := hs.1.2.1
  have u0 := hs.1.2.2.1.1.1
  have hu := (g.2.2.2.2.1 u (List.mem_of_getElem? hs.2.1.1)).2
  have hk : m.2.2.2.2.1[a]? = some m.2.2.2.2.1[a] := List.getElem?_eq_getElem ha
  have eel : elt m a = (m.2.2.2.2.1[a]).1 := by unfold elt; rw [hk]
  have hft : fT m (elt m a) := by rw [eel]; exact g.2.2.1 _ (List.getElem_mem ha)
  have t3 : tOK m [3] := tOK.pr (by omega) (by omega)
  refine k_X25_onVector_0 o (fun _ => ?_) (fun c => absurd ((nI_eq (by omega) (by omega)).mp c) (by omega))
  refine k_X25_onVector_21 o ?_
  refine uele_ok hs.1.2.2.1 hs.1.2.2.2 hk (by omega) ?_
  rw [← eel]
  refine k_X25_onVector_29 o ?_
  refine lbef_ok hft.ok.tv.1 hft.ok.tv.2 (by omega) (by omega) ?_
  by_cases c52 : op = 52
  · subst c52
    rw [cVec_m] at kk
    refine k_X25_onVector_38 o (fun c => absurd rfl c) (fun _ => ?_)
    have loop : ∀ j i h1 e1, j + i = b → Fq (FS trF) h h1 → LC h1 O U n B m f u → TRs h1 O m (lty u) e1 → eb e (fTL (List.replicate b (elt m a))) = eb (eb e1 fgt) (fTL (List.replicate j (elt m a))) → V X K 49 [.ref O, .int (nI 52), .int (nI a), .int (nI b), .long (lN (tyc (elt m a))), nov, .long (lN (tyc (7 :: elt m a))), nov, .int (nI i), nov] [] h1 := by
      intro j
      induction j with
      | zero =>
        intro i h1 e1 hi f1 l1 r1 ee
        have s1 := l1.1.1.1
        refine k_X25_onVector_49 o (fun _ => ?_) (fun c => absurd ((nI_leI (by omega) (by omega)).mpr (by omega)) c)
        refine k_X25_onVector_67 o ?_
        refine lgive_ok (t := 7 :: elt m a) l1.1.1 r1 (fun _ _ => ⟨rfl, hft.vec⟩) (by omega) fun h2 f2 r3 => ?_
        refine k_X25_onVector_73 o ?_
        refine kk h2 (f1.trans (f2.mono (FS.mono rfl))) ?_
        rw [ee]
        have : eb (eb (eb (eb e1 fgt) (fTL (List.replicate 0 (elt m a)))) (fPt (7 :: elt m a) (0, false))) fgt = eb (eb e1 (fPt (7 :: elt m a) (0, false))) fgt := by
          cases e1 with
          | error w => rfl
          | ok x =>
            rw [eb_k, eb_k]
            unfold fgt fTL fPt
            rw [ogr_0]
            simp only [eb_k, tkL, List.replicate]
            cases pt (7 :: elt m a) (0, false) x.2.1 <;> rfl
        rw [this]
        exact r3.fg
      | succ j ih =>
        intro i h1 e1 hi f1 l1 r1 ee
        have s1 := l1.1.1.1
        refine k_X25_onVector_49 o (fun c => absurd ((nI_leI (by omega) (by omega)).mp c) (by omega)) (fun _ => ?_)
        refine k_X25_onVector_55 o ?_
        refine ltakT_ok (t := elt m a) l1.1.1 r1 (fun _ _ => ⟨rfl, hft.ok.tv.1⟩) (by omega) fun h2 f2 r3 => ?_
        refine k_X25_onVector_61 o ?_
        rw [nI_add]
        have l2 : LC h2 O U n B m f u := l1.fr f2.1 (FS.no rfl)
        refine ih (i + 1) h2 (eb e1 (fTT (elt m a))) (by omega) (f1.trans (f2.mono (FS.mono rfl))) l2 r3 ?_
        rw [ee, List.replicate_succ, fTL_c]
        have : eb (eb e1 fgt) (fTT (elt m a)) = eb e1 (fTT (elt m a)) := by cases e1 <;> rfl
        rw [this]
    refine k_X25_onVector_46 o ?_
    refine loop b 0 h e rfl (Fq.refl h) hs hr ?_
    cases e <;> rfl
  have ee : eb e (cO (cVec m (lty u) op a b)) = eb (eb (eb e (fTL (vecT m op a))) (fTR (some (7 :: elt m a)) (decide (54 < op)))) (vecR m (lty u) op a) := by
    rw [eb_a, eb_a]; exact eb_c (cVec_e (by omega))
  rw [ee] at kk
  refine k_X25_onVector_38 o (fun _ => ?_) (fun c => absurd ((nI_eq (by omega) (by omega)).mp c) c52)
  -- the reference and what follows
  have main : ∀ h1 e1, Fq (FS trF) h h1 → LC h1 O U n B m f u → TRs h1 O m (lty u) e1 → eb e (fTL (vecT m op a)) = eb e1 fgt → V X K 124 [.ref O, .int (nI op), .int (nI a), .int (nI b), .long (lN (tyc (elt m a))), nov, .long (lN (tyc (7 :: elt m a))), nov, nov, nov] [] h1 := by
    intro h1 e1 f1 l1 r1 e1e
    have s1 := l1.1.1.1
    rw [e1e] at kk
    have e2e : eb (eb e1 fgt) (fTR (some (7 :: elt m a)) (decide (54 < op))) = eb e1 (fTR (some (7 :: elt m a)) (decide (54 < op))) := by cases e1 <;> rfl
    rw [e2e] at kk
    have n1 : ∀ w, w = decide (54 < op) → V X K 138 [.ref O, .int (nI op), .int (nI a), .int (nI b), .long (lN (tyc (elt m a))), nov, .long (lN (tyc (7 :: elt m a))), nov, nov, nov] [.int (bI w), .long (lN (tyc (7 :: elt m a))), .ref O] h1 := by
      intro w hw
      rw [← hw] at kk
      refine k_X25_onVector_138 o ?_
      refine ltakR_ok (q := some (7 :: elt m a)) (w := w) l1.1.1 r1 ⟨rfl, hft.vec.tv.1⟩ (by omega) fun h2 f2 r3 => ?_
      have l2 : LC h2 O U n B m f u := l1.fr f2.1 (FS.no rfl)
      have s2 := l2.1.1.1
      have ff2 := f1.trans (f2.mono (FS.mono (l' := trF) rfl))
      have q1 : h2.J 3092 O = h2.J 3092 O := rfl
      generalize hE2 : eb e1 (fTR (some (7 :: elt m a)) w) = E2 at *
      cases E2 with
      | error w' =>
        obtain ⟨z1, z2, -⟩ := id (r3 : TBd h2 O w')
        refine k_X25_onVector_141 o (fun c => absurd c (nI_nz z2)) (fun _ => ?_)
        refine k_X25_onVector_154 o ?_
        exact kk h2 ff2 r3
      | ok x =>
        obtain ⟨y, y1, y2, -, y3, y4⟩ := fTR_ok r1 hE2
        obtain ⟨g1, g2, g3⟩ := (r3 : TGd h2 O m _ x).tk y1
        have z1 := (r3 : TGd h2 O m _ x).1
        clear q1
        refine k_X25_onVector_141 o (fun _ => ?_) (fun c => absurd rfl c)
        rw [eb_k] at kk
        unfold vecR at kk
        rw [tkO_s y1] at kk
        by_cases c55 : op ≤ 55
        · refine k_X25_onVector_155 o (fun _ => ?_) (fun c => absurd ((nI_leI (by omega) (by omega)).mpr c55) c)
          by_cases c53 : op = 53
          · subst c53
            rw [if_pos rfl] at kk
            refine k_X25_onVector_173 o (fun c => absurd rfl c) (fun _ => ?_)
            refine k_X25_onVector_179 o ?_
            refine lgive_ok (t := [3]) l2.1.1 r3 (fun _ _ => ⟨rfl, t3⟩) (by omega) fun h3 f3 r4 => ?_
            refine k_X25_onVector_186 o (fun c => absurd c (by decide)) (fun _ => ?_)
            refine k_X25_onVector_192 o (fun _ => ?_) (fun c => absurd c (by decide))
            refine k_X25_onVector_223 o (fun _ => ?_) (fun c => absurd c (by decide))
            refine k_X25_onVector_235 o ?_
            exact kk h3 (ff2.trans (f3.mono (FS.mono rfl))) r4.fg
          · rw [if_neg c53, if_pos (by omega)] at kk
            have n3 : ∀ c, c = (if op = 55 then 9 else 8) → V X K 212 [.ref O, .int (nI op), .int (nI a), .int (nI b), .long (lN (tyc (elt m a))), nov, .long (lN (tyc (7 :: elt m a))), nov, .long (lN y.2.1), nov] [.int (nI c), .ref O] h2 := by
              intro c hc
              refine k_X25_onVector_212 o ?_
              refine lbef_ok hft.ok.tv.1 hft.ok.tv.2 (by rw [hc]; split <;> omega) (by omega) ?_
              refine k_X25_onVector_217 o ?_
              refine lpush_ok (t := c :: elt m a) (og := (y.2.1, true)) l2.1.1 r3 (fun _ _ => ⟨rfl, rfl, rfl, hft.ref (by rw [hc]; split <;> omega), y4⟩) (by omega) fun h3 f3 r4 => ?_
              refine k_X25_onVector_223 o (fun _ => ?_) (fun c => absurd ((nI_eq (by omega) (by omega)).mp c) (by omega))
              refine k_X25_onVector_235 o ?_
              rw [hc] at r4
              exact kk h3 (ff2.trans (f3.mono (FS.mono rfl))) r4.fg
            have n4 : V X K 198 [.ref O, .int (nI op), .int (nI a), .int (nI b), .long (lN (tyc (elt m a))), nov, .long (lN (tyc (7 :: elt m a))), nov, .long (lN y.2.1), nov] [] h2 := by
              refine k_X25_onVector_198 o (fun c => ?_) (fun c => ?_)
              · refine k_X25_onVector_210 o ?_
                exact n3 8 (by rw [if_neg fun z => c (by rw [z])])
              · refine k_X25_onVector_205 o ?_
                exact n3 9 (by rw [if_pos ((nI_eq (by omega) (by omega)).mp c)])
            refine k_X25_onVector_173 o (fun _ => ?_) (fun c => absurd ((nI_eq (by omega) (by omega)).mp c) c53)
            refine k_X25_onVector_186 o (fun _ => n4) (fun c => ?_)
            refine k_X25_onVector_192 o (fun c2 => ?_) (fun _ => n4)
            rcases (show op = 54 ∨ op = 55 by omega) with z | z
            · exact absurd (by rw [z]) c
            · exact absurd (by rw [z]) c2
        · rw [if_neg (by omega), if_neg (by omega)] at kk
          refine k_X25_onVector_155 o (fun c => absurd ((nI_leI (by omega) (by omega)).mp c) c55) (fun _ => ?_)
          refine k_X25_onVector_161 o ?_
          refine lsol_ok l2 hu r3 (by omega) fun bs hbs => ?_
          rw [un_l (by omega)] at hbs
          refine k_X25_onVector_168 o ?_
          refine lnee_ok (e := .ok x) (b := fun z => !liv (lty u) z.2.1 z.2.2 y.2.1 2) s2 r3 (fun z hz => by rw [hbs z hz]) (by decide) (by omega) fun h3 f3 r4 => ?_
          have l3 : LC h3 O U n B m f u := l2.fr f3.1 (FS.no rfl)
          have s3 := l3.1.1.1
          have ff3 := ff2.trans (f3.mono (FS.mono (l' := trF) rfl))
          rw [eb_k] at r4
          generalize hE4 : fN (fun z => !liv (lty u) z.2.1 z.2.2 y.2.1 2) 6 x = E4 at *
          refine k_X25_onVector_173 o (fun _ => ?_) (fun c => absurd ((nI_eq (by omega) (by omega)).mp c) (by omega))
          refine k_X25_onVector_186 o (fun c => absurd ((nI_eq (by omega) (by omega)).mp c) (by omega)) (fun _ => ?_)
          refine k_X25_onVector_192 o (fun _ => ?_) (fun c => absurd ((nI_eq (by omega) (by omega)).mp c) (by omega))
          by_cases c57 : op = 57
          · simp only [if_pos c57] at kk
            refine k_X25_onVector_223 o (fun c => absurd (by rw [c57]) c) (fun _ => ?_)
            refine k_X25_onVector_229 o ?_
            refine lgive_ok (t := elt m a) l3.1.1 r4 (fun _ _ => ⟨rfl, hft.ok⟩) (by omega) fun h4 f4 r5 => ?_
            refine k_X25_onVector_235 o ?_
            refine kk h4 (ff3.trans (f4.mono (FS.mono rfl))) ?_
            rw [← eb_a]
            exact r5.fg
          · simp only [if_neg c57] at kk
            refine k_X25_onVector_223 o (fun _ => ?_) (fun c => absurd ((nI_eq (by omega) (by omega)).mp c) c57)
            refine k_X25_onVector_235 o ?_
            exact kk h3 ff3 r4.fg
    refine k_X25_onVector_124 o (fun c => ?_) (fun c => ?_)
    · have c := (nI_leI (by omega) (by omega)).mp c
      refine k_X25_onVector_137 o ?_
      exact n1 false (decide_eq_false (by omega)).symm
    · have c : ¬ op ≤ 54 := fun z => c ((nI_leI (by omega) (by omega)).mpr z)
      refine k_X25_onVector_133 o ?_
      exact n1 true (decide_eq_true (by omega)).symm
  have q74 : ∀ h1, V X K 99 [.ref O, .int (nI op), .int (nI a), .int (nI b), .long (lN (tyc (elt m a))), nov, .long (lN (tyc (7 :: elt m a))), nov, nov, nov] [] h1 → (h1 = h1) := fun _ _ => rfl
  -- one value of type 3
  have one : ∀ h1 e1, Fq (FS trF) h h1 → LC h1 O U n B m f u → TRs h1 O m (lty u) e1 → (op = 54 ∨ op = 55 → eb e (fTL [[3]]) = eb e1 fgt) → (op = 58 → eb e (fTL [[3], [3]]) = eb (eb e1 fgt) (fTL [[3]])) → (op = 53 ∨ op = 56 ∨ op = 57 → e = e1) → V X K 99 [.ref O, .int (nI op), .int (nI a), .int (nI b), .long (lN (tyc (elt m a))), nov, .long (lN (tyc (7 :: elt m a))), nov, nov, nov] [] h1 := by
    intro h1 e1 f1 l1 r1 e54 e58 e53
    have s1 := l1.1.1.1
    by_cases c58 : op = 58
    · refine k_X25_onVector_99 o (fun c => absurd (by rw [c58]) c) (fun _ => ?_)
      refine k_X25_onVector_105 o ?_
      refine ltakT_ok (t := [3]) l1.1.1 r1 (fun _ _ => ⟨rfl, t3.tv.1⟩) (by omega) fun h2 f2 r3 => ?_
      have l2 : LC h2 O U n B m f u := l1.fr f2.1 (FS.no rfl)
      refine k_X25_onVector_112 o (fun _ => ?_) (fun c => absurd ((nI_eq (by omega) (by omega)).mp c) (by omega))
      refine main h2 _ (f1.trans (f2.mono (FS.mono rfl))) l2 r3 ?_
      have : vecT m op a = [[3], [3]] := by unfold vecT; rw [if_neg (by omega), if_pos c58]
      rw [this, e58 c58, fTL_c]
      cases e1 with
      | error w => rfl
      | ok x =>
        show eb (eb (fTT [3] (none, x.2)) fgt) (fTL []) = eb (fTT [3] x) fgt
        unfold fTT
        cases tkT [3] x.2.1 <;> rfl
    · refine k_X25_onVector_99 o (fun _ => ?_) (fun c => absurd ((nI_eq (by omega) (by omega)).mp c) c58)
      by_cases c56 : op = 56
      · refine k_X25_onVector_112 o (fun c => absurd (by rw [c56]) c) (fun _ => ?_)
        refine k_X25_onVector_118 o ?_
        refine ltakT_ok (t := elt m a) l1.1.1 r1 (fun _ _ => ⟨rfl, hft.ok.tv.1⟩) (by omega) fun h2 f2 r3 => ?_
        have l2 : LC h2 O U n B m f u := l1.fr f2.1 (FS.no rfl)
        refine main h2 _ (f1.trans (f2.mono (FS.mono rfl))) l2 r3 ?_
        have : vecT m op a = [elt m a] := by unfold vecT; rw [if_neg (by omega), if_neg c58, if_pos c56]
        rw [this, e53 (by omega), fTL_c]
        cases e1 with
        | error w => rfl
        | ok x =>
          show eb (eb (fTT (elt m a) x) fgt) (fTL []) = eb (fTT (elt m a) x) fgt
          unfold fTT
          cases tkT (elt m a) x.2.1 <;> rfl
      · refine k_X25_onVector_112 o (fun _ => ?_) (fun c => absurd ((nI_eq (by omega) (by omega)).mp c) c56)
        refine main h1 e1 f1 l1 r1 ?_
        by_cases c54 : op = 54 ∨ op = 55
        · have : vecT m op a = [[3]] := by unfold vecT; rw [if_pos c54]
          rw [this, e54 c54]
        · have : vecT m op a = [] := by unfold vecT; rw [if_neg c54, if_neg c58, if_neg c56]
          rw [this, e53 (by omega)]
          cases e1 <;> rfl
  have two : op = 54 ∨ op = 55 ∨ op = 58 → V X K 92 [.ref O, .int (nI op), .int (nI a), .int (nI b), .long (lN (tyc (elt m a))), nov, .long (lN (tyc (7 :: elt m a))), nov, nov, nov] [] h := fun hop => by
    refine k_X25_onVector_92 o ?_
    refine ltakT_ok (t := [3]) hs.1.1 hr (fun _ _ => ⟨rfl, t3.tv.1⟩) (by omega) fun h2 f2 r3 => ?_
    have l2 : LC h2 O U n B m f u := hs.fr f2.1 (FS.no rfl)
    refine one h2 _ (f2.mono (FS.mono rfl)) l2 r3 (fun _ => ?_) (fun _ => ?_) (fun z => by omega)
    · rw [fTL_c]
      cases e with
      | error w => rfl
      | ok x =>
        show eb (eb (fTT [3] x) fgt) (fTL []) = eb (fTT [3] x) fgt
        unfold fTT
        cases tkT [3] x.2.1 <;> rfl
    · rw [fTL_c]
  refine k_X25_onVector_74 o (fun c => two (Or.inl ((nI_eq (by omega) (by omega)).mp c))) (fun c1 => ?_)
  refine k_X25_onVector_80 o (fun c => two (Or.inr (Or.inl ((nI_eq (by omega) (by omega)).mp c)))) (fun c2 => ?_)
  refine k_X25_onVector_86 o (fun c3 => ?_) (fun c => two (Or.inr (Or.inr ((nI_eq (by omega) (by omega)).mp c))))
  have d1 : ¬ op = 54 := fun z => c1 (by rw [z])
  have d2 : ¬ op = 55 := fun z => c2 (by rw [z])
  have d3 : ¬ op = 58 := fun z => c3 (by rw [z])
  exact one h e (Fq.refl h) hs hr (fun z => by omega) (fun z => by omega) (fun _ => rfl)
