/-! the twin's looker: packing, numbers -/
def fTL (l : List Ty) (x : Ts) : Except Nat Ts := eb (tkL l x.2.1) fun q => .ok (none, q.2, x.2.2)
def fPL (l : List (Ty × Og)) (x : Ts) : Except Nat Ts := eb (ptL l x.2.1) fun s => .ok (none, s, x.2.2)
theorem fTL_c {t : Ty} {l : List Ty} {e : Except Nat Ts} : eb e (fTL (t :: l)) = eb (eb (eb e (fTT t)) fgt) (fTL l) := by
  rw [eb_a, eb_a]
  congr 1
  funext x
  unfold fTL fTT
  simp only [tkL]
  cases tkT t x.2.1 with
  | error w => rfl
  | ok r =>
    simp only [eb_k]
    unfold fgt
    simp only [eb_k]
    cases tkL l r.2 <;> rfl
theorem fPL_c {t : Ty} {og : Og} {l : List (Ty × Og)} {e : Except Nat Ts} (ho : ogr t og = og) : eb e (fPL ((t, og) :: l)) = eb (eb (eb e (fPt t og)) fgt) (fPL l) := by
  rw [eb_a, eb_a]
  congr 1
  funext x
  unfold fPL fPt
  rw [ho]
  simp only [ptL]
  cases pt t og x.2.1 with
  | error w => rfl
  | ok r => rfl
theorem fgt_fgt {e : Except Nat Ts} : eb (eb e fgt) fgt = eb e fgt := by cases e <;> rfl
theorem cPack_e {m : Md} {k : Nat} {e : Except Nat Ts} : eb e (cO (cPack m k)) = eb (eb (eb e (fTL (fdl m k).reverse)) (fPt [6, k] (0, false))) fgt := by
  rw [eb_a, eb_a]
  congr 1
  funext x
  unfold cO cPack fTL fPt
  rw [ogr_0]
  cases tkL (fdl m k).reverse x.2.1 with
  | error w => rfl
  | ok q =>
    simp only [eb_k]
    cases pt [6, k] (0, false) q.2 <;> rfl
theorem cUnp_e {m : Md} {k : Nat} {e : Except Nat Ts} : eb e (cO (cUnp m k)) = eb (eb e (fTT [6, k])) (fPL ((fdl m k).map fun t => (t, (0, false)))) := by
  rw [eb_a]
  congr 1
  funext x
  unfold cO cUnp fTT fPL
  cases tkT [6, k] x.2.1 with
  | error w => rfl
  | ok r =>
    simp only [eb_k]
    cases ptL ((fdl m k).map fun t => (t, (0, false))) r.2 <;> rfl
theorem lpak_ok {G : Gt} {d : Nat} {h : AH} {K : Outcome → AH → Prop} {O U n f a : Nat} {B : Nat → Nat} {m : Md} {u : Ux} {e : Except Nat Ts} {tg : Bool} (hs : LC h O U n B m f u) (g : gM m) (hr : TRs h O m (lty u) e) (ha : a < m.2.1.length) (hd : 4 ≤ d) (kk : ∀ h', Fq (FS trF) h h' → TRs h' O m (lty u) (eb e (cO (if tg then cPack m a else cUnp m a))) → K (.returned none) h') : MW G d e_X25_pack [.ref O, .int (bI tg), .int (nI a)] h K := by
  refine st_X25_pack fun X o hG hD _ => ?_
  subst hG; subst hD
  have s0 := hs.1.1.1
  have h64 := g.2.2.2.2.2.1
  have ha' : a < nst m := by unfold nst; omega
  have hTs := tOK.st ha' h64
  obtain ⟨sx, hk⟩ : ∃ sx, m.2.1[a]? = some sx := ⟨_, List.getElem?_eq_getElem ha⟩
  obtain ⟨g16, gf⟩ := g.2.1 sx (List.mem_of_getElem? hk)
  have efd : fdl m a = sx.2.2.map Prod.fst := by unfold fdl; rw [hk]
  have ef : ∀ i (hi : i < sx.2.2.length), (fdl m a)[i]? = some (sx.2.2[i]).1 := fun i hi => by
    rw [efd, List.getElem?_map, List.getElem?_eq_getElem hi]; rfl
  have efl : (fdl m a).length = sx.2.2.length := by rw [efd, List.length_map]
  cases tg with
  | true =>
    rw [if_pos rfl, cPack_e] at kk
    have loop : ∀ j i h1 e1, j + i = sx.2.2.length → Fq (FS trF) h h1 → LC h1 O U n B m f u → TRs h1 O m (lty u) e1 → eb e (fTL (fdl m a).reverse) = eb (eb e1 fgt) (fTL ((fdl m a).reverse.drop i)) → V X K 14 [.ref O, .int (bI true), .int (nI a), .int (nI i)] [] h1 := by
      intro j
      induction j with
      | zero =>
        intro i h1 e1 hi f1 l1 r1 ee
        have s1 := l1.1.1.1
        have r2 := l1.1.2.1
        have u0 := l1.1.2.2.1.1.1
        refine k_X25_pack_14 o ?_
        refine ufo_ok l1.1.2.2.1 l1.1.2.2.2 hk (by omega) ?_
        refine k_X25_pack_23 o (fun _ => ?_) (fun c => ?_)
        rotate_left
        · exact absurd ((nI_leI (by omega) (by omega)).mpr (by omega)) c
        refine k_X25_pack_76 o (fun c => absurd (show bI true = 0 from c) (by decide)) (fun _ => ?_)
        refine k_X25_pack_80 o ?_
        refine lstr_ok (by omega) ?_
        refine k_X25_pack_85 o ?_
        refine lgive_ok (t := [6, a]) l1.1.1 r1 (fun _ _ => ⟨rfl, hTs⟩) (by omega) fun h2 f2 r3 => ?_
        refine k_X25_pack_88 o ?_
        refine kk h2 (f1.trans (f2.mono (FS.mono rfl))) ?_
        rw [ee, List.drop_eq_nil_iff.mpr (by simp; omega)]
        have : eb (eb (eb (eb e1 fgt) (fTL [])) (fPt [6, a] (0, false))) fgt = eb (eb e1 (fPt [6, a] (0, false))) fgt := by
          cases e1 with
          | error w => rfl
          | ok x =>
            rw [eb_k, eb_k]
            unfold fgt fTL fPt
            rw [ogr_0]
            simp only [eb_k, tkL]
            cases pt [6, a] (0, false) x.2.1 <;> rfl
        rw [this]
        exact r3.fg
      | succ j ih =>
        intro i h1 e1 hi f1 l1 r1 ee
        have s1 := l1.1.1.1
        have r2 := l1.1.2.1
        have u0 := l1.1.2.2.1.1.1
        refine k_X25_pack_14 o ?_
        refine ufo_ok l1.1.2.2.1 l1.1.2.2.2 hk (by omega) ?_
        refine k_X25_pack_23 o (fun c => ?_) (fun _ => ?_)
        · exact absurd ((nI_leI (by omega) (by omega)).mp c) (by omega)
        refine k_X25_pack_26 o (fun c => absurd (show bI true = 0 from c) (by decide)) (fun _ => ?_)
        refine k_X25_pack_30 o ?_
        refine ufo_ok l1.1.2.2.1 l1.1.2.2.2 hk (by omega) ?_
        refine k_X25_pack_44 o ?_
        rw [nI_sub (by omega), nI_sub (by omega)]
        have hx : sx.2.2.length - 1 - i < sx.2.2.length := by omega
        refine ufld_ok l1.1.2.2.1 l1.1.2.2.2 hk (List.getElem?_eq_getElem hx) (by omega) ?_
        refine k_X25_pack_51 o ?_
        refine ltakT_ok (t := (sx.2.2[sx.2.2.length - 1 - i]).1) l1.1.1 r1 (fun _ _ => ⟨rfl, (gf _ (List.getElem_mem hx)).ok.tv.1⟩) (by omega) fun h2 f2 r3 => ?_
        refine k_X25_pack_54 o ?_
        refine k_X25_pack_70 o ?_
        rw [nI_add]
        have l2 : LC h2 O U n B m f u := l1.fr f2.1 (FS.no rfl)
        refine ih (i + 1) h2 (eb e1 (fTT (sx.2.2[sx.2.2.length - 1 - i]).1)) (by omega) (f1.trans (f2.mono (FS.mono rfl))) l2 r3 ?_
        rw [ee]
        have hdr : (fdl m a).reverse.drop i = (sx.2.2[sx.2.2.length - 1 - i]).1 :: (fdl m a).reverse.drop (i + 1) := by
          rw [List.drop_eq_getElem_cons (by simp; omega)]
          congr 1
          rw [List.getElem_reverse]
          have := ef (sx.2.2.length - 1 - i) hx
          rw [List.getElem?_eq_getElem (by omega)] at this
          have := Option.some.inj this
          rw [← this]
          congr 1
          rw [efl]
        rw [hdr, fTL_c]
        have : eb (eb e1 fgt) (fTT (sx.2.2[sx.2.2.length - 1 - i]).1) = eb e1 (fTT (sx.2.2[sx.2.2.length - 1 - i]).1) := by cases e1 <;> rfl
        rw [this]
    refine k_X25_pack_0 o (fun _ => ?_) (fun c => absurd (show bI true = 0 from c) (by decide))
    refine k_X25_pack_12 o ?_
    refine loop sx.2.2.length 0 h e rfl (Fq.refl h) hs hr ?_
    rw [List.drop_zero]
    cases e <;> rfl
  | false =>
    rw [if_neg (by decide), cUnp_e] at kk
    refine k_X25_pack_0 o (fun c => absurd rfl c) (fun _ => ?_)
    refine k_X25_pack_4 o ?_
    refine lstr_ok (by omega) ?_
    refine k_X25_pack_9 o ?_
    refine ltakT_ok (t := [6, a]) hs.1.1 hr (fun _ _ => ⟨rfl, hTs.tv.1⟩) (by omega) fun h0 f0 r0 => ?_
    have l0 : LC h0 O U n B m f u := hs.fr f0.1 (FS.no rfl)
    generalize hE0 : eb e (fTT [6, a]) = E0 at *
    have loop : ∀ j i h1 e1, j + i = sx.2.2.length → Fq (FS trF) h h1 → LC h1 O U n B m f u → TRs h1 O m (lty u) e1 → eb E0 (fPL ((fdl m a).map fun t => (t, (0, false)))) = eb (eb e1 fgt) (fPL (((fdl m a).map fun t => (t, (0, false))).drop i)) → V X K 14 [.ref O, .int (bI false), .int (nI a), .int (nI i)] [] h1 := by
      intro j
      induction j with
      | zero =>
        intro i h1 e1 hi f1 l1 r1 ee
        have s1 := l1.1.1.1
        have r2 := l1.1.2.1
        have u0 := l1.1.2.2.1.1.1
        refine k_X25_pack_14 o ?_
        refine ufo_ok l1.1.2.2.1 l1.1.2.2.2 hk (by omega) ?_
        refine k_X25_pack_23 o (fun _ => ?_) (fun c => ?_)
        rotate_left
        · exact absurd ((nI_leI (by omega) (by omega)).mpr (by omega)) c
        refine k_X25_pack_76 o (fun _ => ?_) (fun c => absurd rfl c)
        refine k_X25_pack_88 o ?_
        refine kk h1 f1 ?_
        rw [ee, List.drop_eq_nil_iff.mpr (by simp; omega)]
        have : eb (eb e1 fgt) (fPL []) = eb e1 fgt := by
          cases e1 <;> rfl
        rw [this]
        exact r1.fg
      | succ j ih =>
        intro i h1 e1 hi f1 l1 r1 ee
        have s1 := l1.1.1.1
        have r2 := l1.1.2.1
        have u0 := l1.1.2.2.1.1.1
        refine k_X25_pack_14 o ?_
        refine ufo_ok l1.1.2.2.1 l1.1.2.2.2 hk (by omega) ?_
        refine k_X25_pack_23 o (fun c => ?_) (fun _ => ?_)
        · exact absurd ((nI_leI (by omega) (by omega)).mp c) (by omega)
        refine k_X25_pack_26 o (fun _ => ?_) (fun c => absurd rfl c)
        have hx : i < sx.2.2.length := by omega
        refine k_X25_pack_57 o ?_
        refine ufld_ok l1.1.2.2.1 l1.1.2.2.2 hk (List.getElem?_eq_getElem hx) (by omega) ?_
        refine k_X25_pack_67 o ?_
        refine lgive_ok (t := (sx.2.2[i]).1) l1.1.1 r1 (fun _ _ => ⟨rfl, (gf _ (List.getElem_mem hx)).ok⟩) (by omega) fun h2 f2 r3 => ?_
        refine k_X25_pack_70 o ?_
        rw [nI_add]
        have l2 : LC h2 O U n B m f u := l1.fr f2.1 (FS.no rfl)
        refine ih (i + 1) h2 _ (by omega) (f1.trans (f2.mono (FS.mono rfl))) l2 r3 ?_
        rw [ee]
        have hdr : ((fdl m a).map fun t => (t, ((0, false) : Og))).drop i = ((sx.2.2[i]).1, (0, false)) :: ((fdl m a).map fun t => (t, ((0, false) : Og))).drop (i + 1) := by
          rw [List.drop_eq_getElem_cons (by simp; omega), List.getElem_map]
          congr 2
          have := ef i hx
          rw [List.getElem?_eq_getElem (by omega)] at this
          exact Option.some.inj this
        rw [hdr, fPL_c (ogr_0 _)]
        have : eb (eb (eb e1 fgt) (fPt (sx.2.2[i]).1 (0, false))) fgt = eb (eb e1 (fPt (sx.2.2[i]).1 (0, false))) fgt := by
          cases e1 with
          | error w => rfl
          | ok x =>
            rw [eb_k, eb_k]
            unfold fgt fPt
            simp only [eb_k]
            cases pt (sx.2.2[i]).1 (ogr (sx.2.2[i]).1 (0, false)) x.2.1 <;> rfl
        rw [this]
    refine k_X25_pack_12 o ?_
    refine loop sx.2.2.length 0 h0 E0 rfl (f0.mono (FS.mono rfl)) l0 r0 ?_
    rw [List.drop_zero]
    cases E0 <;> rfl
