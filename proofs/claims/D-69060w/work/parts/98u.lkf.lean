/-! the twin's looker: a call -/
theorem lcal_ok {G : Gt} {d : Nat} {h : AH} {K : Outcome → AH → Prop} {O U n f g : Nat} {B : Nat → Nat} {m : Md} {u : Ux} {e : Except Nat Ts} (hs : LC h O U n B m f u) (gm : gM m) (hr : TRs h O m (lty u) e) (hg : g < m.2.2.2.2.2.length + m.2.2.2.1.length) (hd : 6 ≤ d) (kk : ∀ h', Fq (FS trF) h h' → TRs h' O m (lty u) (eb e (cO (cCall m u (lty u) g))) → K (.returned none) h') : MW G d e_X25_call [.ref O, .int (nI g)] h K := by
  refine st_X25_call fun X o hG hD _ => ?_
  subst hG; subst hD
  have s0 := hs.1.1.1
  have r0 := hs.1.2.1
  have u0 := hs.1.2.2.1.1.1
  have hu' := gm.2.2.2.2.1 u (List.mem_of_getElem? hs.2.1.1)
  have hu := hu'.2
  have hnn := hu.n
  obtain ⟨n0, n1, t0, t1, f7⟩ := fls_ok gm hg
  obtain ⟨hv, hh⟩ : ∃ v, h.I 3086 O = v := ⟨_, rfl⟩
  generalize hL : ((fls m g 0).map Prod.fst).reverse = L at *
  have hLl : L.length = (fls m g 0).length := by rw [← hL]; simp
  refine k_X25_call_0 o ?_
  refine umny_ok hs.1.2.2.1 hs.1.2.2.2 hg (by omega) (by omega) ?_
  refine k_X25_call_9 o ?_
  -- behind the taking
  have main : ∀ h1 e1, Fq (FS tkG) h h1 → LC h1 O U n B m f u → TRs h1 O m (lty u) e1 → eb e (fTL L) = eb e1 fgt → ∀ v4, V X K 48 [.ref O, .int (nI g), .int (nI (fls m g 0).length), .int (hv - nI (fls m g 0).length), v4, nov, nov, nov, nov, nov, nov, nov, nov] [] h1 := by
    intro h1 e1 f1 l1 r1 ee v4
    have s1 := l1.1.1.1
    have ff1 := f1.mono (FS.mono (l' := trF) rfl)
    cases e1 with
    | error w =>
      obtain ⟨z1, z2, -⟩ := id (r1 : TBd h1 O w)
      refine k_X25_call_48 o (fun c => absurd c (nI_nz z2)) (fun _ => ?_)
      refine k_X25_call_55 o ?_
      refine kk h1 ff1 ?_
      rw [cCall_er (by rw [hL]; exact ee)]
      exact r1
    | ok x1 =>
      obtain ⟨z, rfl, hz⟩ := eb_ok ee
      obtain ⟨q, hq, hz2⟩ := eb_ok hz
      obtain ⟨x1t, x1s, x1l⟩ := x1
      cases hz2
      rw [← hL] at hq
      have ekk := cCall_ok (u := u) (lt := lty u) hq
      rw [eb_k, ekk] at kk
      obtain ⟨es, el⟩ := tkL_app hq
      rw [hL, hLl] at el
      obtain ⟨p1, ⟨p2, p3, p4, p5⟩, p6, -⟩ := id (hr : TGd h O m (lty u) z)
      have hzl : z.2.1.length = q.2.length + (fls m g 0).length := by rw [es]; simp; omega
      rw [hh] at p2
      subst p2
      have eb0 : nI z.2.1.length - nI (fls m g 0).length = nI q.2.length := by rw [nI_sub (by omega), hzl, Nat.add_sub_cancel]
      rw [eb0]
      have hGV : GVo m q.1 := fun x hx => p5 x (by rw [es]; simp [hx])
      have rev : z.2.1.reverse = q.2.reverse ++ q.1 := by rw [es]; simp
      have rd : ∀ k y, q.1[k]? = some y → h.EJ 1811 (O + 7) (q.2.length + k) = lN (tyc y.1) ∧ h.EJ 1827 (O + 8) (q.2.length + k) = lN y.2.1 := fun k y hk => by
        obtain ⟨w1, w2, -⟩ := p3.at (q.2.length + k) y (by rw [rev, List.getElem?_append_right (by simp)]; simpa using hk)
        exact ⟨w1, w2⟩
      have bnd : ∀ k, k < (fls m g 0).length → IX (nI q.2.length + nI k) 200 (q.2.length + k) := fun k hk => by
        rw [nI_add]; exact IX.mk (by omega) (by omega)
      have z1 := (r1 : TGd h1 O m _ (x1t, q.2, z.2.2)).1
      refine k_X25_call_48 o (fun _ => ?_) (fun c => absurd rfl c)
      have r2 := l1.1.2.1
      have u1 := l1.1.2.2.1.1.1
      refine k_X25_call_56 o ?_
      refine uflg_ok l1.1.2.2.1 l1.1.2.2.2 hg (by omega) ?_
      -- resources
      have n74 : ∀ rs, rs = hsR (fgs m g) → V X K 74 [.ref O, .int (nI g), .int (nI (fls m g 0).length), .int (nI q.2.length), v4, nov, nov, nov, nov, nov, nov, nov, nov] [.int (bI rs)] h1 := by
        intro rs hrs
        have n103 : ∀ v : Int32, v = bI (!hsR (fgs m g) || hsR u.1) → V X K 103 [.ref O, .int (nI g), .int (nI (fls m g 0).length), .int (nI q.2.length), .int (bI rs), nov, nov, nov, nov, nov, nov, nov, nov] [.int v, .ref O] h1 := by
          intro v hv
          refine k_X25_call_103 o ?_
          refine lnee_ok (b := fun _ => !hsR (fgs m g) || hsR u.1) s1 r1.fg (fun _ _ => hv) (by decide) (by omega) fun h2 f2 r2' => ?_
          have l2 : LC h2 O U n B m f u := l1.fr f2.1 (FS.no rfl)
          rw [show eb (Except.ok (x1t, q.2, z.2.2)) fgt = .ok (none, q.2, z.2.2) from rfl] at r2'
          generalize hE2 : eb (Except.ok ((none, q.2, z.2.2) : Ts)) (fN (fun _ => !hsR (fgs m g) || hsR u.1) 15) = E2 at *
          have st2 : ∀ x, E2 = .ok x → x = (none, q.2, z.2.2) := fun x hx => by
            obtain ⟨w, -⟩ := fN_ok (hE2.trans hx)
            exact (Except.ok.inj w).symm
          have arr : ∀ h3, Fq (FS [3090]) h2 h3 → ∀ k y, q.1[k]? = some y → h3.EJ 1811 (O + 7) (q.2.length + k) = lN (tyc y.1) ∧ h3.EJ 1827 (O + 8) (q.2.length + k) = lN y.2.1 := fun h3 f3 k y hk => by
            rw [f3.1.EJ (FS.n rfl), f2.1.EJ (FS.n rfl), f1.1.EJ (FS.n rfl), f3.1.EJ (FS.n rfl), f2.1.EJ (FS.n rfl), f1.1.EJ (FS.n rfl)]
            exact rd k y hk
          -- the end: pushing
          have pushes : ∀ h3 E3, Fq (FS trF) h h3 → LC h3 O U n B m f u → TRs h3 O m (lty u) E3 → (∀ h', Fq (FS trF) h h' → TRs h' O m (lty u) (eb E3 (fPL (gvs m g q.1))) → K (.returned none) h') → ∀ v9, V X K 328 [.ref O, .int (nI g), .int (nI (fls m g 0).length), .int (nI q.2.length), .int (bI rs), .long (lN (gAll q.1)), nov, .long (lN (gWr q.1)), nov, v9, .int (nI 63), nov, nov] [] h3 := by
            intro h3 E3 f3 l3 r3 k3 v9
            have loop : ∀ j i h4 e4 v11, j + i = (fls m g 1).length → Fq (FS trF) h h4 → LC h4 O U n B m f u → TRs h4 O m (lty u) e4 → eb E3 (fPL (gvs m g q.1)) = eb (eb e4 fgt) (fPL ((gvs m g q.1).drop i)) → V X K 331 [.ref O, .int (nI g), .int (nI (fls m g 0).length), .int (nI q.2.length), .int (bI rs), .long (lN (gAll q.1)), nov, .long (lN (gWr q.1)), nov, v9, .int (nI i), v11, nov] [] h4 := by
              intro j
              induction j with
              | zero =>
                intro i h4 e4 v11 hi f4 l4 r4 ee4
                have s4 := l4.1.1.1
                have q4 := l4.1.2.1
                have u4 := l4.1.2.2.1.1.1
                refine k_X25_call_331 o ?_
                refine umny_ok l4.1.2.2.1 l4.1.2.2.2 hg (by omega) (by omega) ?_
                refine k_X25_call_342 o (fun _ => ?_) (fun c => absurd ((nI_leI (by omega) (by omega)).mpr (by omega)) c)
                refine k_X25_call_386 o ?_
                refine k3 h4 f4 ?_
                rw [ee4, List.drop_eq_nil_iff.mpr (by unfold gvs; simp; omega)]
                have : eb (eb e4 fgt) (fPL []) = eb e4 fgt := by cases e4 <;> rfl
                rw [this]
                exact r4.fg
              | succ j ih =>
                intro i h4 e4 v11 hi f4 l4 r4 ee4
                have s4 := l4.1.1.1
                have q4 := l4.1.2.1
                have u4 := l4.1.2.2.1.1.1
                have hil : i < (fls m g 1).length := by omega
                have hx : (fls m g 1)[i]? = some (fls m g 1)[i] := List.getElem?_eq_getElem hil
                have hgt := t1 _ (List.getElem_mem hil)
                generalize (fls m g 1)[i] = tx at *
                refine k_X25_call_331 o ?_
                refine umny_ok l4.1.2.2.1 l4.1.2.2.2 hg (by omega) (by omega) ?_
                refine k_X25_call_342 o (fun c => absurd ((nI_leI (by omega) (by omega)).mp c) (by omega)) (fun _ => ?_)
                refine k_X25_call_345 o ?_
                refine ulst_ok l4.1.2.2.1 l4.1.2.2.2 hg (by omega) hx (by omega) ?_
                refine k_X25_call_356 o ?_
                refine lwri_ok hgt.ok.tv.1 (by omega) ?_
                have n376 : ∀ a : Nat, a = (if isWr tx.1 then gWr q.1 else gAll q.1) → V X K 376 [.ref O, .int (nI g), .int (nI (fls m g 0).length), .int (nI q.2.length), .int (bI rs), .long (lN (gAll q.1)), nov, .long (lN (gWr q.1)), nov, v9, .int (nI i), .long (lN (tyc tx.1)), nov] [.long (lN a), .long (lN (tyc tx.1)), .ref O] h4 := by
                  intro a ha
                  have ha63 : a < 9223372036854775808 := by
                    rw [ha]; split
                    · exact gWr_lt hGV
                    · exact gAll_lt hGV
                  refine k_X25_call_376 o ?_
                  refine lpush_ok (t := tx.1) (og := (a, true)) l4.1.1 r4 (fun _ _ => ⟨rfl, rfl, rfl, hgt.ok, ha63⟩) (by omega) fun h5 f5 r5 => ?_
                  refine k_X25_call_380 o ?_
                  rw [nI_add]
                  have l5 : LC h5 O U n B m f u := l4.fr f5.1 (FS.no rfl)
                  refine ih (i + 1) h5 _ _ (by omega) (f4.trans (f5.mono (FS.mono rfl))) l5 r5 ?_
                  rw [ee4]
                  have hdr : (gvs m g q.1).drop i = (tx.1, ogr tx.1 (a, true)) :: (gvs m g q.1).drop (i + 1) := by
                    unfold gvs
                    rw [List.drop_eq_getElem_cons (by simp; omega), List.getElem_map]
                    have : (fls m g 1)[i] = tx := by rw [List.getElem?_eq_getElem hil] at hx; exact Option.some.inj hx
                    rw [this, ha]
                  rw [hdr, fPL_o]
                  have : eb (eb (eb e4 fgt) (fPt tx.1 (a, true))) fgt = eb (eb e4 (fPt tx.1 (a, true))) fgt := by
                    cases e4 with
                    | error w => rfl
                    | ok x =>
                      rw [eb_k, eb_k]
                      unfold fgt fPt
                      simp only [eb_k]
                      cases pt tx.1 (ogr tx.1 (a, true)) x.2.1 <;> rfl
                  rw [this]
                cases hw : isWr tx.1 with
                | false =>
                  refine k_X25_call_366 o (fun _ => ?_) (fun c => absurd rfl c)
                  refine k_X25_call_374 o ?_
                  exact n376 (gAll q.1) (by rw [hw]; rfl)
                | true =>
                  refine k_X25_call_366 o (fun c => absurd (show bI true = 0 from c) (by decide)) (fun _ => ?_)
                  refine k_X25_call_369 o ?_
                  exact n376 (gWr q.1) (by rw [hw]; rfl)
            refine k_X25_call_328 o ?_
            refine loop (fls m g 1).length 0 h3 E3 _ rfl f3 l3 r3 ?_
            rw [List.drop_zero]
            cases E3 with
            | error w => rfl
            | ok x => rfl
          -- bits of globals
          have bits : ∀ h3 E3, Fq (FS [3090]) h2 h3 → TRs h3 O m (lty u) E3 → (∀ x, E3 = .ok x → x = (none, q.2, z.2.2)) → E3 = eb E2 (fN (fun _ => gAl (lty u) q.2 z.2.2 q.1) 6) → ∀ v9 v10, V X K 251 [.ref O, .int (nI g), .int (nI (fls m g 0).length), .int (nI q.2.length), .int (bI rs), .long (lN (gAll q.1)), nov, .long (lN (gWr q.1)), nov, v9, v10, nov, nov] [] h3 := by
            intro h3 E3 f3 r3 st3 eE3 v9 v10
            have l3 : LC h3 O U n B m f u := l2.fr f3.1 (FS.no rfl)
            have s3 := l3.1.1.1
            have ff3 := (ff1.trans (f2.mono (FS.mono (l' := trF) rfl))).trans (f3.mono (FS.mono (l' := trF) rfl))
            have hga := gAll_lt hGV
            have e48 : (((lN (gAll q.1)).toUInt64 >>> ((nI 48).toInt64.toUInt64 &&& Int64.toUInt64 63)).toInt64) = 0 ↔ (gAll q.1 &&& GLB) = 0 := by
              have e1 : un (((lN (gAll q.1)).toUInt64 >>> ((nI 48).toInt64.toUInt64 &&& Int64.toUInt64 63)).toInt64) = gAll q.1 / 2 ^ 48 := by
                rw [un_ushr _ (by omega), un_l (by omega), Nat.shiftRight_eq_div_pow]
              have e2 : (gAll q.1 &&& GLB) = gAll q.1 / 2 ^ 48 * 2 ^ 48 := by
                refine Nat.eq_of_testBit_eq fun i => ?_
                have : GLB = (2 ^ 15 - 1) * 2 ^ 48 := rfl
                rw [this, Nat.testBit_and, Nat.testBit_mul_two_pow, Nat.testBit_mul_two_pow, Nat.testBit_two_pow_sub_one, Nat.testBit_div_two_pow]
                by_cases c : 48 ≤ i
                · rw [decide_eq_true c, show i - 48 + 48 = i by omega]
                  by_cases c2 : i < 63
                  · rw [decide_eq_true (show i - 48 < 15 by omega)]; simp
                  · have : (gAll q.1).testBit i = false := Nat.testBit_lt_two_pow (Nat.lt_of_lt_of_le (show gAll q.1 < 2 ^ 63 from hga) (Nat.pow_le_pow_right (by omega) (by omega)))
                    rw [this]; simp
                · rw [decide_eq_false c]; simp
              constructor
              · intro z
                have := congrArg un z
                rw [e1] at this
                rw [e2, this]; rfl
              · intro z
                refine un_inj ?_
                rw [e1]
                rw [e2] at z
                show gAll q.1 / 2 ^ 48 = 0
                omega
            -- the last need
            have n323 : ∀ v : Int32, (∀ x, E3 = .ok x → v = bI (!hsR (fgs m g) || ((gAll q.1 &&& GLB) == 0 && !liv (lty u) q.2 z.2.2 GLB 0))) → ∀ v9, V X K 323 [.ref O, .int (nI g), .int (nI (fls m g 0).length), .int (nI q.2.length), .int (bI rs), .long (lN (gAll q.1)), nov, .long (lN (gWr q.1)), nov, v9, .int (nI 63), nov, nov] [.int v, .ref O] h3 := by
              intro v hv v9
              refine k_X25_call_323 o ?_
              refine lnee_ok (b := fun _ => !hsR (fgs m g) || ((gAll q.1 &&& GLB) == 0 && !liv (lty u) q.2 z.2.2 GLB 0)) s3 r3 hv (by decide) (by omega) fun h4 f4 r4 => ?_
              have l4 : LC h4 O U n B m f u := l3.fr f4.1 (FS.no rfl)
              refine pushes h4 _ (ff3.trans (f4.mono (FS.mono rfl))) l4 r4 (fun h' f' r' => kk h' f' ?_) _
              rw [eE3] at r'
              exact r'
            have fin : ∀ b, (∀ x, E3 = .ok x → b = ((gAll q.1 &&& GLB) != 0 || liv (lty u) q.2 z.2.2 GLB 0)) → V X K 307 [.ref O, .int (nI g), .int (nI (fls m g 0).length), .int (nI q.2.length), .int (bI rs), .long (lN (gAll q.1)), nov, .long (lN (gWr q.1)), nov, .int (bI b), .int (nI 63), nov, nov] [] h3 := by
              intro b hb
              cases rs with
              | false =>
                refine k_X25_call_307 o (fun _ => ?_) (fun c => absurd rfl c)
                refine k_X25_call_318 o ?_
                exact n323 _ (fun x hx => by rw [← hrs]; rfl) _
              | true =>
                refine k_X25_call_307 o (fun c => absurd (show bI true = 0 from c) (by decide)) (fun _ => ?_)
                have key : ∀ x, E3 = .ok x → (!hsR (fgs m g) || ((gAll q.1 &&& GLB) == 0 && !liv (lty u) q.2 z.2.2 GLB 0)) = !b := fun x hx => by
                  rw [hb x hx, ← hrs, Bool.not_or]
                  simp [bne]
                cases b with
                | true =>
                  refine k_X25_call_313 o (fun _ => ?_) (fun c => absurd (show bI true = 0 from c) (by decide))
                  refine k_X25_call_322 o ?_
                  exact n323 _ (fun x hx => by rw [key x hx]; rfl) _
                | false =>
                  refine k_X25_call_313 o (fun c => absurd rfl c) (fun _ => ?_)
                  refine k_X25_call_318 o ?_
                  exact n323 _ (fun x hx => by rw [key x hx]; rfl) _
            have loop : ∀ j i b, j + i = 15 → (∀ x, E3 = .ok x → b = ((gAll q.1 &&& GLB) != 0 || (List.range i).any fun t => liv (lty u) q.2 z.2.2 (2 ^ (48 + t)) 0)) → V X K 272 [.ref O, .int (nI g), .int (nI (fls m g 0).length), .int (nI q.2.length), .int (bI rs), .long (lN (gAll q.1)), nov, .long (lN (gWr q.1)), nov, .int (bI b), .int (nI (48 + i)), nov, nov] [] h3 := by
              intro j
              induction j with
              | zero =>
                intro i b hi hb
                have hi : i = 15 := by omega
                subst hi
                refine k_X25_call_272 o (fun _ => ?_) (fun c => absurd (show nI 63 ≤ nI 63 by decide) c)
                exact fin b fun x hx => by rw [hb x hx, liv_glb]
              | succ j ih =>
                intro i b hi hb
                refine k_X25_call_272 o (fun c => absurd ((nI_leI (by omega) (by omega)).mp c) (by omega)) (fun _ => ?_)
                have nx : ∀ b', (∀ x, E3 = .ok x → b' = (b || liv (lty u) q.2 z.2.2 (2 ^ (48 + i)) 0)) → V X K 299 [.ref O, .int (nI g), .int (nI (fls m g 0).length), .int (nI q.2.length), .int (bI rs), .long (lN (gAll q.1)), nov, .long (lN (gWr q.1)), nov, .int (bI b), .int (nI (48 + i)), nov, nov] [.int (bI b')] h3 := by
                  intro b' hb'
                  refine k_X25_call_299 o ?_
                  rw [nI_add]
                  refine ih (i + 1) b' (by omega) fun x hx => ?_
                  rw [hb' x hx, hb x hx, List.range_succ, List.any_append]
                  simp [Bool.or_assoc]
                cases b with
                | true =>
                  refine k_X25_call_279 o (fun _ => ?_) (fun c => absurd (show bI true = 0 from c) (by decide))
                  refine k_X25_call_294 o ?_
                  exact nx true fun x hx => by simp
                | false =>
                  refine k_X25_call_279 o (fun c => absurd rfl c) (fun _ => ?_)
                  refine k_X25_call_284 o ?_
                  refine lptd_ok (w := false) l3 hu r3 (by omega) (by omega) fun b' hb' => ?_
                  have hb2 : ∀ x, E3 = .ok x → b' = liv (lty u) q.2 z.2.2 (2 ^ (48 + i)) 0 := fun x hx => by
                    have := hb' x hx
                    rw [st3 x hx] at this
                    exact this
                  cases b' with
                  | false =>
                    refine k_X25_call_291 o (fun _ => ?_) (fun c => absurd rfl c)
                    refine k_X25_call_298 o ?_
                    exact nx false fun x hx => by rw [← hb2 x hx]; rfl
                  | true =>
                    refine k_X25_call_291 o (fun c => absurd (show bI true = 0 from c) (by decide)) (fun _ => ?_)
                    refine k_X25_call_294 o ?_
                    exact nx true fun x hx => by rw [← hb2 x hx]; rfl
            refine k_X25_call_251 o (fun c => ?_) (fun c => ?_)
            · have c := e48.mp c
              refine k_X25_call_265 o ?_
              refine k_X25_call_266 o ?_
              exact loop 15 0 false rfl fun x hx => by rw [c]; rfl
            · have c : ¬ (gAll q.1 &&& GLB) = 0 := fun z => c (e48.mpr z)
              refine k_X25_call_261 o ?_
              refine k_X25_call_266 o ?_
              exact loop 15 0 true rfl fun x hx => by simp [c]
          -- one after the other
          have loop : ∀ j k h3 E3 v10, j + k = (fls m g 0).length → Fq (FS [3090]) h2 h3 → TRs h3 O m (lty u) E3 → E3 = eb E2 (fN (fun _ => (q.1.zipIdx.take k).all fun x => !isWr x.1.1 || (!liv (lty u) q.2 z.2.2 x.1.2.1 2 && q.1.zipIdx.all fun y => y.2 == x.2 || (y.1.2.1 &&& x.1.2.1) == 0)) 6) → V X K 117 [.ref O, .int (nI g), .int (nI (fls m g 0).length), .int (nI q.2.length), .int (bI rs), .long (lN (gAll (q.1.take k))), nov, .long (lN (gWr (q.1.take k))), nov, .int (nI k), v10, nov, nov] [] h3 := by
            intro j
            induction j with
            | zero =>
              intro k h3 E3 v10 hk f3 r3 eE3
              have hk : k = q.1.length := by omega
              refine k_X25_call_117 o (fun _ => ?_) (fun c => absurd ((nI_leI (by omega) (by omega)).mpr (by omega)) c)
              rw [hk, List.take_of_length_le (Nat.le_refl _)]
              refine bits h3 E3 f3 r3 (fun x hx => ?_) ?_ _ _
              · obtain ⟨w, -⟩ := fN_ok (eE3.symm.trans hx)
                exact st2 x w
              · rw [eE3, hk]
                simp only [← gAl_t]
            | succ j ih =>
              intro k h3 E3 v10 hk f3 r3 eE3
              have hkl : k < q.1.length := by omega
              have hy : q.1[k]? = some q.1[k] := List.getElem?_eq_getElem hkl
              generalize q.1[k] = y at *
              obtain ⟨w1, w2⟩ := arr h3 f3 k y hy
              have ixk := bnd k (by omega)
              obtain ⟨y1, y2, y3⟩ := hGV y (List.mem_of_getElem? hy)
              have l3 : LC h3 O U n B m f u := l2.fr f3.1 (FS.no rfl)
              obtain ⟨x0, -, ⟨x7, x8, -⟩, -, x17, x18, -⟩ := id l3.1.1
              have eAl : (lN (gAll (q.1.take k)) ||| lN y.2.1) = lN (gAll (q.1.take (k + 1))) := by
                have hGk : GVo m (q.1.take k) := fun x hx => hGV x (List.mem_of_mem_take hx)
                have := gAll_lt hGk
                have e : gAll (q.1.take (k + 1)) = gAll (q.1.take k) ||| y.2.1 := by rw [List.take_add_one, hy]; exact gAll_s _ _
                have l63 : gAll (q.1.take k) ||| y.2.1 < 2 ^ 63 := Nat.or_lt_two_pow (n := 63) this y2
                exact un_inj (by rw [un_or, e, un_l (by omega), un_l (by omega), un_l (by omega)])
              have hzi : q.1.zipIdx[k]? = some (y, k) := by rw [List.getElem?_zipIdx, hy]; simp
              refine k_X25_call_117 o (fun c => absurd ((nI_leI (by omega) (by omega)).mp c) (by omega)) (fun _ => ?_)
              refine k_X25_call_123 o ?_
              rw [eAl]
              refine lwri_ok y1.tv.1 (by omega) ?_
              cases hw : isWr y.1 with
              | false =>
                refine k_X25_call_149 o (fun c => absurd rfl c) (fun _ => ?_)
                refine k_X25_call_152 o ?_
                refine k_X25_call_245 o ?_
                rw [nI_add]
                have eW : gWr (q.1.take k) = gWr (q.1.take (k + 1)) := by
                  rw [List.take_add_one, hy]
                  show _ = gWr (q.1.take k ++ [y])
                  rw [gWr_s, hw]; rfl
                rw [eW]
                refine ih (k + 1) h3 E3 _ (by omega) f3 r3 ?_
                rw [eE3]
                congr 2
                funext _
                rw [all_take hzi]
                simp [hw]
              | true =>
                have eW : (lN (gWr (q.1.take k)) ||| lN y.2.1) = lN (gWr (q.1.take (k + 1))) := by
                  have hGk : GVo m (q.1.take k) := fun x hx => hGV x (List.mem_of_mem_take hx)
                  have := gWr_lt hGk
                  have e : gWr (q.1.take (k + 1)) = gWr (q.1.take k) ||| y.2.1 := by
                    rw [List.take_add_one, hy]
                    show gWr (q.1.take k ++ [y]) = _
                    rw [gWr_s, hw]; rfl
                  have l63 : gWr (q.1.take k) ||| y.2.1 < 2 ^ 63 := Nat.or_lt_two_pow (n := 63) this y2
                  exact un_inj (by rw [un_or, e, un_l (by omega), un_l (by omega), un_l (by omega)])
                refine k_X25_call_149 o (fun _ => ?_) (fun c => absurd (show bI true = 0 from c) (by decide))
                refine k_X25_call_155 o ?_
                rw [eW]
                refine lsol_ok l3 hu r3 (by omega) fun bs hbs => ?_
                rw [un_l (by omega)] at hbs
                refine k_X25_call_183 o ?_
                have st3 : ∀ x, E3 = .ok x → x = (none, q.2, z.2.2) := fun x hx => by
                  obtain ⟨w, -⟩ := fN_ok (eE3.symm.trans hx)
                  exact st2 x w
                refine lnee_ok (b := fun _ => !liv (lty u) q.2 z.2.2 y.2.1 2) x0 r3 (fun x hx => by rw [hbs x hx, st3 x hx]) (by decide) (by omega) fun h4 f4 r4 => ?_
                rw [eE3, fN_fN] at r4
                have ff4 := f3.trans f4
                have inner : ∀ j' i h5, j' + i = (fls m g 0).length → Fq (FS [3090]) h2 h5 → TRs h5 O m (lty u) (eb E2 (fN (fun _ => ((q.1.zipIdx.take k).all fun x => !isWr x.1.1 || (!liv (lty u) q.2 z.2.2 x.1.2.1 2 && q.1.zipIdx.all fun y => y.2 == x.2 || (y.1.2.1 &&& x.1.2.1) == 0)) && (!liv (lty u) q.2 z.2.2 y.2.1 2 && (q.1.zipIdx.take i).all fun w => w.2 == k || (w.1.2.1 &&& y.2.1) == 0)) 6)) → V X K 191 [.ref O, .int (nI g), .int (nI (fls m g 0).length), .int (nI q.2.length), .int (bI rs), .long (lN (gAll (q.1.take (k + 1)))), nov, .long (lN (gWr (q.1.take (k + 1)))), nov, .int (nI k), .int (nI i), nov, nov] [] h5 := by
                  intro j'
                  induction j' with
                  | zero =>
                    intro i h5 hi f5 r5
                    refine k_X25_call_191 o (fun _ => ?_) (fun c => absurd ((nI_leI (by omega) (by omega)).mpr (by omega)) c)
                    refine k_X25_call_245 o ?_
                    rw [nI_add]
                    refine ih (k + 1) h5 _ _ (by omega) f5 r5 ?_
                    congr 2
                    funext _
                    rw [all_take hzi, List.take_of_length_le (show q.1.zipIdx.length ≤ i by simp; omega)]
                    simp [hw]
                  | succ j' ih' =>
                    intro i h5 hi f5 r5
                    have l5 : LC h5 O U n B m f u := l2.fr f5.1 (FS.no rfl)
                    obtain ⟨x0', -, ⟨x7', x8', -⟩, -, x17', x18', -⟩ := id l5.1.1
                    have hil : i < q.1.length := by omega
                    have hyi : q.1[i]? = some q.1[i] := List.getElem?_eq_getElem hil
                    generalize q.1[i] = yi at *
                    obtain ⟨w1i, w2i⟩ := arr h5 f5 i yi hyi
                    obtain ⟨w1k, w2k⟩ := arr h5 f5 k y hy
                    have ixi := bnd i (by omega)
                    obtain ⟨yi1, yi2, yi3⟩ := hGV yi (List.mem_of_getElem? hyi)
                    have hzii : q.1.zipIdx[i]? = some (yi, i) := by rw [List.getElem?_zipIdx, hyi]; simp
                    refine k_X25_call_191 o (fun c => absurd ((nI_leI (by omega) (by omega)).mp c) (by omega)) (fun _ => ?_)
                    have nx : ∀ b, b = (i == k || (yi.2.1 &&& y.2.1) == 0) → V X K 234 [.ref O, .int (nI g), .int (nI (fls m g 0).length), .int (nI q.2.length), .int (bI rs), .long (lN (gAll (q.1.take (k + 1)))), nov, .long (lN (gWr (q.1.take (k + 1)))), nov, .int (nI k), .int (nI i), nov, nov] [.int (bI b), .ref O] h5 := by
                      intro b hb
                      refine k_X25_call_234 o ?_
                      refine lnee_ok (b := fun _ => b) x0' r5 (fun _ _ => rfl) (by decide) (by omega) fun h6 f6 r6 => ?_
                      refine k_X25_call_239 o ?_
                      rw [nI_add]
                      refine ih' (i + 1) h6 (by omega) (f5.trans f6) ?_
                      rw [fN_fN] at r6
                      simp only [all_take hzii]
                      rw [hb] at r6
                      simp only [Bool.and_assoc] at r6 ⊢
                      exact r6
                    refine k_X25_call_197 o (fun c => ?_) (fun c => ?_)
                    · have c := (nI_eq (by omega) (by omega)).mp c
                      refine k_X25_call_229 o ?_
                      exact nx true (by rw [c]; simp)
                    · have c : ¬ i = k := fun z => c (by rw [z])
                      have em : (lN yi.2.1 &&& lN y.2.1) = (0 : Int64) ↔ (yi.2.1 &&& y.2.1) = 0 := by
                        rw [og_meet yi2, un_l (by omega)]
                      refine k_X25_call_205 o (fun c2 => ?_) (fun c2 => ?_)
                      · have c2 : ¬ (yi.2.1 &&& y.2.1) = 0 := fun z => c2 (em.mpr z)
                        refine k_X25_call_233 o ?_
                        exact nx false (by simp [c, c2])
                      · have c2 := em.mp c2
                        refine k_X25_call_229 o ?_
                        exact nx true (by simp [c2])
                refine k_X25_call_188 o ?_
                refine inner (fls m g 0).length 0 h4 rfl ff4 ?_
                simp only [List.take_zero, List.all_nil, Bool.and_true]
                exact r4
          refine k_X25_call_108 o ?_
          refine loop (fls m g 0).length 0 h2 E2 _ rfl (Fq.refl h2) r2' ?_
          cases E2 <;> rfl
        cases rs with
        | false =>
          refine k_X25_call_74 o (fun _ => ?_) (fun c => absurd rfl c)
          refine k_X25_call_98 o ?_
          exact n103 _ (by rw [← hrs]; rfl)
        | true =>
          refine k_X25_call_74 o (fun c => absurd (show bI true = 0 from c) (by decide)) (fun _ => ?_)
          have v2 := l1.2.1.2.1
          have hf : f < m.2.2.2.2.2.length + m.2.2.2.1.length := by have := get_lt hs.2.1.1; omega
          have efl : fgs m f = u.1 := by unfold fgs; rw [if_pos (get_lt hs.2.1.1), hs.2.1.1]
          have hu7 := hu'.1
          refine k_X25_call_82 o ?_
          refine uflg_ok l1.1.2.2.1 l1.1.2.2.2 hf (by omega) ?_
          rw [efl]
          refine k_X25_call_93 o (fun c => ?_) (fun c => ?_)
          · have c := (bit4 (a := u.1) (by omega) 4 (by omega)).mp c
            refine k_X25_call_102 o ?_
            exact n103 _ (by rw [← hrs]; unfold hsR; rw [c]; rfl)
          · have c : ¬ u.1 &&& 4 = 0 := fun z => c ((bit4 (a := u.1) (by omega) 4 (by omega)).mpr z)
            refine k_X25_call_98 o ?_
            have hc : hsR u.1 = true := by unfold hsR; simp [c]
            exact n103 _ (by rw [← hrs, hc]; rfl)
      refine k_X25_call_64 o (fun c => ?_) (fun c => ?_)
      · have c := (bit4 (a := fgs m g) (by omega) 4 (by omega)).mp c
        refine k_X25_call_73 o ?_
        exact n74 false (by unfold hsR; rw [c]; rfl)
      · have c : ¬ fgs m g &&& 4 = 0 := fun z => c ((bit4 (a := fgs m g) (by omega) 4 (by omega)).mpr z)
        refine k_X25_call_69 o ?_
        exact n74 true (by unfold hsR; simp [c])
  -- the taking
  have loop : ∀ j h1 e1, j ≤ (fls m g 0).length → Fq (FS tkG) h h1 → LC h1 O U n B m f u → TRs h1 O m (lty u) e1 → eb e (fTL L) = eb (eb e1 fgt) (fTL (L.drop ((fls m g 0).length - j))) → V X K 22 [.ref O, .int (nI g), .int (nI (fls m g 0).length), .int (hv - nI (fls m g 0).length), .int (nI j - nI 1), nov, nov, nov, nov, nov, nov, nov, nov] [] h1 := by
    intro j
    induction j with
    | zero =>
      intro h1 e1 hj f1 l1 r1 ee
      refine k_X25_call_22 o (fun _ => ?_) (fun c => absurd (show nI 0 - nI 1 < 0 by decide) c)
      refine main h1 e1 f1 l1 r1 ?_ _
      rw [ee, Nat.sub_zero, List.drop_eq_nil_iff.mpr (by omega)]
      cases e1 <;> rfl
    | succ j ih =>
      intro h1 e1 hj f1 l1 r1 ee
      have s1 := l1.1.1.1
      have r2 := l1.1.2.1
      have u1 := l1.1.2.2.1.1.1
      have hjl : j < (fls m g 0).length := by omega
      have hx : (fls m g 0)[j]? = some (fls m g 0)[j] := List.getElem?_eq_getElem hjl
      have hgt := t0 _ (List.getElem_mem hjl)
      rw [nI_sub (by omega), Nat.add_sub_cancel]
      refine k_X25_call_22 o (fun c => ?_) (fun _ => ?_)
      · have c : nI j < nI 0 := c
        exact absurd ((nI_ltI (by omega) (by omega)).mp c) (by omega)
      refine k_X25_call_27 o ?_
      refine ulst_ok l1.1.2.2.1 l1.1.2.2.2 hg (by omega) hx (by omega) ?_
      refine k_X25_call_39 o ?_
      refine ltakT_ok (t := ((fls m g 0)[j]).1) l1.1.1 r1 (fun _ _ => ⟨rfl, hgt.ok.tv.1⟩) (by omega) fun h2 f2 r3 => ?_
      refine k_X25_call_42 o ?_
      have l2 : LC h2 O U n B m f u := l1.fr f2.1 (FS.no rfl)
      have em : nI j + (-1 : Int32) = nI j - nI 1 := by rw [Int32.sub_eq_add_neg]; rfl
      rw [em]
      refine ih h2 _ (by omega) (f1.trans f2) l2 r3 ?_
      rw [ee]
      have hdr : L.drop ((fls m g 0).length - (j + 1)) = ((fls m g 0)[j]).1 :: L.drop ((fls m g 0).length - j) := by
        rw [List.drop_eq_getElem_cons (by omega)]
        congr 1
        · subst hL
          rw [List.getElem_reverse, List.getElem_map]
          congr 2
          simp
          omega
        · congr 1; omega
      rw [hdr, fTL_c]
      have : eb (eb e1 fgt) (fTT ((fls m g 0)[j]).1) = eb e1 (fTT ((fls m g 0)[j]).1) := by cases e1 <;> rfl
      rw [this]
  refine loop (fls m g 0).length h e (Nat.le_refl _) (Fq.refl h) hs hr ?_
  rw [Nat.sub_self, List.drop_zero]
  cases e <;> rfl
