/-! a worker of the component's: vectors, the walk -/
section
variable {G : Gt} {B d : Nat} {h : AH} {l : List Nat} {o : Lc} {wi W A q BA X tt lim SP t : Nat} {snd : Int64} {MA : Ma} {s : Ms} {K : Outcome → AH → Prop}
theorem mnd_t {b : Bool} {w : Int64} {k : Rz} (h : b = true) : mnd b w s k = k := by unfold mnd; rw [if_pos h]
theorem mnd_f {b : Bool} {w : Int64} {k : Rz} (h : b = false) : mnd b w s k = mst 2 w s := by
  unfold mnd; rw [h]; exact if_neg (by decide)
theorem cvector_ok {op b : Nat} (H : OPR G B h A W q BA X tt snd lim SP wi MA l o s) (ho : 52 ≤ op ∧ op < 59) (hb : b < 256) (hT : ∀ v, (Sum.inl v : It) ∈ stk s → VW v) (hR : ∀ r, (Sum.inr r : It) ∈ stk s → ∀ v, drf s r = some v → VW v ∧ (v.1 = 7 → ∀ w ∈ flo v.2.2, ∀ w' ∈ flo v.2.2, w.1 = w'.1)) (h64 : op = 52 → ∀ k vs, tkV b (stk s) = some (vs, k) → k.length < 64) (hav : lim + 8 ≤ av G h l + gas s) (hd : 50 ≤ d) (hne : oVec lim op b s ≠ none) (kk : RZ K G B h A W q BA X tt snd lim SP wi MA o (oVec lim op b s)) : MW G d e_X1_vector [.ref A, .int (nI op), .int (nI b)] h K := by
  refine st_X1_vector fun XX oo hG hD _ => ?_
  subst hG; subst hD
  obtain ⟨c, v, w, hf, hg, hw⟩ := id H
  obtain ⟨t, ht⟩ : ∃ t, t + 1 = s.1 := ⟨s.1 - 1, by have := w.1.2.2.1; omega⟩
  rw [show s.1 - 1 = t by omega] at hf
  have t0 := c.1.1
  have r1 := c.1.2.1
  have h64' := H.hd
  unfold oVec at hne kk
  refine k_X1_vector_0 oo ?_
  by_cases c52 : op = 52
  · subst c52
    rw [if_pos rfl] at hne kk
    show V XX K 40 _ _ _
    refine k_X1_vector_40 oo ?_
    refine cpay_ok H (by omega) (by omega) (fun h1 s1 u1 H1 es1 av1 em => ?_) (fun em => by rw [em] at kk; exact kk)
    rw [em] at kk hne
    subst es1
    cases htk : tkV b (stk s) with
    | none =>
      simp only [show stk (sG s (gas s + b)) = stk s from rfl, htk] at hne
      exact absurd rfl hne
    | some p =>
      obtain ⟨vs, k⟩ := p
      simp only [show stk (sG s (gas s + b)) = stk s from rfl, htk] at kk
      have kk : ∀ h' l' o', OUT wi W h h' o o' → OPR XX.G B h' A W q BA X tt snd lim SP wi MA l' o' (sK (sG s (gas s + b)) (.inl (7, (0, 0), fof vs.reverse) :: k)) → K (.returned none) h' := kk
      have hg1 : gas s + b ≤ lim := H1.2.2.2.2.1
      have t1 := H1.1.1.1
      have r1' := H1.1.1.2.1
      have tq := H1.2.1.1.1
      refine k_X1_vector_45 oo ?_
      refine wtake_ok H1 (by omega) (by omega) fun h2 a l2 sl u2 H2 a2 ta => ?_
      have t2 := H2.1.1.1
      refine k_X1_vector_54 oo ?_
      refine cgather_ok (vs := vs) (k := k) H2 uO_s htk fun h3 o3 z u3 H3 z1 z2 z3 a3 => ?_
      have t3 := H3.1.1.1
      refine k_X1_vector_61 oo ?_
      rw [← z2]
      refine H3.pushT (by rw [stk_K]; exact h64 rfl k vs htk) z1 fun h4 o4 u4 H4 _ => ?_
      rw [z3] at H4
      have em : mpu (sK (sG s (gas s + b)) k) (.inl (7, (0, 0), fof vs.reverse)) = sK (sG s (gas s + b)) (.inl (7, (0, 0), fof vs.reverse) :: k) := by unfold mpu; rw [stk_K, stkK]
      rw [em] at H4
      exact k_X1_vector_66 oo (k_X1_vector_392 oo (kk h4 l2 o4 ((((u1.ouw u2.1).trans u3).trans u4.1).cl1 u2.2 u4.2) H4))
  rw [if_neg c52, if_neg (by omega)] at hne kk
  by_cases c53 : op = 53
  · subst c53
    rw [if_pos rfl] at hne kk
    show V XX K 69 _ _ _
    cases hst : stk s with
    | nil => rw [hst] at hne; exact absurd rfl hne
    | cons i ks =>
      cases i with
      | inl vv => rw [hst] at hne; exact absurd rfl hne
      | inr r =>
        rw [hst] at hne kk
        cases hdr : drf s r with
        | none => simp only [hdr] at hne; exact absurd rfl hne
        | some vv =>
          simp only [hdr] at hne kk
          obtain ⟨e1, e2⟩ := mre_n hne
          rw [e2] at kk
          have kk : ∀ h' l' o', OUT wi W h h' o o' → OPR XX.G B h' A W q BA X tt snd lim SP wi MA l' o' (sK s (vI 3 0 (lN (fln vv.2.2)) :: ks)) → K (.returned none) h' := kk
          obtain ⟨hVW, -⟩ := hR r (by rw [hst]; simp) vv hdr
          obtain ⟨x, z, y, x1, x2, x3, x4, z1, z2, z3, z4, z5, z6⟩ := H.rf ht (b := 0) (r := r) (v := vv) (by rw [hst]; rfl) hdr
          have ty : h.tag y.1 = some (29, 0) := z6.1
          have cy : h.I 3717 y.1 = nI (fln y.2.2.2) := z6.2.2.2.2.1
          have el : fln vv.2.2 = fln y.2.2.2 := by rw [← z3]; exact fer_ln _
          have hl := hVW.1.2.2.1
          refine k_X1_vector_69 oo ?_
          refine ctop_ok (b := 0) (i := .inr r) c w hf ht (by rw [hst]; rfl) fun x' q1 _ => ?_
          have : x = x' := by rw [x1] at q1; exact Option.some.inj q1
          subst this
          refine k_X1_vector_74 oo ?_
          refine cdropTop_ok H (i := .inr r) (k := ks) hst (fun v hv => by cases hv) (by omega) fun h3 l3 o3 u3 H3 a3 f3 o3e => ?_
          have t3 := H3.1.1.1
          refine k_X1_vector_86 oo ?_
          rw [nI_l (by omega), ← el]
          refine cpushNumber_ok (kd := 3) H3 rfl (by rw [stk_K]; rw [hst] at h64'; simp at h64'; omega) (by omega) (by omega) fun h4 l4 o4 u4 H4 _ => ?_
          have em : mpu (sK s ks) (vI 3 0 (lN (fln vv.2.2))) = sK s (vI 3 0 (lN (fln vv.2.2)) :: ks) := by unfold mpu; rw [stk_K, stkK]
          rw [em] at H4
          exact k_X1_vector_97 oo (k_X1_vector_392 oo (kk h4 l4 o4 (u3.trans u4) H4))
  rw [if_neg c53] at hne kk
  by_cases c54 : op = 54 ∨ op = 55
  · rw [if_pos c54] at hne kk
    have sw : V XX K 100 [.ref A, .int (nI op), .int (nI b), nov, nov, nov, nov, nov, nov, nov, nov, nov, nov, nov, nov, nov, nov] [] h := by
      cases hst : stk s with
      | nil => rw [hst] at hne; exact absurd rfl hne
      | cons i ks =>
        cases i with
        | inr r => rw [hst] at hne; exact absurd rfl hne
        | inl iv =>
          cases ks with
          | nil => rw [hst] at hne; exact absurd rfl hne
          | cons i ks =>
            cases i with
            | inl vv => rw [hst] at hne; exact absurd rfl hne
            | inr r =>
              rw [hst] at hne kk
              cases hdr : drf s r with
              | none => simp only [hdr] at hne; exact absurd rfl hne
              | some vv =>
                simp only [hdr] at hne kk
                obtain ⟨e1, e2⟩ := mre_n hne
                rw [e2] at kk
                obtain ⟨hVW, -⟩ := hR r (by rw [hst]; simp) vv hdr
                have hVi := hT iv (by rw [hst]; simp)
                obtain ⟨u, u1, u2, u3⟩ := H.at ht (b := 0) (v := iv) (by rw [hst]; rfl)
                obtain ⟨x, z, y, x1, x2, x3, x4, z1, z2, z3, z4, z5, z6⟩ := H.rf ht (b := 1) (r := r) (v := vv) (by rw [hst]; rfl) hdr
                have ty : h.tag y.1 = some (29, 0) := z6.1
                have tu : h.tag u.1 = some (29, 0) := u3.1
                have lu : h.J 3714 u.1 = iv.2.1.2 := by rw [← u2]; exact u3.2.2.2.1
                have cy : h.I 3717 y.1 = nI (fln y.2.2.2) := z6.2.2.2.2.1
                have el : fln vv.2.2 = fln y.2.2.2 := by rw [← z3]; exact fer_ln _
                have hl := hVW.1.2.2.1
                refine k_X1_vector_100 oo ?_
                refine ctop_ok (b := 0) (i := .inl iv) c w hf ht (by rw [hst]; rfl) fun u' q1 _ => ?_
                have : u = u' := by rw [u1] at q1; exact Option.some.inj q1
                subst this
                refine k_X1_vector_105 oo ?_
                refine ctop_ok (b := 1) (i := .inr r) c w hf ht (by rw [hst]; rfl) fun x' q1 _ => ?_
                have : x = x' := by rw [x1] at q1; exact Option.some.inj q1
                subst this
                -- the test
                have tst : ∀ K' : Prop, (un iv.2.1.2 < fln vv.2.2 → V XX K 145 [.ref A, .int (nI op), .int (nI b), nov, nov, .long iv.2.1.2, nov, .ref y.1, nov, nov, nov, nov, nov, nov, nov, nov, nov] [.int 1, .ref A] h) → (¬ un iv.2.1.2 < fln vv.2.2 → V XX K 145 [.ref A, .int (nI op), .int (nI b), nov, nov, .long iv.2.1.2, nov, .ref y.1, nov, nov, nov, nov, nov, nov, nov, nov, nov] [.int 0, .ref A] h) → V XX K 115 [.ref A, .int (nI op), .int (nI b), nov, nov, .long iv.2.1.2, nov, nov, nov, nov, nov, nov, nov, nov, nov, nov, nov] [.ref x.1] h := fun _ k1 k2 => by
                  have ix := idx_n (i := iv.2.1.2) (n := fln vv.2.2) (by omega)
                  by_cases q1 : iv.2.1.2 < 0
                  · refine k_X1_vector_115 (r2 := z4) oo (fun _ => ?_) (fun cc => absurd q1 cc)
                    refine k_X1_vector_144 oo (k2 fun z => (ix.mpr z).1 q1)
                  · refine k_X1_vector_115 (r2 := z4) oo (fun cc => absurd cc q1) (fun _ => ?_)
                    by_cases q2 : lN (fln vv.2.2) ≤ iv.2.1.2
                    · refine k_X1_vector_128 (r2 := cy) oo (fun _ => ?_) (fun cc => absurd (by rw [nI_l (by omega), ← el]; exact q2) cc)
                      refine k_X1_vector_144 oo (k2 fun z => (ix.mpr z).2 q2)
                    · refine k_X1_vector_128 (r2 := cy) oo (fun cc => absurd (by rw [nI_l (by omega), ← el] at cc; exact cc) q2) (fun _ => ?_)
                      exact k_X1_vector_140 oo (k1 (ix.mp ⟨q1, q2⟩))
                refine tst True (fun q1 => ?_) (fun q1 => ?_)
                · rw [mnd_t (decide_eq_true q1)] at kk
                  have kk : ∀ h' l' o', OUT wi W h h' o o' → OPR XX.G B h' A W q BA X tt snd lim SP wi MA l' o' (sK s (.inr (r.1, r.2 ++ [un iv.2.1.2]) :: ks)) → K (.returned none) h' := kk
                  refine k_X1_vector_145 oo ?_
                  refine cneed2_ok (b := true) (w := 2) c (by omega) (by omega) (fun _ => ?_) (fun z => by cases z)
                  refine k_X1_vector_149 oo ?_
                  refine cdropTop_ok H (i := .inl iv) (k := .inr r :: ks) hst (fun v hv => by cases hv; have := hVi.1.2.1; omega) (by omega) fun h3 l3 o3 u3' H3 a3 f3 o3e => ?_
                  have t3 := H3.1.1.1
                  have hf3 : h3.R 28 A = some (Fa W t) := by
                    have := H3.2.2.2.1
                    rw [show (sK s (.inr r :: ks)).1 - 1 = t from (by show s.1 - 1 = t; omega)] at this
                    exact this
                  obtain ⟨xa, za, ya, xa1, xa2, xa3, xa4, za1, za2, za3, za4, za5, za6⟩ := H3.rf ht (b := 0) (r := r) (v := vv) (by rw [stk_K]; rfl) (by rw [drf_K]; exact hdr)
                  rw [stk_K] at xa1
                  have xa1 : o3 (1, wi, t, ks.length) = some xa := xa1
                  have ez : z = za := by
                    rw [o3e _ rsl_1, z1] at za1; exact Option.some.inj za1
                  subst ez
                  have ey : y = ya := by rw [z2] at za2; exact Option.some.inj za2
                  subst ey
                  refine k_X1_vector_153 oo ?_
                  refine ctop_ok (b := 0) (i := .inr r) H3.1 H3.2.2.1 hf3 ht (by rw [stk_K]; rfl) fun xb q2 _ => ?_
                  have : xa = xb := by
                    rw [stk_K] at q2
                    have q2 : o3 (1, wi, t, ks.length) = some xb := q2
                    rw [xa1] at q2; exact Option.some.inj q2
                  subst this
                  have ty3 := za6.1
                  refine k_X1_vector_158 oo ?_
                  rw [idx_i (n := fln vv.2.2) (by omega) q1]
                  have hpa : ∃ pa, (llo y.2.2.2)[un iv.2.1.2]? = some pa := ⟨_, List.getElem?_eq_getElem (by rw [llo_len, ← el]; exact q1)⟩
                  obtain ⟨pa, hpa⟩ := hpa
                  refine part_ok za6 (fat_llo hpa) (by omega) ?_
                  refine k_X1_vector_166 oo ?_
                  obtain ⟨u4, H4⟩ := H3.ret (r' := (r.1, r.2 ++ [un iv.2.1.2])) (b := pa.1) ht stk_K xa1 ⟨xa3, xa4⟩ (by
                    unfold rad
                    rw [show o3 (rsl' wi ((r.1, r.2 ++ [un iv.2.1.2]) : Rx).1) = some z from za1]
                    show (lva z (r.2 ++ [un iv.2.1.2])).map (fun y => y.1) = _
                    rw [lva_ap (w := z) z2]
                    show (match (llo y.2.2.2)[un iv.2.1.2]? with
                      | some w => lva w []
                      | none => none).map _ = _
                    rw [hpa]; rfl)
                  rw [stkK] at H4
                  refine k_X1_vector_392 oo ?_
                  exact kk _ l3 o3 (u3'.trans u4) H4
                · rw [mnd_f (decide_eq_false q1)] at kk
                  refine k_X1_vector_145 oo ?_
                  exact cneed2_ok (b := false) (w := 2) c (by omega) (by omega) (fun z => by cases z) (fun _ => H.stop kk)
    rcases c54 with z | z
    · subst z; exact sw
    · subst z; exact sw
  rw [if_neg c54] at hne kk
  by_cases c56 : op = 56
  · subst c56
    rw [if_pos rfl] at hne kk
    show V XX K 172 _ _ _
    cases hst : stk s with
    | nil => rw [hst] at hne; exact absurd rfl hne
    | cons i ks =>
      cases i with
      | inr r => rw [hst] at hne; exact absurd rfl hne
      | inl wv =>
        cases ks with
        | nil => rw [hst] at hne; exact absurd rfl hne
        | cons i ks =>
          cases i with
          | inl vv => rw [hst] at hne; exact absurd rfl hne
          | inr r =>
            rw [hst] at hne kk
            cases hdr : drf s r with
            | none => simp only [hdr] at hne; exact absurd rfl hne
            | some vv =>
              simp only [hdr] at hne kk
              obtain ⟨e1, e2⟩ := mre_n hne
              rw [e2] at kk
              obtain ⟨hVW, -⟩ := hR r (by rw [hst]; simp) vv hdr
              obtain ⟨x, z, y, x1, x2, x3, x4, z1, z2, z3, z4, z5, z6⟩ := H.rf ht (b := 1) (r := r) (v := vv) (by rw [hst]; rfl) hdr
              have ty : h.tag y.1 = some (29, 0) := z6.1
              have cy : h.I 3717 y.1 = nI (fln y.2.2.2) := z6.2.2.2.2.1
              have el : fln vv.2.2 = fln y.2.2.2 := by rw [← z3]; exact fer_ln _
              have hl := hVW.1.2.2.1
              refine k_X1_vector_172 oo ?_
              refine ctop_ok (b := 1) (i := .inr r) c w hf ht (by rw [hst]; rfl) fun x' q1 _ => ?_
              have : x = x' := by rw [x1] at q1; exact Option.some.inj q1
              subst this
              by_cases c256 : fln vv.2.2 < 256
              · rw [mnd_t (decide_eq_true c256)] at kk
                have kk : ∀ h' l' o', OUT wi W h h' o o' → OPR XX.G B h' A W q BA X tt snd lim SP wi MA l' o' (wrf (sK s ks) r (vv.1, vv.2.1, fof (flo vv.2.2 ++ [wv]))) → K (.returned none) h' := kk
                refine k_X1_vector_177 (r5 := cy) oo (fun cc => absurd ((nI_leI (by omega) (by omega)).mp cc) (by omega)) (fun _ => ?_)
                refine k_X1_vector_194 oo ?_
                refine k_X1_vector_199 oo ?_
                refine cneed2_ok (b := true) (w := 4) c (by omega) (by omega) (fun _ => ?_) (fun z => by cases z)
                refine k_X1_vector_203 oo ?_
                refine cpopT_ok H hst fun h2 xw sl o2 u2 H2 o2e o2t xw2 tg2 a2 => ?_
                have xw2 : lvE xw = wv := xw2
                have t2 := H2.1.1.1
                refine k_X1_vector_207 oo ?_
                refine cdropTop_ok H2 (i := .inr r) (k := ks) stk_K (fun v hv => by cases hv) (by omega) fun h3 l3 o3 u3 H3 a3 f3 o3e => ?_
                rw [stkK] at H3
                have t3 := H3.1.1.1
                have z1' : o3 (rsl' wi r.1) = some z := by rw [o3e _ rsl_1, o2e _ rsl_1 rsl_3]; exact z1
                have o3t : o3 (5, wi, sl, 1) = some xw := by rw [o3e _ (fun e => by cases e)]; exact o2t
                have ty3 := (RVL.sub (H3.2.1.2.2.2 _ z z1').1 z2).1
                refine k_X1_vector_213 oo ?_
                refine vadd_ok H3.2.1 z1' z2 o3t rsl_3 (by omega) (by omega) fun h4 f4 n4 v4 tg4 => ?_
                -- what lay aside is a part now
                have H3' : WkR h3 (uO o3 (5, wi, sl, 1) none) wi W MA (sK s ks) := H3.2.2.1.tmp
                have rt3 : rtv (sK s ks) r.1 = some (lvE z) := by rw [rtv_K]; exact z5
                have fi4 : Fr (IP W) h3 h4 := f4.mono VQ.ip
                have w4 := H3'.wr0 (y' := (y.1, y.2.1, y.2.2.1, lof (llo y.2.2.2 ++ [xw]))) (r := r) (by rw [uO_n rsl_3]; exact z1') z2 rfl rt3 ?_ f4 (fun p u hp hu => ?_)
                · have ew : lvE (y.1, y.2.1, y.2.2.1, lof (llo y.2.2.2 ++ [xw])) = (vv.1, vv.2.1, fof (flo vv.2.2 ++ [wv])) := by
                    rw [← z3, ← xw2]
                    show ((y.2.1, y.2.2.1, fer (lof (llo y.2.2.2 ++ [xw]))) : VL) = (y.2.1, y.2.2.1, fof (flo (fer y.2.2.2) ++ [lvE xw]))
                    rw [fer_lof, flo_fer]; simp
                  rw [ew] at w4
                  refine k_X1_vector_220 oo (k_X1_vector_392 oo (kk h4 l3 _ (((u2.1.out u3).trans ⟨fi4, fun p hp hn => ?_⟩).cl1 u2.2 (by rw [uO_n (fun e => rsl_3 e.symm), uO_s])) ⟨H3.1.ip fi4, v4, w4, ?_, ?_, H3.2.2.2.2.2.vq f4⟩))
                  · have n1 : p ≠ (5, wi, sl, 1) := by simpa using hn
                    have n2 : p ≠ rsl' wi r.1 := by
                      obtain ⟨⟨i, n⟩, p'⟩ := r
                      cases i with
                      | zero => exact OUT.ne hp (by omega)
                      | succ j => exact OUT.ne hp (by omega)
                    exact ⟨by rw [uO_n n2, uO_n n1], fun u hu => tg4 p u (by simpa using n1) hu⟩
                  · rw [wrf_1.1, f4.R (VQ.no (l := [28]) rfl _ _ rfl)]
                    exact H3.2.2.2.1
                  · rw [wrf_1.2]; exact hg
                · exact fun j hj q hq a ha => rad_a (by rw [uO_n rsl_3]; exact z1') z2 ha
                · have hpn : p ≠ (5, wi, sl, 1) := fun e => by rw [e, uO_s] at hu; cases hu
                  rw [uO_n hpn] at hu
                  exact tg4 p u (by simpa using hpn) hu
              · rw [mnd_f (decide_eq_false c256)] at kk
                refine k_X1_vector_177 (r5 := cy) oo (fun _ => ?_) (fun cc => absurd ((nI_leI (by omega) (by omega)).mpr (by omega)) cc)
                refine k_X1_vector_198 oo ?_
                refine k_X1_vector_199 oo ?_
                exact cneed2_ok (b := false) (w := 4) c (by omega) (by omega) (fun z => by cases z) (fun _ => H.stop kk)
  rw [if_neg c56] at hne kk
  by_cases c57 : op = 57
  · subst c57
    rw [if_pos rfl] at hne kk
    show V XX K 223 _ _ _
    cases hst : stk s with
    | nil => rw [hst] at hne; exact absurd rfl hne
    | cons i ks =>
      cases i with
      | inl vv => rw [hst] at hne; exact absurd rfl hne
      | inr r =>
        rw [hst] at hne kk
        cases hdr : drf s r with
        | none => simp only [hdr] at hne; exact absurd rfl hne
        | some vv =>
          simp only [hdr] at hne kk
          obtain ⟨e1, e2⟩ := mre_n hne
          rw [e2] at hne kk
          obtain ⟨hVW, -⟩ := hR r (by rw [hst]; simp) vv hdr
          obtain ⟨x, z, y, x1, x2, x3, x4, z1, z2, z3, z4, z5, z6⟩ := H.rf ht (b := 0) (r := r) (v := vv) (by rw [hst]; rfl) hdr
          have ty : h.tag y.1 = some (29, 0) := z6.1
          have cy : h.I 3717 y.1 = nI (fln y.2.2.2) := z6.2.2.2.2.1
          have el : fln vv.2.2 = fln y.2.2.2 := by rw [← z3]; exact fer_ln _
          have ef : flo vv.2.2 = (llo y.2.2.2).map lvE := by rw [← z3]; exact flo_fer _
          have hl := hVW.1.2.2.1
          refine k_X1_vector_223 oo ?_
          refine ctop_ok (b := 0) (i := .inr r) c w hf ht (by rw [hst]; rfl) fun x' q1 _ => ?_
          have : x = x' := by rw [x1] at q1; exact Option.some.inj q1
          subst this
          cases hgl : (flo vv.2.2).getLast? with
          | none =>
            rw [hgl] at kk
            have hnil : flo vv.2.2 = [] := List.getLast?_eq_none_iff.mp hgl
            have l0 : fln vv.2.2 = 0 := by rw [← flo_len, hnil]; rfl
            refine k_X1_vector_228 (r5 := cy) oo (fun _ => ?_) (fun cc => absurd ((nI_le0 (by omega)).mpr (by omega)) cc)
            refine k_X1_vector_246 oo ?_
            refine k_X1_vector_247 oo ?_
            exact cneed2_ok (b := false) (w := 2) c (by omega) (by omega) (fun z => by cases z) (fun _ => H.stop kk)
          | some wv =>
            rw [hgl] at hne kk
            simp only at hne kk
            obtain ⟨e3, e4⟩ := mre_n hne
            rw [e4] at kk
            have kk : ∀ h' l' o', OUT wi W h h' o o' → OPR XX.G B h' A W q BA X tt snd lim SP wi MA l' o' (mpu (wrf (sK s ks) r (vv.1, vv.2.1, fof (flo vv.2.2).dropLast)) (.inl wv)) → K (.returned none) h' := kk
            rw [ef] at hgl
            rw [List.getLast?_map] at hgl
            obtain ⟨xw, g1, g2⟩ := Option.map_eq_some_iff.mp hgl
            have hc : llo y.2.2.2 = (llo y.2.2.2).dropLast ++ [xw] := by
              have hnn : llo y.2.2.2 ≠ [] := fun e => by rw [e] at g1; cases g1
              have := List.dropLast_concat_getLast hnn
              rw [List.getLast?_eq_some_getLast hnn] at g1
              rw [Option.some.inj g1] at this
              exact this.symm
            have lp : 0 < fln vv.2.2 := by
              rw [el, ← llo_len, hc]; simp
            refine k_X1_vector_228 (r5 := cy) oo (fun cc => absurd ((nI_le0 (by omega)).mp cc) (by omega)) (fun _ => ?_)
            refine k_X1_vector_242 oo ?_
            refine k_X1_vector_247 oo ?_
            refine cneed2_ok (b := true) (w := 2) c (by omega) (by omega) (fun _ => ?_) (fun z => by cases z)
            refine k_X1_vector_251 oo ?_
            obtain ⟨sl, hsl⟩ := v.slot wi
            refine vrml_ok v z1 z2 hc hsl (by have := congrArg List.length hc; rw [llo_len] at this; simp at this; rw [List.length_dropLast, llo_len]; omega) (by omega) fun h2 f2 n2 v2 tg2 => ?_
            have nl : nlw s r = true := nlw_up ht (fun q hq => by
              rw [hst] at hq
              rcases List.mem_append.mp (show q ∈ [r] ++ ks.flatMap rfI from hq) with z | z
              · exact Or.inr (by simpa using z)
              · exact Or.inl z) e3
            have w2 := w.wr (y' := (y.1, y.2.1, y.2.2.1, lof (llo y.2.2.2).dropLast)) z1 z2 rfl z5 nl f2 tg2
            have ew : lvE (y.1, y.2.1, y.2.2.1, lof (llo y.2.2.2).dropLast) = (vv.1, vv.2.1, fof (flo vv.2.2).dropLast) := by
              rw [ef, ← List.map_dropLast, ← fer_lof, ← z3]
              rfl
            rw [ew] at w2
            have fi2 : Fr (IP W) h h2 := f2.mono VQ.ip
            have H2 : OPR XX.G B h2 A W q BA X tt snd lim SP wi MA l (uO (uO o (rsl' wi r.1) (some (lvw z r.2 (y.1, y.2.1, y.2.2.1, lof (llo y.2.2.2).dropLast)))) (5, wi, sl, 1) (some xw)) (wrf s r (vv.1, vv.2.1, fof (flo vv.2.2).dropLast)) := ⟨c.ip fi2, v2, w2.tmp, by rw [wrf_1.1, f2.R (VQ.no (l := [28]) rfl _ _ rfl), show s.1 - 1 = t by omega]; exact hf, by rw [wrf_1.2]; exact hg, hw.vq f2⟩
            have u2 : OUW [(5, wi, sl, 1)] wi W h h2 o (uO (uO o (rsl' wi r.1) (some (lvw z r.2 (y.1, y.2.1, y.2.2.1, lof (llo y.2.2.2).dropLast)))) (5, wi, sl, 1) (some xw)) := ⟨fi2, fun p hp hn => by
              have n1 : p ≠ (5, wi, sl, 1) := by simpa using hn
              have n2 : p ≠ rsl' wi r.1 := by
                obtain ⟨⟨i, n⟩, p'⟩ := r
                cases i with
                | zero => exact OUT.ne hp (by omega)
                | succ j => exact OUT.ne hp (by omega)
              exact ⟨by rw [uO_n n1, uO_n n2], fun u hu => tg2 p u (by simp) hu⟩⟩
            have t2 := H2.1.1.1
            refine k_X1_vector_256 oo ?_
            refine cdropTop_ok H2 (i := .inr r) (k := ks) (by rw [wrf_stk hdr]; exact hst) (fun v hv => by cases hv) (by omega) fun h3 l3 o3 u3 H3 a3 f3 o3e => ?_
            rw [wrf_K] at H3
            have t3 := H3.1.1.1
            have o3t : o3 (5, wi, sl, 1) = some xw := by rw [o3e _ (fun e => by cases e), uO_s]
            refine k_X1_vector_262 oo ?_
            have es3 : stk (wrf (sK s ks) r (vv.1, vv.2.1, fof (flo vv.2.2).dropLast)) = ks := by rw [wrf_stk (by rw [drf_K]; exact hdr), stk_K]
            refine H3.pushT (by rw [es3]; rw [hst] at h64'; simp at h64'; omega) o3t fun h4 o4 u4 H4 _ => ?_
            rw [g2] at H4
            exact k_X1_vector_268 oo (k_X1_vector_392 oo (kk h4 l3 o4 (((u2.out u3).trans u4.1).cl1 hsl u4.2) H4))
  rw [if_neg c57] at hne kk
  have c58 : op = 58 := by omega
  subst c58
  show V XX K 271 _ _ _
  cases hst : stk s with
  | nil => rw [hst] at hne; exact absurd rfl hne
  | cons i ks =>
    cases i with
    | inr r => rw [hst] at hne; exact absurd rfl hne
    | inl av' =>
      cases ks with
      | nil => rw [hst] at hne; exact absurd rfl hne
      | cons i ks =>
        cases i with
        | inr r => rw [hst] at hne; exact absurd rfl hne
        | inl bv =>
          cases ks with
          | nil => rw [hst] at hne; exact absurd rfl hne
          | cons i ks =>
            cases i with
            | inl vv => rw [hst] at hne; exact absurd rfl hne
            | inr r =>
              rw [hst] at hne kk
              cases hdr : drf s r with
              | none => simp only [hdr] at hne; exact absurd rfl hne
              | some vv =>
                simp only [hdr] at hne kk
                obtain ⟨e1, e2⟩ := mre_n hne
                rw [e2] at hne kk
                rw [Bool.and_eq_true, Bool.and_eq_true] at e1
                have e7 : vv.1 = 7 := by simpa using e1.2.2
                obtain ⟨hVW, hK⟩ := hR r (by rw [hst]; simp) vv hdr
                have hVa := hT av' (by rw [hst]; simp)
                have hVb := hT bv (by rw [hst]; simp)
                obtain ⟨xa, xa1, xa2, xa3⟩ := H.at ht (b := 0) (v := av') (by rw [hst]; rfl)
                obtain ⟨xb, xb1, xb2, xb3⟩ := H.at ht (b := 1) (v := bv) (by rw [hst]; rfl)
                obtain ⟨x, z, y, x1, x2, x3, x4, z1, z2, z3, z4, z5, z6⟩ := H.rf ht (b := 2) (r := r) (v := vv) (by rw [hst]; rfl) hdr
                have ty : h.tag y.1 = some (29, 0) := z6.1
                have ta : h.tag xa.1 = some (29, 0) := xa3.1
                have tb : h.tag xb.1 = some (29, 0) := xb3.1
                have la : h.J 3714 xa.1 = av'.2.1.2 := by rw [← xa2]; exact xa3.2.2.2.1
                have lb : h.J 3714 xb.1 = bv.2.1.2 := by rw [← xb2]; exact xb3.2.2.2.1
                have cy : h.I 3717 y.1 = nI (fln y.2.2.2) := z6.2.2.2.2.1
                have el : fln vv.2.2 = fln y.2.2.2 := by rw [← z3]; exact fer_ln _
                have ef : flo vv.2.2 = (llo y.2.2.2).map lvE := by rw [← z3]; exact flo_fer _
                have hl := hVW.1.2.2.1
                refine k_X1_vector_271 oo ?_
                refine ctop_ok (b := 0) (i := .inl av') c w hf ht (by rw [hst]; rfl) fun u' q1 _ => ?_
                have : xa = u' := by rw [xa1] at q1; exact Option.some.inj q1
                subst this
                refine k_X1_vector_276 oo ?_
                refine ctop_ok (b := 1) (i := .inl bv) c w hf ht (by rw [hst]; rfl) fun u' q1 _ => ?_
                have : xb = u' := by rw [xb1] at q1; exact Option.some.inj q1
                subst this
                refine k_X1_vector_286 oo ?_
                refine ctop_ok (b := 2) (i := .inr r) c w hf ht (by rw [hst]; rfl) fun x' q1 _ => ?_
                have : x = x' := by rw [x1] at q1; exact Option.some.inj q1
                subst this
                have ixa := idx_n (i := av'.2.1.2) (n := fln vv.2.2) (by omega)
                have ixb := idx_n (i := bv.2.1.2) (n := fln vv.2.2) (by omega)
                have tst : ((un av'.2.1.2 < fln vv.2.2 ∧ un bv.2.1.2 < fln vv.2.2) → V XX K 345 [.ref A, .int (nI 58), .int (nI b), nov, nov, nov, nov, nov, nov, nov, nov, nov, .long av'.2.1.2, nov, .long bv.2.1.2, nov, .ref y.1] [.int 1, .ref A] h) → (¬ (un av'.2.1.2 < fln vv.2.2 ∧ un bv.2.1.2 < fln vv.2.2) → V XX K 345 [.ref A, .int (nI 58), .int (nI b), nov, nov, nov, nov, nov, nov, nov, nov, nov, .long av'.2.1.2, nov, .long bv.2.1.2, nov, .ref y.1] [.int 0, .ref A] h) → V XX K 296 [.ref A, .int (nI 58), .int (nI b), nov, nov, nov, nov, nov, nov, nov, nov, nov, .long av'.2.1.2, nov, .long bv.2.1.2, nov, nov] [.ref x.1] h := fun k1 k2 => by
                  by_cases q1 : av'.2.1.2 < 0
                  · refine k_X1_vector_296 (r2 := z4) oo (fun _ => ?_) (fun cc => absurd q1 cc)
                    exact k_X1_vector_344 oo (k2 fun z => (ixa.mpr z.1).1 q1)
                  · refine k_X1_vector_296 (r2 := z4) oo (fun cc => absurd cc q1) (fun _ => ?_)
                    by_cases q2 : lN (fln vv.2.2) ≤ av'.2.1.2
                    · refine k_X1_vector_309 (r2 := cy) oo (fun _ => ?_) (fun cc => absurd (by rw [nI_l (by omega), ← el]; exact q2) cc)
                      exact k_X1_vector_344 oo (k2 fun z => (ixa.mpr z.1).2 q2)
                    · refine k_X1_vector_309 (r2 := cy) oo (fun cc => absurd (by rw [nI_l (by omega), ← el] at cc; exact cc) q2) (fun _ => ?_)
                      by_cases q3 : bv.2.1.2 < 0
                      · refine k_X1_vector_321 oo (fun _ => ?_) (fun cc => absurd q3 cc)
                        exact k_X1_vector_344 oo (k2 fun z => (ixb.mpr z.2).1 q3)
                      · refine k_X1_vector_321 oo (fun cc => absurd cc q3) (fun _ => ?_)
                        by_cases q4 : lN (fln vv.2.2) ≤ bv.2.1.2
                        · refine k_X1_vector_328 (r2 := cy) oo (fun _ => ?_) (fun cc => absurd (by rw [nI_l (by omega), ← el]; exact q4) cc)
                          exact k_X1_vector_344 oo (k2 fun z => (ixb.mpr z.2).2 q4)
                        · refine k_X1_vector_328 (r2 := cy) oo (fun cc => absurd (by rw [nI_l (by omega), ← el] at cc; exact cc) q4) (fun _ => ?_)
                          exact k_X1_vector_340 oo (k1 ⟨ixa.mp ⟨q1, q2⟩, ixb.mp ⟨q3, q4⟩⟩)
                refine tst (fun q1 => ?_) (fun q1 => ?_)
                · rw [mnd_t (decide_eq_true q1)] at hne kk
                  obtain ⟨e3, e4⟩ := mre_n hne
                  rw [e4] at kk
                  have kk : ∀ h' l' o', OUT wi W h h' o o' → OPR XX.G B h' A W q BA X tt snd lim SP wi MA l' o' (wrf (sK s ks) r (vv.1, vv.2.1, fof (lsw (flo vv.2.2) (un av'.2.1.2) (un bv.2.1.2)))) → K (.returned none) h' := kk
                  have nl : nlw s r = true := nlw_up ht (fun q hq => by
                    rw [hst] at hq
                    rcases List.mem_append.mp (show q ∈ [r] ++ ks.flatMap rfI from hq) with z | z
                    · exact Or.inr (by simpa using z)
                    · exact Or.inl z) e3
                  obtain ⟨pa, hpa⟩ : ∃ pa, (llo y.2.2.2)[un av'.2.1.2]? = some pa := ⟨_, List.getElem?_eq_getElem (by rw [llo_len, ← el]; exact q1.1)⟩
                  obtain ⟨pb, hpb⟩ : ∃ pb, (llo y.2.2.2)[un bv.2.1.2]? = some pb := ⟨_, List.getElem?_eq_getElem (by rw [llo_len, ← el]; exact q1.2)⟩
                  have fa' : (flo vv.2.2)[un av'.2.1.2]? = some (lvE pa) := by rw [ef, List.getElem?_map, hpa]; rfl
                  have fb' : (flo vv.2.2)[un bv.2.1.2]? = some (lvE pb) := by rw [ef, List.getElem?_map, hpb]; rfl
                  -- the end: three go
                  have fin : ∀ h2 o2 s2, OUT wi W h h2 o o2 → OPR XX.G B h2 A W q BA X tt snd lim SP wi MA l o2 s2 → s2 = wrf s r (vv.1, vv.2.1, fof (lsw (flo vv.2.2) (un av'.2.1.2) (un bv.2.1.2))) → V XX K 380 [.ref A, .int (nI 58), .int (nI b), nov, nov, nov, nov, nov, nov, nov, nov, nov, .long av'.2.1.2, nov, .long bv.2.1.2, nov, .ref y.1] [] h2 := fun h2 o2 s2 u2 H2 es2 => by
                    have t2 := H2.1.1.1
                    have ek2 : stk s2 = .inl av' :: .inl bv :: .inr r :: ks := by rw [es2, wrf_stk hdr]; exact hst
                    refine k_X1_vector_380 oo ?_
                    refine cdropTop_ok H2 (i := .inl av') (k := .inl bv :: .inr r :: ks) ek2 (fun v hv => by cases hv; have := hVa.1.2.1; omega) (by omega) fun h3 l3 o3 u3 H3 a3 f3 o3e => ?_
                    have t3 := H3.1.1.1
                    refine k_X1_vector_384 oo ?_
                    refine cdropTop_ok H3 (i := .inl bv) (k := .inr r :: ks) stk_K (fun v hv => by cases hv; have := hVb.1.2.1; omega) (by omega) fun h4 l4 o4 u4 H4 a4 f4 o4e => ?_
                    rw [stkK] at H4
                    have t4 := H4.1.1.1
                    refine k_X1_vector_388 oo ?_
                    refine cdropTop_ok H4 (i := .inr r) (k := ks) stk_K (fun v hv => by cases hv) (by omega) fun h5 l5 o5 u5 H5 a5 f5 o5e => ?_
                    rw [stkK, es2, wrf_K] at H5
                    exact k_X1_vector_392 oo (kk h5 l5 o5 (((u2.trans u3).trans u4).trans u5) H5)
                  refine k_X1_vector_345 oo ?_
                  refine cneed2_ok (b := true) (w := 2) c (by omega) (by omega) (fun _ => ?_) (fun z => by cases z)
                  by_cases ceq : av'.2.1.2 = bv.2.1.2
                  · refine k_X1_vector_349 oo (fun _ => ?_) (fun cc => absurd ceq cc)
                    have w2 := w.wr (y' := y) z1 z2 rfl z5 nl (Fr.refl h) (fun _ _ _ _ => rfl)
                    rw [lvw_self z2, uO_e z1] at w2
                    have el2 : lsw (flo vv.2.2) (un av'.2.1.2) (un bv.2.1.2) = flo vv.2.2 := by
                      rw [← ceq]
                      unfold lsw
                      rw [fa']
                      show ((flo vv.2.2).set _ (lvE pa)).set _ (lvE pa) = _
                      refine List.ext_getElem? fun j => ?_
                      by_cases e : j = un av'.2.1.2
                      · subst e
                        rw [List.getElem?_set_self (by rw [List.length_set]; exact get_lt fa'), fa']
                      · rw [List.getElem?_set_ne (fun e' => e e'.symm), List.getElem?_set_ne (fun e' => e e'.symm)]
                    have ev : lvE y = (vv.1, vv.2.1, fof (lsw (flo vv.2.2) (un av'.2.1.2) (un bv.2.1.2))) := by
                      rw [el2, fof_flo]; exact z3
                    rw [ev] at w2
                    exact fin h o _ OUT.refl ⟨c, v, w2, by rw [wrf_1.1, show s.1 - 1 = t by omega]; exact hf, by rw [wrf_1.2]; exact hg, hw⟩ rfl
                  · refine k_X1_vector_349 oo (fun cc => absurd cc ceq) (fun _ => ?_)
                    refine k_X1_vector_357 oo ?_
                    rw [idx_i (n := fln vv.2.2) (by omega) q1.1]
                    refine part_ok z6 (fat_llo hpa) (by omega) ?_
                    refine k_X1_vector_369 oo ?_
                    rw [idx_i (n := fln vv.2.2) (by omega) q1.2]
                    refine part_ok z6 (fat_llo hpb) (by omega) ?_
                    have tq := v.1.1
                    refine k_X1_vector_377 oo ?_
                    have nij : un av'.2.1.2 ≠ un bv.2.1.2 := fun e => ceq (un_inj e)
                    refine vswap_ok v z1 z2 hpa hpb nij fun h2 f2 n2 v2 tg2 => ?_
                    have w2 := w.wr (y' := (y.1, y.2.1, y.2.2.1, lof (((llo y.2.2.2).set (un av'.2.1.2) (pa.1, pa.2.1, pb.2.2)).set (un bv.2.1.2) (pb.1, pb.2.1, pa.2.2)))) z1 z2 rfl z5 nl f2 tg2
                    have ekd : pa.2.1 = pb.2.1 := hK e7 (lvE pa) (List.mem_iff_getElem?.mpr ⟨_, fa'⟩) (lvE pb) (List.mem_iff_getElem?.mpr ⟨_, fb'⟩)
                    have ew : lvE (y.1, y.2.1, y.2.2.1, lof (((llo y.2.2.2).set (un av'.2.1.2) (pa.1, pa.2.1, pb.2.2)).set (un bv.2.1.2) (pb.1, pb.2.1, pa.2.2))) = (vv.1, vv.2.1, fof (lsw (flo vv.2.2) (un av'.2.1.2) (un bv.2.1.2))) := by
                      unfold lsw
                      rw [fa', fb', ← z3]
                      show ((y.2.1, y.2.2.1, fer (lof _)) : VL) = (y.2.1, y.2.2.1, fof (((flo (lvE y).2.2).set _ (lvE pb)).set _ (lvE pa)))
                      rw [fer_lof, List.map_set, List.map_set, show flo (lvE y).2.2 = (llo y.2.2.2).map lvE from flo_fer _]
                      rw [show lvE (pa.1, pa.2.1, pb.2.2) = lvE pb from (by show ((pa.2.1, pb.2.2.1, fer pb.2.2.2) : VL) = (pb.2.1, _, _); rw [ekd]), show lvE (pb.1, pb.2.1, pa.2.2) = lvE pa from (by show ((pb.2.1, pa.2.2.1, fer pa.2.2.2) : VL) = (pa.2.1, _, _); rw [ekd])]
                    rw [ew] at w2
                    have fi2 : Fr (IP W) h h2 := f2.mono VQ.ip
                    refine fin h2 _ _ (OUT.mk1 fi2 ?_ (fun p u _ hu => tg2 p u (by simp) hu)) ⟨c.ip fi2, v2, w2, by rw [wrf_1.1, f2.R (VQ.no (l := [28]) rfl _ _ rfl), show s.1 - 1 = t by omega]; exact hf, by rw [wrf_1.2]; exact hg, hw.vq f2⟩ rfl
                    obtain ⟨⟨i, n⟩, p'⟩ := r
                    cases i with
                    | zero => exact ⟨⟨by show 1 ≤ 3; omega, by show 3 ≤ 3; omega⟩, rfl⟩
                    | succ j => exact ⟨⟨by show 1 ≤ 2; omega, by show 2 ≤ 3; omega⟩, rfl⟩
                · rw [mnd_f (decide_eq_false q1)] at kk
                  refine k_X1_vector_345 oo ?_
                  exact cneed2_ok (b := false) (w := 2) c (by omega) (by omega) (fun z => by cases z) (fun _ => H.stop kk)
end
