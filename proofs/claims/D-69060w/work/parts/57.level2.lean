/-! the twin's hashes: one level -/
def GI (h : AH) (R m i b : Nat) (g : List (F4 × F4)) : Prop := h.EI 2096 (R + 7) i = nI b ∧ h.EI 2112 (R + 8) i = nI g.length ∧ q4a h 2083 (R + 6) i = Rt m g
def rowsG (h : AH) (R m : Nat) : Nat → Nat → List (List (F4 × F4)) → Prop
  | _, _, [] => True
  | i, b, g :: r => GI h R m i b g ∧ rowsG h R m (i + 1) (b + g.length) r
theorem rowsG.same {h h' : AH} {R m : Nat} : ∀ {gs : List (List (F4 × F4))} {i b : Nat}, rowsG h R m i b gs → (∀ j, i ≤ j → j < i + gs.length → h'.EI 2096 (R + 7) j = h.EI 2096 (R + 7) j ∧ h'.EI 2112 (R + 8) j = h.EI 2112 (R + 8) j ∧ q4a h' 2083 (R + 6) j = q4a h 2083 (R + 6) j) → rowsG h' R m i b gs
  | [], _, _, _, _ => trivial
  | g :: r, i, b, ⟨⟨e1, e2, e3⟩, e4⟩, hj => by
    obtain ⟨a1, a2, a3⟩ := hj i (Nat.le_refl _) (by simp)
    exact ⟨⟨a1.trans e1, a2.trans e2, a3.trans e3⟩, rowsG.same e4 fun j h1 h2 => hj j (by omega) (by simp; omega)⟩
theorem rowsG.app {h : AH} {R m : Nat} {G : List (F4 × F4)} : ∀ {os : List (List (F4 × F4))} {i b : Nat}, rowsG h R m i b os → GI h R m (i + os.length) (b + os.flatten.length) G → rowsG h R m i b (os ++ [G])
  | [], i, b, _, hg => ⟨by simpa using hg, trivial⟩
  | g :: r, i, b, ⟨e1, e2⟩, hg => ⟨e1, rowsG.app e2 (by
      simp only [List.length_cons, List.flatten_cons, List.length_append] at hg
      rw [show i + 1 + r.length = i + (r.length + 1) by omega, show b + g.length + r.flatten.length = b + (g.length + r.flatten.length) by omega]; exact hg)⟩
def KS (h : AH) (R : Nat) (S : List (F4 × F4)) : Prop := ∀ j x, S[j]? = some x → q4a h 2003 (R + 1) j = x.1
def lvW : List Nat := hqW ++ [10000 + 2096, 10000 + 2112, 3465]
theorem level_ok {G : Gt} {d : Nat} {h : AH} {K : Outcome → AH → Prop} {R D d' : Nat} {S : List (F4 × F4)} {gs0 : List (List (F4 × F4))} (hs : SRo h R D) (hc : CT G h) (hS : S.length ≤ 256) (hd' : d' < 256) (hK : KS h R S) (hG : GR (d' + 1) S gs0) (hr : rowsG h R (255 - d') 0 0 gs0) (hnd : h.I 3465 R = nI gs0.length) (hd : 6 ≤ d)
    (kk : ∀ h' o, Fq (FS lvW) h h' → lvs d' gs0 o → rowsG h' R (256 - d') 0 0 o → h'.I 3465 R = nI o.length → K (.returned none) h') : MW G d e_X28_level [.ref R, .int (nI d')] h K := by
  refine st_X28_level fun X o hG' hD hf => ?_
  subst hG'; subst hD
  have glen : ∀ {gs : List (List (F4 × F4))}, (∀ g ∈ gs, g ≠ []) → gs.length ≤ gs.flatten.length := by
    intro gs
    induction gs with
    | nil => intro _; simp
    | cons g r ih =>
      intro h0
      have h1 : 1 ≤ g.length := by
        have := h0 g (by simp)
        cases g with
        | nil => exact absurd rfl this
        | cons _ _ => simp
      have := ih fun a ha => h0 a (by simp [ha])
      simp only [List.length_cons, List.flatten_cons, List.length_append]; omega
  have loop : ∀ N gs os n h1 v4 v5 v6 v7, gs.length ≤ N → os.length ≤ n → n + gs.length = gs0.length → os.flatten ++ gs.flatten = S → GR (d' + 1) gs.flatten gs → Fq (FS lvW) h h1 → h1.I 3465 R = nI gs0.length → rowsG h1 R (255 - d') n os.flatten.length gs → rowsG h1 R (256 - d') 0 0 os →
      (∀ h' o, Fq (FS lvW) h h' → lvs d' gs o → rowsG h' R (256 - d') 0 0 (os ++ o) → h'.I 3465 R = nI (os ++ o).length → K (.returned none) h') → V X K 4 [.ref R, .int (nI d'), .int (nI os.length), .int (nI n), v4, v5, v6, v7] [] h1 := by
    intro N
    induction N with
    | zero =>
      intro gs os n h1 v4 v5 v6 v7 hN hon hng hfl hgr f1 nd1 r1 r2 kk
      have : gs = [] := List.length_eq_zero_iff.mp (by omega)
      subst this
      have hs1 := hs.fs f1.1 rfl
      have tR := hs1.1.1
      have hgl := glen hG.2.1
      rw [hG.1] at hgl
      refine k_X28_level_4 o (fun c => ?_) (fun c => ?_)
      · refine k_X28_level_292 o ?_
        refine kk _ [] (f1.sI rfl) rfl ?_ ?_
        · rw [List.append_nil]; exact r2.same fun j _ _ => ⟨rfl, rfl, rfl⟩
        · rw [List.append_nil, I_same]
      · exact absurd ((nI_leI (by omega) (by simp at hng; omega)).mpr (by simp at hng; omega)) c
    | succ N ih =>
      intro gs os n h1 v4 v5 v6 v7 hN hon hng hfl hgr f1 nd1 r1 r2 kk
      have hs1 := hs.fs f1.1 rfl
      obtain ⟨⟨e1, e2, e3, e4, e5, e6, e7, e8, e9, e10⟩, ⟨t1, t2, t3, t4, t5, t6, t7, t8⟩, sD⟩ := id hs1
      have hgl := glen hG.2.1
      rw [hG.1] at hgl
      have hfl2 : os.flatten.length + gs.flatten.length = S.length := by rw [← hfl]; simp
      cases gs with
      | nil =>
        refine k_X28_level_4 o (fun c => ?_) (fun c => ?_)
        · refine k_X28_level_292 o ?_
          refine kk _ [] (f1.sI rfl) rfl ?_ ?_
          · rw [List.append_nil]; exact r2.same fun j _ _ => ⟨rfl, rfl, rfl⟩
          · rw [List.append_nil, I_same]
        · exact absurd ((nI_leI (by omega) (by simp at hng; omega)).mpr (by simp at hng; omega)) c
      | cons g r =>
        obtain ⟨⟨b1, b2, b3⟩, rr⟩ := r1
        obtain ⟨q1, q2, q3, q4'⟩ := hgr
        have pw := List.pairwise_cons.mp q4'
        have gne := q2 g (by simp)
        simp only [List.length_cons] at hng hN
        have ixn : IX (nI n) 256 n := IX.mk (by omega) (by omega)
        have ixk : IX (nI os.length) 256 os.length := IX.mk (by omega) (by omega)
        have hlt : os.flatten.length < S.length := by
          have : 1 ≤ g.length := by
            cases g with
            | nil => exact absurd rfl gne
            | cons _ _ => simp
          simp only [List.flatten_cons, List.length_append] at hfl2; omega
        have keyAt : ∀ j x, S[j]? = some x → q4a h1 2003 (R + 1) j = x.1 := fun j x hx => by rw [q4a_fr f1.1 (FS.n (by decide))]; exact hK j x hx
        have kg : q4a h1 2003 (R + 1) os.flatten.length = hd4 g := by
          cases hg : g with
          | nil => exact absurd hg gne
          | cons x t => exact keyAt _ x (by rw [← hfl, List.getElem?_append_right (Nat.le_refl _), Nat.sub_self, hg]; rfl)
        have hgl1 : g.length ≤ S.length := by simp only [List.flatten_cons, List.length_append] at hfl2; omega
        -- behind the hash: the row is written, and on
        have wr : ∀ h2 (G0 : List (F4 × F4)) (two : Bool) (r' : List (List (F4 × F4))) v7, Fq (FS hqW) h1 h2 → (∀ j, j ≠ os.length → q4a h2 2083 (R + 6) j = q4a h1 2083 (R + 6) j) → q4a h2 2083 (R + 6) os.length = Rt (256 - d') G0 → (if two then ∃ g', r = g' :: r' ∧ G0 = g ++ g' ∧ agr d' (hd4 g) (hd4 g') else r = r' ∧ G0 = g ∧ (∀ g' t, r = g' :: t → ¬ agr d' (hd4 g) (hd4 g'))) →
            V X K 257 [.ref R, .int (nI d'), .int (nI os.length), .int (nI n), .int (bI two), .int (nI os.flatten.length), .int (nI G0.length), v7] [] h2 := by
          intro h2 G0 two r' v7 f2 g2 g3 ht
          have hs2 := hs1.fs f2.1 rfl
          obtain ⟨⟨e1, e2, e3, e4, e5, e6, e7, e8, e9, e10⟩, ⟨t1, t2, t3, t4, t5, t6, t7, t8⟩, sD⟩ := id hs2
          generalize hh : (h2.sEI 2096 (R + 7) os.length (nI os.flatten.length)).sEI 2112 (R + 8) os.length (nI G0.length) = h3
          have f23 : Fq (FS [10000 + 2096, 10000 + 2112]) h2 h3 := by rw [← hh]; exact (by refine Fq.sEI (Fq.sEI (Fq.refl h2) ?_) ?_ <;> exact rfl)
          have F3 : Fq (FS lvW) h h3 := (f1.trans (f2.mono (FS.mono rfl))).trans (f23.mono (FS.mono rfl))
          have nd3 : h3.I 3465 R = nI gs0.length := by rw [f23.1.I (FS.n (by decide)), f2.1.I (FS.n (by decide))]; exact nd1
          have same : ∀ j, j ≠ os.length → h3.EI 2096 (R + 7) j = h1.EI 2096 (R + 7) j ∧ h3.EI 2112 (R + 8) j = h1.EI 2112 (R + 8) j ∧ q4a h3 2083 (R + 6) j = q4a h1 2083 (R + 6) j := fun j hj => by
            refine ⟨?_, ?_, by rw [q4a_fr f23.1 (FS.n (by decide))]; exact g2 j hj⟩
            · rw [← hh]; simp [n_sI, z_sI, tag_sI, I_sI, J_sI, R_sI, EI_sI, EJ_sI, ER_sI, n_sJ, z_sJ, tag_sJ, I_sJ, J_sJ, R_sJ, EI_sJ, EJ_sJ, ER_sJ, n_sR, z_sR, tag_sR, I_sR, J_sR, R_sR, EI_sR, EJ_sR, ER_sR, n_sEI, z_sEI, tag_sEI, I_sEI, J_sEI, R_sEI, EI_sEI, EJ_sEI, ER_sEI, n_sEJ, z_sEJ, tag_sEJ, I_sEJ, J_sEJ, R_sEJ, EI_sEJ, EJ_sEJ, ER_sEJ, n_sER, z_sER, tag_sER, I_sER, J_sER, R_sER, EI_sER, EJ_sER, ER_sER, n_nw, z_nw, tag_nw, I_nw, J_nw, R_nw, EI_nw, EJ_nw, ER_nw, hj]; exact f2.1.EI (FS.n (by decide)) j
            · rw [← hh]; simp [n_sI, z_sI, tag_sI, I_sI, J_sI, R_sI, EI_sI, EJ_sI, ER_sI, n_sJ, z_sJ, tag_sJ, I_sJ, J_sJ, R_sJ, EI_sJ, EJ_sJ, ER_sJ, n_sR, z_sR, tag_sR, I_sR, J_sR, R_sR, EI_sR, EJ_sR, ER_sR, n_sEI, z_sEI, tag_sEI, I_sEI, J_sEI, R_sEI, EI_sEI, EJ_sEI, ER_sEI, n_sEJ, z_sEJ, tag_sEJ, I_sEJ, J_sEJ, R_sEJ, EI_sEJ, EJ_sEJ, ER_sEJ, n_sER, z_sER, tag_sER, I_sER, J_sER, R_sER, EI_sER, EJ_sER, ER_sER, n_nw, z_nw, tag_nw, I_nw, J_nw, R_nw, EI_nw, EJ_nw, ER_nw, hj]; exact f2.1.EI (FS.n (by decide)) j
          have R3 : rowsG h3 R (256 - d') 0 0 (os ++ [G0]) := rowsG.app (r2.same fun j _ hj => same j (by omega)) ⟨by rw [Nat.zero_add, Nat.zero_add, ← hh]; simp [n_sI, z_sI, tag_sI, I_sI, J_sI, R_sI, EI_sI, EJ_sI, ER_sI, n_sJ, z_sJ, tag_sJ, I_sJ, J_sJ, R_sJ, EI_sJ, EJ_sJ, ER_sJ, n_sR, z_sR, tag_sR, I_sR, J_sR, R_sR, EI_sR, EJ_sR, ER_sR, n_sEI, z_sEI, tag_sEI, I_sEI, J_sEI, R_sEI, EI_sEI, EJ_sEI, ER_sEI, n_sEJ, z_sEJ, tag_sEJ, I_sEJ, J_sEJ, R_sEJ, EI_sEJ, EJ_sEJ, ER_sEJ, n_sER, z_sER, tag_sER, I_sER, J_sER, R_sER, EI_sER, EJ_sER, ER_sER, n_nw, z_nw, tag_nw, I_nw, J_nw, R_nw, EI_nw, EJ_nw, ER_nw], by rw [Nat.zero_add, ← hh]; simp [n_sI, z_sI, tag_sI, I_sI, J_sI, R_sI, EI_sI, EJ_sI, ER_sI, n_sJ, z_sJ, tag_sJ, I_sJ, J_sJ, R_sJ, EI_sJ, EJ_sJ, ER_sJ, n_sR, z_sR, tag_sR, I_sR, J_sR, R_sR, EI_sR, EJ_sR, ER_sR, n_sEI, z_sEI, tag_sEI, I_sEI, J_sEI, R_sEI, EI_sEI, EJ_sEI, ER_sEI, n_sEJ, z_sEJ, tag_sEJ, I_sEJ, J_sEJ, R_sEJ, EI_sEJ, EJ_sEJ, ER_sEJ, n_sER, z_sER, tag_sER, I_sER, J_sER, R_sER, EI_sER, EJ_sER, ER_sER, n_nw, z_nw, tag_nw, I_nw, J_nw, R_nw, EI_nw, EJ_nw, ER_nw], by rw [Nat.zero_add, q4a_fr f23.1 (FS.n (by decide))]; exact g3⟩
          have fl : (os ++ [G0]).flatten.length = os.flatten.length + G0.length := by simp
          cases two with
          | true =>
            obtain ⟨g', hr', hG0, hag⟩ := ht
            subst hr'
            subst hG0
            have pw2 := List.pairwise_cons.mp pw.2
            simp only [List.length_cons] at hng hN
            refine k_X28_level_257 o (fun c => absurd c (by decide)) (fun _ => ?_)
            rw [hh, nI_add]
            refine k_X28_level_282 o ?_
            refine k_X28_level_287 o ?_
            rw [nI_add, show os.length + 1 = (os ++ [g ++ g']).length by simp]
            refine ih r' (os ++ [g ++ g']) (n + 2) h3 _ _ _ _ (by omega) (by simp; omega) (by omega) ?_ ⟨rfl, fun a ha => q2 a (by simp [ha]), fun a ha => q3 a (by simp [ha]), pw2.2⟩ F3 nd3 ?_ R3 fun h' o' f' l' r' n' => ?_
            · rw [← hfl]; simp
            · rw [fl]
              have := rr.2
              rw [Nat.add_assoc os.flatten.length] at this
              rw [List.length_append]
              exact rowsG.same this fun j hj _ => same j (by omega)
            · refine kk h' ((g ++ g') :: o') f' (Or.inl ⟨hag, o', rfl, l'⟩) ?_ ?_
              · rw [List.append_assoc] at r'; exact r'
              · rw [List.append_assoc] at n'; exact n'
          | false =>
            obtain ⟨hr', hG0, hag⟩ := ht
            subst hr'
            subst hG0
            refine k_X28_level_257 o (fun _ => ?_) (fun c => absurd rfl c)
            rw [hh, nI_add]
            refine k_X28_level_286 o ?_
            refine k_X28_level_287 o ?_
            rw [nI_add, show os.length + 1 = (os ++ [G0]).length by simp]
            refine ih r (os ++ [G0]) (n + 1) h3 _ _ _ _ (by omega) (by simp; omega) (by omega) ?_ ⟨rfl, fun a ha => q2 a (by simp [ha]), fun a ha => q3 a (by simp [ha]), pw.2⟩ F3 nd3 ?_ R3 fun h' o' f' l' r' n' => ?_
            · rw [← hfl]; simp
            · rw [fl]; exact rowsG.same rr fun j hj _ => same j (by omega)
            · refine kk h' (G0 :: o') f' ?_ ?_ ?_
              · cases r with
                | nil =>
                  have l' : o' = [] := l'
                  subst l'
                  exact rfl
                | cons g' t => exact Or.inr ⟨hag g' t rfl, o', rfl, l'⟩
              · rw [List.append_assoc] at r'; exact r'
              · rw [List.append_assoc] at n'; exact n'
        -- a hash of two: the bytes, and the row
        have hash2 : ∀ (two high : Bool) (sz : Nat) (A B : F4) (G0 : List (F4 × F4)) r', (two = true → n + 1 < 256) → (if high then z4 else q4a h1 2083 (R + 6) n) = A → (if two || high then q4a h1 2083 (R + 6) (if two then n + 1 else n) else z4) = B → hsh 1 A B = Rt (256 - d') G0 → sz = G0.length → (if two then ∃ g', r = g' :: r' ∧ G0 = g ++ g' ∧ agr d' (hd4 g) (hd4 g') else r = r' ∧ G0 = g ∧ (∀ g' t, r = g' :: t → ¬ agr d' (hd4 g) (hd4 g'))) →
            V X K 135 [.ref R, .int (nI d'), .int (nI os.length), .int (nI n), .int (bI two), .int (nI os.flatten.length), .int (nI sz), v7] [.int (bI high)] h1 := by
          intro two high sz A B G0 r' hn2 hA hB hAB hsz ht
          subst hsz
          have tD := sD.1.1
          refine k_X28_level_135 o ?_
          refine tbegin_ok sD fun h2 f2 m2 => ?_
          have hs2 := hs1.fs f2.1 rfl
          obtain ⟨⟨u1, u2, u3, u4, u5, u6, u7, u8, u9, u10⟩, -, sD2⟩ := id hs2
          have tD2 := sD2.1.1
          refine k_X28_level_144 o ?_
          refine tadd_ok m2 (by simp) fun h3 f3 m3 => ?_
          have f13 : Fq (FS mdF) h1 h3 := (f2.mono (FS.mono rfl)).trans (f3.mono (FS.mono rfl))
          have hs3 := hs1.fs f13.1 rfl
          obtain ⟨⟨u1, u2, u3, u4, u5, u6, u7, u8, u9, u10⟩, ⟨k1, k2, k3, k4, k5, k6, k7, k8⟩, sD3⟩ := id hs3
          have hA3 : (if (!high) then q4a h3 2083 (R + 6) n else z4) = A := by
            rw [q4a_fr f13.1 (FS.n (by decide)), ← hA]; cases high <;> rfl
          have go170 : V X K 170 [.ref R, .int (nI d'), .int (nI os.length), .int (nI n), .int (bI two), .int (nI os.flatten.length), .int (nI G0.length), .int (bI high)] [.int (bI !high), .int (nI 4 * nI n), .ref (R + 6), .ref R] h3 := by
            refine k_X28_level_170 o ?_
            rw [nI_mul]
            refine radd_ok (p := n) hs3 m3 k6 (by decide) (by omega) (by omega) (by simp) (by decide) (by omega) fun h4 f4 m4 => ?_
            rw [hA3] at m4
            have f14 : Fq (FS mdF) h1 h4 := f13.trans (f4.mono (FS.mono rfl))
            have hs4 := hs1.fs f14.1 rfl
            obtain ⟨⟨u1, u2, u3, u4, u5, u6, u7, u8, u9, u10⟩, ⟨k1, k2, k3, k4, k5, k6, k7, k8⟩, sD4⟩ := id hs4
            have hB4 : (if (two || high) then q4a h4 2083 (R + 6) (if two then n + 1 else n) else z4) = B := by rw [q4a_fr f14.1 (FS.n (by decide))]; exact hB
            have ml : ([] ++ [i8 (nI 1)] ++ bytes4 A).length = 33 := by simp [bytes4, nb_len]
            have go209 : V X K 209 [.ref R, .int (nI d'), .int (nI os.length), .int (nI n), .int (bI two), .int (nI os.flatten.length), .int (nI G0.length), .int (bI high)] [.int (bI (two || high)), .int (nI (4 * (if two then n + 1 else n))), .ref (R + 6), .ref R] h4 := by
              refine k_X28_level_209 o ?_
              refine radd_ok (p := if two then n + 1 else n) hs4 m4 k6 (by decide) (by split; have := hn2 ‹_›; omega; omega) (by omega) (by rw [ml]; omega) (by decide) (by omega) fun h5 f5 m5 => ?_
              rw [hB4] at m5
              have f15 : Fq (FS mdF) h1 h5 := f14.trans (f5.mono (FS.mono rfl))
              have hs5 := hs1.fs f15.1 rfl
              have tR5 := hs5.1.1
              refine k_X28_level_212 o ?_
              refine keepHash_ok hs5 m5 ((hc.fr f1.1 (FS.n (by decide))).fr f15.1 (FS.n (by decide))) (by omega) (by simp [bytes4, nb_len]) (by omega) fun h6 f6 _ g6 r6 => ?_
              refine k_X28_level_217 o ?_
              refine wr h6 G0 two r' _ ((f15.mono (FS.mono rfl)).trans f6) (fun j hj => by rw [g6 j hj, q4a_fr f15.1 (FS.n (by decide))]) ?_ ht
              rw [r6, ← hAB]
              unfold hsh hmsg
              rw [List.nil_append]
            refine k_X28_level_173 o (fun c => ?_) (fun c => ?_)
            · have hz : two = false := bI_0.mp ‹_›
              subst hz
              refine k_X28_level_191 o ?_
              rw [nI_mul]
              refine k_X28_level_194 o (fun c => absurd rfl c) (fun _ => ?_)
              cases high with
              | false =>
                refine k_X28_level_199 o (fun _ => ?_) (fun c => absurd rfl c)
                refine k_X28_level_208 o ?_
                exact go209
              | true =>
                refine k_X28_level_199 o (fun c => absurd c (by decide)) (fun _ => ?_)
                refine k_X28_level_204 o ?_
                exact go209
            · have hz : two = true := by
                cases two with
                | true => rfl
                | false => exact absurd rfl ‹¬ _›
              subst hz
              refine k_X28_level_183 o ?_
              rw [nI_mul, nI_add, show 4 * n + 4 = 4 * (n + 1) by omega]
              refine k_X28_level_194 o (fun _ => ?_) (fun c => absurd c (by decide))
              refine k_X28_level_204 o ?_
              exact go209
          cases high with
          | true =>
            refine k_X28_level_152 o (fun _ => ?_) (fun c => absurd c (by decide))
            refine k_X28_level_169 o ?_
            exact go170
          | false =>
            refine k_X28_level_152 o (fun c => absurd rfl c) (fun _ => ?_)
            refine k_X28_level_165 o ?_
            exact go170
        have alone : (∀ g' t, r = g' :: t → ¬ agr d' (hd4 g) (hd4 g')) → ∀ v4, V X K 48 [.ref R, .int (nI d'), .int (nI os.length), .int (nI n), v4, v5, v6, v7] [] h1 := fun hna v4 => by
          have Ra := Rt_alone hd' (q3 g (by simp)) gne
          refine k_X28_level_48 o ?_
          refine k_X28_level_49 o (fun _ => ?_) (fun c => absurd rfl c)
          refine k_X28_level_82 o ?_
          refine k_X28_level_88 o (fun c => ?_) (fun c => ?_)
          · have c := (nI_leI (by omega) (by omega)).mp c
            rw [if_pos c] at Ra
            refine k_X28_level_220 o ?_
            have copy : ∀ m2 j h2, m2 + j = 4 → Fq (FS [10000 + 2083]) h1 h2 → (∀ i, i ≠ os.length → q4a h2 2083 (R + 6) i = q4a h1 2083 (R + 6) i) → (∀ i, i < 4 → (i < j ∨ os.length = n) → h2.EJ 2083 (R + 6) (4 * os.length + i) = h1.EJ 2083 (R + 6) (4 * n + i)) → V X K 223 [.ref R, .int (nI d'), .int (nI os.length), .int (nI n), .int (bI false), .int (nI os.flatten.length), .int (nI g.length), .int (nI j)] [] h2 := by
              intro m2
              induction m2 with
              | zero =>
                intro j h2 hj f2 p1 p2
                have : j = 4 := by omega
                subst this
                refine k_X28_level_223 o (fun _ => ?_) (fun c => absurd (by decide) c)
                refine wr h2 g false r _ (f2.mono (FS.mono rfl)) p1 ?_ ⟨rfl, rfl, hna⟩
                rw [Ra, ← b3]
                exact g4_ext fun i hi => by rw [q4a_g _ _ _ _ hi, q4a_g _ _ _ _ hi]; exact p2 i hi (Or.inl hi)
              | succ m2 ih2 =>
                intro j h2 hj f2 p1 p2
                have hs2 := hs1.fs f2.1 rfl
                obtain ⟨⟨u1, u2, u3, u4, u5, u6, u7, u8, u9, u10⟩, ⟨k1, k2, k3, k4, k5, k6, k7, k8⟩, sD3⟩ := id hs2
                have j0 : IX (nI 4 * nI n + nI j) 1024 (4 * n + j) := by rw [nI_mul, nI_add]; exact IX.mk (by omega) (by omega)
                have j1 : IX (nI 4 * nI os.length + nI j) 1024 (4 * os.length + j) := by rw [nI_mul, nI_add]; exact IX.mk (by omega) (by omega)
                have x0 : h2.EJ 2083 (R + 6) (4 * n + j) = h1.EJ 2083 (R + 6) (4 * n + j) := by
                  by_cases z : os.length = n
                  · rw [← z]; rw [z]; have := p2 j (by omega) (Or.inr z); rw [z] at this; exact this
                  · rw [← q4a_g _ _ _ _ (by omega), ← q4a_g _ _ _ _ (by omega), p1 n (by omega)]
                refine k_X28_level_223 o (fun c => absurd ((nI_leI (by omega) (by omega)).mp c) (by omega)) (fun _ => ?_)
                refine k_X28_level_229 o ?_
                rw [nI_add]
                refine ih2 (j + 1) _ (by omega) (f2.sEJ rfl) (fun i hi => by rw [q4a_set hi (by omega)]; exact p1 i hi) fun i hi hij => ?_
                rw [EJ_sEJ]
                by_cases z : i = j
                · subst z; rw [if_pos ⟨rfl, rfl, rfl⟩]
                · rw [if_neg (by omega)]; exact p2 i hi (by omega)
            exact copy 4 0 h1 rfl (Fq.refl h1) (fun i _ => rfl) fun i hi hij => by
              rcases hij with z | z
              · omega
              · rw [z]
          · have c : ¬ g.length ≤ 1 := fun z => c ((nI_leI (by omega) (by omega)).mpr z)
            rw [if_neg c] at Ra
            refine k_X28_level_96 o (fun c => absurd rfl c) (fun _ => ?_)
            have ed : nI d' / nI 64 = nI (d' / 64) := nI_div (by omega) (by omega) (by omega)
            have j0 : IX (nI 4 * nI os.flatten.length + (nI d' / nI 64)) 1024 (4 * os.flatten.length + d' / 64) := by rw [ed, nI_mul, nI_add]; exact IX.mk (by omega) (by omega)
            have x0 : h1.EJ 2003 (R + 1) (4 * os.flatten.length + d' / 64) = g4 (hd4 g) (d' / 64) := by rw [← kg, q4a_g _ _ _ _ (by omega)]
            have eb : un ((g4 (hd4 g) (d' / 64) >>> ((nI 63 - (nI d' - nI d' / nI 64 * nI 64)).toInt64 &&& 63)) &&& (1 : Int64)) = bt (hd4 g) d' := by rw [nI_mod (by omega) (by omega) (by omega), nI_sub (by omega), un_fld (m := 1) _ (by omega) (by omega) rfl]; rfl
            refine k_X28_level_101 o (fun c2 => ?_) (fun c2 => ?_)
            · have c2 : bt (hd4 g) d' ≠ 1 := fun z => c2 (un_inj (by rw [eb, z]; rfl))
              rw [if_neg c2] at Ra
              refine k_X28_level_134 o ?_
              exact hash2 false false g.length (Rt (255 - d') g) z4 g r (fun z => by cases z) b3 rfl Ra.symm rfl ⟨rfl, rfl, hna⟩
            · have c2 : bt (hd4 g) d' = 1 := by rw [← eb, c2]; rfl
              rw [if_pos c2] at Ra
              refine k_X28_level_130 o ?_
              exact hash2 false true g.length z4 (Rt (255 - d') g) g r (fun z => by cases z) rfl b3 Ra.symm rfl ⟨rfl, rfl, hna⟩
        refine k_X28_level_4 o (fun c => ?_) (fun _ => ?_)
        · exact absurd ((nI_leI (by omega) (by omega)).mp c) (by omega)
        cases r with
        | nil =>
          refine k_X28_level_12 o (fun _ => ?_) (fun c => ?_)
          · exact alone (fun g' t z => by cases z) _
          · rw [nI_add] at c
            simp at hng
            exact absurd ((nI_leI (by omega) (by omega)).mpr (by omega)) c
        | cons g' t =>
          simp only [List.length_cons] at hng hN
          have pw2 := List.pairwise_cons.mp pw.2
          have gne' := q2 g' (by simp)
          obtain ⟨⟨b1', b2', b3'⟩, rr'⟩ := rr
          have hfl3 : os.flatten.length + (g.length + (g'.length + t.flatten.length)) = S.length := by simpa [List.flatten_cons] using hfl2
          have gp' : 1 ≤ g'.length := by
            cases g' with
            | nil => exact absurd rfl gne'
            | cons _ _ => simp
          have kg' : q4a h1 2003 (R + 1) (os.flatten.length + g.length) = hd4 g' := by
            cases hg : g' with
            | nil => exact absurd hg gne'
            | cons x t' => exact keyAt _ x (by rw [← hfl, List.getElem?_append_right (by omega), List.flatten_cons, List.getElem?_append_right (by omega), List.flatten_cons, hg]; simp)
          have ixn1 : IX (nI n + nI 1) 256 (n + 1) := by rw [nI_add]; exact IX.mk (by omega) (by omega)
          refine k_X28_level_12 o (fun c => ?_) (fun _ => ?_)
          · rw [nI_add] at c
            exact absurd ((nI_leI (by omega) (by omega)).mp c) (by omega)
          refine k_X28_level_22 o ?_
          refine agree_ok hs1 (by omega) (by omega) (by omega) fun bb hbb => ?_
          rw [kg, kg'] at hbb
          refine k_X28_level_41 o (fun c => ?_) (fun c => ?_)
          · have c := bI_0.mp c
            exact alone (fun g2 t2 z => by cases z; exact fun y => by rw [hbb.mpr y] at c; cases c) _
          · have c : bb = true := by
              cases bb with
              | true => rfl
              | false => exact absurd rfl c
            have hag := hbb.mp c
            obtain ⟨x0, hx0, ex0⟩ := hd4_in gne
            obtain ⟨y0, hy0, ey0⟩ := hd4_in gne'
            rw [← ex0, ← ey0] at hag
            have hb := two_bits (pw.1 g' (by simp) x0 hx0 y0 hy0).1 hag (pw.1 g' (by simp) x0 hx0 y0 hy0).2
            have J := Rt_join hd' gne gne' (fun x hx => by rw [(agr_s.mp (q3 g (by simp) x hx x0 hx0)).2]; exact hb.1) (fun y hy => by rw [(agr_s.mp (q3 g' (by simp) y hy y0 hy0)).2]; exact hb.2)
            rw [ex0, ey0] at hag
            have gp : 1 ≤ g.length := by
              cases g with
              | nil => exact absurd rfl gne
              | cons _ _ => simp
            refine k_X28_level_44 o ?_
            refine k_X28_level_49 o (fun c => absurd c (by decide)) (fun _ => ?_)
            refine k_X28_level_64 o ?_
            rw [nI_add]
            refine k_X28_level_88 o (fun c => absurd ((nI_leI (by omega) (by omega)).mp c) (by omega)) (fun _ => ?_)
            refine k_X28_level_96 o (fun _ => ?_) (fun c => absurd c (by decide))
            refine k_X28_level_134 o ?_
            exact hash2 true false (g.length + g'.length) (Rt (255 - d') g) (Rt (255 - d') g') (g ++ g') t (fun _ => by omega) b3 b3' J.symm (by simp) ⟨g', rfl, rfl, hag⟩
  refine k_X28_level_0 o ?_
  exact loop gs0.length gs0 [] 0 h _ _ _ _ (Nat.le_refl _) (by simp) (by simp) (by simpa using hG.1) ⟨rfl, hG.2.1, hG.2.2.1, hG.2.2.2⟩ (Fq.refl h) hnd hr trivial (fun h' o' f' l' r' n' => kk h' o' f' l' (by simpa using r') (by simpa using n'))
