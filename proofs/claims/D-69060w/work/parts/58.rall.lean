/-! the twin's root -/
theorem mmax_ok {G : Gt} {d : Nat} {h : AH} {K : Outcome → AH → Prop} {a b : Int32} (kk : K (.returned (some (.int (if a < b then b else a)))) h) : MW G d e_J5_max [.int a, .int b] h K := by
  refine st_J5_max fun X o hG hD hf => ?_
  refine k_J5_max_0 o (fun c => ?_) (fun c => ?_)
  · rw [if_pos c] at kk
    refine k_J5_max_9 o ?_
    refine k_J5_max_10 o ?_
    refine (kk)
  · rw [if_neg c] at kk
    refine k_J5_max_5 o ?_
    refine k_J5_max_10 o ?_
    refine (kk)
theorem rows_single {h : AH} {R m : Nat} : ∀ (S : List (F4 × F4)) (i0 : Nat), (∀ j x, S[j]? = some x → h.EI 2096 (R + 7) (i0 + j) = nI (i0 + j) ∧ h.EI 2112 (R + 8) (i0 + j) = nI 1 ∧ q4a h 2083 (R + 6) (i0 + j) = leafh x) → rowsG h R m i0 i0 (S.map fun x => [x])
  | [], _, _ => trivial
  | x :: r, i0, hx => by
    obtain ⟨a1, a2, a3⟩ := hx 0 x rfl
    refine ⟨⟨a1, a2, by rw [Rt_one]; exact a3⟩, rows_single r (i0 + 1) fun j y hy => ?_⟩
    have := hx (j + 1) y (by simpa using hy)
    rw [show i0 + 1 + j = i0 + (j + 1) by omega]; exact this
/-- neighbours that don't agree: no two do -/
theorem far {l : Nat} (hl : l ≤ 256) : ∀ (S : List (F4 × F4)), so4 S → (∀ j x y, S[j]? = some x → S[j + 1]? = some y → ¬ agr l x.1 y.1) → S.Pairwise fun x y => lt4 x.1 y.1 ∧ ¬ agr l x.1 y.1
  | [], _, _ => List.Pairwise.nil
  | [x], _, _ => List.pairwise_singleton _ _
  | x :: y :: r, hs, ha => by
    have p1 := List.pairwise_cons.mp hs
    have p2 := List.pairwise_cons.mp p1.2
    have hxy := ha 0 x y rfl rfl
    refine List.pairwise_cons.mpr ⟨fun z hz => ⟨p1.1 z hz, fun q => ?_⟩, far hl (y :: r) p1.2 fun j a b h1 h2 => ha (j + 1) a b (by simpa using h1) (by simpa using h2)⟩
    rcases List.mem_cons.mp hz with e | e
    · subst e; exact hxy q
    · exact hxy (agr_mid hl (p1.1 y (by simp)) (p2.1 z e) q).1
theorem GR_single {l : Nat} {S : List (F4 × F4)} (h : S.Pairwise fun x y => lt4 x.1 y.1 ∧ ¬ agr l x.1 y.1) : GR l S (S.map fun x => [x]) := by
  refine ⟨?_, fun g hg => ?_, fun g hg x hx y hy => ?_, ?_⟩
  · clear h
    induction S with
    | nil => rfl
    | cons x r ih => simp [ih]
  · obtain ⟨x, _, rfl⟩ := List.mem_map.mp hg; simp
  · obtain ⟨z, _, rfl⟩ := List.mem_map.mp hg
    rw [List.mem_singleton.mp hx, List.mem_singleton.mp hy]; exact fun i _ => rfl
  · rw [List.pairwise_map]
    refine h.imp fun {a b} q x hx y hy => ?_
    rw [List.mem_singleton.mp hx, List.mem_singleton.mp hy]; exact q
theorem GR_0 {S : List (F4 × F4)} {gs : List (List (F4 × F4))} (h : GR 0 S gs) (h0 : S ≠ []) : gs = [S] := by
  obtain ⟨h1, h2, h3, h4⟩ := h
  match gs, h1, h2, h4 with
  | [], h1, _, _ => exact absurd h1.symm h0
  | [g], h1, _, _ => simp at h1; rw [h1]
  | g :: g' :: r, h1, h2, h4 =>
    obtain ⟨x, hx, _⟩ := hd4_in (h2 g (by simp))
    obtain ⟨y, hy, _⟩ := hd4_in (h2 g' (by simp))
    exact absurd (fun i hi => by omega) ((List.pairwise_cons.mp h4).1 g' (by simp) x hx y hy).2
theorem rall_ok {G : Gt} {d : Nat} {h : AH} {K : Outcome → AH → Prop} {R D : Nat} {es : List RE} (hs : SRo h R D) (hc : CT G h) (hr : RO h R es) (hso : soR es) (hl : es.length ≤ 256) (hd : 7 ≤ d)
    (kk : ∀ h', Fq (FS lvW) h h' → (es ≠ [] → q4a h' 2083 (R + 6) 0 = Rt 256 (es.map fun e => (e.1, e.2.1))) → K (.returned none) h') : MW G d e_X28_all [.ref R] h K := by
  refine st_X28_all fun X o hG hD hf => ?_
  subst hG; subst hD
  obtain ⟨hcn, hrow⟩ := hr
  generalize hS : (es.map fun e => (e.1, e.2.1)) = S at kk
  have hSl : S.length = es.length := by rw [← hS]; simp
  have hSg : ∀ j x, S[j]? = some x → ∃ e : RE, es[j]? = some e ∧ x = (e.1, e.2.1) := fun j x hx => by
    rw [← hS, List.getElem?_map, Option.map_eq_some_iff] at hx
    obtain ⟨e, h1, h2⟩ := hx
    exact ⟨e, h1, h2.symm⟩
  have hSs : so4 S := by
    rw [← hS]
    unfold so4
    rw [List.pairwise_map]
    exact hso
  have hK : KS h R S := fun j x hx => by
    obtain ⟨e, h1, h2⟩ := hSg j x hx
    rw [h2]; exact (hrow j e h1).1
  have hV : ∀ j x, S[j]? = some x → q4a h 2019 (R + 2) j = x.2 := fun j x hx => by
    obtain ⟨e, h1, h2⟩ := hSg j x hx
    rw [h2]; exact (hrow j e h1).2.1
  -- the levels
  have loop3 : ∀ q h1 v1 gs, q ≤ 256 → Fq (FS lvW) h h1 → GR q S gs → rowsG h1 R (256 - q) 0 0 gs → h1.I 3465 R = nI gs.length → V X K 114 [.ref R, v1, .int (nI q + (-1))] [] h1 := by
    intro q
    induction q with
    | zero =>
      intro h1 v1 gs hq f1 g1 r1 n1
      refine k_X28_all_114 o (fun c => ?_) (fun c => ?_)
      rotate_left
      · exact absurd (by decide) c
      refine k_X28_all_129 o ?_
      refine kk h1 f1 fun hne => ?_
      have hne' : S ≠ [] := fun z => hne (by rw [← hS] at z; simpa using z)
      have := GR_0 g1 hne'
      subst this
      exact r1.1.2.2
    | succ q ih =>
      intro h1 v1 gs hq f1 g1 r1 n1
      have hs1 := hs.fs f1.1 rfl
      have tR := hs1.1.1
      rw [pred_s]
      refine k_X28_all_114 o (fun c => ?_) (fun c => ?_)
      · exact absurd c (nI_pos (by omega))
      refine k_X28_all_118 o ?_
      refine level_ok hs1 (hc.fr f1.1 (FS.n (by decide))) (by omega) (by omega) (fun j x hx => by rw [q4a_fr f1.1 (FS.n (by decide))]; exact hK j x hx) g1 (by rw [show 255 - q = 256 - (q + 1) by omega]; exact r1) n1 (by omega) fun h2 o2 f2 l2 r2 n2 => ?_
      refine k_X28_all_123 o ?_
      exact ih h2 v1 o2 (by omega) (f1.trans f2) (lvs_ok (by omega) g1 l2) r2 n2
  -- where neighbours part
  have loop2 : ∀ m n p h1, m + n = es.length → p ≤ 256 → Fq (FS lvW) h h1 → h1.I 3465 R = nI es.length → rowsG h1 R 0 0 0 (S.map fun x => [x]) → (∀ j x y, j < n → S[j]? = some x → S[j + 1]? = some y → ¬ agr p x.1 y.1) → V X K 86 [.ref R, .int (nI p + (-1)), .int (nI n)] [] h1 := by
    intro m
    induction m with
    | zero =>
      intro n p h1 hn hp f1 n1 r1 a1
      have hs1 := hs.fs f1.1 rfl
      have tR := hs1.1.1
      have cn1 : h1.I 3461 R = nI es.length := by rw [f1.1.I (FS.n (by decide))]; exact hcn
      refine k_X28_all_86 o (fun c => ?_) (fun c => ?_)
      · refine k_X28_all_112 o ?_
        have hw := far hp S hSs fun j x y h1 h2 => a1 j x y (by have := (List.getElem?_eq_some_iff.mp h2).1; omega) h1 h2
        refine loop3 p h1 _ _ hp f1 (GR_single hw) ?_ (by rw [List.length_map, hSl]; exact n1)
        have : ∀ (l : List (F4 × F4)) (i b : Nat), rowsG h1 R 0 i b (l.map fun x => [x]) → rowsG h1 R (256 - p) i b (l.map fun x => [x]) := by
          intro l
          induction l with
          | nil => intro _ _ _; trivial
          | cons x r ih => intro i b ⟨⟨c1, c2, c3⟩, c4⟩; exact ⟨⟨c1, c2, by rw [Rt_one] at c3 ⊢; exact c3⟩, ih _ _ c4⟩
        exact this S 0 0 r1
      · rw [nI_add] at c
        exact absurd ((nI_leI (by omega) (by omega)).mpr (by omega)) c
    | succ m ih =>
      intro n p h1 hn hp f1 n1 r1 a1
      have hs1 := hs.fs f1.1 rfl
      have tR := hs1.1.1
      have cn1 : h1.I 3461 R = nI es.length := by rw [f1.1.I (FS.n (by decide))]; exact hcn
      have K1 : KS h1 R S := fun j x hx => by rw [q4a_fr f1.1 (FS.n (by decide))]; exact hK j x hx
      by_cases hlast : n + 1 = es.length
      · refine k_X28_all_86 o (fun c => ?_) (fun c => ?_)
        · refine k_X28_all_112 o ?_
          have hw := far hp S hSs fun j x y h1 h2 => a1 j x y (by have := (List.getElem?_eq_some_iff.mp h2).1; omega) h1 h2
          refine loop3 p h1 _ _ hp f1 (GR_single hw) ?_ (by rw [List.length_map, hSl]; exact n1)
          have : ∀ (l : List (F4 × F4)) (i b : Nat), rowsG h1 R 0 i b (l.map fun x => [x]) → rowsG h1 R (256 - p) i b (l.map fun x => [x]) := by
            intro l
            induction l with
            | nil => intro _ _ _; trivial
            | cons x r ih => intro i b ⟨⟨c1, c2, c3⟩, c4⟩; exact ⟨⟨c1, c2, by rw [Rt_one] at c3 ⊢; exact c3⟩, ih _ _ c4⟩
          exact this S 0 0 r1
        · rw [nI_add] at c
          exact absurd ((nI_leI (by omega) (by omega)).mpr (by omega)) c
      · obtain ⟨x, hx⟩ : ∃ x, S[n]? = some x := ⟨S[n]'(by omega), List.getElem?_eq_getElem (by omega)⟩
        obtain ⟨y, hy⟩ : ∃ y, S[n + 1]? = some y := ⟨S[n + 1]'(by omega), List.getElem?_eq_getElem (by omega)⟩
        have hxy : lt4 x.1 y.1 := by
          have := List.pairwise_iff_getElem.mp hSs n (n + 1) (by omega) (by omega) (by omega)
          rw [List.getElem?_eq_some_iff.mp hx |>.2, List.getElem?_eq_some_iff.mp hy |>.2] at this
          exact this
        refine k_X28_all_86 o (fun c => ?_) (fun c => ?_)
        · rw [nI_add] at c
          exact absurd ((nI_leI (by omega) (by omega)).mp c) (by omega)
        refine k_X28_all_96 o ?_
        refine parting_ok hs1 (by omega) (by rw [K1 n x hx, K1 (n + 1) y hy]; exact fun z => by rw [z] at hxy; exact lt4_irr hxy) fun l hl ag df => ?_
        rw [K1 n x hx, K1 (n + 1) y hy] at ag df
        refine k_X28_all_102 o ?_
        refine mmax_ok ?_
        have step : ∀ p', p' ≤ 256 → p ≤ p' → l < p' → V X K 105 [.ref R, .int (nI p + (-1)), .int (nI n)] [.int (nI p' + (-1))] h1 := fun p' h1' h2' h3' => by
          refine k_X28_all_105 o ?_
          rw [nI_add]
          refine ih (n + 1) p' h1 (by omega) h1' f1 n1 r1 fun j a b hj ha hb z => ?_
          rcases Nat.lt_or_ge j n with w | w
          · exact a1 j a b w ha hb (fun i hi => z i (by omega))
          · have : j = n := by omega
            subst this
            rw [hx] at ha; rw [hy] at hb
            cases ha; cases hb
            exact df (z l h3')
        by_cases cc : nI p + (-1) < nI l
        · rw [if_pos cc]
          have := (pred_lt (by omega) (by omega)).mp cc
          rw [← pred_s l]
          exact step (l + 1) (by omega) (by omega) (by omega)
        · rw [if_neg cc]
          have : ¬ p ≤ l := fun z => cc ((pred_lt (by omega) (by omega)).mpr z)
          exact step p hp (Nat.le_refl _) (by omega)
  -- leaves
  have loop1 : ∀ m n h1 v2, m + n = es.length → Fq (FS lvW) h h1 → h1.I 3465 R = nI es.length → (∀ j x, j < n → S[j]? = some x → h1.EI 2096 (R + 7) j = nI j ∧ h1.EI 2112 (R + 8) j = nI 1 ∧ q4a h1 2083 (R + 6) j = leafh x) → V X K 10 [.ref R, .int (nI n), v2] [] h1 := by
    intro m
    induction m with
    | zero =>
      intro n h1 v2 hn f1 n1 a1
      have hs1 := hs.fs f1.1 rfl
      have tR := hs1.1.1
      refine k_X28_all_10 o (fun c => ?_) (fun c => ?_)
      rotate_left
      · exact absurd ((nI_leI (by omega) (by omega)).mpr (by omega)) c
      refine k_X28_all_82 o ?_
      refine loop2 es.length 0 0 h1 (by omega) (by omega) f1 n1 (rows_single S 0 fun j x hx => ?_) (fun j x y hj => by omega)
      rw [Nat.zero_add]
      exact a1 j x (by have := (List.getElem?_eq_some_iff.mp hx).1; omega) hx
    | succ m ih =>
      intro n h1 v2 hn f1 n1 a1
      have hs1 := hs.fs f1.1 rfl
      obtain ⟨⟨e1, e2, e3, e4, e5, e6, e7, e8, e9, e10⟩, ⟨t1, t2, t3, t4, t5, t6, t7, t8⟩, sD⟩ := id hs1
      have ixn : IX (nI n) 256 n := IX.mk (by omega) (by omega)
      have tD := sD.1.1
      obtain ⟨x, hx⟩ : ∃ x, S[n]? = some x := ⟨S[n]'(by omega), List.getElem?_eq_getElem (by omega)⟩
      refine k_X28_all_10 o (fun c => ?_) (fun c => ?_)
      · exact absurd ((nI_leI (by omega) (by omega)).mp c) (by omega)
      refine k_X28_all_18 o ?_
      generalize hh : (h1.sEI 2096 (R + 7) n (nI n)).sEI 2112 (R + 8) n (nI 1) = h2
      have f12 : Fq (FS [10000 + 2096, 10000 + 2112]) h1 h2 := by rw [← hh]; exact (by refine Fq.sEI (Fq.sEI (Fq.refl h1) ?_) ?_ <;> exact rfl)
      have hs2 := hs1.fs f12.1 rfl
      refine tbegin_ok hs2.2.2 fun h3 f3 m3 => ?_
      have hs3 := hs2.fs f3.1 rfl
      obtain ⟨⟨u1, u2, u3, u4, u5, u6, u7, u8, u9, u10⟩, ⟨k1, k2, k3, k4, k5, k6, k7, k8⟩, sD3⟩ := id hs3
      have tD3 := sD3.1.1
      refine k_X28_all_39 o ?_
      refine tadd_ok m3 (by simp) fun h4 f4 m4 => ?_
      have f24 : Fq (FS mdF) h2 h4 := (f3.mono (FS.mono rfl)).trans (f4.mono (FS.mono rfl))
      have hs4 := hs2.fs f24.1 rfl
      obtain ⟨⟨u1, u2, u3, u4, u5, u6, u7, u8, u9, u10⟩, ⟨k1, k2, k3, k4, k5, k6, k7, k8⟩, sD4⟩ := id hs4
      have kq4 : q4a h4 2003 (R + 1) n = x.1 := by rw [q4a_fr f24.1 (FS.n (by decide)), q4a_fr f12.1 (FS.n (by decide)), q4a_fr f1.1 (FS.n (by decide))]; exact hK n x hx
      refine k_X28_all_47 o ?_
      rw [nI_mul]
      refine radd_ok (is := true) (p := n) hs4 m4 k1 (by decide) (by omega) (by omega) (by simp) (by decide) (by omega) fun h5 f5 m5 => ?_
      rw [if_pos rfl, kq4] at m5
      have f25 : Fq (FS mdF) h2 h5 := f24.trans (f5.mono (FS.mono rfl))
      have hs5 := hs2.fs f25.1 rfl
      obtain ⟨⟨u1, u2, u3, u4, u5, u6, u7, u8, u9, u10⟩, ⟨k1, k2, k3, k4, k5, k6, k7, k8⟩, sD5⟩ := id hs5
      have vq5 : q4a h5 2019 (R + 2) n = x.2 := by rw [q4a_fr f25.1 (FS.n (by decide)), q4a_fr f12.1 (FS.n (by decide)), q4a_fr f1.1 (FS.n (by decide))]; exact hV n x hx
      refine k_X28_all_59 o ?_
      rw [nI_mul]
      refine radd_ok (is := true) (p := n) hs5 m5 k2 (by decide) (by omega) (by omega) (by simp [bytes4, nb_len]) (by decide) (by omega) fun h6 f6 m6 => ?_
      rw [if_pos rfl, vq5] at m6
      have f26 : Fq (FS mdF) h2 h6 := f25.trans (f6.mono (FS.mono rfl))
      have hs6 := hs2.fs f26.1 rfl
      have tR6 := hs6.1.1
      refine k_X28_all_71 o ?_
      refine keepHash_ok hs6 m6 (((hc.fr f1.1 (FS.n (by decide))).fr f12.1 (FS.n (by decide))).fr f26.1 (FS.n (by decide))) (by omega) (by simp [bytes4, nb_len]) (by omega) fun h7 f7 _ g7 r7 => ?_
      have F7 : Fq (FS lvW) h h7 := ((f1.trans (f12.mono (FS.mono rfl))).trans (f26.mono (FS.mono rfl))).trans (f7.mono (FS.mono rfl))
      refine k_X28_all_76 o ?_
      rw [nI_add]
      refine ih (n + 1) h7 _ (by omega) F7 (by rw [f7.1.I (FS.n (by decide)), f26.1.I (FS.n (by decide)), f12.1.I (FS.n (by decide))]; exact n1) fun j y hj hy => ?_
      have eb : h7.EI 2096 (R + 7) j = h2.EI 2096 (R + 7) j := by rw [f7.1.EI (FS.n (by decide)), f26.1.EI (FS.n (by decide))]
      have ez : h7.EI 2112 (R + 8) j = h2.EI 2112 (R + 8) j := by rw [f7.1.EI (FS.n (by decide)), f26.1.EI (FS.n (by decide))]
      rw [eb, ez]
      by_cases z : j = n
      · subst z
        rw [hx] at hy
        cases hy
        refine ⟨by rw [← hh]; simp [n_sI, z_sI, tag_sI, I_sI, J_sI, R_sI, EI_sI, EJ_sI, ER_sI, n_sJ, z_sJ, tag_sJ, I_sJ, J_sJ, R_sJ, EI_sJ, EJ_sJ, ER_sJ, n_sR, z_sR, tag_sR, I_sR, J_sR, R_sR, EI_sR, EJ_sR, ER_sR, n_sEI, z_sEI, tag_sEI, I_sEI, J_sEI, R_sEI, EI_sEI, EJ_sEI, ER_sEI, n_sEJ, z_sEJ, tag_sEJ, I_sEJ, J_sEJ, R_sEJ, EI_sEJ, EJ_sEJ, ER_sEJ, n_sER, z_sER, tag_sER, I_sER, J_sER, R_sER, EI_sER, EJ_sER, ER_sER, n_nw, z_nw, tag_nw, I_nw, J_nw, R_nw, EI_nw, EJ_nw, ER_nw], by rw [← hh]; simp [n_sI, z_sI, tag_sI, I_sI, J_sI, R_sI, EI_sI, EJ_sI, ER_sI, n_sJ, z_sJ, tag_sJ, I_sJ, J_sJ, R_sJ, EI_sJ, EJ_sJ, ER_sJ, n_sR, z_sR, tag_sR, I_sR, J_sR, R_sR, EI_sR, EJ_sR, ER_sR, n_sEI, z_sEI, tag_sEI, I_sEI, J_sEI, R_sEI, EI_sEI, EJ_sEI, ER_sEI, n_sEJ, z_sEJ, tag_sEJ, I_sEJ, J_sEJ, R_sEJ, EI_sEJ, EJ_sEJ, ER_sEJ, n_sER, z_sER, tag_sER, I_sER, J_sER, R_sER, EI_sER, EJ_sER, ER_sER, n_nw, z_nw, tag_nw, I_nw, J_nw, R_nw, EI_nw, EJ_nw, ER_nw], ?_⟩
        rw [r7]
        unfold leafh hsh hmsg
        rw [List.nil_append]
      · obtain ⟨c1, c2, c3⟩ := a1 j y (by omega) hy
        refine ⟨by rw [← hh]; simp [n_sI, z_sI, tag_sI, I_sI, J_sI, R_sI, EI_sI, EJ_sI, ER_sI, n_sJ, z_sJ, tag_sJ, I_sJ, J_sJ, R_sJ, EI_sJ, EJ_sJ, ER_sJ, n_sR, z_sR, tag_sR, I_sR, J_sR, R_sR, EI_sR, EJ_sR, ER_sR, n_sEI, z_sEI, tag_sEI, I_sEI, J_sEI, R_sEI, EI_sEI, EJ_sEI, ER_sEI, n_sEJ, z_sEJ, tag_sEJ, I_sEJ, J_sEJ, R_sEJ, EI_sEJ, EJ_sEJ, ER_sEJ, n_sER, z_sER, tag_sER, I_sER, J_sER, R_sER, EI_sER, EJ_sER, ER_sER, n_nw, z_nw, tag_nw, I_nw, J_nw, R_nw, EI_nw, EJ_nw, ER_nw, z]; exact c1, by rw [← hh]; simp [n_sI, z_sI, tag_sI, I_sI, J_sI, R_sI, EI_sI, EJ_sI, ER_sI, n_sJ, z_sJ, tag_sJ, I_sJ, J_sJ, R_sJ, EI_sJ, EJ_sJ, ER_sJ, n_sR, z_sR, tag_sR, I_sR, J_sR, R_sR, EI_sR, EJ_sR, ER_sR, n_sEI, z_sEI, tag_sEI, I_sEI, J_sEI, R_sEI, EI_sEI, EJ_sEI, ER_sEI, n_sEJ, z_sEJ, tag_sEJ, I_sEJ, J_sEJ, R_sEJ, EI_sEJ, EJ_sEJ, ER_sEJ, n_sER, z_sER, tag_sER, I_sER, J_sER, R_sER, EI_sER, EJ_sER, ER_sER, n_nw, z_nw, tag_nw, I_nw, J_nw, R_nw, EI_nw, EJ_nw, ER_nw, z]; exact c2, ?_⟩
        rw [g7 j z, q4a_fr f26.1 (FS.n (by decide)), q4a_fr f12.1 (FS.n (by decide))]; exact c3
  have tR := hs.1.1
  refine k_X28_all_0 o ?_
  exact loop1 es.length 0 _ _ (by omega) ((Fq.refl h).sI rfl) (by rw [I_same]) fun j x hj => by omega
theorem rget_ok {G : Gt} {d : Nat} {h : AH} {K : Outcome → AH → Prop} {R D i : Nat} {es : List RE} {r : F4} (hs : SRo h R D) (hr : h.I 3461 R = nI es.length) (hl : es.length ≤ 256) (hi : i < 4) (hq : es ≠ [] → q4a h 2083 (R + 6) 0 = r) (hz : es = [] → r = z4) (kk : K (.returned (some (.long (g4 r i)))) h) : MW G d e_X28_get [.ref R, .int (nI i)] h K := by
  refine st_X28_get fun X o hG hD hf => ?_
  obtain ⟨⟨e1, e2, e3, e4, e5, e6, e7, e8, e9, e10⟩, ⟨t1, t2, t3, t4, t5, t6, t7, t8⟩, sD⟩ := id hs
  have ix : IX (nI i) 1024 i := IX.mk (by omega) (by omega)
  refine k_X28_get_0 o (fun c => ?_) (fun c => ?_)
  · have c : es ≠ [] := fun z => c (by rw [z]; rfl)
    have x0 : h.EJ 2083 (R + 6) i = g4 r i := by rw [← hq c, q4a_g _ _ _ _ hi, Nat.mul_zero, Nat.zero_add]
    refine k_X28_get_11 o ?_
    refine k_X28_get_17 o ?_
    refine (kk)
  · have c : es = [] := List.length_eq_zero_iff.mp ((nI_eq (b := 0) (by omega) (by omega)).mp c)
    have : g4 r i = 0 := by rw [hz c]; unfold g4 z4; simp
    rw [this] at kk
    refine k_X28_get_7 o ?_
    refine k_X28_get_17 o ?_
    refine (kk)
theorem rbegin_ok {G : Gt} {d : Nat} {h : AH} {K : Outcome → AH → Prop} {R D : Nat} (hs : SRo h R D) (kk : ∀ h', Fq (FS [3461]) h h' → RO h' R [] → K (.returned none) h') : MW G d e_X28_begin [.ref R] h K := by
  refine st_X28_begin fun X o hG hD hf => ?_
  have tR := hs.1.1
  refine k_X28_begin_0 o ?_
  exact kk _ ((Fq.refl h).sI rfl) ⟨I_same .., fun i e he => by simp at he⟩
