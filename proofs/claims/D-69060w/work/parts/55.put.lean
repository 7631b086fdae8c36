/-! the twin's keys in their order: a new one -/
def roW : List Nat := [10000 + 2003, 10000 + 2019, 10000 + 2032, 10000 + 2051, 10000 + 2064, 3461]
abbrev RE : Type := F4 × F4 × PL3
/-- row i -/
def ROw (h : AH) (R i : Nat) (e : RE) : Prop := q4a h 2003 (R + 1) i = e.1 ∧ q4a h 2019 (R + 2) i = e.2.1 ∧ h.EI 2032 (R + 3) i = e.2.2.1 ∧ h.EJ 2051 (R + 4) i = e.2.2.2.1 ∧ h.EI 2064 (R + 5) i = e.2.2.2.2
def RO (h : AH) (R : Nat) (es : List RE) : Prop := h.I 3461 R = nI es.length ∧ ∀ i e, es[i]? = some e → ROw h R i e
/-- all rows but one are as they were -/
def RU (R p : Nat) (h h' : AH) : Prop := ∀ i, i ≠ p → q4a h' 2003 (R + 1) i = q4a h 2003 (R + 1) i ∧ q4a h' 2019 (R + 2) i = q4a h 2019 (R + 2) i ∧ h'.EI 2032 (R + 3) i = h.EI 2032 (R + 3) i ∧ h'.EJ 2051 (R + 4) i = h.EJ 2051 (R + 4) i ∧ h'.EI 2064 (R + 5) i = h.EI 2064 (R + 5) i
theorem ROw.ru {R p i : Nat} {h h' : AH} {e : RE} (r : ROw h R i e) (u : RU R p h h') (hi : i ≠ p) : ROw h' R i e := by
  obtain ⟨a1, a2, a3, a4, a5⟩ := u i hi
  obtain ⟨b1, b2, b3, b4, b5⟩ := r
  exact ⟨a1.trans b1, a2.trans b2, a3.trans b3, a4.trans b4, a5.trans b5⟩
theorem q4a_set {h : AH} {t a p j i : Nat} {v : Int64} (hi : i ≠ p) (hj : j < 4) : q4a (h.sEJ t a (4 * p + j) v) t a i = q4a h t a i := by
  unfold q4a
  simp only [EJ_sEJ, true_and]
  rw [if_neg (by omega), if_neg (by omega), if_neg (by omega), if_neg (by omega)]
theorem q4a_oth {h : AH} {t a t' a' i j : Nat} {v : Int64} (ht : t ≠ t') : q4a (h.sEJ t' a' j v) t a i = q4a h t a i := by
  unfold q4a
  simp only [EJ_sEJ]
  rw [if_neg (fun q => ht q.1), if_neg (fun q => ht q.1), if_neg (fun q => ht q.1), if_neg (fun q => ht q.1)]
theorem rkeep_ok {G : Gt} {d : Nat} {h : AH} {K : Outcome → AH → Prop} {R D p A t A' t' : Nat} {k v : F4} {pl : PL3} (hs : SRo h R D) (hp : p < 256) (hA : h.tag A = some (t, 4)) (ht : 64 ≤ t ∧ t % 16 = 3) (hn : t ≠ 2003 ∧ t ≠ 2019) (hk : q4a h t A 0 = k) (hA' : h.tag A' = some (t', 4)) (ht' : 64 ≤ t' ∧ t' % 16 = 3) (hn' : t' ≠ 2003 ∧ t' ≠ 2019) (hv : q4a h t' A' 0 = v)
    (kk : ∀ h', Fq (FS roW) h h' → h'.I 3461 R = h.I 3461 R → RU R p h h' → ROw h' R p (k, v, pl) → K (.returned none) h') : MW G d e_X28_keep [.ref R, .int (nI p), .ref A, .ref A', .int pl.1, .long pl.2.1, .int pl.2.2] h K := by
  refine st_X28_keep fun X o hG hD hf => ?_
  have ixp : IX (nI p) 256 p := IX.mk hp (by omega)
  have loop : ∀ m i h1, m + i = 4 → Fq (FS [10000 + 2003, 10000 + 2019]) h h1 → (∀ j, j ≠ p → q4a h1 2003 (R + 1) j = q4a h 2003 (R + 1) j ∧ q4a h1 2019 (R + 2) j = q4a h 2019 (R + 2) j) → (q4a h1 t A 0 = k ∧ q4a h1 t' A' 0 = v) → (∀ j, j < i → h1.EJ 2003 (R + 1) (4 * p + j) = g4 k j ∧ h1.EJ 2019 (R + 2) (4 * p + j) = g4 v j) → V X K 3 [.ref R, .int (nI p), .ref A, .ref A', .int pl.1, .long pl.2.1, nov, .int pl.2.2, .int (nI i)] [] h1 := by
    intro m
    induction m with
    | zero =>
      intro i h1 hi f1 g1 g2 g3
      have : i = 4 := by omega
      subst this
      obtain ⟨⟨e1, e2, e3, e4, e5, e6, e7, e8, e9, e10⟩, ⟨t1, t2, t3, t4, t5, t6, t7, t8⟩, s1⟩ := hs.fs f1.1 rfl
      refine k_X28_keep_3 o (fun c => ?_) (fun c => ?_)
      rotate_left
      · exact absurd (by decide) c
      refine k_X28_keep_45 o ?_
      have F : Fq (FS roW) h (((h1.sEI 2032 (R + 3) p pl.1).sEJ 2051 (R + 4) p pl.2.1).sEI 2064 (R + 5) p pl.2.2) := (by refine Fq.sEI (Fq.sEJ (Fq.sEI (f1.mono (FS.mono rfl)) ?_) ?_) ?_ <;> exact rfl)
      refine kk _ F (by simp only [I_sEI, I_sEJ]; exact f1.1.I (FS.n (by decide))) (fun j hj => ?_) ⟨?_, ?_, ?_, ?_, ?_⟩
      · obtain ⟨b1, b2⟩ := g1 j hj
        refine ⟨?_, ?_, ?_, ?_, ?_⟩
        · rw [← b1]; unfold q4a; simp [n_sI, z_sI, tag_sI, I_sI, J_sI, R_sI, EI_sI, EJ_sI, ER_sI, n_sJ, z_sJ, tag_sJ, I_sJ, J_sJ, R_sJ, EI_sJ, EJ_sJ, ER_sJ, n_sR, z_sR, tag_sR, I_sR, J_sR, R_sR, EI_sR, EJ_sR, ER_sR, n_sEI, z_sEI, tag_sEI, I_sEI, J_sEI, R_sEI, EI_sEI, EJ_sEI, ER_sEI, n_sEJ, z_sEJ, tag_sEJ, I_sEJ, J_sEJ, R_sEJ, EI_sEJ, EJ_sEJ, ER_sEJ, n_sER, z_sER, tag_sER, I_sER, J_sER, R_sER, EI_sER, EJ_sER, ER_sER, n_nw, z_nw, tag_nw, I_nw, J_nw, R_nw, EI_nw, EJ_nw, ER_nw]
        · rw [← b2]; unfold q4a; simp [n_sI, z_sI, tag_sI, I_sI, J_sI, R_sI, EI_sI, EJ_sI, ER_sI, n_sJ, z_sJ, tag_sJ, I_sJ, J_sJ, R_sJ, EI_sJ, EJ_sJ, ER_sJ, n_sR, z_sR, tag_sR, I_sR, J_sR, R_sR, EI_sR, EJ_sR, ER_sR, n_sEI, z_sEI, tag_sEI, I_sEI, J_sEI, R_sEI, EI_sEI, EJ_sEI, ER_sEI, n_sEJ, z_sEJ, tag_sEJ, I_sEJ, J_sEJ, R_sEJ, EI_sEJ, EJ_sEJ, ER_sEJ, n_sER, z_sER, tag_sER, I_sER, J_sER, R_sER, EI_sER, EJ_sER, ER_sER, n_nw, z_nw, tag_nw, I_nw, J_nw, R_nw, EI_nw, EJ_nw, ER_nw]
        · simp [n_sI, z_sI, tag_sI, I_sI, J_sI, R_sI, EI_sI, EJ_sI, ER_sI, n_sJ, z_sJ, tag_sJ, I_sJ, J_sJ, R_sJ, EI_sJ, EJ_sJ, ER_sJ, n_sR, z_sR, tag_sR, I_sR, J_sR, R_sR, EI_sR, EJ_sR, ER_sR, n_sEI, z_sEI, tag_sEI, I_sEI, J_sEI, R_sEI, EI_sEI, EJ_sEI, ER_sEI, n_sEJ, z_sEJ, tag_sEJ, I_sEJ, J_sEJ, R_sEJ, EI_sEJ, EJ_sEJ, ER_sEJ, n_sER, z_sER, tag_sER, I_sER, J_sER, R_sER, EI_sER, EJ_sER, ER_sER, n_nw, z_nw, tag_nw, I_nw, J_nw, R_nw, EI_nw, EJ_nw, ER_nw, hj]; exact f1.1.EI (FS.n (by decide)) j
        · simp [n_sI, z_sI, tag_sI, I_sI, J_sI, R_sI, EI_sI, EJ_sI, ER_sI, n_sJ, z_sJ, tag_sJ, I_sJ, J_sJ, R_sJ, EI_sJ, EJ_sJ, ER_sJ, n_sR, z_sR, tag_sR, I_sR, J_sR, R_sR, EI_sR, EJ_sR, ER_sR, n_sEI, z_sEI, tag_sEI, I_sEI, J_sEI, R_sEI, EI_sEI, EJ_sEI, ER_sEI, n_sEJ, z_sEJ, tag_sEJ, I_sEJ, J_sEJ, R_sEJ, EI_sEJ, EJ_sEJ, ER_sEJ, n_sER, z_sER, tag_sER, I_sER, J_sER, R_sER, EI_sER, EJ_sER, ER_sER, n_nw, z_nw, tag_nw, I_nw, J_nw, R_nw, EI_nw, EJ_nw, ER_nw, hj]; exact f1.1.EJ (FS.n (by decide)) j
        · simp [n_sI, z_sI, tag_sI, I_sI, J_sI, R_sI, EI_sI, EJ_sI, ER_sI, n_sJ, z_sJ, tag_sJ, I_sJ, J_sJ, R_sJ, EI_sJ, EJ_sJ, ER_sJ, n_sR, z_sR, tag_sR, I_sR, J_sR, R_sR, EI_sR, EJ_sR, ER_sR, n_sEI, z_sEI, tag_sEI, I_sEI, J_sEI, R_sEI, EI_sEI, EJ_sEI, ER_sEI, n_sEJ, z_sEJ, tag_sEJ, I_sEJ, J_sEJ, R_sEJ, EI_sEJ, EJ_sEJ, ER_sEJ, n_sER, z_sER, tag_sER, I_sER, J_sER, R_sER, EI_sER, EJ_sER, ER_sER, n_nw, z_nw, tag_nw, I_nw, J_nw, R_nw, EI_nw, EJ_nw, ER_nw, hj]; exact f1.1.EI (FS.n (by decide)) j
      · refine g4_ext fun j hj => ?_
        rw [q4a_g _ _ _ _ hj]; simp only [EJ_sEI, EJ_sEJ]; rw [if_neg (by omega)]; exact (g3 j hj).1
      · refine g4_ext fun j hj => ?_
        rw [q4a_g _ _ _ _ hj]; simp only [EJ_sEI, EJ_sEJ]; rw [if_neg (by omega)]; exact (g3 j hj).2
      · simp [n_sI, z_sI, tag_sI, I_sI, J_sI, R_sI, EI_sI, EJ_sI, ER_sI, n_sJ, z_sJ, tag_sJ, I_sJ, J_sJ, R_sJ, EI_sJ, EJ_sJ, ER_sJ, n_sR, z_sR, tag_sR, I_sR, J_sR, R_sR, EI_sR, EJ_sR, ER_sR, n_sEI, z_sEI, tag_sEI, I_sEI, J_sEI, R_sEI, EI_sEI, EJ_sEI, ER_sEI, n_sEJ, z_sEJ, tag_sEJ, I_sEJ, J_sEJ, R_sEJ, EI_sEJ, EJ_sEJ, ER_sEJ, n_sER, z_sER, tag_sER, I_sER, J_sER, R_sER, EI_sER, EJ_sER, ER_sER, n_nw, z_nw, tag_nw, I_nw, J_nw, R_nw, EI_nw, EJ_nw, ER_nw]
      · simp [n_sI, z_sI, tag_sI, I_sI, J_sI, R_sI, EI_sI, EJ_sI, ER_sI, n_sJ, z_sJ, tag_sJ, I_sJ, J_sJ, R_sJ, EI_sJ, EJ_sJ, ER_sJ, n_sR, z_sR, tag_sR, I_sR, J_sR, R_sR, EI_sR, EJ_sR, ER_sR, n_sEI, z_sEI, tag_sEI, I_sEI, J_sEI, R_sEI, EI_sEI, EJ_sEI, ER_sEI, n_sEJ, z_sEJ, tag_sEJ, I_sEJ, J_sEJ, R_sEJ, EI_sEJ, EJ_sEJ, ER_sEJ, n_sER, z_sER, tag_sER, I_sER, J_sER, R_sER, EI_sER, EJ_sER, ER_sER, n_nw, z_nw, tag_nw, I_nw, J_nw, R_nw, EI_nw, EJ_nw, ER_nw]
      · simp [n_sI, z_sI, tag_sI, I_sI, J_sI, R_sI, EI_sI, EJ_sI, ER_sI, n_sJ, z_sJ, tag_sJ, I_sJ, J_sJ, R_sJ, EI_sJ, EJ_sJ, ER_sJ, n_sR, z_sR, tag_sR, I_sR, J_sR, R_sR, EI_sR, EJ_sR, ER_sR, n_sEI, z_sEI, tag_sEI, I_sEI, J_sEI, R_sEI, EI_sEI, EJ_sEI, ER_sEI, n_sEJ, z_sEJ, tag_sEJ, I_sEJ, J_sEJ, R_sEJ, EI_sEJ, EJ_sEJ, ER_sEJ, n_sER, z_sER, tag_sER, I_sER, J_sER, R_sER, EI_sER, EJ_sER, ER_sER, n_nw, z_nw, tag_nw, I_nw, J_nw, R_nw, EI_nw, EJ_nw, ER_nw]
    | succ m ih =>
      intro i h1 hi f1 g1 g2 g3
      obtain ⟨⟨e1, e2, e3, e4, e5, e6, e7, e8, e9, e10⟩, ⟨t1, t2, t3, t4, t5, t6, t7, t8⟩, s1⟩ := hs.fs f1.1 rfl
      have ta := f1.1.tag hA
      have tb := f1.1.tag hA'
      have i0 : IX (nI 4 * nI p + nI i) 1024 (4 * p + i) := by rw [nI_mul, nI_add]; exact IX.mk (by omega) (by omega)
      have i1 : IX (nI i) 4 i := IX.mk (by omega) (by omega)
      have x0 : h1.EJ t A i = g4 k i := by rw [← g2.1, q4a_g _ _ _ _ (by omega), Nat.mul_zero, Nat.zero_add]
      have x1 : (h1.sEJ 2003 (R + 1) (4 * p + i) (g4 k i)).EJ t' A' i = g4 v i := by rw [EJ_sEJ, if_neg (fun q => hn'.1 q.1), ← g2.2, q4a_g _ _ _ _ (by omega), Nat.mul_zero, Nat.zero_add]
      refine k_X28_keep_3 o (fun c => ?_) (fun c => ?_)
      · exact absurd ((nI_leI (by omega) (by omega)).mp c) (by omega)
      refine k_X28_keep_9 o ?_ (c11 := ht) (c25 := ht')
      rw [nI_add]
      refine ih (i + 1) _ (by omega) (by refine Fq.sEJ (Fq.sEJ f1 ?_) ?_ <;> exact rfl) (fun j hj => ?_) ⟨?_, ?_⟩ (fun j hj => ?_)
      · rw [q4a_oth (by decide), q4a_set hj (by omega), q4a_set hj (by omega), q4a_oth (by decide)]; exact g1 j hj
      · rw [q4a_oth hn.2, q4a_oth hn.1]; exact g2.1
      · rw [q4a_oth hn'.2, q4a_oth hn'.1]; exact g2.2
      · simp only [EJ_sEJ]
        rcases Nat.lt_or_ge j i with z | z
        · rw [if_neg (by omega), if_neg (by omega), if_neg (by omega), if_neg (by omega)]; exact g3 j z
        · have : j = i := by omega
          subst this
          simp
  refine k_X28_keep_0 o ?_
  exact loop 4 0 h rfl (Fq.refl h) (fun j _ => ⟨rfl, rfl⟩) ⟨hk, hv⟩ fun j hj => by omega
/-- what is done with a new row -/
def PUT (es : List RE) (e : RE) (es' : List RE) : Prop := (∃ A B, es = A ++ B ∧ (∀ b ∈ B, lt4 e.1 b.1) ∧ (∀ a ∈ A, lt4 a.1 e.1) ∧ es' = A ++ e :: B) ∨ (∃ A x B, es = A ++ x :: B ∧ x.1 = e.1 ∧ es' = A ++ (if pls x.2.2 e.2.2 then x else e) :: B)
def soR (es : List RE) : Prop := es.Pairwise fun x y => lt4 x.1 y.1
theorem rput_ok {G : Gt} {d : Nat} {h : AH} {K : Outcome → AH → Prop} {R D A t A' t' : Nat} {e : RE} {es : List RE} (hs : SRo h R D) (hr : RO h R es) (hso : soR es) (hl : es.length < 256) (hA : h.tag A = some (t, 4)) (ht : 64 ≤ t ∧ t % 16 = 3) (hn : t ≠ 2003 ∧ t ≠ 2019 ∧ t ≠ 2051) (hk : q4a h t A 0 = e.1) (hA' : h.tag A' = some (t', 4)) (ht' : 64 ≤ t' ∧ t' % 16 = 3) (hn' : t' ≠ 2003 ∧ t' ≠ 2019 ∧ t' ≠ 2051) (hv : q4a h t' A' 0 = e.2.1) (hd : 2 ≤ d)
    (kk : ∀ h' es', Fq (FS roW) h h' → RO h' R es' → PUT es e es' → K (.returned none) h') : MW G d e_X28_put [.ref R, .ref A, .ref A', .int e.2.2.1, .long e.2.2.2.1, .int e.2.2.2.2] h K := by
  refine st_X28_put fun X o hG hD hf => ?_
  subst hG; subst hD
  obtain ⟨⟨e1, e2, e3, e4, e5, e6, e7, e8, e9, e10⟩, ⟨t1, t2, t3, t4, t5, t6, t7, t8⟩, s1⟩ := id hs
  obtain ⟨hc, hrow⟩ := id hr
  have tR := e1
  have len31 : es.length < 2147483648 := by omega
  -- rows are moved up from p on
  have move : ∀ A0 B, es = A0 ++ B → (∀ b ∈ B, lt4 e.1 b.1) → (∀ a ∈ A0, lt4 a.1 e.1) → ∀ v8 v9, V X K 78 [.ref R, .ref A, .ref A', .int e.2.2.1, .long e.2.2.2.1, nov, .int e.2.2.2.2, .int (nI A0.length), v8, v9] [] h := by
    intro A0 B hes hB hA0 v8 v9
    have hle : A0.length + B.length = es.length := by rw [hes]; simp
    -- at q: rows above q are moved
    have outer : ∀ m q h1 v9, m + A0.length = q → q ≤ es.length → Fq (FS roW) h h1 → h1.I 3461 R = nI es.length → (q4a h1 t A 0 = e.1 ∧ q4a h1 t' A' 0 = e.2.1) → (∀ i x, es[i]? = some x → (i < q → ROw h1 R i x) ∧ (q ≤ i → ROw h1 R (i + 1) x)) → V X K 84 [.ref R, .ref A, .ref A', .int e.2.2.1, .long e.2.2.2.1, nov, .int e.2.2.2.2, .int (nI A0.length), .int (nI q), v9] [] h1 := by
      intro m
      induction m with
      | zero =>
        intro q h1 v9 hq hq2 f1 c1 g1 g2
        have hq : q = A0.length := by omega
        subst hq
        have hs1 := hs.fs f1.1 rfl
        have tR1 := hs1.1.1
        refine k_X28_put_84 o (fun c => ?_) (fun c => ?_)
        rotate_left
        · exact absurd ((nI_leI (by omega) (by omega)).mpr (Nat.le_refl _)) c
        refine k_X28_put_212 o ?_
        refine rkeep_ok (pl := e.2.2) hs1 (by omega) (f1.1.tag hA) ht ⟨hn.1, hn.2.1⟩ g1.1 (f1.1.tag hA') ht' ⟨hn'.1, hn'.2.1⟩ g1.2 fun h2 f2 c2 u2 w2 => ?_
        have hs2 := hs1.fs f2.1 rfl
        have tR2 := hs2.1.1
        have c2' : h2.I 3461 R = nI es.length := c2.trans c1
        refine k_X28_put_225 o ?_
        rw [nI_add]
        refine kk _ (A0 ++ e :: B) ((f1.trans f2).sI rfl) ⟨by rw [I_same]; congr 1; simp; omega, fun i x hx => ?_⟩ (Or.inl ⟨A0, B, hes, hB, hA0, rfl⟩)
        show ROw h2 R i x
        rcases Nat.lt_trichotomy i A0.length with z | z | z
        · rw [List.getElem?_append_left z] at hx
          refine ((g2 i x (by rw [hes, List.getElem?_append_left z]; exact hx)).1 z).ru u2 (by omega)
        · subst z
          rw [List.getElem?_append_right (Nat.le_refl _), Nat.sub_self] at hx
          cases hx
          exact w2
        · obtain ⟨i', rfl⟩ : ∃ i', i = i' + 1 := ⟨i - 1, by omega⟩
          rw [List.getElem?_append_right (by omega), show i' + 1 - A0.length = (i' - A0.length) + 1 by omega, List.getElem?_cons_succ] at hx
          refine ((g2 i' x (by rw [hes, List.getElem?_append_right (by omega)]; exact hx)).2 (by omega)).ru u2 (by omega)
      | succ m ih =>
        intro q h1 v9 hq hq2 f1 c1 g1 g2
        have hs1 := hs.fs f1.1 rfl
        obtain ⟨⟨e1, e2, e3, e4, e5, e6, e7, e8, e9, e10⟩, ⟨t1, t2, t3, t4, t5, t6, t7, t8⟩, s1⟩ := id hs1
        have ixq : IX (nI q) 256 q := IX.mk (by omega) (by omega)
        have ixq1 : IX (nI q - nI 1) 256 (q - 1) := by rw [nI_sub (by omega)]; exact IX.mk (by omega) (by omega)
        have en : nI q + (-1) = nI (q - 1) := by
          obtain ⟨q', rfl⟩ : ∃ q', q = q' + 1 := ⟨q - 1, by omega⟩
          rw [pred_s]; rfl
        have inner : ∀ m2 j h2, m2 + j = 4 → Fq (FS [10000 + 2003, 10000 + 2019]) h1 h2 → (∀ i, i ≠ q → q4a h2 2003 (R + 1) i = q4a h1 2003 (R + 1) i ∧ q4a h2 2019 (R + 2) i = q4a h1 2019 (R + 2) i) → (∀ i, i < j → h2.EJ 2003 (R + 1) (4 * q + i) = h1.EJ 2003 (R + 1) (4 * (q - 1) + i) ∧ h2.EJ 2019 (R + 2) (4 * q + i) = h1.EJ 2019 (R + 2) (4 * (q - 1) + i)) → V X K 94 [.ref R, .ref A, .ref A', .int e.2.2.1, .long e.2.2.2.1, nov, .int e.2.2.2.2, .int (nI A0.length), .int (nI q), .int (nI j)] [] h2 := by
          intro m2
          induction m2 with
          | zero =>
            intro j h2 hj f2 p1 p2
            have : j = 4 := by omega
            subst this
            have hs2 := hs1.fs f2.1 rfl
            obtain ⟨⟨e1, e2, e3, e4, e5, e6, e7, e8, e9, e10⟩, ⟨t1, t2, t3, t4, t5, t6, t7, t8⟩, s1⟩ := id hs2
            refine k_X28_put_94 o (fun c => ?_) (fun c => ?_)
            rotate_left
            · exact absurd (by decide) c
            obtain ⟨sv, hsv⟩ : ∃ z, h2.EI 2032 (R + 3) (q - 1) = z := ⟨_, rfl⟩
            obtain ⟨av', hav⟩ : ∃ z, h2.EJ 2051 (R + 4) (q - 1) = z := ⟨_, rfl⟩
            obtain ⟨kv, hkv⟩ : ∃ z, h2.EI 2064 (R + 5) (q - 1) = z := ⟨_, rfl⟩
            refine k_X28_put_158 o ?_ (r10 := hsv) (r24 := hav) (r38 := hkv)
            rw [en]
            generalize hh : (((h2.sEI 2032 (R + 3) q sv).sEJ 2051 (R + 4) q av').sEI 2064 (R + 5) q kv) = h3
            have f3 : Fq (FS [10000 + 2032, 10000 + 2051, 10000 + 2064]) h2 h3 := by rw [← hh]; exact (by refine Fq.sEI (Fq.sEJ (Fq.sEI (Fq.refl h2) ?_) ?_) ?_ <;> exact rfl)
            have F3 : Fq (FS roW) h h3 := (f1.trans (f2.mono (FS.mono rfl))).trans (f3.mono (FS.mono rfl))
            have U : RU R q h1 h3 := fun i hi => by
              obtain ⟨b1, b2⟩ := p1 i hi
              refine ⟨by rw [q4a_fr f3.1 (FS.n (by decide))]; exact b1, by rw [q4a_fr f3.1 (FS.n (by decide))]; exact b2, ?_, ?_, ?_⟩
              · rw [← hh]; simp [n_sI, z_sI, tag_sI, I_sI, J_sI, R_sI, EI_sI, EJ_sI, ER_sI, n_sJ, z_sJ, tag_sJ, I_sJ, J_sJ, R_sJ, EI_sJ, EJ_sJ, ER_sJ, n_sR, z_sR, tag_sR, I_sR, J_sR, R_sR, EI_sR, EJ_sR, ER_sR, n_sEI, z_sEI, tag_sEI, I_sEI, J_sEI, R_sEI, EI_sEI, EJ_sEI, ER_sEI, n_sEJ, z_sEJ, tag_sEJ, I_sEJ, J_sEJ, R_sEJ, EI_sEJ, EJ_sEJ, ER_sEJ, n_sER, z_sER, tag_sER, I_sER, J_sER, R_sER, EI_sER, EJ_sER, ER_sER, n_nw, z_nw, tag_nw, I_nw, J_nw, R_nw, EI_nw, EJ_nw, ER_nw, hi]; exact f2.1.EI (FS.n (by decide)) i
              · rw [← hh]; simp [n_sI, z_sI, tag_sI, I_sI, J_sI, R_sI, EI_sI, EJ_sI, ER_sI, n_sJ, z_sJ, tag_sJ, I_sJ, J_sJ, R_sJ, EI_sJ, EJ_sJ, ER_sJ, n_sR, z_sR, tag_sR, I_sR, J_sR, R_sR, EI_sR, EJ_sR, ER_sR, n_sEI, z_sEI, tag_sEI, I_sEI, J_sEI, R_sEI, EI_sEI, EJ_sEI, ER_sEI, n_sEJ, z_sEJ, tag_sEJ, I_sEJ, J_sEJ, R_sEJ, EI_sEJ, EJ_sEJ, ER_sEJ, n_sER, z_sER, tag_sER, I_sER, J_sER, R_sER, EI_sER, EJ_sER, ER_sER, n_nw, z_nw, tag_nw, I_nw, J_nw, R_nw, EI_nw, EJ_nw, ER_nw, hi]; exact f2.1.EJ (FS.n (by decide)) i
              · rw [← hh]; simp [n_sI, z_sI, tag_sI, I_sI, J_sI, R_sI, EI_sI, EJ_sI, ER_sI, n_sJ, z_sJ, tag_sJ, I_sJ, J_sJ, R_sJ, EI_sJ, EJ_sJ, ER_sJ, n_sR, z_sR, tag_sR, I_sR, J_sR, R_sR, EI_sR, EJ_sR, ER_sR, n_sEI, z_sEI, tag_sEI, I_sEI, J_sEI, R_sEI, EI_sEI, EJ_sEI, ER_sEI, n_sEJ, z_sEJ, tag_sEJ, I_sEJ, J_sEJ, R_sEJ, EI_sEJ, EJ_sEJ, ER_sEJ, n_sER, z_sER, tag_sER, I_sER, J_sER, R_sER, EI_sER, EJ_sER, ER_sER, n_nw, z_nw, tag_nw, I_nw, J_nw, R_nw, EI_nw, EJ_nw, ER_nw, hi]; exact f2.1.EI (FS.n (by decide)) i
            have W : ∀ x, ROw h1 R (q - 1) x → ROw h3 R q x := fun x ⟨b1, b2, b3, b4, b5⟩ => by
              refine ⟨?_, ?_, ?_, ?_, ?_⟩
              · rw [q4a_fr f3.1 (FS.n (by decide)), ← b1]
                exact g4_ext fun i hi => by rw [q4a_g _ _ _ _ hi, q4a_g _ _ _ _ hi]; exact (p2 i hi).1
              · rw [q4a_fr f3.1 (FS.n (by decide)), ← b2]
                exact g4_ext fun i hi => by rw [q4a_g _ _ _ _ hi, q4a_g _ _ _ _ hi]; exact (p2 i hi).2
              · rw [← hh]; simp [n_sI, z_sI, tag_sI, I_sI, J_sI, R_sI, EI_sI, EJ_sI, ER_sI, n_sJ, z_sJ, tag_sJ, I_sJ, J_sJ, R_sJ, EI_sJ, EJ_sJ, ER_sJ, n_sR, z_sR, tag_sR, I_sR, J_sR, R_sR, EI_sR, EJ_sR, ER_sR, n_sEI, z_sEI, tag_sEI, I_sEI, J_sEI, R_sEI, EI_sEI, EJ_sEI, ER_sEI, n_sEJ, z_sEJ, tag_sEJ, I_sEJ, J_sEJ, R_sEJ, EI_sEJ, EJ_sEJ, ER_sEJ, n_sER, z_sER, tag_sER, I_sER, J_sER, R_sER, EI_sER, EJ_sER, ER_sER, n_nw, z_nw, tag_nw, I_nw, J_nw, R_nw, EI_nw, EJ_nw, ER_nw]; rw [← hsv, f2.1.EI (FS.n (by decide))]; exact b3
              · rw [← hh]; simp [n_sI, z_sI, tag_sI, I_sI, J_sI, R_sI, EI_sI, EJ_sI, ER_sI, n_sJ, z_sJ, tag_sJ, I_sJ, J_sJ, R_sJ, EI_sJ, EJ_sJ, ER_sJ, n_sR, z_sR, tag_sR, I_sR, J_sR, R_sR, EI_sR, EJ_sR, ER_sR, n_sEI, z_sEI, tag_sEI, I_sEI, J_sEI, R_sEI, EI_sEI, EJ_sEI, ER_sEI, n_sEJ, z_sEJ, tag_sEJ, I_sEJ, J_sEJ, R_sEJ, EI_sEJ, EJ_sEJ, ER_sEJ, n_sER, z_sER, tag_sER, I_sER, J_sER, R_sER, EI_sER, EJ_sER, ER_sER, n_nw, z_nw, tag_nw, I_nw, J_nw, R_nw, EI_nw, EJ_nw, ER_nw]; rw [← hav, f2.1.EJ (FS.n (by decide))]; exact b4
              · rw [← hh]; simp [n_sI, z_sI, tag_sI, I_sI, J_sI, R_sI, EI_sI, EJ_sI, ER_sI, n_sJ, z_sJ, tag_sJ, I_sJ, J_sJ, R_sJ, EI_sJ, EJ_sJ, ER_sJ, n_sR, z_sR, tag_sR, I_sR, J_sR, R_sR, EI_sR, EJ_sR, ER_sR, n_sEI, z_sEI, tag_sEI, I_sEI, J_sEI, R_sEI, EI_sEI, EJ_sEI, ER_sEI, n_sEJ, z_sEJ, tag_sEJ, I_sEJ, J_sEJ, R_sEJ, EI_sEJ, EJ_sEJ, ER_sEJ, n_sER, z_sER, tag_sER, I_sER, J_sER, R_sER, EI_sER, EJ_sER, ER_sER, n_nw, z_nw, tag_nw, I_nw, J_nw, R_nw, EI_nw, EJ_nw, ER_nw]; rw [← hkv, f2.1.EI (FS.n (by decide))]; exact b5
            have nt : ∀ t'', t'' ≠ 2003 ∧ t'' ≠ 2019 ∧ t'' ≠ 2051 → ∀ a, q4a h3 t'' a 0 = q4a h1 t'' a 0 := fun t'' hn2 a => by
              rw [← q4a_fr (t := t'') (a := a) f2.1 (fun z => by
                have : 10000 + t'' = 10000 + 2003 ∨ 10000 + t'' = 10000 + 2019 := by simpa [FS] using z
                omega)]
              rw [← hh]
              unfold q4a
              simp only [EJ_sEI, EJ_sEJ]
              rw [if_neg (fun z => hn2.2.2 z.1), if_neg (fun z => hn2.2.2 z.1), if_neg (fun z => hn2.2.2 z.1), if_neg (fun z => hn2.2.2 z.1)]
            refine ih (q - 1) h3 _ (by omega) (by omega) F3 (by rw [f3.1.I (FS.n (by decide)), f2.1.I (FS.n (by decide))]; exact c1) ⟨by rw [nt t hn]; exact g1.1, by rw [nt t' hn']; exact g1.2⟩ (fun i x hx => ⟨fun z => ?_, fun z => ?_⟩)
            · exact ((g2 i x hx).1 (by omega)).ru U (by omega)
            · rcases Nat.lt_or_ge i q with y | y
              · have hiq : i + 1 = q := by omega
                rw [hiq]
                refine W x ?_
                rw [show q - 1 = i by omega]; exact (g2 i x hx).1 y
              · exact ((g2 i x hx).2 y).ru U (by omega)
          | succ m2 ih2 =>
            intro j h2 hj f2 p1 p2
            have hs2 := hs1.fs f2.1 rfl
            obtain ⟨⟨e1, e2, e3, e4, e5, e6, e7, e8, e9, e10⟩, ⟨t1, t2, t3, t4, t5, t6, t7, t8⟩, s1⟩ := id hs2
            have j0 : IX (nI 4 * nI q + nI j) 1024 (4 * q + j) := by rw [nI_mul, nI_add]; exact IX.mk (by omega) (by omega)
            have j1 : IX (nI 4 * nI q - nI 4 + nI j) 1024 (4 * (q - 1) + j) := by rw [nI_mul, nI_sub (by omega), nI_add, show 4 * q - 4 = 4 * (q - 1) by omega]; exact IX.mk (by omega) (by omega)
            have pe : ∀ i, i < 4 → h2.EJ 2003 (R + 1) (4 * (q - 1) + i) = h1.EJ 2003 (R + 1) (4 * (q - 1) + i) ∧ h2.EJ 2019 (R + 2) (4 * (q - 1) + i) = h1.EJ 2019 (R + 2) (4 * (q - 1) + i) := fun i hi => by
              obtain ⟨b1, b2⟩ := p1 (q - 1) (by omega)
              exact ⟨by rw [← q4a_g _ _ _ _ hi, ← q4a_g _ _ _ _ hi, b1], by rw [← q4a_g _ _ _ _ hi, ← q4a_g _ _ _ _ hi, b2]⟩
            obtain ⟨x0, x1⟩ := pe j (by omega)
            refine k_X28_put_94 o (fun c => ?_) (fun c => ?_)
            · exact absurd ((nI_leI (by omega) (by omega)).mp c) (by omega)
            refine k_X28_put_100 o ?_
            rw [nI_add]
            refine ih2 (j + 1) _ (by omega) (by refine Fq.sEJ (Fq.sEJ f2 ?_) ?_ <;> exact rfl) (fun i hi => ?_) (fun i hi => ?_)
            · rw [q4a_oth (by decide), q4a_set hi (by omega), q4a_set hi (by omega), q4a_oth (by decide)]; exact p1 i hi
            · simp only [EJ_sEJ]
              rcases Nat.lt_or_ge i j with z | z
              · rw [if_neg (by omega), if_neg (by omega), if_neg (by omega), if_neg (by omega)]; exact p2 i z
              · have : i = j := by omega
                subst this
                simp
        refine k_X28_put_84 o (fun c => ?_) (fun c => ?_)
        · exact absurd ((nI_leI (by omega) (by omega)).mp c) (by omega)
        refine k_X28_put_91 o ?_
        exact inner 4 0 h1 rfl (Fq.refl h1) (fun i _ => ⟨rfl, rfl⟩) fun i hi => by omega
    refine k_X28_put_78 o ?_
    exact outer B.length es.length h v9 (by omega) (Nat.le_refl _) (Fq.refl h) hc ⟨hk, hv⟩ fun i x hx => ⟨fun _ => hrow i x hx, fun z => by rw [List.getElem?_eq_none z] at hx; cases hx⟩
  have loop : ∀ A0 B v8 v9, es = A0 ++ B → (∀ b ∈ B, lt4 e.1 b.1) → V X K 6 [.ref R, .ref A, .ref A', .int e.2.2.1, .long e.2.2.2.1, nov, .int e.2.2.2.2, .int (nI A0.length), v8, v9] [] h := by
    intro A0
    generalize hn0 : A0.length = n
    induction n generalizing A0 with
    | zero =>
      intro B v8 v9 hes hB
      have : A0 = [] := List.length_eq_zero_iff.mp hn0
      subst this
      refine k_X28_put_6 o (fun c => ?_) (fun c => ?_)
      rotate_left
      · exact absurd (by decide) c
      refine k_X28_put_29 o (fun c => ?_) (fun c => ?_)
      rotate_left
      · exact absurd (by decide) c
      exact move [] B hes hB (fun a ha => by cases ha) v8 v9
    | succ n ih =>
      intro B v8 v9 hes hB
      obtain ⟨A1, x, rfl⟩ : ∃ A1 x, A0 = A1 ++ [x] := ⟨A0.dropLast, A0.getLast (by intro q; subst q; simp at hn0), (List.dropLast_concat_getLast _).symm⟩
      have hA1 : A1.length = n := by simp at hn0; exact hn0
      have hx : es[n]? = some x := by rw [hes, List.append_assoc, List.getElem?_append_right (by omega), hA1]; simp
      obtain ⟨r1, r2, r3, r4', r5⟩ := hrow n x hx
      have hnl : n < es.length := (List.getElem?_eq_some_iff.mp hx).1
      have ep : nI (n + 1) - nI 1 = nI n := by rw [nI_sub (by omega)]; rfl
      have hso' : soR (A1 ++ x :: B) := by rw [hes] at hso; simpa using hso
      have sA : ∀ a ∈ A1, lt4 a.1 x.1 := fun a ha => (List.pairwise_append.mp hso').2.2 a ha x (by simp)
      refine k_X28_put_6 o (fun c => ?_) (fun c => ?_)
      · exact absurd ((nI_leI (b := 0) (by omega) (by omega)).mp c) (by omega)
      refine k_X28_put_11 o ?_
      rw [ep]
      refine isBehind_ok hs (by omega) hA ht hk (by omega) fun b hb => ?_
      rw [r1] at hb
      refine k_X28_put_20 o (fun c2 => ?_) (fun c2 => ?_)
      · have c2 := bI_0.mp c2
        have nb : ¬ lt4 e.1 x.1 := fun z => by rw [hb.mpr z] at c2; cases c2
        refine k_X28_put_29 o (fun c3 => ?_) (fun c3 => ?_)
        · exact absurd ((nI_leI (b := 0) (by omega) (by omega)).mp c3) (by omega)
        refine k_X28_put_34 o ?_
        rw [ep]
        refine isAt_ok hs (by omega) hA ht hk ?_
        rw [r1]
        by_cases q : x.1 = e.1
        · rw [decide_eq_true q]
          refine k_X28_put_43 o (fun c4 => ?_) (fun c4 => ?_)
          · exact absurd c4 (by decide)
          refine k_X28_put_46 o ?_
          rw [ep]
          refine isLess_ok (a := x.2.2) (b := e.2.2) hs (by omega) r3 r4' r5 (by omega) ?_
          refine k_X28_put_59 o (fun c5 => ?_) (fun c5 => ?_)
          · have c5 : pls x.2.2 e.2.2 = true := by
              cases z : pls x.2.2 e.2.2 with
              | true => rfl
              | false => rw [z] at c5; exact absurd rfl c5
            refine k_X28_put_77 o ?_
            refine kk h es (Fq.refl h) hr (Or.inr ⟨A1, x, B, by rw [hes]; simp, q, by rw [if_pos c5, hes]; simp⟩)
          · have c5 := bI_0.mp c5
            refine k_X28_put_62 o ?_
            rw [ep]
            refine rkeep_ok (pl := e.2.2) hs (by omega) hA ht ⟨hn.1, hn.2.1⟩ hk hA' ht' ⟨hn'.1, hn'.2.1⟩ hv fun h2 f2 c2' u2 w2 => ?_
            refine k_X28_put_77 o ?_
            refine kk h2 (A1 ++ e :: B) f2 ⟨by rw [c2', hc, hes]; congr 1; simp, fun i y hy => ?_⟩ (Or.inr ⟨A1, x, B, by rw [hes]; simp, q, by rw [c5]; simp⟩)
            have hes2 : es = A1 ++ x :: B := by rw [hes]; simp
            by_cases z : i = n
            · subst z
              rw [List.getElem?_append_right (by omega), hA1, Nat.sub_self] at hy
              cases hy
              exact w2
            · refine (hrow i y ?_).ru u2 z
              rw [hes2]
              rcases Nat.lt_or_ge i n with z2 | z2
              · rw [List.getElem?_append_left (by omega)] at hy ⊢; exact hy
              · rw [List.getElem?_append_right (by omega)] at hy ⊢
                rw [show i - A1.length = (i - A1.length - 1) + 1 by omega, List.getElem?_cons_succ] at hy ⊢
                exact hy
        · rw [decide_eq_false q]
          have lx : lt4 x.1 e.1 := by
            rcases lt4_or x.1 e.1 with z | z | z
            · exact absurd z q
            · exact z
            · exact absurd z nb
          refine k_X28_put_43 o (fun c4 => ?_) (fun c4 => ?_)
          rotate_left
          · exact absurd rfl c4
          rw [← hn0]
          exact move (A1 ++ [x]) B hes hB (fun a ha => by
            rcases List.mem_append.mp ha with z | z
            · exact lt4_trans (sA a z) lx
            · rw [List.mem_singleton.mp z]; exact lx) v8 v9
      · have c2 : b = true := by
          cases b with
          | true => rfl
          | false => exact absurd rfl c2
        refine k_X28_put_23 o ?_
        rw [pred_s]
        exact ih A1 hA1 (x :: B) v8 v9 (by rw [hes]; simp) (fun y hy => by
          rcases List.mem_cons.mp hy with z | z
          · rw [z]; exact hb.mp c2
          · exact hB y z)
  refine k_X28_put_0 o ?_
  exact loop es [] _ _ (by simp) (fun b hb => by cases hb)
