/-! the component's digest: bytes that were added -/
def DG (h : AH) (D : Nat) (bs : List Int32) : Prop := SDg h D ∧ h.I 1924 D = nI (bs.length % 64) ∧ h.J 1925 D = lN bs.length ∧ (∀ j, j < 8 → h.EI 576 (D + 3) j = stt bs (bs.length / 64) j) ∧ ∀ j, j < bs.length % 64 → h.EI 545 (D + 1) j = bs.getD (64 * (bs.length / 64) + j) 0
theorem DG.fs {l : List Nat} {h h' : AH} {D : Nat} {bs : List Int32} (q : Fr (FS l) h h') (np : ([1920, 1921, 1922, 1923] ++ dgF).all (fun f => !l.contains f) = true) (s : DG h D bs) : DG h' D bs := by
  obtain ⟨s1, s2, s3, s4, s5⟩ := s
  rw [List.all_append, Bool.and_eq_true] at np
  have n2 := np.2
  rw [List.all_eq_true] at n2
  have n3 : ∀ f a, f ∈ dgF → ¬ FS l f a := fun f a hf => FS.n (by simpa using n2 f hf)
  refine ⟨s1.fs q np.1, by rw [q.I (n3 _ _ (by simp [dgF]))]; exact s2, by rw [q.J (n3 _ _ (by simp [dgF]))]; exact s3, fun j hj => ?_, fun j hj => ?_⟩
  · rw [q.EI (n3 _ _ (by simp [dgF]))]; exact s4 j hj
  · rw [q.EI (n3 _ _ (by simp [dgF]))]; exact s5 j hj
theorem dbegin_ok {G : Gt} {d : Nat} {h : AH} {K : Outcome → AH → Prop} {D : Nat} (hs : SDg h D) (kk : ∀ h', Fq (FS dgF) h h' → DG h' D [] → K (.returned none) h') : MW G d e_X16_begin [.ref D] h K := by
  refine st_X16_begin fun X o hG hD hf => ?_
  obtain ⟨⟨e1, e2, e3, e4, e5⟩, e6, e7, e8, e9⟩ := id hs
  have x0 : ∀ k, k < 8 → IX (nI k) 8 k := fun k hk => IX.mk hk (by omega)
  have y0 := x0 0 (by omega)
  have y1 := x0 1 (by omega)
  have y2 := x0 2 (by omega)
  have y3 := x0 3 (by omega)
  have y4 := x0 4 (by omega)
  have y5 := x0 5 (by omega)
  have y6 := x0 6 (by omega)
  have y7 := x0 7 (by omega)
  refine k_X16_begin_0 o ?_
  refine k_X16_begin_40 o ?_
  refine k_X16_begin_76 o ?_
  refine (kk _ (by refine (Fq.sJ (Fq.sI (Fq.sEI (Fq.sEI (Fq.sEI (Fq.sEI (Fq.sEI (Fq.sEI (Fq.sEI (Fq.sEI (Fq.refl h) ?_) ?_) ?_) ?_) ?_) ?_) ?_) ?_) ?_) ?_) <;> exact rfl) ⟨?_, by simp [n_sI, z_sI, tag_sI, I_sI, J_sI, R_sI, EI_sI, EJ_sI, ER_sI, n_sJ, z_sJ, tag_sJ, I_sJ, J_sJ, R_sJ, EI_sJ, EJ_sJ, ER_sJ, n_sR, z_sR, tag_sR, I_sR, J_sR, R_sR, EI_sR, EJ_sR, ER_sR, n_sEI, z_sEI, tag_sEI, I_sEI, J_sEI, R_sEI, EI_sEI, EJ_sEI, ER_sEI, n_sEJ, z_sEJ, tag_sEJ, I_sEJ, J_sEJ, R_sEJ, EI_sEJ, EJ_sEJ, ER_sEJ, n_sER, z_sER, tag_sER, I_sER, J_sER, R_sER, EI_sER, EJ_sER, ER_sER, n_nw, z_nw, tag_nw, I_nw, J_nw, R_nw, EI_nw, EJ_nw, ER_nw], by simp [n_sI, z_sI, tag_sI, I_sI, J_sI, R_sI, EI_sI, EJ_sI, ER_sI, n_sJ, z_sJ, tag_sJ, I_sJ, J_sJ, R_sJ, EI_sJ, EJ_sJ, ER_sJ, n_sR, z_sR, tag_sR, I_sR, J_sR, R_sR, EI_sR, EJ_sR, ER_sR, n_sEI, z_sEI, tag_sEI, I_sEI, J_sEI, R_sEI, EI_sEI, EJ_sEI, ER_sEI, n_sEJ, z_sEJ, tag_sEJ, I_sEJ, J_sEJ, R_sEJ, EI_sEJ, EJ_sEJ, ER_sEJ, n_sER, z_sER, tag_sER, I_sER, J_sER, R_sER, EI_sER, EJ_sER, ER_sER, n_nw, z_nw, tag_nw, I_nw, J_nw, R_nw, EI_nw, EJ_nw, ER_nw]; rfl, fun j hj => ?_, fun j hj => by simp at hj⟩)
  · exact hs.fs (l := dgF) (by refine (Fr.sJ (Fr.sI (Fr.sEI (Fr.sEI (Fr.sEI (Fr.sEI (Fr.sEI (Fr.sEI (Fr.sEI (Fr.sEI (Fr.refl h) ?_) ?_) ?_) ?_) ?_) ?_) ?_) ?_) ?_) ?_) <;> exact rfl) rfl
  · have : j = 0 ∨ j = 1 ∨ j = 2 ∨ j = 3 ∨ j = 4 ∨ j = 5 ∨ j = 6 ∨ j = 7 := by omega
    rcases this with q | q | q | q | q | q | q | q <;> subst q <;> simp [n_sI, z_sI, tag_sI, I_sI, J_sI, R_sI, EI_sI, EJ_sI, ER_sI, n_sJ, z_sJ, tag_sJ, I_sJ, J_sJ, R_sJ, EI_sJ, EJ_sJ, ER_sJ, n_sR, z_sR, tag_sR, I_sR, J_sR, R_sR, EI_sR, EJ_sR, ER_sR, n_sEI, z_sEI, tag_sEI, I_sEI, J_sEI, R_sEI, EI_sEI, EJ_sEI, ER_sEI, n_sEJ, z_sEJ, tag_sEJ, I_sEJ, J_sEJ, R_sEJ, EI_sEJ, EJ_sEJ, ER_sEJ, n_sER, z_sER, tag_sER, I_sER, J_sER, R_sER, EI_sER, EJ_sER, ER_sER, n_nw, z_nw, tag_nw, I_nw, J_nw, R_nw, EI_nw, EJ_nw, ER_nw] <;> rfl
theorem dadd_ok {G : Gt} {d : Nat} {h : AH} {K : Outcome → AH → Prop} {D : Nat} {x : Int32} {bs : List Int32} (hs : DG h D bs) (hc : CR G h) (hb : bs.length < 1000000) (hd : 3 ≤ d) (kk : ∀ h', Fq (FS dgF) h h' → DG h' D (bs ++ [i8 x]) → K (.returned none) h') : MW G d e_X16_add [.ref D, .int x] h K := by
  refine st_X16_add fun X o hG hD hf => ?_
  subst hG; subst hD
  obtain ⟨s1, s2, s3, s4, s5⟩ := hs
  obtain ⟨⟨e1, e2, e3, e4, e5⟩, e6, e7, e8, e9⟩ := id s1
  generalize hn : bs.length = n at *
  have ix : IX (nI (n % 64)) 64 (n % 64) := IX.mk (by omega) (by omega)
  have ee : (x.toInt8.toInt32).toInt8.toInt32 = i8 x := i8_i8 x
  have el : (bs ++ [i8 x]).length = n + 1 := by simp [hn]
  have eall : lN n + (1 : Int64) = lN (n + 1) := un_inj (by rw [un_add, un_l (by omega), un_l (by omega), show un (1 : Int64) = 1 from rfl]; omega)
  have gl : ∀ i, i < n → (bs ++ [i8 x]).getD i 0 = bs.getD i 0 := fun i hi => getD_app (by omega)
  have gx : (bs ++ [i8 x]).getD n 0 = i8 x := by rw [← hn]; exact getD_last
  have F1 : Fq (FS dgF) h (((h.sEI 545 (D + 1) (n % 64) (i8 x)).sI 1924 D (nI (n % 64 + 1))).sJ 1925 D (lN (n + 1))) := (by refine (Fq.sJ (Fq.sI (Fq.sEI (Fq.refl h) ?_) ?_) ?_) <;> exact rfl)
  have S1 := s1.fs F1.1 rfl
  have B1 : ∀ j, j < n % 64 + 1 → (((h.sEI 545 (D + 1) (n % 64) (i8 x)).sI 1924 D (nI (n % 64 + 1))).sJ 1925 D (lN (n + 1))).EI 545 (D + 1) j = (bs ++ [i8 x]).getD (64 * (n / 64) + j) 0 := fun j hj => by
    rw [EI_sJ, EI_sI, EI_sEI]
    by_cases q : j = n % 64
    · rw [if_pos ⟨rfl, rfl, q⟩, q, show 64 * (n / 64) + n % 64 = n by omega, gx]
    · rw [if_neg fun z => q z.2.2, s5 j (by omega), gl _ (by omega)]
  refine k_X16_add_0 o (fun c => ?_) (fun c => ?_)
  · rw [ee, nI_add, eall] at *
    have c : n % 64 + 1 ≠ 64 := fun q => c (by rw [q])
    refine k_X16_add_44 o ?_
    refine (kk _ F1 ⟨S1, ?_, ?_, fun j hj => ?_, fun j hj => ?_⟩)
    · rw [el, show (n + 1) % 64 = n % 64 + 1 by omega]; simp [n_sI, z_sI, tag_sI, I_sI, J_sI, R_sI, EI_sI, EJ_sI, ER_sI, n_sJ, z_sJ, tag_sJ, I_sJ, J_sJ, R_sJ, EI_sJ, EJ_sJ, ER_sJ, n_sR, z_sR, tag_sR, I_sR, J_sR, R_sR, EI_sR, EJ_sR, ER_sR, n_sEI, z_sEI, tag_sEI, I_sEI, J_sEI, R_sEI, EI_sEI, EJ_sEI, ER_sEI, n_sEJ, z_sEJ, tag_sEJ, I_sEJ, J_sEJ, R_sEJ, EI_sEJ, EJ_sEJ, ER_sEJ, n_sER, z_sER, tag_sER, I_sER, J_sER, R_sER, EI_sER, EJ_sER, ER_sER, n_nw, z_nw, tag_nw, I_nw, J_nw, R_nw, EI_nw, EJ_nw, ER_nw]
    · rw [el]; simp [n_sI, z_sI, tag_sI, I_sI, J_sI, R_sI, EI_sI, EJ_sI, ER_sI, n_sJ, z_sJ, tag_sJ, I_sJ, J_sJ, R_sJ, EI_sJ, EJ_sJ, ER_sJ, n_sR, z_sR, tag_sR, I_sR, J_sR, R_sR, EI_sR, EJ_sR, ER_sR, n_sEI, z_sEI, tag_sEI, I_sEI, J_sEI, R_sEI, EI_sEI, EJ_sEI, ER_sEI, n_sEJ, z_sEJ, tag_sEJ, I_sEJ, J_sEJ, R_sEJ, EI_sEJ, EJ_sEJ, ER_sEJ, n_sER, z_sER, tag_sER, I_sER, J_sER, R_sER, EI_sER, EJ_sER, ER_sER, n_nw, z_nw, tag_nw, I_nw, J_nw, R_nw, EI_nw, EJ_nw, ER_nw]
    · rw [el, show (n + 1) / 64 = n / 64 by omega, EI_sJ, EI_sI, EI_sEI, if_neg (by omega), s4 j hj]
      exact stt_congr (fun i hi => (gl i (by omega)).symm) j hj
    · rw [el] at hj ⊢
      rw [show (n + 1) / 64 = n / 64 by omega]
      exact B1 j (by omega)
  · rw [ee, nI_add, eall] at *
    have c : n % 64 + 1 = 64 := (nI_eq (by omega) (by omega)).mp c
    have t1 := S1.1.1
    refine k_X16_add_40 o ?_
    refine compress_ok S1 (hc.fr F1.1 (FS.n rfl)) (by omega) fun h2 f2 g2 z2 => ?_
    have S2 := S1.fs f2.1 rfl
    refine k_X16_add_44 o ?_
    refine (kk h2 (F1.trans (f2.mono (FS.mono rfl))) ⟨S2, ?_, ?_, fun j hj => ?_, fun j hj => ?_⟩)
    · rw [el, show (n + 1) % 64 = 0 by omega]; exact z2
    · rw [el, f2.1.J (FS.n rfl)]; simp [n_sI, z_sI, tag_sI, I_sI, J_sI, R_sI, EI_sI, EJ_sI, ER_sI, n_sJ, z_sJ, tag_sJ, I_sJ, J_sJ, R_sJ, EI_sJ, EJ_sJ, ER_sJ, n_sR, z_sR, tag_sR, I_sR, J_sR, R_sR, EI_sR, EJ_sR, ER_sR, n_sEI, z_sEI, tag_sEI, I_sEI, J_sEI, R_sEI, EI_sEI, EJ_sEI, ER_sEI, n_sEJ, z_sEJ, tag_sEJ, I_sEJ, J_sEJ, R_sEJ, EI_sEJ, EJ_sEJ, ER_sEJ, n_sER, z_sER, tag_sER, I_sER, J_sER, R_sER, EI_sER, EJ_sER, ER_sER, n_nw, z_nw, tag_nw, I_nw, J_nw, R_nw, EI_nw, EJ_nw, ER_nw]
    · rw [el, show (n + 1) / 64 = n / 64 + 1 by omega, g2 j hj]
      refine cmp_congr (fun i hi => ?_) (fun i hi => ?_) hj
      · exact B1 i (by omega)
      · rw [EI_sJ, EI_sI, EI_sEI, if_neg (by omega), s4 i hi]
        exact stt_congr (fun i hi => (gl i (by omega)).symm) i hi
    · rw [el, show (n + 1) % 64 = 0 by omega] at hj; omega
theorem daddLong_ok {G : Gt} {d : Nat} {h : AH} {K : Outcome → AH → Prop} {D : Nat} {v : Int64} {bs : List Int32} (hs : DG h D bs) (hc : CR G h) (hb : bs.length < 999990) (hd : 4 ≤ d) (kk : ∀ h', Fq (FS dgF) h h' → DG h' D (bs ++ nb v 8) → K (.returned none) h') : MW G d e_X16_addLong [.ref D, .long v] h K := by
  refine st_X16_addLong fun X o hG hD hf => ?_
  subst hG; subst hD
  have loop : ∀ n h1 cs, n ≤ 8 → cs.length + n < 1000000 → Fq (FS dgF) h h1 → DG h1 D cs → cs ++ nb v n = bs ++ nb v 8 → V X K 3 [.ref D, .long v, nov, .int (nI (8 * n) + (-8))] [] h1 := by
    intro n
    induction n with
    | zero =>
      intro h1 cs hn hl f1 s1 e
      refine k_X16_addLong_3 o (fun c => ?_) (fun c => ?_)
      · refine k_X16_addLong_21 o ?_
        refine (kk h1 f1 (by rw [← e, show nb v 0 = [] from rfl, List.append_nil]; exact s1))
      · exact absurd (by decide) c
    | succ n ih =>
      intro h1 cs hn hl f1 s1 e
      have en : nI (8 * (n + 1)) + (-8) = nI (8 * n) := by
        rw [show 8 * (n + 1) = 8 * n + 8 by omega, ← nI_add, Int32.add_assoc]; show nI (8 * n) + 0 = _; rw [Int32.add_zero]
      rw [en]
      have t1 := s1.1.1.1
      refine k_X16_addLong_3 o (fun c => ?_) (fun c => ?_)
      · exact absurd c (nI_pos (by omega))
      refine k_X16_addLong_7 o ?_
      refine dadd_ok s1 (hc.fr f1.1 (FS.n rfl)) (by omega) (by omega) fun h2 f2 s2 => ?_
      refine k_X16_addLong_15 o ?_
      refine ih h2 _ (by omega) (by simp; omega) (f1.trans f2) s2 ?_
      rw [← e]; simp [nb]
  refine k_X16_addLong_0 o ?_
  exact loop 8 h bs (by omega) (by omega) (Fq.refl h) hs rfl
theorem dend_ok {G : Gt} {d : Nat} {h : AH} {K : Outcome → AH → Prop} {D : Nat} {bs : List Int32} (hs : DG h D bs) (hc : CR G h) (hb : bs.length < 999000) (hd : 5 ≤ d) (kk : ∀ h', Fq (FS dgF) h h' → SDg h' D → (∀ j, j < 8 → h'.EI 576 (D + 3) j = dig bs j) → K (.returned none) h') : MW G d e_X16_end [.ref D] h K := by
  refine st_X16_end fun X o hG hD hf => ?_
  subst hG; subst hD
  have t0 := hs.1.1.1
  have a0 := hs.2.2.1
  have loop : ∀ m k h1, m + k = zc bs.length → Fq (FS dgF) h h1 → DG h1 D (bs ++ [i8 (nI 128)] ++ List.replicate k 0) → V X K 16 [.ref D, .long (8 * lN bs.length), nov] [] h1 := by
    intro m
    induction m with
    | zero =>
      intro k h1 hk f1 s1
      have t1 := s1.1.1.1
      have hz := s1.2.1
      have el : (bs ++ [i8 (nI 128)] ++ List.replicate k 0).length = bs.length + 1 + k := by simp; omega
      rw [el] at hz
      have : (bs.length + 1 + k) % 64 = 56 := by unfold zc at hk; omega
      rw [this] at hz
      refine k_X16_end_16 o (fun c => ?_) (fun c => ?_)
      rotate_left
      · exact absurd rfl c
      refine k_X16_end_33 o ?_
      refine daddLong_ok s1 (hc.fr f1.1 (FS.n rfl)) (by rw [el]; unfold zc at hk; omega) (by omega) fun h2 f2 s2 => ?_
      have ep : bs ++ [i8 (nI 128)] ++ List.replicate k 0 ++ nb (8 * lN bs.length) 8 = pad bs := by unfold pad; rw [show k = zc bs.length by omega]
      rw [ep] at s2
      refine k_X16_end_38 o ?_
      refine (kk h2 (f1.trans f2) s2.1 s2.2.2.2.1)
    | succ m ih =>
      intro k h1 hk f1 s1
      have t1 := s1.1.1.1
      have hz := s1.2.1
      have el : (bs ++ [i8 (nI 128)] ++ List.replicate k 0).length = bs.length + 1 + k := by simp; omega
      rw [el] at hz
      have : (bs.length + 1 + k) % 64 ≠ 56 := by unfold zc at hk; omega
      refine k_X16_end_16 o (fun c => ?_) (fun c => ?_)
      · exact absurd ((nI_eq (by omega) (by omega)).mp c) this
      refine k_X16_end_25 o ?_
      refine dadd_ok s1 (hc.fr f1.1 (FS.n rfl)) (by rw [el]; unfold zc at hk; omega) (by omega) fun h2 f2 s2 => ?_
      refine k_X16_end_30 o ?_
      refine ih (k + 1) h2 (by omega) (f1.trans f2) ?_
      have : bs ++ [i8 (nI 128)] ++ List.replicate (k + 1) 0 = bs ++ [i8 (nI 128)] ++ List.replicate k 0 ++ [i8 (nI 0)] := by
        rw [List.replicate_succ', ← List.append_assoc]; rfl
      rw [this]; exact s2
  refine k_X16_end_0 o ?_
  refine dadd_ok hs hc (by omega) (by omega) fun h1 f1 s1 => ?_
  exact loop (zc bs.length) 0 h1 rfl f1 (by simpa using s1)
theorem dnumber_ok {G : Gt} {d : Nat} {h : AH} {K : Outcome → AH → Prop} {D i : Nat} {bs : List Int32} (hs : SDg h D) (hw : ∀ j, j < 8 → h.EI 576 (D + 3) j = dig bs j) (hi : i < 4) (kk : K (.returned (some (.long (digq bs i)))) h) : MW G d e_X16_number [.ref D, .int (nI i)] h K := by
  refine st_X16_number fun X o hG hD hf => ?_
  obtain ⟨⟨e1, e2, e3, e4, e5⟩, e6, e7, e8, e9⟩ := id hs
  have i0 : IX (nI 2 * nI i) 8 (2 * i) := by rw [nI_mul]; exact IX.mk (by omega) (by omega)
  have i1 : IX (nI 2 * nI i + nI 1) 8 (2 * i + 1) := by rw [nI_mul, nI_add]; exact IX.mk (by omega) (by omega)
  have x0 := hw (2 * i) (by omega)
  have x1 := hw (2 * i + 1) (by omega)
  refine k_X16_number_0 o ?_
  refine (kk)
