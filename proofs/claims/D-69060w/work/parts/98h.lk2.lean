/-! the twin's looker: its shape, and what it holds -/
def SLk (h : AH) (O : Nat) : Prop :=
  h.tag O = some (24, 0) ∧
  (h.R 3075 O = some (O + 1) ∧ h.R 3078 O = some (O + 2) ∧ h.R 3079 O = some (O + 3) ∧ h.R 3080 O = some (O + 4) ∧ h.R 3081 O = some (O + 5) ∧ h.R 3082 O = some (O + 6)) ∧
  (h.R 3083 O = some (O + 7) ∧ h.R 3084 O = some (O + 8) ∧ h.R 3085 O = some (O + 9) ∧ h.R 3087 O = some (O + 10) ∧ h.R 3088 O = some (O + 11) ∧ h.R 3089 O = some (O + 12)) ∧
  (h.tag (O + 1) = some (1715, 40) ∧ h.tag (O + 2) = some (1730, 1025) ∧ h.tag (O + 3) = some (1746, 1025) ∧ h.tag (O + 4) = some (1762, 41000) ∧ h.tag (O + 5) = some (1779, 41000) ∧ h.tag (O + 6) = some (1794, 41000)) ∧
  (h.tag (O + 7) = some (1811, 200) ∧ h.tag (O + 8) = some (1827, 200) ∧ h.tag (O + 9) = some (1842, 200) ∧ h.tag (O + 10) = some (1858, 40) ∧ h.tag (O + 11) = some (1875, 40) ∧ h.tag (O + 12) = some (1890, 40))
def slF : List Nat := [3075, 3078, 3079, 3080, 3081, 3082, 3083, 3084, 3085, 3087, 3088, 3089]
theorem SLk.fr {P : Nat → Nat → Prop} {h h' : AH} {O : Nat} (q : Fr P h h') (np : ∀ f a, slF.contains f = true → ¬ P f a) (s : SLk h O) : SLk h' O := by
  obtain ⟨s0, ⟨a1, a2, a3, a4, a5, a6⟩, ⟨b1, b2, b3, b4, b5, b6⟩, ⟨c1, c2, c3, c4, c5, c6⟩, d1, d2, d3, d4, d5, d6⟩ := s
  refine ⟨q.tag s0, ⟨?_, ?_, ?_, ?_, ?_, ?_⟩, ⟨?_, ?_, ?_, ?_, ?_, ?_⟩, ⟨q.tag c1, q.tag c2, q.tag c3, q.tag c4, q.tag c5, q.tag c6⟩, q.tag d1, q.tag d2, q.tag d3, q.tag d4, q.tag d5, q.tag d6⟩
  · rw [q.R (np _ _ rfl)]; exact a1
  · rw [q.R (np _ _ rfl)]; exact a2
  · rw [q.R (np _ _ rfl)]; exact a3
  · rw [q.R (np _ _ rfl)]; exact a4
  · rw [q.R (np _ _ rfl)]; exact a5
  · rw [q.R (np _ _ rfl)]; exact a6
  · rw [q.R (np _ _ rfl)]; exact b1
  · rw [q.R (np _ _ rfl)]; exact b2
  · rw [q.R (np _ _ rfl)]; exact b3
  · rw [q.R (np _ _ rfl)]; exact b4
  · rw [q.R (np _ _ rfl)]; exact b5
  · rw [q.R (np _ _ rfl)]; exact b6
def umF : List Nat := [3589, 3590, 3591, 3592, 3593, 10000 + 2144, 10000 + 2160, 10000 + 2176, 10000 + 2192, 10000 + 2208, 10000 + 2224]
/-- shape, the unit and its module -/
def LU (h : AH) (O U n : Nat) (B : Nat → Nat) (m : Md) : Prop := SLk h O ∧ h.R 3072 O = some U ∧ SU h U n B ∧ UM h U n B m
def luF : List Nat := slF ++ [3072] ++ sbF ++ umF
theorem UM.fr {P : Nat → Nat → Prop} {h h' : AH} {U n : Nat} {B : Nat → Nat} {m : Md} (q : Fr P h h') (np : ∀ f a, umF.contains f = true → ¬ P f a) (s : UM h U n B m) : UM h' U n B m := by
  obtain ⟨⟨a1, a2, a3⟩, ⟨b1, b2, b3⟩, ⟨c1, c2, c3⟩, ⟨d1, d2, d3⟩, ⟨s5, s6, s7⟩, s8, s9, s10⟩ := s
  refine ⟨⟨by rw [q.I (np _ _ rfl)]; exact a1, a2, a3.eq fun j _ => q.EI (np _ _ rfl) j⟩, ⟨by rw [q.I (np _ _ rfl)]; exact b1, b2, b3.eq fun j _ => q.EI (np _ _ rfl) j⟩, ⟨by rw [q.I (np _ _ rfl)]; exact c1, c2, c3.eq fun j _ => q.EI (np _ _ rfl) j⟩, ⟨by rw [q.I (np _ _ rfl)]; exact d1, d2, d3.eq fun j _ => q.EI (np _ _ rfl) j⟩, ⟨by rw [q.I (np _ _ rfl)]; exact s5, s6, s7⟩, s8.eq fun j _ => q.EI (np _ _ rfl) j, fun k hk => ?_, fun i x hx => ?_⟩
  · rw [q.EI (np _ _ rfl), q.EI (np _ _ rfl)]; exact s9 k hk
  · rw [q.EI (np _ _ rfl)]; exact s10 i x hx
theorem LU.fr {P : Nat → Nat → Prop} {h h' : AH} {O U n : Nat} {B : Nat → Nat} {m : Md} (q : Fr P h h') (np : ∀ f a, luF.contains f = true → ¬ P f a) (s : LU h O U n B m) : LU h' O U n B m := by
  have np' : ∀ l : List Nat, l.all (fun f => luF.contains f) = true → ∀ f a, l.contains f = true → ¬ P f a := fun l hl f a hf => np f a (by
    rw [List.all_eq_true] at hl
    exact hl f (List.contains_iff_mem.mp hf))
  exact ⟨s.1.fr q (np' slF rfl), by rw [q.R (np _ _ rfl)]; exact s.2.1, s.2.2.1.fr q fun f a hf _ _ => np' sbF rfl f a hf, s.2.2.2.fr q (np' umF rfl)⟩
/-- the function at hand -/
def LC (h : AH) (O U n : Nat) (B : Nat → Nat) (m : Md) (f : Nat) (u : Ux) : Prop := LU h O U n B m ∧ (m.2.2.2.2.2[f]? = some u ∧ h.I 3073 O = nI f ∧ h.I 3074 O = nI (nlo u) ∧ h.I 3076 O = nI (ui u).length) ∧ ∀ k, k < nlo u → h.EJ 1715 (O + 1) k = lN (tyc (tgt (lty u) k))
def lcF : List Nat := luF ++ [3073, 3074, 3076, 10000 + 1715]
theorem LC.fr {P : Nat → Nat → Prop} {h h' : AH} {O U n f : Nat} {B : Nat → Nat} {m : Md} {u : Ux} (q : Fr P h h') (np : ∀ f a, lcF.contains f = true → ¬ P f a) (s : LC h O U n B m f u) : LC h' O U n B m f u := by
  have np' : ∀ l : List Nat, l.all (fun f => lcF.contains f) = true → ∀ f a, l.contains f = true → ¬ P f a := fun l hl f a hf => np f a (by
    rw [List.all_eq_true] at hl
    exact hl f (List.contains_iff_mem.mp hf))
  obtain ⟨s1, ⟨s2, s3, s4, s5⟩, s6⟩ := s
  exact ⟨s1.fr q (np' luF rfl), ⟨s2, by rw [q.I (np _ _ rfl)]; exact s3, by rw [q.I (np _ _ rfl)]; exact s4, by rw [q.I (np _ _ rfl)]; exact s5⟩, fun k hk => by rw [q.EJ (np _ _ rfl)]; exact s6 k hk⟩
/-- the stack -/
def TKr (h : AH) (O : Nat) : Sk → Prop
  | [] => True
  | x :: s => (h.EJ 1811 (O + 7) s.length = lN (tyc x.1) ∧ h.EJ 1827 (O + 8) s.length = lN x.2.1 ∧ h.EI 1842 (O + 9) s.length = bI x.2.2) ∧ TKr h O s
def TSh (h : AH) (O : Nat) (m : Md) (s : Sk) : Prop := h.I 3086 O = nI s.length ∧ TKr h O s ∧ SKo m s
/-- locals -/
def TLh (h : AH) (O : Nat) (lt : List Ty) (l : Ls) : Prop := (∀ k, k < l.length → h.EI 1858 (O + 10) k = bI (lgt l k).isSome) ∧ (∀ k og, l[k]? = some (some og) → h.EJ 1875 (O + 11) k = lN og.1 ∧ h.EI 1890 (O + 12) k = bI og.2) ∧ LSo lt l
/-- what was taken, the stack, locals -/
abbrev Ts : Type := Option (Ty × Og) × Sk × Ls
def TTk (h : AH) (O : Nat) : Option (Ty × Og) → Prop
  | some x => h.J 3091 O = lN (tyc x.1) ∧ h.J 3092 O = lN x.2.1 ∧ h.I 3093 O = bI x.2.2
  | none => True
def TBd (h : AH) (O w : Nat) : Prop := h.I 3090 O = nI w ∧ (0 < w ∧ w < 16) ∧ ∃ n, n ≤ 65 ∧ h.I 3086 O = nI n
def TGd (h : AH) (O : Nat) (m : Md) (lt : List Ty) (x : Ts) : Prop := h.I 3090 O = 0 ∧ TSh h O m x.2.1 ∧ TLh h O lt x.2.2 ∧ TTk h O x.1
def TRs (h : AH) (O : Nat) (m : Md) (lt : List Ty) (e : Except Nat Ts) : Prop := EQ e (TGd h O m lt) (TBd h O)
theorem TKr.fr {P : Nat → Nat → Prop} {h h' : AH} {O : Nat} (q : Fr P h h') (n1 : ∀ a, ¬ P (10000 + 1811) a) (n2 : ∀ a, ¬ P (10000 + 1827) a) (n3 : ∀ a, ¬ P (10000 + 1842) a) : ∀ {s : Sk}, TKr h O s → TKr h' O s
  | [], _ => trivial
  | x :: s, hs => ⟨⟨by rw [q.EJ (n1 _)]; exact hs.1.1, by rw [q.EJ (n2 _)]; exact hs.1.2.1, by rw [q.EI (n3 _)]; exact hs.1.2.2⟩, TKr.fr q n1 n2 n3 hs.2⟩
theorem TLh.fr {P : Nat → Nat → Prop} {h h' : AH} {O : Nat} {lt : List Ty} {l : Ls} (q : Fr P h h') (n1 : ∀ a, ¬ P (10000 + 1858) a) (n2 : ∀ a, ¬ P (10000 + 1875) a) (n3 : ∀ a, ¬ P (10000 + 1890) a) (s : TLh h O lt l) : TLh h' O lt l :=
  ⟨fun k hk => by rw [q.EI (n1 _)]; exact s.1 k hk, fun k og hk => by rw [q.EJ (n2 _), q.EI (n3 _)]; exact s.2.1 k og hk, s.2.2⟩
theorem TTk.fr {P : Nat → Nat → Prop} {h h' : AH} {O : Nat} {x : Option (Ty × Og)} (q : Fr P h h') (n1 : ∀ a, ¬ P 3091 a) (n2 : ∀ a, ¬ P 3092 a) (n3 : ∀ a, ¬ P 3093 a) (s : TTk h O x) : TTk h' O x := by
  cases x with
  | none => trivial
  | some x => exact ⟨by rw [q.J (n1 _)]; exact s.1, by rw [q.J (n2 _)]; exact s.2.1, by rw [q.I (n3 _)]; exact s.2.2⟩
def trF : List Nat := [3090, 3086, 3091, 3092, 3093, 10000 + 1811, 10000 + 1827, 10000 + 1842, 10000 + 1858, 10000 + 1875, 10000 + 1890]
theorem TRs.fr {P : Nat → Nat → Prop} {h h' : AH} {O : Nat} {m : Md} {lt : List Ty} {e : Except Nat Ts} (q : Fr P h h') (np : ∀ f a, trF.contains f = true → ¬ P f a) (s : TRs h O m lt e) : TRs h' O m lt e := by
  cases e with
  | ok x =>
    obtain ⟨s1, ⟨s2, s3, s4⟩, s5, s6⟩ := (s : TGd h O m lt x)
    exact show TGd h' O m lt x from ⟨by rw [q.I (np _ _ rfl)]; exact s1, ⟨by rw [q.I (np _ _ rfl)]; exact s2, s3.fr q (fun _ => np _ _ rfl) (fun _ => np _ _ rfl) (fun _ => np _ _ rfl), s4⟩, s5.fr q (fun _ => np _ _ rfl) (fun _ => np _ _ rfl) (fun _ => np _ _ rfl), s6.fr q (fun _ => np _ _ rfl) (fun _ => np _ _ rfl) (fun _ => np _ _ rfl)⟩
  | error w =>
    obtain ⟨s1, s2, n, hn, s3⟩ := (s : TBd h O w)
    exact show TBd h' O w from ⟨by rw [q.I (np _ _ rfl)]; exact s1, s2, n, hn, by rw [q.I (np _ _ rfl)]; exact s3⟩
theorem nI_nz {v : Nat} (h : 0 < v ∧ v < 16) : ¬ nI v = 0 := fun z => absurd ((nI_eq (b := 0) (by omega) (by omega)).mp z) (by omega)
theorem lfail_ok {G : Gt} {d : Nat} {h : AH} {K : Outcome → AH → Prop} {O w : Nat} {m : Md} {lt : List Ty} {e : Except Nat Ts} (h0 : h.tag O = some (24, 0)) (hr : TRs h O m lt e) (hw : 0 < w ∧ w < 16) (kk : ∀ h', Fq (FS [3090]) h h' → TRs h' O m lt (eb e fun _ => .error w) → K (.returned none) h') : MW G d e_X25_fail [.ref O, .int (nI w)] h K := by
  refine st_X25_fail fun X o hG hD _ => ?_
  subst hG; subst hD
  cases e with
  | ok x =>
    obtain ⟨s1, ⟨s2, s3, s4⟩, -⟩ := (hr : TGd h O m lt x)
    refine k_X25_fail_0 o (fun c => absurd rfl c) (fun _ => ?_)
    refine k_X25_fail_7 o ?_
    refine k_X25_fail_12 o ?_
    refine kk _ ((Fq.refl h).sI rfl) ?_
    refine show TBd _ O w from ⟨?_, hw, x.2.1.length, by have := s4.1; omega, ?_⟩
    · simp [n_sI, z_sI, tag_sI, I_sI, J_sI, R_sI, EI_sI, EJ_sI, ER_sI, n_sJ, z_sJ, tag_sJ, I_sJ, J_sJ, R_sJ, EI_sJ, EJ_sJ, ER_sJ, n_sR, z_sR, tag_sR, I_sR, J_sR, R_sR, EI_sR, EJ_sR, ER_sR, n_sEI, z_sEI, tag_sEI, I_sEI, J_sEI, R_sEI, EI_sEI, EJ_sEI, ER_sEI, n_sEJ, z_sEJ, tag_sEJ, I_sEJ, J_sEJ, R_sEJ, EI_sEJ, EJ_sEJ, ER_sEJ, n_sER, z_sER, tag_sER, I_sER, J_sER, R_sER, EI_sER, EJ_sER, ER_sER, n_nw, z_nw, tag_nw, I_nw, J_nw, R_nw, EI_nw, EJ_nw, ER_nw]
    · simp [n_sI, z_sI, tag_sI, I_sI, J_sI, R_sI, EI_sI, EJ_sI, ER_sI, n_sJ, z_sJ, tag_sJ, I_sJ, J_sJ, R_sJ, EI_sJ, EJ_sJ, ER_sJ, n_sR, z_sR, tag_sR, I_sR, J_sR, R_sR, EI_sR, EJ_sR, ER_sR, n_sEI, z_sEI, tag_sEI, I_sEI, J_sEI, R_sEI, EI_sEI, EJ_sEI, ER_sEI, n_sEJ, z_sEJ, tag_sEJ, I_sEJ, J_sEJ, R_sEJ, EI_sEJ, EJ_sEJ, ER_sEJ, n_sER, z_sER, tag_sER, I_sER, J_sER, R_sER, EI_sER, EJ_sER, ER_sER, n_nw, z_nw, tag_nw, I_nw, J_nw, R_nw, EI_nw, EJ_nw, ER_nw]; exact s2
  | error v =>
    obtain ⟨s1, s2, -⟩ := id (hr : TBd h O v)
    refine k_X25_fail_0 o (fun _ => ?_) (fun c => absurd c (nI_nz s2))
    refine k_X25_fail_12 o ?_
    exact kk h (Fq.refl h) hr
theorem lneed_ok {G : Gt} {d : Nat} {h : AH} {K : Outcome → AH → Prop} {O w : Nat} {m : Md} {lt : List Ty} {e : Except Nat Ts} {b : Bool} {v : Int32} (h0 : h.tag O = some (24, 0)) (hr : TRs h O m lt e) (hv : ∀ x, e = .ok x → v = bI b) (hw : 0 < w ∧ w < 16) (hd : 1 ≤ d) (kk : ∀ h', Fq (FS [3090]) h h' → TRs h' O m lt (eb e fun x => eb (nee b w) fun _ => .ok x) → K (.returned none) h') : MW G d e_X25_need [.ref O, .int v, .int (nI w)] h K := by
  refine st_X25_need fun X o hG hD _ => ?_
  subst hG; subst hD
  have same : (∀ x, e = .ok x → b = true) → V X K 9 [.ref O, .int v, .int (nI w)] [] h := fun z => by
    refine k_X25_need_9 o ?_
    refine kk h (Fq.refl h) ?_
    cases e with
    | ok x =>
      rw [z x rfl]
      exact hr
    | error w' => exact hr
  refine k_X25_need_0 o (fun c => ?_) (fun c => ?_)
  · refine same fun x hx => ?_
    cases b with
    | true => rfl
    | false => exact absurd (hv x hx) c
  · refine k_X25_need_4 o ?_
    refine lfail_ok h0 hr hw fun h' f' r' => ?_
    refine k_X25_need_9 o ?_
    refine kk h' f' ?_
    cases e with
    | ok x =>
      cases b with
      | true => exact absurd ((hv x rfl).symm.trans c) (by decide)
      | false => exact r'
    | error w' => exact r'
