/-! numbers in bounds, types, lists of types -/
theorem um_nm (v : Nat) : um (nI v) = v % 4294967296 := by
  unfold um nI
  show (BitVec.ofNat 32 v).toNat = _
  rw [BitVec.toNat_ofNat]
theorem lN_32 (v : Nat) : (lN v).toInt32 = nI v := um_inj (by rw [um_32, un_lm, um_nm]; omega)
theorem rshort_ok {G : Gt} {d : Nat} {h : AH} {K : Outcome → AH → Prop} {R W Q T n p : Nat} {B : Nat → Nat} (hs : SRd h R W Q) (hb : TPb h R n B) (ha : h.I 1410 R = nI p) (hp : p ≤ n) (hd : 4 ≤ d)
    (kk : PQ (rdN n B 2 0 p) (fun a p' => p ≤ p' → p' ≤ n → ∀ h', Fq (FS [1410]) h h' → h'.I 1410 R = nI p' → K (.returned (some (.int (nI a)))) h') (TE K R W T h)) : MW G d e_X12_shortNumber [.ref R] h K := by
  refine st_X12_shortNumber fun X o hG hD hf => ?_
  subst hG; subst hD
  have s1 := hs.1
  refine k_X12_shortNumber_0 o ?_
  refine rnumber_ok hs hb ha hp (by omega) (by omega) (kk.mono (fun a p' _ k1 q1 q2 h' f a' => ?_) (fun w q t => t))
  refine k_X12_shortNumber_5 o ?_
  rw [lN_32]
  exact k1 q1 q2 h' f a'
theorem rbounded_ok {G : Gt} {d : Nat} {h : AH} {K : Outcome → AH → Prop} {R W Q T n p lo hi : Nat} {B : Nat → Nat} (hs : SRd h R W Q) (hb : TPb h R n B) (ha : h.I 1410 R = nI p) (hp : p ≤ n) (hlo : lo < 256) (hhi : hi < 256) (hd : 3 ≤ d)
    (kk : PQ (rdC n B lo hi p) (fun a p' => p' = p + 1 → p' ≤ n → lo ≤ a → a ≤ hi → ∀ h', Fq (FS [1410]) h h' → h'.I 1410 R = nI p' → K (.returned (some (.int (nI a)))) h') (TE K R W T h)) : MW G d e_X12_bounded [.ref R, .int (nI lo), .int (nI hi)] h K := by
  refine st_X12_bounded fun X o hG hD hf => ?_
  subst hG; subst hD
  have s1 := hs.1
  refine k_X12_bounded_0 o ?_
  refine rnext_ok (T := T) hs hb ha hp (by omega) ?_
  refine (PQ_bd.mp kk).mono (fun v p1 e k1 h1 f1 a1 => ?_) (fun w q t => t)
  obtain ⟨rfl, rfl, e3⟩ := rdB_ok e
  have hs1 := hs.fr f1.1 (FS.no rfl)
  have t1 := hs1.1
  have hv := hb.2.2.1 p
  have k2 := PQ_bd.mp k1
  have no : ¬ (lo ≤ B p ∧ B p ≤ hi) → V X K 28 [.ref R, .int (nI lo), .int (nI hi), .int (nI p), .int (nI (B p))] [.ref R] h1 := fun c => by
    rw [decide_eq_false c] at k2
    refine k_X12_bounded_28 o ?_
    refine k_X12_bounded_29 o ?_
    exact rneed_ok (b := false) (p := 0) hs1 (by omega) (TE.fq (f1.mono (raF.tb rfl)) k2)
  refine k_X12_bounded_9 o (fun c => ?_) (fun c => ?_)
  · exact no fun z => absurd ((nI_ltI (by omega) (by omega)).mp c) (by omega)
  refine k_X12_bounded_18 o (fun c2 => ?_) (fun c2 => ?_)
  · exact no fun z => absurd ((nI_ltI (by omega) (by omega)).mp c2) (by omega)
  have q1 : lo ≤ B p := by
    rcases Nat.lt_or_ge (B p) lo with z | z
    · exact absurd ((nI_ltI (by omega) (by omega)).mpr z) c
    · exact z
  have q2 : B p ≤ hi := by
    rcases Nat.lt_or_ge hi (B p) with z | z
    · exact absurd ((nI_ltI (by omega) (by omega)).mpr z) c2
    · exact z
  rw [decide_eq_true ⟨q1, q2⟩] at k2
  refine k_X12_bounded_24 o ?_
  refine k_X12_bounded_29 o ?_
  refine rneed_ok (b := true) (p := 0) (T := T) hs1 (by omega) ?_
  refine k_X12_bounded_34 o ?_
  exact k2 rfl (by omega) q1 q2 h1 f1 a1
def TQ (T f a : Nat) : Prop := FS tyF f a ∧ T + 3 ≤ a ∧ a ≤ T + 5
theorem TQ.aq {T lo hi : Nat} : ∀ f a, TQ T f a → AQ T lo hi f a := fun f a q => Or.inr (Or.inl ⟨FS.mono (l := tyF) rfl f a q.1, q.2.1, by have := q.2.2; omega⟩)
theorem TQ.no {T f a : Nat} (h : tyF.contains f = false) : ¬ TQ T f a := fun q => FS.n h q.1
theorem snoc_get {α : Type} {l : List α} {a x : α} {i : Nat} (h : (l ++ [a])[i]? = some x) : (i < l.length ∧ l[i]? = some x) ∨ (i = l.length ∧ x = a) := by
  rw [List.getElem?_append] at h
  split at h
  · exact Or.inl ⟨by assumption, h⟩
  · next c =>
    have e : i - l.length = 0 := by
      rcases Nat.eq_zero_or_pos (i - l.length) with z | z
      · exact z
      · rw [List.getElem?_eq_none (by simp; omega)] at h; cases h
    rw [e] at h
    simp at h
    exact Or.inr ⟨by omega, h.symm⟩
theorem tyadd_ok {G : Gt} {d : Nat} {h : AH} {K : Outcome → AH → Prop} {T q : Nat} {t : Ty} {ts : TL} (hs : STb h T) (ty : TY h T ts) (hl : ts.length < 2048) (kk : ∀ h', Fq (TQ T) h h' → TY h' T (ts ++ [(t, q)]) → K (.returned none) h') : MW G d e_X4_add [.ref (T + 3), .long (lN (tyc t)), .int (nI q)] h K := by
  refine st_X4_add fun X o hG hD hf => ?_
  obtain ⟨⟨a1, a2, a3, a4, a5, a6⟩, ⟨b1, b2, b3, b4, b5, b6, b7, b8⟩, -⟩ := id hs
  have ix : IX (nI ts.length) 2048 ts.length := IX.mk hl (by omega)
  have e0 := ty.1
  refine k_X4_add_0 o ?_
  rw [nI_add]
  refine kk _ (Fq.sI (Fq.sEI (Fq.sEJ (Fq.refl h) ⟨rfl, by omega, by omega⟩) ⟨rfl, by omega, by omega⟩) ⟨rfl, by omega, by omega⟩) ⟨by simp [n_sI, z_sI, tag_sI, I_sI, J_sI, R_sI, EI_sI, EJ_sI, ER_sI, n_sJ, z_sJ, tag_sJ, I_sJ, J_sJ, R_sJ, EI_sJ, EJ_sJ, ER_sJ, n_sR, z_sR, tag_sR, I_sR, J_sR, R_sR, EI_sR, EJ_sR, ER_sR, n_sEI, z_sEI, tag_sEI, I_sEI, J_sEI, R_sEI, EI_sEI, EJ_sEI, ER_sEI, n_sEJ, z_sEJ, tag_sEJ, I_sEJ, J_sEJ, R_sEJ, EI_sEJ, EJ_sEJ, ER_sEJ, n_sER, z_sER, tag_sER, I_sER, J_sER, R_sER, EI_sER, EJ_sER, ER_sER, n_nw, z_nw, tag_nw, I_nw, J_nw, R_nw, EI_nw, EJ_nw, ER_nw], fun i x hx => ?_⟩
  rcases snoc_get hx with ⟨z1, z2⟩ | ⟨z1, z2⟩
  · have := ty.2 i x z2
    have z3 : i ≠ ts.length := by omega
    simp [n_sI, z_sI, tag_sI, I_sI, J_sI, R_sI, EI_sI, EJ_sI, ER_sI, n_sJ, z_sJ, tag_sJ, I_sJ, J_sJ, R_sJ, EI_sJ, EJ_sJ, ER_sJ, n_sR, z_sR, tag_sR, I_sR, J_sR, R_sR, EI_sR, EJ_sR, ER_sR, n_sEI, z_sEI, tag_sEI, I_sEI, J_sEI, R_sEI, EI_sEI, EJ_sEI, ER_sEI, n_sEJ, z_sEJ, tag_sEJ, I_sEJ, J_sEJ, R_sEJ, EI_sEJ, EJ_sEJ, ER_sEJ, n_sER, z_sER, tag_sER, I_sER, J_sER, R_sER, EI_sER, EJ_sER, ER_sER, n_nw, z_nw, tag_nw, I_nw, J_nw, R_nw, EI_nw, EJ_nw, ER_nw, z3]; exact this
  · subst z1; subst z2
    simp [n_sI, z_sI, tag_sI, I_sI, J_sI, R_sI, EI_sI, EJ_sI, ER_sI, n_sJ, z_sJ, tag_sJ, I_sJ, J_sJ, R_sJ, EI_sJ, EJ_sJ, ER_sJ, n_sR, z_sR, tag_sR, I_sR, J_sR, R_sR, EI_sR, EJ_sR, ER_sR, n_sEI, z_sEI, tag_sEI, I_sEI, J_sEI, R_sEI, EI_sEI, EJ_sEI, ER_sEI, n_sEJ, z_sEJ, tag_sEJ, I_sEJ, J_sEJ, R_sEJ, EI_sEJ, EJ_sEJ, ER_sEJ, n_sER, z_sER, tag_sER, I_sER, J_sER, R_sER, EI_sER, EJ_sER, ER_sER, n_nw, z_nw, tag_nw, I_nw, J_nw, R_nw, EI_nw, EJ_nw, ER_nw]
/-- a type comes behind the others -/
theorem RS.ty {h h' : AH} {R W Q T n : Nat} {B : Nat → Nat} {p p' : Nat} {ts ts' : TL} {cs : List Ix} (s : RS h R W Q T n B p ts cs) (q : Fq (TQ T) h h') (hp : h.I 1410 R = nI p') (h1 : p ≤ p') (h2 : p' ≤ n) (t : TY h' T ts') (h3 : ts'.length ≤ p') : RS h' R W Q T n B p' ts' cs := by
  obtain ⟨⟨s1, s2, s3⟩, s4, s5, s6, ⟨s7, s8⟩, s9, s10⟩ := s
  have np : ∀ l : List Nat, l.all (fun f => !tyF.contains f) = true → ∀ f a, l.contains f = true → ¬ TQ T f a := fun l hl f a hf z => FS.no hl f a hf z.1
  exact ⟨⟨s1.fr q.1 (np _ rfl), by rw [q.1.R (TQ.no rfl)]; exact s2, s3.fr q.1 (np _ rfl)⟩, s4.fr q.1 (fun a => TQ.no rfl) (fun a => TQ.no rfl), by rw [q.1.I (TQ.no rfl)]; exact hp, h2, ⟨t, h3⟩, s9.fr q.1 (TQ.no rfl) (TQ.no rfl) (TQ.no rfl) (TQ.no rfl) (TQ.no rfl), by omega⟩
theorem at_aq {T lo hi : Nat} : ∀ f a, FS [1410] f a → AQ T lo hi f a := fun f a q => Or.inl (FS.mono (l := [1410]) rfl f a q)
/-- the place goes on -/
theorem RS.at {h h' : AH} {R W Q T n : Nat} {B : Nat → Nat} {p p' : Nat} {ts : TL} {cs : List Ix} (s : RS h R W Q T n B p ts cs) (q : Fq (FS [1410]) h h') (hp : h'.I 1410 R = nI p') (h1 : p ≤ p') (h2 : p' ≤ n) : RS h' R W Q T n B p' ts cs := s.ch q.1 (FS.no rfl) h1 h2 hp
theorem tyc_snoc (t : Ty) (b : Nat) : tyc (t ++ [b]) = 256 * tyc t + b := by
  induction t with
  | nil => simp [tyc]
  | cons c t ih =>
    simp only [List.cons_append, tyc, ih, List.length_append, List.length_cons, List.length_nil, Nat.pow_succ, Nat.zero_add, Nat.pow_zero]
    rw [Nat.mul_add, ← Nat.mul_assoc, ← Nat.mul_assoc, Nat.mul_comm 256 c, Nat.mul_assoc c 256, Nat.mul_comm 256 (256 ^ t.length), Nat.add_assoc]
    simp [Nat.mul_assoc]
theorem rtype_ok {G : Gt} {d : Nat} {h : AH} {K : Outcome → AH → Prop} {R W Q T n p : Nat} {B : Nat → Nat} {ts : TL} {cs : List Ix} {r : Bool} (hs : RS h R W Q T n B p ts cs) (hd : 3 ≤ d)
    (kk : PQ (rdT n B r p) (fun x p' => ∀ h', Fq (AQ T 0 0) h h' → RS h' R W Q T n B p' (ts ++ [x]) cs → K (.returned none) h') (TE K R W T h)) : MW G d e_X12_type [.ref R, .int (bI r)] h K := by
  refine st_X12_type fun X o hG hD hf => ?_
  subst hG; subst hD
  obtain ⟨⟨s1, s2, s3⟩, s4, s5, s6, ⟨s7, s8⟩, s9, s10⟩ := id hs
  have t0 := s1.1
  have rw_ : ∀ {h1 : AH}, Fq (FS [1410]) h h1 → SRd h1 R W Q ∧ TPb h1 R n B ∧ Fq (RQ T) h h1 := fun f => ⟨s1.fr f.1 (FS.no rfl), s4.fr f.1 (fun a => FS.n rfl) (fun a => FS.n rfl), f.mono (raF.tb rfl)⟩
  -- all bytes are there
  have fin : ∀ t p1 h1 (v1 v2 v3 v5 : Value), p < p1 → p1 ≤ n → Fq (FS [1410]) h h1 → h1.I 1410 R = nI p1 → PQ (.ok ((t, p1 - 1), p1) : Pz (Ty × Nat)) (fun x p' => ∀ h', Fq (AQ T 0 0) h h' → RS h' R W Q T n B p' (ts ++ [x]) cs → K (.returned none) h') (TE K R W T h) → V X K 146 [.ref R, v1, v2, v3, .long (lN (tyc t)), nov, v5] [] h1 := by
    intro t p1 h1 v1 v2 v3 v5 hp1 hp2 f1 a1 k1
    have r1 := hs.at f1 a1 (by omega) hp2
    obtain ⟨⟨x1, x2, x3⟩, x4, x5, x6, ⟨x7, x8⟩, x9, x10⟩ := id r1
    have y1 := x1.1
    have y2 := x3.1.1
    have y3 := x3.1.2.2.2.1
    have y4 := x3.2.1.2.2.1
    refine k_X12_type_146 o ?_
    rw [nI_sub (by omega)]
    have hn := x4.2.1
    refine tyadd_ok (q := p1 - 1) x3 x7 (by omega) fun h2 f2 ty2 => ?_
    refine k_X12_type_164 o ?_
    exact k1 h2 ((f1.mono at_aq).trans (f2.mono TQ.aq)) (r1.ty f2 a1 (by omega) hp2 ty2 (by simp; omega))
  -- behind the vectors
  have tail : ∀ b t p1 h1 (v1 v2 v5 : Value), ¬ b = 7 → b < 256 → p < p1 → p1 ≤ n → Fq (FS [1410]) h h1 → h1.I 1410 R = nI p1 → PQ (if 1 ≤ b ∧ b ≤ 6 then (if b = 6 then bd (rdB n B p1) fun c p' => .ok (t ++ [c], p') else .ok (t, p1)) else .error (4, p1 - 1)) (fun t' p' => PQ (.ok ((t', p' - 1), p') : Pz (Ty × Nat)) (fun x p' => ∀ h', Fq (AQ T 0 0) h h' → RS h' R W Q T n B p' (ts ++ [x]) cs → K (.returned none) h') (TE K R W T h)) (TE K R W T h) → V X K 100 [.ref R, v1, v2, .int (nI b), .long (lN (tyc t)), nov, v5] [] h1 := by
    intro b t p1 h1 v1 v2 v5 h7 hb256 hp1 hp2 f1 a1 k1
    obtain ⟨g1, g2, g3⟩ := rw_ f1
    have y1 := g1.1
    have bad : ¬ (1 ≤ b ∧ b ≤ 6) → V X K 116 [.ref R, v1, v2, .int (nI b), .long (lN (tyc t)), nov, v5] [.ref R] h1 := fun c => by
      rw [if_neg c] at k1
      refine k_X12_type_116 o ?_
      refine k_X12_type_117 o ?_
      rw [nI_sub (by omega)]
      exact rneed_ok (b := false) (p := 0) g1 (by omega) (TE.fq g3 k1)
    refine k_X12_type_100 o (fun c => ?_) (fun c => ?_)
    · exact bad fun z => absurd ((nI_ltI (by omega) (by omega)).mp c) (by omega)
    refine k_X12_type_106 o (fun c2 => ?_) (fun c2 => ?_)
    · exact bad fun z => absurd ((nI_ltI (by omega) (by omega)).mp c2) (by omega)
    have q1 : 1 ≤ b := by
      rcases Nat.lt_or_ge b 1 with z | z
      · exact absurd ((nI_ltI (by omega) (by omega)).mpr z) c
      · exact z
    have q2 : b ≤ 6 := by
      rcases Nat.lt_or_ge 6 b with z | z
      · exact absurd ((nI_ltI (by omega) (by omega)).mpr z) c2
      · exact z
    rw [if_pos ⟨q1, q2⟩] at k1
    refine k_X12_type_112 o ?_
    refine k_X12_type_117 o ?_
    rw [nI_sub (by omega)]
    refine rneed_ok (b := true) (p := 0) (T := T) g1 (by omega) ?_
    refine k_X12_type_127 o (fun c => ?_) (fun c => ?_)
    · have c : ¬ b = 6 := fun z => c (by rw [z])
      rw [if_neg c] at k1
      exact fin t p1 h1 _ _ _ _ hp1 hp2 f1 a1 k1
    · have c : b = 6 := (nI_eq (by omega) (by omega)).mp c
      rw [if_pos c] at k1
      refine k_X12_type_133 o ?_
      refine rnext_ok (T := T) g1 g2 a1 hp2 (by omega) ?_
      refine (PQ_bd.mp k1).mono (fun v p2 e k2 h2 f2 a2 => ?_) (fun w q t => TE.fq g3 t)
      obtain ⟨rfl, rfl, e3⟩ := rdB_ok e
      refine k_X12_type_142 o ?_
      rw [lN_sh8 _ _ (s4.2.2.1 _), ← tyc_snoc]
      exact fin _ _ h2 _ _ _ _ (by omega) (by omega) (f1.trans f2) a2 k2
  have loop : ∀ k b t p1 h1 (v1 v2 : Value), k ≤ 4 → b < 256 → p < p1 → p1 ≤ n → Fq (FS [1410]) h h1 → h1.I 1410 R = nI p1 → PQ (rdV n B k b t p1) (fun t' p' => PQ (.ok ((t', p' - 1), p') : Pz (Ty × Nat)) (fun x p' => ∀ h', Fq (AQ T 0 0) h h' → RS h' R W Q T n B p' (ts ++ [x]) cs → K (.returned none) h') (TE K R W T h)) (TE K R W T h) → V X K 51 [.ref R, v1, v2, .int (nI b), .long (lN (tyc t)), nov, .int (nI (4 - k))] [] h1 := by
    intro k
    induction k with
    | zero =>
      intro b t p1 h1 v1 v2 hk hb hp1 hp2 f1 a1 k1
      obtain ⟨g1, g2, g3⟩ := rw_ f1
      have y1 := g1.1
      unfold rdV at k1
      refine k_X12_type_51 o (fun c => ?_) (fun c => ?_)
      · have c : ¬ b = 7 := fun z => c (by rw [z])
        rw [if_neg c] at k1
        exact tail b t p1 h1 _ _ _ c hb hp1 hp2 f1 a1 k1
      · have c : b = 7 := (nI_eq (by omega) (by omega)).mp c
        rw [if_pos c] at k1
        refine k_X12_type_57 o (fun c2 => ?_) (fun c2 => ?_)
        rotate_left
        · exact absurd (by decide) c2
        refine k_X12_type_68 o ?_
        refine k_X12_type_69 o ?_
        rw [nI_sub (by omega)]
        exact rneed_ok (b := false) (p := 0) g1 (by omega) (TE.fq g3 k1)
    | succ k ih =>
      intro b t p1 h1 v1 v2 hk hb hp1 hp2 f1 a1 k1
      obtain ⟨g1, g2, g3⟩ := rw_ f1
      have y1 := g1.1
      unfold rdV at k1
      refine k_X12_type_51 o (fun c => ?_) (fun c => ?_)
      · have c : ¬ b = 7 := fun z => c (by rw [z])
        rw [if_neg c] at k1
        exact tail b t p1 h1 _ _ _ c hb hp1 hp2 f1 a1 k1
      · have c : b = 7 := (nI_eq (by omega) (by omega)).mp c
        rw [if_pos c] at k1
        refine k_X12_type_57 o (fun c2 => ?_) (fun c2 => ?_)
        · exact absurd ((nI_leI (by omega) (by omega)).mp c2) (by omega)
        refine k_X12_type_64 o ?_
        refine k_X12_type_69 o ?_
        rw [nI_sub (by omega)]
        refine rneed_ok (b := true) (p := 0) (T := T) g1 (by omega) ?_
        refine k_X12_type_79 o ?_
        refine rnext_ok (T := T) g1 g2 a1 hp2 (by omega) ?_
        refine (PQ_bd.mp k1).mono (fun v p2 e k2 h2 f2 a2 => ?_) (fun w q t => TE.fq g3 t)
        obtain ⟨rfl, rfl, e3⟩ := rdB_ok e
        refine k_X12_type_86 o ?_
        rw [lN_sh8 _ _ (s4.2.2.1 _), ← tyc_snoc, nI_add, show 4 - (k + 1) + 1 = 4 - k by omega]
        exact ih _ _ _ h2 _ _ (by omega) (s4.2.2.1 _) (by omega) (by omega) (f1.trans f2) a2 k2
  have k0 := PQ_bd.mp kk
  refine k_X12_type_0 o ?_
  refine rnext_ok (T := T) s1 s4 s5 s6 (by omega) ?_
  refine (PQ_bd.mp k0).mono (fun v p1 e k2 h1 f1 a1 => ?_) (fun w q t => t)
  obtain ⟨rfl, rfl, e3⟩ := rdB_ok e
  have hv := s4.2.2.1 p
  obtain ⟨g1, g2, g3⟩ := rw_ f1
  have y1 := g1.1
  have ref : B p = 8 ∨ B p = 9 → V X K 26 [.ref R, .int (bI r), .int (nI p), .int (nI (B p)), .long ((nI (B p)).toInt64), nov, nov] [] h1 := fun c => by
    rw [if_pos c] at k2
    cases r with
    | false =>
      refine k_X12_type_26 o ?_
      exact rneed_ok (b := false) (p := 0) g1 (by omega) (TE.fq g3 k2)
    | true =>
      rw [if_pos rfl] at k2
      refine k_X12_type_26 o ?_
      refine rneed_ok (b := true) (p := 0) (T := T) g1 (by omega) ?_
      refine k_X12_type_33 o ?_
      refine rnext_ok (T := T) g1 g2 a1 (by omega) (by omega) ?_
      refine (PQ_bd.mp k2).mono (fun v p2 e k3 h2 f2 a2 => ?_) (fun w q t => TE.fq g3 t)
      obtain ⟨rfl, rfl, e5⟩ := rdB_ok e
      refine k_X12_type_37 o ?_
      rw [nI_l (by omega), lN_sh8 _ _ (s4.2.2.1 _)]
      have := loop 4 (B (p + 1)) [B p, B (p + 1)] _ h2 (.int (bI true)) (.int (nI p)) (by omega) (s4.2.2.1 _) (by omega) (by omega) (f1.trans f2) a2 k3
      simp only [tyc, List.length_cons, List.length_nil, Nat.pow_zero, Nat.mul_one, Nat.add_zero, Nat.zero_add, Nat.pow_one] at this
      rw [Nat.mul_comm] at this
      refine k_X12_type_48 o ?_
      exact this
  have plain : ¬ (B p = 8 ∨ B p = 9) → V X K 48 [.ref R, .int (bI r), .int (nI p), .int (nI (B p)), .long ((nI (B p)).toInt64), nov, nov] [] h1 := fun c => by
    rw [if_neg c] at k2
    refine k_X12_type_48 o ?_
    rw [nI_l (by omega)]
    have := loop 4 (B p) [B p] _ h1 (.int (bI r)) (.int (nI p)) (by omega) hv (by omega) (by omega) f1 a1 k2
    simpa [tyc] using this
  refine k_X12_type_9 o (fun c => ?_) (fun c => ?_)
  · exact ref (Or.inl ((nI_eq (by omega) (by omega)).mp c))
  · have c : ¬ B p = 8 := fun z => c (by rw [z])
    refine k_X12_type_20 o (fun c2 => ?_) (fun c2 => ?_)
    · exact plain fun z => by rcases z with z | z; exact c z; exact c2 (by rw [z])
    · exact ref (Or.inr ((nI_eq (by omega) (by omega)).mp c2))
