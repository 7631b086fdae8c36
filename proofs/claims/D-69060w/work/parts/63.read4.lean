/-! instructions, functions -/
theorem PQ_nt {w q p : Nat} {ok : Unit → Nat → Prop} {er : Nat → Nat → Prop} : PQ (nd true w q p) ok er ↔ ok () p := Iff.rfl
theorem PQ_nf {w q p : Nat} {ok : Unit → Nat → Prop} {er : Nat → Nat → Prop} : PQ (nd false w q p) ok er ↔ er w q := Iff.rfl
theorem ad_inj {E : Et} {X : Xt} (o : OK E X) : ∀ i j, i < 11 → j < 11 → X.G.ad i = X.G.ad j → i = j := o.2.1.2.2.1.2.2.2.1.2
theorem RS.co {h h' : AH} {R W Q T n : Nat} {B : Nat → Nat} {p p' : Nat} {ts : TL} {cs cs' : List Ix} (s : RS h R W Q T n B p ts cs) (q : Fq (CQ T) h h') (hp : h.I 1410 R = nI p') (h1 : p ≤ p') (h2 : p' ≤ n) (t : CO h' T cs') (h3 : cs'.length ≤ p') : RS h' R W Q T n B p' ts cs' := by
  obtain ⟨⟨s1, s2, s3⟩, s4, s5, s6, ⟨s7, s8⟩, s9, s10⟩ := s
  have np : ∀ l : List Nat, l.all (fun f => !tcF.contains f) = true → ∀ f a, l.contains f = true → ¬ CQ T f a := fun l hl f a hf z => FS.no hl f a hf z.1
  exact ⟨⟨s1.fr q.1 (np _ rfl), by rw [q.1.R (CQ.no rfl)]; exact s2, s3.fr q.1 (np _ rfl)⟩, s4.fr q.1 (fun a => CQ.no rfl) (fun a => CQ.no rfl), by rw [q.1.I (CQ.no rfl)]; exact hp, h2, ⟨s7.fr q.1 (fun z => by have := z.2.1; omega) (fun z => by have := z.2.1; omega) (fun z => by have := z.2.1; omega), by omega⟩, t, h3⟩
theorem fq_le (o : Nat) : fq1 o ≤ 8 ∧ fq2 o ≤ 8 := by
  have : ∀ k : Fin 11, ([0, 1, 1, 1, 1, 1, 1, 1, 2, 8, 8] : List Nat).getD k.val 0 ≤ 8 ∧ ([0, 0, 0, 0, 0, 0, 1, 1, 0, 0, 8] : List Nat).getD k.val 0 ≤ 8 := by decide
  exact this ⟨fmo o, fmo_lt o⟩
theorem fq_nI (o : Nat) : ([0, 1, 1, 1, 1, 1, 1, 1, 2, 8, 8] : List Int32).getD (fmo o) 0 = nI (fq1 o) ∧ ([0, 0, 0, 0, 0, 0, 1, 1, 0, 0, 8] : List Int32).getD (fmo o) 0 = nI (fq2 o) := by
  have : ∀ k : Fin 11, ([0, 1, 1, 1, 1, 1, 1, 1, 2, 8, 8] : List Int32).getD k.val 0 = nI (([0, 1, 1, 1, 1, 1, 1, 1, 2, 8, 8] : List Nat).getD k.val 0) ∧ ([0, 0, 0, 0, 0, 0, 1, 1, 0, 0, 8] : List Int32).getD k.val 0 = nI (([0, 0, 0, 0, 0, 0, 1, 1, 0, 0, 8] : List Nat).getD k.val 0) := by decide
  exact this ⟨fmo o, fmo_lt o⟩
theorem fmo_7 {o : Nat} (ho : o < 60) : fmo o = 7 ↔ o = 52 := by
  have : ∀ k : Fin 60, fmo k.val = 7 ↔ k.val = 52 := by decide +kernel
  exact this ⟨o, ho⟩
theorem rinstr_ok {G : Gt} {d : Nat} {h : AH} {K : Outcome → AH → Prop} {R W Q T n p : Nat} {B : Nat → Nat} {ts : TL} {cs : List Ix} (hs : RS h R W Q T n B p ts cs) (hd : 4 ≤ d)
    (kk : PQ (rdI n B p) (fun x p' => ∀ h', Fq (AQ T 0 0) h h' → RS h' R W Q T n B p' ts (cs ++ [x]) → K (.returned none) h') (TE K R W T h)) : MW G d e_X12_instruction [.ref R] h K := by
  refine st_X12_instruction fun X o hG hD hf => ?_
  subst hG; subst hD
  obtain ⟨⟨s1, s2, s3⟩, s4, s5, s6, ⟨s7, s8⟩, s9, s10⟩ := id hs
  have t0 := s1.1
  have rw_ : ∀ {h1 : AH}, Fq (FS [1410]) h h1 → SRd h1 R W Q ∧ TPb h1 R n B ∧ Fq (RQ T) h h1 := fun f => ⟨s1.fr f.1 (FS.no rfl), s4.fr f.1 (fun a => FS.n rfl) (fun a => FS.n rfl), f.mono (raF.tb rfl)⟩
  refine k_X12_instruction_0 o ?_
  refine rnext_ok (T := T) s1 s4 s5 s6 (by omega) ((PQ_bd.mp kk).mono (fun x p1 e k1 h1 f1 a1 => ?_) (fun w q t => t))
  obtain ⟨rfl, rfl, e3⟩ := rdB_ok e
  have hv := s4.2.2.1 p
  obtain ⟨g1, g2, g3⟩ := rw_ f1
  have y1 := g1.1
  generalize B p = x at *
  have k2 := PQ_bd.mp k1
  refine k_X12_instruction_9 o (fun c => ?_) (fun c => ?_)
  · have c : ¬ x < 60 := by have := (nI_leI (by omega) (by omega)).mp c; omega
    rw [decide_eq_false c] at k2
    refine k_X12_instruction_21 o ?_
    refine k_X12_instruction_22 o ?_
    exact rneed_ok (b := false) (p := 0) g1 (by omega) (TE.fq g3 k2)
  have c : x < 60 := by
    rcases Nat.lt_or_ge x 60 with z | z
    · exact z
    · exact absurd ((nI_leI (by omega) (by omega)).mpr z) c
  rw [decide_eq_true c] at k2
  have k3 := PQ_bd.mp (PQ_nt.mp k2)
  refine k_X12_instruction_17 o ?_
  refine k_X12_instruction_22 o ?_
  refine rneed_ok (b := true) (p := 0) (T := T) g1 (by omega) ?_
  refine k_X12_instruction_27 o ?_
  refine formOf_ok c ?_
  have hm := fmo_lt x
  refine k_X12_instruction_31 (k1 := fmo x) o ?_ rfl
  rw [(fq_nI x).1]
  refine rnumber_ok (T := T) g1 g2 a1 (by omega) (fq_le x).1 (by omega) (k3.mono (fun v p2 _ k4 q1 q2 h2 f2 a2 => ?_) (fun w q t => TE.fq g3 t))
  obtain ⟨u1, u2, u3⟩ := rw_ (f1.trans f2)
  have y2 := u1.1
  have k4 := PQ_bd.mp k4
  -- behind the second operand
  have fin : PQ (rdN n B (fq2 x) 0 p2) (fun y p3 => PQ (.ok ((x, v, y, p), p3) : Pz Ix) (fun x p' => ∀ h', Fq (AQ T 0 0) h h' → RS h' R W Q T n B p' ts (cs ++ [x]) → K (.returned none) h') (TE K R W T h)) (TE K R W T h) → V X K 103 [.ref R, .int (nI p), .int (nI x), .ref (X.G.ad (fmo x)), .long (lN v), nov, nov, nov] [] h2 := fun k5 => by
    refine k_X12_instruction_103 (k1 := fmo x) o ?_ rfl
    rw [(fq_nI x).2]
    refine rnumber_ok (T := T) u1 u2 a2 (by omega) (fq_le x).2 (by omega) (k5.mono (fun y p3 _ k6 q3 q4 h3 f3 a3 => ?_) (fun w q t => TE.fq u3 t))
    have r3 := hs.at ((f1.trans f2).trans f3) a3 (by omega) q4
    obtain ⟨⟨x1, x2, x3⟩, x4, x5, x6, ⟨x7, x8⟩, x9, x10⟩ := id r3
    have y1 := x1.1
    have y2 := x3.1.1
    have y3 := x3.1.2.2.2.2.2
    have y4 := x3.2.2.1.1
    have hn := s4.2.1
    refine k_X12_instruction_111 o ?_
    refine cadd_ok (x := (x, v, y, p)) x3 x9 (by omega) c fun h4 f4 co4 => ?_
    refine k_X12_instruction_129 o ?_
    exact k6 h4 ((((f1.trans f2).trans f3).mono at_aq).trans (f4.mono CQ.aq)) (r3.co f4 a3 (by omega) q4 co4 (by simp; omega))
  refine k_X12_instruction_40 o (fun c => ?_) (fun c => ?_)
  · have c2 : ¬ x = 52 := fun z => c (by show some (X.G.ad (fmo x)) = _; rw [(fmo_7 (by omega)).mpr z])
    rw [decide_eq_true (Or.inl c2)] at k4
    exact fin (PQ_bd.mp (PQ_nt.mp k4))
  have c2 : x = 52 := (fmo_7 (by omega)).mp (ad_inj o _ _ hm (by omega) (Option.some.inj c))
  have sz := u2.1
  have good : n ≤ p2 ∨ B p2 ≤ 64 → V X K 90 [.ref R, .int (nI p), .int (nI x), .ref (X.G.ad (fmo x)), .long (lN v), nov, nov, nov] [.ref R] h2 := fun z => by
    rw [decide_eq_true (Or.inr z)] at k4
    refine k_X12_instruction_90 o ?_
    refine k_X12_instruction_95 o ?_
    refine rneed_ok (b := true) (p := 0) (T := T) u1 (by omega) ?_
    exact fin (PQ_bd.mp (PQ_nt.mp k4))
  have mid : ¬ (p2 < n ∧ B p2 ≤ 64) → V X K 79 [.ref R, .int (nI p), .int (nI x), .ref (X.G.ad (fmo x)), .long (lN v), nov, nov, nov] [.ref R] h2 := fun z => by
    have hn := s4.2.1
    refine k_X12_instruction_79 o (fun c5 => ?_) (fun c5 => ?_)
    · have c5 := (nI_ltI (by omega) (by omega)).mp c5
      rw [decide_eq_false (by omega)] at k4
      refine k_X12_instruction_94 o ?_
      refine k_X12_instruction_95 o ?_
      exact rneed_ok (b := false) (p := 0) u1 (by omega) (TE.fq u3 k4)
    · refine good (Or.inl ?_)
      rcases Nat.lt_or_ge p2 n with q | q
      · exact absurd ((nI_ltI (by omega) (by omega)).mpr q) c5
      · exact q
  have hn := s4.2.1
  refine k_X12_instruction_49 o (fun c3 => ?_) (fun c3 => ?_)
  · have c3 := (nI_leI (by omega) (by omega)).mp c3
    exact mid fun z => by omega
  have c3 : p2 < n := by
    rcases Nat.lt_or_ge p2 n with q | q
    · exact q
    · exact absurd ((nI_leI (by omega) (by omega)).mpr q) c3
  have s2' := u1.2.1
  have s3' := u1.2.2.1
  have ix : IX (nI p2) 2048 p2 := IX.mk (by omega) (by omega)
  have hb := u2.2.2.1 p2
  refine k_X12_instruction_61 o (fun c4 => ?_) (fun c4 => ?_)
  · rw [u2.2.2.2 p2 c3] at c4
    exact good (Or.inr ((nI_leI (by omega) (by omega)).mp c4))
  · rw [u2.2.2.2 p2 c3] at c4
    exact mid fun z => c4 ((nI_leI (by omega) (by omega)).mpr z.2)
