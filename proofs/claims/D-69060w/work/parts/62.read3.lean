/-! lists of types, instructions -/
theorem rep_s {α : Type} {f : Nat → Pz α} {k p : Nat} {acc : List α} {C : List α → Nat → Prop} {er : Nat → Nat → Prop} (h : PQ (rep f (k + 1) p) (fun l p' => C (acc ++ l) p') er) : PQ (f p) (fun a p1 => PQ (rep f k p1) (fun l p' => C ((acc ++ [a]) ++ l) p') er) er := by
  refine (PQ_bd.mp h).mono (fun a p1 _ q => ?_) (fun w q t => t)
  refine (PQ_bd.mp q).mono (fun l p2 _ q2 => ?_) (fun w q t => t)
  have : C (acc ++ a :: l) p2 := q2
  simpa using this
theorem rep_len {α : Type} {f : Nat → Pz α} : ∀ {k p : Nat} {l : List α} {q : Nat}, rep f k p = .ok (l, q) → l.length = k
  | 0, p, l, q, h => by cases h; rfl
  | k + 1, p, l, q, h => by
    obtain ⟨a, p1, h1, h2⟩ := bd_ok h
    obtain ⟨l', p2, h3, h4⟩ := bd_ok h2
    cases h4
    simp [rep_len h3]
theorem rspan_ok {G : Gt} {d : Nat} {h : AH} {K : Outcome → AH → Prop} {R W Q T n p S k : Nat} {B : Nat → Nat} {ts : TL} {cs : List Ix} {r : Bool} (hs : RS h R W Q T n B p ts cs) (hS : h.tag S = some (4, 0)) (h1 : T + 6 ≤ S) (h2 : S < T + 524) (hk : k < 256) (hd : 4 ≤ d)
    (kk : PQ (rep (rdT n B r) k p) (fun l p' => ∀ h', Fq (AQ T S (S + 1)) h h' → RS h' R W Q T n B p' (ts ++ l) cs → h'.I 512 S = nI ts.length → h'.I 513 S = nI k → K (.returned none) h') (TE K R W T h)) : MW G d e_X12_span [.ref R, .ref S, .int (nI k), .int (bI r)] h K := by
  refine st_X12_span fun X o hG hD hf => ?_
  subst hG; subst hD
  obtain ⟨⟨s1, s2, s3⟩, s4, s5, s6, ⟨s7, s8⟩, s9, s10⟩ := id hs
  have t0 := s1.1
  have t1 := s3.1.1
  have t2 := s3.1.2.2.2.1
  have t3 := s3.2.1.2.2.1
  have t4 := s7.1
  have loop : ∀ m j p1 acc h1, m + j = k → Fq (AQ T S (S + 1)) h h1 → RS h1 R W Q T n B p1 (ts ++ acc) cs → h1.I 512 S = nI ts.length → h1.I 513 S = nI k → PQ (rep (rdT n B r) m p1) (fun l p' => ∀ h', Fq (AQ T S (S + 1)) h h' → RS h' R W Q T n B p' (ts ++ (acc ++ l)) cs → h'.I 512 S = nI ts.length → h'.I 513 S = nI k → K (.returned none) h') (TE K R W T h) → V X K 22 [.ref R, .ref S, .int (nI k), .int (bI r), .int (nI j)] [] h1 := by
    intro m
    induction m with
    | zero =>
      intro j p1 acc h1 hj f1 r1 a1 a2 k1
      refine k_X12_span_22 o (fun c => ?_) (fun c => ?_)
      rotate_left
      · exact absurd ((nI_leI (by omega) (by omega)).mpr (by omega)) c
      refine k_X12_span_39 o ?_
      refine (k1 h1 f1 (by rw [List.append_nil]; exact r1) a1 a2)
    | succ m ih =>
      intro j p1 acc h1 hj f1 r1 a1 a2 k1
      have y1 := r1.1.1.1
      refine k_X12_span_22 o (fun c => ?_) (fun c => ?_)
      · exact absurd ((nI_leI (by omega) (by omega)).mp c) (by omega)
      refine k_X12_span_28 o ?_
      refine rtype_ok r1 (by omega) ((rep_s (C := fun l p' => ∀ h', Fq (AQ T S (S + 1)) h h' → RS h' R W Q T n B p' (ts ++ l) cs → h'.I 512 S = nI ts.length → h'.I 513 S = nI k → K (.returned none) h') k1).mono (fun x p2 _ k2 h2 f2 r2 => ?_) (fun w q t => TE.fq (f1.mono (AQ.rq (by omega) (by omega))) t))
      refine k_X12_span_33 o ?_
      rw [nI_add]
      refine ih (j + 1) p2 (acc ++ [x]) h2 (by omega) (f1.trans (f2.mono (AQ.mono (by omega) (by omega)))) (by rw [← List.append_assoc]; exact r2) ?_ ?_ k2
      · rw [f2.1.I (AQ.out rfl (by omega))]; exact a1
      · rw [f2.1.I (AQ.out rfl (by omega))]; exact a2
  refine k_X12_span_0 o ?_
  refine loop k 0 p [] _ (by omega) (Fq.sI (Fq.sI (Fq.refl h) (Or.inr (Or.inr ⟨rfl, by omega, by omega⟩))) (Or.inr (Or.inr ⟨rfl, by omega, by omega⟩))) ?_ ?_ ?_ ?_
  · rw [List.append_nil]
    refine hs.ch (P := FS [512, 513]) (by refine (Fr.sI (Fr.sI (Fr.refl h) ?_) ?_) <;> exact rfl) (FS.no rfl) (Nat.le_refl _) s6 ?_
    simp [n_sI, z_sI, tag_sI, I_sI, J_sI, R_sI, EI_sI, EJ_sI, ER_sI, n_sJ, z_sJ, tag_sJ, I_sJ, J_sJ, R_sJ, EI_sJ, EJ_sJ, ER_sJ, n_sR, z_sR, tag_sR, I_sR, J_sR, R_sR, EI_sR, EJ_sR, ER_sR, n_sEI, z_sEI, tag_sEI, I_sEI, J_sEI, R_sEI, EI_sEI, EJ_sEI, ER_sEI, n_sEJ, z_sEJ, tag_sEJ, I_sEJ, J_sEJ, R_sEJ, EI_sEJ, EJ_sEJ, ER_sEJ, n_sER, z_sER, tag_sER, I_sER, J_sER, R_sER, EI_sER, EJ_sER, ER_sER, n_nw, z_nw, tag_nw, I_nw, J_nw, R_nw, EI_nw, EJ_nw, ER_nw]; exact s5
  · simp [n_sI, z_sI, tag_sI, I_sI, J_sI, R_sI, EI_sI, EJ_sI, ER_sI, n_sJ, z_sJ, tag_sJ, I_sJ, J_sJ, R_sJ, EI_sJ, EJ_sJ, ER_sJ, n_sR, z_sR, tag_sR, I_sR, J_sR, R_sR, EI_sR, EJ_sR, ER_sR, n_sEI, z_sEI, tag_sEI, I_sEI, J_sEI, R_sEI, EI_sEI, EJ_sEI, ER_sEI, n_sEJ, z_sEJ, tag_sEJ, I_sEJ, J_sEJ, R_sEJ, EI_sEJ, EJ_sEJ, ER_sEJ, n_sER, z_sER, tag_sER, I_sER, J_sER, R_sER, EI_sER, EJ_sER, ER_sER, n_nw, z_nw, tag_nw, I_nw, J_nw, R_nw, EI_nw, EJ_nw, ER_nw]
  · simp [n_sI, z_sI, tag_sI, I_sI, J_sI, R_sI, EI_sI, EJ_sI, ER_sI, n_sJ, z_sJ, tag_sJ, I_sJ, J_sJ, R_sJ, EI_sJ, EJ_sJ, ER_sJ, n_sR, z_sR, tag_sR, I_sR, J_sR, R_sR, EI_sR, EJ_sR, ER_sR, n_sEI, z_sEI, tag_sEI, I_sEI, J_sEI, R_sEI, EI_sEI, EJ_sEI, ER_sEI, n_sEJ, z_sEJ, tag_sEJ, I_sEJ, J_sEJ, R_sEJ, EI_sEJ, EJ_sEJ, ER_sEJ, n_sER, z_sER, tag_sER, I_sER, J_sER, R_sER, EI_sER, EJ_sER, ER_sER, n_nw, z_nw, tag_nw, I_nw, J_nw, R_nw, EI_nw, EJ_nw, ER_nw]
  · simpa using kk
theorem rlist_ok {G : Gt} {d : Nat} {h : AH} {K : Outcome → AH → Prop} {R W Q T n p S hi : Nat} {B : Nat → Nat} {ts : TL} {cs : List Ix} (hs : RS h R W Q T n B p ts cs) (hS : h.tag S = some (4, 0)) (h1 : T + 6 ≤ S) (h2 : S < T + 524) (hhi : hi < 256) (hd : 5 ≤ d)
    (kk : PQ (rdL n B hi p) (fun l p' => ∀ h', Fq (AQ T S (S + 1)) h h' → RS h' R W Q T n B p' (ts ++ l) cs → h'.I 512 S = nI ts.length → h'.I 513 S = nI l.length → K (.returned none) h') (TE K R W T h)) : MW G d e_X12_list [.ref R, .ref S, .int (nI hi)] h K := by
  refine st_X12_list fun X o hG hD hf => ?_
  subst hG; subst hD
  obtain ⟨⟨s1, s2, s3⟩, s4, s5, s6, ⟨s7, s8⟩, s9, s10⟩ := id hs
  have t0 := s1.1
  refine k_X12_list_0 o ?_
  refine rbounded_ok (lo := 0) s1 s4 s5 s6 (by omega) hhi (by omega) ((PQ_bd.mp kk).mono (fun k p1 _ k1 e1 e2 e3 e4 h' f' a' => ?_) (fun w q t => t))
  have r1 := hs.at f' a' (by omega) e2
  have t1 := r1.1.1.1
  refine k_X12_list_8 o ?_
  refine rspan_ok (r := true) r1 (f'.1.tag hS) h1 h2 (by omega) (by omega) (k1.mono (fun l p2 el k2 h2 f2 r2 a1 a2 => ?_) (fun w q t => TE.fq (f'.mono (raF.tb rfl)) t))
  refine k_X12_list_12 o ?_
  exact k2 h2 ((f'.mono at_aq).trans f2) r2 a1 (by rw [rep_len el]; exact a2)
/-! instructions -/
def CQ (T f a : Nat) : Prop := FS tcF f a ∧ T + 7 ≤ a ∧ a ≤ T + 11
theorem CQ.aq {T lo hi : Nat} : ∀ f a, CQ T f a → AQ T lo hi f a := fun f a q => Or.inr (Or.inl ⟨q.1, by have := q.2.1; omega, q.2.2⟩)
theorem CQ.no {T f a : Nat} (h : tcF.contains f = false) : ¬ CQ T f a := fun q => FS.n h q.1
theorem cadd_ok {G : Gt} {d : Nat} {h : AH} {K : Outcome → AH → Prop} {T : Nat} {x : Ix} {cs : List Ix} (hs : STb h T) (co : CO h T cs) (hl : cs.length < 2048) (ho : x.1 < 60) (kk : ∀ h', Fq (CQ T) h h' → CO h' T (cs ++ [x]) → K (.returned none) h') : MW G d e_X6_add [.ref (T + 7), .int (nI x.1), .long (lN x.2.1), .long (lN x.2.2.1), .int (nI x.2.2.2)] h K := by
  refine st_X6_add fun X o hG hD hf => ?_
  obtain ⟨-, -, ⟨c1, c2, c3, c4, c5, c6, c7, c8, c9⟩, -⟩ := id hs
  have ix : IX (nI cs.length) 2048 cs.length := IX.mk hl (by omega)
  have e0 := co.1
  have e8 : ∀ k : Fin 60, ((nI k.val).toInt8.toInt32).toInt8.toInt32 = nI k.val := by decide +kernel
  refine k_X6_add_0 o ?_
  rw [nI_add, e8 ⟨x.1, ho⟩]
  refine k_X6_add_53 o ?_
  refine (kk _ (Fq.sI (Fq.sEI (Fq.sEJ (Fq.sEJ (Fq.sEI (Fq.refl h) ⟨rfl, by omega, by omega⟩) ⟨rfl, by omega, by omega⟩) ⟨rfl, by omega, by omega⟩) ⟨rfl, by omega, by omega⟩) ⟨rfl, by omega, by omega⟩) ⟨by simp [n_sI, z_sI, tag_sI, I_sI, J_sI, R_sI, EI_sI, EJ_sI, ER_sI, n_sJ, z_sJ, tag_sJ, I_sJ, J_sJ, R_sJ, EI_sJ, EJ_sJ, ER_sJ, n_sR, z_sR, tag_sR, I_sR, J_sR, R_sR, EI_sR, EJ_sR, ER_sR, n_sEI, z_sEI, tag_sEI, I_sEI, J_sEI, R_sEI, EI_sEI, EJ_sEI, ER_sEI, n_sEJ, z_sEJ, tag_sEJ, I_sEJ, J_sEJ, R_sEJ, EI_sEJ, EJ_sEJ, ER_sEJ, n_sER, z_sER, tag_sER, I_sER, J_sER, R_sER, EI_sER, EJ_sER, ER_sER, n_nw, z_nw, tag_nw, I_nw, J_nw, R_nw, EI_nw, EJ_nw, ER_nw], fun i y hy => ?_⟩)
  rcases snoc_get hy with ⟨z1, z2⟩ | ⟨z1, z2⟩
  · have := co.2 i y z2
    have z3 : i ≠ cs.length := by omega
    simp [n_sI, z_sI, tag_sI, I_sI, J_sI, R_sI, EI_sI, EJ_sI, ER_sI, n_sJ, z_sJ, tag_sJ, I_sJ, J_sJ, R_sJ, EI_sJ, EJ_sJ, ER_sJ, n_sR, z_sR, tag_sR, I_sR, J_sR, R_sR, EI_sR, EJ_sR, ER_sR, n_sEI, z_sEI, tag_sEI, I_sEI, J_sEI, R_sEI, EI_sEI, EJ_sEI, ER_sEI, n_sEJ, z_sEJ, tag_sEJ, I_sEJ, J_sEJ, R_sEJ, EI_sEJ, EJ_sEJ, ER_sEJ, n_sER, z_sER, tag_sER, I_sER, J_sER, R_sER, EI_sER, EJ_sER, ER_sER, n_nw, z_nw, tag_nw, I_nw, J_nw, R_nw, EI_nw, EJ_nw, ER_nw, z3]; exact this
  · subst z1; subst z2
    simp [n_sI, z_sI, tag_sI, I_sI, J_sI, R_sI, EI_sI, EJ_sI, ER_sI, n_sJ, z_sJ, tag_sJ, I_sJ, J_sJ, R_sJ, EI_sJ, EJ_sJ, ER_sJ, n_sR, z_sR, tag_sR, I_sR, J_sR, R_sR, EI_sR, EJ_sR, ER_sR, n_sEI, z_sEI, tag_sEI, I_sEI, J_sEI, R_sEI, EI_sEI, EJ_sEI, ER_sEI, n_sEJ, z_sEJ, tag_sEJ, I_sEJ, J_sEJ, R_sEJ, EI_sEJ, EJ_sEJ, ER_sEJ, n_sER, z_sER, tag_sER, I_sER, J_sER, R_sER, EI_sER, EJ_sER, ER_sER, n_nw, z_nw, tag_nw, I_nw, J_nw, R_nw, EI_nw, EJ_nw, ER_nw]
theorem fmo_lt (o : Nat) : fmo o < 11 := by
  have : ∀ k : Fin 60, fmo k.val < 11 := by decide +kernel
  rcases Nat.lt_or_ge o 60 with z | z
  · exact this ⟨o, z⟩
  · unfold fmo; rw [List.getD_eq_getElem?_getD, List.getElem?_eq_none (by simp; omega)]; decide
def fpc (m : Nat) : Nat := ([284, 248, 260, 268, 272, 280, 264, 276, 244, 252, 256] : List Nat).getD m 0
theorem formOf_ok {G : Gt} {d : Nat} {h : AH} {K : Outcome → AH → Prop} {x : Nat} (hx : x < 60) (kk : K (.returned (some (.ref (G.ad (fmo x))))) h) : MW G d e_X1_formOf [.int (nI x)] h K := by
  refine st_X1_formOf fun X o hG hD hf => ?_
  subst hG; subst hD
  have sw : ∀ k : Fin 60, swt 2 [244, 244, 244, 248, 252, 256, 284, 284, 252, 260, 260, 260, 260, 260, 264, 264, 284, 284, 284, 268, 268, 272, 284, 284, 284, 284, 284, 284, 284, 284, 284, 284, 284, 284, 284, 284, 284, 284, 284, 284, 284, 284, 284, 284, 284, 268, 268, 268, 268, 268, 276, 280, 280, 280, 280, 280, 280] 284 (nI k.val) = fpc (fmo k.val) := by decide +kernel
  refine k_X1_formOf_0 o ?_
  rw [sw ⟨x, hx⟩]
  show V X K (fpc (fmo x)) _ _ h
  have hm := fmo_lt x
  generalize fmo x = m at *
  have : m = 0 ∨ m = 1 ∨ m = 2 ∨ m = 3 ∨ m = 4 ∨ m = 5 ∨ m = 6 ∨ m = 7 ∨ m = 8 ∨ m = 9 ∨ m = 10 := by omega
  rcases this with e | e | e | e | e | e | e | e | e | e | e <;> subst e
  · exact k_X1_formOf_284 o kk
  · exact k_X1_formOf_248 o kk
  · exact k_X1_formOf_260 o kk
  · exact k_X1_formOf_268 o kk
  · exact k_X1_formOf_272 o kk
  · exact k_X1_formOf_280 o kk
  · exact k_X1_formOf_264 o kk
  · exact k_X1_formOf_276 o kk
  · exact k_X1_formOf_244 o kk
  · exact k_X1_formOf_252 o kk
  · exact k_X1_formOf_256 o kk
