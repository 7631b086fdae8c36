/-! structures -/
def BQ (l : List Nat) (T lo hi f a : Nat) : Prop := AQ T lo hi f a ∨ (FS l f a ∧ a = T)
theorem BQ.rq {l : List Nat} {T lo hi : Nat} (hl : l.all (fun f => tbF.contains f) = true) (h1 : T ≤ lo ∨ hi ≤ lo) (h2 : hi ≤ T + 524 ∨ hi ≤ lo) : ∀ f a, BQ l T lo hi f a → RQ T f a := fun f a q => by
  rcases q with q | ⟨q, q1⟩
  · exact AQ.rq h1 h2 f a q
  · refine Or.inr ⟨?_, by omega, by omega⟩
    have := FS.mono hl f a q
    exact FS.mono (l := tbF) rfl f a this
theorem BQ.rg {l : List Nat} {T lo hi : Nat} (hl : l.all (fun f => tbF.contains f) = true) (h1 : T ≤ lo ∨ hi ≤ lo) (h2 : hi ≤ T + 524 ∨ hi ≤ lo) : ∀ f a, BQ l T lo hi f a → RG T f a := fun f a q => by
  rcases q with q | ⟨q, q1⟩
  · exact AQ.rg h1 h2 f a q
  · refine Or.inr ⟨?_, by omega, by omega⟩
    have := FS.mono hl f a q
    exact FS.mono (l := tbF) rfl f a this
theorem BQ.out {l : List Nat} {T lo hi f a : Nat} (h : (raF ++ tcF).contains f = false) (ha : a < lo ∨ hi ≤ a) (hl : l.contains f = false ∨ a ≠ T) : ¬ BQ l T lo hi f a := fun q => by
  rcases q with q | ⟨q, q1⟩
  · exact AQ.out h ha q
  · rcases hl with z | z
    · exact FS.n z q
    · exact z q1
theorem BQ.no {l : List Nat} {T lo hi f a : Nat} (h : (raF ++ tcF ++ tbF).contains f = false) (hl : l.contains f = false) : ¬ BQ l T lo hi f a := fun q => by
  rcases q with q | ⟨q, q1⟩
  · exact AQ.no h q
  · exact FS.n hl q
theorem BQ.mono {l l' : List Nat} {T lo hi lo' hi' : Nat} (hl : l.all (fun f => l'.contains f) = true) (h1 : lo' ≤ lo ∨ hi ≤ lo) (h2 : hi ≤ hi' ∨ hi ≤ lo) : ∀ f a, BQ l T lo hi f a → BQ l' T lo' hi' f a := fun f a q => by
  rcases q with q | ⟨q, q1⟩
  · exact Or.inl (AQ.mono h1 h2 f a q)
  · exact Or.inr ⟨FS.mono hl f a q, q1⟩
theorem AQ.bq {l : List Nat} {T lo hi lo' hi' : Nat} (h1 : lo' ≤ lo ∨ hi ≤ lo) (h2 : hi ≤ hi' ∨ hi ≤ lo) : ∀ f a, AQ T lo hi f a → BQ l T lo' hi' f a := fun f a q => Or.inl (AQ.mono h1 h2 f a q)
def SX (h : AH) (S : Nat) (ts : TL) (s : Sx) : Prop := h.I 769 S = nI s.1 ∧ h.I 768 S = nI s.2.1 ∧ SP h (S + 1) ts s.2.2
theorem SX.fr {P : Nat → Nat → Prop} {h h' : AH} {S : Nat} {ts : TL} {s : Sx} (q : Fr P h h') (np : ∀ f a, tbF.contains f = true → S ≤ a → a < S + 2 → ¬ P f a) (x : SX h S ts s) : SX h' S ts s :=
  ⟨by rw [q.I (np _ _ rfl (by omega) (by omega))]; exact x.1, by rw [q.I (np _ _ rfl (by omega) (by omega))]; exact x.2.1, x.2.2.fr q (np _ _ rfl (by omega) (by omega)) (np _ _ rfl (by omega) (by omega))⟩
def FX (h : AH) (S : Nat) (s : Fx) : Prop := h.I 771 S = nI s.1 ∧ h.I 772 S = nI s.2.1 ∧ h.I 768 S = nI s.2.2
theorem FX.fr {P : Nat → Nat → Prop} {h h' : AH} {S : Nat} {s : Fx} (q : Fr P h h') (np : ∀ f a, tbF.contains f = true → S ≤ a → a < S + 2 → ¬ P f a) (x : FX h S s) : FX h' S s :=
  ⟨by rw [q.I (np _ _ rfl (by omega) (by omega))]; exact x.1, by rw [q.I (np _ _ rfl (by omega) (by omega))]; exact x.2.1, by rw [q.I (np _ _ rfl (by omega) (by omega))]; exact x.2.2⟩
def sst (ss : List Sx) : TL := ss.flatMap fun s => s.2.2
theorem sst_s (ss : List Sx) (s : Sx) : sst (ss ++ [s]) = sst ss ++ s.2.2 := by simp [sst]
/-- fields that no list of types and no place of the tape is -/
theorem tb_out {f : Nat} (h : tbF.contains f = true) : (raF ++ tcF).contains f = false := by
  have : tbF.all (fun f => !(raF ++ tcF).contains f) = true := by decide
  rw [List.all_eq_true] at this
  simpa using this f (List.contains_iff_mem.mp h)
theorem BQ.tb {l : List Nat} {T lo hi f a : Nat} (hf : tbF.contains f = true) (ha : a < lo ∨ hi ≤ a) (hT : a ≠ T) : ¬ BQ l T lo hi f a := BQ.out (tb_out hf) ha (Or.inr hT)
theorem at_bq {l : List Nat} {T lo hi : Nat} : ∀ f a, FS [1410] f a → BQ l T lo hi f a := fun f a q => Or.inl (at_aq f a q)
def rdR (n : Nat) (B : Nat → Nat) (p : Nat) : Pz (List Sx × List Fx) := bd (bd (rdC n B 0 32 p) fun k p => rep (rdSt n B) k p) fun ss p2 => bd (bd (rdC n B 0 32 p2) fun k p => rep (rdFo n B) k p) fun fs p3 => .ok ((ss, fs), p3)
/-- what the rows of structures leave -/
def RO1 (K : Outcome → AH → Prop) (h : AH) (R W Q T n : Nat) (B : Nat → Nat) (ts : TL) (cs : List Ix) (x : List Sx × List Fx) (p' : Nat) : Prop := ∀ h', Fq (BQ [262, 263] T (T + 12) (T + 140)) h h' → RS h' R W Q T n B p' (ts ++ sst x.1) cs → h'.I 262 T = nI x.1.length → h'.I 263 T = nI x.2.length → x.1.length ≤ 32 → x.2.length ≤ 32 → (∀ i s, x.1[i]? = some s → SX h' (T + 12 + 2 * i) (ts ++ sst x.1) s) → (∀ i s, x.2[i]? = some s → FX h' (T + 76 + 2 * i) s) → K (.returned none) h'
theorem get_lt {α : Type} {l : List α} {i : Nat} {x : α} (h : l[i]? = some x) : i < l.length := (List.getElem?_eq_some_iff.mp h).1
theorem rrows_ok {G : Gt} {d : Nat} {h : AH} {K : Outcome → AH → Prop} {R W Q T n p : Nat} {B : Nat → Nat} {ts : TL} {cs : List Ix} (hs : RS h R W Q T n B p ts cs) (hd : 5 ≤ d)
    (kk : PQ (rdR n B p) (RO1 K h R W Q T n B ts cs) (TE K R W T h)) : MW G d e_X12_structureRows [.ref R] h K := by
  refine st_X12_structureRows fun X o hG hD hf => ?_
  subst hG; subst hD
  obtain ⟨⟨s1, s2, s3⟩, s4, s5, s6, ⟨s7, s8⟩, s9, s10⟩ := id hs
  have t0 := s1.1
  have rq : ∀ {h1 : AH}, Fq (BQ [262, 263] T (T + 12) (T + 140)) h h1 → Fq (RQ T) h h1 := fun f => f.mono (BQ.rq rfl (by omega) (by omega))
  have k0 := PQ_bd.mp kk
  -- foreign ones
  have part2 : ∀ ss p2 hx, Fq (BQ [262, 263] T (T + 12) (T + 140)) h hx → RS hx R W Q T n B p2 (ts ++ sst ss) cs → hx.I 262 T = nI ss.length → ss.length ≤ 32 → (∀ i s, ss[i]? = some s → SX hx (T + 12 + 2 * i) (ts ++ sst ss) s) →
      PQ (bd (bd (rdC n B 0 32 p2) fun k p => rep (rdFo n B) k p) fun fs p3 => .ok ((ss, fs), p3)) (RO1 K h R W Q T n B ts cs) (TE K R W T h) →
      ∀ v1 v2, V X K 78 [.ref R, v1, v2] [] hx := by
    intro ss p2 hx fx rx ox lx sx kx v1 v2
    obtain ⟨⟨x1, x2, x3⟩, x4, x5, x6, ⟨x7, x8⟩, x9, x10⟩ := id rx
    have y1 := x1.1
    refine k_X12_structureRows_78 o ?_
    refine rbounded_ok (lo := 0) (hi := 32) (T := T) x1 x4 x5 x6 (by omega) (by omega) (by omega) ((PQ_bd.mp (PQ_bd.mp kx)).mono (fun k p3 _ k1 e1 e2 e3 e4 ha fa aa => ?_) (fun w q t => TE.fq (rq fx) t))
    have ra := rx.at fa aa (by omega) e2
    have z0 := ra.1.2.2.1.1
    refine k_X12_structureRows_89 o ?_
    have fb : Fq (FS [263]) ha (ha.sI 263 T (nI k)) := (Fq.refl ha).sI rfl
    have rb := ra.tb fb rfl rfl
    have gb : (ha.sI 263 T (nI k)).I 263 T = nI k := I_same ..
    have f0 : Fq (BQ [263] T 0 0) hx (ha.sI 263 T (nI k)) := (fa.mono at_bq).sI (Or.inr ⟨rfl, rfl⟩)
    generalize ha.sI 263 T (nI k) = hb at *
    have loop : ∀ m j q acc hy, m + j = k → acc.length = j → Fq (BQ [263] T (T + 76) (T + 140)) hx hy → RS hy R W Q T n B q (ts ++ sst ss) cs → hy.I 263 T = nI k → (∀ i s, acc[i]? = some s → FX hy (T + 76 + 2 * i) s) → PQ (rep (rdFo n B) m q) (fun l p' => PQ (.ok ((ss, acc ++ l), p') : Pz (List Sx × List Fx)) (RO1 K h R W Q T n B ts cs) (TE K R W T h)) (TE K R W T h) → ∀ v2, V X K 94 [.ref R, .int (nI j), v2] [] hy := by
      intro m
      induction m with
      | zero =>
        intro j q acc hy hj la fy ry gy ay ky v2
        obtain ⟨⟨w1, w2, w3⟩, -⟩ := id ry
        have y1 := w1.1
        have y2 := w3.1.1
        refine k_X12_structureRows_94 o (fun c5 => ?_) (fun c5 => ?_)
        rotate_left
        · exact absurd ((nI_leI (by omega) (by omega)).mpr (by omega)) c5
        refine k_X12_structureRows_159 o ?_
        have ke : RO1 K h R W Q T n B ts cs (ss, acc) q := by have : RO1 K h R W Q T n B ts cs (ss, acc ++ []) q := ky; rw [List.append_nil] at this; exact this
        refine ke hy (fx.trans (fy.mono (BQ.mono rfl (by omega) (by omega)))) ry ?_ ?_ lx (show acc.length ≤ 32 by omega) (fun i s hi => ?_) ay
        · rw [fy.1.I (BQ.out rfl (by omega) (Or.inl rfl))]; exact ox
        · rw [gy]; show nI k = nI acc.length; congr 1; omega
        · have : i < ss.length := get_lt hi
          exact (sx i s hi).fr fy.1 fun f a hf' q1 q2 => BQ.tb hf' (by omega) (by omega)
      | succ m ih =>
        intro j q acc hy hj la fy ry gy ay ky v2
        obtain ⟨⟨w1, w2, w3⟩, w4, w5, w6, -⟩ := id ry
        have y1 := w1.1
        have y2 := w3.1.1
        have y3 := w3.1.2.1
        have y4 := w3.2.1.1
        obtain ⟨d1, d2, d3, d4⟩ := w3.2.2.2.1 (32 + j) (by omega)
        rw [show T + 12 + 2 * (32 + j) = T + 76 + 2 * j by omega] at d1 d2 d3
        rw [show T + 13 + 2 * (32 + j) = T + 77 + 2 * j by omega] at d3 d4
        have ix : IX (nI 32 + nI j) 64 (32 + j) := by rw [nI_add]; exact IX.mk (by omega) (by omega)
        have rqy := rq (fx.trans (fy.mono (BQ.mono rfl (by omega) (by omega))))
        have k2 := rep_s (C := fun l p' => PQ (.ok ((ss, l), p') : Pz (List Sx × List Fx)) (RO1 K h R W Q T n B ts cs) (TE K R W T h)) ky
        refine k_X12_structureRows_94 o (fun c5 => ?_) (fun c5 => ?_)
        · exact absurd ((nI_leI (by omega) (by omega)).mp c5) (by omega)
        refine k_X12_structureRows_105 o ?_
        refine rshort_ok (T := T) w1 w4 w5 w6 (by omega) ((PQ_bd.mp k2).mono (fun mo q1 eq1 k3 b1 b2 h1 f1 a1 => ?_) (fun w q t => TE.fq rqy t))
        have r1 := ry.at f1 a1 b1 b2
        have u1 := r1.1.1.1
        have v2' := f1.1.tag d2
        refine k_X12_structureRows_123 o ?_
        have f2 : Fq (FS [771]) h1 (h1.sI 771 (T + 76 + 2 * j) (nI mo)) := (Fq.refl h1).sI rfl
        have r2 := r1.tb f2 rfl rfl
        have F2 : Fq (AQ T (T + 76 + 2 * j) (T + 78 + 2 * j)) hy (h1.sI 771 (T + 76 + 2 * j) (nI mo)) := (f1.mono at_aq).sI (AQ.tb rfl (by omega) (by omega))
        have g2 : (h1.sI 771 (T + 76 + 2 * j) (nI mo)).I 771 (T + 76 + 2 * j) = nI mo := I_same ..
        generalize h1.sI 771 (T + 76 + 2 * j) (nI mo) = h2 at *
        have bq : ∀ {hz : AH}, Fq (AQ T (T + 76 + 2 * j) (T + 78 + 2 * j)) hy hz → Fq (RQ T) h hz := fun f => rqy.trans (f.mono (AQ.rq (by omega) (by omega)))
        refine rnext_ok (T := T) r2.1.1 r2.2.1 r2.2.2.1 r2.2.2.2.1 (by omega) ((PQ_bd.mp k3).mono (fun nu q2 eq2 k4 h3 f3 a3 => ?_) (fun w q t => TE.fq (bq F2) t))
        obtain ⟨-, e7, e8⟩ := rdB_ok eq2
        have r3 := r2.at f3 a3 (by omega) (by omega)
        have F3 := F2.trans (f3.mono at_aq)
        have u1 := r3.1.1.1
        have v3' := F3.1.tag d2
        refine k_X12_structureRows_131 o ?_
        have f4 : Fq (FS [772]) h3 (h3.sI 772 (T + 76 + 2 * j) (nI nu)) := (Fq.refl h3).sI rfl
        have r4 := r3.tb f4 rfl rfl
        have F4 : Fq (AQ T (T + 76 + 2 * j) (T + 78 + 2 * j)) hy (h3.sI 772 (T + 76 + 2 * j) (nI nu)) := F3.sI (AQ.tb rfl (by omega) (by omega))
        have g4' : (h3.sI 772 (T + 76 + 2 * j) (nI nu)).I 772 (T + 76 + 2 * j) = nI nu := I_same ..
        have g4b : (h3.sI 772 (T + 76 + 2 * j) (nI nu)).I 771 (T + 76 + 2 * j) = nI mo := by rw [I_sI, if_neg (by omega), f3.1.I (FS.n rfl)]; exact g2
        generalize h3.sI 772 (T + 76 + 2 * j) (nI nu) = h4 at *
        refine rbounded_ok (lo := 0) (hi := 15) (T := T) r4.1.1 r4.2.1 r4.2.2.1 r4.2.2.2.1 (by omega) (by omega) (by omega) ((PQ_bd.mp k4).mono (fun ab q3 _ k5 b1 b2 b3 b4 h5 f5 a5 => ?_) (fun w q t => TE.fq (bq F4) t))
        have r5 := r4.at f5 a5 (by omega) b2
        have F5 := F4.trans (f5.mono at_aq)
        have v5' := F5.1.tag d2
        have v6' := F5.1.tag d4
        have v7' : h5.R 770 (T + 76 + 2 * j) = some (T + 77 + 2 * j) := by rw [F5.1.R (AQ.no rfl)]; exact d3
        refine k_X12_structureRows_142 o ?_
        rw [nI_add]
        have f6 : Fq (FS [768, 513]) h5 ((h5.sI 768 (T + 76 + 2 * j) (nI ab)).sI 513 (T + 77 + 2 * j) (nI 0)) := (by refine (Fq.sI (Fq.sI (Fq.refl h5) ?_) ?_) <;> exact rfl)
        have F6 : Fq (AQ T (T + 76 + 2 * j) (T + 78 + 2 * j)) hy ((h5.sI 768 (T + 76 + 2 * j) (nI ab)).sI 513 (T + 77 + 2 * j) (nI 0)) := (F5.sI (AQ.tb rfl (by omega) (by omega))).sI (AQ.tb rfl (by omega) (by omega))
        refine ih (j + 1) q3 (acc ++ [(mo, nu, ab)]) _ (by omega) (by simp [la]) (fy.trans (F6.mono (AQ.bq (by omega) (by omega)))) (r5.tb f6 rfl rfl) ?_ (fun i s hi => ?_) k5 _
        · rw [F6.1.I (AQ.out rfl (by omega))]; exact gy
        · rcases snoc_get hi with ⟨z1, z2⟩ | ⟨z1, z2⟩
          · exact (ay i s z2).fr F6.1 fun f a hf' q1 q2 => AQ.out (tb_out hf') (by omega)
          · subst z2
            rw [z1, la]
            refine ⟨?_, ?_, by simp [n_sI, z_sI, tag_sI, I_sI, J_sI, R_sI, EI_sI, EJ_sI, ER_sI, n_sJ, z_sJ, tag_sJ, I_sJ, J_sJ, R_sJ, EI_sJ, EJ_sJ, ER_sJ, n_sR, z_sR, tag_sR, I_sR, J_sR, R_sR, EI_sR, EJ_sR, ER_sR, n_sEI, z_sEI, tag_sEI, I_sEI, J_sEI, R_sEI, EI_sEI, EJ_sEI, ER_sEI, n_sEJ, z_sEJ, tag_sEJ, I_sEJ, J_sEJ, R_sEJ, EI_sEJ, EJ_sEJ, ER_sEJ, n_sER, z_sER, tag_sER, I_sER, J_sER, R_sER, EI_sER, EJ_sER, ER_sER, n_nw, z_nw, tag_nw, I_nw, J_nw, R_nw, EI_nw, EJ_nw, ER_nw]⟩
            · rw [f6.1.I (FS.n rfl), f5.1.I (FS.n rfl)]; exact g4b
            · rw [f6.1.I (FS.n rfl), f5.1.I (FS.n rfl)]; exact g4'
    exact loop k 0 p3 [] hb (by omega) rfl (f0.mono (BQ.mono rfl (by omega) (by omega))) rb gb (fun i s hi => by simp at hi) k1 _
  -- its own
  have k1 := PQ_bd.mp k0
  refine k_X12_structureRows_0 o ?_
  refine rbounded_ok (lo := 0) (hi := 32) (T := T) s1 s4 s5 s6 (by omega) (by omega) (by omega) (k1.mono (fun k p3 _ k1 e1 e2 e3 e4 ha fa aa => ?_) (fun w q t => t))
  have ra := hs.at fa aa (by omega) e2
  have z0 := ra.1.2.2.1.1
  refine k_X12_structureRows_11 o ?_
  have fb : Fq (FS [262]) ha (ha.sI 262 T (nI k)) := (Fq.refl ha).sI rfl
  have rb := ra.tb fb rfl rfl
  have gb : (ha.sI 262 T (nI k)).I 262 T = nI k := I_same ..
  have f0 : Fq (BQ [262] T 0 0) h (ha.sI 262 T (nI k)) := (fa.mono at_bq).sI (Or.inr ⟨rfl, rfl⟩)
  generalize ha.sI 262 T (nI k) = hb at *
  have loop : ∀ m j q acc hy, m + j = k → acc.length = j → Fq (BQ [262] T (T + 12) (T + 76)) h hy → RS hy R W Q T n B q (ts ++ sst acc) cs → hy.I 262 T = nI k → (∀ i s, acc[i]? = some s → SX hy (T + 12 + 2 * i) (ts ++ sst acc) s) → PQ (rep (rdSt n B) m q) (fun l p' => PQ (bd (bd (rdC n B 0 32 p') fun k p => rep (rdFo n B) k p) fun fs p3 => .ok ((acc ++ l, fs), p3)) (RO1 K h R W Q T n B ts cs) (TE K R W T h)) (TE K R W T h) → ∀ v2, V X K 16 [.ref R, .int (nI j), v2] [] hy := by
    intro m
    induction m with
    | zero =>
      intro j q acc hy hj la fy ry gy ay ky v2
      obtain ⟨⟨w1, w2, w3⟩, -⟩ := id ry
      have y1 := w1.1
      have y2 := w3.1.1
      refine k_X12_structureRows_16 o (fun c5 => ?_) (fun c5 => ?_)
      rotate_left
      · exact absurd ((nI_leI (by omega) (by omega)).mpr (by omega)) c5
      have ke : PQ (bd (bd (rdC n B 0 32 q) fun k p => rep (rdFo n B) k p) fun fs p3 => .ok ((acc ++ [], fs), p3)) (RO1 K h R W Q T n B ts cs) (TE K R W T h) := ky
      rw [List.append_nil] at ke
      exact part2 acc q hy (fy.mono (BQ.mono rfl (by omega) (by omega))) ry (by rw [gy]; congr 1; omega) (by omega) ay ke _ _
    | succ m ih =>
      intro j q acc hy hj la fy ry gy ay ky v2
      obtain ⟨⟨w1, w2, w3⟩, w4, w5, w6, -⟩ := id ry
      have y1 := w1.1
      have y2 := w3.1.1
      have y3 := w3.1.2.1
      have y4 := w3.2.1.1
      obtain ⟨d1, d2, d3, d4⟩ := w3.2.2.2.1 j (by omega)
      have ix : IX (nI j) 64 j := IX.mk (by omega) (by omega)
      have rqy := rq (fy.mono (BQ.mono rfl (by omega) (by omega)))
      have k2 := rep_s (C := fun l p' => PQ (bd (bd (rdC n B 0 32 p') fun k p => rep (rdFo n B) k p) fun fs p3 => .ok ((l, fs), p3)) (RO1 K h R W Q T n B ts cs) (TE K R W T h)) ky
      refine k_X12_structureRows_16 o (fun c5 => ?_) (fun c5 => ?_)
      · exact absurd ((nI_leI (by omega) (by omega)).mp c5) (by omega)
      refine k_X12_structureRows_27 o ?_
      have f1 : Fq (FS [769]) hy (hy.sI 769 (T + 12 + 2 * j) (nI q)) := (Fq.refl hy).sI rfl
      have r1 := ry.tb f1 rfl rfl
      have F1 : Fq (AQ T (T + 12 + 2 * j) (T + 14 + 2 * j)) hy (hy.sI 769 (T + 12 + 2 * j) (nI q)) := (Fq.refl hy).sI (AQ.tb rfl (by omega) (by omega))
      have g1 : (hy.sI 769 (T + 12 + 2 * j) (nI q)).I 769 (T + 12 + 2 * j) = nI q := I_same ..
      generalize hy.sI 769 (T + 12 + 2 * j) (nI q) = h1 at *
      have bq : ∀ {hz : AH}, Fq (AQ T (T + 12 + 2 * j) (T + 14 + 2 * j)) hy hz → Fq (RQ T) h hz := fun f => rqy.trans (f.mono (AQ.rq (by omega) (by omega)))
      refine rbounded_ok (lo := 0) (hi := 15) (T := T) r1.1.1 r1.2.1 r1.2.2.1 r1.2.2.2.1 (by omega) (by omega) (by omega) ((PQ_bd.mp k2).mono (fun ab q2 _ k3 b1 b2 b3 b4 h2 f2 a2 => ?_) (fun w q t => TE.fq (bq F1) t))
      have r2 := r1.at f2 a2 (by omega) b2
      have F2 := F1.trans (f2.mono at_aq)
      have u1 := r2.1.1.1
      have v2' := F2.1.tag d2
      have v3' : h2.R 770 (T + 12 + 2 * j) = some (T + 13 + 2 * j) := by rw [F2.1.R (AQ.no rfl)]; exact d3
      refine k_X12_structureRows_53 o ?_
      have f3 : Fq (FS [768]) h2 (h2.sI 768 (T + 12 + 2 * j) (nI ab)) := (Fq.refl h2).sI rfl
      have r3 := r2.tb f3 rfl rfl
      have F3 : Fq (AQ T (T + 12 + 2 * j) (T + 14 + 2 * j)) hy (h2.sI 768 (T + 12 + 2 * j) (nI ab)) := F2.sI (AQ.tb rfl (by omega) (by omega))
      have g3 : (h2.sI 768 (T + 12 + 2 * j) (nI ab)).I 768 (T + 12 + 2 * j) = nI ab := I_same ..
      have g3b : (h2.sI 768 (T + 12 + 2 * j) (nI ab)).I 769 (T + 12 + 2 * j) = nI q := by rw [I_sI, if_neg (by omega), f2.1.I (FS.n rfl)]; exact g1
      generalize h2.sI 768 (T + 12 + 2 * j) (nI ab) = h3 at *
      refine rbounded_ok (lo := 1) (hi := 16) (T := T) r3.1.1 r3.2.1 r3.2.2.1 r3.2.2.2.1 (by omega) (by omega) (by omega) ((PQ_bd.mp k3).mono (fun kf q3 _ k4 b1 b2 b3 b4 h4 f4 a4 => ?_) (fun w q t => TE.fq (bq F3) t))
      have r4 := r3.at f4 a4 (by omega) b2
      have F4 := F3.trans (f4.mono at_aq)
      have u4 := r4.1.1.1
      refine k_X12_structureRows_68 o ?_
      refine rspan_ok (r := false) r4 (F4.1.tag d4) (by omega) (by omega) (by omega) (by omega) ((PQ_bd.mp k4).mono (fun fs q4 efs k5 h5 f5 r5 c1 c2 => ?_) (fun w q t => TE.fq (bq F4) t))
      have F5 := F4.trans (f5.mono (AQ.mono (lo' := T + 12 + 2 * j) (hi' := T + 14 + 2 * j) (by omega) (by omega)))
      refine k_X12_structureRows_72 o ?_
      rw [nI_add]
      have es : ts ++ sst (acc ++ [(q, ab, fs)]) = ts ++ sst acc ++ fs := by rw [sst_s, ← List.append_assoc]
      refine ih (j + 1) q4 (acc ++ [(q, ab, fs)]) h5 (by omega) (by simp [la]) (fy.trans (F5.mono (AQ.bq (by omega) (by omega)))) (by rw [es]; exact r5) ?_ (fun i s hi => ?_) k5 _
      · rw [F5.1.I (AQ.out rfl (by omega))]; exact gy
      · rw [es]
        rcases snoc_get hi with ⟨z1, z2⟩ | ⟨z1, z2⟩
        · have := (ay i s z2).fr F5.1 fun f a hf' q1 q2 => AQ.out (tb_out hf') (by omega)
          exact ⟨this.1, this.2.1, this.2.2.app fs⟩
        · subst z2
          rw [z1, la]
          refine ⟨?_, ?_, ?_⟩
          · rw [f5.1.I (AQ.out rfl (by omega)), f4.1.I (FS.n rfl)]; exact g3b
          · rw [f5.1.I (AQ.out rfl (by omega)), f4.1.I (FS.n rfl)]; exact g3
          · rw [show T + 12 + 2 * j + 1 = T + 13 + 2 * j by omega]
            exact SP.mk c1 (by rw [rep_len efs]; exact c2)
  exact loop k 0 p3 [] hb (by omega) rfl (f0.mono (BQ.mono rfl (by omega) (by omega))) (by simpa [sst] using rb) gb (fun i s hi => by simp at hi) k1 _
