/-! the module as a whole -/
def CB (G : Gt) (h : AH) : Prop := h.tag (G.ad 12) = some (4096, 4) ∧ ∀ t, t < 4 → h.EI 4096 (G.ad 12) t = nI (hdb t)
theorem CB.fr {G : Gt} {P : Nat → Nat → Prop} {h h' : AH} (q : Fr P h h') (np : ¬ P 14096 (G.ad 12)) (s : CB G h) : CB G h' := ⟨q.tag s.1, fun t ht => by rw [q.EI np]; exact s.2 t ht⟩
def uts (us : List Ux) : TL := us.flatMap ut
def uis (us : List Ux) : List Ix := us.flatMap ui
theorem uts_s (us : List Ux) (u : Ux) : uts (us ++ [u]) = uts us ++ ut u := by simp [uts]
theorem uis_s (us : List Ux) (u : Ux) : uis (us ++ [u]) = uis us ++ ui u := by simp [uis]
def mts (m : Md) : TL := sst m.2.1 ++ ccs m.2.2.2.1 ++ m.2.2.2.2.1 ++ uts m.2.2.2.2.2
def mcs (m : Md) : List Ix := uis m.2.2.2.2.2
/-- tables that hold a module; ts and cs: what lies in the rows -/
def MX (h : AH) (T : Nat) (ts : TL) (cs : List Ix) (m : Md) : Prop :=
  (h.I 256 T = nI m.1 ∧ h.I 262 T = nI m.2.1.length ∧ h.I 263 T = nI m.2.2.1.length ∧ h.I 265 T = nI m.2.2.2.1.length ∧ h.I 264 T = nI m.2.2.2.2.2.length) ∧
  (m.1 < 65536 ∧ m.2.1.length ≤ 32 ∧ m.2.2.1.length ≤ 32 ∧ m.2.2.2.1.length ≤ 32 ∧ m.2.2.2.2.1.length ≤ 32 ∧ m.2.2.2.2.2.length ≤ 64) ∧
  (∀ i s, m.2.1[i]? = some s → SX h (T + 12 + 2 * i) ts s) ∧ (∀ i s, m.2.2.1[i]? = some s → FX h (T + 76 + 2 * i) s) ∧ (∀ i c, m.2.2.2.1[i]? = some c → CX h (T + 396 + 4 * i) ts c) ∧ SP h (T + 6) ts m.2.2.2.2.1 ∧ ∀ i u, m.2.2.2.2.2[i]? = some u → UX h (T + 140 + 4 * i) ts cs u
/-- the tables' cells are as they were -/
theorem MX.fr {P : Nat → Nat → Prop} {h h' : AH} {T : Nat} {ts : TL} {cs : List Ix} {m : Md} (q : Fr P h h') (np : ∀ f a, tbF.contains f = true → T ≤ a → a < T + 524 → ¬ P f a) (x : MX h T ts cs m) : MX h' T ts cs m := by
  obtain ⟨⟨a1, a2, a3, a4, a5⟩, ⟨b1, b2, b3, b4, b5, b6⟩, c1, c2, c3, c4, c5⟩ := x
  refine ⟨⟨?_, ?_, ?_, ?_, ?_⟩, ⟨b1, b2, b3, b4, b5, b6⟩, fun i s hi => ?_, fun i s hi => ?_, fun i s hi => ?_, c4.fr q (np _ _ rfl (by omega) (by omega)) (np _ _ rfl (by omega) (by omega)), fun i s hi => ?_⟩
  · rw [q.I (np _ _ rfl (by omega) (by omega))]; exact a1
  · rw [q.I (np _ _ rfl (by omega) (by omega))]; exact a2
  · rw [q.I (np _ _ rfl (by omega) (by omega))]; exact a3
  · rw [q.I (np _ _ rfl (by omega) (by omega))]; exact a4
  · rw [q.I (np _ _ rfl (by omega) (by omega))]; exact a5
  · have := get_lt hi
    exact (c1 i s hi).fr q fun f a z1 z2 z3 => np f a z1 (by omega) (by omega)
  · have := get_lt hi
    exact (c2 i s hi).fr q fun f a z1 z2 z3 => np f a z1 (by omega) (by omega)
  · have := get_lt hi
    exact (c3 i s hi).fr q fun f a z1 z2 z3 => np f a z1 (by omega) (by omega)
  · have := get_lt hi
    exact (c5 i s hi).fr q fun f a z1 z2 z3 => np f a z1 (by omega) (by omega)
def RO3 (K : Outcome → AH → Prop) (h : AH) (R W Q T n : Nat) (B : Nat → Nat) (m : Md) (p' : Nat) : Prop := p' = n → ∀ h', Fq (RG T) h h' → RS h' R W Q T n B n (mts m) (mcs m) → MX h' T (mts m) (mcs m) m → K (.returned none) h'
theorem SX.app {h : AH} {S : Nat} {ts : TL} {s : Sx} (x : SX h S ts s) (u : TL) : SX h S (ts ++ u) s := ⟨x.1, x.2.1, x.2.2.app u⟩
theorem rmodule_ok {G : Gt} {d : Nat} {h : AH} {K : Outcome → AH → Prop} {R W Q T n : Nat} {B : Nat → Nat} (hs : RS h R W Q T n B 0 [] []) (hc : CB G h) (hd : 8 ≤ d)
    (kk : PQ (rdM n B) (RO3 K h R W Q T n B) (TE K R W T h)) : MW G d e_X12_module [.ref R] h K := by
  refine st_X12_module fun X o hG hD hf => ?_
  subst hG; subst hD
  have hn := hs.2.1.2.1
  have k0 := PQ_bd.mp kk
  -- behind the head
  have body : ∀ p0 h1, Fq (RG T) h h1 → RS h1 R W Q T n B p0 [] [] → PQ (bd (rdN n B 2 0 p0) fun num p1 =>
  bd (bd (rdC n B 0 32 p1) fun k p => rep (rdSt n B) k p) fun ss p2 => bd (bd (rdC n B 0 32 p2) fun k p => rep (rdFo n B) k p) fun fs p3 =>
  bd (bd (rdC n B 0 32 p3) fun k p => rep (rdCa n B) k p) fun cs p4 => bd (bd (rdC n B 0 32 p4) fun k p => rep (rdT n B false) k p) fun es p5 =>
  bd (bd (rdC n B 0 64 p5) fun k p => rep (rdU n B) k p) fun us p6 => bd (nd (decide (p6 = n)) 6 p6 p6) fun _ p6 => .ok ((num, ss, fs, cs, es, us), p6)) (RO3 K h R W Q T n B) (TE K R W T h) → ∀ v1 v2, V X K 41 [.ref R, v1, v2] [] h1 := by
    intro p0 h1 f1 r1 k1 v1 v2
    obtain ⟨⟨s1, s2, s3⟩, s4, s5, s6, -⟩ := id r1
    have t0 := s1.1
    refine k_X12_module_41 o ?_
    refine rshort_ok (T := T) s1 s4 s5 s6 (by omega) ((PQ_bd.mp k1).mono (fun num p1 e1 k2 b1 b2 h2 f2 a2 => ?_) (fun w q t => TE.rg f1 t))
    have hnum := rdN2_lt s4.2.2.1 e1
    have r2 := r1.at f2 a2 b1 b2
    have z0 := r2.1.2.2.1.1
    have z1 := r2.1.1.1
    refine k_X12_module_49 o ?_
    have f3 : Fq (FS [256]) h2 (h2.sI 256 T (nI num)) := (Fq.refl h2).sI rfl
    have r3 := r2.tb f3 rfl rfl
    have F3 : Fq (RG T) h (h2.sI 256 T (nI num)) := (f1.trans (f2.mono (at_rg))).sI (Or.inr ⟨rfl, by omega, by omega⟩)
    have g3 : (h2.sI 256 T (nI num)).I 256 T = nI num := I_same ..
    generalize h2.sI 256 T (nI num) = h3 at *
    -- structures
    refine rrows_ok r3 (by omega) ?_
    have k3 := PQ_bd.mp k2
    refine PQ_bd.mpr (k3.mono (fun ss p2 _ k4 => ?_) (fun w q t => TE.rg F3 t))
    refine PQ_bd.mpr ((PQ_bd.mp k4).mono (fun fs p3 _ k5 => ?_) (fun w q t => TE.rg F3 t))
    intro h4 f4 r4 o4 q4' l1 l2 x1 x2
    have F4 : Fq (RG T) h h4 := F3.trans (f4.mono (BQ.rg rfl (by omega) (by omega)))
    have g4' : h4.I 256 T = nI num := by rw [f4.1.I (BQ.out rfl (by omega) (Or.inl rfl))]; exact g3
    simp only [List.nil_append] at r4 x1
    have z1 := r4.1.1.1
    refine k_X12_module_56 o ?_
    -- foreign functions
    refine rforeign_ok r4 (by omega) ((PQ_bd.mp k5).mono (fun cs p4 _ k6 => ?_) (fun w q t => TE.rg F4 t))
    intro h5 f5 r5 o5 l3 x3
    have F5 : Fq (RG T) h h5 := F4.trans (f5.mono (BQ.rg rfl (by omega) (by omega)))
    have g5 : h5.I 256 T = nI num := by rw [f5.1.I (BQ.out rfl (by omega) (Or.inl rfl))]; exact g4'
    have o51 : h5.I 262 T = nI ss.length := by rw [f5.1.I (BQ.out rfl (by omega) (Or.inl rfl))]; exact o4
    have o52 : h5.I 263 T = nI fs.length := by rw [f5.1.I (BQ.out rfl (by omega) (Or.inl rfl))]; exact q4'
    have x51 : ∀ i s, ss[i]? = some s → SX h5 (T + 12 + 2 * i) (sst ss ++ ccs cs) s := fun i s hi => by
      have : i < ss.length := get_lt hi
      have l1 : ss.length ≤ 32 := l1
      exact ((x1 i s hi).fr f5.1 fun f a hf' q1 q2 => BQ.tb hf' (by omega) (by omega)).app _
    have x52 : ∀ i s, fs[i]? = some s → FX h5 (T + 76 + 2 * i) s := fun i s hi => by
      have : i < fs.length := get_lt hi
      have l2 : fs.length ≤ 32 := l2
      exact (x2 i s hi).fr f5.1 fun f a hf' q1 q2 => BQ.tb hf' (by omega) (by omega)
    obtain ⟨⟨w1, w2, w3⟩, w4, w5, w6, -⟩ := id r5
    have z1 := w1.1
    have z2 := w3.1.1
    have z3 := w3.1.2.2.2.2.1
    refine k_X12_module_60 o ?_
    -- elements
    have k7 := PQ_bd.mp (PQ_bd.mp k6)
    refine rbounded_ok (lo := 0) (hi := 32) (T := T) w1 w4 w5 w6 (by omega) (by omega) (by omega) (k7.mono (fun ke p5 _ k8 b1 b2 b3 b4 h6 f6 a6 => ?_) (fun w q t => TE.rg F5 t))
    have r6 := r5.at f6 a6 (by omega) b2
    have F6 : Fq (RG T) h h6 := F5.trans (f6.mono (at_rg))
    have z1 := r6.1.1.1
    refine k_X12_module_75 o ?_
    refine rspan_ok (r := false) r6 (f6.1.tag w3.2.1.2.2.2.2.2.2.2) (by omega) (by omega) (by omega) (by omega) (k8.mono (fun es p6 ees k9 h7 f7 r7 c1 c2 => ?_) (fun w q t => TE.rg F6 t))
    have les := rep_len ees
    have F67 : Fq (AQ T (T + 6) (T + 7)) h5 h7 := (f6.mono at_aq).trans (f7.mono (AQ.mono (by omega) (by omega)))
    have F7 : Fq (RG T) h h7 := F5.trans (F67.mono (AQ.rg (by omega) (by omega)))
    have sp7 : SP h7 (T + 6) (sst ss ++ ccs cs ++ es) es := SP.mk c1 (by rw [les]; exact c2)
    have m7 : ∀ {f : Nat}, (raF ++ tcF).contains f = false → h7.I f T = h5.I f T := fun hf' => F67.1.I (AQ.out hf' (by omega))
    have x71 : ∀ i s, ss[i]? = some s → SX h7 (T + 12 + 2 * i) (sst ss ++ ccs cs ++ es) s := fun i s hi => ((x51 i s hi).fr F67.1 fun f a hf' q1 q2 => AQ.out (tb_out hf') (by omega)).app _
    have x72 : ∀ i s, fs[i]? = some s → FX h7 (T + 76 + 2 * i) s := fun i s hi => (x52 i s hi).fr F67.1 fun f a hf' q1 q2 => AQ.out (tb_out hf') (by omega)
    have x73 : ∀ i c, cs[i]? = some c → CX h7 (T + 396 + 4 * i) (sst ss ++ ccs cs ++ es) c := fun i s hi => ((x3 i s hi).fr F67.1 fun f a hf' q1 q2 => AQ.out (tb_out hf') (by omega)).app _
    have z1 := r7.1.1.1
    have z2 := r7.1.2.1
    refine k_X12_module_79 o ?_
    -- functions
    have k10 := PQ_bd.mp (PQ_bd.mp k9)
    refine rbounded_ok (lo := 0) (hi := 64) (T := T) r7.1.1 r7.2.1 r7.2.2.1 r7.2.2.2.1 (by omega) (by omega) (by omega) (k10.mono (fun ku p7 _ k11 b1 b2 b3 b4' h8 f8 a8 => ?_) (fun w q t => TE.rg F7 t))
    have r8 := r7.at f8 a8 (by omega) b2
    have z0 := r8.1.2.2.1.1
    refine k_X12_module_90 o ?_
    have f9 : Fq (FS [264]) h8 (h8.sI 264 T (nI ku)) := (Fq.refl h8).sI rfl
    have r9 := r8.tb f9 rfl rfl
    have F79 : Fq (BQ [264] T 0 0) h7 (h8.sI 264 T (nI ku)) := (f8.mono at_bq).sI (Or.inr ⟨rfl, rfl⟩)
    have g9 : (h8.sI 264 T (nI ku)).I 264 T = nI ku := I_same ..
    generalize h8.sI 264 T (nI ku) = h9 at *
    have loop : ∀ m j q acc hy, m + j = ku → acc.length = j → Fq (BQ [264] T (T + 140) (T + 396)) h7 hy → RS hy R W Q T n B q (sst ss ++ ccs cs ++ es ++ uts acc) (uis acc) → hy.I 264 T = nI ku → (∀ i u, acc[i]? = some u → UX hy (T + 140 + 4 * i) (sst ss ++ ccs cs ++ es ++ uts acc) (uis acc) u) → PQ (rep (rdU n B) m q) (fun l p' => PQ (bd (nd (decide (p' = n)) 6 p' p') fun _ p6 => .ok ((num, ss, fs, cs, es, acc ++ l), p6)) (RO3 K h R W Q T n B) (TE K R W T h)) (TE K R W T h) → ∀ v2, V X K 95 [.ref R, .int (nI j), v2] [] hy := by
      intro m
      induction m with
      | zero =>
        intro j q acc hy hj la fy ry gy ay ky v2
        have Fy : Fq (RG T) h hy := F7.trans (fy.mono (BQ.rg rfl (by omega) (by omega)))
        obtain ⟨⟨w1, w2, w3⟩, w4, w5, w6, -⟩ := id ry
        have y1 := w1.1
        have y2 := w3.1.1
        have y3 := w4.1
        refine k_X12_module_95 o (fun c5 => ?_) (fun c5 => ?_)
        rotate_left
        · exact absurd ((nI_leI (by omega) (by omega)).mpr (by omega)) c5
        have ke : PQ (bd (nd (decide (q = n)) 6 q q) fun _ p6 => .ok ((num, ss, fs, cs, es, acc ++ []), p6)) (RO3 K h R W Q T n B) (TE K R W T h) := ky
        rw [List.append_nil] at ke
        have ke := PQ_bd.mp ke
        refine k_X12_module_125 o (fun c6 => ?_) (fun c6 => ?_)
        · have c6 : ¬ q = n := fun z => c6 (by rw [z])
          rw [decide_eq_false c6] at ke
          refine k_X12_module_141 o ?_
          refine k_X12_module_142 o ?_
          exact rneed_ok (b := false) (p := 0) w1 (by omega) (TE.rg Fy (PQ_nf.mp ke))
        · have c6 : q = n := (nI_eq (by omega) (by omega)).mp c6
          rw [decide_eq_true c6] at ke
          have ke : RO3 K h R W Q T n B (num, ss, fs, cs, es, acc) q := PQ_nt.mp ke
          refine k_X12_module_137 o ?_
          refine k_X12_module_142 o ?_
          refine rneed_ok (b := true) (p := 0) (T := T) w1 (by omega) ?_
          refine k_X12_module_151 o ?_
          have my : ∀ {f : Nat}, (raF ++ tcF ++ [264]).contains f = false → hy.I f T = h5.I f T := fun {f} hf' => by
            have h1 : (raF ++ tcF).contains f = false := by revert hf'; simp; intro a b c; exact ⟨a, b⟩
            have h2 : ([264] : List Nat).contains f = false := by revert hf'; simp
            rw [fy.1.I (BQ.out h1 (by omega) (Or.inl h2)), m7 h1]
          subst c6
          refine ke rfl hy Fy ry ⟨⟨by rw [my rfl]; exact g5, by rw [my rfl]; exact o51, by rw [my rfl]; exact o52, by rw [my rfl]; exact o5, by rw [gy]; show nI ku = nI acc.length; congr 1; omega⟩, ⟨hnum, l1, l2, l3, by show es.length ≤ 32; omega, by show acc.length ≤ 64; omega⟩, fun i s hi => ?_, fun i s hi => ?_, fun i s hi => ?_, ?_, ay⟩
          · have : i < ss.length := get_lt hi
            have l1 : ss.length ≤ 32 := l1
            exact ((x71 i s hi).fr fy.1 fun f a hf' q1 q2 => BQ.tb hf' (by omega) (by omega)).app _
          · have : i < fs.length := get_lt hi
            have l2 : fs.length ≤ 32 := l2
            exact (x72 i s hi).fr fy.1 fun f a hf' q1 q2 => BQ.tb hf' (by omega) (by omega)
          · exact ((x73 i s hi).fr fy.1 fun f a hf' q1 q2 => BQ.tb hf' (by omega) (by omega)).app _
          · exact (sp7.fr fy.1 (BQ.out rfl (by omega) (Or.inl rfl)) (BQ.out rfl (by omega) (Or.inl rfl))).app _
      | succ m ih =>
        intro j q acc hy hj la fy ry gy ay ky v2
        have Fy : Fq (RG T) h hy := F7.trans (fy.mono (BQ.rg rfl (by omega) (by omega)))
        obtain ⟨⟨w1, w2, w3⟩, w4, w5, w6, -⟩ := id ry
        have y1 := w1.1
        have y2 := w3.1.1
        have y3 := w3.1.2.2.1
        have y4 := w3.2.1.2.1
        obtain ⟨d1, d2, d3, d6, d7, d8⟩ := w3.2.2.2.2 j (by omega)
        rw [show T + 141 + 4 * j = T + 140 + 4 * j + 1 by omega] at d3 d6
        rw [show T + 142 + 4 * j = T + 140 + 4 * j + 2 by omega] at d3 d7
        rw [show T + 143 + 4 * j = T + 140 + 4 * j + 3 by omega] at d3 d8
        have ix : IX (nI j) 96 j := IX.mk (by omega) (by omega)
        have k2 := rep_s (C := fun l p' => PQ (bd (nd (decide (p' = n)) 6 p' p') fun _ p6 => .ok ((num, ss, fs, cs, es, l), p6)) (RO3 K h R W Q T n B) (TE K R W T h)) ky
        refine k_X12_module_95 o (fun c5 => ?_) (fun c5 => ?_)
        · exact absurd ((nI_leI (by omega) (by omega)).mp c5) (by omega)
        refine k_X12_module_106 o ?_
        refine rfunc_ok ry d2 d3 ⟨d6, d7, d8⟩ (by omega) (by omega) (by omega) (k2.mono (fun u q2 _ k3 h1 f1 r1 x1 => ?_) (fun w q t => TE.rg Fy t))
        refine k_X12_module_119 o ?_
        rw [nI_add]
        have es1 : sst ss ++ ccs cs ++ es ++ uts (acc ++ [u]) = sst ss ++ ccs cs ++ es ++ uts acc ++ ut u := by rw [uts_s, ← List.append_assoc]
        refine ih (j + 1) q2 (acc ++ [u]) h1 (by omega) (by simp [la]) (fy.trans (f1.mono (AQ.bq (by omega) (by omega)))) (by rw [es1, uis_s]; exact r1) ?_ (fun i s hi => ?_) k3 _
        · rw [f1.1.I (AQ.out rfl (by omega))]; exact gy
        · rw [es1, uis_s]
          rcases snoc_get hi with ⟨z1, z2⟩ | ⟨z1, z2⟩
          · exact ((ay i s z2).fr f1.1 fun f a hf' q1 q2 => AQ.out (tb_out hf') (by omega)).app _ _
          · subst z2
            rw [z1, la]; exact x1
    exact loop ku 0 p7 [] h9 (by omega) rfl (F79.mono (BQ.mono rfl (by omega) (by omega))) (by simpa [uts, uis] using r9) g9 (fun i s hi => by simp at hi) k11 _
  -- the head
  have loop : ∀ m j q hy, m + j = 4 → Fq (RG T) h hy → CB X.G hy → RS hy R W Q T n B q [] [] → PQ (rdH n B m j q) (fun _ p0 => PQ (bd (rdN n B 2 0 p0) fun num p1 =>
  bd (bd (rdC n B 0 32 p1) fun k p => rep (rdSt n B) k p) fun ss p2 => bd (bd (rdC n B 0 32 p2) fun k p => rep (rdFo n B) k p) fun fs p3 =>
  bd (bd (rdC n B 0 32 p3) fun k p => rep (rdCa n B) k p) fun cs p4 => bd (bd (rdC n B 0 32 p4) fun k p => rep (rdT n B false) k p) fun es p5 =>
  bd (bd (rdC n B 0 64 p5) fun k p => rep (rdU n B) k p) fun us p6 => bd (nd (decide (p6 = n)) 6 p6 p6) fun _ p6 => .ok ((num, ss, fs, cs, es, us), p6)) (RO3 K h R W Q T n B) (TE K R W T h)) (TE K R W T h) → ∀ v2, V X K 2 [.ref R, .int (nI j), v2] [] hy := by
    intro m
    induction m with
    | zero =>
      intro j q hy hj fy cy ry ky v2
      refine k_X12_module_2 o (fun c => ?_) (fun c => ?_)
      rotate_left
      · exact absurd ((nI_leI (by omega) (by omega)).mpr (by omega)) c
      exact body q hy fy ry ky _ _
    | succ m ih =>
      intro j q hy hj fy cy ry ky v2
      obtain ⟨⟨w1, w2, w3⟩, w4, w5, w6, -⟩ := id ry
      have y1 := w1.1
      refine k_X12_module_2 o (fun c => ?_) (fun c => ?_)
      · exact absurd ((nI_leI (by omega) (by omega)).mp c) (by omega)
      refine k_X12_module_7 o ?_
      refine rnext_ok (T := T) w1 w4 w5 w6 (by omega) ((PQ_bd.mp ky).mono (fun b q2 e k2 h1 f1 a1 => ?_) (fun w q t => TE.rg fy t))
      obtain ⟨rfl, rfl, e3⟩ := rdB_ok e
      have hb := w4.2.2.1 q
      have r1 := ry.at f1 a1 (by omega) (by omega)
      have c1 := cy.fr f1.1 (FS.n rfl)
      have F1 : Fq (RG T) h h1 := fy.trans (f1.mono (at_rg))
      have ix : IX (nI j) 4 j := IX.mk (by omega) (by omega)
      have x1 := c1.1
      have x2 := c1.2 j (by omega)
      have hq : hdb j < 256 := by
        have : ∀ k : Fin 4, hdb k.val < 256 := by decide
        exact this ⟨j, by omega⟩
      have k3 := PQ_bd.mp k2
      have s1' := r1.1.1
      have y1 := s1'.1
      refine k_X12_module_17 (T1 := 4096) (n3 := 4) (k5 := j) o (fun c => ?_) (fun c => ?_) (c8 := by decide)
      · have c : ¬ B q = hdb j := fun z => c (by rw [z])
        rw [decide_eq_false c] at k3
        refine k_X12_module_29 o ?_
        refine k_X12_module_30 o ?_
        exact rneed_ok (b := false) (p := 0) s1' (by omega) (TE.rg F1 (PQ_nf.mp k3))
      · have c : B q = hdb j := (nI_eq (by omega) (by omega)).mp c
        rw [decide_eq_true c] at k3
        refine k_X12_module_25 o ?_
        refine k_X12_module_30 o ?_
        refine rneed_ok (b := true) (p := 0) (T := T) s1' (by omega) ?_
        refine k_X12_module_35 o ?_
        rw [nI_add]
        exact ih (j + 1) (q + 1) h1 (by omega) F1 c1 r1 (PQ_nt.mp k3) _
  refine k_X12_module_0 o ?_
  exact loop 4 0 0 h (by omega) (Fq.refl h) hc hs k0 _
