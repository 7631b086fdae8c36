/-! the twin's looker: taking and pushing -/
def tkG : List Nat := [3090, 3086, 3091, 3092, 3093]
def psG : List Nat := [3090, 3086, 10000 + 1811, 10000 + 1827, 10000 + 1842]
def fTk (x : Ts) : Except Nat Ts := eb (tk x.2.1) fun r => .ok (some r.1, r.2, x.2.2)
def fPt (t : Ty) (og : Og) (x : Ts) : Except Nat Ts := eb (pt t (ogr t og) x.2.1) fun s => .ok (x.1, s, x.2.2)
def fNe (b : Bool) (w : Nat) (x : Ts) : Except Nat Ts := eb (nee b w) fun _ => .ok x
def fTT (t : Ty) (x : Ts) : Except Nat Ts := eb (tkT t x.2.1) fun r => .ok (some r.1, r.2, x.2.2)
theorem TRs.z {h : AH} {O : Nat} {m : Md} {lt : List Ty} {e : Except Nat Ts} (hr : TRs h O m lt e) : (h.I 3090 O = 0 ↔ ∃ x, e = .ok x) := by
  cases e with
  | ok x => exact ⟨fun _ => ⟨x, rfl⟩, fun _ => (hr : TGd h O m lt x).1⟩
  | error w =>
    obtain ⟨s1, s2, -⟩ := (hr : TBd h O w)
    refine ⟨fun z => ?_, fun ⟨x, z⟩ => by cases z⟩
    rw [s1] at z
    exact absurd ((nI_eq (b := 0) (by omega) (by omega)).mp z) (by omega)
theorem TRs.bad {h : AH} {O : Nat} {m : Md} {lt : List Ty} {e : Except Nat Ts} (hr : TRs h O m lt e) (hf : ¬ h.I 3090 O = 0) : ∃ w, e = .error w := by
  cases e with
  | ok x => exact absurd (hr : TGd h O m lt x).1 hf
  | error w => exact ⟨w, rfl⟩
theorem ltake_ok {G : Gt} {d : Nat} {h : AH} {K : Outcome → AH → Prop} {O : Nat} {m : Md} {lt : List Ty} {e : Except Nat Ts} (hs : SLk h O) (hr : TRs h O m lt e) (hd : 1 ≤ d) (kk : ∀ h', Fq (FS tkG) h h' → TRs h' O m lt (eb e fTk) → K (.returned none) h') : MW G d e_X25_take [.ref O] h K := by
  refine st_X25_take fun X o hG hD _ => ?_
  subst hG; subst hD
  obtain ⟨s0, ⟨a1, a2, a3, a4, a5, a6⟩, ⟨b1, b2, b3, b4, b5, b6⟩, ⟨c1, c2, c3, c4, c5, c6⟩, d1, d2, d3, d4, d5, d6⟩ := id hs
  cases e with
  | error v =>
    obtain ⟨s1, s2, -⟩ := id (hr : TBd h O v)
    refine k_X25_take_0 o (fun c => absurd c (nI_nz s2)) (fun _ => ?_)
    refine k_X25_take_7 o ?_
    exact kk h (Fq.refl h) hr
  | ok x =>
    obtain ⟨p, s, l⟩ := x
    obtain ⟨s1, ⟨s2, s3, s4, s5⟩, s6, s7⟩ := id (hr : TGd h O m lt (p, s, l))
    simp only at s2 s3 s4 s5 s6
    refine k_X25_take_0 o (fun _ => ?_) (fun c => absurd rfl c)
    cases s with
    | nil =>
      refine k_X25_take_8 o (fun c => absurd rfl c) (fun _ => ?_)
      refine k_X25_take_15 o ?_
      refine lfail_ok s0 hr (by decide) fun h' f' r' => ?_
      refine k_X25_take_20 o ?_
      exact kk h' (f'.mono (FS.mono rfl)) r'
    | cons y s =>
      have hl : s.length + 1 ≤ 64 := s4
      refine k_X25_take_8 o (fun _ => ?_) (fun c => ?_)
      rotate_left
      · exact absurd ((nI_eq (a := s.length + 1) (b := 0) (by omega) (by omega)).mp c) (by omega)
      have ix : IX (nI (y :: s).length - nI 1) 200 s.length := by
        show IX (nI (s.length + 1) - nI 1) 200 s.length
        rw [nI_sub (by omega)]; exact IX.mk (by omega) (by omega)
      obtain ⟨t1, t2, t3⟩ := s3.1
      refine k_X25_take_21 o ?_
      have e3 : nI (y :: s).length - nI 1 = nI s.length := by
        show nI (s.length + 1) - nI 1 = _
        rw [nI_sub (by omega)]; rfl
      rw [e3]
      have f1 : Fq (FS tkG) h ((((h.sI 3086 O (nI s.length)).sJ 3091 O (lN (tyc y.1))).sJ 3092 O (lN y.2.1)).sI 3093 O (bI y.2.2)) := (by refine (Fq.sI (Fq.sJ (Fq.sJ (Fq.sI (Fq.refl h) ?_) ?_) ?_) ?_) <;> exact rfl)
      refine kk _ f1 ?_
      refine show TGd _ O m lt (some y, s, l) from ⟨?_, ⟨?_, ?_, show s.length ≤ 64 by omega, fun z hz => s5 z (List.mem_cons_of_mem _ hz)⟩, ?_, ?_, ?_, ?_⟩
      · simp [n_sI, z_sI, tag_sI, I_sI, J_sI, R_sI, EI_sI, EJ_sI, ER_sI, n_sJ, z_sJ, tag_sJ, I_sJ, J_sJ, R_sJ, EI_sJ, EJ_sJ, ER_sJ, n_sR, z_sR, tag_sR, I_sR, J_sR, R_sR, EI_sR, EJ_sR, ER_sR, n_sEI, z_sEI, tag_sEI, I_sEI, J_sEI, R_sEI, EI_sEI, EJ_sEI, ER_sEI, n_sEJ, z_sEJ, tag_sEJ, I_sEJ, J_sEJ, R_sEJ, EI_sEJ, EJ_sEJ, ER_sEJ, n_sER, z_sER, tag_sER, I_sER, J_sER, R_sER, EI_sER, EJ_sER, ER_sER, n_nw, z_nw, tag_nw, I_nw, J_nw, R_nw, EI_nw, EJ_nw, ER_nw, s1]
      · simp [n_sI, z_sI, tag_sI, I_sI, J_sI, R_sI, EI_sI, EJ_sI, ER_sI, n_sJ, z_sJ, tag_sJ, I_sJ, J_sJ, R_sJ, EI_sJ, EJ_sJ, ER_sJ, n_sR, z_sR, tag_sR, I_sR, J_sR, R_sR, EI_sR, EJ_sR, ER_sR, n_sEI, z_sEI, tag_sEI, I_sEI, J_sEI, R_sEI, EI_sEI, EJ_sEI, ER_sEI, n_sEJ, z_sEJ, tag_sEJ, I_sEJ, J_sEJ, R_sEJ, EI_sEJ, EJ_sEJ, ER_sEJ, n_sER, z_sER, tag_sER, I_sER, J_sER, R_sER, EI_sER, EJ_sER, ER_sER, n_nw, z_nw, tag_nw, I_nw, J_nw, R_nw, EI_nw, EJ_nw, ER_nw]
      · exact s3.2.fr f1.1 (fun a => FS.n rfl) (fun a => FS.n rfl) (fun a => FS.n rfl)
      · exact s6.fr f1.1 (fun a => FS.n rfl) (fun a => FS.n rfl) (fun a => FS.n rfl)
      · simp [n_sI, z_sI, tag_sI, I_sI, J_sI, R_sI, EI_sI, EJ_sI, ER_sI, n_sJ, z_sJ, tag_sJ, I_sJ, J_sJ, R_sJ, EI_sJ, EJ_sJ, ER_sJ, n_sR, z_sR, tag_sR, I_sR, J_sR, R_sR, EI_sR, EJ_sR, ER_sR, n_sEI, z_sEI, tag_sEI, I_sEI, J_sEI, R_sEI, EI_sEI, EJ_sEI, ER_sEI, n_sEJ, z_sEJ, tag_sEJ, I_sEJ, J_sEJ, R_sEJ, EI_sEJ, EJ_sEJ, ER_sEJ, n_sER, z_sER, tag_sER, I_sER, J_sER, R_sER, EI_sER, EJ_sER, ER_sER, n_nw, z_nw, tag_nw, I_nw, J_nw, R_nw, EI_nw, EJ_nw, ER_nw]
      · simp [n_sI, z_sI, tag_sI, I_sI, J_sI, R_sI, EI_sI, EJ_sI, ER_sI, n_sJ, z_sJ, tag_sJ, I_sJ, J_sJ, R_sJ, EI_sJ, EJ_sJ, ER_sJ, n_sR, z_sR, tag_sR, I_sR, J_sR, R_sR, EI_sR, EJ_sR, ER_sR, n_sEI, z_sEI, tag_sEI, I_sEI, J_sEI, R_sEI, EI_sEI, EJ_sEI, ER_sEI, n_sEJ, z_sEJ, tag_sEJ, I_sEJ, J_sEJ, R_sEJ, EI_sEJ, EJ_sEJ, ER_sEJ, n_sER, z_sER, tag_sER, I_sER, J_sER, R_sER, EI_sER, EJ_sER, ER_sER, n_nw, z_nw, tag_nw, I_nw, J_nw, R_nw, EI_nw, EJ_nw, ER_nw]
      · simp [n_sI, z_sI, tag_sI, I_sI, J_sI, R_sI, EI_sI, EJ_sI, ER_sI, n_sJ, z_sJ, tag_sJ, I_sJ, J_sJ, R_sJ, EI_sJ, EJ_sJ, ER_sJ, n_sR, z_sR, tag_sR, I_sR, J_sR, R_sR, EI_sR, EJ_sR, ER_sR, n_sEI, z_sEI, tag_sEI, I_sEI, J_sEI, R_sEI, EI_sEI, EJ_sEI, ER_sEI, n_sEJ, z_sEJ, tag_sEJ, I_sEJ, J_sEJ, R_sEJ, EI_sEJ, EJ_sEJ, ER_sEJ, n_sER, z_sER, tag_sER, I_sER, J_sER, R_sER, EI_sER, EJ_sER, ER_sER, n_nw, z_nw, tag_nw, I_nw, J_nw, R_nw, EI_nw, EJ_nw, ER_nw]
theorem lpush_ok {G : Gt} {d : Nat} {h : AH} {K : Outcome → AH → Prop} {O : Nat} {m : Md} {lt : List Ty} {e : Except Nat Ts} {t : Ty} {og : Og} {v1 v2 : Int64} {v3 : Int32} (hs : SLk h O) (hr : TRs h O m lt e) (hv : ∀ x, e = .ok x → v1 = lN (tyc t) ∧ v2 = lN og.1 ∧ v3 = bI og.2 ∧ tOK m t ∧ og.1 < 9223372036854775808) (hd : 2 ≤ d) (kk : ∀ h', Fq (FS psG) h h' → TRs h' O m lt (eb e (fPt t og)) → K (.returned none) h') : MW G d e_X25_push [.ref O, .long v1, .long v2, .int v3] h K := by
  refine st_X25_push fun X o hG hD _ => ?_
  subst hG; subst hD
  obtain ⟨s0, ⟨a1, a2, a3, a4, a5, a6⟩, ⟨b1, b2, b3, b4, b5, b6⟩, ⟨c1, c2, c3, c4, c5, c6⟩, d1, d2, d3, d4, d5, d6⟩ := id hs
  cases e with
  | error v =>
    obtain ⟨s1, s2, -⟩ := id (hr : TBd h O v)
    refine k_X25_push_0 o (fun c => absurd c (nI_nz s2)) (fun _ => ?_)
    refine k_X25_push_7 o ?_
    exact kk h (Fq.refl h) hr
  | ok x =>
    obtain ⟨p, s, l⟩ := x
    obtain ⟨rfl, rfl, rfl, ht, ho⟩ := hv _ rfl
    obtain ⟨s1, ⟨s2, s3, s4, s5⟩, s6, s7⟩ := id (hr : TGd h O m lt (p, s, l))
    simp only at s2 s3 s4 s5 s6 s7
    refine k_X25_push_0 o (fun _ => ?_) (fun c => absurd rfl c)
    have ix : IX (nI s.length) 200 s.length := IX.mk (by omega) (by omega)
    have tv := ht.tv.1
    refine k_X25_push_8 o ?_
    refine lirf_ok tv (by omega) ?_
    -- behind the origins
    have go : ∀ v : Int64, v = lN (ogr t og).1 → V X K 38 [.ref O, .long (lN (tyc t)), nov, .long (lN og.1), nov, .int (bI og.2)] [.long v, .int (nI s.length), .ref (O + 8)] (h.sEJ 1811 (O + 7) s.length (lN (tyc t))) := by
      intro v hv
      subst hv
      have r1 : (h.sEJ 1811 (O + 7) s.length (lN (tyc t))).R 3085 O = some (O + 9) := by simp [n_sI, z_sI, tag_sI, I_sI, J_sI, R_sI, EI_sI, EJ_sI, ER_sI, n_sJ, z_sJ, tag_sJ, I_sJ, J_sJ, R_sJ, EI_sJ, EJ_sJ, ER_sJ, n_sR, z_sR, tag_sR, I_sR, J_sR, R_sR, EI_sR, EJ_sR, ER_sR, n_sEI, z_sEI, tag_sEI, I_sEI, J_sEI, R_sEI, EI_sEI, EJ_sEI, ER_sEI, n_sEJ, z_sEJ, tag_sEJ, I_sEJ, J_sEJ, R_sEJ, EI_sEJ, EJ_sEJ, ER_sEJ, n_sER, z_sER, tag_sER, I_sER, J_sER, R_sER, EI_sER, EJ_sER, ER_sER, n_nw, z_nw, tag_nw, I_nw, J_nw, R_nw, EI_nw, EJ_nw, ER_nw, b3]
      have r2 : (h.sEJ 1811 (O + 7) s.length (lN (tyc t))).I 3086 O = nI s.length := by simp [n_sI, z_sI, tag_sI, I_sI, J_sI, R_sI, EI_sI, EJ_sI, ER_sI, n_sJ, z_sJ, tag_sJ, I_sJ, J_sJ, R_sJ, EI_sJ, EJ_sJ, ER_sJ, n_sR, z_sR, tag_sR, I_sR, J_sR, R_sR, EI_sR, EJ_sR, ER_sR, n_sEI, z_sEI, tag_sEI, I_sEI, J_sEI, R_sEI, EI_sEI, EJ_sEI, ER_sEI, n_sEJ, z_sEJ, tag_sEJ, I_sEJ, J_sEJ, R_sEJ, EI_sEJ, EJ_sEJ, ER_sEJ, n_sER, z_sER, tag_sER, I_sER, J_sER, R_sER, EI_sER, EJ_sER, ER_sER, n_nw, z_nw, tag_nw, I_nw, J_nw, R_nw, EI_nw, EJ_nw, ER_nw, s2]
      have r3 : (h.sEJ 1811 (O + 7) s.length (lN (tyc t))).tag (O + 8) = some (1827, 200) := by simp [n_sI, z_sI, tag_sI, I_sI, J_sI, R_sI, EI_sI, EJ_sI, ER_sI, n_sJ, z_sJ, tag_sJ, I_sJ, J_sJ, R_sJ, EI_sJ, EJ_sJ, ER_sJ, n_sR, z_sR, tag_sR, I_sR, J_sR, R_sR, EI_sR, EJ_sR, ER_sR, n_sEI, z_sEI, tag_sEI, I_sEI, J_sEI, R_sEI, EI_sEI, EJ_sEI, ER_sEI, n_sEJ, z_sEJ, tag_sEJ, I_sEJ, J_sEJ, R_sEJ, EI_sEJ, EJ_sEJ, ER_sEJ, n_sER, z_sER, tag_sER, I_sER, J_sER, R_sER, EI_sER, EJ_sER, ER_sER, n_nw, z_nw, tag_nw, I_nw, J_nw, R_nw, EI_nw, EJ_nw, ER_nw, d2]
      have r4 : (h.sEJ 1811 (O + 7) s.length (lN (tyc t))).tag O = some (24, 0) := by simp [n_sI, z_sI, tag_sI, I_sI, J_sI, R_sI, EI_sI, EJ_sI, ER_sI, n_sJ, z_sJ, tag_sJ, I_sJ, J_sJ, R_sJ, EI_sJ, EJ_sJ, ER_sJ, n_sR, z_sR, tag_sR, I_sR, J_sR, R_sR, EI_sR, EJ_sR, ER_sR, n_sEI, z_sEI, tag_sEI, I_sEI, J_sEI, R_sEI, EI_sEI, EJ_sEI, ER_sEI, n_sEJ, z_sEJ, tag_sEJ, I_sEJ, J_sEJ, R_sEJ, EI_sEJ, EJ_sEJ, ER_sEJ, n_sER, z_sER, tag_sER, I_sER, J_sER, R_sER, EI_sER, EJ_sER, ER_sER, n_nw, z_nw, tag_nw, I_nw, J_nw, R_nw, EI_nw, EJ_nw, ER_nw, s0]
      refine k_X25_push_38 o ?_
      refine lirf_ok tv (by omega) ?_
      have go2 : ∀ v : Int32, v = bI (ogr t og).2 → V X K 64 [.ref O, .long (lN (tyc t)), nov, .long (lN og.1), nov, .int (bI og.2)] [.int v, .int (nI s.length), .ref (O + 9)] ((h.sEJ 1811 (O + 7) s.length (lN (tyc t))).sEJ 1827 (O + 8) s.length (lN (ogr t og).1)) := by
        intro v hv
        subst hv
        generalize hh1 : ((h.sEJ 1811 (O + 7) s.length (lN (tyc t))).sEJ 1827 (O + 8) s.length (lN (ogr t og).1)) = h1
        have q1 : h1.tag (O + 9) = some (1842, 200) := by subst hh1; simp [n_sI, z_sI, tag_sI, I_sI, J_sI, R_sI, EI_sI, EJ_sI, ER_sI, n_sJ, z_sJ, tag_sJ, I_sJ, J_sJ, R_sJ, EI_sJ, EJ_sJ, ER_sJ, n_sR, z_sR, tag_sR, I_sR, J_sR, R_sR, EI_sR, EJ_sR, ER_sR, n_sEI, z_sEI, tag_sEI, I_sEI, J_sEI, R_sEI, EI_sEI, EJ_sEI, ER_sEI, n_sEJ, z_sEJ, tag_sEJ, I_sEJ, J_sEJ, R_sEJ, EI_sEJ, EJ_sEJ, ER_sEJ, n_sER, z_sER, tag_sER, I_sER, J_sER, R_sER, EI_sER, EJ_sER, ER_sER, n_nw, z_nw, tag_nw, I_nw, J_nw, R_nw, EI_nw, EJ_nw, ER_nw, d3]
        have q2 : h1.tag O = some (24, 0) := by subst hh1; simp [n_sI, z_sI, tag_sI, I_sI, J_sI, R_sI, EI_sI, EJ_sI, ER_sI, n_sJ, z_sJ, tag_sJ, I_sJ, J_sJ, R_sJ, EI_sJ, EJ_sJ, ER_sJ, n_sR, z_sR, tag_sR, I_sR, J_sR, R_sR, EI_sR, EJ_sR, ER_sR, n_sEI, z_sEI, tag_sEI, I_sEI, J_sEI, R_sEI, EI_sEI, EJ_sEI, ER_sEI, n_sEJ, z_sEJ, tag_sEJ, I_sEJ, J_sEJ, R_sEJ, EI_sEJ, EJ_sEJ, ER_sEJ, n_sER, z_sER, tag_sER, I_sER, J_sER, R_sER, EI_sER, EJ_sER, ER_sER, n_nw, z_nw, tag_nw, I_nw, J_nw, R_nw, EI_nw, EJ_nw, ER_nw, s0]
        have q3 : h1.I 3086 O = nI s.length := by subst hh1; simp [n_sI, z_sI, tag_sI, I_sI, J_sI, R_sI, EI_sI, EJ_sI, ER_sI, n_sJ, z_sJ, tag_sJ, I_sJ, J_sJ, R_sJ, EI_sJ, EJ_sJ, ER_sJ, n_sR, z_sR, tag_sR, I_sR, J_sR, R_sR, EI_sR, EJ_sR, ER_sR, n_sEI, z_sEI, tag_sEI, I_sEI, J_sEI, R_sEI, EI_sEI, EJ_sEI, ER_sEI, n_sEJ, z_sEJ, tag_sEJ, I_sEJ, J_sEJ, R_sEJ, EI_sEJ, EJ_sEJ, ER_sEJ, n_sER, z_sER, tag_sER, I_sER, J_sER, R_sER, EI_sER, EJ_sER, ER_sER, n_nw, z_nw, tag_nw, I_nw, J_nw, R_nw, EI_nw, EJ_nw, ER_nw, s2]
        generalize hh2 : ((h1.sEI 1842 (O + 9) s.length (bI (ogr t og).2)).sI 3086 O (nI (s.length + 1))) = h2
        have f2 : Fq (FS psG) h h2 := by
          subst hh2; subst hh1
          exact (by refine (Fq.sI (Fq.sEI (Fq.sEJ (Fq.sEJ (Fq.refl h) ?_) ?_) ?_) ?_) <;> exact rfl)
        have e2 : h2.I 3086 O = nI (s.length + 1) := by subst hh2; simp [n_sI, z_sI, tag_sI, I_sI, J_sI, R_sI, EI_sI, EJ_sI, ER_sI, n_sJ, z_sJ, tag_sJ, I_sJ, J_sJ, R_sJ, EI_sJ, EJ_sJ, ER_sJ, n_sR, z_sR, tag_sR, I_sR, J_sR, R_sR, EI_sR, EJ_sR, ER_sR, n_sEI, z_sEI, tag_sEI, I_sEI, J_sEI, R_sEI, EI_sEI, EJ_sEI, ER_sEI, n_sEJ, z_sEJ, tag_sEJ, I_sEJ, J_sEJ, R_sEJ, EI_sEJ, EJ_sEJ, ER_sEJ, n_sER, z_sER, tag_sER, I_sER, J_sER, R_sER, EI_sER, EJ_sER, ER_sER, n_nw, z_nw, tag_nw, I_nw, J_nw, R_nw, EI_nw, EJ_nw, ER_nw]
        have e4 : h2.I 3090 O = 0 := by subst hh2; subst hh1; simp [n_sI, z_sI, tag_sI, I_sI, J_sI, R_sI, EI_sI, EJ_sI, ER_sI, n_sJ, z_sJ, tag_sJ, I_sJ, J_sJ, R_sJ, EI_sJ, EJ_sJ, ER_sJ, n_sR, z_sR, tag_sR, I_sR, J_sR, R_sR, EI_sR, EJ_sR, ER_sR, n_sEI, z_sEI, tag_sEI, I_sEI, J_sEI, R_sEI, EI_sEI, EJ_sEI, ER_sEI, n_sEJ, z_sEJ, tag_sEJ, I_sEJ, J_sEJ, R_sEJ, EI_sEJ, EJ_sEJ, ER_sEJ, n_sER, z_sER, tag_sER, I_sER, J_sER, R_sER, EI_sER, EJ_sER, ER_sER, n_nw, z_nw, tag_nw, I_nw, J_nw, R_nw, EI_nw, EJ_nw, ER_nw, s1]
        have e5 : h2.tag O = some (24, 0) := by subst hh2; simp [n_sI, z_sI, tag_sI, I_sI, J_sI, R_sI, EI_sI, EJ_sI, ER_sI, n_sJ, z_sJ, tag_sJ, I_sJ, J_sJ, R_sJ, EI_sJ, EJ_sJ, ER_sJ, n_sR, z_sR, tag_sR, I_sR, J_sR, R_sR, EI_sR, EJ_sR, ER_sR, n_sEI, z_sEI, tag_sEI, I_sEI, J_sEI, R_sEI, EI_sEI, EJ_sEI, ER_sEI, n_sEJ, z_sEJ, tag_sEJ, I_sEJ, J_sEJ, R_sEJ, EI_sEJ, EJ_sEJ, ER_sEJ, n_sER, z_sER, tag_sER, I_sER, J_sER, R_sER, EI_sER, EJ_sER, ER_sER, n_nw, z_nw, tag_nw, I_nw, J_nw, R_nw, EI_nw, EJ_nw, ER_nw, q2]
        have key : s.length + 1 ≤ 64 → TGd h2 O m lt (p, (t, ogr t og) :: s, l) := fun c => by
          refine ⟨e4, ⟨e2, ?_, show s.length + 1 ≤ 64 from c, fun y hy => ?_⟩, s6.fr f2.1 (fun a => FS.n rfl) (fun a => FS.n rfl) (fun a => FS.n rfl), s7.fr f2.1 (fun a => FS.n rfl) (fun a => FS.n rfl) (fun a => FS.n rfl)⟩
          · have ss : ∀ s' : Sk, s'.length ≤ s.length → TKr h O s' → TKr h2 O s' := by
              intro s'
              induction s' with
              | nil => intro _ _; trivial
              | cons y s' ih =>
                intro hl hk'
                simp only [List.length_cons] at hl
                have ne : s'.length ≠ s.length := by omega
                obtain ⟨⟨w1, w2, w3⟩, w4⟩ := hk'
                refine ⟨⟨?_, ?_, ?_⟩, ih (by omega) w4⟩
                · subst hh2; subst hh1; simpa [n_sI, z_sI, tag_sI, I_sI, J_sI, R_sI, EI_sI, EJ_sI, ER_sI, n_sJ, z_sJ, tag_sJ, I_sJ, J_sJ, R_sJ, EI_sJ, EJ_sJ, ER_sJ, n_sR, z_sR, tag_sR, I_sR, J_sR, R_sR, EI_sR, EJ_sR, ER_sR, n_sEI, z_sEI, tag_sEI, I_sEI, J_sEI, R_sEI, EI_sEI, EJ_sEI, ER_sEI, n_sEJ, z_sEJ, tag_sEJ, I_sEJ, J_sEJ, R_sEJ, EI_sEJ, EJ_sEJ, ER_sEJ, n_sER, z_sER, tag_sER, I_sER, J_sER, R_sER, EI_sER, EJ_sER, ER_sER, n_nw, z_nw, tag_nw, I_nw, J_nw, R_nw, EI_nw, EJ_nw, ER_nw, ne] using w1
                · subst hh2; subst hh1; simpa [n_sI, z_sI, tag_sI, I_sI, J_sI, R_sI, EI_sI, EJ_sI, ER_sI, n_sJ, z_sJ, tag_sJ, I_sJ, J_sJ, R_sJ, EI_sJ, EJ_sJ, ER_sJ, n_sR, z_sR, tag_sR, I_sR, J_sR, R_sR, EI_sR, EJ_sR, ER_sR, n_sEI, z_sEI, tag_sEI, I_sEI, J_sEI, R_sEI, EI_sEI, EJ_sEI, ER_sEI, n_sEJ, z_sEJ, tag_sEJ, I_sEJ, J_sEJ, R_sEJ, EI_sEJ, EJ_sEJ, ER_sEJ, n_sER, z_sER, tag_sER, I_sER, J_sER, R_sER, EI_sER, EJ_sER, ER_sER, n_nw, z_nw, tag_nw, I_nw, J_nw, R_nw, EI_nw, EJ_nw, ER_nw, ne] using w2
                · subst hh2; subst hh1; simpa [n_sI, z_sI, tag_sI, I_sI, J_sI, R_sI, EI_sI, EJ_sI, ER_sI, n_sJ, z_sJ, tag_sJ, I_sJ, J_sJ, R_sJ, EI_sJ, EJ_sJ, ER_sJ, n_sR, z_sR, tag_sR, I_sR, J_sR, R_sR, EI_sR, EJ_sR, ER_sR, n_sEI, z_sEI, tag_sEI, I_sEI, J_sEI, R_sEI, EI_sEI, EJ_sEI, ER_sEI, n_sEJ, z_sEJ, tag_sEJ, I_sEJ, J_sEJ, R_sEJ, EI_sEJ, EJ_sEJ, ER_sEJ, n_sER, z_sER, tag_sER, I_sER, J_sER, R_sER, EI_sER, EJ_sER, ER_sER, n_nw, z_nw, tag_nw, I_nw, J_nw, R_nw, EI_nw, EJ_nw, ER_nw, ne] using w3
            refine ⟨⟨?_, ?_, ?_⟩, ss s (Nat.le_refl _) s3⟩
            · subst hh2; subst hh1; simp [n_sI, z_sI, tag_sI, I_sI, J_sI, R_sI, EI_sI, EJ_sI, ER_sI, n_sJ, z_sJ, tag_sJ, I_sJ, J_sJ, R_sJ, EI_sJ, EJ_sJ, ER_sJ, n_sR, z_sR, tag_sR, I_sR, J_sR, R_sR, EI_sR, EJ_sR, ER_sR, n_sEI, z_sEI, tag_sEI, I_sEI, J_sEI, R_sEI, EI_sEI, EJ_sEI, ER_sEI, n_sEJ, z_sEJ, tag_sEJ, I_sEJ, J_sEJ, R_sEJ, EI_sEJ, EJ_sEJ, ER_sEJ, n_sER, z_sER, tag_sER, I_sER, J_sER, R_sER, EI_sER, EJ_sER, ER_sER, n_nw, z_nw, tag_nw, I_nw, J_nw, R_nw, EI_nw, EJ_nw, ER_nw]
            · subst hh2; subst hh1; simp [n_sI, z_sI, tag_sI, I_sI, J_sI, R_sI, EI_sI, EJ_sI, ER_sI, n_sJ, z_sJ, tag_sJ, I_sJ, J_sJ, R_sJ, EI_sJ, EJ_sJ, ER_sJ, n_sR, z_sR, tag_sR, I_sR, J_sR, R_sR, EI_sR, EJ_sR, ER_sR, n_sEI, z_sEI, tag_sEI, I_sEI, J_sEI, R_sEI, EI_sEI, EJ_sEI, ER_sEI, n_sEJ, z_sEJ, tag_sEJ, I_sEJ, J_sEJ, R_sEJ, EI_sEJ, EJ_sEJ, ER_sEJ, n_sER, z_sER, tag_sER, I_sER, J_sER, R_sER, EI_sER, EJ_sER, ER_sER, n_nw, z_nw, tag_nw, I_nw, J_nw, R_nw, EI_nw, EJ_nw, ER_nw]
            · subst hh2; subst hh1; simp [n_sI, z_sI, tag_sI, I_sI, J_sI, R_sI, EI_sI, EJ_sI, ER_sI, n_sJ, z_sJ, tag_sJ, I_sJ, J_sJ, R_sJ, EI_sJ, EJ_sJ, ER_sJ, n_sR, z_sR, tag_sR, I_sR, J_sR, R_sR, EI_sR, EJ_sR, ER_sR, n_sEI, z_sEI, tag_sEI, I_sEI, J_sEI, R_sEI, EI_sEI, EJ_sEI, ER_sEI, n_sEJ, z_sEJ, tag_sEJ, I_sEJ, J_sEJ, R_sEJ, EI_sEJ, EJ_sEJ, ER_sEJ, n_sER, z_sER, tag_sER, I_sER, J_sER, R_sER, EI_sER, EJ_sER, ER_sER, n_nw, z_nw, tag_nw, I_nw, J_nw, R_nw, EI_nw, EJ_nw, ER_nw]
          · rcases List.mem_cons.mp hy with rfl | hy
            · refine ⟨ht, ?_, fun z => ?_⟩
              · show (ogr t og).1 < _
                unfold ogr; split
                · exact ho
                · decide
              · show ogr t og = (0, false)
                have z : isRf t = false := z
                unfold ogr; rw [z]; rfl
            · exact s5 y hy
        refine k_X25_push_64 o (fun c => ?_) (fun c => ?_)
        · rw [nI_add] at c ⊢
          rw [hh2]
          have c := (nI_leI (by omega) (by omega)).mp c
          refine k_X25_push_89 o ?_
          refine kk h2 f2 ?_
          unfold fPt pt
          rw [eb_k, decide_eq_true (show s.length < 64 by omega)]
          exact key c
        · rw [nI_add] at c ⊢
          rw [hh2]
          have c : ¬ s.length + 1 ≤ 64 := fun z => c ((nI_leI (by omega) (by omega)).mpr z)
          refine k_X25_push_84 o ?_
          have key2 : TGd h2 O m lt (p, s, l) → True := fun _ => trivial
          refine st_X25_fail fun X' o' hG' hD' _ => ?_
          refine k_X25_fail_0 o' (fun c => absurd rfl c) (fun _ => ?_)
          refine k_X25_fail_7 o' ?_
          refine k_X25_fail_12 o' ?_
          refine k_X25_push_89 o ?_
          refine kk _ (f2.trans ((Fq.refl h2).sI rfl)) ?_
          unfold fPt pt
          rw [eb_k, decide_eq_false (show ¬ s.length < 64 by omega)]
          refine show TBd _ O 2 from ⟨?_, by decide, s.length + 1, by omega, ?_⟩
          · simp [n_sI, z_sI, tag_sI, I_sI, J_sI, R_sI, EI_sI, EJ_sI, ER_sI, n_sJ, z_sJ, tag_sJ, I_sJ, J_sJ, R_sJ, EI_sJ, EJ_sJ, ER_sJ, n_sR, z_sR, tag_sR, I_sR, J_sR, R_sR, EI_sR, EJ_sR, ER_sR, n_sEI, z_sEI, tag_sEI, I_sEI, J_sEI, R_sEI, EI_sEI, EJ_sEI, ER_sEI, n_sEJ, z_sEJ, tag_sEJ, I_sEJ, J_sEJ, R_sEJ, EI_sEJ, EJ_sEJ, ER_sEJ, n_sER, z_sER, tag_sER, I_sER, J_sER, R_sER, EI_sER, EJ_sER, ER_sER, n_nw, z_nw, tag_nw, I_nw, J_nw, R_nw, EI_nw, EJ_nw, ER_nw]
          · simp [n_sI, z_sI, tag_sI, I_sI, J_sI, R_sI, EI_sI, EJ_sI, ER_sI, n_sJ, z_sJ, tag_sJ, I_sJ, J_sJ, R_sJ, EI_sJ, EJ_sJ, ER_sJ, n_sR, z_sR, tag_sR, I_sR, J_sR, R_sR, EI_sR, EJ_sR, ER_sR, n_sEI, z_sEI, tag_sEI, I_sEI, J_sEI, R_sEI, EI_sEI, EJ_sEI, ER_sEI, n_sEJ, z_sEJ, tag_sEJ, I_sEJ, J_sEJ, R_sEJ, EI_sEJ, EJ_sEJ, ER_sEJ, n_sER, z_sER, tag_sER, I_sER, J_sER, R_sER, EI_sER, EJ_sER, ER_sER, n_nw, z_nw, tag_nw, I_nw, J_nw, R_nw, EI_nw, EJ_nw, ER_nw, e2]
      cases hrf : isRf t with
      | false =>
        refine k_X25_push_51 o (fun _ => ?_) (fun c => absurd rfl c)
        refine k_X25_push_63 o ?_
        exact go2 _ (by unfold ogr; rw [hrf]; rfl)
      | true =>
        refine k_X25_push_51 o (fun c => absurd (show bI true = 0 from c) (by decide)) (fun _ => ?_)
        have eo : (ogr t og).2 = og.2 := by unfold ogr; rw [hrf]; rfl
        refine k_X25_push_54 o (fun c => ?_) (fun c => ?_)
        · refine k_X25_push_63 o ?_
          exact go2 _ (by rw [eo, bI_0.mp c]; rfl)
        · refine k_X25_push_59 o ?_
          refine go2 _ ?_
          rw [eo]
          rcases bI_or og.2 with z | z
          · exact absurd z c
          · exact z.symm
    cases hrf : isRf t with
    | false =>
      refine k_X25_push_30 o (fun _ => ?_) (fun c => absurd rfl c)
      refine k_X25_push_37 o ?_
      exact go _ (by unfold ogr; rw [hrf]; rfl)
    | true =>
      refine k_X25_push_30 o (fun c => absurd (show bI true = 0 from c) (by decide)) (fun _ => ?_)
      refine k_X25_push_33 o ?_
      exact go _ (by unfold ogr; rw [hrf]; rfl)
theorem lgive_ok {G : Gt} {d : Nat} {h : AH} {K : Outcome → AH → Prop} {O : Nat} {m : Md} {lt : List Ty} {e : Except Nat Ts} {t : Ty} {v1 : Int64} (hs : SLk h O) (hr : TRs h O m lt e) (hv : ∀ x, e = .ok x → v1 = lN (tyc t) ∧ tOK m t) (hd : 3 ≤ d) (kk : ∀ h', Fq (FS psG) h h' → TRs h' O m lt (eb e (fPt t (0, false))) → K (.returned none) h') : MW G d e_X25_give [.ref O, .long v1] h K := by
  refine st_X25_give fun X o hG hD _ => ?_
  subst hG; subst hD
  have s0 := hs.1
  refine k_X25_give_0 o ?_
  refine lpush_ok (og := (0, false)) hs hr (fun x hx => ⟨(hv x hx).1, rfl, rfl, (hv x hx).2, by decide⟩) (by omega) fun h' f' r' => ?_
  refine k_X25_give_7 o ?_
  exact kk h' f' r'
/-- what was taken is a type that values have -/
theorem fTk_ok {h : AH} {O : Nat} {m : Md} {lt : List Ty} {e : Except Nat Ts} (hr : TRs h O m lt e) {x : Ts} (hx : eb e fTk = .ok x) : ∃ y, x.1 = some y ∧ tOK m y.1 ∧ y.2.1 < 9223372036854775808 ∧ (isRf y.1 = false → y.2 = (0, false)) ∧ ∃ z, e = .ok z ∧ z.2.1 = y :: x.2.1 ∧ z.2.2 = x.2.2 := by
  obtain ⟨z, rfl, h2⟩ := eb_ok hx
  obtain ⟨r, h3, h4⟩ := eb_ok h2
  obtain ⟨p, s, l⟩ := z
  cases s with
  | nil => cases h3
  | cons y s =>
    cases h3; cases h4
    obtain ⟨t1, t2, t3⟩ := (hr : TGd h O m lt (p, y :: s, l)).2.1.2.2.2 y (by simp)
    exact ⟨y, rfl, t1, t2, t3, _, rfl, rfl, rfl⟩
theorem ltakT_ok {G : Gt} {d : Nat} {h : AH} {K : Outcome → AH → Prop} {O : Nat} {m : Md} {lt : List Ty} {e : Except Nat Ts} {t : Ty} {v : Int64} (hs : SLk h O) (hr : TRs h O m lt e) (hv : ∀ x, e = .ok x → v = lN (tyc t) ∧ TV t) (hd : 2 ≤ d) (kk : ∀ h', Fq (FS tkG) h h' → TRs h' O m lt (eb e (fTT t)) → K (.returned none) h') : MW G d e_X25_take_2 [.ref O, .long v] h K := by
  refine st_X25_take_2 fun X o hG hD _ => ?_
  subst hG; subst hD
  have s0 := hs.1
  refine k_X25_take_2_0 o ?_
  refine ltake_ok hs hr (by omega) fun h1 f1 r1 => ?_
  have s1 : SLk h1 O := hs.fr f1.1 (FS.no rfl)
  have u0 := s1.1
  have eT : ∀ x, eb e fTk = .ok x → ∀ y, x.1 = some y → eb e (fTT t) = eb (nee (y.1 == t) 3) fun _ => .ok x := fun x hx y hy => by
    obtain ⟨y', e1, -, -, -, z, rfl, e2, e3⟩ := fTk_ok hr hx
    rw [hy] at e1; cases e1
    obtain ⟨p, s, l⟩ := z
    obtain ⟨xp, xs, xl⟩ := x
    simp only at e2 e3 hy
    subst e2; subst e3; subst hy
    unfold fTT tkT
    rw [eb_k]
    simp only [tk, eb_k]
    cases y.1 == t <;> rfl
  cases he : eb e fTk with
  | error w =>
    rw [he] at r1
    obtain ⟨z1, z2, -⟩ := id (r1 : TBd h1 O w)
    have ee : eb e (fTT t) = .error w := by
      cases e with
      | error v => exact he
      | ok x =>
        obtain ⟨p, s, l⟩ := x
        cases s with
        | nil => cases he; rfl
        | cons y s => cases he
    refine k_X25_take_2_4 o (fun _ => ?_) (fun c => absurd c (nI_nz z2))
    refine k_X25_take_2_20 o ?_
    exact kk h1 f1 (by rw [ee]; exact r1)
  | ok x =>
    rw [he] at r1
    obtain ⟨y, e1, e2, e3, e4, z, e5, -⟩ := fTk_ok hr he
    have ee := eT x he y e1
    obtain ⟨rfl, hT⟩ := hv z e5
    have g1 := id (r1 : TGd h1 O m lt x)
    have y1 := g1.1
    have y2 : h1.J 3091 O = lN (tyc y.1) := by have := g1.2.2.2; rw [e1] at this; exact this.1
    refine k_X25_take_2_4 o (fun c => absurd rfl c) (fun _ => ?_)
    refine k_X25_take_2_11 o (fun c => ?_) (fun c => ?_)
    · have : (y.1 == t) = false := by
        have : ¬ y.1 = t := fun z => c ((lN_ty e2 hT).mpr z)
        simpa using this
      rw [this] at ee
      refine k_X25_take_2_21 o ?_
      refine lfail_ok u0 r1 (by decide) fun h2 f2 r2 => ?_
      refine k_X25_take_2_26 o ?_
      exact kk h2 (f1.trans (f2.mono (FS.mono rfl))) (by rw [ee]; exact r2)
    · have : (y.1 == t) = true := by simpa using (lN_ty e2 hT).mp c
      rw [this] at ee
      refine k_X25_take_2_20 o ?_
      exact kk h1 f1 (by rw [ee]; exact r1)
