/-! the twin's machine: packing, unpacking, new vectors -/
section
variable {G : Gt} {d : Nat} {h h' : AH} {o o' : Lc} {tx UX at' : Nat → Nat} {A n n' lim : Nat} {snd : Int64} {s : Ms} {K : Outcome → AH → Prop}
theorem T5.gth {h1 : AH} {o1 : Lc} {kd p0 i j : Nat} {x : Int64 × Int64} {ys : List LV} {y : Option LV} (g : GTH h h1 o o1 tx n kd x p0 ys i) : T5 (uO (uO o1 (5, 0, 0, 0) none) (1, 0, 0, j) y) := fun a b c => by
  rw [uO_n (by intro e; cases e)]
  by_cases e : ((5, a, b, c) : Sl) = (5, 0, 0, 0)
  · rw [e, uO_s]
  · rw [uO_n e]; exact g.2.2.2.2.2 a b c e
/-- the start -/
theorem gth_0 {h1 : AH} {kd p0 : Nat} {x : Int64 × Int64} {ys : List LV} (t5 : T5 o) (q : Fq (FS tFl) h h1) (th : TH h1 (tx 0) (n + 1) (uO o (5, 0, 0, 0) (some (n, kd, x, .leaf)))) : GTH h h1 o (uO o (5, 0, 0, 0) (some (n, kd, x, .leaf))) tx n kd x p0 ys 0 := by
  refine ⟨q, th, by rw [uO_s]; rfl, fun j hj => absurd hj (by omega), fun p p5 _ => uO_n (fun e => p5 (by rw [e])), fun a b c e => ?_⟩
  rw [uO_n e]; exact t5 a b c
theorem tpack_ok {kx : Nat} {m : Md} {z : Sx} (k : TK h A tx UX at' o n s) (t5 : T5 o) (cx : TCX h A snd lim) (un' : UNC h A m) (h1 : 1 ≤ s.1) (hN : n + 1 ≤ gas s + 64 * (ens s).length + 8) (hg : gas s ≤ lim) (hz : m.2.1[kx]? = some z) (hk : m.1 < 65536 ∧ kx < 256) (hroom : ∀ k vs, tkV (fdl m kx).length (stk s) = some (vs, k) → k.length < 64) (hne : oPck m kx s ≠ none) (hd : 10 ≤ d) (kk : RZT K h A tx UX at' (oPck m kx s)) : MW G d e_X23_pack [.ref A, .int (nI kx)] h K := by
  refine st_X23_pack fun X oo hG hD _ => ?_
  subst hG; subst hD
  have t0 := k.t0
  have l2 := cx.2.2
  have le24 := k.2.2.1.2.1
  obtain ⟨U, nb, B, u1, u2, u3, u4⟩ := un'
  have tU : h.tag U = some (28, 0) := u2.1.1
  unfold oPck at kk hne
  cases hv : tkV (fdl m kx).length (stk s) with
  | none => rw [hv] at hne; exact absurd rfl hne
  | some p =>
    obtain ⟨l, t⟩ := p
    rw [hv] at kk
    simp only at kk
    have hr := hroom t l hv
    obtain ⟨es, el⟩ := tkV_e hv
    have ef : (fdl m kx).length = z.2.2.length := by unfold fdl; rw [hz]; simp
    obtain ⟨e1, e2, e3, e4⟩ := k.hgt h1
    rw [es] at e1 e3 e4
    rw [List.length_append, List.length_map] at e1 e3
    obtain ⟨ys, y1, y2⟩ := e4.gat
    have yl : ys.length = l.length := by
      have := congrArg List.length y1
      rw [List.length_map, List.length_reverse] at this; exact this
    obtain ⟨⟨k1, k2⟩, ⟨k3, k4, k5, k6, k7⟩, ⟨k8, k8', k8''⟩, k9, k10, k11, k12, k13⟩ := id k
    obtain ⟨r5, r6⟩ := k1.at 4 rfl
    obtain ⟨r1, r2⟩ := k1.at 0 rfl
    obtain ⟨⟨b1, -⟩, -⟩ := k9 (s.1 - 1) (by omega)
    have is : nI s.1 - nI 1 = nI (s.1 - 1) := nI_sub (by omega)
    have ix1 : IX (nI s.1 - nI 1) 32 (s.1 - 1) := by rw [is]; exact IX.mk (by omega) (by omega)
    have ed : nI (bsf s.2.1 s.1) - nI (bsf s.2.1 (s.1 - 1)) = nI (l.length + t.length) := by
      rw [nI_sub (by omega)]; congr 1; omega
    refine k_X23_pack_0 (r2 := u1) oo ?_
    refine ufo_ok u2 u3 hz (by omega) ?_
    refine k_X23_pack_8 (r2 := k6) (r4 := r5) (r6 := k5) (b10 := ix1) (r12 := b1) oo (fun _ => ?_) (fun q => absurd (by rw [ed]; exact (nI_leI (by omega) (by omega)).mpr (by omega)) q)
    refine k_X23_pack_33 oo ?_
    refine goes_ok t0 k3 ?_
    refine k_X23_pack_37 oo (fun _ => ?_) (fun q => absurd q (by decide))
    have rT := k1.1.2
    have tT := k2.1.1.1.1
    refine k_X23_pack_41 (r2 := rT) (r4 := u1) oo ?_
    have kl : kx < m.2.1.length := get_lt hz
    refine uidn_ok u2 u3 u4 (by unfold nst; omega) (by omega) ?_
    have esid : sid m kx = 256 * m.1 + kx := by unfold sid; rw [if_pos kl]
    rw [esid]
    refine k_X23_pack_56 oo ?_
    rw [nI_64 (by omega)]
    have etn : tn 6 (lN m.1, lN kx) = (0, lN (256 * m.1 + kx)) := by
      unfold tn
      rw [if_pos rfl, un_l (by omega), un_l (by omega)]
    have mk := thmake_ok (G := X.G) (d := X.d - 1) (K := kin (V X K 60) K [.ref A, .int (nI kx), .int (nI z.2.2.length), nov, nov] []) (p := (5, 0, 0, 0)) (kd := 6) (x := (lN m.1, lN kx)) k2 (t5 0 0 0) (by omega) (by omega) (fun h2 q2 th2 => ?_)
    · rw [etn] at mk; exact mk
    have p0 : bsf s.2.1 s.1 - z.2.2.length = bsf s.2.1 (s.1 - 1) + t.length := by omega
    have sub : nI (bsf s.2.1 s.1) - nI z.2.2.length = nI (bsf s.2.1 (s.1 - 1) + t.length) := by
      rw [nI_sub (by omega), p0]
    have h60 : h2.I 2861 A = nI (bsf s.2.1 s.1) := by rw [q2.1.I (FS.n rfl)]; exact k6
    have t02 := q2.1.tag t0
    refine k_X23_pack_60 (r2 := h60) oo ?_
    rw [sub]
    have loop : ∀ c i h3 o3, i + c = ys.length → GTH h h3 o o3 tx n 6 (lN m.1, lN kx) (bsf s.2.1 (s.1 - 1) + t.length) ys i → V X K 69 [.ref A, .int (nI kx), .int (nI z.2.2.length), .int (nI n), .int (nI (bsf s.2.1 (s.1 - 1) + t.length + i))] [] h3 := by
      intro c
      induction c with
      | zero =>
        intro i h3 o3 hi g
        have t03 := g.1.1.tag t0
        have hh : h3.I 2861 A = nI (bsf s.2.1 s.1) := by rw [g.1.1.I (FS.n rfl)]; exact k6
        refine k_X23_pack_69 (r2 := hh) oo (fun _ => ?_) (fun q => absurd ((nI_leI (by omega) (by omega)).mpr (by omega)) q)
        refine k_X23_pack_99 (r2 := hh) oo ?_
        rw [sub]
        have hi : i = ys.length := by omega
        subst hi
        obtain ⟨k4', g4, g5⟩ := gth_end k h1 es y1 g (h2 := h3.sI 2861 A (nI (bsf s.2.1 (s.1 - 1) + t.length))) (Fq.sI (Fq.refl h3) (fsr rfl)) (by simp [n_sI, z_sI, tag_sI, I_sI, J_sI, R_sI, EI_sI, EJ_sI, ER_sI, n_sJ, z_sJ, tag_sJ, I_sJ, J_sJ, R_sJ, EI_sJ, EJ_sJ, ER_sJ, n_sR, z_sR, tag_sR, I_sR, J_sR, R_sR, EI_sR, EJ_sR, ER_sR, n_sEI, z_sEI, tag_sEI, I_sEI, J_sEI, R_sEI, EI_sEI, EJ_sEI, ER_sEI, n_sEJ, z_sEJ, tag_sEJ, I_sEJ, J_sEJ, R_sEJ, EI_sEJ, EJ_sEJ, ER_sEJ, n_sER, z_sER, tag_sER, I_sER, J_sER, R_sER, EI_sER, EJ_sER, ER_sER, n_nw, z_nw, tag_nw, I_nw, J_nw, R_nw, EI_nw, EJ_nw, ER_nw])
        refine tkpv_ok (y := (n, 6, (lN m.1, lN kx), lof ys)) (sl := 0) k4' h1 (by rw [stk_K]; exact hr) g4 (by omega) (fun h5 q5 k5 => ?_)
        refine k_X23_pack_115 oo ?_
        rw [g5, mpu_K] at k5
        refine kk h5 _ _ ((twq g.1 (by decide)).trans ((Fq.sI (Fq.refl h3) (fsr (by decide))).trans (twq q5 (by decide)))) k5 (T5.gth g) hN
      | succ c ih =>
        intro i h3 o3 hi g
        have t03 := g.1.1.tag t0
        have hh : h3.I 2861 A = nI (bsf s.2.1 s.1) := by rw [g.1.1.I (FS.n rfl)]; exact k6
        have rT3 : h3.R 2831 A = some (tx 0) := by rw [g.1.1.R (FS.n rfl)]; exact rT
        have rS3 : h3.R 2859 A = some (tx 1) := by rw [g.1.1.R (FS.n rfl)]; exact r1
        have tS3 := g.1.1.tag r2
        have tT3 := g.1.1.tag tT
        obtain ⟨y, hy⟩ : ∃ y, ys[i]? = some y := ⟨_, List.getElem?_eq_getElem (by omega)⟩
        obtain ⟨o1, o2⟩ := y2 i y hy
        have ix : IX (nI (bsf s.2.1 (s.1 - 1) + t.length + i)) 2200 (bsf s.2.1 (s.1 - 1) + t.length + i) := IX.mk (by omega) (by omega)
        have rr : h3.EI 1216 (tx 1) (bsf s.2.1 (s.1 - 1) + t.length + i) = nI y.1 := by rw [g.1.1.EI (FS.n (by decide))]; exact o2
        refine k_X23_pack_69 (r2 := hh) oo (fun q => absurd ((nI_leI (by omega) (by omega)).mp q) (by omega)) (fun _ => ?_)
        refine k_X23_pack_78 (r2 := rT3) (r4 := rS3) (r10 := rr) oo ?_
        refine gth_ok g hy o1 (fun h4 o4 g4 => ?_)
        refine k_X23_pack_93 oo ?_
        rw [nI_add]
        exact ih (i + 1) h4 o4 (by omega) g4
    exact loop ys.length 0 h2 _ (by omega) (gth_0 t5 q2 th2)
theorem TF.fs {l : List Nat} {T : Nat} (q : Fq (FS l) h h') (hl : tFl.all (fun f => !(l.contains f)) = true) : ∀ {g : LF} {p : Int32}, TF h T g p → TF h' T g p := fun {g} => by
  have n2 : ∀ f a, tFl.contains f = true → ¬ FS l f a := FS.no hl
  induction g with
  | leaf => exact fun r => r
  | inner k x u c r ihc ihr =>
    intro p hr
    obtain ⟨e1, e2, e3, e4, e5, e6⟩ := hr
    exact ⟨e1, by rw [q.1.EI (n2 _ _ rfl)]; exact e2, by rw [q.1.EJ (n2 _ _ rfl)]; exact e3, by rw [q.1.EJ (n2 _ _ rfl)]; exact e4, by rw [q.1.EI (n2 _ _ rfl)]; exact ihc e5, by rw [q.1.EI (n2 _ _ rfl)]; exact ihr e6⟩
/-- a root is left, its parts are owned one by one -/
theorem TH.own {T a : Nat} {p : Sl} {y : LV} (v : TH h T n o) (q : TU T (fun j => j = a) h h') (hz : h'.I 2949 T = h.I 2949 T) (hp : o p = none) (ha : ∀ u c, o u = some c → a ∉ adr c) (hy : ∀ u c, o u = some c → ∀ b ∈ adr y, b ∉ adr c) (nd : (adr y).Nodup) (tv : TVL h' T y) (lt : ∀ b ∈ adr y, b < n) (kb : y.2.1 < 128 ∧ fbk y.2.2.2) : TH h' T n (uO o p (some y)) := by
  obtain ⟨⟨v1, v2, v3⟩, v4, v5⟩ := v
  refine ⟨⟨v1.fs q.1.1 rfl, by rw [hz]; exact v2, v3⟩, v4.put nd (fun u c hu hc b hb => hy u c hc b hb), fun u c hc => ?_⟩
  by_cases e : u = p
  · rw [e, uO_s] at hc; cases hc
    exact ⟨tv, lt, kb⟩
  · rw [uO_n e] at hc
    obtain ⟨c1, c2, c3⟩ := v5 u c hc
    exact ⟨c1.tu q (fun b hb z => ha u c hc (by rw [← show b = a from z]; exact hb)), c2, c3⟩
theorem tunp_ok {kx : Nat} {m : Md} {z : Sx} (k : TK h A tx UX at' o n s) (t5 : T5 o) (cx : TCX h A snd lim) (un' : UNC h A m) (h1 : 1 ≤ s.1) (hN : n + 1 ≤ gas s + 64 * (ens s).length + 8) (hg : gas s ≤ lim) (hz : m.2.1[kx]? = some z) (hk : m.1 < 65536 ∧ kx < 256) (vw : ∀ v k, stk s = .inl v :: k → VW v ∧ (flo v.2.2).length + k.length ≤ 64) (hne : oUnp m kx s ≠ none) (hd : 10 ≤ d) (kk : RZT K h A tx UX at' (oUnp m kx s)) : MW G d e_X23_unpack [.ref A, .int (nI kx)] h K := by
  refine st_X23_unpack fun X oo hG hD _ => ?_
  subst hG; subst hD
  have t0 := k.t0
  have l2 := cx.2.2
  have le24 := k.2.2.1.2.1
  unfold oUnp at kk hne
  cases hs : stk s with
  | nil => rw [hs] at hne; exact absurd rfl hne
  | cons x t =>
    rw [hs] at kk hne
    cases x with
    | inr r => exact absurd rfl hne
    | inl v =>
      simp only at kk hne
      obtain ⟨hm, he⟩ := mre_n hne
      rw [he] at kk
      simp only [Bool.and_eq_true, beq_iff_eq] at hm
      obtain ⟨m1, m2, m3⟩ := hm
      obtain ⟨vwv, rm⟩ := vw v t hs
      refine k_X23_unpack_0 oo ?_
      have tk := tktk_ok (G := X.G) (d := X.d - 1) (sl := 0) (K := kin (V X K 6) K [.ref A, .int (nI kx), nov, nov, nov] []) k h1 hs (t5 0 0 0) (by omega) (by omega) (fun h2 y q2 hy k2 => ?_)
      · rw [m1] at tk; exact tk
      have t02 := k2.t0
      obtain ⟨ix, r1, r2, r3, tv, yl⟩ := k2.rd (p := (5, 0, 0, 0)) uO_s
      have ey1 : y.2.1 = v.1 := by rw [← hy]; rfl
      have ey2 : y.2.2.1 = v.2.1 := by rw [← hy]; rfl
      have ey3 : fer y.2.2.2 = v.2.2 := by rw [← hy]; rfl
      have etn : (tn y.2.1 y.2.2.1).2 = lN (256 * m.1 + kx) := by
        rw [ey1, ey2, m1]
        unfold tn
        rw [if_pos rfl]
        show lN (256 * un v.2.1.1 + un v.2.1.2) = _
        rw [m2, m3, un_l (by omega), un_l (by omega)]
      rw [etn] at r3
      have rT := k2.1.1.1.2
      obtain ⟨⟨s1, s2, s3, s4, s5, s6⟩, s7, s8, s9, s10, s11⟩ := id k2.1.2.1.1
      obtain ⟨U, nb, B, u1, u2, u3, u4⟩ := un'.fs q2 (by decide)
      have tU : h2.tag U = some (28, 0) := u2.1.1
      refine k_X23_unpack_6 oo ?_
      refine goes_ok t02 k2.2.1.1 ?_
      refine k_X23_unpack_11 oo (fun q => absurd q (by decide)) (fun _ => ?_)
      refine k_X23_unpack_14 (r2 := rT) (r5 := s4) (r11 := r3) (r13 := u1) oo ?_
      have kl : kx < m.2.1.length := get_lt hz
      refine uidn_ok u2 u3 u4 (by unfold nst; omega) (by omega) ?_
      have esid : sid m kx = 256 * m.1 + kx := by unfold sid; rw [if_pos kl]
      rw [esid]
      refine k_X23_unpack_31 oo (fun _ => ?_) (fun q => absurd (by rw [nI_64 (by omega)]) q)
      refine k_X23_unpack_40 oo ?_
      refine goes_ok t02 k2.2.1.1 ?_
      refine k_X23_unpack_44 oo (fun _ => ?_) (fun q => absurd q (by decide))
      obtain ⟨-, -, -, -, tvf⟩ := id tv
      refine k_X23_unpack_48 (r2 := rT) (r5 := s5) (r11 := rfl) oo ?_
      -- what is owned beside the root
      have dj := k2.1.2.2.1
      obtain ⟨-, ad, kb⟩ := k2.1.2.2.2 (5, 0, 0, 0) y uO_s
      have k2c := k2.cl
      have cdj : ∀ u c, clr (uO (uO o (1, 0, 0, bsf s.2.1 (s.1 - 1) + t.length) none) (5, 0, 0, 0) (some y)) u = some c → ∀ b ∈ fad y.2.2.2, b ∉ adr c := fun u c hc b hb hb2 => by
        unfold clr at hc
        by_cases e : u.1 = 5
        · rw [if_pos e] at hc; cases hc
        · rw [if_neg e] at hc
          exact dj.2 u (5, 0, 0, 0) c y (fun z => e (by rw [z])) hc uO_s b hb2 (adr_2 hb)
      have ndy : (fad y.2.2.2).Nodup := (List.nodup_cons.mp (show (y.1 :: fad y.2.2.2).Nodup from dj.1 _ y uO_s)).2
      have loop : ∀ (c : LF) (p : Int32) h3 o3 (w : List It) (v4 : Value), TF h3 (tx 0) (tnF c) p → TK h3 A tx UX at' o3 n (sK s w) → T5 o3 → Fq (FS twF) h h3 → (fad c).Nodup → (∀ u x, o3 u = some x → ∀ b ∈ fad c, b ∉ adr x) → (∀ b ∈ fad c, b < n) → fbk c → (flo (fer c)).reverse.map .inl ++ w = (flo v.2.2).reverse.map .inl ++ t → V X K 58 [.ref A, .int (nI kx), .int (nI y.1), .int p, v4] [] h3 := by
        intro c
        induction c with
        | leaf =>
          intro p h3 o3 w v4 tf k3 t53 q3 _ _ _ _ ew
          have hp : p = -1 := tf
          refine k_X23_unpack_58 oo (fun _ => ?_) (fun q => absurd hp q)
          refine k_X23_unpack_96 oo ?_
          have ew : w = (flo v.2.2).reverse.map .inl ++ t := ew
          rw [← ew] at kk
          exact kk h3 o3 n q3 k3 t53 (show n ≤ gas s + 64 * (ens s).length + 8 by omega)
        | inner kd x u c r ihc ihr =>
          intro p h3 o3 w v4 tf k3 t53 q3 nd dis lt fb ew
          obtain ⟨⟨p1, p2⟩, p3, p4, p5, p6, p7⟩ := id tf
          have p1 : p = nI x.1 := p1
          have p2 : x.1 < 24576 := p2
          subst p1
          have t03 := k3.t0
          have rT3 := k3.1.1.1.2
          obtain ⟨⟨z1, z2, z3, z4, z5, z6⟩, z7, z8, z9, z10, z11⟩ := id k3.1.2.1.1
          have ixp : IX (nI x.1) 24576 x.1 := IX.mk p2 (by omega)
          refine k_X23_unpack_58 oo (fun q => absurd q (nI_m1 p2)) (fun _ => ?_)
          have nd' : (x.1 :: (fad c ++ fad r)).Nodup := nd
          rw [List.nodup_cons, List.nodup_append] at nd'
          obtain ⟨n1, n2, n3, n4⟩ := nd'
          have tu : TU (tx 0) (fun j => j = x.1) h3 (h3.sEI 1696 (tx 0 + 5) x.1 (-1)) := (TU.refl h3).nx rfl
          have hin : ∀ b, b ∈ adr ((x.1, kd, x.2, c) : LV) → b ∈ fad (.inner kd x u c r : LF) := fun b hb => by
            rcases List.mem_cons.mp (show b ∈ x.1 :: fad c from hb) with e | e
            · rw [e]; exact List.mem_cons_self ..
            · exact List.mem_cons_of_mem _ (List.mem_append_left _ e)
          have tvy : TVL (h3.sEI 1696 (tx 0 + 5) x.1 (-1)) (tx 0) (x.1, kd, x.2, c) := by
            refine ⟨p2, ?_, ?_, ?_, ?_⟩
            · rw [← p3]; simp [n_sI, z_sI, tag_sI, I_sI, J_sI, R_sI, EI_sI, EJ_sI, ER_sI, n_sJ, z_sJ, tag_sJ, I_sJ, J_sJ, R_sJ, EI_sJ, EJ_sJ, ER_sJ, n_sR, z_sR, tag_sR, I_sR, J_sR, R_sR, EI_sR, EJ_sR, ER_sR, n_sEI, z_sEI, tag_sEI, I_sEI, J_sEI, R_sEI, EI_sEI, EJ_sEI, ER_sEI, n_sEJ, z_sEJ, tag_sEJ, I_sEJ, J_sEJ, R_sEJ, EI_sEJ, EJ_sEJ, ER_sEJ, n_sER, z_sER, tag_sER, I_sER, J_sER, R_sER, EI_sER, EJ_sER, ER_sER, n_nw, z_nw, tag_nw, I_nw, J_nw, R_nw, EI_nw, EJ_nw, ER_nw]
            · rw [← p4]; simp [n_sI, z_sI, tag_sI, I_sI, J_sI, R_sI, EI_sI, EJ_sI, ER_sI, n_sJ, z_sJ, tag_sJ, I_sJ, J_sJ, R_sJ, EI_sJ, EJ_sJ, ER_sJ, n_sR, z_sR, tag_sR, I_sR, J_sR, R_sR, EI_sR, EJ_sR, ER_sR, n_sEI, z_sEI, tag_sEI, I_sEI, J_sEI, R_sEI, EI_sEI, EJ_sEI, ER_sEI, n_sEJ, z_sEJ, tag_sEJ, I_sEJ, J_sEJ, R_sEJ, EI_sEJ, EJ_sEJ, ER_sEJ, n_sER, z_sER, tag_sER, I_sER, J_sER, R_sER, EI_sER, EJ_sER, ER_sER, n_nw, z_nw, tag_nw, I_nw, J_nw, R_nw, EI_nw, EJ_nw, ER_nw]
            · rw [← p5]; simp [n_sI, z_sI, tag_sI, I_sI, J_sI, R_sI, EI_sI, EJ_sI, ER_sI, n_sJ, z_sJ, tag_sJ, I_sJ, J_sJ, R_sJ, EI_sJ, EJ_sJ, ER_sJ, n_sR, z_sR, tag_sR, I_sR, J_sR, R_sR, EI_sR, EJ_sR, ER_sR, n_sEI, z_sEI, tag_sEI, I_sEI, J_sEI, R_sEI, EI_sEI, EJ_sEI, ER_sEI, n_sEJ, z_sEJ, tag_sEJ, I_sEJ, J_sEJ, R_sEJ, EI_sEJ, EJ_sEJ, ER_sEJ, n_sER, z_sER, tag_sER, I_sER, J_sER, R_sER, EI_sER, EJ_sER, ER_sER, n_nw, z_nw, tag_nw, I_nw, J_nw, R_nw, EI_nw, EJ_nw, ER_nw]
            · have ef : (h3.sEI 1696 (tx 0 + 5) x.1 (-1)).EI 1680 (tx 0 + 4) x.1 = h3.EI 1680 (tx 0 + 4) x.1 := by simp [n_sI, z_sI, tag_sI, I_sI, J_sI, R_sI, EI_sI, EJ_sI, ER_sI, n_sJ, z_sJ, tag_sJ, I_sJ, J_sJ, R_sJ, EI_sJ, EJ_sJ, ER_sJ, n_sR, z_sR, tag_sR, I_sR, J_sR, R_sR, EI_sR, EJ_sR, ER_sR, n_sEI, z_sEI, tag_sEI, I_sEI, J_sEI, R_sEI, EI_sEI, EJ_sEI, ER_sEI, n_sEJ, z_sEJ, tag_sEJ, I_sEJ, J_sEJ, R_sEJ, EI_sEJ, EJ_sEJ, ER_sEJ, n_sER, z_sER, tag_sER, I_sER, J_sER, R_sER, EI_sER, EJ_sER, ER_sER, n_nw, z_nw, tag_nw, I_nw, J_nw, R_nw, EI_nw, EJ_nw, ER_nw]
              show TF _ (tx 0) (tnF c) ((h3.sEI 1696 (tx 0 + 5) x.1 (-1)).EI 1680 (tx 0 + 4) x.1)
              rw [ef]
              exact TF.tu tu p6 (fun j hj z => n1 (List.mem_append_left _ (by rw [fad_tn] at hj; rw [← show j = x.1 from z]; exact hj)))
          have th4 := TH.own (p := (5, 0, 0, 0)) (y := (x.1, kd, x.2, c)) k3.1.2 tu rfl (t53 0 0 0) (fun u' c' hc => dis u' c' hc _ (hin _ (adr_1 _))) (fun u' c' hc b hb => dis u' c' hc b (hin b hb)) (by
            show (x.1 :: fad c).Nodup
            rw [List.nodup_cons]; exact ⟨fun z => n1 (List.mem_append_left _ z), n2⟩) tvy (fun b hb => lt b (hin b hb)) ⟨fb.1, fb.2.1⟩
          have k4 := k3.asd (o' := uO o3 (5, 0, 0, 0) (some (x.1, kd, x.2, c))) tu.1 th4 (fun p hp => uO_n (fun e => hp (by rw [e])))
          refine k_X23_unpack_63 (r2 := rT3) (r5 := z6) (r11 := rfl) (r13 := rT3) (r16 := z6) oo ?_
          have room : w.length < 64 := by
            have := congrArg List.length ew
            rw [List.length_append, List.length_append, List.length_map, List.length_map, List.length_reverse, List.length_reverse] at this
            have e2 : (flo (fer (.inner kd x u c r : LF))).length = (flo (fer r)).length + 1 := rfl
            omega
          refine tkpv_ok (y := (x.1, kd, x.2, c)) (sl := 0) k4 h1 (by rw [stk_K]; exact room) uO_s (by omega) (fun h5 q5 k5 => ?_)
          refine k_X23_unpack_90 oo ?_
          rw [mpu_K] at k5
          refine ihr _ h5 _ _ _ ?_ k5 ?_ (q3.trans ((twq tu.1 (by decide)).trans (twq q5 (by decide)))) n3 ?_ (fun b hb => lt b (List.mem_cons_of_mem _ (List.mem_append_right _ hb))) fb.2.2 ?_
          · have tr := TF.tu tu p7 (fun j hj z => n1 (List.mem_append_right _ (by rw [fad_tn] at hj; rw [← show j = x.1 from z]; exact hj)))
            exact TF.fs q5 (by decide) tr
          · exact T5.mk1 t53 (by show (1 : Nat) ≠ 5; decide)
          · intro u' c' hc b hb hb2
            have hbi : b ∈ fad (.inner kd x u c r : LF) := List.mem_cons_of_mem _ (List.mem_append_right _ hb)
            by_cases e : u' = (1, 0, 0, bsf (sK s w).2.1 (sK s w).1)
            · rw [e, uO_s] at hc
              cases hc
              rcases List.mem_cons.mp (show b ∈ x.1 :: fad c from hb2) with z | z
              · rw [z] at hb; exact n1 (List.mem_append_right _ hb)
              · exact n4 b z b hb rfl
            · rw [uO_n e] at hc
              by_cases e5 : u' = (5, 0, 0, 0)
              · rw [e5, uO_s] at hc; cases hc
              · rw [uO_n e5, uO_n e5] at hc
                exact dis u' c' hc b hbi hb2
          · rw [← ew]
            show (flo (fer r)).reverse.map Sum.inl ++ (.inl (kd, x.2, fer c) :: w) = ((kd, x.2, fer c) :: flo (fer r)).reverse.map Sum.inl ++ w
            rw [List.reverse_cons, List.map_append, List.append_assoc]; rfl
      exact loop y.2.2.2 _ h2 _ t _ tvf k2c T5.clr (twq q2 (by decide)) ndy cdj (fun b hb => ad b (adr_2 hb)) kb.2 (by rw [ey3])
end
