/-! the twin's machine: digests -/
section
variable {G : Gt} {d : Nat} {h h' : AH} {o o' : Lc} {tx UX at' : Nat → Nat} {A n n' lim : Nat} {snd : Int64} {s : Ms} {K : Outcome → AH → Prop}
theorem CT.fs {l : List Nat} (q : Fq (FS l) h h') (hl : l.contains 14099 = false) (c : CT G h) : CT G h' := c.fr q.1 (fun z => by have z : l.contains 14099 = true := z; rw [hl] at z; cases z)
theorem tdigest_ok (k : TK h A tx UX at' o n s) (t5 : T5 o) (cx : TCX h A snd lim) (cy : TCY h A) (ct : CT G h) (h1 : 1 ≤ s.1) (hN : n + 1 ≤ gas s + 64 * (ens s).length + 8) (hg : gas s ≤ lim) (vw : ∀ v t, stk s = .inl v :: t → VW v ∧ ∀ w ∈ flo v.2.2, w.1 = 2) (hne : oVec lim 59 0 s ≠ none) (hd : 10 ≤ d) (kk : RZT K h A tx UX at' (oVec lim 59 0 s)) : MW G d e_X23_digest [.ref A] h K := by
  refine st_X23_digest fun X oo hG hD _ => ?_
  subst hG; subst hD
  have t0 := k.t0
  have l2 := cx.2.2
  have le24 := k.2.2.1.2.1
  obtain ⟨-, -, e3, -⟩ := k.hgt h1
  unfold oVec at kk hne
  rw [if_neg (by omega), if_pos rfl] at kk hne
  cases hs : stk s with
  | nil => rw [hs] at hne; exact absurd rfl hne
  | cons x t =>
    rw [hs] at kk hne e3
    have e3 : t.length + 1 ≤ 64 := e3
    cases x with
    | inr r => exact absurd rfl hne
    | inl v =>
      simp only at kk hne
      obtain ⟨hm, he⟩ := mre_n hne
      rw [he] at kk
      have v7 : v.1 = 7 := by simpa using hm
      obtain ⟨vwv, vb⟩ := vw v t hs
      have f256 := vwv.1.2.2.1
      refine k_X23_digest_0 oo ?_
      have tk := tktk_ok (G := X.G) (d := X.d - 1) (sl := 0) (K := kin (V X K 6) K [.ref A, nov, nov, nov] []) k h1 hs (t5 0 0 0) (by omega) (by omega) (fun h2 y q2 hy k2 => ?_)
      · rw [v7] at tk; exact tk
      have t02 := k2.t0
      obtain ⟨ix, r1, r2, r3, tv, yl⟩ := k2.rd (p := (5, 0, 0, 0)) uO_s
      have ey3 : fer y.2.2.2 = v.2.2 := by rw [← hy]; rfl
      have efl : fln (tnF y.2.2.2) = fln v.2.2 := by rw [fln_tn, ← ey3, fer_ln]
      have rT := k2.1.1.1.2
      have sT := k2.1.2.1.1
      have tT := sT.1.1
      have cx2 := cx.fs q2 (by decide)
      refine k_X23_digest_6 oo ?_
      refine goes_ok t02 k2.2.1.1 ?_
      refine k_X23_digest_11 oo (fun q => absurd q (by decide)) (fun _ => ?_)
      refine k_X23_digest_14 (r2 := rT) oo ?_
      refine tcount_ok sT tv ?_
      refine k_X23_digest_25 oo ?_
      rw [efl, nI_add]
      unfold mpay at kk
      refine spend_ok t02 k2.2.1.1 k2.2.1.2.1 cx2.2.1 ⟨by show gas s + _ < _; omega, by omega⟩ (by omega) (fun hle h3 q3 g3 => ?_) (fun hlt h3 q3 x3 => ?_)
      · have hle : gas s + (32 + fln v.2.2) ≤ lim := hle
        rw [if_pos hle] at kk
        have k3 := k2.gas q3 g3
        have t03 := k3.t0
        obtain ⟨w, wa, wb, wr, D, -, rD, sD⟩ := (cy.fs q2 (by decide)).fs q3 (by decide)
        have tD := sD.1.1
        refine k_X23_digest_29 oo (fun _ => ?_) (fun q => absurd q (by decide))
        refine k_X23_digest_33 (r2 := rD) oo ?_
        refine tbegin_ok sD (fun h4 q4 m4 => ?_)
        have k4 : TK h4 A tx UX at' _ n _ := k3.fr q4.1 (FS.no (by decide))
        have t04 := k4.t0
        have rT4 := k4.1.1.1.2
        obtain ⟨⟨s1, s2, s3, s4, s5, s6⟩, s7, s8, s9, s10, s11⟩ := id k4.1.2.1.1
        obtain ⟨ix4, -, -, -, tv4, -⟩ := k4.rd (p := (5, 0, 0, 0)) uO_s
        have q04 : Fq (FS twF) h h4 := (twq q2 (by decide)).trans ((twq q3 (by decide)).trans (twq q4 (by decide)))
        refine k_X23_digest_40 (r2 := rT4) (r5 := s5) (r11 := rfl) oo ?_
        obtain ⟨-, -, -, -, tf4⟩ := tv4
        -- the message
        have loop : ∀ (c : LF) (p : Int32) h5 (bs : List Int32), TF h5 (tx 0) (tnF c) p → Fq (FS mdF) h4 h5 → MG h5 D bs → bs ++ (flo (fer c)).map (fun v => i8 v.2.1.2.toInt32) = (flo v.2.2).map (fun v => i8 v.2.1.2.toInt32) → (∀ w ∈ flo (fer c), w.1 = 2) → V X K 50 [.ref A, .int (nI y.1), .int p, nov] [] h5 := by
          intro c
          induction c with
          | leaf =>
            intro p h5 bs tf q5 m5 eb _
            have hp : p = -1 := tf
            have eb : bs = (flo v.2.2).map (fun v => i8 v.2.1.2.toInt32) := by rw [← eb]; exact (List.append_nil _).symm
            refine k_X23_digest_50 oo (fun _ => ?_) (fun q => absurd hp q)
            have rD5 : h5.R 2834 A = some D := by rw [q5.1.R (FS.n (by decide)), q4.1.R (FS.n (by decide))]; exact rD
            have tD5 := m5.1.1.1
            have t05 := q5.1.tag t04
            have bl : bs.length ≤ 4000 := by rw [eb, List.length_map, flo_len]; omega
            refine k_X23_digest_85 (r2 := rD5) oo ?_
            refine tend_ok m5 ((((ct.fs q2 (by decide)).fs q3 (by decide)).fs q4 (by decide)).fs q5 (by decide)) bl (by omega) (fun h6 q6 m6 w6 => ?_)
            have k6 : TK h6 A tx UX at' _ n _ := (k4.fr q5.1 (FS.no (by decide))).fr q6.1 (FS.no (by decide))
            have k6 := k6.cl
            have q06 : Fq (FS twF) h h6 := q04.trans ((twq q5 (by decide)).trans (twq q6 (by decide)))
            have t06 := k6.t0
            have rT6 := k6.1.1.1.2
            have tT6 := k6.1.2.1.1.1.1
            have rD6 : h6.R 2834 A = some D := by rw [q6.1.R (FS.n (by decide))]; exact rD5
            refine k_X23_digest_92 (r2 := rT6) oo ?_
            have mk7 := thmake_ok (G := X.G) (d := X.d - 1) (K := kin (V X K 103) K [.ref A, .int (nI y.1), .int p, nov] []) (p := (5, 0, 1, 0)) (kd := 7) (x := (0, 0)) k6.1.2 (T5.clr 0 1 0) (by omega) (by omega) (fun h7 q7 th7 => ?_)
            · exact mk7
            refine k_X23_digest_103 oo ?_
            -- its parts
            have lp2 : ∀ cc i h8 o8 (l : List LV), i + cc = 32 → Fq (FS tFl) h6 h8 → TH h8 (tx 0) (n + 1 + i) o8 → o8 (5, 0, 1, 0) = some (n, 7, (0, 0), lof l) → l.map lvE = (hby v.2.2).take i → (∀ a b c, ((5, a, b, c) : Sl) ≠ (5, 0, 1, 0) → o8 (5, a, b, c) = none) → (∀ p : Sl, p.1 ≠ 5 → o8 p = clr (uO (uO o (1, 0, 0, bsf s.2.1 (s.1 - 1) + t.length) none) (5, 0, 0, 0) (some y)) p) → V X K 106 [.ref A, .int (nI y.1), .int (nI n), .int (nI i)] [] h8 := by
              intro cc
              induction cc with
              | zero =>
                intro i h8 o8 l hi q8 th8 a1 a2 a3 a4
                have hi : i = 32 := by omega
                subst hi
                have k8 := k6.asd q8 th8 a4
                have t08 := k8.t0
                refine k_X23_digest_106 oo (fun _ => ?_) (fun q => absurd (by decide) q)
                refine k_X23_digest_144 oo ?_
                refine tkpv_ok (y := (n, 7, (0, 0), lof l)) (sl := 1) k8 h1 (by show (stk (sK s t)).length < 64; rw [stk_K]; omega) a1 (by omega) (fun h9 q9 k9 => ?_)
                refine k_X23_digest_150 oo ?_
                have ev : lvE (n, 7, (0, 0), lof l) = (7, (0, 0), fof (hby v.2.2)) := by
                  show (7, (0, 0), fer (lof l)) = _
                  rw [fer_lof, a2]
                  have : (hby v.2.2).length = 32 := by unfold hby; simp
                  rw [← this, List.take_length]
                have es : mpu (sG (sK s t) (gas (sK s t) + (32 + fln v.2.2))) (.inl (7, (0, 0), fof (hby v.2.2))) = sK (sG s (gas s + (32 + fln v.2.2))) (.inl (7, (0, 0), fof (hby v.2.2)) :: t) := by
                  show sG (mpu (sK s t) _) _ = _
                  rw [mpu_K]; rfl
                rw [ev, es] at k9
                refine kk h9 _ _ (q06.trans ((twq q8 (by decide)).trans (twq q9 (by decide)))) k9 (fun a b c => ?_) (show n + 1 + 32 ≤ (gas s + (32 + fln v.2.2)) + 64 * (ens s).length + 8 by omega)
                rw [uO_n (by intro e; cases e)]
                by_cases e : ((5, a, b, c) : Sl) = (5, 0, 1, 0)
                · rw [e, uO_s]
                · rw [uO_n e]; exact a3 a b c e
              | succ cc ih =>
                intro i h8 o8 l hi q8 th8 a1 a2 a3 a4
                have t08 := q8.1.tag t06
                have rT8 : h8.R 2831 A = some (tx 0) := by rw [q8.1.R (FS.n (by decide))]; exact rT6
                have rD8 : h8.R 2834 A = some D := by rw [q8.1.R (FS.n (by decide))]; exact rD6
                have sD8 : SMd h8 D := ⟨⟨q8.1.tag m6.1.1.1, by rw [q8.1.R (FS.n (by decide))]; exact m6.1.1.2.1, by rw [q8.1.R (FS.n (by decide))]; exact m6.1.1.2.2.1, by rw [q8.1.R (FS.n (by decide))]; exact m6.1.1.2.2.2⟩, q8.1.tag m6.1.2.1, q8.1.tag m6.1.2.2.1, q8.1.tag m6.1.2.2.2⟩
                have w8 : ∀ j, j < 8 → h8.EJ 1971 (D + 2) j = em (dig bs j) := fun j hj => by rw [q8.1.EJ (FS.n (by decide))]; exact w6 j hj
                have tD8 := sD8.1.1
                have tT8 := th8.1.1.1.1
                refine k_X23_digest_106 oo (fun q => absurd ((nI_leI (by omega) (by omega)).mp q) (by omega)) (fun _ => ?_)
                refine k_X23_digest_112 (r2 := rT8) (r4 := rT8) (r6 := rD8) oo ?_
                refine tbyte_ok sD8 w8 (by omega) ?_
                have blt : dby bs i < 256 := Nat.mod_lt _ (by omega)
                refine k_X23_digest_131 oo ?_
                rw [nI_64 (by omega)]
                have mk2 := thmake_ok (G := X.G) (d := X.d - 1) (K := kin (V X K 135) K [.ref A, .int (nI y.1), .int (nI n), .int (nI i)] [.int (nI n), .ref (tx 0)]) (p := (5, 0, 2, 0)) (kd := 2) (x := (0, lN (dby bs i))) th8 (a3 0 2 0 (by decide)) (by omega) (by omega) (fun h9 q9 th9 => ?_)
                · exact mk2
                have tT9 := th9.1.1.1.1
                refine k_X23_digest_135 oo ?_
                refine thadd_ok (p := (5, 0, 1, 0)) (r := (5, 0, 2, 0)) (pa := []) (x := (n, 7, (0, 0), lof l)) (y := (n, 7, (0, 0), lof l)) (w := (n + 1 + i, 2, (0, lN (dby bs i)), .leaf)) th9 (by rw [uO_n (by decide)]; exact a1) rfl uO_s (by decide) (fun hA qA thA => ?_)
                refine k_X23_digest_138 oo ?_
                rw [nI_add]
                refine ih (i + 1) hA _ (l ++ [(n + 1 + i, 2, (0, lN (dby bs i)), .leaf)]) (by omega) (q8.trans (q9.trans qA)) thA ?_ ?_ (fun a b c e => ?_) (fun p p5 => ?_)
                · rw [uO_s]
                  show some ((n, 7, (0, 0), lof (llo (lof l) ++ [(n + 1 + i, 2, (0, lN (dby bs i)), .leaf)])) : LV) = _
                  rw [llo_lof]
                · rw [List.map_append, a2, List.take_add_one]
                  congr 1
                  unfold hby
                  rw [List.getElem?_map, List.getElem?_range (by omega), ← eb]
                  rfl
                · rw [uO_n e]
                  by_cases e2 : ((5, a, b, c) : Sl) = (5, 0, 2, 0)
                  · rw [e2, uO_s]
                  · rw [uO_n e2, uO_n e2]; exact a3 a b c e
                · rw [uO_n (fun e => p5 (by rw [e])), uO_n (fun e => p5 (by rw [e])), uO_n (fun e => p5 (by rw [e]))]
                  exact a4 p p5
            refine lp2 32 0 h7 _ [] rfl q7 th7 uO_s rfl (fun a b c e => ?_) (fun p p5 => uO_n (fun e => p5 (by rw [e])))
            rw [uO_n e]; exact T5.clr a b c
          | inner kd x u c r ihc ihr =>
            intro p h5 bs tf q5 m5 eb hb2
            obtain ⟨⟨p1, p2⟩, p3, p4, p5, p6, p7⟩ := id tf
            have p1 : p = nI x.1 := p1
            have p2 : x.1 < 24576 := p2
            subst p1
            have t05 := q5.1.tag t04
            have k2' : kd = 2 := hb2 (kd, x.2, fer c) (List.mem_cons_self ..)
            have p5 : h5.EJ 1667 (tx 0 + 3) x.1 = x.2.2 := by
              have : h5.EJ 1667 (tx 0 + 3) x.1 = (tn kd x.2).2 := p5
              rw [this, tn_6 (by omega)]
            have rD5 : h5.R 2834 A = some D := by rw [q5.1.R (FS.n (by decide)), q4.1.R (FS.n (by decide))]; exact rD
            have tD5 := m5.1.1.1
            have rT5 : h5.R 2831 A = some (tx 0) := by rw [q5.1.R (FS.n (by decide))]; exact rT4
            have tT5 := q5.1.tag s1
            have rL5 : h5.R 2946 (tx 0) = some (tx 0 + 3) := by rw [q5.1.R (FS.n (by decide))]; exact s4
            have tL5 := q5.1.tag s9
            have ixp : IX (nI x.1) 24576 x.1 := IX.mk p2 (by omega)
            refine k_X23_digest_50 oo (fun q => absurd q (nI_m1 p2)) (fun _ => ?_)
            refine k_X23_digest_55 (r2 := rD5) (r4 := rT5) (r7 := rL5) (r13 := p5) oo ?_
            have bl : bs.length < 4096 := by
              have := congrArg List.length eb
              rw [List.length_append, List.length_map, List.length_map, flo_len] at this
              have f2 : (flo v.2.2).length = fln v.2.2 := flo_len _
              omega
            refine tadd_ok m5 bl (fun h6 q6 m6 => ?_)
            have t06 := q6.1.tag t05
            have rT6 : h6.R 2831 A = some (tx 0) := by rw [q6.1.R (FS.n (by decide))]; exact rT5
            have tT6 := q6.1.tag tT5
            have rN6 : h6.R 2948 (tx 0) = some (tx 0 + 5) := by rw [q6.1.R (FS.n (by decide)), q5.1.R (FS.n (by decide))]; exact s6
            have tN6 := q6.1.tag (q5.1.tag s11)
            refine k_X23_digest_72 (r2 := rT6) (r5 := rN6) (r11 := rfl) oo ?_
            have q46 : Fq (FS mdF) h4 h6 := q5.trans (q6.mono fun f a z => by
              have hh : [10000 + 1953, 3329].all (fun f => mdF.contains f) = true := by decide
              rw [List.all_eq_true] at hh
              exact hh f (List.contains_iff_mem.mp z))
            refine ihr _ h6 _ ?_ q46 m6 ?_ (fun w hw => hb2 w (List.mem_cons_of_mem _ hw))
            · have : h6.EI 1696 (tx 0 + 5) x.1 = h5.EI 1696 (tx 0 + 5) x.1 := q6.1.EI (FS.n (by decide)) _
              rw [this]
              exact TF.fs q6 (by decide) p7
            · rw [← eb, List.append_assoc]; rfl
        exact loop y.2.2.2 _ h4 [] tf4 (Fq.refl h4) m4 (by rw [ey3]; rfl) (by rw [ey3]; exact vb)
      · have hlt : lim < gas s + (32 + fln v.2.2) := hlt
        rw [if_neg (by omega)] at kk
        refine k_X23_digest_29 oo (fun q => absurd rfl q) (fun _ => ?_)
        refine k_X23_digest_32 oo ?_
        exact kk h3 ((twq q2 (by decide)).trans (twq q3 (by decide))) x3
end
