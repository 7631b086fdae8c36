/-! the twin reads a row of bytes as a module -/
theorem i8_255 (x : Int32) : x.toInt8.toInt32 &&& nI 255 = x &&& nI 255 := by
  have e : x.toInt8.toInt32.toBitVec = (x.toBitVec.signExtend 8).signExtend 32 := by rw [Int8.toBitVec_toInt32, Int32.toBitVec_toInt8]
  refine Int32.toBitVec_inj.mp ?_
  rw [Int32.toBitVec_and, Int32.toBitVec_and, e]
  refine BitVec.eq_of_getLsbD_eq fun i hi => ?_
  have hb : (nI 255).toBitVec.getLsbD i = decide (i < 8) := by
    have : ∀ k : Fin 32, (nI 255).toBitVec.getLsbD k.val = decide (k.val < 8) := by decide
    exact this ⟨i, hi⟩
  rw [BitVec.getLsbD_and, BitVec.getLsbD_and, hb]
  by_cases c : i < 8
  · rw [BitVec.getLsbD_signExtend, BitVec.getLsbD_signExtend]
    simp [c, hi]
  · simp [c]
theorem SUn.uq {l : List Nat} {h h' : AH} {U : Nat} (s : SUn h U) (q : Fq (UQ l U) h h') (hl : suF.all (fun f => !l.contains f) = true) : SUn h' U := s.fr q.1 fun f a hf z => FS.no hl f a hf z.1
def uRG : List Nat := uAG ++ [3585, 10000 + 2129, 10000 + 2242]
theorem uread_ok {G : Gt} {d : Nat} {h : AH} {K : Outcome → AH → Prop} {U A t len st n : Nat} {B : Nat → Nat} (hs : SUn h U) (hA : h.tag A = some (t, len)) (ht : 64 ≤ t ∧ (t % 16 = 1 ∨ t % 16 = 2)) (hn : n ≤ 2048) (hl : st + n ≤ len) (hl2 : len < 2147483648) (hne : A < U ∨ U + 8 < A) (hB : ∀ i, B i < 256) (hB0 : ∀ i, n ≤ i → B i = 0) (hb : ∀ i, i < n → h.EI t A (st + i) &&& nI 255 = nI (B i)) (hd : 7 ≤ d)
    (kk : match rdi n B with
      | .error e => ∀ h', Fq (UQ uRG U) h h' → h'.I 3588 U = nI e.2 → K (.returned (some (.int (nI e.1)))) h'
      | .ok m => ∀ h', Fq (UQ uRG U) h h' → SU h' U n B → UM h' U n B m → K (.returned (some (.int (nI 0)))) h') : MW G d e_X29_read [.ref U, .ref A, .int (nI st), .int (nI n)] h K := by
  refine st_X29_read fun X o hG hD _ => ?_
  subst hG; subst hD
  have s0 := hs.1
  have fin : ∀ hx v4, Fq (UQ uRG U) h hx → ∀ w, hx.I 3587 U = nI w → K (.returned (some (.int (nI w)))) hx → V X K 115 [.ref U, .ref A, .int (nI st), .int (nI n), v4] [] hx := fun hx v4 fx w e k => by
    have u0 := fx.1.tag s0
    refine k_X29_read_115 o ?_
    exact k
  have finb : ∀ hx (v4 : Int32), Fq (UQ uRG U) h hx → ∀ w, hx.I 3587 U = nI w → hx.I 3587 U ≠ 0 → K (.returned (some (.int (nI w)))) hx → V X K 71 [.ref U, .ref A, .int (nI st), .int (nI n), .int v4] [] hx := fun hx v4 fx w e e2 k => by
    have u0 := fx.1.tag s0
    refine k_X29_read_71 o (fun _ => ?_) (fun _ => ?_)
    · exact fin hx _ fx w e k
    · refine k_X29_read_80 o ?_
      refine ubad_ok u0 e2 ?_
      refine k_X29_read_84 o (fun _ => ?_) (fun c => absurd rfl c)
      exact fin hx _ fx w e k
  -- bytes are there
  have body : ∀ hx v4, Fq (UQ [3585, 10000 + 2129] U) h hx → SU hx U n B → V X K 33 [.ref U, .ref A, .int (nI st), .int (nI n), v4] [] hx := by
    intro hx v4 fx sx
    have u0 := sx.1.1
    refine k_X29_read_33 o ?_
    have f1 : Fq (UQ [3586, 3587, 3588, 3594] U) hx ((((hx.sI 3586 U (nI 0)).sI 3587 U (nI 0)).sI 3588 U (nI 0)).sI 3594 U (nI 0)) :=
      ((((Fq.refl hx).sI (f := 3586) (a := U) ⟨rfl, by omega, by omega⟩).sI (f := 3587) (a := U) ⟨rfl, by omega, by omega⟩).sI (f := 3588) (a := U) ⟨rfl, by omega, by omega⟩).sI (f := 3594) (a := U) ⟨rfl, by omega, by omega⟩
    have a1 : ((((hx.sI 3586 U (nI 0)).sI 3587 U (nI 0)).sI 3588 U (nI 0)).sI 3594 U (nI 0)).I 3586 U = nI 0 := by simp [n_sI, z_sI, tag_sI, I_sI, J_sI, R_sI, EI_sI, EJ_sI, ER_sI, n_sJ, z_sJ, tag_sJ, I_sJ, J_sJ, R_sJ, EI_sJ, EJ_sJ, ER_sJ, n_sR, z_sR, tag_sR, I_sR, J_sR, R_sR, EI_sR, EJ_sR, ER_sR, n_sEI, z_sEI, tag_sEI, I_sEI, J_sEI, R_sEI, EI_sEI, EJ_sEI, ER_sEI, n_sEJ, z_sEJ, tag_sEJ, I_sEJ, J_sEJ, R_sEJ, EI_sEJ, EJ_sEJ, ER_sEJ, n_sER, z_sER, tag_sER, I_sER, J_sER, R_sER, EI_sER, EJ_sER, ER_sER, n_nw, z_nw, tag_nw, I_nw, J_nw, R_nw, EI_nw, EJ_nw, ER_nw]
    have a2 : ((((hx.sI 3586 U (nI 0)).sI 3587 U (nI 0)).sI 3588 U (nI 0)).sI 3594 U (nI 0)).I 3587 U = 0 := by simp [n_sI, z_sI, tag_sI, I_sI, J_sI, R_sI, EI_sI, EJ_sI, ER_sI, n_sJ, z_sJ, tag_sJ, I_sJ, J_sJ, R_sJ, EI_sJ, EJ_sJ, ER_sJ, n_sR, z_sR, tag_sR, I_sR, J_sR, R_sR, EI_sR, EJ_sR, ER_sR, n_sEI, z_sEI, tag_sEI, I_sEI, J_sEI, R_sEI, EI_sEI, EJ_sEI, ER_sEI, n_sEJ, z_sEJ, tag_sEJ, I_sEJ, J_sEJ, R_sEJ, EI_sEJ, EJ_sEJ, ER_sEJ, n_sER, z_sER, tag_sER, I_sER, J_sER, R_sER, EI_sER, EJ_sER, ER_sER, n_nw, z_nw, tag_nw, I_nw, J_nw, R_nw, EI_nw, EJ_nw, ER_nw]; rfl
    have a3 : ((((hx.sI 3586 U (nI 0)).sI 3587 U (nI 0)).sI 3588 U (nI 0)).sI 3594 U (nI 0)).I 3594 U = nI 0 := by simp [n_sI, z_sI, tag_sI, I_sI, J_sI, R_sI, EI_sI, EJ_sI, ER_sI, n_sJ, z_sJ, tag_sJ, I_sJ, J_sJ, R_sJ, EI_sJ, EJ_sJ, ER_sJ, n_sR, z_sR, tag_sR, I_sR, J_sR, R_sR, EI_sR, EJ_sR, ER_sR, n_sEI, z_sEI, tag_sEI, I_sEI, J_sEI, R_sEI, EI_sEI, EJ_sEI, ER_sEI, n_sEJ, z_sEJ, tag_sEJ, I_sEJ, J_sEJ, R_sEJ, EI_sEJ, EJ_sEJ, ER_sEJ, n_sER, z_sER, tag_sER, I_sER, J_sER, R_sER, EI_sER, EJ_sER, ER_sER, n_nw, z_nw, tag_nw, I_nw, J_nw, R_nw, EI_nw, EJ_nw, ER_nw]
    generalize (((hx.sI 3586 U (nI 0)).sI 3587 U (nI 0)).sI 3588 U (nI 0)).sI 3594 U (nI 0) = h1 at *
    have F1 : Fq (UQ uRG U) h h1 := (fx.mono (UQ.mono rfl)).trans (f1.mono (UQ.mono rfl))
    have s1 := sx.uq f1 rfl
    refine uovA_ok s1 a1 a2 a3 (by omega) ?_
    unfold rdi at kk
    cases hm : rdM n B with
    | error e =>
      rw [hm] at kk
      intro h2 f2 e1 e2 e3
      have F2 := F1.trans (f2.mono (UQ.mono (l' := uRG) rfl))
      have u2 := F2.1.tag s0
      show V X K 57 [.ref U, .ref A, .int (nI st), .int (nI n), v4] [] h2
      refine k_X29_read_57 o ?_
      refine ubad_ok u2 e2 ?_
      refine k_X29_read_61 o (fun _ => ?_) (fun c => absurd rfl c)
      refine k_X29_read_68 o ?_
      exact finb h2 _ F2 e.1 e1 e2 (kk h2 F2 e3)
    | ok x =>
      obtain ⟨m, p'⟩ := x
      rw [hm] at kk
      have kk : match (match (bds m).or (rond m) with
        | some e => Except.error e
        | none => Except.ok m : Except (Nat × Nat) Md) with
        | .error e => ∀ h', Fq (UQ uRG U) h h' → h'.I 3588 U = nI e.2 → K (.returned (some (.int (nI e.1)))) h'
        | .ok m => ∀ h', Fq (UQ uRG U) h h' → SU h' U n B → UM h' U n B m → K (.returned (some (.int (nI 0)))) h' := kk
      have hwm := rdM_wm hB hn hm
      intro h2 f2 m2 e2
      have F2 := F1.trans (f2.mono (UQ.mono (l' := uRG) rfl))
      have s2 := s1.uq f2 rfl
      have u2 := s2.1.1
      show V X K 57 [.ref U, .ref A, .int (nI st), .int (nI n), v4] [] h2
      refine k_X29_read_57 o ?_
      refine ugood_ok u2 e2 ?_
      refine k_X29_read_61 o (fun c => absurd c (by decide)) (fun _ => ?_)
      refine k_X29_read_64 o ?_
      refine ulA_ok s2 m2 e2 hwm.1.2.2.2.2 (by omega) fun h3 f3 l3 => ?_
      have F3 := F2.trans (f3.mono (UQ.mono (l' := uRG) rfl))
      have s3 := s2.uq f3 rfl
      have m3 := m2.uq f3 rfl
      show V X K 68 [.ref U, .ref A, .int (nI st), .int (nI n), v4] [] h3
      refine k_X29_read_68 o ?_
      cases hbd : bds m with
      | some e =>
        rw [hbd] at l3 kk
        exact finb h3 _ F3 e.1 l3.1 l3.2.1 (kk h3 F3 l3.2.2)
      | none =>
        rw [hbd] at l3 kk
        have b32 : m.2.1.length ≤ 32 := m3.1.2.1
        have loop : ∀ j k hx, j + k = m.2.1.length → Fq (UQ uRG U) h hx → SU hx U n B → UM hx U n B m → hx.I 3587 U = 0 → (match (match rnf m j k with
            | some e => Except.error e
            | none => Except.ok m : Except (Nat × Nat) Md) with
            | .error e => ∀ h', Fq (UQ uRG U) h h' → h'.I 3588 U = nI e.2 → K (.returned (some (.int (nI e.1)))) h'
            | .ok m => ∀ h', Fq (UQ uRG U) h h' → SU h' U n B → UM h' U n B m → K (.returned (some (.int (nI 0)))) h') → V X K 71 [.ref U, .ref A, .int (nI st), .int (nI n), .int (nI k)] [] hx := by
          intro j
          induction j with
          | zero =>
            intro k hx hj fx sx mx gx kx
            have t0 := sx.1.1
            have c1 := mx.1.1
            refine k_X29_read_71 o (fun _ => ?_) (fun c => ?_)
            rotate_left
            · exact absurd ((nI_leI (by omega) (by omega)).mpr (by omega)) c
            exact fin hx _ fx 0 gx (kx hx fx sx mx)
          | succ j ih =>
            intro k hx hj fx sx mx gx kx
            obtain ⟨t0, ⟨t1, t2, t3, t4, t5, t6, t7, t8⟩, v1, v2, v3, v4, v5, v6, v7, v8⟩ := sx.1
            have c1 := mx.1.1
            have hk : k < m.2.1.length := by omega
            refine k_X29_read_71 o (fun c => ?_) (fun _ => ?_)
            · exact absurd ((nI_leI (by omega) (by omega)).mp c) (by omega)
            refine k_X29_read_80 o ?_
            refine ugood_ok t0 gx ?_
            refine k_X29_read_84 o (fun c => absurd c (by decide)) (fun _ => ?_)
            refine k_X29_read_87 o ?_
            refine urnd_ok sx mx hk (by omega) fun h4 f4 => ?_
            have F4 := fx.trans (f4.mono (UQ.mono (l' := uRG) rfl))
            have s4 := sx.uq f4 rfl
            have m4 := mx.uq f4 rfl
            have g4 : h4.I 3587 U = 0 := by rw [f4.1.I (UQ.n rfl)]; exact gx
            cases hw : wsh (edg m) m.2.1.length k k with
            | false =>
              refine k_X29_read_93 o (fun _ => ?_) (fun c => absurd rfl c)
              refine k_X29_read_109 o ?_
              rw [nI_add]
              refine ih (k + 1) h4 (by omega) F4 s4 m4 g4 ?_
              unfold rnf at kx
              rw [hw] at kx
              exact kx
            | true =>
              unfold rnf at kx
              rw [hw] at kx
              obtain ⟨p, q, e1, e2, e3⟩ := m4.1.2.2 k _ (List.getElem?_eq_getElem hk)
              rw [Nat.zero_add] at e1
              have esp : spl m k = p := by
                unfold spl
                rw [List.getElem?_eq_getElem hk]
                exact (rdSt_q hB e3).2.2.2.1
              rw [esp] at kx
              obtain ⟨w0, ⟨w1, w2, w3, w4, w5, w6, w7, w8⟩, x1, x2, x3, x4, x5, x6, x7, x8⟩ := s4.1
              have ixk : IX (nI k) 64 k := IX.mk (by omega) (by omega)
              refine k_X29_read_93 o (fun c => absurd (show bI true = 0 from c) (by decide)) (fun _ => ?_)
              refine k_X29_read_96 o ?_
              refine ufail_ok w0 g4 (by decide) fun h5 f5 q1 q2 q3 => ?_
              refine k_X29_read_109 o ?_
              have F5 := F4.trans (f5.mono (UQ.mono (l' := uRG) rfl))
              exact finb h5 _ F5 14 q1 q2 (kx h5 F5 q3)
        exact loop m.2.1.length 0 h3 (by omega) F3 s3 m3 l3 kk
  -- copying
  have copy : ∀ j i hx, j + i = n → Fq (UQ [3585, 10000 + 2129] U) h hx → hx.I 3585 U = nI n → (∀ q, q < i → hx.EI 2129 (U + 1) q &&& nI 255 = nI (B q)) → V X K 8 [.ref U, .ref A, .int (nI st), .int (nI n), .int (nI i)] [] hx := by
    intro j
    induction j with
    | zero =>
      intro i hx hj fx nx bx
      refine k_X29_read_8 o (fun _ => ?_) (fun c => absurd ((nI_leI (by omega) (by omega)).mpr (by omega)) c)
      refine body hx _ fx ⟨hs.uq fx rfl, nx, hn, hB, hB0, fun q hq => bx q (by omega)⟩
    | succ j ih =>
      intro i hx hj fx nx bx
      have sx := hs.uq fx rfl
      obtain ⟨t0, ⟨t1, t2, t3, t4, t5, t6, t7, t8⟩, v1, v2, v3, v4, v5, v6, v7, v8⟩ := sx
      have tA := fx.1.tag hA
      have ixa : IX (nI st + nI i) len (st + i) := by rw [nI_add]; exact IX.mk (by omega) (by omega)
      have ixb : IX (nI i) 2048 i := IX.mk (by omega) (by omega)
      have ea : hx.EI t A (st + i) = h.EI t A (st + i) := fx.1.EI (UQ.out hne) _
      have ea := ea
      refine k_X29_read_8 o (fun c => ?_) (fun _ => ?_)
      · exact absurd ((nI_leI (by omega) (by omega)).mp c) (by omega)
      refine k_X29_read_14 (T4 := t) (c11 := ht) o ?_
      rw [nI_add]
      refine ih (i + 1) (hx.sEI 2129 (U + 1) i (h.EI t A (st + i)).toInt8.toInt32) (by omega) (fx.sEI ⟨rfl, by omega, by omega⟩) (by simpa [n_sI, z_sI, tag_sI, I_sI, J_sI, R_sI, EI_sI, EJ_sI, ER_sI, n_sJ, z_sJ, tag_sJ, I_sJ, J_sJ, R_sJ, EI_sJ, EJ_sJ, ER_sJ, n_sR, z_sR, tag_sR, I_sR, J_sR, R_sR, EI_sR, EJ_sR, ER_sR, n_sEI, z_sEI, tag_sEI, I_sEI, J_sEI, R_sEI, EI_sEI, EJ_sEI, ER_sEI, n_sEJ, z_sEJ, tag_sEJ, I_sEJ, J_sEJ, R_sEJ, EI_sEJ, EJ_sEJ, ER_sEJ, n_sER, z_sER, tag_sER, I_sER, J_sER, R_sER, EI_sER, EJ_sER, ER_sER, n_nw, z_nw, tag_nw, I_nw, J_nw, R_nw, EI_nw, EJ_nw, ER_nw] using nx) fun q hq => ?_
      by_cases c : q = i
      · subst c
        have e : (hx.sEI 2129 (U + 1) q (h.EI t A (st + q)).toInt8.toInt32).EI 2129 (U + 1) q = (h.EI t A (st + q)).toInt8.toInt32 := by simp [n_sI, z_sI, tag_sI, I_sI, J_sI, R_sI, EI_sI, EJ_sI, ER_sI, n_sJ, z_sJ, tag_sJ, I_sJ, J_sJ, R_sJ, EI_sJ, EJ_sJ, ER_sJ, n_sR, z_sR, tag_sR, I_sR, J_sR, R_sR, EI_sR, EJ_sR, ER_sR, n_sEI, z_sEI, tag_sEI, I_sEI, J_sEI, R_sEI, EI_sEI, EJ_sEI, ER_sEI, n_sEJ, z_sEJ, tag_sEJ, I_sEJ, J_sEJ, R_sEJ, EI_sEJ, EJ_sEJ, ER_sEJ, n_sER, z_sER, tag_sER, I_sER, J_sER, R_sER, EI_sER, EJ_sER, ER_sER, n_nw, z_nw, tag_nw, I_nw, J_nw, R_nw, EI_nw, EJ_nw, ER_nw]
        rw [e, i8_255]; exact hb q (by omega)
      · have := bx q (by omega)
        simpa [n_sI, z_sI, tag_sI, I_sI, J_sI, R_sI, EI_sI, EJ_sI, ER_sI, n_sJ, z_sJ, tag_sJ, I_sJ, J_sJ, R_sJ, EI_sJ, EJ_sJ, ER_sJ, n_sR, z_sR, tag_sR, I_sR, J_sR, R_sR, EI_sR, EJ_sR, ER_sR, n_sEI, z_sEI, tag_sEI, I_sEI, J_sEI, R_sEI, EI_sEI, EJ_sEI, ER_sEI, n_sEJ, z_sEJ, tag_sEJ, I_sEJ, J_sEJ, R_sEJ, EI_sEJ, EJ_sEJ, ER_sEJ, n_sER, z_sER, tag_sER, I_sER, J_sER, R_sER, EI_sER, EJ_sER, ER_sER, n_nw, z_nw, tag_nw, I_nw, J_nw, R_nw, EI_nw, EJ_nw, ER_nw, c] using this
  refine k_X29_read_0 o ?_
  exact copy n 0 (h.sI 3585 U (nI n)) (by omega) ((Fq.refl h).sI ⟨rfl, by omega, by omega⟩) (I_same ..) fun q hq => by omega
