/-! a tape is read into tables -/
def rdi (n : Nat) (B : Nat → Nat) : Except (Nat × Nat) Md := match rdM n B with
  | .error e => .error e
  | .ok x => match (bds x.1).or (rond x.1) with
    | some e => .error e
    | none => .ok x.1
def CLQ (T f a : Nat) : Prop := FS (tcF ++ tbF) f a ∧ T ≤ a ∧ a < T + 524
theorem tclear_ok {G : Gt} {d : Nat} {h : AH} {K : Outcome → AH → Prop} {T : Nat} (hs : STb h T) (kk : ∀ h', Fq (CLQ T) h h' → TY h' T [] → CO h' T [] → K (.returned none) h') : MW G d e_X3_clear [.ref T] h K := by
  refine st_X3_clear fun X o hG hD hf => ?_
  subst hG; subst hD
  obtain ⟨⟨g1, g2, g3, g4', g5, g6⟩, ⟨p1, p2, p3, p4, p5, p6, p7, p8⟩, ⟨c1, c2, c3, c4, c5, c6, c7, c8, c9⟩, -⟩ := id hs
  refine k_X3_clear_0 o ?_
  have F1 : Fq (CLQ T) h (((((h.sI 386 (T + 3) (nI 0)).sI 644 (T + 7) (nI 0)).sI 262 T (nI 0)).sI 263 T (nI 0)).sI 264 T (nI 0)) :=
    (((((Fq.refl h).sI ⟨rfl, by omega, by omega⟩).sI ⟨rfl, by omega, by omega⟩).sI ⟨rfl, by omega, by omega⟩).sI ⟨rfl, by omega, by omega⟩).sI ⟨rfl, by omega, by omega⟩
  have e1 : (((((h.sI 386 (T + 3) (nI 0)).sI 644 (T + 7) (nI 0)).sI 262 T (nI 0)).sI 263 T (nI 0)).sI 264 T (nI 0)).I 386 (T + 3) = nI 0 := by simp [n_sI, z_sI, tag_sI, I_sI, J_sI, R_sI, EI_sI, EJ_sI, ER_sI, n_sJ, z_sJ, tag_sJ, I_sJ, J_sJ, R_sJ, EI_sJ, EJ_sJ, ER_sJ, n_sR, z_sR, tag_sR, I_sR, J_sR, R_sR, EI_sR, EJ_sR, ER_sR, n_sEI, z_sEI, tag_sEI, I_sEI, J_sEI, R_sEI, EI_sEI, EJ_sEI, ER_sEI, n_sEJ, z_sEJ, tag_sEJ, I_sEJ, J_sEJ, R_sEJ, EI_sEJ, EJ_sEJ, ER_sEJ, n_sER, z_sER, tag_sER, I_sER, J_sER, R_sER, EI_sER, EJ_sER, ER_sER, n_nw, z_nw, tag_nw, I_nw, J_nw, R_nw, EI_nw, EJ_nw, ER_nw]
  have e2 : (((((h.sI 386 (T + 3) (nI 0)).sI 644 (T + 7) (nI 0)).sI 262 T (nI 0)).sI 263 T (nI 0)).sI 264 T (nI 0)).I 644 (T + 7) = nI 0 := by simp [n_sI, z_sI, tag_sI, I_sI, J_sI, R_sI, EI_sI, EJ_sI, ER_sI, n_sJ, z_sJ, tag_sJ, I_sJ, J_sJ, R_sJ, EI_sJ, EJ_sJ, ER_sJ, n_sR, z_sR, tag_sR, I_sR, J_sR, R_sR, EI_sR, EJ_sR, ER_sR, n_sEI, z_sEI, tag_sEI, I_sEI, J_sEI, R_sEI, EI_sEI, EJ_sEI, ER_sEI, n_sEJ, z_sEJ, tag_sEJ, I_sEJ, J_sEJ, R_sEJ, EI_sEJ, EJ_sEJ, ER_sEJ, n_sER, z_sER, tag_sER, I_sER, J_sER, R_sER, EI_sER, EJ_sER, ER_sER, n_nw, z_nw, tag_nw, I_nw, J_nw, R_nw, EI_nw, EJ_nw, ER_nw]
  generalize (((((h.sI 386 (T + 3) (nI 0)).sI 644 (T + 7) (nI 0)).sI 262 T (nI 0)).sI 263 T (nI 0)).sI 264 T (nI 0)) = h1 at *
  have s1 : STb h1 T := hs.fr F1.1 fun f a hf z => FS.no (l := tcF ++ tbF) (m := stF) rfl f a hf z.1
  have r1 := s1.1.2.2.2.2.1
  have r2 := s1.1.1
  have r3 := s1.2.1.2.2.2.2.2.2.2
  refine k_X3_clear_31 o ?_
  have F2 : Fq (CLQ T) h (h1.sI 265 T (nI 0)) := F1.sI ⟨rfl, by omega, by omega⟩
  have F3 : Fq (CLQ T) h ((h1.sI 265 T (nI 0)).sI 513 (T + 6) (nI 0)) := F2.sI ⟨rfl, by omega, by omega⟩
  refine kk _ F3 ⟨?_, fun i x hi => by simp at hi⟩ ⟨?_, fun i x hi => by simp at hi⟩
  · simp [n_sI, z_sI, tag_sI, I_sI, J_sI, R_sI, EI_sI, EJ_sI, ER_sI, n_sJ, z_sJ, tag_sJ, I_sJ, J_sJ, R_sJ, EI_sJ, EJ_sJ, ER_sJ, n_sR, z_sR, tag_sR, I_sR, J_sR, R_sR, EI_sR, EJ_sR, ER_sR, n_sEI, z_sEI, tag_sEI, I_sEI, J_sEI, R_sEI, EI_sEI, EJ_sEI, ER_sEI, n_sEJ, z_sEJ, tag_sEJ, I_sEJ, J_sEJ, R_sEJ, EI_sEJ, EJ_sEJ, ER_sEJ, n_sER, z_sER, tag_sER, I_sER, J_sER, R_sER, EI_sER, EJ_sER, ER_sER, n_nw, z_nw, tag_nw, I_nw, J_nw, R_nw, EI_nw, EJ_nw, ER_nw]; exact e1
  · simp [n_sI, z_sI, tag_sI, I_sI, J_sI, R_sI, EI_sI, EJ_sI, ER_sI, n_sJ, z_sJ, tag_sJ, I_sJ, J_sJ, R_sJ, EI_sJ, EJ_sJ, ER_sJ, n_sR, z_sR, tag_sR, I_sR, J_sR, R_sR, EI_sR, EJ_sR, ER_sR, n_sEI, z_sEI, tag_sEI, I_sEI, J_sEI, R_sEI, EI_sEI, EJ_sEI, ER_sEI, n_sEJ, z_sEJ, tag_sEJ, I_sEJ, J_sEJ, R_sEJ, EI_sEJ, EJ_sEJ, ER_sEJ, n_sER, z_sER, tag_sER, I_sER, J_sER, R_sER, EI_sER, EJ_sER, ER_sER, n_nw, z_nw, tag_nw, I_nw, J_nw, R_nw, EI_nw, EJ_nw, ER_nw]; exact e2
/-- all that reading a tape may change -/
def RT (T f a : Nat) : Prop := RQ T f a ∨ FS [1411] f a
theorem readInto_ok {G : Gt} {d : Nat} {h : AH} {K : Outcome → AH → Prop} {R W Q T n : Nat} {B : Nat → Nat} (hs : SRd h R W Q) (hW : h.tag W = some (30, 0)) (ht : STb h T) (hb : TPb h R n B) (hc : CB G h) (hd : 9 ≤ d)
    (kk : match rdi n B with
      | .error e => ∀ h', Fq (RT T) h h' → h'.I 1413 R = nI e.2 → K (.returned (some (.int (nI e.1)))) h'
      | .ok m => ∀ h', Fq (RT T) h h' → RB h' R W Q T n B m → K (.returned (some (.int (nI 0)))) h') : MW G d e_X12_readInto [.ref R, .ref T] h K := by
  refine st_X12_readInto fun X o hG hD hf => ?_
  subst hG; subst hD
  have t0 := hs.1
  have t1 := ht.1.1
  have hn := hb.2.1
  have clq : ∀ f a, CLQ T f a → RT T f a := fun f a z => Or.inl (Or.inr z)
  have rqt : ∀ f a, RQ T f a → RT T f a := fun f a z => Or.inl z
  -- the handler
  have hnd : ∀ w q hx, Fq (RT T) h hx → hx.I 1412 R = nI w → hx.I 1413 R = nI q → hx.R 1411 R = some T → (∀ h', Fq (RT T) h h' → h'.I 1413 R = nI q → K (.returned (some (.int (nI w)))) h') → hx.tag W = some (30, 0) ∧ V X K 45 [.ref R, .ref T, nov] [.ref W] hx := by
    intro w q hx fx e1 e2 e3 ke
    have u0 := fx.1.tag t0
    have u1 := fx.1.tag t1
    refine ⟨fx.1.tag hW, ?_⟩
    refine k_X12_readInto_45 o ?_
    refine tclear_ok (ht.fr fx.1 fun f a hf z => ?_) fun h' f' _ _ => ?_
    · rcases z with z | z
      · rcases z with z | ⟨z, -⟩
        · exact FS.no (l := raF ++ [1415, 10000 + 371]) (m := stF) rfl f a hf z
        · exact FS.no (l := tcF ++ tbF) (m := stF) rfl f a hf z
      · exact FS.no (l := [1411]) (m := stF) rfl f a hf z
    have v0 := f'.1.tag u0
    have v1 : h'.I 1412 R = nI w := by rw [f'.1.I (fun z => FS.n (l := tcF ++ tbF) rfl z.1)]; exact e1
    refine k_X12_readInto_53 o ?_
    refine ke h' (fx.trans (f'.mono clq)) ?_
    rw [f'.1.I (fun z => FS.n (l := tcF ++ tbF) rfl z.1)]; exact e2
  refine k_X12_readInto_0 o ?_
  have F1 : Fq (RT T) h (h.sR 1411 R (some T)) := (Fq.refl h).sR (Or.inr rfl)
  have f1 : Fq (FS [1411]) h (h.sR 1411 R (some T)) := (Fq.refl h).sR rfl
  have e1 : (h.sR 1411 R (some T)).R 1411 R = some T := R_same ..
  generalize h.sR 1411 R (some T) = h1 at *
  refine tclear_ok (ht.fr f1.1 (FS.no rfl)) fun h2 f2 y2 c2 => ?_
  have F2 := F1.trans (f2.mono clq)
  have s2 : SRd h2 R W Q := (hs.fr f1.1 (FS.no rfl)).fr f2.1 fun f a hf z => FS.no (l := tcF ++ tbF) (m := srF) rfl f a hf z.1
  have b2 : TPb h2 R n B := (hb.fr f1.1 (fun a => FS.n rfl) (fun a => FS.n rfl)).fr f2.1 (fun a z => FS.n (l := tcF ++ tbF) rfl z.1) (fun a z => FS.n (l := tcF ++ tbF) rfl z.1)
  have t2 : STb h2 T := (ht.fr f1.1 (FS.no rfl)).fr f2.1 fun f a hf z => FS.no (l := tcF ++ tbF) (m := stF) rfl f a hf z.1
  have e2 : h2.R 1411 R = some T := by rw [f2.1.R (fun z => FS.n (l := tcF ++ tbF) rfl z.1)]; exact e1
  have u0 := s2.1
  have u1 := b2.1
  show V X K 12 [.ref R, .ref T, nov] [] h2
  refine k_X12_readInto_12 o ?_
  have f3 : Fq (FS raF) h2 (((h2.sI 1410 R (nI 0)).sI 1412 R (nI 0)).sI 1413 R (nI n)) := (by refine (Fq.sI (Fq.sI (Fq.sI (Fq.refl h2) ?_) ?_) ?_) <;> exact rfl)
  have w3 : (((h2.sI 1410 R (nI 0)).sI 1412 R (nI 0)).sI 1413 R (nI n)).I 1412 R = nI 0 := by simp [n_sI, z_sI, tag_sI, I_sI, J_sI, R_sI, EI_sI, EJ_sI, ER_sI, n_sJ, z_sJ, tag_sJ, I_sJ, J_sJ, R_sJ, EI_sJ, EJ_sJ, ER_sJ, n_sR, z_sR, tag_sR, I_sR, J_sR, R_sR, EI_sR, EJ_sR, ER_sR, n_sEI, z_sEI, tag_sEI, I_sEI, J_sEI, R_sEI, EI_sEI, EJ_sEI, ER_sEI, n_sEJ, z_sEJ, tag_sEJ, I_sEJ, J_sEJ, R_sEJ, EI_sEJ, EJ_sEJ, ER_sEJ, n_sER, z_sER, tag_sER, I_sER, J_sER, R_sER, EI_sER, EJ_sER, ER_sER, n_nw, z_nw, tag_nw, I_nw, J_nw, R_nw, EI_nw, EJ_nw, ER_nw]
  have a3 : (((h2.sI 1410 R (nI 0)).sI 1412 R (nI 0)).sI 1413 R (nI n)).I 1410 R = nI 0 := by simp [n_sI, z_sI, tag_sI, I_sI, J_sI, R_sI, EI_sI, EJ_sI, ER_sI, n_sJ, z_sJ, tag_sJ, I_sJ, J_sJ, R_sJ, EI_sJ, EJ_sJ, ER_sJ, n_sR, z_sR, tag_sR, I_sR, J_sR, R_sR, EI_sR, EJ_sR, ER_sR, n_sEI, z_sEI, tag_sEI, I_sEI, J_sEI, R_sEI, EI_sEI, EJ_sEI, ER_sEI, n_sEJ, z_sEJ, tag_sEJ, I_sEJ, J_sEJ, R_sEJ, EI_sEJ, EJ_sEJ, ER_sEJ, n_sER, z_sER, tag_sER, I_sER, J_sER, R_sER, EI_sER, EJ_sER, ER_sER, n_nw, z_nw, tag_nw, I_nw, J_nw, R_nw, EI_nw, EJ_nw, ER_nw]
  generalize ((h2.sI 1410 R (nI 0)).sI 1412 R (nI 0)).sI 1413 R (nI n) = h3 at *
  have F3 : Fq (RT T) h h3 := F2.trans (f3.mono fun f a z => rqt f a (raF.tb rfl f a z))
  have r3 : RS h3 R W Q T n B 0 [] [] := ⟨⟨s2.fr f3.1 (FS.no rfl), by rw [f3.1.R (FS.n rfl)]; exact e2, t2.fr f3.1 (FS.no rfl)⟩, b2.fr f3.1 (fun a => FS.n rfl) (fun a => FS.n rfl), a3, Nat.zero_le _, ⟨y2.fr f3.1 (FS.n rfl) (FS.n rfl) (FS.n rfl), Nat.le_refl _⟩, c2.fr f3.1 (FS.n rfl) (FS.n rfl) (FS.n rfl) (FS.n rfl) (FS.n rfl), Nat.le_refl _⟩
  have hc3 : CB X.G h3 := CB.fr F3.1 (fun z => by
    rcases z with z | z
    · rcases z with z | ⟨z, -⟩
      · exact FS.n (l := raF ++ [1415, 10000 + 371]) rfl z
      · exact FS.n (l := tcF ++ tbF) rfl z
    · exact FS.n (l := [1411]) rfl z) hc
  have rt_ : ∀ {hx : AH}, Fq (RQ T) h3 hx → hx.R 1411 R = some T := fun fx => by
    rw [fx.1.R (fun z => by
      rcases z with z | ⟨z, -⟩
      · exact FS.n (l := raF ++ [1415, 10000 + 371]) rfl z
      · exact FS.n (l := tcF ++ tbF) rfl z)]
    exact r3.1.2.1
  refine rmodule_ok r3 hc3 (by omega) ?_
  unfold rdi at kk
  cases hm : rdM n B with
  | error e =>
    rw [hm] at kk
    intro h' f' q1 q2
    exact hnd e.1 e.2 h' (F3.trans (f'.mono rqt)) q1 q2 (rt_ f') kk
  | ok x =>
    obtain ⟨m, p'⟩ := x
    rw [hm] at kk
    have kk : match (match (bds m).or (rond m) with
      | some e => Except.error e
      | none => Except.ok m : Except (Nat × Nat) Md) with
      | .error e => ∀ h', Fq (RT T) h h' → h'.I 1413 R = nI e.2 → K (.returned (some (.int (nI e.1)))) h'
      | .ok m => ∀ h', Fq (RT T) h h' → RB h' R W Q T n B m → K (.returned (some (.int (nI 0)))) h' := kk
    have hwm := rdM_wm hb.2.2.1 hn hm
    intro _ h4 f4 r4 m4
    have F4 : Fq (RT T) h h4 := F3.trans (f4.mono fun f a z => rqt f a (RG.rq f a z))
    have w4 : h4.I 1412 R = nI 0 := by
      rw [f4.1.I (fun z => by
        rcases z with z | ⟨z, -⟩
        · exact FS.n (l := [1410]) rfl z
        · exact FS.n (l := tcF ++ tbF) rfl z)]
      exact w3
    have u4 := r4.1.1.1
    show V X K 34 [.ref R, .ref T, nov] [] h4
    refine k_X12_readInto_34 o ?_
    have tg : ∀ f a, FS [1415] f a → RQ T f a := fun f a z => Or.inl (FS.mono (l := [1415]) rfl f a z)
    have tr : ∀ f a, FS [10000 + 371] f a → RQ T f a := fun f a z => Or.inl (FS.mono (l := [10000 + 371]) rfl f a z)
    refine bounds_ok (⟨r4, m4⟩ : RB h4 R W Q T n B m) hwm.1 (by omega) ?_
    have fail : ∀ {hx : AH} {e : Nat × Nat}, Fq (RQ T) h4 hx → (∀ h', Fq (RT T) h h' → h'.I 1413 R = nI e.2 → K (.returned (some (.int (nI e.1)))) h') → ∀ h', Fq (RQ T) hx h' → h'.I 1412 R = nI e.1 → h'.I 1413 R = nI e.2 → h'.tag W = some (30, 0) ∧ V X K 45 [.ref R, .ref T, nov] [.ref W] h' := fun fx ke h' f' q1 q2 =>
      hnd _ _ h' (F4.trans ((fx.trans f').mono rqt)) q1 q2 (rt_ ((f4.mono RG.rq).trans (fx.trans f'))) ke
    cases hb1 : bds m with
    | some e =>
      rw [hb1] at kk
      intro h' f' q1 q2
      exact fail (Fq.refl h4) kk h' f' q1 q2
    | none =>
      rw [hb1] at kk
      intro h5 f5
      have s5 := RB.fr f5.1 (FS.no rfl) (⟨r4, m4⟩ : RB h4 R W Q T n B m)
      have u5 := s5.1.1.1.1
      show V X K 38 [.ref R, .ref T, nov] [] h5
      refine k_X12_readInto_38 o ?_
      refine itself_ok s5 hwm.1.1 (by omega) ?_
      cases hr1 : rond m with
      | some e =>
        rw [hr1] at kk
        intro h' f' q1 q2
        exact fail (f5.mono tg) kk h' f' q1 q2
      | none =>
        rw [hr1] at kk
        intro h6 f6
        have s6 := RB.fr f6.1 (FS.no rfl) s5
        have u6 := s6.1.1.1.1
        show V X K 42 [.ref R, .ref T, nov] [] h6
        have w6 : h6.I 1412 R = nI 0 := by rw [f6.1.I (FS.n rfl), f5.1.I (FS.n rfl)]; exact w4
        refine k_X12_readInto_42 o ?_
        refine k_X12_readInto_53 o ?_
        exact kk h6 (F4.trans ((f5.mono fun f a z => rqt f a (tg f a z)).trans (f6.mono fun f a z => rqt f a (tr f a z)))) s6
