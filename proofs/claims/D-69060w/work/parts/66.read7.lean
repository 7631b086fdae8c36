/-! foreign functions, and the module as a whole -/
def CX (h : AH) (F : Nat) (ts : TL) (c : Cx) : Prop := h.I 902 F = nI c.1 ∧ h.I 903 F = nI c.2.1 ∧ h.I 896 F = nI c.2.2.1 ∧ SP h (F + 1) ts c.2.2.2.1 ∧ SP h (F + 2) ts c.2.2.2.2
theorem CX.fr {P : Nat → Nat → Prop} {h h' : AH} {F : Nat} {ts : TL} {c : Cx} (q : Fr P h h') (np : ∀ f a, tbF.contains f = true → F ≤ a → a < F + 4 → ¬ P f a) (x : CX h F ts c) : CX h' F ts c :=
  ⟨by rw [q.I (np _ _ rfl (by omega) (by omega))]; exact x.1, by rw [q.I (np _ _ rfl (by omega) (by omega))]; exact x.2.1, by rw [q.I (np _ _ rfl (by omega) (by omega))]; exact x.2.2.1, x.2.2.2.1.fr q (np _ _ rfl (by omega) (by omega)) (np _ _ rfl (by omega) (by omega)), x.2.2.2.2.fr q (np _ _ rfl (by omega) (by omega)) (np _ _ rfl (by omega) (by omega))⟩
theorem CX.app {h : AH} {F : Nat} {ts : TL} {c : Cx} (x : CX h F ts c) (u : TL) : CX h F (ts ++ u) c := ⟨x.1, x.2.1, x.2.2.1, x.2.2.2.1.app u, x.2.2.2.2.app u⟩
def cct (c : Cx) : TL := c.2.2.2.1 ++ c.2.2.2.2
def ccs (cs : List Cx) : TL := cs.flatMap cct
theorem ccs_s (cs : List Cx) (c : Cx) : ccs (cs ++ [c]) = ccs cs ++ cct c := by simp [ccs]
def RO2 (K : Outcome → AH → Prop) (h : AH) (R W Q T n : Nat) (B : Nat → Nat) (ts : TL) (cs : List Ix) (x : List Cx) (p' : Nat) : Prop := ∀ h', Fq (BQ [265] T (T + 396) (T + 524)) h h' → RS h' R W Q T n B p' (ts ++ ccs x) cs → h'.I 265 T = nI x.length → x.length ≤ 32 → (∀ i c, x[i]? = some c → CX h' (T + 396 + 4 * i) (ts ++ ccs x) c) → K (.returned none) h'
theorem rforeign_ok {G : Gt} {d : Nat} {h : AH} {K : Outcome → AH → Prop} {R W Q T n p : Nat} {B : Nat → Nat} {ts : TL} {cs : List Ix} (hs : RS h R W Q T n B p ts cs) (hd : 6 ≤ d)
    (kk : PQ (bd (rdC n B 0 32 p) fun k p => rep (rdCa n B) k p) (RO2 K h R W Q T n B ts cs) (TE K R W T h)) : MW G d e_X12_foreignFunctions [.ref R] h K := by
  refine st_X12_foreignFunctions fun X o hG hD hf => ?_
  subst hG; subst hD
  obtain ⟨⟨s1, s2, s3⟩, s4, s5, s6, ⟨s7, s8⟩, s9, s10⟩ := id hs
  have t0 := s1.1
  have rq : ∀ {h1 : AH}, Fq (BQ [265] T (T + 396) (T + 524)) h h1 → Fq (RQ T) h h1 := fun f => f.mono (BQ.rq rfl (by omega) (by omega))
  refine k_X12_foreignFunctions_0 o ?_
  refine rbounded_ok (lo := 0) (hi := 32) (T := T) s1 s4 s5 s6 (by omega) (by omega) (by omega) ((PQ_bd.mp kk).mono (fun k p3 _ k1 e1 e2 e3 e4 ha fa aa => ?_) (fun w q t => t))
  have ra := hs.at fa aa (by omega) e2
  have z0 := ra.1.2.2.1.1
  refine k_X12_foreignFunctions_11 o ?_
  have fb : Fq (FS [265]) ha (ha.sI 265 T (nI k)) := (Fq.refl ha).sI rfl
  have rb := ra.tb fb rfl rfl
  have gb : (ha.sI 265 T (nI k)).I 265 T = nI k := I_same ..
  have f0 : Fq (BQ [265] T (T + 396) (T + 524)) h (ha.sI 265 T (nI k)) := (fa.mono at_bq).sI (Or.inr ⟨rfl, rfl⟩)
  generalize ha.sI 265 T (nI k) = hb at *
  have loop : ∀ m j q acc hy, m + j = k → acc.length = j → Fq (BQ [265] T (T + 396) (T + 524)) h hy → RS hy R W Q T n B q (ts ++ ccs acc) cs → hy.I 265 T = nI k → (∀ i s, acc[i]? = some s → CX hy (T + 396 + 4 * i) (ts ++ ccs acc) s) → PQ (rep (rdCa n B) m q) (fun l p' => RO2 K h R W Q T n B ts cs (acc ++ l) p') (TE K R W T h) → ∀ v2, V X K 16 [.ref R, .int (nI j), v2] [] hy := by
    intro m
    induction m with
    | zero =>
      intro j q acc hy hj la fy ry gy ay ky v2
      obtain ⟨⟨w1, w2, w3⟩, -⟩ := id ry
      have y1 := w1.1
      have y2 := w3.1.1
      refine k_X12_foreignFunctions_16 o (fun c5 => ?_) (fun c5 => ?_)
      rotate_left
      · exact absurd ((nI_leI (by omega) (by omega)).mpr (by omega)) c5
      refine k_X12_foreignFunctions_106 o ?_
      have ke : RO2 K h R W Q T n B ts cs acc q := by have : RO2 K h R W Q T n B ts cs (acc ++ []) q := ky; rw [List.append_nil] at this; exact this
      exact ke hy fy ry (by rw [gy]; congr 1; omega) (by omega) ay
    | succ m ih =>
      intro j q acc hy hj la fy ry gy ay ky v2
      obtain ⟨⟨w1, w2, w3⟩, w4, w5, w6, -⟩ := id ry
      have y1 := w1.1
      have y2 := w3.1.1
      have y3 := w3.1.2.2.1
      have y4 := w3.2.1.2.1
      obtain ⟨d1, d2, ⟨d3, d4, d5⟩, d6, d7, d8⟩ := w3.2.2.2.2 (64 + j) (by omega)
      rw [show T + 140 + 4 * (64 + j) = T + 396 + 4 * j by omega] at d1 d2 d3 d4 d5
      rw [show T + 141 + 4 * (64 + j) = T + 397 + 4 * j by omega] at d3 d6
      rw [show T + 142 + 4 * (64 + j) = T + 398 + 4 * j by omega] at d4 d7
      rw [show T + 143 + 4 * (64 + j) = T + 399 + 4 * j by omega] at d5 d8
      have ix : IX (nI 64 + nI j) 96 (64 + j) := by rw [nI_add]; exact IX.mk (by omega) (by omega)
      have rqy := rq fy
      have k2 := rep_s (C := RO2 K h R W Q T n B ts cs) ky
      refine k_X12_foreignFunctions_16 o (fun c5 => ?_) (fun c5 => ?_)
      · exact absurd ((nI_leI (by omega) (by omega)).mp c5) (by omega)
      refine k_X12_foreignFunctions_27 o ?_
      generalize hF : T + 396 + 4 * j = F at *
      rw [show T + 397 + 4 * j = F + 1 by omega] at d3 d6
      rw [show T + 398 + 4 * j = F + 2 by omega] at d4 d7
      rw [show T + 399 + 4 * j = F + 3 by omega] at d5 d8
      have bq : ∀ {hz : AH}, Fq (AQ T F (F + 4)) hy hz → Fq (RQ T) h hz := fun f => rqy.trans (f.mono (AQ.rq (by omega) (by omega)))
      refine rshort_ok (T := T) w1 w4 w5 w6 (by omega) ((PQ_bd.mp k2).mono (fun mo q1 eq1 k3 b1 b2 h1 f1 a1 => ?_) (fun w q t => TE.fq rqy t))
      have r1 := ry.at f1 a1 b1 b2
      have u1 := r1.1.1.1
      have v2' := f1.1.tag d2
      refine k_X12_foreignFunctions_45 o ?_
      have f2 : Fq (FS [902]) h1 (h1.sI 902 F (nI mo)) := (Fq.refl h1).sI rfl
      have r2 := r1.tb f2 rfl rfl
      have F2 : Fq (AQ T F (F + 4)) hy (h1.sI 902 F (nI mo)) := (f1.mono at_aq).sI (AQ.tb rfl (by omega) (by omega))
      have g2 : (h1.sI 902 F (nI mo)).I 902 F = nI mo := I_same ..
      generalize h1.sI 902 F (nI mo) = h2 at *
      refine rnext_ok (T := T) r2.1.1 r2.2.1 r2.2.2.1 r2.2.2.2.1 (by omega) ((PQ_bd.mp k3).mono (fun nu q2 eq2 k4 h3 f3 a3 => ?_) (fun w q t => TE.fq (bq F2) t))
      obtain ⟨-, e7, e8⟩ := rdB_ok eq2
      have r3 := r2.at f3 a3 (by omega) (by omega)
      have F3 := F2.trans (f3.mono at_aq)
      have u1 := r3.1.1.1
      have v3' := F3.1.tag d2
      refine k_X12_foreignFunctions_53 o ?_
      have f4 : Fq (FS [903]) h3 (h3.sI 903 F (nI nu)) := (Fq.refl h3).sI rfl
      have r4 := r3.tb f4 rfl rfl
      have F4 : Fq (AQ T F (F + 4)) hy (h3.sI 903 F (nI nu)) := F3.sI (AQ.tb rfl (by omega) (by omega))
      have g4' : (h3.sI 903 F (nI nu)).I 903 F = nI nu := I_same ..
      have g4b : (h3.sI 903 F (nI nu)).I 902 F = nI mo := by rw [I_sI, if_neg (by omega), f3.1.I (FS.n rfl)]; exact g2
      generalize h3.sI 903 F (nI nu) = h4 at *
      refine rbounded_ok (lo := 0) (hi := 7) (T := T) r4.1.1 r4.2.1 r4.2.2.1 r4.2.2.2.1 (by omega) (by omega) (by omega) ((PQ_bd.mp k4).mono (fun fl q3 _ k5 b1 b2 b3 b4 h5 f5 a5 => ?_) (fun w q t => TE.fq (bq F4) t))
      have r5 := r4.at f5 a5 (by omega) b2
      have F5 := F4.trans (f5.mono at_aq)
      have v5' := F5.1.tag d2
      have v8' := F5.1.tag d8
      have l3 : h5.R 897 F = some (F + 1) := by rw [F5.1.R (AQ.no rfl)]; exact d3
      have l5 : h5.R 899 F = some (F + 3) := by rw [F5.1.R (AQ.no rfl)]; exact d5
      have u5 := r5.1.1.1
      refine k_X12_foreignFunctions_64 o ?_
      have f6 : Fq (FS [896, 901, 513]) h5 (((h5.sI 896 F (nI fl)).sI 901 F (nI 0)).sI 513 (F + 3) (nI 0)) := (by refine (Fq.sI (Fq.sI (Fq.sI (Fq.refl h5) ?_) ?_) ?_) <;> exact rfl)
      have F6 : Fq (AQ T F (F + 4)) hy (((h5.sI 896 F (nI fl)).sI 901 F (nI 0)).sI 513 (F + 3) (nI 0)) := ((F5.sI (AQ.tb rfl (by omega) (by omega))).sI (AQ.tb rfl (by omega) (by omega))).sI (AQ.tb rfl (by omega) (by omega))
      have r6 := r5.tb f6 rfl rfl
      have g6 : (((h5.sI 896 F (nI fl)).sI 901 F (nI 0)).sI 513 (F + 3) (nI 0)).I 896 F = nI fl := by simp [n_sI, z_sI, tag_sI, I_sI, J_sI, R_sI, EI_sI, EJ_sI, ER_sI, n_sJ, z_sJ, tag_sJ, I_sJ, J_sJ, R_sJ, EI_sJ, EJ_sJ, ER_sJ, n_sR, z_sR, tag_sR, I_sR, J_sR, R_sR, EI_sR, EJ_sR, ER_sR, n_sEI, z_sEI, tag_sEI, I_sEI, J_sEI, R_sEI, EI_sEI, EJ_sEI, ER_sEI, n_sEJ, z_sEJ, tag_sEJ, I_sEJ, J_sEJ, R_sEJ, EI_sEJ, EJ_sEJ, ER_sEJ, n_sER, z_sER, tag_sER, I_sER, J_sER, R_sER, EI_sER, EJ_sER, ER_sER, n_nw, z_nw, tag_nw, I_nw, J_nw, R_nw, EI_nw, EJ_nw, ER_nw]
      have g6b : (((h5.sI 896 F (nI fl)).sI 901 F (nI 0)).sI 513 (F + 3) (nI 0)).I 902 F = nI mo := by rw [f6.1.I (FS.n rfl), f5.1.I (FS.n rfl)]; exact g4b
      have g6c : (((h5.sI 896 F (nI fl)).sI 901 F (nI 0)).sI 513 (F + 3) (nI 0)).I 903 F = nI nu := by rw [f6.1.I (FS.n rfl), f5.1.I (FS.n rfl)]; exact g4'
      generalize (((h5.sI 896 F (nI fl)).sI 901 F (nI 0)).sI 513 (F + 3) (nI 0)) = h6 at *
      refine rlist_ok (hi := 8) r6 (F6.1.tag d6) (by omega) (by omega) (by omega) (by omega) ((PQ_bd.mp k5).mono (fun tk q4 _ k6 h7 f7 r7 c1 c2 => ?_) (fun w q t => TE.fq (bq F6) t))
      have F7 := F6.trans (f7.mono (AQ.mono (lo' := F) (hi' := F + 4) (by omega) (by omega)))
      have sp7 : SP h7 (F + 1) (ts ++ ccs acc ++ tk) tk := SP.mk c1 c2
      have v7 := F7.1.tag d2
      have l7 : h7.R 898 F = some (F + 2) := by rw [F7.1.R (AQ.no rfl)]; exact d4
      have u7 := r7.1.1.1
      refine k_X12_foreignFunctions_90 o ?_
      refine rlist_ok (hi := 8) r7 (F7.1.tag d7) (by omega) (by omega) (by omega) (by omega) ((PQ_bd.mp k6).mono (fun gv q5 _ k7 h8 f8 r8 c3 c4 => ?_) (fun w q t => TE.fq (bq F7) t))
      have F8 := F7.trans (f8.mono (AQ.mono (lo' := F) (hi' := F + 4) (by omega) (by omega)))
      refine k_X12_foreignFunctions_100 o ?_
      rw [nI_add]
      have es : ts ++ ccs (acc ++ [(mo, nu, fl, tk, gv)]) = ts ++ ccs acc ++ tk ++ gv := by rw [ccs_s]; simp [cct]
      refine ih (j + 1) q5 (acc ++ [(mo, nu, fl, tk, gv)]) h8 (by omega) (by simp [la]) (fy.trans (F8.mono (AQ.bq (by omega) (by omega)))) (by rw [es]; exact r8) ?_ (fun i s hi => ?_) k7 _
      · rw [F8.1.I (AQ.out rfl (by omega))]; exact gy
      · rw [es]
        rcases snoc_get hi with ⟨z1, z2⟩ | ⟨z1, z2⟩
        · have := ((ay i s z2).fr F8.1 fun f a hf' q1 q2 => AQ.out (tb_out hf') (by omega)).app (tk ++ gv)
          rw [← List.append_assoc] at this
          exact this
        · subst z2
          rw [z1, la, hF]
          refine ⟨?_, ?_, ?_, ?_, ?_⟩
          · rw [f8.1.I (AQ.out rfl (by omega)), f7.1.I (AQ.out rfl (by omega))]; exact g6b
          · rw [f8.1.I (AQ.out rfl (by omega)), f7.1.I (AQ.out rfl (by omega))]; exact g6c
          · rw [f8.1.I (AQ.out rfl (by omega)), f7.1.I (AQ.out rfl (by omega))]; exact g6
          · exact (sp7.fr f8.1 (AQ.out rfl (by omega)) (AQ.out rfl (by omega))).app gv
          · exact SP.mk c3 c4
  exact loop k 0 p3 [] hb (by omega) rfl f0 (by simpa [ccs] using rb) gb (fun i s hi => by simp at hi) k1 _
