/-! functions, gone over -/
theorem uovLb_ok {G : Gt} {d : Nat} {h : AH} {K : Outcome → AH → Prop} {U : Nat} {v : Value} (hU : h.tag U = some (28, 0)) (hf : h.I 3587 U ≠ 0) (hd : 1 ≤ d) (kk : K (.returned none) h) : MW G d e_X29_overLists [.ref U, .int (nI 8)] h K := by
  refine st_X29_overLists fun X o hG hD _ => ?_
  subst hG; subst hD
  refine k_X29_overLists_0 o ?_
  refine ubad_ok hU hf ?_
  refine k_X29_overLists_4 o (fun _ => ?_) (fun c => absurd rfl c)
  refine k_X29_overLists_13 o ?_
  refine ubad_ok hU hf ?_
  refine k_X29_overLists_17 o (fun _ => ?_) (fun c => absurd rfl c)
  refine k_X29_overLists_26 o ?_
  refine ubad_ok hU hf ?_
  refine k_X29_overLists_30 o (fun _ => ?_) (fun c => absurd rfl c)
  refine k_X29_overLists_40 o ?_
  exact kk
theorem uovLs_ok {G : Gt} {d : Nat} {h : AH} {K : Outcome → AH → Prop} {U n p : Nat} {B : Nat → Nat} (hs : SU h U n B) (ha : h.I 3586 U = nI p) (hp : p ≤ n) (hf : h.I 3587 U = 0) (hd : 4 ≤ d)
    (kk : PQ (rdL n B 8 p) (fun _ p2 => PQ (rdL n B 8 p2) (fun _ p3 => PQ (rdL n B 32 p3) (fun _ p4 => p < p4 → p4 ≤ n → ∀ h', Fq (UQ [3586] U) h h' → h'.I 3586 U = nI p4 → K (.returned none) h') (UE K uaF U h (.returned none))) (UE K uaF U h (.returned none))) (UE K uaF U h (.returned none))) : MW G d e_X29_overLists [.ref U, .int (nI 8)] h K := by
  refine st_X29_overLists fun X o hG hD _ => ?_
  subst hG; subst hD
  have s0 := hs.1.1
  have bad3 : ∀ hx, hx.tag U = some (28, 0) → hx.I 3587 U ≠ 0 → K (.returned none) hx → V X K 26 [.ref U, .int (nI 8)] [] hx := fun hx u0 uf k => by
    refine k_X29_overLists_26 o ?_
    refine ubad_ok u0 uf ?_
    refine k_X29_overLists_30 o (fun _ => ?_) (fun c => absurd rfl c)
    refine k_X29_overLists_40 o ?_
    exact k
  have bad2 : ∀ hx, hx.tag U = some (28, 0) → hx.I 3587 U ≠ 0 → K (.returned none) hx → V X K 13 [.ref U, .int (nI 8)] [] hx := fun hx u0 uf k => by
    refine k_X29_overLists_13 o ?_
    refine ubad_ok u0 uf ?_
    refine k_X29_overLists_17 o (fun _ => ?_) (fun c => absurd rfl c)
    exact bad3 hx u0 uf k
  refine k_X29_overLists_0 o ?_
  refine ugood_ok s0 hf ?_
  refine k_X29_overLists_4 o (fun c => absurd c (by decide)) (fun _ => ?_)
  refine k_X29_overLists_7 o ?_
  refine uovL_ok hs ha hp hf (by omega) (by omega) (kk.mono (fun _ p2 _ k2 b1 b2 h1 f1 a1 => ?_) (fun w q t h' f' e1 e2 e3 => bad2 h' (f'.1.tag s0) e2 (t h' f' e1 e2 e3)))
  have s1 := hs.uq f1 rfl
  have u1 := s1.1.1
  have uf1 : h1.I 3587 U = 0 := by rw [f1.1.I (UQ.n rfl)]; exact hf
  show V X K 13 [.ref U, .int (nI 8)] [] h1
  refine k_X29_overLists_13 o ?_
  refine ugood_ok u1 uf1 ?_
  refine k_X29_overLists_17 o (fun c => absurd c (by decide)) (fun _ => ?_)
  refine k_X29_overLists_20 o ?_
  refine uovL_ok s1 a1 b2 uf1 (by omega) (by omega) (k2.mono (fun _ p3 _ k3 b3 b4 h2 f2 a2 => ?_) (fun w q t h' f' e1 e2 e3 => bad3 h' (f'.1.tag u1) e2 (t h' ((f1.mono (UQ.mono rfl)).trans f') e1 e2 e3)))
  have s2 := s1.uq f2 rfl
  have u2 := s2.1.1
  have uf2 : h2.I 3587 U = 0 := by rw [f2.1.I (UQ.n rfl)]; exact uf1
  have F2 := f1.trans f2
  show V X K 26 [.ref U, .int (nI 8)] [] h2
  refine k_X29_overLists_26 o ?_
  refine ugood_ok u2 uf2 ?_
  refine k_X29_overLists_30 o (fun c => absurd c (by decide)) (fun _ => ?_)
  refine k_X29_overLists_33 o ?_
  refine uovL_ok s2 a2 b4 uf2 (by omega) (by omega) (k3.mono (fun _ p4 _ k4 b5 b6 h3 f3 a3 => ?_) (fun w q t h' f' e1 e2 e3 => ?_))
  · refine k_X29_overLists_40 o ?_
    exact k4 (by omega) b6 h3 (F2.trans f3) a3
  · refine k_X29_overLists_40 o ?_
    exact t h' ((F2.mono (UQ.mono rfl)).trans f') e1 e2 e3
def ufF : List Nat := [3586, 3594, 10000 + 2224, 10000 + 2192, 10000 + 2208]
def ufG : List Nat := uaF ++ [3594, 10000 + 2224, 10000 + 2192, 10000 + 2208]
/-- what a function leaves: it is the f-th, i instructions are before its own -/
def UFn (h h' : AH) (U f i p : Nat) (l : List Ix) : Prop :=
  (h'.I 3594 U = nI (i + l.length) ∧ IAt h' U i l ∧ ∀ j, j < i → h'.EI 2224 (U + 7) j = h.EI 2224 (U + 7) j) ∧
  (h'.EI 2192 (U + 5) f = nI p ∧ ∀ j, j ≠ f → h'.EI 2192 (U + 5) j = h.EI 2192 (U + 5) j) ∧
  (h'.EI 2208 (U + 6) f = nI i ∧ h'.EI 2208 (U + 6) (f + 1) = nI (i + l.length) ∧ ∀ j, j < f → h'.EI 2208 (U + 6) j = h.EI 2208 (U + 6) j)
theorem uovF_ok {G : Gt} {d : Nat} {h : AH} {K : Outcome → AH → Prop} {U n p i f : Nat} {B : Nat → Nat} (hs : SU h U n B) (ha : h.I 3586 U = nI p) (hp : p ≤ n) (hf : h.I 3587 U = 0) (hi : h.I 3594 U = nI i) (hip : i ≤ p) (hF : f < 64) (hd : 5 ≤ d)
    (kk : PQ (rdU n B p) (fun u p' => p < p' → p' ≤ n → i + (ui u).length ≤ p' → ∀ h', Fq (UQ ufF U) h h' → h'.I 3586 U = nI p' → UFn h h' U f i p (ui u) → K (.returned none) h') (UE K ufG U h (.returned none))) : MW G d e_X29_overFunction [.ref U, .int (nI f)] h K := by
  refine st_X29_overFunction fun X o hG hD _ => ?_
  subst hG; subst hD
  obtain ⟨⟨s0, ⟨z1, z2, z3, z4, z5, z6, z7, z8⟩, y1, y2, y3, y4, y5, y6, y7, y8⟩, -⟩ := id hs
  have hn := hs.2.2.1
  have hB := hs.2.2.2.1
  have ixf : IX (nI f) 64 f := IX.mk (by omega) (by omega)
  have ixf2 : IX (nI f) 65 f := IX.mk (by omega) (by omega)
  refine k_X29_overFunction_0 o ?_
  have f0 : Fq (UQ ufF U) h ((h.sEI 2192 (U + 5) f (nI p)).sEI 2208 (U + 6) f (nI i)) := ((Fq.refl h).sEI (t := 2192) (a := U + 5) ⟨rfl, by omega, by omega⟩).sEI (t := 2208) (a := U + 6) ⟨rfl, by omega, by omega⟩
  have q0 : ((h.sEI 2192 (U + 5) f (nI p)).sEI 2208 (U + 6) f (nI i)).I 3586 U = nI p ∧ ((h.sEI 2192 (U + 5) f (nI p)).sEI 2208 (U + 6) f (nI i)).I 3587 U = 0 ∧ ((h.sEI 2192 (U + 5) f (nI p)).sEI 2208 (U + 6) f (nI i)).I 3594 U = nI i := by
    refine ⟨?_, ?_, ?_⟩ <;> simpa [n_sI, z_sI, tag_sI, I_sI, J_sI, R_sI, EI_sI, EJ_sI, ER_sI, n_sJ, z_sJ, tag_sJ, I_sJ, J_sJ, R_sJ, EI_sJ, EJ_sJ, ER_sJ, n_sR, z_sR, tag_sR, I_sR, J_sR, R_sR, EI_sR, EJ_sR, ER_sR, n_sEI, z_sEI, tag_sEI, I_sEI, J_sEI, R_sEI, EI_sEI, EJ_sEI, ER_sEI, n_sEJ, z_sEJ, tag_sEJ, I_sEJ, J_sEJ, R_sEJ, EI_sEJ, EJ_sEJ, ER_sEJ, n_sER, z_sER, tag_sER, I_sER, J_sER, R_sER, EI_sER, EJ_sER, ER_sER, n_nw, z_nw, tag_nw, I_nw, J_nw, R_nw, EI_nw, EJ_nw, ER_nw]
  have q1 : ((h.sEI 2192 (U + 5) f (nI p)).sEI 2208 (U + 6) f (nI i)).EI 2192 (U + 5) f = nI p ∧ (∀ j, j ≠ f → ((h.sEI 2192 (U + 5) f (nI p)).sEI 2208 (U + 6) f (nI i)).EI 2192 (U + 5) j = h.EI 2192 (U + 5) j) ∧ ((h.sEI 2192 (U + 5) f (nI p)).sEI 2208 (U + 6) f (nI i)).EI 2208 (U + 6) f = nI i ∧ ∀ j, j < f → ((h.sEI 2192 (U + 5) f (nI p)).sEI 2208 (U + 6) f (nI i)).EI 2208 (U + 6) j = h.EI 2208 (U + 6) j := by
    refine ⟨by simp [n_sI, z_sI, tag_sI, I_sI, J_sI, R_sI, EI_sI, EJ_sI, ER_sI, n_sJ, z_sJ, tag_sJ, I_sJ, J_sJ, R_sJ, EI_sJ, EJ_sJ, ER_sJ, n_sR, z_sR, tag_sR, I_sR, J_sR, R_sR, EI_sR, EJ_sR, ER_sR, n_sEI, z_sEI, tag_sEI, I_sEI, J_sEI, R_sEI, EI_sEI, EJ_sEI, ER_sEI, n_sEJ, z_sEJ, tag_sEJ, I_sEJ, J_sEJ, R_sEJ, EI_sEJ, EJ_sEJ, ER_sEJ, n_sER, z_sER, tag_sER, I_sER, J_sER, R_sER, EI_sER, EJ_sER, ER_sER, n_nw, z_nw, tag_nw, I_nw, J_nw, R_nw, EI_nw, EJ_nw, ER_nw], fun j hj => by simp [n_sI, z_sI, tag_sI, I_sI, J_sI, R_sI, EI_sI, EJ_sI, ER_sI, n_sJ, z_sJ, tag_sJ, I_sJ, J_sJ, R_sJ, EI_sJ, EJ_sJ, ER_sJ, n_sR, z_sR, tag_sR, I_sR, J_sR, R_sR, EI_sR, EJ_sR, ER_sR, n_sEI, z_sEI, tag_sEI, I_sEI, J_sEI, R_sEI, EI_sEI, EJ_sEI, ER_sEI, n_sEJ, z_sEJ, tag_sEJ, I_sEJ, J_sEJ, R_sEJ, EI_sEJ, EJ_sEJ, ER_sEJ, n_sER, z_sER, tag_sER, I_sER, J_sER, R_sER, EI_sER, EJ_sER, ER_sER, n_nw, z_nw, tag_nw, I_nw, J_nw, R_nw, EI_nw, EJ_nw, ER_nw, hj], by simp [n_sI, z_sI, tag_sI, I_sI, J_sI, R_sI, EI_sI, EJ_sI, ER_sI, n_sJ, z_sJ, tag_sJ, I_sJ, J_sJ, R_sJ, EI_sJ, EJ_sJ, ER_sJ, n_sR, z_sR, tag_sR, I_sR, J_sR, R_sR, EI_sR, EJ_sR, ER_sR, n_sEI, z_sEI, tag_sEI, I_sEI, J_sEI, R_sEI, EI_sEI, EJ_sEI, ER_sEI, n_sEJ, z_sEJ, tag_sEJ, I_sEJ, J_sEJ, R_sEJ, EI_sEJ, EJ_sEJ, ER_sEJ, n_sER, z_sER, tag_sER, I_sER, J_sER, R_sER, EI_sER, EJ_sER, ER_sER, n_nw, z_nw, tag_nw, I_nw, J_nw, R_nw, EI_nw, EJ_nw, ER_nw], fun j hj => ?_⟩
    have : j ≠ f := by omega
    simp [n_sI, z_sI, tag_sI, I_sI, J_sI, R_sI, EI_sI, EJ_sI, ER_sI, n_sJ, z_sJ, tag_sJ, I_sJ, J_sJ, R_sJ, EI_sJ, EJ_sJ, ER_sJ, n_sR, z_sR, tag_sR, I_sR, J_sR, R_sR, EI_sR, EJ_sR, ER_sR, n_sEI, z_sEI, tag_sEI, I_sEI, J_sEI, R_sEI, EI_sEI, EJ_sEI, ER_sEI, n_sEJ, z_sEJ, tag_sEJ, I_sEJ, J_sEJ, R_sEJ, EI_sEJ, EJ_sEJ, ER_sEJ, n_sER, z_sER, tag_sER, I_sER, J_sER, R_sER, EI_sER, EJ_sER, ER_sER, n_nw, z_nw, tag_nw, I_nw, J_nw, R_nw, EI_nw, EJ_nw, ER_nw, this]
  have q2 : ∀ j, ((h.sEI 2192 (U + 5) f (nI p)).sEI 2208 (U + 6) f (nI i)).EI 2224 (U + 7) j = h.EI 2224 (U + 7) j := fun j => by simp [n_sI, z_sI, tag_sI, I_sI, J_sI, R_sI, EI_sI, EJ_sI, ER_sI, n_sJ, z_sJ, tag_sJ, I_sJ, J_sJ, R_sJ, EI_sJ, EJ_sJ, ER_sJ, n_sR, z_sR, tag_sR, I_sR, J_sR, R_sR, EI_sR, EJ_sR, ER_sR, n_sEI, z_sEI, tag_sEI, I_sEI, J_sEI, R_sEI, EI_sEI, EJ_sEI, ER_sEI, n_sEJ, z_sEJ, tag_sEJ, I_sEJ, J_sEJ, R_sEJ, EI_sEJ, EJ_sEJ, ER_sEJ, n_sER, z_sER, tag_sER, I_sER, J_sER, R_sER, EI_sER, EJ_sER, ER_sER, n_nw, z_nw, tag_nw, I_nw, J_nw, R_nw, EI_nw, EJ_nw, ER_nw]
  generalize ((h.sEI 2192 (U + 5) f (nI p)).sEI 2208 (U + 6) f (nI i)) = h0 at *
  obtain ⟨a0, g0, l0⟩ := q0
  have s00 := hs.uq f0 rfl
  have F0 := f0.mono (UQ.mono (l' := ufG) rfl)
  have kk := PQ_bd.mp kk
  refine ucount_ok s00 a0 hp g0 (by omega) (by omega) (by omega) (kk.mono (fun fl_ p1 e k1 hp1 _ h1 f1 a1 => ?_) (fun w q t h' f' e1 e2 e3 => ?_))
  rotate_left
  · have u' := (F0.trans (f'.mono (UQ.mono (l' := ufG) rfl))).1.tag s0
    refine k_X29_overFunction_27 o ?_
    refine uovLb_ok (v := .null) u' e2 (by omega) ?_
    refine k_X29_overFunction_34 o ?_
    refine ubad_ok u' e2 ?_
    refine k_X29_overFunction_38 o (fun c => absurd rfl c) (fun _ => ?_)
    refine k_X29_overFunction_41 o ?_
    exact t h' (F0.trans (f'.mono (UQ.mono rfl))) e1 e2 e3
  obtain ⟨-, rfl, hpn, -⟩ := rdC_ok e
  have s1 := s00.uq f1 rfl
  have u1 := s1.1.1
  have g1 : h1.I 3587 U = 0 := by rw [f1.1.I (UQ.n rfl)]; exact g0
  refine k_X29_overFunction_27 o ?_
  have bad1 : ∀ h', Fq (UQ uaF U) h1 h' → h'.I 3587 U ≠ 0 → K (.returned none) h' → V X K 34 [.ref U, .int (nI f), nov, nov, nov] [] h' := fun h' f' e2 k => by
    have u' := f'.1.tag u1
    refine k_X29_overFunction_34 o ?_
    refine ubad_ok u' e2 ?_
    refine k_X29_overFunction_38 o (fun c => absurd rfl c) (fun _ => ?_)
    refine k_X29_overFunction_41 o ?_
    exact k
  have F1 : Fq (UQ ufG U) h h1 := F0.trans (f1.mono (UQ.mono rfl))
  have k2 := PQ_bd.mp k1
  refine uovLs_ok s1 a1 hp1 g1 (by omega) (k2.mono (fun tk p2 e2 k3 => (PQ_bd.mp k3).mono (fun gv p3 e3 k4 => (PQ_bd.mp k4).mono (fun lc p4 e4 k5 b1 b2 h2 f2 a2 => ?_) (fun w q t h' f' e1 e2 e3 => bad1 h' f' e2 (t h' (F1.trans (f'.mono (UQ.mono rfl))) e1 e2 e3))) (fun w q t h' f' e1 e2 e3 => bad1 h' f' e2 (t h' (F1.trans (f'.mono (UQ.mono rfl))) e1 e2 e3))) (fun w q t h' f' e1 e2 e3 => bad1 h' f' e2 (t h' (F1.trans (f'.mono (UQ.mono rfl))) e1 e2 e3)))
  have s2 := s1.uq f2 rfl
  have u2 := s2.1.1
  have g2 : h2.I 3587 U = 0 := by rw [f2.1.I (UQ.n rfl)]; exact g1
  have F2 : Fq (UQ ufG U) h h2 := F1.trans (f2.mono (UQ.mono rfl))
  show V X K 34 [.ref U, .int (nI f), nov, nov, nov] [] h2
  refine k_X29_overFunction_34 o ?_
  refine ugood_ok u2 g2 ?_
  refine k_X29_overFunction_38 o (fun _ => ?_) (fun c => absurd c (by decide))
  refine k_X29_overFunction_42 o ?_
  have k6 := PQ_bd.mp k5
  refine uoverN_ok (v := 0) s2 a2 b2 g2 (by omega) (by omega) (k6.mono (fun ct p5 e5 k7 b3 h3 f3 a3 => ?_) (fun w q t h' f' e1 e2 e3 => ?_))
  rotate_left
  · have u' := f'.1.tag u2
    refine k_X29_overFunction_47 o ?_
    refine ubad_ok u' e2 ?_
    refine k_X29_overFunction_52 o (fun c => absurd rfl c) (fun _ => ?_)
    refine k_X29_overFunction_55 o ?_
    exact t h' (F2.trans (f'.mono (UQ.mono rfl))) e1 e2 e3
  have s3 := s2.uq f3 rfl
  have u3 := s3.1.1
  have g3 : h3.I 3587 U = 0 := by rw [f3.1.I (UQ.n rfl)]; exact g2
  have F3g : Fq (UQ ufF U) h h3 := ((f0.trans (f1.mono (UQ.mono rfl))).trans (f2.mono (UQ.mono rfl))).trans (f3.mono (UQ.mono rfl))
  have F3 := F3g.mono (UQ.mono (l' := ufG) rfl)
  have ect : ct = 256 * B p4 + B (p4 + 1) ∧ p5 = p4 + 2 := by
    have := rdN_ok e5
    exact ⟨by rw [this.1]; simp [bn], this.2.1⟩
  have f13 : Fq (UQ [3586] U) h0 h3 := (f1.trans f2).trans f3
  have l3 : h3.I 3594 U = nI i := by rw [f13.1.I (UQ.n rfl)]; exact l0
  refine k_X29_overFunction_47 o ?_
  refine ugood_ok u3 g3 ?_
  refine k_X29_overFunction_52 o (fun _ => ?_) (fun c => absurd c (by decide))
  refine k_X29_overFunction_56 o ?_
  have hb1 := hB p4
  have hb2 := hB (p4 + 1)
  refine ushort_ok s3 (by omega) (by omega) ?_
  rw [← ect.1]
  have hct : ct < 65536 := by omega
  -- the end
  have fin : ∀ hx v4, Fq (UQ ufF U) h3 hx → True → K (.returned none) (hx.sEI 2208 (U + 6) (f + 1) (hx.I 3594 U)) → V X K 118 [.ref U, .int (nI f), .int (nI p4), .int (nI ct), v4] [] hx := fun hx v4 fx _ k => by
    have sx := s3.uq fx rfl
    obtain ⟨⟨w0, ⟨w1, w2, w3, w4, w5, w6, w7, w8⟩, x1, x2, x3, x4, x5, x6, x7, x8⟩, -⟩ := id sx
    have ixg : IX (nI f + nI 1) 65 (f + 1) := by rw [nI_add]; exact IX.mk (by omega) (by omega)
    exact k_X29_overFunction_118 o k
  have finb : ∀ hx v4 w q, Fq (UQ ufG U) h3 hx → hx.I 3587 U = nI w → hx.I 3587 U ≠ 0 → hx.I 3588 U = nI q → UE K ufG U h (.returned none) w q → V X K 118 [.ref U, .int (nI f), .int (nI p4), .int (nI ct), v4] [] hx := fun hx v4 w q fx e1 e2 e3 t => by
    have sx := s3.uq fx rfl
    obtain ⟨⟨w0, ⟨w1, w2, w3, w4, w5, w6, w7, w8⟩, x1, x2, x3, x4, x5, x6, x7, x8⟩, -⟩ := id sx
    have ixg : IX (nI f + nI 1) 65 (f + 1) := by rw [nI_add]; exact IX.mk (by omega) (by omega)
    refine k_X29_overFunction_118 o ?_
    refine t _ ((F3.trans fx).sEI ⟨rfl, by omega, by omega⟩) ?_ ?_ ?_
    · simpa [n_sI, z_sI, tag_sI, I_sI, J_sI, R_sI, EI_sI, EJ_sI, ER_sI, n_sJ, z_sJ, tag_sJ, I_sJ, J_sJ, R_sJ, EI_sJ, EJ_sJ, ER_sJ, n_sR, z_sR, tag_sR, I_sR, J_sR, R_sR, EI_sR, EJ_sR, ER_sR, n_sEI, z_sEI, tag_sEI, I_sEI, J_sEI, R_sEI, EI_sEI, EJ_sEI, ER_sEI, n_sEJ, z_sEJ, tag_sEJ, I_sEJ, J_sEJ, R_sEJ, EI_sEJ, EJ_sEJ, ER_sEJ, n_sER, z_sER, tag_sER, I_sER, J_sER, R_sER, EI_sER, EJ_sER, ER_sER, n_nw, z_nw, tag_nw, I_nw, J_nw, R_nw, EI_nw, EJ_nw, ER_nw] using e1
    · simpa [n_sI, z_sI, tag_sI, I_sI, J_sI, R_sI, EI_sI, EJ_sI, ER_sI, n_sJ, z_sJ, tag_sJ, I_sJ, J_sJ, R_sJ, EI_sJ, EJ_sJ, ER_sJ, n_sR, z_sR, tag_sR, I_sR, J_sR, R_sR, EI_sR, EJ_sR, ER_sR, n_sEI, z_sEI, tag_sEI, I_sEI, J_sEI, R_sEI, EI_sEI, EJ_sEI, ER_sEI, n_sEJ, z_sEJ, tag_sEJ, I_sEJ, J_sEJ, R_sEJ, EI_sEJ, EJ_sEJ, ER_sEJ, n_sER, z_sER, tag_sER, I_sER, J_sER, R_sER, EI_sER, EJ_sER, ER_sER, n_nw, z_nw, tag_nw, I_nw, J_nw, R_nw, EI_nw, EJ_nw, ER_nw] using e2
    · simpa [n_sI, z_sI, tag_sI, I_sI, J_sI, R_sI, EI_sI, EJ_sI, ER_sI, n_sJ, z_sJ, tag_sJ, I_sJ, J_sJ, R_sJ, EI_sJ, EJ_sJ, ER_sJ, n_sR, z_sR, tag_sR, I_sR, J_sR, R_sR, EI_sR, EJ_sR, ER_sR, n_sEI, z_sEI, tag_sEI, I_sEI, J_sEI, R_sEI, EI_sEI, EJ_sEI, ER_sEI, n_sEJ, z_sEJ, tag_sEJ, I_sEJ, J_sEJ, R_sEJ, EI_sEJ, EJ_sEJ, ER_sEJ, n_sER, z_sER, tag_sER, I_sER, J_sER, R_sER, EI_sER, EJ_sER, ER_sER, n_nw, z_nw, tag_nw, I_nw, J_nw, R_nw, EI_nw, EJ_nw, ER_nw] using e3
  have loopb : ∀ hx v4 w q, Fq (UQ ufG U) h3 hx → hx.I 3587 U = nI w → hx.I 3587 U ≠ 0 → hx.I 3588 U = nI q → UE K ufG U h (.returned none) w q → V X K 95 [.ref U, .int (nI f), .int (nI p4), .int (nI ct), .int v4] [] hx := fun hx v4 w q fx e1 e2 e3 t => by
    have u' := fx.1.tag u3
    refine k_X29_overFunction_95 o (fun _ => ?_) (fun _ => ?_)
    · exact finb hx _ w q fx e1 e2 e3 t
    refine k_X29_overFunction_101 o ?_
    refine ubad_ok u' e2 ?_
    refine k_X29_overFunction_105 o (fun _ => ?_) (fun c => absurd rfl c)
    exact finb hx _ w q fx e1 e2 e3 t
  have k8 := PQ_bd.mp k7
  have fl : ¬ (1 ≤ ct ∧ ct ≤ 1024) → V X K 86 [.ref U, .int (nI f), .int (nI p4), .int (nI ct), nov] [] h3 := fun c => by
    rw [decide_eq_false c] at k8
    have k8 := PQ_nf.mp k8
    refine k_X29_overFunction_86 o ?_
    refine ufail_ok u3 g3 (by decide) fun h' f' e1 e2 e3 => ?_
    refine k_X29_overFunction_92 o ?_
    exact loopb h' _ 3 p4 (f'.mono (UQ.mono rfl)) e1 e2 e3 k8
  refine k_X29_overFunction_61 o (fun c => ?_) (fun c => ?_)
  · exact fl fun z => absurd ((nI_ltI (by omega) (by omega)).mp c) (by omega)
  have c1 : 1 ≤ ct := Nat.not_lt.mp fun z => c ((nI_ltI (by omega) (by omega)).mpr z)
  refine k_X29_overFunction_67 o (fun c => ?_) (fun c => ?_)
  · exact fl fun z => absurd ((nI_ltI (by omega) (by omega)).mp c) (by omega)
  have c2 : ct ≤ 1024 := Nat.not_lt.mp fun z => c ((nI_ltI (by omega) (by omega)).mpr z)
  rw [decide_eq_true ⟨c1, c2⟩] at k8
  have k8 := PQ_nt.mp k8
  refine k_X29_overFunction_74 o (fun _ => ?_) (fun c => ?_)
  rotate_left
  · refine absurd ?_ c
    rw [nI_add]; exact (nI_leI (by omega) (by omega)).mpr (by omega)
  refine k_X29_overFunction_92 o ?_
  have k9 := PQ_bd.mp (show PQ (bd (rep (rdI n B) ct p5) fun is p6 => .ok ((fl_, tk, gv, lc, is), p6)) _ _ from k8)
  have loop : ∀ k j q acc hx, k + j = ct → acc.length = j → i + j ≤ q → p < q → q ≤ n → Fq (UQ uiF U) h3 hx → hx.I 3586 U = nI q → hx.I 3594 U = nI (i + j) → IAt hx U i acc → (∀ j, j < i → hx.EI 2224 (U + 7) j = h3.EI 2224 (U + 7) j) → PQ (rep (rdI n B) k q) (fun l p' => PQ (.ok ((fl_, tk, gv, lc, acc ++ l), p') : Pz Ux) (fun u p' => p < p' → p' ≤ n → i + (ui u).length ≤ p' → ∀ h', Fq (UQ ufF U) h h' → h'.I 3586 U = nI p' → UFn h h' U f i p (ui u) → K (.returned none) h') (UE K ufG U h (.returned none))) (UE K ufG U h (.returned none)) → V X K 95 [.ref U, .int (nI f), .int (nI p4), .int (nI ct), .int (nI j)] [] hx := by
    intro k
    induction k with
    | zero =>
      intro j q acc hx hj hacc hiq hpq hqn fx ax lx ix ox kx
      refine k_X29_overFunction_95 o (fun _ => ?_) (fun c => ?_)
      rotate_left
      · exact absurd ((nI_leI (by omega) (by omega)).mpr (by omega)) c
      refine fin hx _ (fx.mono (UQ.mono rfl)) trivial ?_
      have kx : p < q → q ≤ n → i + (acc ++ []).length ≤ q → ∀ h', Fq (UQ ufF U) h h' → h'.I 3586 U = nI q → UFn h h' U f i p (acc ++ []) → K (.returned none) h' := kx
      rw [List.append_nil] at kx
      refine kx hpq hqn (by omega) _ ((F3g.trans (fx.mono (UQ.mono rfl))).sEI ⟨rfl, by omega, by omega⟩) (by simpa [n_sI, z_sI, tag_sI, I_sI, J_sI, R_sI, EI_sI, EJ_sI, ER_sI, n_sJ, z_sJ, tag_sJ, I_sJ, J_sJ, R_sJ, EI_sJ, EJ_sJ, ER_sJ, n_sR, z_sR, tag_sR, I_sR, J_sR, R_sR, EI_sR, EJ_sR, ER_sR, n_sEI, z_sEI, tag_sEI, I_sEI, J_sEI, R_sEI, EI_sEI, EJ_sEI, ER_sEI, n_sEJ, z_sEJ, tag_sEJ, I_sEJ, J_sEJ, R_sEJ, EI_sEJ, EJ_sEJ, ER_sEJ, n_sER, z_sER, tag_sER, I_sER, J_sER, R_sER, EI_sER, EJ_sER, ER_sER, n_nw, z_nw, tag_nw, I_nw, J_nw, R_nw, EI_nw, EJ_nw, ER_nw] using ax) ?_
      have hle : acc.length = j := hacc
      have e5 : ∀ j, hx.EI 2192 (U + 5) j = h0.EI 2192 (U + 5) j := fun j => by rw [fx.1.EI (UQ.n rfl), f13.1.EI (UQ.n rfl)]
      have e6 : ∀ j, hx.EI 2208 (U + 6) j = h0.EI 2208 (U + 6) j := fun j => by rw [fx.1.EI (UQ.n rfl), f13.1.EI (UQ.n rfl)]
      refine ⟨⟨?_, fun a x hax => ?_, fun a ha' => ?_⟩, ⟨?_, fun a ha' => ?_⟩, ?_, ?_, fun a ha' => ?_⟩
      · rw [hle]; simpa [n_sI, z_sI, tag_sI, I_sI, J_sI, R_sI, EI_sI, EJ_sI, ER_sI, n_sJ, z_sJ, tag_sJ, I_sJ, J_sJ, R_sJ, EI_sJ, EJ_sJ, ER_sJ, n_sR, z_sR, tag_sR, I_sR, J_sR, R_sR, EI_sR, EJ_sR, ER_sR, n_sEI, z_sEI, tag_sEI, I_sEI, J_sEI, R_sEI, EI_sEI, EJ_sEI, ER_sEI, n_sEJ, z_sEJ, tag_sEJ, I_sEJ, J_sEJ, R_sEJ, EI_sEJ, EJ_sEJ, ER_sEJ, n_sER, z_sER, tag_sER, I_sER, J_sER, R_sER, EI_sER, EJ_sER, ER_sER, n_nw, z_nw, tag_nw, I_nw, J_nw, R_nw, EI_nw, EJ_nw, ER_nw] using lx
      · have := ix a x hax
        simpa [n_sI, z_sI, tag_sI, I_sI, J_sI, R_sI, EI_sI, EJ_sI, ER_sI, n_sJ, z_sJ, tag_sJ, I_sJ, J_sJ, R_sJ, EI_sJ, EJ_sJ, ER_sJ, n_sR, z_sR, tag_sR, I_sR, J_sR, R_sR, EI_sR, EJ_sR, ER_sR, n_sEI, z_sEI, tag_sEI, I_sEI, J_sEI, R_sEI, EI_sEI, EJ_sEI, ER_sEI, n_sEJ, z_sEJ, tag_sEJ, I_sEJ, J_sEJ, R_sEJ, EI_sEJ, EJ_sEJ, ER_sEJ, n_sER, z_sER, tag_sER, I_sER, J_sER, R_sER, EI_sER, EJ_sER, ER_sER, n_nw, z_nw, tag_nw, I_nw, J_nw, R_nw, EI_nw, EJ_nw, ER_nw] using this
      · have : hx.EI 2224 (U + 7) a = h.EI 2224 (U + 7) a := by rw [ox a ha', f13.1.EI (UQ.n rfl), q2]
        simpa [n_sI, z_sI, tag_sI, I_sI, J_sI, R_sI, EI_sI, EJ_sI, ER_sI, n_sJ, z_sJ, tag_sJ, I_sJ, J_sJ, R_sJ, EI_sJ, EJ_sJ, ER_sJ, n_sR, z_sR, tag_sR, I_sR, J_sR, R_sR, EI_sR, EJ_sR, ER_sR, n_sEI, z_sEI, tag_sEI, I_sEI, J_sEI, R_sEI, EI_sEI, EJ_sEI, ER_sEI, n_sEJ, z_sEJ, tag_sEJ, I_sEJ, J_sEJ, R_sEJ, EI_sEJ, EJ_sEJ, ER_sEJ, n_sER, z_sER, tag_sER, I_sER, J_sER, R_sER, EI_sER, EJ_sER, ER_sER, n_nw, z_nw, tag_nw, I_nw, J_nw, R_nw, EI_nw, EJ_nw, ER_nw] using this
      · have := (e5 f).trans q1.1
        simpa [n_sI, z_sI, tag_sI, I_sI, J_sI, R_sI, EI_sI, EJ_sI, ER_sI, n_sJ, z_sJ, tag_sJ, I_sJ, J_sJ, R_sJ, EI_sJ, EJ_sJ, ER_sJ, n_sR, z_sR, tag_sR, I_sR, J_sR, R_sR, EI_sR, EJ_sR, ER_sR, n_sEI, z_sEI, tag_sEI, I_sEI, J_sEI, R_sEI, EI_sEI, EJ_sEI, ER_sEI, n_sEJ, z_sEJ, tag_sEJ, I_sEJ, J_sEJ, R_sEJ, EI_sEJ, EJ_sEJ, ER_sEJ, n_sER, z_sER, tag_sER, I_sER, J_sER, R_sER, EI_sER, EJ_sER, ER_sER, n_nw, z_nw, tag_nw, I_nw, J_nw, R_nw, EI_nw, EJ_nw, ER_nw] using this
      · have := (e5 a).trans (q1.2.1 a ha')
        simpa [n_sI, z_sI, tag_sI, I_sI, J_sI, R_sI, EI_sI, EJ_sI, ER_sI, n_sJ, z_sJ, tag_sJ, I_sJ, J_sJ, R_sJ, EI_sJ, EJ_sJ, ER_sJ, n_sR, z_sR, tag_sR, I_sR, J_sR, R_sR, EI_sR, EJ_sR, ER_sR, n_sEI, z_sEI, tag_sEI, I_sEI, J_sEI, R_sEI, EI_sEI, EJ_sEI, ER_sEI, n_sEJ, z_sEJ, tag_sEJ, I_sEJ, J_sEJ, R_sEJ, EI_sEJ, EJ_sEJ, ER_sEJ, n_sER, z_sER, tag_sER, I_sER, J_sER, R_sER, EI_sER, EJ_sER, ER_sER, n_nw, z_nw, tag_nw, I_nw, J_nw, R_nw, EI_nw, EJ_nw, ER_nw] using this
      · have := (e6 f).trans q1.2.2.1
        simpa [n_sI, z_sI, tag_sI, I_sI, J_sI, R_sI, EI_sI, EJ_sI, ER_sI, n_sJ, z_sJ, tag_sJ, I_sJ, J_sJ, R_sJ, EI_sJ, EJ_sJ, ER_sJ, n_sR, z_sR, tag_sR, I_sR, J_sR, R_sR, EI_sR, EJ_sR, ER_sR, n_sEI, z_sEI, tag_sEI, I_sEI, J_sEI, R_sEI, EI_sEI, EJ_sEI, ER_sEI, n_sEJ, z_sEJ, tag_sEJ, I_sEJ, J_sEJ, R_sEJ, EI_sEJ, EJ_sEJ, ER_sEJ, n_sER, z_sER, tag_sER, I_sER, J_sER, R_sER, EI_sER, EJ_sER, ER_sER, n_nw, z_nw, tag_nw, I_nw, J_nw, R_nw, EI_nw, EJ_nw, ER_nw] using this
      · rw [hle, ← lx]; simp [n_sI, z_sI, tag_sI, I_sI, J_sI, R_sI, EI_sI, EJ_sI, ER_sI, n_sJ, z_sJ, tag_sJ, I_sJ, J_sJ, R_sJ, EI_sJ, EJ_sJ, ER_sJ, n_sR, z_sR, tag_sR, I_sR, J_sR, R_sR, EI_sR, EJ_sR, ER_sR, n_sEI, z_sEI, tag_sEI, I_sEI, J_sEI, R_sEI, EI_sEI, EJ_sEI, ER_sEI, n_sEJ, z_sEJ, tag_sEJ, I_sEJ, J_sEJ, R_sEJ, EI_sEJ, EJ_sEJ, ER_sEJ, n_sER, z_sER, tag_sER, I_sER, J_sER, R_sER, EI_sER, EJ_sER, ER_sER, n_nw, z_nw, tag_nw, I_nw, J_nw, R_nw, EI_nw, EJ_nw, ER_nw]
      · have := (e6 a).trans (q1.2.2.2 a ha')
        have ne : a ≠ f + 1 := by omega
        simpa [n_sI, z_sI, tag_sI, I_sI, J_sI, R_sI, EI_sI, EJ_sI, ER_sI, n_sJ, z_sJ, tag_sJ, I_sJ, J_sJ, R_sJ, EI_sJ, EJ_sJ, ER_sJ, n_sR, z_sR, tag_sR, I_sR, J_sR, R_sR, EI_sR, EJ_sR, ER_sR, n_sEI, z_sEI, tag_sEI, I_sEI, J_sEI, R_sEI, EI_sEI, EJ_sEI, ER_sEI, n_sEJ, z_sEJ, tag_sEJ, I_sEJ, J_sEJ, R_sEJ, EI_sEJ, EJ_sEJ, ER_sEJ, n_sER, z_sER, tag_sER, I_sER, J_sER, R_sER, EI_sER, EJ_sER, ER_sER, n_nw, z_nw, tag_nw, I_nw, J_nw, R_nw, EI_nw, EJ_nw, ER_nw, ne] using this
    | succ k ih =>
      intro j q acc hx hj hacc hiq hpq hqn fx ax lx ix ox kx
      have sx := s3.uq fx rfl
      have u' := sx.1.1
      have g' : hx.I 3587 U = 0 := by rw [fx.1.I (UQ.n rfl)]; exact g3
      have kx := PQ_bd.mp kx
      refine k_X29_overFunction_95 o (fun c => ?_) (fun _ => ?_)
      · exact absurd ((nI_leI (by omega) (by omega)).mp c) (by omega)
      refine k_X29_overFunction_101 o ?_
      refine ugood_ok u' g' ?_
      refine k_X29_overFunction_105 o (fun c => absurd c (by decide)) (fun _ => ?_)
      refine k_X29_overFunction_108 o ?_
      refine uovI_ok (i := i + j) sx ax hqn g' lx hiq (by omega) (kx.mono (fun x p2 _ k2 b1 b2 hx2 h4 f4 a4 l4 i4 o4 => ?_) (fun w q t h' f' e1 e2 e3 => ?_))
      · refine k_X29_overFunction_112 o ?_
        rw [nI_add]
        refine ih (j + 1) p2 (acc ++ [x]) h4 (by omega) (by simp; omega) (by omega) (by omega) b2 (fx.trans f4) a4 (by rw [l4]; rfl) (fun a y hay => ?_) (fun a ha' => ?_) ?_
        · by_cases ca : a < acc.length
          · rw [List.getElem?_append_left ca] at hay
            rw [o4 (i + a) (by omega)]; exact ix a y hay
          · have : a = acc.length := by have := get_lt hay; simp at this; omega
            subst this
            simp at hay
            subst hay
            rw [hx2, hacc]; exact i4
        · rw [o4 a (by omega)]; exact ox a ha'
        · refine (PQ_bd.mp k2).mono (fun l p' _ z => ?_) (fun _ _ z => z)
          rw [List.append_assoc]; exact z
      · refine k_X29_overFunction_112 o ?_
        exact loopb h' _ w q ((fx.mono (UQ.mono rfl)).trans (f'.mono (UQ.mono rfl))) e1 e2 e3 t
  exact loop ct 0 p5 [] h3 (by omega) rfl (by omega) (by omega) b3 (Fq.refl h3) a3 l3 (fun a x hax => by simp at hax) (fun _ _ => rfl) k9
