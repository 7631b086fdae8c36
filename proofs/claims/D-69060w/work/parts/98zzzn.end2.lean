/-! frames end, those above others -/
section
variable {G : Gt} {B d : Nat} {h : AH} {l : List Nat} {o : Lc} {wi W A q BA X tt lim SP t : Nat} {snd : Int64} {MA : Ma} {s : Ms} {K : Outcome → AH → Prop}
theorem cframe_ok {j : Nat} (w : SWk h W) (hd : h.I 2438 W = nI (j + 1)) (hj : j < 32) (kk : K (.returned (some (.ref (Fa W j)))) h) : MW G d e_X20_frame [.ref W] h K := by
  refine st_X20_frame fun XX oo hG hD _ => ?_
  subst hG; subst hD
  obtain ⟨⟨w1, w2, w3⟩, -, w4, -⟩ := w
  have ix : IX (nI (j + 1) - nI 1) 32 j := by rw [nI_sub (by omega)]; exact IX.mk (by omega) (by omega)
  have e := (w4 j hj).1
  exact k_X20_frame_0 (x11 := some (Fa W j)) (r4 := hd) (r10 := e) oo kk
theorem WkR.cong {s' : Ms} (w : WkR h o wi W MA s) (e1 : s'.1 = s.1) (e2 : ∀ j, j < s.1 → s'.2.1 j = s.2.1 j) (e3 : s'.2.2 = s.2.2) : WkR h o wi W MA s' := by
  obtain ⟨F, s'⟩ := s'
  obtain ⟨s1, F0, s2⟩ := s
  obtain ⟨F1, s3⟩ := s'
  dsimp only at e1 e2 e3
  subst e1; subst e3
  obtain ⟨w1, w7, w8, w9⟩ := w
  exact ⟨w1, fun j hj => by have := w7 j hj; dsimp only at this ⊢; rw [← e2 j hj] at this; exact this, w8, w9⟩
theorem end_66 {XX : Xt} (oo : OK e_X1_end XX) {t1 : Nat} {l3 l4 l5 : Value} (H : OPR XX.G B h A W q BA X tt snd lim SP wi MA l o (Edr s 40)) (ht : t1 + 2 = s.1) (hl0 : ∀ k, o (2, wi, t1 + 1, k) = none) (h64 : (s.2.1 t1).2.2.2.length + (stk s).length ≤ 64) (hd : 10 ≤ XX.d) (kk : ∀ h' l' o', OUT wi W h h' o o' → OPR XX.G B h' A W q BA X tt snd lim SP wi MA l' o' (sK ((s.1 - 1, s.2.1, s.2.2) : Ms) (stk s ++ stk ((s.1 - 1, s.2.1, s.2.2) : Ms))) → K (.returned none) h') : V XX K 66 [.ref A, .int (nI (stk s).length), .int (nI 40), l3, l4, l5] [] h := by
  obtain ⟨c, v, w, hf, hg, hw⟩ := id H
  have hS : (Edr s 40).1 = s.1 := rfl
  have hst : stk (Edr s 40) = stk s := by
    unfold stk tpf
    rw [hS, show s.1 - 1 = t1 + 1 by omega, Edr_t (t := t1 + 1) (by omega)]
    show stk s = _
    unfold stk tpf
    rw [show s.1 - 1 = t1 + 1 by omega]
  have ef : (Edr s 40).2.1 t1 = s.2.1 t1 := Edr_j (t := t1 + 1) (by omega) (by omega)
  have s32 : s.1 ≤ 32 := w.1.2.2.2.1
  have hf : h.R 28 A = some (Fa W (t1 + 1)) := by rw [hf, hS, show s.1 - 1 = t1 + 1 by omega]
  have t0 := c.1.1
  have rw0 := c.1.2.2.1
  have tW := w.1.1.1.1
  have dW : h.I 2438 W = nI (t1 + 2) := by rw [w.1.2.1, hS, ht]
  have ed : nI (t1 + 2) - nI 1 = nI (t1 + 1) := by rw [nI_sub (by omega)]; rfl
  obtain ⟨-, f1, f2, f3, f4, f5⟩ := w.1.1.2.2.1 (t1 + 1) (by omega)
  obtain ⟨-, g1, g2, g3, g4, g5⟩ := w.1.1.2.2.1 t1 (by omega)
  obtain ⟨⟨-, -, -, m4, m5⟩, m6, m7, -, -⟩ := w.2.1 t1 (by rw [hS]; omega)
  rw [ef] at m4 m5 m6 m7
  obtain ⟨-, n6, -⟩ := w.2.1 (t1 + 1) (by rw [hS]; omega)
  have n6 : StR h o wi (t1 + 1) (Fa W (t1 + 1)) (stk s) := by
    rw [Edr_t (t := t1 + 1) (by omega)] at n6; exact n6
  refine k_X1_end_66 (x8 := nI (t1 + 2)) (x13 := nI (t1 + 1)) (r7 := dW) (r12 := by rw [ed]; simp [n_sI, z_sI, tag_sI, I_sI, J_sI, R_sI, EI_sI, EJ_sI, ER_sI, n_sJ, z_sJ, tag_sJ, I_sJ, J_sJ, R_sJ, EI_sJ, EJ_sJ, ER_sJ, n_sR, z_sR, tag_sR, I_sR, J_sR, R_sR, EI_sR, EJ_sR, ER_sR, n_sEI, z_sEI, tag_sEI, I_sEI, J_sEI, R_sEI, EI_sEI, EJ_sEI, ER_sEI, n_sEJ, z_sEJ, tag_sEJ, I_sEJ, J_sEJ, R_sEJ, EI_sEJ, EJ_sEJ, ER_sEJ, n_sER, z_sER, tag_sER, I_sER, J_sER, R_sER, EI_sER, EJ_sER, ER_sER, n_nw, z_nw, tag_nw, I_nw, J_nw, R_nw, EI_nw, EJ_nw, ER_nw]) oo (fun c => absurd ((nI_le0 (by omega)).mp c) (by omega)) (fun _ => ?_)
  rw [ed]
  have fa : Fq (PGv W A t1) h (h.sI 2438 W (nI (t1 + 1))) := Fq.sI (Fq.refl h) (Or.inl ⟨rfl, rfl⟩)
  have swn := PGv.no (W := W) (A := A) (t1 := t1) (l := swF) rfl
  have ra : (h.sI 2438 W (nI (t1 + 1))).R 26 A = some W := by rw [fa.1.R (PGv.no (l := [26]) rfl _ _ rfl)]; exact rw0
  refine k_X1_end_94 (t1 := fa.1.tag t0) (r2 := ra) (t4 := fa.1.tag tW) oo ?_
  refine cframe_ok (j := t1) (w.1.1.fr fa.1 swn) (by simp [n_sI, z_sI, tag_sI, I_sI, J_sI, R_sI, EI_sI, EJ_sI, ER_sI, n_sJ, z_sJ, tag_sJ, I_sJ, J_sJ, R_sJ, EI_sJ, EJ_sJ, ER_sJ, n_sR, z_sR, tag_sR, I_sR, J_sR, R_sR, EI_sR, EJ_sR, ER_sR, n_sEI, z_sEI, tag_sEI, I_sEI, J_sEI, R_sEI, EI_sEI, EJ_sEI, ER_sEI, n_sEJ, z_sEJ, tag_sEJ, I_sEJ, J_sEJ, R_sEJ, EI_sEJ, EJ_sEJ, ER_sEJ, n_sER, z_sER, tag_sER, I_sER, J_sER, R_sER, EI_sER, EJ_sER, ER_sER, n_nw, z_nw, tag_nw, I_nw, J_nw, R_nw, EI_nw, EJ_nw, ER_nw]) (by omega) ?_
  refine k_X1_end_102 (t1 := fa.1.tag t0) oo ?_
  -- the loop
  have loop : ∀ (r k : Nat), r + k = (stk s).length → ∀ hk, Fq (PGv W A t1) h hk → hk.I 2438 W = nI (t1 + 1) → hk.R 28 A = some (Fa W t1) → hk.I 2565 (Fa W t1) = nI ((s.2.1 t1).2.2.2.length + k) → (∀ i, i < k → hk.ER 747 (Fa W t1 + 2) ((s.2.1 t1).2.2.2.length + i) = h.ER 747 (Fa W (t1 + 1) + 2) i) → (∀ i, i < (s.2.1 t1).2.2.2.length → hk.ER 747 (Fa W t1 + 2) i = h.ER 747 (Fa W t1 + 2) i) → (∀ i, hk.ER 747 (Fa W (t1 + 1) + 2) i = h.ER 747 (Fa W (t1 + 1) + 2) i) → V XX K 107 [.ref A, .int (nI (stk s).length), .ref (Fa W (t1 + 1)), .int (nI k), l4, l5] [] hk := by
    intro r
    induction r with
    | zero =>
      intro k hk hh q0 q1 q2 q3 q4 q5 q6
      have e : k = (stk s).length := by omega
      subst e
      refine k_X1_end_107 oo (fun _ => ?_) (fun c => absurd (Int32.le_refl _) c)
      have tF := q0.1.tag f1
      refine k_X1_end_128 oo ?_
      have nF : Fa W (t1 + 1) ≠ Fa W t1 := by unfold Fa; omega
      have fq : Fq (PGv W A t1) h (hh.sI 2565 (Fa W (t1 + 1)) (nI 0)) := q0.sI (Or.inr (Or.inr ⟨Or.inl rfl, by unfold Fa; omega, by unfold Fa; omega⟩))
      have w2 := w.give (A := A) (t1 := t1) (by rw [hS]; omega) hl0 fq.1 (by simp [n_sI, z_sI, tag_sI, I_sI, J_sI, R_sI, EI_sI, EJ_sI, ER_sI, n_sJ, z_sJ, tag_sJ, I_sJ, J_sJ, R_sJ, EI_sJ, EJ_sJ, ER_sJ, n_sR, z_sR, tag_sR, I_sR, J_sR, R_sR, EI_sR, EJ_sR, ER_sR, n_sEI, z_sEI, tag_sEI, I_sEI, J_sEI, R_sEI, EI_sEI, EJ_sEI, ER_sEI, n_sEJ, z_sEJ, tag_sEJ, I_sEJ, J_sEJ, R_sEJ, EI_sEJ, EJ_sEJ, ER_sEJ, n_sER, z_sER, tag_sER, I_sER, J_sER, R_sER, EI_sER, EJ_sER, ER_sER, n_nw, z_nw, tag_nw, I_nw, J_nw, R_nw, EI_nw, EJ_nw, ER_nw]; exact q1) (by rw [ef, hst]; simp [n_sI, z_sI, tag_sI, I_sI, J_sI, R_sI, EI_sI, EJ_sI, ER_sI, n_sJ, z_sJ, tag_sJ, I_sJ, J_sJ, R_sJ, EI_sJ, EJ_sJ, ER_sJ, n_sR, z_sR, tag_sR, I_sR, J_sR, R_sR, EI_sR, EJ_sR, ER_sR, n_sEI, z_sEI, tag_sEI, I_sEI, J_sEI, R_sEI, EI_sEI, EJ_sEI, ER_sEI, n_sEJ, z_sEJ, tag_sEJ, I_sEJ, J_sEJ, R_sEJ, EI_sEJ, EJ_sEJ, ER_sEJ, n_sER, z_sER, tag_sER, I_sER, J_sER, R_sER, EI_sER, EJ_sER, ER_sER, n_nw, z_nw, tag_nw, I_nw, J_nw, R_nw, EI_nw, EJ_nw, ER_nw, nF, nF.symm]; exact q3) (by rw [ef, hst]; exact h64) (by rw [ef, hst]; intro i hi; simp [n_sI, z_sI, tag_sI, I_sI, J_sI, R_sI, EI_sI, EJ_sI, ER_sI, n_sJ, z_sJ, tag_sJ, I_sJ, J_sJ, R_sJ, EI_sJ, EJ_sJ, ER_sJ, n_sR, z_sR, tag_sR, I_sR, J_sR, R_sR, EI_sR, EJ_sR, ER_sR, n_sEI, z_sEI, tag_sEI, I_sEI, J_sEI, R_sEI, EI_sEI, EJ_sEI, ER_sEI, n_sEJ, z_sEJ, tag_sEJ, I_sEJ, J_sEJ, R_sEJ, EI_sEJ, EJ_sEJ, ER_sEJ, n_sER, z_sER, tag_sER, I_sER, J_sER, R_sER, EI_sER, EJ_sER, ER_sER, n_nw, z_nw, tag_nw, I_nw, J_nw, R_nw, EI_nw, EJ_nw, ER_nw]; exact q4 i hi) (by rw [ef]; intro i hi; simp [n_sI, z_sI, tag_sI, I_sI, J_sI, R_sI, EI_sI, EJ_sI, ER_sI, n_sJ, z_sJ, tag_sJ, I_sJ, J_sJ, R_sJ, EI_sJ, EJ_sJ, ER_sJ, n_sR, z_sR, tag_sR, I_sR, J_sR, R_sR, EI_sR, EJ_sR, ER_sR, n_sEI, z_sEI, tag_sEI, I_sEI, J_sEI, R_sEI, EI_sEI, EJ_sEI, ER_sEI, n_sEJ, z_sEJ, tag_sEJ, I_sEJ, J_sEJ, R_sEJ, EI_sEJ, EJ_sEJ, ER_sEJ, n_sER, z_sER, tag_sER, I_sER, J_sER, R_sER, EI_sER, EJ_sER, ER_sER, n_nw, z_nw, tag_nw, I_nw, J_nw, R_nw, EI_nw, EJ_nw, ER_nw]; exact q5 i hi)
      rw [ef, hst] at w2
      obtain ⟨v2, tg2⟩ := v.eO (wi := wi) (t1 := t1) (n := (s.2.1 t1).2.2.2.length) fq PGv.vq m7
      have fi := fq.1.mono (PGv.ip (by omega))
      have es1 : stk ((s.1 - 1, s.2.1, s.2.2) : Ms) = (s.2.1 t1).2.2.2 := by
        show (s.2.1 (s.1 - 1 - 1)).2.2.2 = _
        rw [show s.1 - 1 - 1 = t1 by omega]
      have nw := PGv.no (W := W) (A := A) (t1 := t1) (l := [27, 2306]) rfl
      refine kk _ l _ ⟨fi, fun p hp => ⟨eO_o (fun z => ?_), fun x hx => tg2 p x (by simp) hx⟩⟩ ⟨c.ip fi, v2, w2.cong ?_ (fun j hj => ?_) rfl, ?_, hg, hw.fr fq.1 (fun a => nw _ a rfl) (fun a => nw _ a rfl)⟩
      · rcases hp with y | y
        · have := z.1
          omega
        · exact y z.2.1
      · show s.1 - 1 = t1 + 1
        omega
      · rw [es1]
        have hj : j < t1 + 1 := hj
        show uF s.2.1 (s.1 - 1 - 1) ((s.2.1 (s.1 - 1 - 1)).1, (s.2.1 (s.1 - 1 - 1)).2.1, (s.2.1 (s.1 - 1 - 1)).2.2.1, _) j = uF (Edr s 40).2.1 t1 _ j
        rw [show s.1 - 1 - 1 = t1 by omega]
        unfold uF
        by_cases cj : j = t1
        · rw [if_pos cj, if_pos cj]
        · rw [if_neg cj, if_neg cj, Edr_j (t := t1 + 1) (by omega) (by omega)]
      · show _ = some (Fa W (s.1 - 1 - 1))
        rw [show s.1 - 1 - 1 = t1 by omega]
        simp [n_sI, z_sI, tag_sI, I_sI, J_sI, R_sI, EI_sI, EJ_sI, ER_sI, n_sJ, z_sJ, tag_sJ, I_sJ, J_sJ, R_sJ, EI_sJ, EJ_sJ, ER_sJ, n_sR, z_sR, tag_sR, I_sR, J_sR, R_sR, EI_sR, EJ_sR, ER_sR, n_sEI, z_sEI, tag_sEI, I_sEI, J_sEI, R_sEI, EI_sEI, EJ_sEI, ER_sEI, n_sEJ, z_sEJ, tag_sEJ, I_sEJ, J_sEJ, R_sEJ, EI_sEJ, EJ_sEJ, ER_sEJ, n_sER, z_sER, tag_sER, I_sER, J_sER, R_sER, EI_sER, EJ_sER, ER_sER, n_nw, z_nw, tag_nw, I_nw, J_nw, R_nw, EI_nw, EJ_nw, ER_nw]; exact q2
    | succ r ih =>
      intro k hk hh q0 q1 q2 q3 q4 q5 q6
      refine k_X1_end_107 oo (fun c => absurd ((nI_leI (by omega) (by omega)).mp c) (by omega)) (fun _ => ?_)
      obtain ⟨it, hit⟩ : ∃ it, (stk s)[(stk s).length - 1 - k]? = some it := ⟨_, List.getElem?_eq_getElem (by omega)⟩
      obtain ⟨x, x1, x2, -⟩ := n6.nth hit
      rw [show (stk s).length - 1 - ((stk s).length - 1 - k) = k by omega] at x1 x2
      have tx := (v.2.2.2 _ _ x1).1.1
      have ix : IX (nI k) 64 k := IX.mk (by omega) (by omega)
      have tF := q0.1.tag f1
      have rS : hh.R 2564 (Fa W (t1 + 1)) = some (Fa W (t1 + 1) + 2) := by rw [q0.1.R (swn _ _ rfl)]; exact f3
      have tS := q0.1.tag f5
      have eS : hh.ER 747 (Fa W (t1 + 1) + 2) k = some x.1 := by rw [q6]; exact x2
      have tA := q0.1.tag t0
      refine k_X1_end_112 oo ?_
      have sfr : SFr hh (Fa W t1) := (show SFr h (Fa W t1) from ⟨g1, g2, g3, g4, g5⟩).fr q0.1 swn
      refine cpush_lo tA q2 sfr q3 (by omega) (q0.1.tag tx) ?_
      refine k_X1_end_122 oo ?_
      rw [nI_add]
      have nF : Fa W (t1 + 1) ≠ Fa W t1 := by unfold Fa; omega
      refine ih (k + 1) (by omega) _ ((q0.sER (Or.inr (Or.inr ⟨Or.inr rfl, by omega, by omega⟩))).sI (Or.inr (Or.inr ⟨Or.inl rfl, by omega, by omega⟩))) (by simp [n_sI, z_sI, tag_sI, I_sI, J_sI, R_sI, EI_sI, EJ_sI, ER_sI, n_sJ, z_sJ, tag_sJ, I_sJ, J_sJ, R_sJ, EI_sJ, EJ_sJ, ER_sJ, n_sR, z_sR, tag_sR, I_sR, J_sR, R_sR, EI_sR, EJ_sR, ER_sR, n_sEI, z_sEI, tag_sEI, I_sEI, J_sEI, R_sEI, EI_sEI, EJ_sEI, ER_sEI, n_sEJ, z_sEJ, tag_sEJ, I_sEJ, J_sEJ, R_sEJ, EI_sEJ, EJ_sEJ, ER_sEJ, n_sER, z_sER, tag_sER, I_sER, J_sER, R_sER, EI_sER, EJ_sER, ER_sER, n_nw, z_nw, tag_nw, I_nw, J_nw, R_nw, EI_nw, EJ_nw, ER_nw]; exact q1) (by simp [n_sI, z_sI, tag_sI, I_sI, J_sI, R_sI, EI_sI, EJ_sI, ER_sI, n_sJ, z_sJ, tag_sJ, I_sJ, J_sJ, R_sJ, EI_sJ, EJ_sJ, ER_sJ, n_sR, z_sR, tag_sR, I_sR, J_sR, R_sR, EI_sR, EJ_sR, ER_sR, n_sEI, z_sEI, tag_sEI, I_sEI, J_sEI, R_sEI, EI_sEI, EJ_sEI, ER_sEI, n_sEJ, z_sEJ, tag_sEJ, I_sEJ, J_sEJ, R_sEJ, EI_sEJ, EJ_sEJ, ER_sEJ, n_sER, z_sER, tag_sER, I_sER, J_sER, R_sER, EI_sER, EJ_sER, ER_sER, n_nw, z_nw, tag_nw, I_nw, J_nw, R_nw, EI_nw, EJ_nw, ER_nw]; exact q2) (by simp [n_sI, z_sI, tag_sI, I_sI, J_sI, R_sI, EI_sI, EJ_sI, ER_sI, n_sJ, z_sJ, tag_sJ, I_sJ, J_sJ, R_sJ, EI_sJ, EJ_sJ, ER_sJ, n_sR, z_sR, tag_sR, I_sR, J_sR, R_sR, EI_sR, EJ_sR, ER_sR, n_sEI, z_sEI, tag_sEI, I_sEI, J_sEI, R_sEI, EI_sEI, EJ_sEI, ER_sEI, n_sEJ, z_sEJ, tag_sEJ, I_sEJ, J_sEJ, R_sEJ, EI_sEJ, EJ_sEJ, ER_sEJ, n_sER, z_sER, tag_sER, I_sER, J_sER, R_sER, EI_sER, EJ_sER, ER_sER, n_nw, z_nw, tag_nw, I_nw, J_nw, R_nw, EI_nw, EJ_nw, ER_nw]; rfl) (fun i hi => ?_) (fun i hi => ?_) (fun i => ?_)
      · by_cases ci : i = k
        · subst ci
          simp [n_sI, z_sI, tag_sI, I_sI, J_sI, R_sI, EI_sI, EJ_sI, ER_sI, n_sJ, z_sJ, tag_sJ, I_sJ, J_sJ, R_sJ, EI_sJ, EJ_sJ, ER_sJ, n_sR, z_sR, tag_sR, I_sR, J_sR, R_sR, EI_sR, EJ_sR, ER_sR, n_sEI, z_sEI, tag_sEI, I_sEI, J_sEI, R_sEI, EI_sEI, EJ_sEI, ER_sEI, n_sEJ, z_sEJ, tag_sEJ, I_sEJ, J_sEJ, R_sEJ, EI_sEJ, EJ_sEJ, ER_sEJ, n_sER, z_sER, tag_sER, I_sER, J_sER, R_sER, EI_sER, EJ_sER, ER_sER, n_nw, z_nw, tag_nw, I_nw, J_nw, R_nw, EI_nw, EJ_nw, ER_nw]; exact x2.symm
        · simp [n_sI, z_sI, tag_sI, I_sI, J_sI, R_sI, EI_sI, EJ_sI, ER_sI, n_sJ, z_sJ, tag_sJ, I_sJ, J_sJ, R_sJ, EI_sJ, EJ_sJ, ER_sJ, n_sR, z_sR, tag_sR, I_sR, J_sR, R_sR, EI_sR, EJ_sR, ER_sR, n_sEI, z_sEI, tag_sEI, I_sEI, J_sEI, R_sEI, EI_sEI, EJ_sEI, ER_sEI, n_sEJ, z_sEJ, tag_sEJ, I_sEJ, J_sEJ, R_sEJ, EI_sEJ, EJ_sEJ, ER_sEJ, n_sER, z_sER, tag_sER, I_sER, J_sER, R_sER, EI_sER, EJ_sER, ER_sER, n_nw, z_nw, tag_nw, I_nw, J_nw, R_nw, EI_nw, EJ_nw, ER_nw, ci]
          exact q4 i (by omega)
      · have ci : i ≠ (s.2.1 t1).2.2.2.length + k := by omega
        simp [n_sI, z_sI, tag_sI, I_sI, J_sI, R_sI, EI_sI, EJ_sI, ER_sI, n_sJ, z_sJ, tag_sJ, I_sJ, J_sJ, R_sJ, EI_sJ, EJ_sJ, ER_sJ, n_sR, z_sR, tag_sR, I_sR, J_sR, R_sR, EI_sR, EJ_sR, ER_sR, n_sEI, z_sEI, tag_sEI, I_sEI, J_sEI, R_sEI, EI_sEI, EJ_sEI, ER_sEI, n_sEJ, z_sEJ, tag_sEJ, I_sEJ, J_sEJ, R_sEJ, EI_sEJ, EJ_sEJ, ER_sEJ, n_sER, z_sER, tag_sER, I_sER, J_sER, R_sER, EI_sER, EJ_sER, ER_sER, n_nw, z_nw, tag_nw, I_nw, J_nw, R_nw, EI_nw, EJ_nw, ER_nw, ci]
        exact q5 i hi
      · simp [n_sI, z_sI, tag_sI, I_sI, J_sI, R_sI, EI_sI, EJ_sI, ER_sI, n_sJ, z_sJ, tag_sJ, I_sJ, J_sJ, R_sJ, EI_sJ, EJ_sJ, ER_sJ, n_sR, z_sR, tag_sR, I_sR, J_sR, R_sR, EI_sR, EJ_sR, ER_sR, n_sEI, z_sEI, tag_sEI, I_sEI, J_sEI, R_sEI, EI_sEI, EJ_sEI, ER_sEI, n_sEJ, z_sEJ, tag_sEJ, I_sEJ, J_sEJ, R_sEJ, EI_sEJ, EJ_sEJ, ER_sEJ, n_sER, z_sER, tag_sER, I_sER, J_sER, R_sER, EI_sER, EJ_sER, ER_sER, n_nw, z_nw, tag_nw, I_nw, J_nw, R_nw, EI_nw, EJ_nw, ER_nw, nF]
        exact q6 i
  have nW : ∀ i, (h.sI 2438 W (nI (t1 + 1))).ER 747 i = h.ER 747 i := fun i => by simp [n_sI, z_sI, tag_sI, I_sI, J_sI, R_sI, EI_sI, EJ_sI, ER_sI, n_sJ, z_sJ, tag_sJ, I_sJ, J_sJ, R_sJ, EI_sJ, EJ_sJ, ER_sJ, n_sR, z_sR, tag_sR, I_sR, J_sR, R_sR, EI_sR, EJ_sR, ER_sR, n_sEI, z_sEI, tag_sEI, I_sEI, J_sEI, R_sEI, EI_sEI, EJ_sEI, ER_sEI, n_sEJ, z_sEJ, tag_sEJ, I_sEJ, J_sEJ, R_sEJ, EI_sEJ, EJ_sEJ, ER_sEJ, n_sER, z_sER, tag_sER, I_sER, J_sER, R_sER, EI_sER, EJ_sER, ER_sER, n_nw, z_nw, tag_nw, I_nw, J_nw, R_nw, EI_nw, EJ_nw, ER_nw]
  refine loop (stk s).length 0 (by omega) _ (fa.sR (Or.inr (Or.inl ⟨rfl, rfl⟩))) (by simp [n_sI, z_sI, tag_sI, I_sI, J_sI, R_sI, EI_sI, EJ_sI, ER_sI, n_sJ, z_sJ, tag_sJ, I_sJ, J_sJ, R_sJ, EI_sJ, EJ_sJ, ER_sJ, n_sR, z_sR, tag_sR, I_sR, J_sR, R_sR, EI_sR, EJ_sR, ER_sR, n_sEI, z_sEI, tag_sEI, I_sEI, J_sEI, R_sEI, EI_sEI, EJ_sEI, ER_sEI, n_sEJ, z_sEJ, tag_sEJ, I_sEJ, J_sEJ, R_sEJ, EI_sEJ, EJ_sEJ, ER_sEJ, n_sER, z_sER, tag_sER, I_sER, J_sER, R_sER, EI_sER, EJ_sER, ER_sER, n_nw, z_nw, tag_nw, I_nw, J_nw, R_nw, EI_nw, EJ_nw, ER_nw]) (by simp [n_sI, z_sI, tag_sI, I_sI, J_sI, R_sI, EI_sI, EJ_sI, ER_sI, n_sJ, z_sJ, tag_sJ, I_sJ, J_sJ, R_sJ, EI_sJ, EJ_sJ, ER_sJ, n_sR, z_sR, tag_sR, I_sR, J_sR, R_sR, EI_sR, EJ_sR, ER_sR, n_sEI, z_sEI, tag_sEI, I_sEI, J_sEI, R_sEI, EI_sEI, EJ_sEI, ER_sEI, n_sEJ, z_sEJ, tag_sEJ, I_sEJ, J_sEJ, R_sEJ, EI_sEJ, EJ_sEJ, ER_sEJ, n_sER, z_sER, tag_sER, I_sER, J_sER, R_sER, EI_sER, EJ_sER, ER_sER, n_nw, z_nw, tag_nw, I_nw, J_nw, R_nw, EI_nw, EJ_nw, ER_nw]) ?_ (fun i hi => by omega) (fun i hi => by simp [n_sI, z_sI, tag_sI, I_sI, J_sI, R_sI, EI_sI, EJ_sI, ER_sI, n_sJ, z_sJ, tag_sJ, I_sJ, J_sJ, R_sJ, EI_sJ, EJ_sJ, ER_sJ, n_sR, z_sR, tag_sR, I_sR, J_sR, R_sR, EI_sR, EJ_sR, ER_sR, n_sEI, z_sEI, tag_sEI, I_sEI, J_sEI, R_sEI, EI_sEI, EJ_sEI, ER_sEI, n_sEJ, z_sEJ, tag_sEJ, I_sEJ, J_sEJ, R_sEJ, EI_sEJ, EJ_sEJ, ER_sEJ, n_sER, z_sER, tag_sER, I_sER, J_sER, R_sER, EI_sER, EJ_sER, ER_sER, n_nw, z_nw, tag_nw, I_nw, J_nw, R_nw, EI_nw, EJ_nw, ER_nw]) (fun i => by simp [n_sI, z_sI, tag_sI, I_sI, J_sI, R_sI, EI_sI, EJ_sI, ER_sI, n_sJ, z_sJ, tag_sJ, I_sJ, J_sJ, R_sJ, EI_sJ, EJ_sJ, ER_sJ, n_sR, z_sR, tag_sR, I_sR, J_sR, R_sR, EI_sR, EJ_sR, ER_sR, n_sEI, z_sEI, tag_sEI, I_sEI, J_sEI, R_sEI, EI_sEI, EJ_sEI, ER_sEI, n_sEJ, z_sEJ, tag_sEJ, I_sEJ, J_sEJ, R_sEJ, EI_sEJ, EJ_sEJ, ER_sEJ, n_sER, z_sER, tag_sER, I_sER, J_sER, R_sER, EI_sER, EJ_sER, ER_sER, n_nw, z_nw, tag_nw, I_nw, J_nw, R_nw, EI_nw, EJ_nw, ER_nw])
  have nWF : Fa W t1 ≠ W := by unfold Fa; omega
  simp [n_sI, z_sI, tag_sI, I_sI, J_sI, R_sI, EI_sI, EJ_sI, ER_sI, n_sJ, z_sJ, tag_sJ, I_sJ, J_sJ, R_sJ, EI_sJ, EJ_sJ, ER_sJ, n_sR, z_sR, tag_sR, I_sR, J_sR, R_sR, EI_sR, EJ_sR, ER_sR, n_sEI, z_sEI, tag_sEI, I_sEI, J_sEI, R_sEI, EI_sEI, EJ_sEI, ER_sEI, n_sEJ, z_sEJ, tag_sEJ, I_sEJ, J_sEJ, R_sEJ, EI_sEJ, EJ_sEJ, ER_sEJ, n_sER, z_sER, tag_sER, I_sER, J_sER, R_sER, EI_sER, EJ_sER, ER_sER, n_nw, z_nw, tag_nw, I_nw, J_nw, R_nw, EI_nw, EJ_nw, ER_nw]
  exact m4
end
