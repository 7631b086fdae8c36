/-! execute, whole: the loop over blocks -/
section
variable {n B : Nat} {cm : Md} {y : Ly} {X : Nat → TxC} {pb : Nat → Bool} {BT : Nat → By} {f0 ct : Nat} {s0 : Qs} {bn0 : Int64} {K : Outcome → AH → Prop}
theorem exN.f {P : Nat → Nat → Prop} {l : List Nat} (hl : l.all (fun f => !exeG f) = true) {f : Nat} (hf : l.contains f = true) (h : exeG f = true) : False := by
  rw [List.all_eq_true] at hl
  have := hl f (List.contains_iff_mem.mp hf)
  rw [h] at this; cases this
theorem exe_26 {XX : Xt} (oo : OK e_X1_execute XX) {VA nv wn : Nat} {wv : Nat → Nat} {h0 : AH} (hct : ct ≤ 32) (tq : TQF X pb BT ct) (hn : 0 < n) (hn8 : n ≤ 8) (hB : B + 325600 ≤ XX.G.ln) (hd : 79 ≤ XX.d) (wf0 : WVF h0 (yA y) VA nv wn wv) (ec0 : h0.I 4 (yA y) = nI ct)
    (kk : ∀ h' (rr : Nat → TxR) (ss : Nat → Qs) v2, ss f0 = s0 → QCH cm X (opb pb BT) rr ss f0 ct → EXV n XX.G B cm y X pb BT ct ct (ss ct) (bnS bn0 rr f0 (ct - f0)) h' → RES h' y pb rr f0 ct → OTR y f0 ct h0 h' → Fr (fun f _ => exeG f = true) h0 h' → h'.I 5 (yA y) = nI ct → V XX K 175 [.ref (yA y), .int (nI (dnc rr f0 (ct - f0))), v2] [] h') :
    ∀ (N f : Nat) (h : AH) (rr : Nat → TxR) (ss : Nat → Qs) v2, ct ≤ N + f → f0 ≤ f → f ≤ ct → ss f0 = s0 → QCH cm X (opb pb BT) rr ss f0 f → EXV n XX.G B cm y X pb BT f ct (ss f) (bnS bn0 rr f0 (f - f0)) h → RES h y pb rr f0 f → OTR y f0 ct h0 h → Fr (fun f _ => exeG f = true) h0 h → h.I 5 (yA y) = nI f → (∃ u tn, h.I 29 (yA y) = nI u ∧ u < 150000 ∧ h.I 30 (yA y) = nI tn ∧ tn < n) → V XX K 26 [.ref (yA y), .int (nI (dnc rr f0 (f - f0))), v2] [] h := by
  intro N
  induction N with
  | zero =>
    intro f h rr ss v2 hN hf hfc e0 ch e rs ot fr hfst ut
    have ef : f = ct := by omega
    subst ef
    have t0 := e.choose_spec.choose_spec.choose_spec.choose_spec.choose_spec.choose_spec.choose_spec.1.1.1.1.1.1.1
    have c1 : h.I 4 (yA y) = nI f := by rw [fr.I (fun q => exN.f (P := fun _ _ => True) (l := [4]) (by decide) rfl q)]; exact ec0
    refine k_X1_execute_26 (r2 := hfst) (r4 := c1) oo (fun _ => ?_) (fun q => absurd (Int32.le_refl _) q)
    exact kk h rr ss v2 e0 ch e rs ot fr hfst
  | succ N ih =>
    intro f h rr ss v2 hN hf hfc e0 ch e rs ot fr hfst ut
    have t0 := e.choose_spec.choose_spec.choose_spec.choose_spec.choose_spec.choose_spec.choose_spec.1.1.1.1.1.1.1
    have c1 : h.I 4 (yA y) = nI ct := by rw [fr.I (fun q => exN.f (P := fun _ _ => True) (l := [4]) (by decide) rfl q)]; exact ec0
    by_cases cf : f = ct
    · subst cf
      refine k_X1_execute_26 (r2 := hfst) (r4 := c1) oo (fun _ => ?_) (fun q => absurd (Int32.le_refl _) q)
      exact kk h rr ss v2 e0 ch e rs ot fr hfst
    · have hfl : f < ct := by omega
      refine k_X1_execute_26 (r2 := hfst) (r4 := c1) oo (fun q => absurd ((nI_leI (by omega) (by omega)).mp q) (by omega)) (fun _ => ?_)
      refine k_X1_execute_37 (r2 := hfst) oo ?_
      rw [nI_add]
      have q1 : Fq (fun f _ => f = 6) h (h.sI 6 (yA y) (nI (f + 1))) := Fq.sI (Fq.refl h) rfl
      have l1 : (h.sI 6 (yA y) (nI (f + 1))).I 6 (yA y) = nI (f + 1) := by simp [n_sI, z_sI, tag_sI, I_sI, J_sI, R_sI, EI_sI, EJ_sI, ER_sI, n_sJ, z_sJ, tag_sJ, I_sJ, J_sJ, R_sJ, EI_sJ, EJ_sJ, ER_sJ, n_sR, z_sR, tag_sR, I_sR, J_sR, R_sR, EI_sR, EJ_sR, ER_sR, n_sEI, z_sEI, tag_sEI, I_sEI, J_sEI, R_sEI, EI_sEI, EJ_sEI, ER_sEI, n_sEJ, z_sEJ, tag_sEJ, I_sEJ, J_sEJ, R_sEJ, EI_sEJ, EJ_sEJ, ER_sEJ, n_sER, z_sER, tag_sER, I_sER, J_sER, R_sER, EI_sER, EJ_sER, ER_sER, n_nw, z_nw, tag_nw, I_nw, J_nw, R_nw, EI_nw, EJ_nw, ER_nw]
      have dnl : dnc rr f0 (f - f0) ≤ 1000 := by have := dnc_l (rr := rr) (f := f0) (i := f - f0); omega
      have wf : WVF h (yA y) VA nv wn wv := wf0.fr fr (fun f a hf q => exN.f (P := fun _ _ => True) (l := [9, 8, 10000 + 97]) (by decide) hf q)
      refine exe_47 (s := ss f) (bn := bnS bn0 rr f0 (f - f0)) (n := n) (B := B) (cm := cm) (X := X) (BT := BT) (h0 := h) oo hfl hct (fun h1 la hp hfl1 hla e1 fr1 hl1 => ?_) hfst c1 (ct - (f + 1)) (f + 1) _ (by omega) (by omega) (Or.inl rfl) (e.fr q1 (fun f a hf q => by rw [q] at hf; exact absurd hf (by decide)) (fun f a hf q => by rw [q] at hf; exact VQ.no (l := [6]) rfl _ _ rfl hf) (Nat.le_refl _)) q1.1 l1
      have nl : ∀ l : List Nat, l.all (fun f => !(f == 6)) = true → ∀ f a, l.contains f = true → ¬ (fun f (_ : Nat) => f = 6) f a := fun l hl f a hf q => by
        rw [List.all_eq_true] at hl
        have := hl f (List.contains_iff_mem.mp hf)
        rw [show f = 6 from q] at this; exact absurd this (by decide)
      have f1 : h1.I 5 (yA y) = nI f := by rw [fr1.I (nl [5] rfl _ (yA y) rfl)]; exact hfst
      have wf1 : WVF h1 (yA y) VA nv wn wv := wf.fr fr1 (nl _ rfl)
      obtain ⟨u, tn, u1, u2, u3, u4⟩ := ut
      have u1' : h1.I 29 (yA y) = nI u := by rw [fr1.I (nl [29] rfl _ (yA y) rfl)]; exact u1
      have u3' : h1.I 30 (yA y) = nI tn := by rw [fr1.I (nl [30] rfl _ (yA y) rfl)]; exact u3
      have ot1 : OTR y f0 ct h h1 := OTR.of fr1 (nl _ (by decide))
      have ot1f : OTR y f ct h h1 := OTR.of fr1 (nl _ (by decide))
      have frG : Fr (fun f _ => exeG f = true) h0 h1 := fr.trans (fr1.mono fun g a q => by rw [show g = 6 from q]; rfl)
      -- behind the block
      have fin : ∀ h2 rr2 ss2 (la : Nat) dn, f < la → la ≤ ct → ss2 f = ss f → QCH cm X (opb pb BT) rr2 ss2 f la → EXV n XX.G B cm y X pb BT la ct (ss2 la) (bnS (bnS bn0 rr f0 (f - f0)) rr2 f (la - f)) h2 → RES h2 y pb rr2 f la → OTR y f la h1 h2 → Fr (fun f _ => exeF f = true) h1 h2 → (∃ u tn, h2.I 29 (yA y) = nI u ∧ u < 150000 ∧ h2.I 30 (yA y) = nI tn ∧ tn < n) → h1.I 6 (yA y) = nI la → dn = dnc rr f0 (f - f0) + dnc rr2 f (la - f) → ∀ v2, V XX K 164 [.ref (yA y), .int (nI dn), v2] [] h2 := fun h2 rr2 ss2 la dn fl lc es2 ch2 ex2 rs2 ot2 fr2 ut2 ll2 hdn v2 => by
        have t02 := ex2.choose_spec.choose_spec.choose_spec.choose_spec.choose_spec.choose_spec.choose_spec.1.1.1.1.1.1.1
        have l2 : h2.I 6 (yA y) = nI la := by rw [fr2.I (fun q => exN (l := [6]) (by decide) rfl q)]; exact ll2
        refine k_X1_execute_164 (r2 := l2) oo ?_
        have q3 : Fq (fun f _ => f = 5) h2 (h2.sI 5 (yA y) (nI la)) := Fq.sI (Fq.refl h2) rfl
        have nf : ∀ l : List Nat, l.all (fun f => !(f == 5)) = true → ∀ f a, l.contains f = true → ¬ (fun f (_ : Nat) => f = 5) f a := fun l hl f a hf q => by
          rw [List.all_eq_true] at hl
          have := hl f (List.contains_iff_mem.mp hf)
          rw [show f = 5 from q] at this; exact absurd this (by decide)
        have cg : ∀ k, k < f - f0 → (fun k => if k < f then rr k else rr2 k) (f0 + k) = rr (f0 + k) := fun k hk => if_pos (by omega)
        have cg2 : ∀ k, k < la - f → (fun k => if k < f then rr k else rr2 k) (f + k) = rr2 (f + k) := fun k hk => if_neg (by omega)
        have ef : la - f0 = (f - f0) + (la - f) := by omega
        have ef2 : f0 + (f - f0) = f := by omega
        have eb : bnS bn0 (fun k => if k < f then rr k else rr2 k) f0 (la - f0) = bnS (bnS bn0 rr f0 (f - f0)) rr2 f (la - f) := by
          rw [ef, bnS_a, ef2, bnS_c (rr' := fun k => if k < f then rr k else rr2 k) (rr := rr) cg, bnS_c (rr' := fun k => if k < f then rr k else rr2 k) (rr := rr2) cg2]
        have ed : dnc (fun k => if k < f then rr k else rr2 k) f0 (la - f0) = dn := by
          rw [ef, dnc_a, ef2, dnc_c (rr' := fun k => if k < f then rr k else rr2 k) (rr := rr) cg, dnc_c (rr' := fun k => if k < f then rr k else rr2 k) (rr := rr2) cg2, hdn]
        rw [← ed]
        have ot3 : OTR y f la h1 (h2.sI 5 (yA y) (nI la)) := ot2.trans (OTR.of q3.1 (nf _ (by decide)))
        refine ih la _ (fun k => if k < f then rr k else rr2 k) (fun k => if k < f then ss k else ss2 k) v2 (by omega) (by omega) lc ?_ (ch.app ch2 es2.symm) ?_ (RES.app ((rs.otr ot1f (by omega)).otr ot3 (by omega)) (fun k k1 k2 => ?_)) (ot.trans (ot1.trans (ot3.mono (by omega) lc))) (frG.trans ((fr2.mono fun g a q => exeG.f q).trans (q3.1.mono fun g a q => by rw [show g = 5 from q]; rfl))) (by simp [n_sI, z_sI, tag_sI, I_sI, J_sI, R_sI, EI_sI, EJ_sI, ER_sI, n_sJ, z_sJ, tag_sJ, I_sJ, J_sJ, R_sJ, EI_sJ, EJ_sJ, ER_sJ, n_sR, z_sR, tag_sR, I_sR, J_sR, R_sR, EI_sR, EJ_sR, ER_sR, n_sEI, z_sEI, tag_sEI, I_sEI, J_sEI, R_sEI, EI_sEI, EJ_sEI, ER_sEI, n_sEJ, z_sEJ, tag_sEJ, I_sEJ, J_sEJ, R_sEJ, EI_sEJ, EJ_sEJ, ER_sEJ, n_sER, z_sER, tag_sER, I_sER, J_sER, R_sER, EI_sER, EJ_sER, ER_sER, n_nw, z_nw, tag_nw, I_nw, J_nw, R_nw, EI_nw, EJ_nw, ER_nw]) ?_
        · by_cases c : f0 < f
          · rw [if_pos c]; exact e0
          · rw [if_neg c]
            have : f0 = f := by omega
            rw [this, es2, ← this]; exact e0
        · rw [eb]
          show EXV n XX.G B cm y X pb BT la ct (if la < f then ss la else ss2 la) _ _
          rw [if_neg (by omega)]
          exact ex2.fr q3 (nf _ (by decide)) (fun f a hf q => by rw [show f = 5 from q] at hf; exact VQ.no (l := [5]) rfl _ _ rfl hf) (Nat.le_refl _)
        · obtain ⟨a, b⟩ := rs2 k k1 k2
          exact ⟨a.fr q3.1 (fun f hf a _ => nf (txF ++ resF) (by decide) f a hf), by rw [q3.1.I (nf [2701] rfl _ (yX y k) rfl)]; exact b⟩
        · obtain ⟨u, tn, a, b, c, d⟩ := ut2
          exact ⟨u, tn, by rw [q3.1.I (nf [29] rfl _ (yA y) rfl)]; exact a, b, by rw [q3.1.I (nf [30] rfl _ (yA y) rfl)]; exact c, d⟩
      rcases hp with ⟨hp1, hp2⟩ | ⟨hp1, hp2⟩
      · subst hp2
        refine exe_p oo e1 f1 hl1 hfl hct dnl hp1 tq hn hn8 wf1 ⟨u1', u2⟩ ⟨u3', u4⟩ hd (fun h2 r s' qs ex2 tx2 dn2 ot2 fr2 ut2 => ?_)
        refine fin h2 (fun _ => r) (fun k => if k = f then ss f else s') (f + 1) _ (by omega) (by omega) (if_pos rfl) (fun k k1 k2 => ?_) ?_ (fun k k1 k2 => ?_) ot2 fr2 ut2 hl1 ?_ _
        · have ek : k = f := by omega
          subst ek
          show qst cm (if k = k then ss k else s') (X k) (opb pb BT k) r (if k + 1 = k then ss k else s')
          rw [if_pos rfl, if_neg (by omega)]
          unfold opb
          rw [hp1]
          exact qs
        · show EXV n XX.G B cm y X pb BT (f + 1) ct (if f + 1 = f then ss f else s') (bnS (bnS bn0 rr f0 (f - f0)) (fun _ => r) f (f + 1 - f)) h2
          rw [if_neg (by omega), show f + 1 - f = 1 by omega]
          exact ex2
        · have ek : k = f := by omega
          subst ek
          rw [hp1]
          exact ⟨tx2, dn2⟩
        · rw [show f + 1 - f = 1 by omega]
          show _ = dnc rr f0 (f - f0) + (0 + if r.1 = 0 then 1 else 0)
          omega
      · refine exe_c oo e1 f1 hl1 hfl1 hla hct dnl hp2 tq hn hn8 hB wf1 ⟨u1', u2⟩ ⟨u3', u4⟩ hd (fun h2 rr2 ss2 es2 qs ex2 rs2 ot2 fr2 ut2 => ?_)
        refine fin h2 rr2 (fun k => ss2 (k - f)) la _ hfl1 hla (by show ss2 (f - f) = ss f; rw [Nat.sub_self]; exact es2) (fun k k1 k2 => ?_) ex2 rs2 ot2 fr2 ut2 hl1 rfl _
        have := qs (k - f) (by omega)
        rw [show f + (k - f) = k by omega] at this
        show qst cm (ss2 (k - f)) (X k) (opb pb BT k) (rr2 k) (ss2 (k + 1 - f))
        rw [show k + 1 - f = k - f + 1 by omega]
        unfold opb
        rw [hp2 k k1 k2]
        exact this
end
section
variable {G : Gt} {d n B : Nat} {cm : Md} {y : Ly} {X : Nat → TxC} {pb : Nat → Bool} {BT : Nat → By} {f0 ct : Nat} {s0 : Qs} {bn0 : Int64} {h : AH} {K : Outcome → AH → Prop}
theorem execute_ok {VA nv wn : Nat} {wv : Nat → Nat} (e : EXV n G B cm y X pb BT f0 ct s0 bn0 h) (hf : h.I 5 (yA y) = nI f0) (hc : h.I 4 (yA y) = nI ct) (hfc : f0 ≤ ct) (hct : ct ≤ 32) (tq : TQF X pb BT ct) (hn : 0 < n) (hn8 : n ≤ 8) (hB : B + 325600 ≤ G.ln) (wf : WVF h (yA y) VA nv wn wv) (hd : 79 ≤ d) (k0 : f0 = ct → K (.returned (some (.int (-2)))) h)
    (kk : f0 < ct → ∀ h' (rr : Nat → TxR) (ss : Nat → Qs), ss f0 = s0 → QCH cm X (opb pb BT) rr ss f0 ct → EXV n G B cm y X pb BT ct ct (ss ct) (bnS bn0 rr f0 (ct - f0)) h' → RES h' y pb rr f0 ct → OTR y f0 ct h h' → Fr (fun f _ => exeG f = true) h h' → (h'.I 5 (yA y) = nI ct ∧ h'.I 20 (yA y) = nI 0) → K (.returned (some (.int (nI (dnc rr f0 (ct - f0)))))) h') : MW G d e_X1_execute [.ref (yA y)] h K := by
  refine st_X1_execute fun XX oo hG hD _ => ?_
  subst hG; subst hD
  have t0 := e.choose_spec.choose_spec.choose_spec.choose_spec.choose_spec.choose_spec.choose_spec.1.1.1.1.1.1.1
  by_cases c : f0 = ct
  · refine k_X1_execute_0 (r2 := hf) (r4 := hc) oo (fun q => absurd (by rw [c]) q) (fun _ => ?_)
    refine k_X1_execute_11 oo ?_
    exact k0 c
  · refine k_X1_execute_0 (r2 := hf) (r4 := hc) oo (fun _ => ?_) (fun q => absurd ((nI_eq (by omega) (by omega)).mp q) c)
    refine k_X1_execute_14 oo ?_
    have q1 : Fq (fun f _ => f = 29 ∨ f = 30) h ((h.sI 29 (yA y) (nI 0)).sI 30 (yA y) (nI 0)) := Fq.sI (Fq.sI (Fq.refl h) (Or.inl rfl)) (Or.inr rfl)
    have nl : ∀ l : List Nat, l.all (fun f => !(f == 29 || f == 30)) = true → ∀ f a, l.contains f = true → ¬ (fun f (_ : Nat) => f = 29 ∨ f = 30) f a := fun l hl f a hf q => by
      rw [List.all_eq_true] at hl
      have := hl f (List.contains_iff_mem.mp hf)
      rcases q with q | q <;> (rw [q] at this; exact absurd this (by decide))
    have e1 := e.fr (f' := f0) q1 (nl _ (by decide)) (fun f a hf q => by
      rcases q with q | q <;> (rw [q] at hf; exact VQ.no (l := [29, 30]) rfl _ _ rfl hf)) (Nat.le_refl _)
    have ut : ∃ u tn, ((h.sI 29 (yA y) (nI 0)).sI 30 (yA y) (nI 0)).I 29 (yA y) = nI u ∧ u < 150000 ∧ ((h.sI 29 (yA y) (nI 0)).sI 30 (yA y) (nI 0)).I 30 (yA y) = nI tn ∧ tn < n := ⟨0, 0, by simp [n_sI, z_sI, tag_sI, I_sI, J_sI, R_sI, EI_sI, EJ_sI, ER_sI, n_sJ, z_sJ, tag_sJ, I_sJ, J_sJ, R_sJ, EI_sJ, EJ_sJ, ER_sJ, n_sR, z_sR, tag_sR, I_sR, J_sR, R_sR, EI_sR, EJ_sR, ER_sR, n_sEI, z_sEI, tag_sEI, I_sEI, J_sEI, R_sEI, EI_sEI, EJ_sEI, ER_sEI, n_sEJ, z_sEJ, tag_sEJ, I_sEJ, J_sEJ, R_sEJ, EI_sEJ, EJ_sEJ, ER_sEJ, n_sER, z_sER, tag_sER, I_sER, J_sER, R_sER, EI_sER, EJ_sER, ER_sER, n_nw, z_nw, tag_nw, I_nw, J_nw, R_nw, EI_nw, EJ_nw, ER_nw], by decide, by simp [n_sI, z_sI, tag_sI, I_sI, J_sI, R_sI, EI_sI, EJ_sI, ER_sI, n_sJ, z_sJ, tag_sJ, I_sJ, J_sJ, R_sJ, EI_sJ, EJ_sJ, ER_sJ, n_sR, z_sR, tag_sR, I_sR, J_sR, R_sR, EI_sR, EJ_sR, ER_sR, n_sEI, z_sEI, tag_sEI, I_sEI, J_sEI, R_sEI, EI_sEI, EJ_sEI, ER_sEI, n_sEJ, z_sEJ, tag_sEJ, I_sEJ, J_sEJ, R_sEJ, EI_sEJ, EJ_sEJ, ER_sEJ, n_sER, z_sER, tag_sER, I_sER, J_sER, R_sER, EI_sER, EJ_sER, ER_sER, n_nw, z_nw, tag_nw, I_nw, J_nw, R_nw, EI_nw, EJ_nw, ER_nw], hn⟩
    generalize (h.sI 29 (yA y) (nI 0)).sI 30 (yA y) (nI 0) = h1 at q1 e1 ut
    have frg : Fr (fun f _ => exeG f = true) h h1 := q1.1.mono fun g a q => by rcases q with q | q <;> (rw [q]; rfl)
    have z0 : f0 - f0 = 0 := Nat.sub_self _
    have := exe_26 (n := n) (B := B) (cm := cm) (y := y) (X := X) (pb := pb) (BT := BT) (f0 := f0) (s0 := s0) (bn0 := bn0) (K := K) oo (h0 := h1) hct tq hn hn8 hB hd (wf.fr q1.1 (nl _ rfl)) (by rw [q1.1.I (nl [4] rfl _ (yA y) rfl)]; exact hc) (fun h2 rr ss v2 a1 a2 a3 a4 a5 a6 a7 => ?_) ct f0 h1 (fun _ => (0, 0, [], 0, [], 0)) (fun _ => s0) nov (by omega) (Nat.le_refl _) hfc rfl (fun k k1 k2 => by omega) (by rw [z0]; exact e1) (fun k k1 k2 => by omega) (fun k _ _ => ⟨fun _ _ t => t, rfl⟩) (Fr.refl _) (by rw [q1.1.I (nl [5] rfl _ (yA y) rfl)]; exact hf) ut
    · rw [z0] at this
      exact this
    · have t2 := a3.choose_spec.choose_spec.choose_spec.choose_spec.choose_spec.choose_spec.choose_spec.1.1.1.1.1.1.1
      refine k_X1_execute_175 oo ?_
      have q3 : Fq (fun f _ => f = 20) h2 (h2.sI 20 (yA y) (nI 0)) := Fq.sI (Fq.refl h2) rfl
      have nf : ∀ l : List Nat, l.all (fun f => !(f == 20)) = true → ∀ f a, l.contains f = true → ¬ (fun f (_ : Nat) => f = 20) f a := fun l hl f a hf q => by
        rw [List.all_eq_true] at hl
        have := hl f (List.contains_iff_mem.mp hf)
        rw [show f = 20 from q] at this; exact absurd this (by decide)
      refine kk (by omega) _ rr ss a1 a2 (a3.fr q3 (nf _ (by decide)) (fun f a hf q => by rw [show f = 20 from q] at hf; exact VQ.no (l := [20]) rfl _ _ rfl hf) (Nat.le_refl _)) (fun k k1 k2 => ?_) ((OTR.of q1.1 (nl _ (by decide))).trans (a5.trans (OTR.of q3.1 (nf _ (by decide))))) (frg.trans (a6.trans (q3.1.mono fun g a q => by rw [show g = 20 from q]; rfl))) ⟨by rw [q3.1.I (nf [5] rfl _ (yA y) rfl)]; exact a7, by simp [n_sI, z_sI, tag_sI, I_sI, J_sI, R_sI, EI_sI, EJ_sI, ER_sI, n_sJ, z_sJ, tag_sJ, I_sJ, J_sJ, R_sJ, EI_sJ, EJ_sJ, ER_sJ, n_sR, z_sR, tag_sR, I_sR, J_sR, R_sR, EI_sR, EJ_sR, ER_sR, n_sEI, z_sEI, tag_sEI, I_sEI, J_sEI, R_sEI, EI_sEI, EJ_sEI, ER_sEI, n_sEJ, z_sEJ, tag_sEJ, I_sEJ, J_sEJ, R_sEJ, EI_sEJ, EJ_sEJ, ER_sEJ, n_sER, z_sER, tag_sER, I_sER, J_sER, R_sER, EI_sER, EJ_sER, ER_sER, n_nw, z_nw, tag_nw, I_nw, J_nw, R_nw, EI_nw, EJ_nw, ER_nw]⟩
      obtain ⟨a, b⟩ := a4 k k1 k2
      exact ⟨a.fr q3.1 (fun f hf a _ => nf (txF ++ resF) (by decide) f a hf), by rw [q3.1.I (nf [2701] rfl _ (yX y k) rfl)]; exact b⟩
end
