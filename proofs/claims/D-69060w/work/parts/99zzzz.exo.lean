/-! execute, whole -/
def exeG (f : Nat) : Bool := exeF f || [5, 6, 20].contains f
theorem exeG.f {f : Nat} (h : exeF f = true) : exeG f = true := by unfold exeG; rw [h]; rfl
theorem OTR.mono {y : Ly} {lo hi lo' hi' : Nat} {h h' : AH} (o : OTR y lo hi h h') (h1 : lo' ≤ lo) (h2 : hi ≤ hi') : OTR y lo' hi' h h' := fun k k1 k2 => o k k1 (fun q => k2 (by omega))
theorem OTR.trans {y : Ly} {lo hi : Nat} {h h1 h2 : AH} (a : OTR y lo hi h h1) (b : OTR y lo hi h1 h2) : OTR y lo hi h h2 := fun k k1 k2 => ⟨fun c r t => (b k k1 k2).1 c r ((a k k1 k2).1 c r t), (b k k1 k2).2.trans (a k k1 k2).2⟩
theorem OTR.of {P : Nat → Nat → Prop} {y : Ly} {lo hi : Nat} {h h' : AH} (q : Fr P h h') (np : ∀ f a, (2701 :: (txF ++ resF)).contains f = true → ¬ P f a) : OTR y lo hi h h' := fun k _ _ => ⟨fun b r t => t.fr q (fun f hf a _ => np f a (by rw [List.contains_iff_mem] at hf ⊢; exact List.mem_cons_of_mem _ hf)), by rw [q.I (np _ _ rfl)]⟩
theorem RES.otr {y : Ly} {pb : Nat → Bool} {rr : Nat → TxR} {lo f hi : Nat} {h h' : AH} (r : RES h y pb rr lo f) (o : OTR y f hi h h') (hf : f ≤ 32) : RES h' y pb rr lo f := fun k k1 k2 => by
  obtain ⟨a, b⟩ := r k k1 k2
  obtain ⟨c, d⟩ := o k (by omega) (fun q => by omega)
  exact ⟨c _ _ a, d.trans b⟩
theorem RES.app {y : Ly} {pb : Nat → Bool} {rr rr2 : Nat → TxR} {lo f hi : Nat} {h : AH} (a : RES h y pb rr lo f) (b : RES h y pb rr2 f hi) : RES h y pb (fun k => if k < f then rr k else rr2 k) lo hi := fun k k1 k2 => by
  by_cases c : k < f
  · have := a k k1 c
    simp only [if_pos c]; exact this
  · have := b k (by omega) k2
    simp only [if_neg c]; exact this
section
variable {n B : Nat} {cm : Md} {y : Ly} {X : Nat → TxC} {pb : Nat → Bool} {BT : Nat → By} {f f0 ct : Nat} {s s0 : Qs} {bn bn0 : Int64} {K : Outcome → AH → Prop}
def opb (pb : Nat → Bool) (BT : Nat → By) (k : Nat) : Option By := if pb k then some (BT k) else none
/-- a chain of transactions -/
def QCH (cm : Md) (X : Nat → TxC) (P : Nat → Option By) (rr : Nat → TxR) (ss : Nat → Qs) (lo hi : Nat) : Prop := ∀ k, lo ≤ k → k < hi → qst cm (ss k) (X k) (P k) (rr k) (ss (k + 1))
theorem QCH.app {P : Nat → Option By} {rr rr2 : Nat → TxR} {ss ss2 : Nat → Qs} {lo f hi : Nat} (a : QCH cm X P rr ss lo f) (b : QCH cm X P rr2 ss2 f hi) (e : ss f = ss2 f) : QCH cm X P (fun k => if k < f then rr k else rr2 k) (fun k => if k < f then ss k else ss2 k) lo hi := fun k k1 k2 => by
  by_cases c : k < f
  · have := a k k1 c
    simp only [if_pos c]
    by_cases c2 : k + 1 < f
    · rw [if_pos c2]; exact this
    · rw [if_neg c2]
      have e1 : k + 1 = f := by omega
      rw [e1] at this ⊢
      rw [← e]; exact this
  · have := b k (by omega) k2
    simp only [if_neg c, if_neg (show ¬ k + 1 < f by omega)]
    exact this
theorem exe_47 {XX : Xt} (oo : OK e_X1_execute XX) {dn : Nat} {v2 : Value} {h0 : AH} (hf : f < ct) (hct : ct ≤ 32)
    (kk : ∀ h la, (pb f = true ∧ la = f + 1 ∨ pb f = false ∧ ∀ k, f ≤ k → k < la → pb k = false) → f < la → la ≤ ct → EXV n XX.G B cm y X pb BT f ct s bn h → Fr (fun f _ => f = 6) h0 h → h.I 6 (yA y) = nI la → V XX K 101 [.ref (yA y), .int (nI dn), v2] [] h) (e0 : h0.I 5 (yA y) = nI f) (ec : h0.I 4 (yA y) = nI ct) :
    ∀ N la h, N + la = ct → f < la → (la = f + 1 ∨ ∀ k, f ≤ k → k < la → pb k = false) → EXV n XX.G B cm y X pb BT f ct s bn h → Fr (fun f _ => f = 6) h0 h → h.I 6 (yA y) = nI la → V XX K 47 [.ref (yA y), .int (nI dn), v2] [] h := by
  intro N
  induction N with
  | zero =>
    intro la h hN hfl hp e fr hl
    obtain ⟨MA, mw, dx, ms, g, l, o, ⟨r, hL⟩, -⟩ := id e
    obtain ⟨⟨⟨⟨⟨t0, -, rB, -⟩, -⟩, bk, -, -, tx⟩, ly⟩, -⟩ := id r
    have tB := bk.1
    obtain ⟨eX, tX, -⟩ := bk.2.2 f (by omega)
    have pX := (tx f (by omega)).2.2.2
    have f1 : h.I 5 (yA y) = nI f := by rw [fr.I (by decide)]; exact e0
    have c1 : h.I 4 (yA y) = nI ct := by rw [fr.I (by decide)]; exact ec
    have ix : IX (nI f) 32 f := IX.mk (by omega) (by omega)
    refine k_X1_execute_47 (r4 := f1) (r13 := pX) oo (fun q => ?_) (fun q => ?_)
    · cases hp0 : pb f with
      | false => rw [show ((y, MA, s.1, X, pb) : Cy).2.2.2.2 f = pb f from rfl, hp0] at q; exact absurd rfl q
      | true =>
        have : la = f + 1 := by
          rcases hp with hp | hp
          · exact hp
          · rw [hp f (Nat.le_refl _) hfl] at hp0; cases hp0
        exact kk h la (Or.inl ⟨hp0, this⟩) hfl (by omega) e fr hl
    · have hp0 : pb f = false := by
        cases hp0 : pb f with
        | false => rfl
        | true => rw [show ((y, MA, s.1, X, pb) : Cy).2.2.2.2 f = pb f from rfl, hp0] at q; exact absurd q (by decide)
      refine k_X1_execute_62 (r2 := hl) (r4 := c1) oo (fun _ => ?_) (fun q => absurd ((nI_leI (by omega) (by omega)).mpr (by omega)) q)
      refine kk h la (Or.inr ⟨hp0, ?_⟩) hfl (by omega) e fr hl
      rcases hp with hp | hp
      · intro k k1 k2
        have : k = f := by omega
        rw [this]; exact hp0
      · exact hp
  | succ N ih =>
    intro la h hN hfl hp e fr hl
    obtain ⟨MA, mw, dx, ms, g, l, o, ⟨r, hL⟩, -⟩ := id e
    obtain ⟨⟨⟨⟨⟨t0, -, rB, -⟩, -⟩, bk, -, -, tx⟩, ly⟩, -⟩ := id r
    have tB := bk.1
    obtain ⟨eX, tX, -⟩ := bk.2.2 f (by omega)
    have pX := (tx f (by omega)).2.2.2
    have f1 : h.I 5 (yA y) = nI f := by rw [fr.I (by decide)]; exact e0
    have c1 : h.I 4 (yA y) = nI ct := by rw [fr.I (by decide)]; exact ec
    have ix : IX (nI f) 32 f := IX.mk (by omega) (by omega)
    refine k_X1_execute_47 (r4 := f1) (r13 := pX) oo (fun q => ?_) (fun q => ?_)
    · cases hp0 : pb f with
      | false => rw [show ((y, MA, s.1, X, pb) : Cy).2.2.2.2 f = pb f from rfl, hp0] at q; exact absurd rfl q
      | true =>
        have : la = f + 1 := by
          rcases hp with hp | hp
          · exact hp
          · rw [hp f (Nat.le_refl _) hfl] at hp0; cases hp0
        exact kk h la (Or.inl ⟨hp0, this⟩) hfl (by omega) e fr hl
    · have hp0 : pb f = false := by
        cases hp0 : pb f with
        | false => rfl
        | true => rw [show ((y, MA, s.1, X, pb) : Cy).2.2.2.2 f = pb f from rfl, hp0] at q; exact absurd q (by decide)
      have hp : ∀ k, f ≤ k → k < la → pb k = false := by
        rcases hp with hp | hp
        · intro k k1 k2
          have : k = f := by omega
          rw [this]; exact hp0
        · exact hp
      refine k_X1_execute_62 (r2 := hl) (r4 := c1) oo (fun q => absurd ((nI_leI (by omega) (by omega)).mp q) (by omega)) (fun _ => ?_)
      obtain ⟨eY, tY, -⟩ := bk.2.2 la (by omega)
      have pY := (tx la (by omega)).2.2.2
      have iy : IX (nI la) 32 la := IX.mk (by omega) (by omega)
      refine k_X1_execute_73 (r4 := hl) (r13 := pY) oo (fun q => ?_) (fun q => ?_)
      · exact kk h la (Or.inr ⟨hp0, hp⟩) hfl (by omega) e fr hl
      · have hpl : pb la = false := by
          cases hp0 : pb la with
          | false => rfl
          | true => rw [show ((y, MA, s.1, X, pb) : Cy).2.2.2.2 la = pb la from rfl, hp0] at q; exact absurd q (by decide)
        refine k_X1_execute_88 (r2 := hl) oo ?_
        rw [nI_add]
        have q1 : Fq (fun f _ => f = 6) h (h.sI 6 (yA y) (nI (la + 1))) := Fq.sI (Fq.refl h) rfl
        refine ih (la + 1) _ (by omega) (by omega) (Or.inr fun k k1 k2 => ?_) (e.fr q1 (fun f a hf q => by rw [q] at hf; exact absurd hf (by decide)) (fun f a hf q => by rw [q] at hf; exact VQ.no (l := [6]) rfl _ _ rfl hf) (Nat.le_refl _)) (fr.trans q1.1) (by simp [n_sI, z_sI, tag_sI, I_sI, J_sI, R_sI, EI_sI, EJ_sI, ER_sI, n_sJ, z_sJ, tag_sJ, I_sJ, J_sJ, R_sJ, EI_sJ, EJ_sJ, ER_sJ, n_sR, z_sR, tag_sR, I_sR, J_sR, R_sR, EI_sR, EJ_sR, ER_sR, n_sEI, z_sEI, tag_sEI, I_sEI, J_sEI, R_sEI, EI_sEI, EJ_sEI, ER_sEI, n_sEJ, z_sEJ, tag_sEJ, I_sEJ, J_sEJ, R_sEJ, EI_sEJ, EJ_sEJ, ER_sEJ, n_sER, z_sER, tag_sER, I_sER, J_sER, R_sER, EI_sER, EJ_sER, ER_sER, n_nw, z_nw, tag_nw, I_nw, J_nw, R_nw, EI_nw, EJ_nw, ER_nw])
        by_cases ek : k = la
        · rw [ek]; exact hpl
        · exact hp k k1 (by omega)
end
