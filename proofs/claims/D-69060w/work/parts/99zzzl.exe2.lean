/-! execute: what was done together is taken over, one behind the other -/
def PXE (y : Ly) (lo hi f a : Nat) : Prop := (∃ t, (lo ≤ t ∧ t < hi) ∧ PTm (yA y) (yX y t) (yE y) (yL y t) f a) ∨ (f = 2701 ∧ ∃ t, (lo ≤ t ∧ t < hi) ∧ a = yX y t)
theorem PXE.no {y : Ly} {lo hi : Nat} {l : List Nat} (h : l.all (fun f => !((3712 ≤ f && f ≤ 3718) || f == 1280 || (1025 :: etE).contains f)) = true) (h2 : l.all (fun f => !([18, 2698, 32, 2701].contains f)) = true) : ∀ f a, l.contains f = true → ¬ PXE y lo hi f a := fun f a hf z => by
  rw [List.all_eq_true] at h2
  have h2' : ∀ x ∈ l, (!([18, 2698, 32].contains x)) = true := fun x hx => by
    have := h2 x hx
    rw [Bool.not_eq_true'] at this ⊢
    rw [Bool.eq_false_iff] at this ⊢
    intro q
    apply this
    rw [List.contains_iff_mem] at q ⊢
    simp only [List.mem_cons, List.mem_nil_iff, or_false] at q ⊢
    omega
  rcases z with ⟨t, -, z⟩ | z
  · exact PTm.no h (List.all_eq_true.mpr h2') f a hf z
  · have := h2 f (List.contains_iff_mem.mp hf)
    rw [z.1] at this; exact absurd this (by decide)
/-- how many were done -/
def dnc (rr : Nat → TxR) (f : Nat) : Nat → Nat
  | 0 => 0
  | i + 1 => dnc rr f i + if (rr (f + i)).1 = 0 then 1 else 0
theorem dnc_l {rr : Nat → TxR} {f : Nat} : ∀ {i : Nat}, dnc rr f i ≤ i
  | 0 => Nat.le_refl _
  | i + 1 => by
    have := dnc_l (rr := rr) (f := f) (i := i)
    show dnc rr f i + (if _ then 1 else 0) ≤ i + 1
    split <;> omega
section
variable {c : Cy} {B n : Nat} {K : Outcome → AH → Prop}
theorem CML.dn {G : Gt} {st : Lw} {g : Gg} {h h' : AH} {l : List Nat} {o : Lc} {P : Nat → Nat → Prop} (r : CML c n G B st g h l o) (q : Fq P h h') (np : ∀ f a, (gsxF ++ swF ++ pgW ++ etF ++ rdF ++ [2703, 2704, 2702, 27, 2306]).contains f = true → ¬ P f a) (nv : ∀ f a, VQ f a → ¬ P f a) : CML c n G B st g h' l o := by
  obtain ⟨⟨r1, r2⟩, r3, r8, r9, r10, r11, r12, r13⟩ := r
  obtain ⟨v', tg⟩ := r11.oth q nv
  have sub : ∀ l' : List Nat, l'.all (fun f => (gsxF ++ swF ++ pgW ++ etF ++ rdF ++ [2703, 2704, 2702, 27, 2306]).contains f) = true → ∀ f a, l'.contains f = true → ¬ P f a := fun l' hl f a hf => np f a (by rw [List.all_eq_true] at hl; exact hl f (List.contains_iff_mem.mp hf))
  have s1 : ∀ f a, gsxF.contains f = true → ¬ P f a := sub gsxF (by decide)
  have s2 : ∀ f a, swF.contains f = true → ¬ P f a := sub swF (by decide)
  have s3 : ∀ f a, pgW.contains f = true → ¬ P f a := sub pgW (by decide)
  have s4 : ∀ f a, etF.contains f = true → ¬ P f a := sub etF (by decide)
  have s5 : ∀ f a, (etF ++ rdF).contains f = true → ¬ P f a := sub (etF ++ rdF) (by decide)
  refine ⟨⟨r1.fr q.1 s1, r2⟩, fun k hk => ?_, fun j hj => ⟨(r8 j hj).1.fr q.1 s2 (fun f a hf _ _ => s3 f a hf) (fun p _ _ _ => ⟨rfl, fun x hx => tg p x (by simp) hx⟩) rfl, (r8 j hj).2⟩, r9.fr q.1 (fun f a hf _ _ => s4 f a hf) (fun _ => rfl), r10.fr q.1 (fun a => np _ a rfl) (fun a => np _ a rfl), v', r12, r13.1, r13.2.1, fun e he => by rw [q.1.I (s4 _ _ rfl)]; exact r13.2.2 e he⟩
  obtain ⟨x1, x2⟩ := r3 k hk
  exact ⟨⟨by rw [q.1.I (np _ _ rfl)]; exact x1.1, x1.2⟩, x2.fr q.1 (fun f hf => sub [2703, 2704] rfl f _ hf) (fun f a hf _ => s5 f a hf) (sub _ rfl) rfl⟩
theorem exe_110 {XX : Xt} (oo : OK e_X1_execute XX) {f la dn : Nat} {h0 : AH} {sq Lf : Nat → Lw} {rr : Nat → TxR} {pub : Nat → Bool} {bn : Nat → Int64} {J : Nat → AH → Prop} (hd : 1 ≤ XX.d) (hfl : f ≤ la) (hla : la ≤ 32) (hdn : dn ≤ 1000) (l0 : h0.I 6 (yA c.1) = nI la) (tx0 : ∀ k, f ≤ k → k < la → TXO h0 c.1 k (pub k) (rr k) ∧ (rr k).1 < 5)
    (hT : ∀ i h l o g' (K : Outcome → AH → Prop), f + i < la → CML c n XX.G B (sq i) g' h l o → xL g' (f + i) = Lf (f + i) → TXO h c.1 (f + i) (pub (f + i)) (rr (f + i)) → Fr (PXE c.1 f la) h0 h → h.J 18 (yA c.1) = bn i → J i h → (∀ h' l' o', CML c n XX.G B (sq (i + 1)) (cgl g' (f + i)) h' l' o' → Fr (PTm (yA c.1) (yX c.1 (f + i)) (yE c.1) (yL c.1 (f + i))) h h' → h'.J 18 (yA c.1) = bn (i + 1) → J (i + 1) h' → K (.returned none) h') → MW XX.G (XX.d - 1) e_X1_takeOver [.ref (yA c.1), .ref (yX c.1 (f + i))] h K)
    (hJ : ∀ i h h', Fr (fun f _ => f = 2701) h h' → J i h → J i h')
    (kk : ∀ h l o g', CML c n XX.G B (sq (la - f)) g' h l o → (∀ k, xL g' k = if f ≤ k ∧ k < la then [] else Lf k) → (∀ k, f ≤ k → k < la → h.I 2701 (yX c.1 k) = nI 1) → Fr (PXE c.1 f la) h0 h → h.J 18 (yA c.1) = bn (la - f) → J (la - f) h → V XX K 164 [.ref (yA c.1), .int (nI (dn + dnc rr f (la - f))), .int (nI la)] [] h) :
    ∀ m i, m + i = la - f → ∀ h l o g', CML c n XX.G B (sq i) g' h l o → (∀ k, xL g' k = if f ≤ k ∧ k < f + i then [] else Lf k) → (∀ k, f ≤ k → k < f + i → h.I 2701 (yX c.1 k) = nI 1) → Fr (PXE c.1 f la) h0 h → h.J 18 (yA c.1) = bn i → J i h → V XX K 110 [.ref (yA c.1), .int (nI (dn + dnc rr f i)), .int (nI (f + i))] [] h := by
  intro m
  induction m with
  | zero =>
    intro i hi h l o g' r xl dne fr hb hj
    have e : i = la - f := by omega
    subst e
    have t0 := r.1.1.1.1.1
    have el : f + (la - f) = la := by omega
    rw [el] at xl dne ⊢
    have l1 : h.I 6 (yA c.1) = nI la := by rw [fr.I (PXE.no (l := [6]) rfl rfl _ _ rfl)]; exact l0
    refine k_X1_execute_110 (r2 := l1) oo (fun _ => ?_) (fun q => absurd (Int32.le_refl _) q)
    exact kk h l o g' r xl dne fr hb hj
  | succ m ih =>
    intro i hi h l o g' r xl dne fr hb hj
    obtain ⟨⟨⟨⟨⟨t0, -, rB, -⟩, -⟩, bk, -⟩, ly⟩, -⟩ := id r
    have tB := bk.1
    obtain ⟨eX, tX, -⟩ := bk.2.2 (f + i) (by omega)
    have l1 : h.I 6 (yA c.1) = nI la := by rw [fr.I (PXE.no (l := [6]) rfl rfl _ _ rfl)]; exact l0
    have ix : IX (nI (f + i)) 32 (f + i) := IX.mk (by omega) (by omega)
    refine k_X1_execute_110 (r2 := l1) oo (fun q => absurd ((nI_leI (by omega) (by omega)).mp q) (by omega)) (fun _ => ?_)
    refine k_X1_execute_118 oo ?_
    obtain ⟨tx, r5⟩ := tx0 (f + i) (by omega) (by omega)
    have txh : TXO h c.1 (f + i) (pub (f + i)) (rr (f + i)) := tx.fr fr (fun f hf a _ => PXE.no (l := txF ++ resF) rfl rfl f a hf)
    refine hT i h l o g' _ (by omega) r (by rw [xl]; exact if_neg (by omega)) txh fr hb hj fun h1 l1' o1 r1 f1 hb1 hj1 => ?_
    have q1 : Fr (PXE c.1 f la) h h1 := f1.mono fun g a z => Or.inl ⟨f + i, by omega, z⟩
    obtain ⟨⟨⟨⟨⟨t01, -, rB1, -⟩, -⟩, bk1, -⟩, -⟩, -⟩ := id r1
    have tB1 := bk1.1
    obtain ⟨eX1, tX1, -⟩ := bk1.2.2 (f + i) (by omega)
    have oc1 : h1.I 2707 (yX c.1 (f + i)) = nI (rr (f + i)).1 := by rw [q1.I (PXE.no (l := [2707]) rfl rfl _ _ rfl)]; exact txh.1.1
    have q2 : Fq (fun g a => g = 2701 ∧ a = yX c.1 (f + i)) h1 (h1.sI 2701 (yX c.1 (f + i)) (nI 1)) := Fq.sI (Fq.refl h1) ⟨rfl, rfl⟩
    have d2 : ∀ k, k ≠ f + i → k < 32 → (h1.sI 2701 (yX c.1 (f + i)) (nI 1)).I 2701 (yX c.1 k) = h1.I 2701 (yX c.1 k) := fun k hk k32 => by
      have : yX c.1 k ≠ yX c.1 (f + i) := fun e => hk (bk1.2.1 k (f + i) k32 (by omega) e)
      simp [n_sI, z_sI, tag_sI, I_sI, J_sI, R_sI, EI_sI, EJ_sI, ER_sI, n_sJ, z_sJ, tag_sJ, I_sJ, J_sJ, R_sJ, EI_sJ, EJ_sJ, ER_sJ, n_sR, z_sR, tag_sR, I_sR, J_sR, R_sR, EI_sR, EJ_sR, ER_sR, n_sEI, z_sEI, tag_sEI, I_sEI, J_sEI, R_sEI, EI_sEI, EJ_sEI, ER_sEI, n_sEJ, z_sEJ, tag_sEJ, I_sEJ, J_sEJ, R_sEJ, EI_sEJ, EJ_sEJ, ER_sEJ, n_sER, z_sER, tag_sER, I_sER, J_sER, R_sER, EI_sER, EJ_sER, ER_sER, n_nw, z_nw, tag_nw, I_nw, J_nw, R_nw, EI_nw, EJ_nw, ER_nw, this]
    have d3 : (h1.sI 2701 (yX c.1 (f + i)) (nI 1)).I 2701 (yX c.1 (f + i)) = nI 1 := by simp [n_sI, z_sI, tag_sI, I_sI, J_sI, R_sI, EI_sI, EJ_sI, ER_sI, n_sJ, z_sJ, tag_sJ, I_sJ, J_sJ, R_sJ, EI_sJ, EJ_sJ, ER_sJ, n_sR, z_sR, tag_sR, I_sR, J_sR, R_sR, EI_sR, EJ_sR, ER_sR, n_sEI, z_sEI, tag_sEI, I_sEI, J_sEI, R_sEI, EI_sEI, EJ_sEI, ER_sEI, n_sEJ, z_sEJ, tag_sEJ, I_sEJ, J_sEJ, R_sEJ, EI_sEJ, EJ_sEJ, ER_sEJ, n_sER, z_sER, tag_sER, I_sER, J_sER, R_sER, EI_sER, EJ_sER, ER_sER, n_nw, z_nw, tag_nw, I_nw, J_nw, R_nw, EI_nw, EJ_nw, ER_nw]
    have go : ∀ b, b = (if (rr (f + i)).1 = 0 then 1 else 0) → V XX K 156 [.ref (yA c.1), .int (nI (dn + dnc rr f i)), .int (nI (f + i))] [.int (nI b), .int (nI (dn + dnc rr f i))] (h1.sI 2701 (yX c.1 (f + i)) (nI 1)) := fun b hb' => by
      generalize h1.sI 2701 (yX c.1 (f + i)) (nI 1) = h2 at q2 d2 d3
      have nd : ∀ l : List Nat, l.all (fun f => !(f == 2701)) = true → ∀ g a, l.contains g = true → ¬ (g = 2701 ∧ a = yX c.1 (f + i)) := fun l hl g a hg z => by
        rw [List.all_eq_true] at hl
        have := hl g (List.contains_iff_mem.mp hg)
        rw [z.1] at this; exact absurd this (by decide)
      refine k_X1_execute_156 oo ?_
      rw [nI_add, nI_add]
      have e1 : dn + dnc rr f i + b = dn + dnc rr f (i + 1) := by
        show _ = dn + (dnc rr f i + _)
        rw [hb', Nat.add_assoc]
      rw [e1, Nat.add_assoc]
      refine ih (i + 1) (by omega) h2 l1' o1 (cgl g' (f + i)) (r1.dn q2 (nd _ (by decide)) (fun g a y z => by rw [z.1] at y; exact VQ.no (l := [2701]) rfl _ _ rfl y)) (fun k => ?_) (fun k k1 k2 => ?_) (fr.trans (q1.trans (q2.1.mono fun g a z => Or.inr ⟨z.1, f + i, by omega, z.2⟩))) (by rw [q2.1.J (nd [18] rfl _ _ rfl)]; exact hb1) (hJ _ _ _ (q2.1.mono fun g a z => z.1) hj1)
      · rw [cgl_L]
        by_cases e : k = f + i
        · rw [if_pos e, if_pos (by omega)]
        · rw [if_neg e, xl]
          by_cases e2 : f ≤ k ∧ k < f + i
          · rw [if_pos e2, if_pos (by omega)]
          · rw [if_neg e2, if_neg (by omega)]
      · by_cases e : k = f + i
        · rw [e]; exact d3
        · rw [d2 k e (by omega)]
          have nP : ¬ PTm (yA c.1) (yX c.1 (f + i)) (yE c.1) (yL c.1 (f + i)) 2701 (yX c.1 k) := PTm.no (l := [2701]) rfl rfl _ _ rfl
          rw [f1.I nP]
          exact dne k k1 (by omega)
    refine k_X1_execute_128 (r21 := oc1) oo (fun c0 => ?_) (fun c0 => ?_)
    · refine k_X1_execute_155 oo ?_
      exact go 0 (by rw [if_neg (fun z => c0 (by rw [z]; rfl))])
    · refine k_X1_execute_151 oo ?_
      exact go 1 (by rw [if_pos ((nI_eq (b := 0) (by omega) (by omega)).mp c0)])
end
