/-! the ledger's face: arguments -/
def argG (t : Int32) (hi lo : Int64) : Prop := (1 ≤ um t ∧ um t ≤ 5) ∧ (um t = 4 ∨ hi = 0) ∧ (2 < um t ∨ (¬ lo < 0 ∧ lo < if um t = 1 then 2 else 256))
theorem argG.rg {t : Int32} {hi lo : Int64} (g : argG t hi lo) : (1 ≤ um t ∧ um t ≤ 5) ∧ rng (um t) (hi, lo) := by
  obtain ⟨g1, g2, g3⟩ := g
  refine ⟨g1, g2, fun e => ?_, fun e => ?_⟩
  · rcases g3 with g3 | ⟨g3, g4⟩
    · omega
    · rw [if_pos e] at g4
      have h1 : 0 ≤ lo.toInt := by have := Int64.not_lt.mp g3; rw [Int64.le_iff_toInt_le] at this; exact this
      have h2 : lo.toInt < 2 := by rw [Int64.lt_iff_toInt_lt] at g4; exact g4
      have : lo.toInt = 0 ∨ lo.toInt = 1 := by omega
      rcases this with q | q
      · exact Or.inl (Int64.toInt_inj.mp q)
      · exact Or.inr (Int64.toInt_inj.mp q)
  · rcases g3 with g3 | ⟨g3, g4⟩
    · omega
    · rw [if_neg (by omega)] at g4
      have h1 : ¬ (9223372036854775808 ≤ un lo) := fun q => g3 (un_neg.mpr q)
      have := (un_ltI (x := lo) (y := 256) (by omega) (by decide)).mp g4
      exact this
section
variable {n B : Nat} {G : Gt} {cm : Md} {y : Ly} {lx : Lx} {a : Ab} {h h' : AH} {d : Nat} {K : Outcome → AH → Prop} {P : Nat → Nat → Prop}
theorem arg_0 {X : Xt} (o : OK e_X1_argument X) {A : Nat} {t : Int32} {hi lo : Int64} {v3 v5 v6 v7 : Value} (k1 : argG t hi lo → V X K 58 [.ref A, .int t, .long hi, v3, .long lo, v5, v6, v7] [.int (nI 1)] h) (k0 : ¬ argG t hi lo → V X K 58 [.ref A, .int t, .long hi, v3, .long lo, v5, v6, v7] [.int (nI 0)] h) : V X K 0 [.ref A, .int t, .long hi, v3, .long lo, v5, v6, v7] [] h := by
  have bad : ¬ argG t hi lo → V X K 57 [.ref A, .int t, .long hi, v3, .long lo, v5, v6, v7] [] h := fun q => k_X1_argument_57 o (k0 q)
  have good : argG t hi lo → V X K 53 [.ref A, .int t, .long hi, v3, .long lo, v5, v6, v7] [] h := fun q => k_X1_argument_53 o (k1 q)
  generalize hm : um t = M at *
  have em : t = nI M := by rw [← hm, nI_um]
  have M32 : M < 4294967296 := by rw [← hm]; exact um_lt _
  by_cases c0 : t < 0
  · have := um_neg.mp c0
    exact k_X1_argument_0 o (fun _ => bad fun q => by have := q.1; omega) (fun q => absurd (Int32.lt_of_lt_of_le c0 (by decide)) q)
  have M31 : M < 2147483648 := by have : ¬ _ := fun q => c0 (um_neg.mpr q); omega
  have e1 : ∀ k, k < 2147483648 → (t < nI k ↔ M < k) := fun k hk => by rw [em]; exact nI_ltI (by omega) hk
  have e2 : ∀ k, k < 2147483648 → (nI k < t ↔ k < M) := fun k hk => by rw [em]; exact nI_ltI hk (by omega)
  have e3 : ∀ k, k < 2147483648 → (t = nI k ↔ M = k) := fun k hk => by rw [em]; exact nI_eq (by omega) (by omega)
  refine k_X1_argument_0 o (fun q => bad fun z => by have := (e1 1 (by omega)).mp q; have := z.1; omega) (fun q0 => ?_)
  refine k_X1_argument_5 o (fun q => bad fun z => by have := (e2 5 (by omega)).mp q; have := z.1; omega) (fun q1 => ?_)
  have m1 : 1 ≤ M := by have : ¬ _ := fun z => q0 ((e1 1 (by omega)).mpr z); omega
  have m5 : M ≤ 5 := by have : ¬ _ := fun z => q1 ((e2 5 (by omega)).mpr z); omega
  have next : (M = 4 ∨ hi = 0) → V X K 21 [.ref A, .int t, .long hi, v3, .long lo, v5, v6, v7] [] h := fun g2 => by
    refine k_X1_argument_21 o (fun q => good ⟨by omega, by rw [hm]; exact g2, Or.inl (by have := (e2 2 (by omega)).mp q; omega)⟩) (fun q => ?_)
    have m2 : M ≤ 2 := by have : ¬ _ := fun z => q ((e2 2 (by omega)).mpr z); omega
    refine k_X1_argument_26 o (fun q => bad fun z => ?_) (fun q2 => ?_)
    · rcases z.2.2 with z | z
      · omega
      · exact z.1 q
    · refine k_X1_argument_33 o (fun q => ?_) (fun q => ?_)
      · have mn : M ≠ 1 := fun z => q ((e3 1 (by omega)).mpr z)
        refine k_X1_argument_46 o ?_
        refine k_X1_argument_49 o (fun q => bad fun z => ?_) (fun q => good ⟨by omega, by rw [hm]; exact g2, Or.inr ⟨q2, ?_⟩⟩)
        · rcases z.2.2 with z | z
          · omega
          · have := z.2
            rw [if_neg (by omega)] at this
            exact absurd q (Int64.not_le.mpr this)
        · rw [if_neg (by omega)]; exact Int64.not_le.mp q
      · have mn : M = 1 := (e3 1 (by omega)).mp q
        refine k_X1_argument_40 o ?_
        refine k_X1_argument_49 o (fun q => bad fun z => ?_) (fun q => good ⟨by omega, by rw [hm]; exact g2, Or.inr ⟨q2, ?_⟩⟩)
        · rcases z.2.2 with z | z
          · omega
          · have := z.2
            rw [if_pos (by omega)] at this
            exact absurd q (Int64.not_le.mpr this)
        · rw [if_pos (by omega)]; exact Int64.not_le.mp q
  refine k_X1_argument_10 o (fun q => next (Or.inl ((e3 4 (by omega)).mp q))) (fun q => ?_)
  refine k_X1_argument_15 o (fun q4 => bad fun z => ?_) (fun q4 => next (Or.inr q4))
  rcases z.2.1 with z | z
  · exact q ((e3 4 (by omega)).mpr (by omega))
  · exact q4 z
/-- one argument more -/
def abA (a : Ab) (x : Nat × Int64 × Int64) : Ab := (a.1, a.2.1, a.2.2.1, (fup a.2.2.2.1.1 (a.2.2.1.2 - 1) ((a.2.2.2.1.1 (a.2.2.1.2 - 1)).1, (a.2.2.2.1.1 (a.2.2.1.2 - 1)).2.1, (a.2.2.2.1.1 (a.2.2.1.2 - 1)).2.2.1, (a.2.2.2.1.1 (a.2.2.1.2 - 1)).2.2.2.1, (a.2.2.2.1.1 (a.2.2.1.2 - 1)).2.2.2.2.1, (a.2.2.2.1.1 (a.2.2.1.2 - 1)).2.2.2.2.2 ++ [x]), a.2.2.2.1.2), a.2.2.2.2)
def argF : List Nat := [2697, 10000 + 752, 10000 + 771, 10000 + 787]
theorem argument_ok {t : Int32} {hi lo : Int64} (r : RCm n G B cm y lx a h) (k1 : ¬ argG t hi lo → K (.returned (some (.int (-1)))) h) (k2 : argG t hi lo → ¬ (a.2.2.1.1 < a.2.2.1.2 ∧ a.2.2.2.1.2.1 (a.2.2.1.2 - 1) = false) → K (.returned (some (.int (-2)))) h) (k3 : argG t hi lo → a.2.2.1.1 < a.2.2.1.2 ∧ a.2.2.2.1.2.1 (a.2.2.1.2 - 1) = false → (a.2.2.2.1.1 (a.2.2.1.2 - 1)).2.2.2.2.2.length = 8 → K (.returned (some (.int (-3)))) h) (kk : argG t hi lo → a.2.2.1.1 < a.2.2.1.2 ∧ a.2.2.2.1.2.1 (a.2.2.1.2 - 1) = false → (a.2.2.2.1.1 (a.2.2.1.2 - 1)).2.2.2.2.2.length < 8 → ∀ h', RCm n G B cm y lx (abA a (um t, hi, lo)) h' → Fq (FS argF) h h' → K (.returned (some (.int (nI ((a.2.2.2.1.1 (a.2.2.1.2 - 1)).2.2.2.2.2.length + 1))))) h') : MW G d e_X1_argument [.ref (yA y), .int t, .long hi, .long lo] h K := by
  refine st_X1_argument fun X o hG hD _ => ?_
  have t0 := r.t0
  obtain ⟨rB, bk, ts, ti⟩ := r.bk
  have tB := bk.1
  have ly := r.ly
  obtain ⟨⟨r1, ⟨r2, r3, r4, r4'⟩, r5⟩, ⟨r6, r7, ⟨wv, r8⟩, r9, r9'⟩, ⟨r10, r11⟩, ⟨r12, r13, r14, r15⟩, r16, r17⟩ := id r
  refine arg_0 o (fun g => ?_) (fun g => ?_)
  · refine k_X1_argument_58 o (fun _ => ?_) (fun q => absurd q (by decide))
    by_cases c0 : a.2.2.1.2 = 0
    · refine k_X1_argument_67 (r2 := r3) o (fun _ => ?_) (fun q => absurd (by rw [c0]; rfl) q)
      exact k_X1_argument_108 o (k2 g (by omega))
    refine k_X1_argument_67 (r2 := r3) o (fun q => absurd ((nI_eq (b := 0) (by omega) (by omega)).mp q) c0) (fun _ => ?_)
    have es : nI a.2.2.1.2 - nI 1 = nI (a.2.2.1.2 - 1) := nI_sub (by omega)
    have k32 : a.2.2.1.2 - 1 < 32 := by omega
    obtain ⟨eX, tX, -⟩ := bk.2.2 _ k32
    obtain ⟨tx, pX⟩ := ti _ k32
    have ix : IX (nI a.2.2.1.2 - nI 1) 32 (a.2.2.1.2 - 1) := by rw [es]; exact IX.mk k32 (by omega)
    cases hp : a.2.2.2.1.2.1 (a.2.2.1.2 - 1) with
    | true =>
      rw [hp] at pX
      refine k_X1_argument_74 (r4 := r3) (r13 := pX) o (fun _ => ?_) (fun q => absurd q (by decide))
      exact k_X1_argument_108 o (k2 g (by rw [hp]; simp))
    | false =>
      rw [hp] at pX
      refine k_X1_argument_74 (r4 := r3) (r13 := pX) o (fun q => absurd rfl q) (fun _ => ?_)
      by_cases cd : a.2.2.1.1 < a.2.2.1.2
      · have dn := r11 (a.2.2.1.2 - 1) (by omega) (by omega)
        refine k_X1_argument_91 (r4 := r3) (r13 := dn) o (fun _ => ?_) (fun q => absurd rfl q)
        obtain ⟨⟨x1, x2, x3, x4, x5⟩, ⟨x6, x7⟩, ⟨⟨z1, z2⟩, ⟨z3, z4⟩, z5, z6⟩, x8⟩ := id tx
        by_cases c8 : (a.2.2.2.1.1 (a.2.2.1.2 - 1)).2.2.2.2.2.length = 8
        · refine k_X1_argument_111 (r4 := r3) (r13 := x6) o (fun q => absurd (by rw [c8]) q) (fun _ => ?_)
          exact k_X1_argument_134 o (k3 g ⟨cd, hp⟩ c8)
        · refine k_X1_argument_111 (r4 := r3) (r13 := x6) o (fun _ => ?_) (fun q => absurd ((nI_eq (b := 8) (by omega) (by omega)).mp q) c8)
          generalize hk0 : a.2.2.1.2 - 1 = k0 at *
          generalize hxs : (a.2.2.2.1.1 k0).2.2.2.2.2 = xs at *
          have il : IX (nI xs.length) 8 xs.length := IX.mk (by omega) (by omega)
          refine k_X1_argument_137 (r4 := x6) (r12 := x6) (r20 := x6) (r26 := x6) o ?_
          rw [nI_add]
          have q2 : Fq (fun f a' => (f = 2697 ∧ a' = yX y k0) ∨ (f = 10000 + 752 ∧ a' = y.2 4 k0) ∨ (f = 10000 + 771 ∧ a' = y.2 5 k0) ∨ (f = 10000 + 787 ∧ a' = y.2 6 k0)) h ((((h.sEI 752 (y.2 4 k0) xs.length t).sEJ 771 (y.2 5 k0) xs.length hi).sEJ 787 (y.2 6 k0) xs.length lo).sI 2697 (yX y k0) (nI (xs.length + 1))) := Fq.sI (Fq.sEJ (Fq.sEJ (Fq.sEI (Fq.refl h) (Or.inr (Or.inl ⟨rfl, rfl⟩))) (Or.inr (Or.inr (Or.inl ⟨rfl, rfl⟩)))) (Or.inr (Or.inr (Or.inr ⟨rfl, rfl⟩)))) (Or.inl ⟨rfl, rfl⟩)
          have g1 : ((((h.sEI 752 (y.2 4 k0) xs.length t).sEJ 771 (y.2 5 k0) xs.length hi).sEJ 787 (y.2 6 k0) xs.length lo).sI 2697 (yX y k0) (nI (xs.length + 1))).I 2697 (yX y k0) = nI (xs.length + 1) := by simp [n_sI, z_sI, tag_sI, I_sI, J_sI, R_sI, EI_sI, EJ_sI, ER_sI, n_sJ, z_sJ, tag_sJ, I_sJ, J_sJ, R_sJ, EI_sJ, EJ_sJ, ER_sJ, n_sR, z_sR, tag_sR, I_sR, J_sR, R_sR, EI_sR, EJ_sR, ER_sR, n_sEI, z_sEI, tag_sEI, I_sEI, J_sEI, R_sEI, EI_sEI, EJ_sEI, ER_sEI, n_sEJ, z_sEJ, tag_sEJ, I_sEJ, J_sEJ, R_sEJ, EI_sEJ, EJ_sEJ, ER_sEJ, n_sER, z_sER, tag_sER, I_sER, J_sER, R_sER, EI_sER, EJ_sER, ER_sER, n_nw, z_nw, tag_nw, I_nw, J_nw, R_nw, EI_nw, EJ_nw, ER_nw]
          have g2 : ∀ (i : Nat) (x : Nat × Int64 × Int64), (xs ++ [(um t, hi, lo)])[i]? = some x → ((((h.sEI 752 (y.2 4 k0) xs.length t).sEJ 771 (y.2 5 k0) xs.length hi).sEJ 787 (y.2 6 k0) xs.length lo).sI 2697 (yX y k0) (nI (xs.length + 1))).EI 752 (y.2 4 k0) i = nI x.1 ∧ ((((h.sEI 752 (y.2 4 k0) xs.length t).sEJ 771 (y.2 5 k0) xs.length hi).sEJ 787 (y.2 6 k0) xs.length lo).sI 2697 (yX y k0) (nI (xs.length + 1))).EJ 771 (y.2 5 k0) i = x.2.1 ∧ ((((h.sEI 752 (y.2 4 k0) xs.length t).sEJ 771 (y.2 5 k0) xs.length hi).sEJ 787 (y.2 6 k0) xs.length lo).sI 2697 (yX y k0) (nI (xs.length + 1))).EJ 787 (y.2 6 k0) i = x.2.2 := fun i x hx => by
            by_cases ei : i = xs.length
            · subst ei
              rw [List.getElem?_append_right (Nat.le_refl _), Nat.sub_self] at hx
              have hx : (um t, hi, lo) = x := Option.some.inj hx
              subst hx
              exact ⟨by simp [n_sI, z_sI, tag_sI, I_sI, J_sI, R_sI, EI_sI, EJ_sI, ER_sI, n_sJ, z_sJ, tag_sJ, I_sJ, J_sJ, R_sJ, EI_sJ, EJ_sJ, ER_sJ, n_sR, z_sR, tag_sR, I_sR, J_sR, R_sR, EI_sR, EJ_sR, ER_sR, n_sEI, z_sEI, tag_sEI, I_sEI, J_sEI, R_sEI, EI_sEI, EJ_sEI, ER_sEI, n_sEJ, z_sEJ, tag_sEJ, I_sEJ, J_sEJ, R_sEJ, EI_sEJ, EJ_sEJ, ER_sEJ, n_sER, z_sER, tag_sER, I_sER, J_sER, R_sER, EI_sER, EJ_sER, ER_sER, n_nw, z_nw, tag_nw, I_nw, J_nw, R_nw, EI_nw, EJ_nw, ER_nw, nI_um], by simp [n_sI, z_sI, tag_sI, I_sI, J_sI, R_sI, EI_sI, EJ_sI, ER_sI, n_sJ, z_sJ, tag_sJ, I_sJ, J_sJ, R_sJ, EI_sJ, EJ_sJ, ER_sJ, n_sR, z_sR, tag_sR, I_sR, J_sR, R_sR, EI_sR, EJ_sR, ER_sR, n_sEI, z_sEI, tag_sEI, I_sEI, J_sEI, R_sEI, EI_sEI, EJ_sEI, ER_sEI, n_sEJ, z_sEJ, tag_sEJ, I_sEJ, J_sEJ, R_sEJ, EI_sEJ, EJ_sEJ, ER_sEJ, n_sER, z_sER, tag_sER, I_sER, J_sER, R_sER, EI_sER, EJ_sER, ER_sER, n_nw, z_nw, tag_nw, I_nw, J_nw, R_nw, EI_nw, EJ_nw, ER_nw], by simp [n_sI, z_sI, tag_sI, I_sI, J_sI, R_sI, EI_sI, EJ_sI, ER_sI, n_sJ, z_sJ, tag_sJ, I_sJ, J_sJ, R_sJ, EI_sJ, EJ_sJ, ER_sJ, n_sR, z_sR, tag_sR, I_sR, J_sR, R_sR, EI_sR, EJ_sR, ER_sR, n_sEI, z_sEI, tag_sEI, I_sEI, J_sEI, R_sEI, EI_sEI, EJ_sEI, ER_sEI, n_sEJ, z_sEJ, tag_sEJ, I_sEJ, J_sEJ, R_sEJ, EI_sEJ, EJ_sEJ, ER_sEJ, n_sER, z_sER, tag_sER, I_sER, J_sER, R_sER, EI_sER, EJ_sER, ER_sER, n_nw, z_nw, tag_nw, I_nw, J_nw, R_nw, EI_nw, EJ_nw, ER_nw]⟩
            · have il : i < xs.length := by
                have := (List.getElem?_eq_some_iff.mp hx).1
                rw [List.length_append] at this
                simp only [List.length_cons, List.length_nil] at this
                omega
              rw [List.getElem?_append_left il] at hx
              obtain ⟨w1, w2, w3⟩ := x8 i x hx
              exact ⟨by simpa [n_sI, z_sI, tag_sI, I_sI, J_sI, R_sI, EI_sI, EJ_sI, ER_sI, n_sJ, z_sJ, tag_sJ, I_sJ, J_sJ, R_sJ, EI_sJ, EJ_sJ, ER_sJ, n_sR, z_sR, tag_sR, I_sR, J_sR, R_sR, EI_sR, EJ_sR, ER_sR, n_sEI, z_sEI, tag_sEI, I_sEI, J_sEI, R_sEI, EI_sEI, EJ_sEI, ER_sEI, n_sEJ, z_sEJ, tag_sEJ, I_sEJ, J_sEJ, R_sEJ, EI_sEJ, EJ_sEJ, ER_sEJ, n_sER, z_sER, tag_sER, I_sER, J_sER, R_sER, EI_sER, EJ_sER, ER_sER, n_nw, z_nw, tag_nw, I_nw, J_nw, R_nw, EI_nw, EJ_nw, ER_nw, ei] using w1, by simpa [n_sI, z_sI, tag_sI, I_sI, J_sI, R_sI, EI_sI, EJ_sI, ER_sI, n_sJ, z_sJ, tag_sJ, I_sJ, J_sJ, R_sJ, EI_sJ, EJ_sJ, ER_sJ, n_sR, z_sR, tag_sR, I_sR, J_sR, R_sR, EI_sR, EJ_sR, ER_sR, n_sEI, z_sEI, tag_sEI, I_sEI, J_sEI, R_sEI, EI_sEI, EJ_sEI, ER_sEI, n_sEJ, z_sEJ, tag_sEJ, I_sEJ, J_sEJ, R_sEJ, EI_sEJ, EJ_sEJ, ER_sEJ, n_sER, z_sER, tag_sER, I_sER, J_sER, R_sER, EI_sER, EJ_sER, ER_sER, n_nw, z_nw, tag_nw, I_nw, J_nw, R_nw, EI_nw, EJ_nw, ER_nw, ei] using w2, by simpa [n_sI, z_sI, tag_sI, I_sI, J_sI, R_sI, EI_sI, EJ_sI, ER_sI, n_sJ, z_sJ, tag_sJ, I_sJ, J_sJ, R_sJ, EI_sJ, EJ_sJ, ER_sJ, n_sR, z_sR, tag_sR, I_sR, J_sR, R_sR, EI_sR, EJ_sR, ER_sR, n_sEI, z_sEI, tag_sEI, I_sEI, J_sEI, R_sEI, EI_sEI, EJ_sEI, ER_sEI, n_sEJ, z_sEJ, tag_sEJ, I_sEJ, J_sEJ, R_sEJ, EI_sEJ, EJ_sEJ, ER_sEJ, n_sER, z_sER, tag_sER, I_sER, J_sER, R_sER, EI_sER, EJ_sER, ER_sER, n_nw, z_nw, tag_nw, I_nw, J_nw, R_nw, EI_nw, EJ_nw, ER_nw, ei] using w3⟩
          generalize (((h.sEI 752 (y.2 4 k0) xs.length t).sEJ 771 (y.2 5 k0) xs.length hi).sEJ 787 (y.2 6 k0) xs.length lo).sI 2697 (yX y k0) (nI (xs.length + 1)) = h2 at q2 g1 g2
          have q3 : Fq (FS argF) h h2 := q2.mono fun f a' z => by rcases z with z | z | z | z <;> (rw [z.1]; rfl)
          have nf : ∀ l : List Nat, l.all (fun f => !(argF.contains f)) = true → ∀ f a', l.contains f = true → ¬ ((f = 2697 ∧ a' = yX y k0) ∨ (f = 10000 + 752 ∧ a' = y.2 4 k0) ∨ (f = 10000 + 771 ∧ a' = y.2 5 k0) ∨ (f = 10000 + 787 ∧ a' = y.2 6 k0)) := fun l hl f a' hf z => by
            rw [List.all_eq_true] at hl
            have := hl f (List.contains_iff_mem.mp hf)
            rcases z with z | z | z | z <;> (rw [z.1] at this; exact absurd this (by decide))
          obtain ⟨M0, hM, -⟩ := r.md k32
          obtain ⟨MA, mw, dx, ms, gg, l, o2, ⟨e1, -⟩, -⟩ := id r1
          obtain ⟨-, b2, b3, b4⟩ := e1.1.1.2.2.2.2 k0 k32
          have ex := EXV.tx (ct' := a.2.2.1.2) (x := ((a.2.2.2.1.1 k0).1, (a.2.2.2.1.1 k0).2.1, (a.2.2.2.1.1 k0).2.2.1, (a.2.2.2.1.1 k0).2.2.2.1, (a.2.2.2.1.1 k0).2.2.2.2.1, xs ++ [(um t, hi, lo)])) (b := false) (bt := a.2.2.2.1.2.2.1 k0) k32 r1 q2 (fun f a' hv z => nov_l (l2 := argF) (by decide) f a' hv (by rcases z with z | z | z | z <;> (rw [z.1]; rfl))) (nf exvB (by decide +kernel)) (fun k hk hne f hf z => by
            rcases z with z | z | z | z
            · exact (r16 k k0 hk k32 hne).1 z.2
            · rw [z.1] at hf; exact absurd hf (by decide)
            · rw [z.1] at hf; exact absurd hf (by decide)
            · rw [z.1] at hf; exact absurd hf (by decide)) (fun k hk hne => by
            obtain ⟨-, y4, y5, y6⟩ := r16 k k0 hk k32 hne
            refine ⟨fun z => ?_, fun z => ?_, fun z => ?_⟩
            · rcases z with z | z | z | z
              · exact absurd z.1 (by decide)
              · exact y4 z.2
              · exact absurd z.1 (by decide)
              · exact absurd z.1 (by decide)
            · rcases z with z | z | z | z
              · exact absurd z.1 (by decide)
              · exact absurd z.1 (by decide)
              · exact y5 z.2
              · exact absurd z.1 (by decide)
            · rcases z with z | z | z | z
              · exact absurd z.1 (by decide)
              · exact absurd z.1 (by decide)
              · exact absurd z.1 (by decide)
              · exact y6 z.2) hM (fun f a' hf z => absurd z (nf mdxF (by decide) f a' hf)) ⟨⟨⟨by rw [q2.1.J (nf [2690] (by decide) _ _ rfl)]; exact x1, by rw [q2.1.I (nf [2692] (by decide) _ _ rfl)]; exact x2, x3, by rw [q2.1.I (nf [2693] (by decide) _ _ rfl)]; exact x4, x5⟩, ⟨by rw [g1]; simp, by simp; omega⟩, ⟨⟨by rw [q2.1.R (nf [2694] (by decide) _ _ rfl)]; exact z1, q2.1.tag z2⟩, ⟨by rw [q2.1.R (nf [2695] (by decide) _ _ rfl)]; exact z3, q2.1.tag z4⟩, by rw [q2.1.R (nf [2696] (by decide) _ _ rfl)]; exact z5, q2.1.tag z6⟩, g2⟩, by rw [q2.1.I (nf [2691] (by decide) _ _ rfl)]; exact b2, by rw [q2.1.J (nf [2689] (by decide) _ _ rfl)]; exact b3, by rw [q2.1.I (nf [2688] (by decide) _ _ rfl)]; exact pX⟩ (fun _ _ q => by cases q) (fun k _ k2 _ => k2)
          have efp : fup a.2.2.2.1.2.1 k0 false = a.2.2.2.1.2.1 := by rw [← hp]; exact fup_id
          rw [fup_id, efp] at ex
          have eab : abA a (um t, hi, lo) = (a.1, a.2.1, a.2.2.1, (fup a.2.2.2.1.1 k0 ((a.2.2.2.1.1 k0).1, (a.2.2.2.1.1 k0).2.1, (a.2.2.2.1.1 k0).2.2.1, (a.2.2.2.1.1 k0).2.2.2.1, (a.2.2.2.1.1 k0).2.2.2.2.1, xs ++ [(um t, hi, lo)]), a.2.2.2.1.2), a.2.2.2.2) := by
            unfold abA
            rw [hk0, hxs]
          rw [eab] at kk
          refine kk g ⟨cd, hp⟩ (by omega) h2 ⟨⟨ex, ⟨by rw [q2.1.I (nf [5] (by decide) _ _ rfl)]; exact r2, by rw [q2.1.I (nf [4] (by decide) _ _ rfl)]; exact r3, r4, r4'⟩, fun k hk => ?_⟩, ⟨by rw [q2.1.J (nf [17] (by decide) _ _ rfl)]; exact r6, r7.fr q2.1 (nf _ (by decide)), ⟨wv, r8.fr q2.1 (nf _ (by decide))⟩, r9.fr q2.1 (nf _ (by decide)), r9'⟩, ⟨fun k k1 k2 => ?_, fun k k1 k2 => ?_⟩, ⟨by rw [q2.1.R (nf [13] (by decide) _ _ rfl)]; exact r12, r13.fr q2.1 (nf _ (by decide)), q2.1.tag r14, r15.fr q2.1 (nf [14096] (by decide) _ _ rfl)⟩, r16, r17⟩ q3
          · obtain ⟨y1, y2, y3⟩ := r5 k hk
            refine ⟨?_, fun q => ?_, y3⟩
            · show (fup a.2.2.2.1.1 k0 _ k).2.2.1 ≤ 20000
              by_cases ek : k = k0
              · subst ek; rw [fup_s]; exact y1
              · rw [fup_n ek]; exact y1
            · show AGv (fup a.2.2.2.1.1 k0 _ k).2.2.2.2.2
              by_cases ek : k = k0
              · subst ek
                rw [fup_s]
                obtain ⟨v1, v2⟩ := y2 q
                rw [hxs] at v1 v2
                refine ⟨by simp; omega, fun z hz => ?_⟩
                rcases List.mem_append.mp hz with w | w
                · exact v2 z w
                · rw [List.mem_singleton] at w
                  rw [w]; exact g.rg
              · rw [fup_n ek]; exact y2 q
          · obtain ⟨w1, w2⟩ := r10 k k1 k2
            exact ⟨w1.fr q2.1 (fun f hf a' _ => nf (txF ++ resF) (by decide) f a' hf), by rw [q2.1.I (nf [2701] (by decide) _ _ rfl)]; exact w2⟩
          · rw [q2.1.I (nf [2701] (by decide) _ _ rfl)]; exact r11 k k1 k2
      · obtain ⟨-, dn⟩ := r10 (a.2.2.1.2 - 1) (Nat.zero_le _) (by omega)
        refine k_X1_argument_91 (r4 := r3) (r13 := dn) o (fun q => absurd q (by decide)) (fun _ => ?_)
        exact k_X1_argument_108 o (k2 g (fun q => cd q.1))
  · refine k_X1_argument_58 o (fun q => absurd rfl q) (fun _ => ?_)
    exact k_X1_argument_65 o (k1 g)
end
