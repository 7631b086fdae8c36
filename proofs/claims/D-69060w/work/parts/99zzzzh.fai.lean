/-! the ledger's face: publications -/
section
variable {n B : Nat} {G : Gt} {cm : Md} {y : Ly} {lx : Lx} {a : Ab} {h h' : AH} {d : Nat} {K : Outcome → AH → Prop} {P : Nat → Nat → Prop}
/-- a publication is there -/
def abP (a : Ab) (snd sq : Int64) (lim : Nat) : Ab := ([], a.2.1, (a.2.2.1.1, a.2.2.1.2 + 1), (fup a.2.2.2.1.1 a.2.2.1.2 (snd, sq, lim, (a.2.2.2.1.1 a.2.2.1.2).2.2.2.1, (a.2.2.2.1.1 a.2.2.1.2).2.2.2.2.1, []), fup a.2.2.2.1.2.1 a.2.2.1.2 true, fup a.2.2.2.1.2.2.1 a.2.2.1.2 (byl a.1), a.2.2.2.1.2.2.2), a.2.2.2.2)
def lpbF : List Nat := 4 :: txwF ++ [2699, 2700, 16, 130, 10000 + 177, 1409, 10000 + 353, 1411, 1415, 10000 + 371] ++ raF ++ tcF ++ tbF
/-- what a publication writes, and where -/
def PPW (A X M f a : Nat) : Prop := PNT A X f a ∨ ((f = 2699 ∨ f = 2700) ∧ a = X) ∨ (f = 16 ∨ f = 1409 ∨ f = 10000 + 353) ∨ (f = 130 ∧ a = M) ∨ (f = 10000 + 177 ∧ a = M + 525) ∨ RT (M + 1) f a
theorem PPW.l {A X M f a : Nat} (z : PPW A X M f a) : lpbF.contains f = true := by
  have sb : ∀ l : List Nat, l.all (fun f => lpbF.contains f) = true → l.contains f = true → lpbF.contains f = true := fun l hl hf => by
    rw [List.all_eq_true] at hl
    exact hl f (List.contains_iff_mem.mp hf)
  rcases z with (z | z) | z | z | z | z | z
  · rw [z.1]; decide
  · exact sb txwF (by decide) z.1
  · rcases z.1 with z | z <;> (rw [z]; decide)
  · rcases z with z | z | z <;> (rw [z]; decide)
  · rw [z.1]; decide
  · rw [z.1]; decide
  · rcases z with (z | z) | z
    · exact sb _ (by decide) z
    · exact sb _ (by decide) z.1
    · exact sb _ (by decide) z
theorem PPW.nf {A X M : Nat} {l : List Nat} (hl : l.all (fun f => !(lpbF.contains f)) = true) : ∀ f a', l.contains f = true → ¬ PPW A X M f a' := fun f a' hf z => by
  rw [List.all_eq_true] at hl
  have := hl f (List.contains_iff_mem.mp hf)
  rw [z.l] at this; cases this
theorem PPW.tx {A X M f a' : Nat} (hf : (txkF ++ [2699, 2700] ++ txF ++ resF ++ [2701]).contains f = true) (ha : a' ≠ X) : ¬ PPW A X M f a' := fun z => by
  have no : ∀ l : List Nat, l.all (fun f => !((txkF ++ [2699, 2700] ++ txF ++ resF ++ [2701]).contains f)) = true → l.contains f = true → False := fun l hl hg => by
    rw [List.all_eq_true] at hl
    have := hl f (List.contains_iff_mem.mp hg)
    rw [hf] at this; cases this
  rcases z with (z | z) | z | z | z | z | z
  · exact no [4] rfl (by rw [z.1]; rfl)
  · exact ha z.2
  · exact ha z.2
  · exact no [16, 1409, 10000 + 353] (by decide) (by rcases z with z | z | z <;> (rw [z]; rfl))
  · exact no [130] rfl (by rw [z.1]; rfl)
  · exact no [10000 + 177] rfl (by rw [z.1]; rfl)
  · rcases z with (z | z) | z
    · exact no _ (by decide) z
    · exact no _ (by decide) z.1
    · exact no _ (by decide) z
theorem PPW.md {A X M f a' : Nat} (hf : mdxF.contains f = true) (z : PPW A X M f a') : M ≤ a' ∧ a' < M + 527 := by
  have no : ∀ l : List Nat, l.all (fun f => !(mdxF.contains f)) = true → l.contains f = true → False := fun l hl hg => by
    rw [List.all_eq_true] at hl
    have := hl f (List.contains_iff_mem.mp hg)
    rw [hf] at this; cases this
  rcases z with (z | z) | z | z | z | z | z
  · exact (no [4] rfl (by rw [z.1]; rfl)).elim
  · exact (no txwF (by decide) z.1).elim
  · exact (no [2699, 2700] rfl (by rcases z.1 with z | z <;> (rw [z]; rfl))).elim
  · exact (no [16, 1409, 10000 + 353] (by decide) (by rcases z with z | z | z <;> (rw [z]; rfl))).elim
  · rw [z.2]; omega
  · rw [z.2]; omega
  · rcases z with (z | z) | z
    · exact (no _ (by decide) z).elim
    · have := z.2; omega
    · exact (no _ (by decide) z).elim
theorem publish_ok {snd sq : Int64} {lim : Int32} (r : RCm n G B cm y lx a h) (hd : 10 ≤ d) (k1 : lmt lim = false → K (.returned (some (.int (-1)))) h) (k2 : lmt lim = true → a.2.2.1.2 = 32 → K (.returned (some (.int (-3)))) h) (kk : lmt lim = true → a.2.2.1.2 < 32 → ∀ h', RCm n G B cm y lx (abP a snd sq (um lim)) h' → Fq (FS lpbF) h h' → K (.returned (some (.int (nI a.2.2.1.2)))) h') : MW G d e_X1_publish [.ref (yA y), .long snd, .long sq, .int lim] h K := by
  refine st_X1_publish fun X o hG hD _ => ?_
  subst hG; subst hD
  have t0 := r.t0
  obtain ⟨rB, bk, ts, ti⟩ := r.bk
  have ly := r.ly
  obtain ⟨⟨r1, ⟨r2, r3, r4, r4'⟩, r5⟩, ⟨r6, r7, ⟨wv, r8⟩, r9, r9'⟩, ⟨r10, r11⟩, ⟨r12, r13, r14, r15⟩, r16, r17⟩ := id r
  refine k_X1_publish_0 o ?_
  refine isLimit_ok ?_
  cases hl : lmt lim with
  | false => exact k_X1_publish_5 o (fun q => absurd rfl q) (fun _ => k_X1_publish_8 o (k1 hl))
  | true =>
    refine k_X1_publish_5 o (fun _ => ?_) (fun q => absurd q (by decide))
    by_cases c32 : a.2.2.1.2 = 32
    · exact k_X1_publish_10 (r2 := r3) o (fun q => absurd (by rw [c32]) q) (fun _ => k_X1_publish_19 o (k2 hl c32))
    have ct : a.2.2.1.2 < 32 := by omega
    refine k_X1_publish_10 (r2 := r3) o (fun _ => ?_) (fun q => absurd ((nI_eq (b := 32) (by omega) (by omega)).mp q) c32)
    refine k_X1_publish_22 o ?_
    refine ltx_ok t0 rB bk r3 ct (Or.inr rfl) (fun h1 q1 c1 ⟨p1, p2, p3, p4, p5, p6⟩ => ?_)
    obtain ⟨M0, hM, ⟨⟨m1, m2⟩, m3, m4⟩, m5⟩ := r.md ct
    obtain ⟨⟨w1, w2⟩, w3, w4, w5⟩ := id r7
    generalize hX0 : yX y a.2.2.1.2 = X0 at *
    have tX : h.tag X0 = some (21, 0) := by rw [← hX0]; exact (bk.2.2 _ ct).2.1
    have Q1 : Fq (PPW (yA y) X0 M0) h h1 := q1.mono fun f a' z => Or.inl z
    have tX1 := q1.1.tag tX
    have t01 := q1.1.tag t0
    have tM1 := q1.1.tag m1
    have hM1 : h1.R 2698 X0 = some M0 := by rw [Q1.1.R (PPW.nf (l := [2698]) (by decide) _ _ rfl)]; exact hM
    have w31 : h1.I 16 (yA y) = nI a.1.length := by
      rw [q1.1.I (fun z => ?_)]
      · exact w3
      · rcases z with z | z
        · exact absurd z.1 (by decide)
        · exact absurd z.1 (by decide)
    refine k_X1_publish_31 (r5 := w31) o ?_
    have q2 : Fq (PPW (yA y) X0 M0) h (h1.sI 130 M0 (nI a.1.length)) := Fq.sI Q1 (Or.inr (Or.inr (Or.inr (Or.inl ⟨rfl, rfl⟩))))
    have sz2 : (h1.sI 130 M0 (nI a.1.length)).I 130 M0 = nI a.1.length := by simp [n_sI, z_sI, tag_sI, I_sI, J_sI, R_sI, EI_sI, EJ_sI, ER_sI, n_sJ, z_sJ, tag_sJ, I_sJ, J_sJ, R_sJ, EI_sJ, EJ_sJ, ER_sJ, n_sR, z_sR, tag_sR, I_sR, J_sR, R_sR, EI_sR, EJ_sR, ER_sR, n_sEI, z_sEI, tag_sEI, I_sEI, J_sEI, R_sEI, EI_sEI, EJ_sEI, ER_sEI, n_sEJ, z_sEJ, tag_sEJ, I_sEJ, J_sEJ, R_sEJ, EI_sEJ, EJ_sEJ, ER_sEJ, n_sER, z_sER, tag_sER, I_sER, J_sER, R_sER, EI_sER, EJ_sER, ER_sER, n_nw, z_nw, tag_nw, I_nw, J_nw, R_nw, EI_nw, EJ_nw, ER_nw]
    have c2 : (h1.sI 130 M0 (nI a.1.length)).I 4 (yA y) = nI (a.2.2.1.2 + 1) := by simpa [n_sI, z_sI, tag_sI, I_sI, J_sI, R_sI, EI_sI, EJ_sI, ER_sI, n_sJ, z_sJ, tag_sJ, I_sJ, J_sJ, R_sJ, EI_sJ, EJ_sJ, ER_sJ, n_sR, z_sR, tag_sR, I_sR, J_sR, R_sR, EI_sR, EJ_sR, ER_sR, n_sEI, z_sEI, tag_sEI, I_sEI, J_sEI, R_sEI, EI_sEI, EJ_sEI, ER_sEI, n_sEJ, z_sEJ, tag_sEJ, I_sEJ, J_sEJ, R_sEJ, EI_sEJ, EJ_sEJ, ER_sEJ, n_sER, z_sER, tag_sER, I_sER, J_sER, R_sER, EI_sER, EJ_sER, ER_sER, n_nw, z_nw, tag_nw, I_nw, J_nw, R_nw, EI_nw, EJ_nw, ER_nw] using c1
    have ts2 : (h1.sI 130 M0 (nI a.1.length)).I 16 (yA y) = nI a.1.length := by simpa [n_sI, z_sI, tag_sI, I_sI, J_sI, R_sI, EI_sI, EJ_sI, ER_sI, n_sJ, z_sJ, tag_sJ, I_sJ, J_sJ, R_sJ, EI_sJ, EJ_sJ, ER_sJ, n_sR, z_sR, tag_sR, I_sR, J_sR, R_sR, EI_sR, EJ_sR, ER_sR, n_sEI, z_sEI, tag_sEI, I_sEI, J_sEI, R_sEI, EI_sEI, EJ_sEI, ER_sEI, n_sEJ, z_sEJ, tag_sEJ, I_sEJ, J_sEJ, R_sEJ, EI_sEJ, EJ_sEJ, ER_sEJ, n_sER, z_sER, tag_sER, I_sER, J_sER, R_sER, EI_sER, EJ_sER, ER_sER, n_nw, z_nw, tag_nw, I_nw, J_nw, R_nw, EI_nw, EJ_nw, ER_nw] using w31
    have pp2 : (h1.sI 130 M0 (nI a.1.length)).I 2688 X0 = nI 1 ∧ (h1.sI 130 M0 (nI a.1.length)).J 2689 X0 = snd ∧ (h1.sI 130 M0 (nI a.1.length)).J 2690 X0 = sq ∧ (h1.sI 130 M0 (nI a.1.length)).I 2691 X0 = lim ∧ (h1.sI 130 M0 (nI a.1.length)).I 2697 X0 = nI 0 ∧ (h1.sI 130 M0 (nI a.1.length)).I 2701 X0 = nI 0 := ⟨by simpa [n_sI, z_sI, tag_sI, I_sI, J_sI, R_sI, EI_sI, EJ_sI, ER_sI, n_sJ, z_sJ, tag_sJ, I_sJ, J_sJ, R_sJ, EI_sJ, EJ_sJ, ER_sJ, n_sR, z_sR, tag_sR, I_sR, J_sR, R_sR, EI_sR, EJ_sR, ER_sR, n_sEI, z_sEI, tag_sEI, I_sEI, J_sEI, R_sEI, EI_sEI, EJ_sEI, ER_sEI, n_sEJ, z_sEJ, tag_sEJ, I_sEJ, J_sEJ, R_sEJ, EI_sEJ, EJ_sEJ, ER_sEJ, n_sER, z_sER, tag_sER, I_sER, J_sER, R_sER, EI_sER, EJ_sER, ER_sER, n_nw, z_nw, tag_nw, I_nw, J_nw, R_nw, EI_nw, EJ_nw, ER_nw] using p1, by simpa [n_sI, z_sI, tag_sI, I_sI, J_sI, R_sI, EI_sI, EJ_sI, ER_sI, n_sJ, z_sJ, tag_sJ, I_sJ, J_sJ, R_sJ, EI_sJ, EJ_sJ, ER_sJ, n_sR, z_sR, tag_sR, I_sR, J_sR, R_sR, EI_sR, EJ_sR, ER_sR, n_sEI, z_sEI, tag_sEI, I_sEI, J_sEI, R_sEI, EI_sEI, EJ_sEI, ER_sEI, n_sEJ, z_sEJ, tag_sEJ, I_sEJ, J_sEJ, R_sEJ, EI_sEJ, EJ_sEJ, ER_sEJ, n_sER, z_sER, tag_sER, I_sER, J_sER, R_sER, EI_sER, EJ_sER, ER_sER, n_nw, z_nw, tag_nw, I_nw, J_nw, R_nw, EI_nw, EJ_nw, ER_nw] using p2, by simpa [n_sI, z_sI, tag_sI, I_sI, J_sI, R_sI, EI_sI, EJ_sI, ER_sI, n_sJ, z_sJ, tag_sJ, I_sJ, J_sJ, R_sJ, EI_sJ, EJ_sJ, ER_sJ, n_sR, z_sR, tag_sR, I_sR, J_sR, R_sR, EI_sR, EJ_sR, ER_sR, n_sEI, z_sEI, tag_sEI, I_sEI, J_sEI, R_sEI, EI_sEI, EJ_sEI, ER_sEI, n_sEJ, z_sEJ, tag_sEJ, I_sEJ, J_sEJ, R_sEJ, EI_sEJ, EJ_sEJ, ER_sEJ, n_sER, z_sER, tag_sER, I_sER, J_sER, R_sER, EI_sER, EJ_sER, ER_sER, n_nw, z_nw, tag_nw, I_nw, J_nw, R_nw, EI_nw, EJ_nw, ER_nw] using p3, by simpa [n_sI, z_sI, tag_sI, I_sI, J_sI, R_sI, EI_sI, EJ_sI, ER_sI, n_sJ, z_sJ, tag_sJ, I_sJ, J_sJ, R_sJ, EI_sJ, EJ_sJ, ER_sJ, n_sR, z_sR, tag_sR, I_sR, J_sR, R_sR, EI_sR, EJ_sR, ER_sR, n_sEI, z_sEI, tag_sEI, I_sEI, J_sEI, R_sEI, EI_sEI, EJ_sEI, ER_sEI, n_sEJ, z_sEJ, tag_sEJ, I_sEJ, J_sEJ, R_sEJ, EI_sEJ, EJ_sEJ, ER_sEJ, n_sER, z_sER, tag_sER, I_sER, J_sER, R_sER, EI_sER, EJ_sER, ER_sER, n_nw, z_nw, tag_nw, I_nw, J_nw, R_nw, EI_nw, EJ_nw, ER_nw] using p4, by simpa [n_sI, z_sI, tag_sI, I_sI, J_sI, R_sI, EI_sI, EJ_sI, ER_sI, n_sJ, z_sJ, tag_sJ, I_sJ, J_sJ, R_sJ, EI_sJ, EJ_sJ, ER_sJ, n_sR, z_sR, tag_sR, I_sR, J_sR, R_sR, EI_sR, EJ_sR, ER_sR, n_sEI, z_sEI, tag_sEI, I_sEI, J_sEI, R_sEI, EI_sEI, EJ_sEI, ER_sEI, n_sEJ, z_sEJ, tag_sEJ, I_sEJ, J_sEJ, R_sEJ, EI_sEJ, EJ_sEJ, ER_sEJ, n_sER, z_sER, tag_sER, I_sER, J_sER, R_sER, EI_sER, EJ_sER, ER_sER, n_nw, z_nw, tag_nw, I_nw, J_nw, R_nw, EI_nw, EJ_nw, ER_nw] using p5, by simpa [n_sI, z_sI, tag_sI, I_sI, J_sI, R_sI, EI_sI, EJ_sI, ER_sI, n_sJ, z_sJ, tag_sJ, I_sJ, J_sJ, R_sJ, EI_sJ, EJ_sJ, ER_sJ, n_sR, z_sR, tag_sR, I_sR, J_sR, R_sR, EI_sR, EJ_sR, ER_sR, n_sEI, z_sEI, tag_sEI, I_sEI, J_sEI, R_sEI, EI_sEI, EJ_sEI, ER_sEI, n_sEJ, z_sEJ, tag_sEJ, I_sEJ, J_sEJ, R_sEJ, EI_sEJ, EJ_sEJ, ER_sEJ, n_sER, z_sER, tag_sER, I_sER, J_sER, R_sER, EI_sER, EJ_sER, ER_sER, n_nw, z_nw, tag_nw, I_nw, J_nw, R_nw, EI_nw, EJ_nw, ER_nw] using p6⟩
    generalize h1.sI 130 M0 (nI a.1.length) = h2 at q2 sz2 c2 ts2 pp2
    -- the bytes go over
    let KE : AH → AH → Prop := fun h2 h3 => Fq (fun f a' => (f = 10000 + 177 ∧ a' = M0 + 525) ∨ f = 10000 + 353) h2 h3
    have loop : ∀ m k h3, m + k = a.1.length → KE h2 h3 → (∀ i x, a.1[i]? = some x → i < k → h3.EI 177 (M0 + 525) i = i8 x ∧ h3.EI 353 (lx.2.2.2.1 + 1) i = i8 x) → V X K 52 [.ref (yA y), .long snd, nov, .long sq, nov, .int lim, .ref X0, .ref M0, .int (nI k)] [] h3 := by
      intro m
      induction m with
      | zero =>
        intro k h3 hk q3 ee
        have ek : k = a.1.length := by omega
        subst ek
        have q3' : Fq (PPW (yA y) X0 M0) h h3 := q2.trans (q3.mono fun f a' z => by
          rcases z with z | z
          · exact Or.inr (Or.inr (Or.inr (Or.inr (Or.inl z))))
          · exact Or.inr (Or.inr (Or.inl (Or.inr (Or.inr z)))))
        have n3 : ∀ l : List Nat, l.all (fun f => !([10000 + 177, 10000 + 353].contains f)) = true → ∀ f a', l.contains f = true → ¬ ((f = 10000 + 177 ∧ a' = M0 + 525) ∨ f = 10000 + 353) := fun l hl f a' hf z => by
          rw [List.all_eq_true] at hl
          have := hl f (List.contains_iff_mem.mp hf)
          rcases z with z | z
          · rw [z.1] at this; exact absurd this (by decide)
          · rw [z] at this; exact absurd this (by decide)
        have t03 := q3'.1.tag t0
        have ts3 : h3.I 16 (yA y) = nI a.1.length := by rw [q3.1.I (n3 [16] rfl _ _ rfl)]; exact ts2
        refine k_X1_publish_52 (r2 := ts3) o (fun _ => ?_) (fun q => absurd (Int32.le_refl _) q)
        have tR3 := q3'.1.tag r13.1
        have rR3 : h3.R 13 (yA y) = some lx.2.2.2.1 := by rw [q3'.1.R (PPW.nf (l := [13]) (by decide) _ _ rfl)]; exact r12
        have tM3 := q3'.1.tag m1
        have rT3 : h3.R 128 M0 = some (M0 + 1) := by rw [q3'.1.R (PPW.nf (l := [128]) (by decide) _ _ rfl)]; exact m2
        refine k_X1_publish_99 (r2 := rR3) (r4 := ts3) (r7 := rR3) o ?_
        have q4 : Fq (FS [1409, 16]) h3 ((h3.sI 1409 lx.2.2.2.1 (nI a.1.length)).sI 16 (yA y) (nI 0)) := Fq.sI (Fq.sI (Fq.refl h3) (fsr rfl)) (fsr rfl)
        have s4 : ((h3.sI 1409 lx.2.2.2.1 (nI a.1.length)).sI 16 (yA y) (nI 0)).I 1409 lx.2.2.2.1 = nI a.1.length := by simp [n_sI, z_sI, tag_sI, I_sI, J_sI, R_sI, EI_sI, EJ_sI, ER_sI, n_sJ, z_sJ, tag_sJ, I_sJ, J_sJ, R_sJ, EI_sJ, EJ_sJ, ER_sJ, n_sR, z_sR, tag_sR, I_sR, J_sR, R_sR, EI_sR, EJ_sR, ER_sR, n_sEI, z_sEI, tag_sEI, I_sEI, J_sEI, R_sEI, EI_sEI, EJ_sEI, ER_sEI, n_sEJ, z_sEJ, tag_sEJ, I_sEJ, J_sEJ, R_sEJ, EI_sEJ, EJ_sEJ, ER_sEJ, n_sER, z_sER, tag_sER, I_sER, J_sER, R_sER, EI_sER, EJ_sER, ER_sER, n_nw, z_nw, tag_nw, I_nw, J_nw, R_nw, EI_nw, EJ_nw, ER_nw]
        have s5 : ((h3.sI 1409 lx.2.2.2.1 (nI a.1.length)).sI 16 (yA y) (nI 0)).I 16 (yA y) = nI 0 := by simp [n_sI, z_sI, tag_sI, I_sI, J_sI, R_sI, EI_sI, EJ_sI, ER_sI, n_sJ, z_sJ, tag_sJ, I_sJ, J_sJ, R_sJ, EI_sJ, EJ_sJ, ER_sJ, n_sR, z_sR, tag_sR, I_sR, J_sR, R_sR, EI_sR, EJ_sR, ER_sR, n_sEI, z_sEI, tag_sEI, I_sEI, J_sEI, R_sEI, EI_sEI, EJ_sEI, ER_sEI, n_sEJ, z_sEJ, tag_sEJ, I_sEJ, J_sEJ, R_sEJ, EI_sEJ, EJ_sEJ, ER_sEJ, n_sER, z_sER, tag_sER, I_sER, J_sER, R_sER, EI_sER, EJ_sER, ER_sER, n_nw, z_nw, tag_nw, I_nw, J_nw, R_nw, EI_nw, EJ_nw, ER_nw]
        generalize (h3.sI 1409 lx.2.2.2.1 (nI a.1.length)).sI 16 (yA y) (nI 0) = h4 at q4 s4 s5
        have q4' : Fq (PPW (yA y) X0 M0) h h4 := q3'.trans (q4.mono fun f a' z => Or.inr (Or.inr (Or.inl (by
          have z : [1409, 16].contains f = true := z
          rw [List.contains_iff_mem] at z
          simp only [List.mem_cons, List.mem_nil_iff, or_false] at z
          rcases z with z | z
          · exact Or.inr (Or.inl z)
          · exact Or.inl z))))
        have tp : TPb h4 lx.2.2.2.1 a.1.length (byl a.1).2 := by
          refine ⟨s4, w4, fun i => Nat.mod_lt _ (by omega), fun i hi => ?_⟩
          obtain ⟨x, hx⟩ : ∃ x, a.1[i]? = some x := ⟨_, List.getElem?_eq_getElem hi⟩
          rw [q4.1.EI (nol (l := [10000 + 353]) (by decide) _ _ rfl), (ee i x hx hi).2]
          show x.toInt8.toInt32 &&& nI 255 = nI (um (a.1.getD i 0) % 256)
          rw [i8_255, List.getD_eq_getElem?_getD, hx]
          exact um_inj (by rw [um_and, um_n (by decide), um_n (by have := Nat.mod_lt (um x) (show 0 < 256 by omega); show um x % 256 < _; omega), show (255 : Nat) = 2 ^ 8 - 1 from rfl, Nat.and_two_pow_sub_one_eq_mod]; rfl)
        have ct4 : h4.I 4 (yA y) = nI (a.2.2.1.2 + 1) := by
          rw [q4.1.I (nol (l := [4]) (by decide) _ _ rfl), q3.1.I (n3 [4] rfl _ _ rfl)]; exact c2
        have pp4 : h4.I 2688 X0 = nI 1 ∧ h4.J 2689 X0 = snd ∧ h4.J 2690 X0 = sq ∧ h4.I 2691 X0 = lim ∧ h4.I 2697 X0 = nI 0 ∧ h4.I 2701 X0 = nI 0 := by
          obtain ⟨u1, u2, u3, u4, u5, u6⟩ := pp2
          have n4 : ∀ f a', txwF.contains f = true → ¬ FS [1409, 16] f a' := nol (by decide)
          have n5 := n3 txwF (by decide)
          exact ⟨by rw [q4.1.I (n4 _ _ rfl), q3.1.I (n5 _ _ rfl)]; exact u1, by rw [q4.1.J (n4 _ _ rfl), q3.1.J (n5 _ _ rfl)]; exact u2, by rw [q4.1.J (n4 _ _ rfl), q3.1.J (n5 _ _ rfl)]; exact u3, by rw [q4.1.I (n4 _ _ rfl), q3.1.I (n5 _ _ rfl)]; exact u4, by rw [q4.1.I (n4 _ _ rfl), q3.1.I (n5 _ _ rfl)]; exact u5, by rw [q4.1.I (n4 _ _ rfl), q3.1.I (n5 _ _ rfl)]; exact u6⟩
        have by4 : h4.I 130 M0 = nI a.1.length ∧ ∀ i, i < a.1.length → h4.EI 177 (M0 + 525) i &&& nI 255 = nI ((byl a.1).2 i) := by
          refine ⟨by rw [q4.1.I (nol (l := [130]) (by decide) _ _ rfl), q3.1.I (n3 [130] rfl _ _ rfl)]; exact sz2, fun i hi => ?_⟩
          obtain ⟨x, hx⟩ : ∃ x, a.1[i]? = some x := ⟨_, List.getElem?_eq_getElem hi⟩
          rw [q4.1.EI (nol (l := [10000 + 177]) (by decide) _ _ rfl), (ee i x hx hi).1]
          show x.toInt8.toInt32 &&& nI 255 = nI (um (a.1.getD i 0) % 256)
          rw [i8_255, List.getD_eq_getElem?_getD, hx]
          exact um_inj (by rw [um_and, um_n (by decide), um_n (by have := Nat.mod_lt (um x) (show 0 < 256 by omega); show um x % 256 < _; omega), show (255 : Nat) = 2 ^ 8 - 1 from rfl, Nat.and_two_pow_sub_one_eq_mod]; rfl)
        have st4 : STb h4 (M0 + 1) := m5.fr q4'.1 (PPW.nf (by decide))
        -- behind the reader
        have fin : ∀ (h5 : AH) (pl : Nat) (fa : Nat), Fq (RT (M0 + 1)) h4 h5 → h5.I 1413 lx.2.2.2.1 = nI pl → (match rdi a.1.length (byl a.1).2 with
            | .error e => fa = e.1 ∧ pl = e.2
            | .ok m => fa = 0 ∧ MDR h5 M0 m) → V X K 129 [.ref (yA y), .long snd, nov, .long sq, nov, .int lim, .ref X0, .ref M0, .int (nI a.1.length)] [.int (nI fa), .ref X0] h5 := fun h5 pl fa q5 hpl hfa => by
          have q5' : Fq (PPW (yA y) X0 M0) h h5 := q4'.trans (q5.mono fun f a' z => Or.inr (Or.inr (Or.inr (Or.inr (Or.inr z)))))
          have n5 : ∀ l : List Nat, l.all (fun f => !((raF ++ [1415, 10000 + 371] ++ tcF ++ tbF ++ [1411]).contains f)) = true → ∀ f a', l.contains f = true → ¬ RT (M0 + 1) f a' := fun l hl f a' hf z => by
            rw [List.all_eq_true] at hl
            have := hl f (List.contains_iff_mem.mp hf)
            have sb : ∀ l2 : List Nat, l2.all (fun f => (raF ++ [1415, 10000 + 371] ++ tcF ++ tbF ++ [1411]).contains f) = true → l2.contains f = true → False := fun l2 h2 hg => by
              rw [List.all_eq_true] at h2
              rw [h2 f (List.contains_iff_mem.mp hg)] at this; cases this
            rcases z with (z | z) | z
            · exact sb _ (by decide) z
            · exact sb _ (by decide) z.1
            · exact sb _ (by decide) z
          have t05 := q5'.1.tag t0
          have tX5 := q5'.1.tag tX
          have tR5 := q5'.1.tag r13.1
          have rR5 : h5.R 13 (yA y) = some lx.2.2.2.1 := by rw [q5'.1.R (PPW.nf (l := [13]) (by decide) _ _ rfl)]; exact r12
          have c5 : h5.I 4 (yA y) = nI (a.2.2.1.2 + 1) := by rw [q5.1.I (n5 [4] (by decide) _ _ rfl)]; exact ct4
          refine k_X1_publish_129 (r3 := rR5) (r6 := hpl) (r9 := c5) o ?_
          rw [show nI (a.2.2.1.2 + 1) - nI 1 = nI a.2.2.1.2 from nI_sub (by omega)]
          have q6 : Fq (fun f a' => (f = 2699 ∨ f = 2700) ∧ a' = X0) h5 ((h5.sI 2699 X0 (nI fa)).sI 2700 X0 (nI pl)) := Fq.sI (Fq.sI (Fq.refl h5) ⟨Or.inl rfl, rfl⟩) ⟨Or.inr rfl, rfl⟩
          have v1 : ((h5.sI 2699 X0 (nI fa)).sI 2700 X0 (nI pl)).I 2699 X0 = nI fa := by simp [n_sI, z_sI, tag_sI, I_sI, J_sI, R_sI, EI_sI, EJ_sI, ER_sI, n_sJ, z_sJ, tag_sJ, I_sJ, J_sJ, R_sJ, EI_sJ, EJ_sJ, ER_sJ, n_sR, z_sR, tag_sR, I_sR, J_sR, R_sR, EI_sR, EJ_sR, ER_sR, n_sEI, z_sEI, tag_sEI, I_sEI, J_sEI, R_sEI, EI_sEI, EJ_sEI, ER_sEI, n_sEJ, z_sEJ, tag_sEJ, I_sEJ, J_sEJ, R_sEJ, EI_sEJ, EJ_sEJ, ER_sEJ, n_sER, z_sER, tag_sER, I_sER, J_sER, R_sER, EI_sER, EJ_sER, ER_sER, n_nw, z_nw, tag_nw, I_nw, J_nw, R_nw, EI_nw, EJ_nw, ER_nw]
          have v2 : ((h5.sI 2699 X0 (nI fa)).sI 2700 X0 (nI pl)).I 2700 X0 = nI pl := by simp [n_sI, z_sI, tag_sI, I_sI, J_sI, R_sI, EI_sI, EJ_sI, ER_sI, n_sJ, z_sJ, tag_sJ, I_sJ, J_sJ, R_sJ, EI_sJ, EJ_sJ, ER_sJ, n_sR, z_sR, tag_sR, I_sR, J_sR, R_sR, EI_sR, EJ_sR, ER_sR, n_sEI, z_sEI, tag_sEI, I_sEI, J_sEI, R_sEI, EI_sEI, EJ_sEI, ER_sEI, n_sEJ, z_sEJ, tag_sEJ, I_sEJ, J_sEJ, R_sEJ, EI_sEJ, EJ_sEJ, ER_sEJ, n_sER, z_sER, tag_sER, I_sER, J_sER, R_sER, EI_sER, EJ_sER, ER_sER, n_nw, z_nw, tag_nw, I_nw, J_nw, R_nw, EI_nw, EJ_nw, ER_nw]
          generalize (h5.sI 2699 X0 (nI fa)).sI 2700 X0 (nI pl) = h6 at q6 v1 v2
          have n6 : ∀ l : List Nat, l.all (fun f => !([2699, 2700].contains f)) = true → ∀ f a', l.contains f = true → ¬ ((f = 2699 ∨ f = 2700) ∧ a' = X0) := fun l hl f a' hf z => by
            rw [List.all_eq_true] at hl
            have := hl f (List.contains_iff_mem.mp hf)
            rcases z.1 with z | z <;> (rw [z] at this; exact absurd this (by decide))
          have q7 : Fq (PPW (yA y) X0 M0) h h6 := q5'.trans (q6.mono fun f a' z => Or.inr (Or.inl z))
          have n56 : ∀ l : List Nat, l.all (fun f => !((raF ++ [1415, 10000 + 371] ++ tcF ++ tbF ++ [1411]).contains f)) = true → l.all (fun f => !([2699, 2700].contains f)) = true → (∀ f a', l.contains f = true → h6.I f a' = h4.I f a' ∧ h6.J f a' = h4.J f a') := fun l h1 h2 f a' hf => ⟨by rw [q6.1.I (n6 l h2 _ _ hf), q5.1.I (n5 l h1 _ _ hf)], by rw [q6.1.J (n6 l h2 _ _ hf), q5.1.J (n5 l h1 _ _ hf)]⟩
          obtain ⟨u1, u2, u3, u4, u5, u6⟩ := pp4
          have nw := n56 (4 :: 16 :: 130 :: txwF) (by decide) (by decide)
          have lim2 : um lim ≤ 20000 := (of_decide_eq_true hl).2
          have nX : ∀ k, k < 32 → k ≠ a.2.2.1.2 → yX y k ≠ X0 := fun k hk hne => by rw [← hX0]; exact (r16 k _ hk ct hne).1
          have byr : BYR h6 M0 (byl a.1) := ⟨by rw [(nw 130 M0 (by decide)).1]; exact by4.1, w4, fun i => Nat.mod_lt _ (by omega), fun i hi => by
            rw [q6.1.EI (n6 [10000 + 177] rfl _ _ rfl), q5.1.EI (n5 [10000 + 177] (by decide) _ _ rfl)]
            exact by4.2 i hi⟩
          have txp : TXP h6 X0 M0 (byl a.1).1 (rdi (byl a.1).1 (byl a.1).2) := by
            refine ⟨⟨by rw [q7.1.R (PPW.nf (l := [2698]) (by decide) _ _ rfl)]; exact hM, q7.1.tag m1, byr.1, by show a.1.length ≤ 100000; omega⟩, ?_⟩
            show match rdi a.1.length (byl a.1).2 with | .error e => _ | .ok _ => _
            cases hrd : rdi a.1.length (byl a.1).2 with
            | error e =>
              rw [hrd] at hfa
              obtain ⟨z1, z2⟩ := hfa
              have := rdi_e hrd
              exact ⟨⟨this.1, by omega⟩, by rw [v1, z1], by rw [v2, z2]⟩
            | ok m =>
              rw [hrd] at hfa
              show h6.I 2699 X0 = nI 0
              rw [v1, hfa.1]
          have ex := EXV.tx (ct' := a.2.2.1.2 + 1) (x := (snd, sq, um lim, (a.2.2.2.1.1 a.2.2.1.2).2.2.2.1, (a.2.2.2.1.1 a.2.2.1.2).2.2.2.2.1, [])) (b := true) (bt := byl a.1) (M0 := M0) ct r1 q7 (fun f a' hv z => nov_l (l2 := lpbF) (by decide) f a' hv z.l) (PPW.nf (l := exvB) (by decide +kernel)) (fun k hk hne f hf => PPW.tx (by
            rw [List.contains_iff_mem] at hf ⊢
            exact List.mem_append_left _ (List.mem_append_left _ (List.mem_append_left _ hf))) (nX k hk hne)) (fun k hk hne => ⟨PPW.nf (l := [10000 + 752]) (by decide) (10000 + 752) (y.2 4 k) (by decide), PPW.nf (l := [10000 + 771]) (by decide) (10000 + 771) (y.2 5 k) (by decide), PPW.nf (l := [10000 + 787]) (by decide) (10000 + 787) (y.2 6 k) (by decide)⟩) (by rw [hX0]; exact hM) (fun f a' hf z => z.md hf) ⟨?_, ?_, ?_, ?_⟩ (fun _ _ _ => ⟨byr, by rw [hX0]; exact txp, fun m hm => ?_⟩) (fun k _ k2 k3 => by omega)
          · refine kk hl ct h6 ⟨⟨ex, ⟨by rw [q7.1.I (PPW.nf (l := [5]) (by decide) _ _ rfl)]; exact r2, by show h6.I 4 (yA y) = nI (a.2.2.1.2 + 1); rw [(nw 4 (yA y) (by decide)).1]; exact ct4, by show a.2.2.1.1 ≤ a.2.2.1.2 + 1; omega, ct⟩, fun k hk => ?_⟩, ⟨by rw [q7.1.J (PPW.nf (l := [17]) (by decide) _ _ rfl)]; exact r6, ⟨⟨by rw [q7.1.R (PPW.nf (l := [15]) (by decide) _ _ rfl)]; exact w1, q7.1.tag w2⟩, by rw [(nw 16 (yA y) (by decide)).1]; exact s5, Nat.zero_le _, fun i x hx => by simp [abP] at hx⟩, ⟨wv, r8.fr q7.1 (PPW.nf (by decide))⟩, r9.fr q7.1 (PPW.nf (by decide)), r9'⟩, ⟨fun k k1 k2 => ?_, fun k k1 k2 => ?_⟩, ⟨by rw [q7.1.R (PPW.nf (l := [13]) (by decide) _ _ rfl)]; exact r12, r13.fr q7.1 (PPW.nf (by decide)), q7.1.tag r14, r15.fr q7.1 (PPW.nf (l := [14096]) (by decide) _ _ rfl)⟩, r16, r17⟩ (q7.mono fun f a' z => z.l)
            · show (fup a.2.2.2.1.1 a.2.2.1.2 _ k).2.2.1 ≤ 20000 ∧ (fup a.2.2.2.1.2.1 a.2.2.1.2 true k = false → AGv (fup a.2.2.2.1.1 a.2.2.1.2 _ k).2.2.2.2.2) ∧ (fup a.2.2.2.1.2.1 a.2.2.1.2 true k = true → BGd (fup a.2.2.2.1.2.2.1 a.2.2.1.2 (byl a.1) k))
              by_cases ek : k = a.2.2.1.2
              · subst ek
                rw [fup_s, fup_s, fup_s]
                exact ⟨lim2, (fun q => by cases q), fun _ => ⟨w4, fun i => Nat.mod_lt _ (by omega)⟩⟩
              · rw [fup_n ek, fup_n ek, fup_n ek]
                have hk : k < a.2.2.1.2 + 1 := hk
                exact r5 k (by omega)
            · have k2 : k < a.2.2.1.1 := k2
              obtain ⟨x1, x2⟩ := r10 k k1 k2
              have hne : k ≠ a.2.2.1.2 := by omega
              have := ((ly.2.2 k (by omega)).2.2 _ ct).2 hne
              show TXO h6 y k (fup a.2.2.2.1.2.1 a.2.2.1.2 true k) _ ∧ _
              rw [fup_n hne]
              refine ⟨x1.fr q7.1 (fun f hf a' ha => PPW.tx (by
                rw [List.contains_iff_mem] at hf ⊢
                refine List.mem_append_left _ ?_
                rcases List.mem_append.mp hf with hf | hf
                · exact List.mem_append_left _ (List.mem_append_right _ hf)
                · exact List.mem_append_right _ hf) (fun q => ?_)), by rw [q7.1.I (PPW.tx (by decide) (nX k (by omega) hne))]; exact x2⟩
              rw [← hX0] at q
              rcases ha with e | e | e | e <;> exact this.2.2 _ 1 (by decide) (by decide) (e.symm.trans q)
            · by_cases ek : k = a.2.2.1.2
              · rw [ek, hX0, (nw 2701 X0 (by decide)).1]; exact u6
              · have k2 : k < a.2.2.1.2 + 1 := k2
                rw [q7.1.I (PPW.tx (by decide) (nX k (by omega) ek))]
                exact r11 k k1 (by omega)
          · obtain ⟨⟨-, zz2, zz3, zz4, zz5⟩, ⟨-, -⟩, ⟨⟨z1, z2⟩, ⟨z3, z4⟩, z5, z6⟩, -⟩ := (ti _ ct).1
            rw [hX0] at z1 z3 z5 zz2 zz4
            rw [hX0]
            exact ⟨⟨by rw [(nw 2690 X0 (by decide)).2]; exact u3, by rw [q7.1.I (PPW.nf (l := [2692]) (by decide) _ _ rfl)]; exact zz2, zz3, by rw [q7.1.I (PPW.nf (l := [2693]) (by decide) _ _ rfl)]; exact zz4, zz5⟩, ⟨by rw [(nw 2697 X0 (by decide)).1]; exact u5, Nat.zero_le _⟩, ⟨⟨by rw [q7.1.R (PPW.nf (l := [2694]) (by decide) _ _ rfl)]; exact z1, q7.1.tag z2⟩, ⟨by rw [q7.1.R (PPW.nf (l := [2695]) (by decide) _ _ rfl)]; exact z3, q7.1.tag z4⟩, by rw [q7.1.R (PPW.nf (l := [2696]) (by decide) _ _ rfl)]; exact z5, q7.1.tag z6⟩, fun i a' ha => by simp at ha⟩
          · rw [hX0, (nw 2691 X0 (by decide)).1, u4]; exact (nI_um _).symm
          · rw [hX0, (nw 2689 X0 (by decide)).2]; exact u2
          · rw [hX0, (nw 2688 X0 (by decide)).1]; exact u1
          · have hm : rdi a.1.length (byl a.1).2 = .ok m := hm
            rw [hm] at hfa
            exact hfa.2.fr q6.1 (n6 _ (by decide))
        refine readInto_ok (n := a.1.length) (B := (byl a.1).2) (r13.fr q4'.1 (PPW.nf (by decide))) (q4'.1.tag r14) st4 tp (r15.fr q4'.1 (PPW.nf (l := [14096]) (by decide) _ _ rfl)) (by omega) ?_
        cases hrd : rdi a.1.length (byl a.1).2 with
        | error e =>
          intro h5 q5 hp
          exact fin h5 e.2 e.1 q5 hp (by rw [hrd]; exact ⟨rfl, rfl⟩)
        | ok m =>
          intro h5 q5 rb
          obtain ⟨⟨⟨-, -, sb⟩, -, -, -, ⟨ty, -⟩, co, -⟩, mx⟩ := rb
          have rt5 : h5.R 128 M0 = some (M0 + 1) := by
            rw [q5.1.R (fun z => ?_), q4'.1.R (PPW.nf (l := [128]) (by decide) _ _ rfl)]
            · exact m2
            · rcases z with (z | z) | z
              · exact absurd z (FS.n (by decide))
              · exact absurd z.1 (FS.n (by decide))
              · exact absurd z (FS.n (by decide))
          refine fin h5 (um (h5.I 1413 lx.2.2.2.1)) 0 q5 (nI_um _).symm ?_
          rw [hrd]
          exact ⟨rfl, ⟨q5.1.tag (q4'.1.tag m1), rt5⟩, sb, ty, co, mx⟩
      | succ m ih =>
        intro k h3 hk q3 ee
        have n3 : ∀ l : List Nat, l.all (fun f => !([10000 + 177, 10000 + 353].contains f)) = true → ∀ f a', l.contains f = true → ¬ ((f = 10000 + 177 ∧ a' = M0 + 525) ∨ f = 10000 + 353) := fun l hl f a' hf z => by
          rw [List.all_eq_true] at hl
          have := hl f (List.contains_iff_mem.mp hf)
          rcases z with z | z
          · rw [z.1] at this; exact absurd this (by decide)
          · rw [z] at this; exact absurd this (by decide)
        have q3' : Fq (PPW (yA y) X0 M0) h h3 := q2.trans (q3.mono fun f a' z => by
          rcases z with z | z
          · exact Or.inr (Or.inr (Or.inr (Or.inr (Or.inl z))))
          · exact Or.inr (Or.inr (Or.inl (Or.inr (Or.inr z)))))
        have t03 := q3'.1.tag t0
        have ts3 : h3.I 16 (yA y) = nI a.1.length := by rw [q3.1.I (n3 [16] rfl _ _ rfl)]; exact ts2
        refine k_X1_publish_52 (r2 := ts3) o (fun q => absurd ((nI_leI (by omega) (by omega)).mp q) (by omega)) (fun _ => ?_)
        have tR3 := q3'.1.tag r13.1
        have rR3 : h3.R 13 (yA y) = some lx.2.2.2.1 := by rw [q3'.1.R (PPW.nf (l := [13]) (by decide) _ _ rfl)]; exact r12
        have tM3 := q3'.1.tag m1
        have rb3 : h3.R 129 M0 = some (M0 + 525) := by rw [q3'.1.R (PPW.nf (l := [129]) (by decide) _ _ rfl)]; exact m3
        have tb3 := q3'.1.tag m4
        have rt3 : h3.R 15 (yA y) = some lx.1 := by rw [q3'.1.R (PPW.nf (l := [15]) (by decide) _ _ rfl)]; exact w1
        have tt3 := q3'.1.tag w2
        have rr3 : h3.R 1408 lx.2.2.2.1 = some (lx.2.2.2.1 + 1) := by rw [q3'.1.R (PPW.nf (l := [1408]) (by decide) _ _ rfl)]; exact r13.2.1
        have tr3 := q3'.1.tag r13.2.2.1
        obtain ⟨x, hx⟩ : ∃ x, a.1[k]? = some x := ⟨_, List.getElem?_eq_getElem (by omega)⟩
        have ex : h3.EI 113 lx.1 k = x := by rw [q3'.1.EI (PPW.nf (l := [10000 + 113]) (by decide) _ _ rfl)]; exact w5 k x hx
        have ix : IX (nI k) 2048 k := IX.mk (by omega) (by omega)
        refine k_X1_publish_61 (r11 := ex) (r28 := ex) o ?_
        rw [nI_add]
        refine ih (k + 1) _ (by omega) (Fq.sEI (Fq.sEI q3 (Or.inl ⟨rfl, rfl⟩)) (Or.inr rfl)) (fun i z hz hi => ?_)
        by_cases ei : i = k
        · subst ei
          rw [hx] at hz
          have hz := Option.some.inj hz
          subst hz
          exact ⟨by simp [n_sI, z_sI, tag_sI, I_sI, J_sI, R_sI, EI_sI, EJ_sI, ER_sI, n_sJ, z_sJ, tag_sJ, I_sJ, J_sJ, R_sJ, EI_sJ, EJ_sJ, ER_sJ, n_sR, z_sR, tag_sR, I_sR, J_sR, R_sR, EI_sR, EJ_sR, ER_sR, n_sEI, z_sEI, tag_sEI, I_sEI, J_sEI, R_sEI, EI_sEI, EJ_sEI, ER_sEI, n_sEJ, z_sEJ, tag_sEJ, I_sEJ, J_sEJ, R_sEJ, EI_sEJ, EJ_sEJ, ER_sEJ, n_sER, z_sER, tag_sER, I_sER, J_sER, R_sER, EI_sER, EJ_sER, ER_sER, n_nw, z_nw, tag_nw, I_nw, J_nw, R_nw, EI_nw, EJ_nw, ER_nw, i8], by simp [n_sI, z_sI, tag_sI, I_sI, J_sI, R_sI, EI_sI, EJ_sI, ER_sI, n_sJ, z_sJ, tag_sJ, I_sJ, J_sJ, R_sJ, EI_sJ, EJ_sJ, ER_sJ, n_sR, z_sR, tag_sR, I_sR, J_sR, R_sR, EI_sR, EJ_sR, ER_sR, n_sEI, z_sEI, tag_sEI, I_sEI, J_sEI, R_sEI, EI_sEI, EJ_sEI, ER_sEI, n_sEJ, z_sEJ, tag_sEJ, I_sEJ, J_sEJ, R_sEJ, EI_sEJ, EJ_sEJ, ER_sEJ, n_sER, z_sER, tag_sER, I_sER, J_sER, R_sER, EI_sER, EJ_sER, ER_sER, n_nw, z_nw, tag_nw, I_nw, J_nw, R_nw, EI_nw, EJ_nw, ER_nw, i8]⟩
        · obtain ⟨y1, y2⟩ := ee i z hz (by omega)
          exact ⟨by simpa [n_sI, z_sI, tag_sI, I_sI, J_sI, R_sI, EI_sI, EJ_sI, ER_sI, n_sJ, z_sJ, tag_sJ, I_sJ, J_sJ, R_sJ, EI_sJ, EJ_sJ, ER_sJ, n_sR, z_sR, tag_sR, I_sR, J_sR, R_sR, EI_sR, EJ_sR, ER_sR, n_sEI, z_sEI, tag_sEI, I_sEI, J_sEI, R_sEI, EI_sEI, EJ_sEI, ER_sEI, n_sEJ, z_sEJ, tag_sEJ, I_sEJ, J_sEJ, R_sEJ, EI_sEJ, EJ_sEJ, ER_sEJ, n_sER, z_sER, tag_sER, I_sER, J_sER, R_sER, EI_sER, EJ_sER, ER_sER, n_nw, z_nw, tag_nw, I_nw, J_nw, R_nw, EI_nw, EJ_nw, ER_nw, ei] using y1, by simpa [n_sI, z_sI, tag_sI, I_sI, J_sI, R_sI, EI_sI, EJ_sI, ER_sI, n_sJ, z_sJ, tag_sJ, I_sJ, J_sJ, R_sJ, EI_sJ, EJ_sJ, ER_sJ, n_sR, z_sR, tag_sR, I_sR, J_sR, R_sR, EI_sR, EJ_sR, ER_sR, n_sEI, z_sEI, tag_sEI, I_sEI, J_sEI, R_sEI, EI_sEI, EJ_sEI, ER_sEI, n_sEJ, z_sEJ, tag_sEJ, I_sEJ, J_sEJ, R_sEJ, EI_sEJ, EJ_sEJ, ER_sEJ, n_sER, z_sER, tag_sER, I_sER, J_sER, R_sER, EI_sER, EJ_sER, ER_sER, n_nw, z_nw, tag_nw, I_nw, J_nw, R_nw, EI_nw, EJ_nw, ER_nw, ei] using y2⟩
    exact loop a.1.length 0 h2 (by omega) (Fq.refl h2) (fun i x _ hi => absurd hi (Nat.not_lt_zero _))
end
