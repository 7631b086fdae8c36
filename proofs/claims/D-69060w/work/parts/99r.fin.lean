/-! the end of a run: from what it left on -/
def clwF : List Nat := swF ++ [2438, 2565, 10000 + 747, 10000 + 731]
theorem CLE.keep {P : Nat → Nat → Prop} {h h1 : AH} {o o1 : Lc} {wi W e : Nat} (c : CLE h o wi W e) (f : Fr P h h1) (np : ¬ P 1159 (Ea W e)) (ho : o1 (3, wi, e, 0) = o (3, wi, e, 0)) : CLE h1 o1 wi W e := by
  unfold CLE at c ⊢
  rw [ho, f.R np]; exact c
theorem CLW.keep {P : Nat → Nat → Prop} {h h1 : AH} {o o1 : Lc} {wi W dd n : Nat} (c : CLW h o wi W dd n) (f : Fr P h h1) (n1 : ∀ g a, clwF.contains g = true → ¬ P g a) (n2 : ¬ P 1025 (W + 2)) (ho : ∀ a j i, a = 1 ∨ a = 2 → o1 (a, wi, j, i) = o (a, wi, j, i)) (h3 : ∀ e, e < n → CLE h1 o1 wi W e) (h4 : ∀ e b, n ≤ e ∨ b ≠ 0 → o1 (3, wi, e, b) = none) : CLW h1 o1 wi W dd n := by
  obtain ⟨⟨c1, c2, c3, c4⟩, ⟨c5, c6, c7⟩, c8, c9⟩ := c
  refine ⟨⟨c1.fr f (fun g a hg => n1 g a (by rw [List.contains_iff_mem] at hg ⊢; exact List.mem_append_left _ hg)), by rw [f.I (n1 _ _ rfl)]; exact c2, c3, fun j hj => (c4 j hj).fr f (fun g a hg => ?_) (fun c i hc => ho c j i hc)⟩, ⟨c5, by rw [f.I n2]; exact c6, h3⟩, fun j hj i => ?_, h4⟩
  · refine n1 g a ?_
    rcases hg with z | z | z
    · rw [z]; rfl
    · rw [z]; rfl
    · rw [z.1]; rfl
  · rw [ho 1 j i (Or.inl rfl), ho 2 j i (Or.inr rfl)]; exact c8 j hj i
/-- what the end of a run writes, from what it left on -/
def PF2 (A W LA g a : Nat) : Prop := PFg LA g a ∨ PLv W LA g a ∨ PCl W g a ∨ g = 2702 ∨ ((g = 10 ∨ g = 11 ∨ g = 12) ∧ a = A) ∨ (g = 2432 ∧ a = W)
def lfE (oc : Nat) (pub : Bool) (lim used : Nat) (wb wq : Int64) (e0 : En) (es : List En) : Lw := if oc = 3 then [] else (e0.1, (lvB (decide (oc = 0)) pub lim used wb wq e0).2.2.1, false) :: lfl (decide (oc = 0)) es
section
variable {G : Gt} {B d : Nat} {h : AH} {l : List Nat} {o : Lc} {wi W A q BA tt lim SP : Nat} {snd : Int64} {MA : Ma} {K : Outcome → AH → Prop} {XA LA RA : Nat → Nat}
theorem finish_231 {XX : Xt} (oo : OK e_X1_finish XX) {dd n last R Tl : Nat} {st : Nat → Nat} {hd : Nat → Int32} {b : Int32} {l1 l2 l3 l5 l6 l7 : Value} (c0 : CTX h A W q BA (XA tt) tt snd lim SP) (bk : BLK h BA XA LA RA) (v : VH XX.G B h q l o) (cl : CLW h o wi W dd n) (hl : h.I 6 A = nI last) (hl2 : last ≤ 32) (ht : tt < last) (hr : h.I 10 A = nI R) (hR : R ≤ 32) (hT : h.I 11 A = nI Tl) (hT2 : Tl ≤ 32) (hb : h.I 12 A = b) (hs : ∀ k, k < 32 → h.I 2702 (XA k) = nI (st k) ∧ st k < 4 ∧ h.I 2704 (XA k) = hd k) (hd1 : 73 ≤ XX.d) (kk : ∀ h' l' o' R', Fr (fun g a => PCl W g a ∨ g = 2702 ∨ ((g = 10 ∨ g = 11 ∨ g = 12) ∧ a = A) ∨ (g = 2432 ∧ a = W)) h h' → VH XX.G B h' q l' o' → IDW h' o' wi W → (∀ p : Sl, ¬ (1 ≤ p.1 ∧ p.1 ≤ 3 ∧ p.2.1 = wi) → o' p = o p) → (∀ p x, o' p = some x → h'.R 3718 x.1 = h.R 3718 x.1) → (∀ k, k < 32 → h'.I 2702 (XA k) = nI (if k = tt then 2 else if rlb hd tt last st k then 0 else st k)) → h'.I 10 A = nI R' → R' ≤ R → (∀ k, rlb hd tt last st k → R' ≤ k) → (tt < R' ∨ R' = R) → h'.I 11 A = nI (min Tl tt) → h'.I 2432 W = nI 0 → h'.I 12 A = b - nI 1 → K (.returned none) h') : V XX K 231 [.ref A, l1, l2, l3, .ref (XA tt), l5, l6, l7] [] h := by
  obtain ⟨⟨t0, rq, rW, rB, rS⟩, ⟨tB, wt, ht32, eX⟩, tX, -⟩ := id c0
  have tW := cl.1.1.1.1
  refine k_X1_finish_231 oo ?_
  refine clear_w v cl (by omega) fun h1 l1 o1 f1 v1 i1 o11 tg1 a1 => ?_
  have no := PCl.no (W := W) (l := [26, 12, 3, 6, 10, 11, 2433, 2702, 2704, 10000 + 71, 2705, 2706]) rfl
  have t1 := f1.tag t0
  have tX1 := f1.tag tX
  have tW1 := f1.tag tW
  have rW1 : h1.R 26 A = some W := by rw [f1.R (no _ _ rfl)]; exact rW
  have wt1 : h1.I 2433 W = nI tt := by rw [f1.I (no _ _ rfl)]; exact wt
  refine k_X1_finish_242 (r6 := wt1) oo ?_
  have q2 : Fq (fun g a => g = 2702) h1 (h1.sI 2702 (XA tt) (nI 2)) := Fq.sI (Fq.refl h1) rfl
  generalize hh2 : h1.sI 2702 (XA tt) (nI 2) = h2 at q2 ⊢
  have f2 : Fr (fun g a => PCl W g a ∨ g = 2702) h h2 := (f1.mono fun g a z => Or.inl z).trans (q2.1.mono fun g a z => Or.inr z)
  have no2 : ∀ g a, [26, 12, 3, 6, 10, 11, 2433, 2704, 10000 + 71, 2705, 2706].contains g = true → ¬ (PCl W g a ∨ g = 2702) := fun g a hg z => by
    rcases z with z | z
    · refine no g a ?_ z
      rw [List.contains_iff_mem] at hg ⊢
      simp only [List.mem_cons, List.mem_nil_iff, or_false] at hg ⊢
      omega
    · rw [z] at hg; exact absurd hg (by decide)
  have bk2 := bk.fr f2 (fun g a hg => no2 g a (by
    rw [List.contains_iff_mem] at hg ⊢
    unfold bkF at hg
    simp only [List.mem_cons, List.mem_nil_iff, or_false] at hg ⊢
    omega))
  have st2 : ∀ k, k < 32 → h2.I 2702 (XA k) = nI (if k = tt then 2 else st k) ∧ (if k = tt then 2 else st k) < 4 ∧ h2.I 2704 (XA k) = hd k := fun k hk => by
    obtain ⟨s1, s2, s3⟩ := hs k hk
    refine ⟨?_, by split <;> omega, by rw [f2.I (no2 _ _ rfl)]; exact s3⟩
    rw [← hh2]
    by_cases e : k = tt
    · rw [if_pos e, e]; simp [n_sI, z_sI, tag_sI, I_sI, J_sI, R_sI, EI_sI, EJ_sI, ER_sI, n_sJ, z_sJ, tag_sJ, I_sJ, J_sJ, R_sJ, EI_sJ, EJ_sJ, ER_sJ, n_sR, z_sR, tag_sR, I_sR, J_sR, R_sR, EI_sR, EJ_sR, ER_sR, n_sEI, z_sEI, tag_sEI, I_sEI, J_sEI, R_sEI, EI_sEI, EJ_sEI, ER_sEI, n_sEJ, z_sEJ, tag_sEJ, I_sEJ, J_sEJ, R_sEJ, EI_sEJ, EJ_sEJ, ER_sEJ, n_sER, z_sER, tag_sER, I_sER, J_sER, R_sER, EI_sER, EJ_sER, ER_sER, n_nw, z_nw, tag_nw, I_nw, J_nw, R_nw, EI_nw, EJ_nw, ER_nw]
    · have : XA k ≠ XA tt := fun z => e (bk.2.1 k tt hk (by omega) z)
      rw [if_neg e]
      simp [n_sI, z_sI, tag_sI, I_sI, J_sI, R_sI, EI_sI, EJ_sI, ER_sI, n_sJ, z_sJ, tag_sJ, I_sJ, J_sJ, R_sJ, EI_sJ, EJ_sJ, ER_sJ, n_sR, z_sR, tag_sR, I_sR, J_sR, R_sR, EI_sR, EJ_sR, ER_sR, n_sEI, z_sEI, tag_sEI, I_sEI, J_sEI, R_sEI, EI_sEI, EJ_sEI, ER_sEI, n_sEJ, z_sEJ, tag_sEJ, I_sEJ, J_sEJ, R_sEJ, EI_sEJ, EJ_sEJ, ER_sEJ, n_sER, z_sER, tag_sER, I_sER, J_sER, R_sER, EI_sER, EJ_sER, ER_sER, n_nw, z_nw, tag_nw, I_nw, J_nw, R_nw, EI_nw, EJ_nw, ER_nw, this]
      rw [f1.I (no _ _ rfl)]; exact s1
  have rl : ∀ k, rlb hd tt last (fun k => if k = tt then 2 else st k) k ↔ rlb hd tt last st k := fun k => by
    constructor
    · rintro ⟨a, b, c, d⟩
      refine ⟨a, b, ?_, d⟩
      have c : (if k = tt then 2 else st k) = 3 := c
      rw [if_neg (by omega)] at c; exact c
    · rintro ⟨a, b, c, d⟩
      refine ⟨a, b, ?_, d⟩
      show (if k = tt then 2 else st k) = 3
      rw [if_neg (by omega)]; exact c
  refine release_ok (q2.1.tag t1) (by rw [f2.R (no2 _ _ rfl)]; exact rB) bk2 (by rw [f2.I (no2 _ _ rfl)]; exact hl) hl2 ht (by rw [f2.I (no2 _ _ rfl)]; exact hr) hR st2 (by omega) fun h3 R' f3 g1 g2 g3 g4 g5 => ?_
  have no3 : ∀ g a, [26, 12, 11, 2433].contains g = true → ¬ PRl A g a := fun g a hg z => by
    rcases z with z | z
    · rw [z] at hg; exact absurd hg (by decide)
    · rw [z.1] at hg; exact absurd hg (by decide)
  have t3 := f3.1.tag (q2.1.tag t1)
  have tW3 := f3.1.tag (q2.1.tag tW1)
  have rW3 : h3.R 26 A = some W := by rw [f3.1.R (no3 _ _ rfl), f2.R (no2 _ _ rfl)]; exact rW
  have wt3 : h3.I 2433 W = nI tt := by rw [f3.1.I (no3 _ _ rfl), f2.I (no2 _ _ rfl)]; exact wt
  have tl3 : h3.I 11 A = nI Tl := by rw [f3.1.I (no3 _ _ rfl), f2.I (no2 _ _ rfl)]; exact hT
  refine k_X1_finish_259 (r2 := tl3) (r7 := wt3) oo ?_
  refine mmin_ok ?_
  rw [nI_min (by omega) (by omega)]
  refine k_X1_finish_274 oo ?_
  generalize hh4 : h3.sI 11 A (nI (min Tl tt)) = h4
  have t4 : h4.tag A = some (0, 0) := by rw [← hh4]; exact t3
  have tW4 : h4.tag W = some (19, 0) := by rw [← hh4]; exact tW3
  have rW4 : h4.R 26 A = some W := by rw [← hh4]; simp [n_sI, z_sI, tag_sI, I_sI, J_sI, R_sI, EI_sI, EJ_sI, ER_sI, n_sJ, z_sJ, tag_sJ, I_sJ, J_sJ, R_sJ, EI_sJ, EJ_sJ, ER_sJ, n_sR, z_sR, tag_sR, I_sR, J_sR, R_sR, EI_sR, EJ_sR, ER_sR, n_sEI, z_sEI, tag_sEI, I_sEI, J_sEI, R_sEI, EI_sEI, EJ_sEI, ER_sEI, n_sEJ, z_sEJ, tag_sEJ, I_sEJ, J_sEJ, R_sEJ, EI_sEJ, EJ_sEJ, ER_sEJ, n_sER, z_sER, tag_sER, I_sER, J_sER, R_sER, EI_sER, EJ_sER, ER_sER, n_nw, z_nw, tag_nw, I_nw, J_nw, R_nw, EI_nw, EJ_nw, ER_nw]; exact rW3
  have b4 : h4.I 12 A = b := by
    rw [← hh4]; simp [n_sI, z_sI, tag_sI, I_sI, J_sI, R_sI, EI_sI, EJ_sI, ER_sI, n_sJ, z_sJ, tag_sJ, I_sJ, J_sJ, R_sJ, EI_sJ, EJ_sJ, ER_sJ, n_sR, z_sR, tag_sR, I_sR, J_sR, R_sR, EI_sR, EJ_sR, ER_sR, n_sEI, z_sEI, tag_sEI, I_sEI, J_sEI, R_sEI, EI_sEI, EJ_sEI, ER_sEI, n_sEJ, z_sEJ, tag_sEJ, I_sEJ, J_sEJ, R_sEJ, EI_sEJ, EJ_sEJ, ER_sEJ, n_sER, z_sER, tag_sER, I_sER, J_sER, R_sER, EI_sER, EJ_sER, ER_sER, n_nw, z_nw, tag_nw, I_nw, J_nw, R_nw, EI_nw, EJ_nw, ER_nw]
    rw [f3.1.I (no3 _ _ rfl), f2.I (no2 _ _ rfl)]; exact hb
  refine lrest_ok t4 rW4 tW4 b4 ?_
  refine k_X1_finish_281 oo ?_
  generalize hh5 : (h4.sI 2432 W (nI 0)).sI 12 A (b - nI 1) = h5
  have f5 : Fq (fun g a => (g = 11 ∧ a = A) ∨ (g = 2432 ∧ a = W) ∨ (g = 12 ∧ a = A)) h3 h5 := by
    rw [← hh5, ← hh4]
    exact Fq.sI (Fq.sI (Fq.sI (Fq.refl h3) (Or.inl ⟨rfl, rfl⟩)) (Or.inr (Or.inl ⟨rfl, rfl⟩))) (Or.inr (Or.inr ⟨rfl, rfl⟩))
  have f15 : Fq (fun g a => g = 2702 ∨ ((g = 10 ∨ g = 11 ∨ g = 12) ∧ a = A) ∨ (g = 2432 ∧ a = W)) h1 h5 := by
    refine (q2.mono fun g a z => Or.inl z).trans ((f3.mono fun g a z => ?_).trans (f5.mono fun g a z => ?_))
    · rcases z with z | z
      · exact Or.inl z
      · exact Or.inr (Or.inl ⟨Or.inl z.1, z.2⟩)
    · rcases z with z | z | z
      · exact Or.inr (Or.inl ⟨Or.inr (Or.inl z.1), z.2⟩)
      · exact Or.inr (Or.inr z)
      · exact Or.inr (Or.inl ⟨Or.inr (Or.inr z.1), z.2⟩)
  have n15 : ∀ g a, (swF ++ [2438, 1025, 3712, 3713, 3714, 3715, 3716, 3717, 3718, 1280]).contains g = true → ¬ (g = 2702 ∨ ((g = 10 ∨ g = 11 ∨ g = 12) ∧ a = A) ∨ (g = 2432 ∧ a = W)) := fun g a hg z => by
    rcases z with z | ⟨z | z | z, -⟩ | ⟨z, -⟩ <;> (rw [z] at hg; exact absurd hg (by decide))
  obtain ⟨v5, tg5⟩ := v1.oth f15 (fun g a z y => by
    rcases y with y | ⟨y | y | y, -⟩ | ⟨y, -⟩ <;> (rw [y] at z; exact VQ.no (l := [2702, 10, 11, 12, 2432]) rfl _ _ rfl z))
  have n35 : ∀ g a, g = 2702 ∨ g = 10 → ¬ ((g = 11 ∧ a = A) ∨ (g = 2432 ∧ a = W) ∨ (g = 12 ∧ a = A)) := fun g a hg z => by
    rcases hg with y | y <;> rcases z with ⟨z, -⟩ | ⟨z, -⟩ | ⟨z, -⟩ <;> (rw [y] at z; exact absurd z (by decide))
  refine kk h5 l1 o1 R' ((f1.mono fun g a z => Or.inl z).trans (f15.1.mono fun g a z => Or.inr z)) v5 ⟨⟨i1.1.1.fr f15.1 (fun f a hf => n15 f a (by rw [List.contains_iff_mem] at hf ⊢; exact List.mem_append_left _ hf)), by rw [f15.1.I (n15 _ _ rfl)]; exact i1.1.2.1, by rw [f15.1.I (n15 _ _ rfl)]; exact i1.1.2.2⟩, i1.2⟩ o11 (fun p x hx => by rw [tg5 p x (by simp) hx]; exact tg1 p x hx) (fun k hk => ?_) (by rw [f5.1.I (n35 _ _ (Or.inr rfl))]; exact g2) g3 (fun k hk => g4 k ((rl k).mpr hk)) g5 (by rw [← hh5, ← hh4]; simp [n_sI, z_sI, tag_sI, I_sI, J_sI, R_sI, EI_sI, EJ_sI, ER_sI, n_sJ, z_sJ, tag_sJ, I_sJ, J_sJ, R_sJ, EI_sJ, EJ_sJ, ER_sJ, n_sR, z_sR, tag_sR, I_sR, J_sR, R_sR, EI_sR, EJ_sR, ER_sR, n_sEI, z_sEI, tag_sEI, I_sEI, J_sEI, R_sEI, EI_sEI, EJ_sEI, ER_sEI, n_sEJ, z_sEJ, tag_sEJ, I_sEJ, J_sEJ, R_sEJ, EI_sEJ, EJ_sEJ, ER_sEJ, n_sER, z_sER, tag_sER, I_sER, J_sER, R_sER, EI_sER, EJ_sER, ER_sER, n_nw, z_nw, tag_nw, I_nw, J_nw, R_nw, EI_nw, EJ_nw, ER_nw]) (by rw [← hh5]; simp [n_sI, z_sI, tag_sI, I_sI, J_sI, R_sI, EI_sI, EJ_sI, ER_sI, n_sJ, z_sJ, tag_sJ, I_sJ, J_sJ, R_sJ, EI_sJ, EJ_sJ, ER_sJ, n_sR, z_sR, tag_sR, I_sR, J_sR, R_sR, EI_sR, EJ_sR, ER_sR, n_sEI, z_sEI, tag_sEI, I_sEI, J_sEI, R_sEI, EI_sEI, EJ_sEI, ER_sEI, n_sEJ, z_sEJ, tag_sEJ, I_sEJ, J_sEJ, R_sEJ, EI_sEJ, EJ_sEJ, ER_sEJ, n_sER, z_sER, tag_sER, I_sER, J_sER, R_sER, EI_sER, EJ_sER, ER_sER, n_nw, z_nw, tag_nw, I_nw, J_nw, R_nw, EI_nw, EJ_nw, ER_nw]) (by rw [← hh5]; simp [n_sI, z_sI, tag_sI, I_sI, J_sI, R_sI, EI_sI, EJ_sI, ER_sI, n_sJ, z_sJ, tag_sJ, I_sJ, J_sJ, R_sJ, EI_sJ, EJ_sJ, ER_sJ, n_sR, z_sR, tag_sR, I_sR, J_sR, R_sR, EI_sR, EJ_sR, ER_sR, n_sEI, z_sEI, tag_sEI, I_sEI, J_sEI, R_sEI, EI_sEI, EJ_sEI, ER_sEI, n_sEJ, z_sEJ, tag_sEJ, I_sEJ, J_sEJ, R_sEJ, EI_sEJ, EJ_sEJ, ER_sEJ, n_sER, z_sER, tag_sER, I_sER, J_sER, R_sER, EI_sER, EJ_sER, ER_sER, n_nw, z_nw, tag_nw, I_nw, J_nw, R_nw, EI_nw, EJ_nw, ER_nw])
  rw [f5.1.I (n35 _ _ (Or.inl rfl)), g1 k hk]
  by_cases c : rlb hd tt last st k
  · have e : k ≠ tt := by have := c.1; omega
    rw [if_pos ((rl k).mpr c), if_neg e, if_pos c]
  · rw [if_neg (fun z => c ((rl k).mp z))]
    by_cases e : k = tt
    · rw [if_pos e, if_pos e]
    · rw [if_neg e, if_neg e, if_neg c]
end
