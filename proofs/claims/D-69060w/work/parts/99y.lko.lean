/-! a worker looks on -/
/-- what was read is still what is to be read -/
def crn (Lf : Nat → Lw) (RN : Nat → Int32) (fs tt : Nat) (x : Pc × Int32 × Int32) : Prop := bfI (bfr Lf x.1 fs tt) = x.2.1 ∧ ∀ k, bfr Lf x.1 fs tt = some k → gss Lf fs tt x.1 = none ∧ RN k = x.2.2
def PLo (A W X LA g a : Nat) : Prop := PAg A X LA g a ∨ ((g = 2435 ∨ g = 2432) ∧ a = W) ∨ (g = 12 ∧ a = A)
section
variable {G : Gt} {d : Nat} {h : AH} {o : Lc} {A BA W tt fs : Nat} {XA LA RA : Nat → Nat} {MA : Ma} {K : Outcome → AH → Prop} {st : Lw} {Lf : Nat → Lw} {RN : Nat → Int32}
theorem lookOn_ok {sx lk R Tl : Nat} {wr b : Int32} {rs : List (Pc × Int32 × Int32)} (t0 : h.tag A = some (0, 0)) (rW : h.R 26 A = some W) (tW : h.tag W = some (19, 0)) (rB : h.R 3 A = some BA) (bk : BLK h BA XA LA RA) (wd : WRD h o A W BA tt MA fs st Lf RN) (ht : tt < 32) (wt : h.I 2433 W = nI tt) (hwr : h.I 2434 W = wr) (hlk : h.I 2435 W = nI lk) (hlk2 : sx = 2 → RN tt = wr → lk ≤ rs.length) (hlk3 : lk ≤ 100) (hsx : h.I 2702 (XA tt) = nI sx) (hsx4 : sx < 4) (rd : RDR h (RA tt) rs) (hr : h.I 10 A = nI R) (hR : R ≤ 32) (hT : h.I 11 A = nI Tl) (hT2 : Tl ≤ 32) (hb : h.I 12 A = b) (hd1 : 5 ≤ d) (kO : ∀ h', (sx ≠ 2 ∨ RN tt ≠ wr ∨ lk = rs.length) → Fq (fun g a => (g = 2432 ∧ a = W) ∨ (g = 12 ∧ a = A)) h h' → h'.I 2432 W = nI 0 → h'.I 12 A = b - nI 1 → K (.returned none) h') (kG : ∀ h' x, sx = 2 → RN tt = wr → rs[lk]? = some x → crn Lf RN fs tt x → Fq (fun g a => g = 2435 ∧ a = W) h h' → h'.I 2435 W = nI (lk + 1) → K (.returned none) h') (kA : ∀ h' x, sx = 2 → RN tt = wr → rs[lk]? = some x → ¬ crn Lf RN fs tt x → Fq (PLo A W (XA tt) (LA tt)) h h' → EtR h' o 4 tt (LA tt) 30 MA ((Lf tt).map fun x => (x.1, x.2.1, true)) → h'.I 2703 (XA tt) = RN tt + nI 1 → h'.I 2702 (XA tt) = nI 0 → h'.I 10 A = nI (min R tt) → h'.I 11 A = nI (min Tl (tt + 1)) → h'.I 2432 W = nI 0 → h'.I 12 A = b - nI 1 → K (.returned none) h') : MW G d e_X1_lookOn [.ref A] h K := by
  refine st_X1_lookOn fun XX oo hG hD _ => ?_
  subst hG; subst hD
  have tB := bk.1
  obtain ⟨eX, tX, rL, rR⟩ := bk.2.2 tt ht
  have ix : IX (nI tt) 32 tt := IX.mk (by omega) (by omega)
  obtain ⟨XA', LA', y1, y2, y3, y4, y5, y6⟩ := wd.2.2 tt ht
  have eX' : XA' = XA tt := by rw [eX] at y1; exact (Option.some.inj y1).symm
  subst eX'
  have eL' : LA' = LA tt := by rw [rL] at y3; exact (Option.some.inj y3).symm
  subst eL'
  obtain ⟨⟨⟨⟨s1, s2, s3⟩, s4⟩, ⟨s5, s6, s7⟩, s8⟩, s9⟩ := id rd
  rw [List.length_map] at s5 s6
  have stop : ∀ l1 l2 l3 l4, (sx ≠ 2 ∨ RN tt ≠ wr ∨ lk = rs.length) → V XX K 52 [.ref A, l1, l2, l3, l4] [] h := fun l1 l2 l3 l4 hc => by
    refine k_X1_lookOn_52 oo ?_
    refine lrest_ok t0 rW tW hb ?_
    refine k_X1_lookOn_56 oo ?_
    exact kO _ hc (Fq.sI (Fq.sI (Fq.refl h) (Or.inl ⟨rfl, rfl⟩)) (Or.inr ⟨rfl, rfl⟩)) (by simp [n_sI, z_sI, tag_sI, I_sI, J_sI, R_sI, EI_sI, EJ_sI, ER_sI, n_sJ, z_sJ, tag_sJ, I_sJ, J_sJ, R_sJ, EI_sJ, EJ_sJ, ER_sJ, n_sR, z_sR, tag_sR, I_sR, J_sR, R_sR, EI_sR, EJ_sR, ER_sR, n_sEI, z_sEI, tag_sEI, I_sEI, J_sEI, R_sEI, EI_sEI, EJ_sEI, ER_sEI, n_sEJ, z_sEJ, tag_sEJ, I_sEJ, J_sEJ, R_sEJ, EI_sEJ, EJ_sEJ, ER_sEJ, n_sER, z_sER, tag_sER, I_sER, J_sER, R_sER, EI_sER, EJ_sER, ER_sER, n_nw, z_nw, tag_nw, I_nw, J_nw, R_nw, EI_nw, EJ_nw, ER_nw]) (by simp [n_sI, z_sI, tag_sI, I_sI, J_sI, R_sI, EI_sI, EJ_sI, ER_sI, n_sJ, z_sJ, tag_sJ, I_sJ, J_sJ, R_sJ, EI_sJ, EJ_sJ, ER_sJ, n_sR, z_sR, tag_sR, I_sR, J_sR, R_sR, EI_sR, EJ_sR, ER_sR, n_sEI, z_sEI, tag_sEI, I_sEI, J_sEI, R_sEI, EI_sEI, EJ_sEI, ER_sEI, n_sEJ, z_sEJ, tag_sEJ, I_sEJ, J_sEJ, R_sEJ, EI_sEJ, EJ_sEJ, ER_sEJ, n_sER, z_sER, tag_sER, I_sER, J_sER, R_sER, EI_sER, EJ_sER, ER_sER, n_nw, z_nw, tag_nw, I_nw, J_nw, R_nw, EI_nw, EJ_nw, ER_nw])
  refine k_X1_lookOn_0 (r7 := wt) (r16 := hsx) oo (fun c => stop _ _ _ _ (Or.inl (fun z => c (by rw [z])))) (fun c2 => ?_)
  have c2 : sx = 2 := (nI_eq (by omega) (by omega)).mp c2
  refine k_X1_lookOn_21 (r2 := y4) (r8 := hwr) oo (fun c => stop _ _ _ _ (Or.inr (Or.inl c))) (fun c3 => ?_)
  have hlk2 := hlk2 c2 c3
  refine k_X1_lookOn_35 (r5 := hlk) (r11 := s5) oo (fun c4 => ?_) (fun c => stop _ _ _ _ (Or.inr (Or.inr ((nI_eq (by omega) (by omega)).mp c))))
  have hlt : lk < rs.length := by
    have : lk ≠ rs.length := fun z => c4 (by rw [z])
    omega
  obtain ⟨x, hx⟩ : ∃ x, rs[lk]? = some x := ⟨_, List.getElem?_eq_getElem hlt⟩
  obtain ⟨⟨a1, a2, a3⟩, a4⟩ := s8 lk x.1 (by rw [List.getElem?_map, hx]; rfl)
  obtain ⟨a5, a6⟩ := s9 lk x hx
  obtain ⟨s41, s42⟩ := s4 lk (by omega)
  have ixk : IX (nI lk) 30 lk := IX.mk (by omega) (by omega)
  refine k_X1_lookOn_57 (r11 := hlk) (r22 := hlk) (r27 := wt) (r30 := a1) (r32 := a2) (r34 := a3) oo ?_
  rw [nI_add]
  have q1 : Fq (fun g a => g = 2435 ∧ a = W) h (h.sI 2435 W (nI (lk + 1))) := Fq.sI (Fq.refl h) ⟨rfl, rfl⟩
  have lk1 : (h.sI 2435 W (nI (lk + 1))).I 2435 W = nI (lk + 1) := by simp [n_sI, z_sI, tag_sI, I_sI, J_sI, R_sI, EI_sI, EJ_sI, ER_sI, n_sJ, z_sJ, tag_sJ, I_sJ, J_sJ, R_sJ, EI_sJ, EJ_sJ, ER_sJ, n_sR, z_sR, tag_sR, I_sR, J_sR, R_sR, EI_sR, EJ_sR, ER_sR, n_sEI, z_sEI, tag_sEI, I_sEI, J_sEI, R_sEI, EI_sEI, EJ_sEI, ER_sEI, n_sEJ, z_sEJ, tag_sEJ, I_sEJ, J_sEJ, R_sEJ, EI_sEJ, EJ_sEJ, ER_sEJ, n_sER, z_sER, tag_sER, I_sER, J_sER, R_sER, EI_sER, EJ_sER, ER_sER, n_nw, z_nw, tag_nw, I_nw, J_nw, R_nw, EI_nw, EJ_nw, ER_nw]
  generalize h.sI 2435 W (nI (lk + 1)) = h1 at q1 lk1 ⊢
  have nn : ∀ g a, g ≠ 2435 → ¬ (g = 2435 ∧ a = W) := fun g a hg z => hg z.1
  have ns : ∀ l' : List Nat, l'.all (fun f => !(f == 2435)) = true → ∀ f a, l'.contains f = true → ¬ (f = 2435 ∧ a = W) := fun l' hl f a hf z => by
    rw [List.all_eq_true] at hl
    have := hl f (List.contains_iff_mem.mp hf)
    rw [z.1] at this; simp at this
  have wd1 : WRD h1 o A W BA tt MA fs st Lf RN := wd.fr q1.1 (ns wdF rfl) (fun f a hf _ => ns etF rfl f a hf) (fun _ _ => rfl)
  have t1 := q1.1.tag t0
  have tW1 := q1.1.tag tW
  have tB1 := q1.1.tag tB
  have tK1 := q1.1.tag s42
  have rW1 : h1.R 26 A = some W := by rw [q1.1.R (nn _ _ (by decide))]; exact rW
  have rB1 : h1.R 3 A = some BA := by rw [q1.1.R (nn _ _ (by decide))]; exact rB
  have wt1 : h1.I 2433 W = nI tt := by rw [q1.1.I (nn _ _ (by decide))]; exact wt
  have d1 : h1.I 1152 (RA tt + 2 + lk) = nI x.1.1 := by rw [q1.1.I (nn _ _ (by decide))]; exact a1
  have d2 : h1.J 1153 (RA tt + 2 + lk) = x.1.2.1 := by rw [q1.1.J (nn _ _ (by decide))]; exact a2
  have d3 : h1.I 1154 (RA tt + 2 + lk) = nI x.1.2.2 := by rw [q1.1.I (nn _ _ (by decide))]; exact a3
  have d4 : h1.I 1160 (RA tt + 2 + lk) = x.2.1 := by rw [q1.1.I (nn _ _ (by decide))]; exact a5
  have d5 : h1.I 1161 (RA tt + 2 + lk) = x.2.2 := by rw [q1.1.I (nn _ _ (by decide))]; exact a6
  have yes : ∀ l1 l2 l3, crn Lf RN fs tt x → V XX K 187 [.ref A, l1, l2, l3, .int (nI 1)] [] h1 := fun l1 l2 l3 hc => by
    refine k_X1_lookOn_187 oo (fun c => absurd (show nI 1 = 0 from c) (by decide)) (fun _ => ?_)
    exact k_X1_lookOn_192 oo (kG h1 x c2 c3 hx hc q1 lk1)
  have no : ∀ l1 l2 l3, ¬ crn Lf RN fs tt x → V XX K 187 [.ref A, l1, l2, l3, .int (nI 0)] [] h1 := fun l1 l2 l3 hc => by
    refine k_X1_lookOn_187 oo (fun _ => ?_) (fun c => absurd rfl c)
    refine k_X1_lookOn_193 (r5 := wt1) oo ?_
    refine again_ok (r := RN tt) (R := R) (Tl := Tl) (ls := Lf tt) (o := o) (MA := MA) t1 rB1 (bk.fr q1.1 (ns bkF rfl)) ht (by rw [q1.1.I (nn _ _ (by decide))]; exact hr) hR (by rw [q1.1.I (nn _ _ (by decide))]; exact hT) hT2 (by rw [q1.1.I (nn _ _ (by decide))]; exact y4) (y5.fr q1.1 (fun f a hf _ _ => ns etF rfl f a hf) (fun _ => rfl)) (by omega) fun h2 f2 g1 g2 g3 g4 g5 => ?_
    have pn : ∀ g a, [26, 12].contains g = true → ¬ PAg A (XA tt) (LA tt) g a := fun g a hg z => by
      rcases z with ⟨z | z, -⟩ | ⟨z | z, -⟩ | ⟨z, -⟩ <;> (rw [z] at hg; exact absurd hg (by decide))
    have t2 := f2.1.tag t1
    have tW2 := f2.1.tag tW1
    have rW2 : h2.R 26 A = some W := by rw [f2.1.R (pn _ _ rfl)]; exact rW1
    have b2 : h2.I 12 A = b := by rw [f2.1.I (pn _ _ rfl), q1.1.I (nn _ _ (by decide))]; exact hb
    refine k_X1_lookOn_204 oo ?_
    refine lrest_ok t2 rW2 tW2 b2 ?_
    refine k_X1_lookOn_208 oo ?_
    have f3 : Fq (fun g a => (g = 2432 ∧ a = W) ∨ (g = 12 ∧ a = A)) h2 ((h2.sI 2432 W (nI 0)).sI 12 A (b - nI 1)) := Fq.sI (Fq.sI (Fq.refl h2) (Or.inl ⟨rfl, rfl⟩)) (Or.inr ⟨rfl, rfl⟩)
    refine kA _ x c2 c3 hx hc ((q1.mono fun g a z => Or.inr (Or.inl ⟨Or.inl z.1, z.2⟩)).trans ((f2.mono fun g a z => Or.inl z).trans (f3.mono fun g a z => z.elim (fun y => Or.inr (Or.inl ⟨Or.inr y.1, y.2⟩)) (fun y => Or.inr (Or.inr y))))) (g1.fr f3.1 (fun f a hf _ _ z => ?_) (fun _ => rfl)) (by simp [n_sI, z_sI, tag_sI, I_sI, J_sI, R_sI, EI_sI, EJ_sI, ER_sI, n_sJ, z_sJ, tag_sJ, I_sJ, J_sJ, R_sJ, EI_sJ, EJ_sJ, ER_sJ, n_sR, z_sR, tag_sR, I_sR, J_sR, R_sR, EI_sR, EJ_sR, ER_sR, n_sEI, z_sEI, tag_sEI, I_sEI, J_sEI, R_sEI, EI_sEI, EJ_sEI, ER_sEI, n_sEJ, z_sEJ, tag_sEJ, I_sEJ, J_sEJ, R_sEJ, EI_sEJ, EJ_sEJ, ER_sEJ, n_sER, z_sER, tag_sER, I_sER, J_sER, R_sER, EI_sER, EJ_sER, ER_sER, n_nw, z_nw, tag_nw, I_nw, J_nw, R_nw, EI_nw, EJ_nw, ER_nw]; exact g2) (by simp [n_sI, z_sI, tag_sI, I_sI, J_sI, R_sI, EI_sI, EJ_sI, ER_sI, n_sJ, z_sJ, tag_sJ, I_sJ, J_sJ, R_sJ, EI_sJ, EJ_sJ, ER_sJ, n_sR, z_sR, tag_sR, I_sR, J_sR, R_sR, EI_sR, EJ_sR, ER_sR, n_sEI, z_sEI, tag_sEI, I_sEI, J_sEI, R_sEI, EI_sEI, EJ_sEI, ER_sEI, n_sEJ, z_sEJ, tag_sEJ, I_sEJ, J_sEJ, R_sEJ, EI_sEJ, EJ_sEJ, ER_sEJ, n_sER, z_sER, tag_sER, I_sER, J_sER, R_sER, EI_sER, EJ_sER, ER_sER, n_nw, z_nw, tag_nw, I_nw, J_nw, R_nw, EI_nw, EJ_nw, ER_nw]; exact g3) (by simp [n_sI, z_sI, tag_sI, I_sI, J_sI, R_sI, EI_sI, EJ_sI, ER_sI, n_sJ, z_sJ, tag_sJ, I_sJ, J_sJ, R_sJ, EI_sJ, EJ_sJ, ER_sJ, n_sR, z_sR, tag_sR, I_sR, J_sR, R_sR, EI_sR, EJ_sR, ER_sR, n_sEI, z_sEI, tag_sEI, I_sEI, J_sEI, R_sEI, EI_sEI, EJ_sEI, ER_sEI, n_sEJ, z_sEJ, tag_sEJ, I_sEJ, J_sEJ, R_sEJ, EI_sEJ, EJ_sEJ, ER_sEJ, n_sER, z_sER, tag_sER, I_sER, J_sER, R_sER, EI_sER, EJ_sER, ER_sER, n_nw, z_nw, tag_nw, I_nw, J_nw, R_nw, EI_nw, EJ_nw, ER_nw]; exact g4) (by simp [n_sI, z_sI, tag_sI, I_sI, J_sI, R_sI, EI_sI, EJ_sI, ER_sI, n_sJ, z_sJ, tag_sJ, I_sJ, J_sJ, R_sJ, EI_sJ, EJ_sJ, ER_sJ, n_sR, z_sR, tag_sR, I_sR, J_sR, R_sR, EI_sR, EJ_sR, ER_sR, n_sEI, z_sEI, tag_sEI, I_sEI, J_sEI, R_sEI, EI_sEI, EJ_sEI, ER_sEI, n_sEJ, z_sEJ, tag_sEJ, I_sEJ, J_sEJ, R_sEJ, EI_sEJ, EJ_sEJ, ER_sEJ, n_sER, z_sER, tag_sER, I_sER, J_sER, R_sER, EI_sER, EJ_sER, ER_sER, n_nw, z_nw, tag_nw, I_nw, J_nw, R_nw, EI_nw, EJ_nw, ER_nw]; exact g5) (by simp [n_sI, z_sI, tag_sI, I_sI, J_sI, R_sI, EI_sI, EJ_sI, ER_sI, n_sJ, z_sJ, tag_sJ, I_sJ, J_sJ, R_sJ, EI_sJ, EJ_sJ, ER_sJ, n_sR, z_sR, tag_sR, I_sR, J_sR, R_sR, EI_sR, EJ_sR, ER_sR, n_sEI, z_sEI, tag_sEI, I_sEI, J_sEI, R_sEI, EI_sEI, EJ_sEI, ER_sEI, n_sEJ, z_sEJ, tag_sEJ, I_sEJ, J_sEJ, R_sEJ, EI_sEJ, EJ_sEJ, ER_sEJ, n_sER, z_sER, tag_sER, I_sER, J_sER, R_sER, EI_sER, EJ_sER, ER_sER, n_nw, z_nw, tag_nw, I_nw, J_nw, R_nw, EI_nw, EJ_nw, ER_nw]) (by simp [n_sI, z_sI, tag_sI, I_sI, J_sI, R_sI, EI_sI, EJ_sI, ER_sI, n_sJ, z_sJ, tag_sJ, I_sJ, J_sJ, R_sJ, EI_sJ, EJ_sJ, ER_sJ, n_sR, z_sR, tag_sR, I_sR, J_sR, R_sR, EI_sR, EJ_sR, ER_sR, n_sEI, z_sEI, tag_sEI, I_sEI, J_sEI, R_sEI, EI_sEI, EJ_sEI, ER_sEI, n_sEJ, z_sEJ, tag_sEJ, I_sEJ, J_sEJ, R_sEJ, EI_sEJ, EJ_sEJ, ER_sEJ, n_sER, z_sER, tag_sER, I_sER, J_sER, R_sER, EI_sER, EJ_sER, ER_sER, n_nw, z_nw, tag_nw, I_nw, J_nw, R_nw, EI_nw, EJ_nw, ER_nw])
    rcases z with ⟨z, -⟩ | ⟨z, -⟩ <;> (rw [z] at hf; exact absurd hf (by decide))
  refine before_ok t1 rB1 tB1 wd1 ht a4 (by omega) ?_
  refine k_X1_lookOn_109 (r2 := d4) oo (fun c => ?_) (fun c => ?_)
  · refine k_X1_lookOn_122 oo ?_
    refine k_X1_lookOn_123 oo (fun _ => ?_) (fun c => absurd rfl c)
    exact no _ _ _ (fun z => c z.1)
  · refine k_X1_lookOn_118 oo ?_
    refine k_X1_lookOn_123 oo (fun c => absurd (show nI 1 = 0 from c) (by decide)) (fun _ => ?_)
    cases hk : bfr Lf x.1 fs tt with
    | none =>
      rw [hk] at c
      refine k_X1_lookOn_130 oo (fun _ => ?_) (fun c' => absurd (show bfI none < 0 by decide) c')
      exact yes _ _ _ ⟨by rw [hk]; exact c, fun k z => by rw [hk] at z; cases z⟩
    | some k =>
      rw [hk] at c
      obtain ⟨k1, k2, e, he⟩ := bfr_b hk
      obtain ⟨y, hy⟩ := fidx_at he
      have el : lfd (Lf k) x.1 = some y := by unfold lfd; rw [he]; simp only [hy]; rfl
      have eg : gss Lf fs tt x.1 = if y.2 then some k else none := by unfold gss; rw [hk]; simp only [el]
      obtain ⟨XK, LK, x1, x2, x3, x4, x5, x6⟩ := wd1.2.2 k (by omega)
      have tS := x5.1.1.1.1
      have ix2 : IX (nI k) 32 k := IX.mk (by omega) (by omega)
      refine k_X1_lookOn_130 oo (fun c' => absurd c' (nI_nn (by omega))) (fun _ => ?_)
      refine k_X1_lookOn_134 (l3 := nI k) (r14 := d1) (r16 := d2) (r18 := d3) oo ?_
      refine find_ok x5.1 a4 (by omega) ?_
      rw [fidx_map, he]
      obtain ⟨-, ⟨z2, -⟩, -⟩ := x5.2.1 e (x.1, y) hy
      have tQ := (x5.1.1.2 e (by have := get_lt hy; have := x5.1.2.1.2.1; rw [List.length_map] at this; omega)).2
      have z2 : h1.I 1164 (LK + 2 + e) = bI y.2 := z2
      cases hy2 : y.2 with
      | true =>
        rw [hy2] at z2 eg
        refine k_X1_lookOn_158 (s0 := LK + 2 + e) (r2 := z2) oo (fun _ => ?_) (fun c => absurd (show bI true = 0 from c) (by decide))
        refine k_X1_lookOn_184 oo ?_
        refine k_X1_lookOn_185 oo ?_
        exact no _ _ _ (fun z => by have := (z.2 k hk).1; rw [eg] at this; cases this)
      | false =>
        rw [hy2] at z2 eg
        refine k_X1_lookOn_158 (s0 := LK + 2 + e) (r2 := z2) oo (fun c => absurd rfl c) (fun _ => ?_)
        refine k_X1_lookOn_164 (r11 := x4) (r14 := d5) oo (fun c' => ?_) (fun c' => ?_)
        · refine k_X1_lookOn_184 oo ?_
          refine k_X1_lookOn_185 oo ?_
          exact no _ _ _ (fun z => c' (z.2 k hk).2)
        · refine k_X1_lookOn_180 oo ?_
          refine k_X1_lookOn_185 oo ?_
          exact yes _ _ _ ⟨by rw [hk]; exact c, fun k' z => by rw [hk] at z; cases z; exact ⟨eg, c'⟩⟩
end
