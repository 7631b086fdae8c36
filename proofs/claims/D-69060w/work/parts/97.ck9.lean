/-! the component's checker: calls -/
theorem lN_or (a b : Nat) : lN a ||| lN b = lN (a ||| b) := un_inj (by
  rw [un_or, un_lm, un_lm, un_lm]
  exact (Nat.or_mod_two_pow (n := 64)).symm)
theorem lN_and (a b : Nat) : lN a &&& lN b = lN (a &&& b) := un_inj (by
  rw [un_and, un_lm, un_lm, un_lm]
  exact (Nat.and_mod_two_pow (n := 64)).symm)
theorem lN_0 {a : Nat} (h : a < 18446744073709551616) : lN a = 0 ↔ a = 0 := by
  constructor
  · intro e
    have := congrArg un e
    rw [un_l h] at this; exact this
  · intro e; rw [e]; rfl
theorem enc_f (a : Nat) : enc (a, false) = lN a := by unfold enc ogn; simp
theorem or63 {a b : Nat} (ha : a < 9223372036854775808) (hb : b < 9223372036854775808) : a ||| b < 9223372036854775808 := Nat.or_lt_two_pow (n := 63) ha hb
/-- a function of the tables, by its number -/
def CG (h : AH) (g : Nat) (m : Md) (f : Nat) : Prop := (h.tag g = some (7, 0) ∧ h.R 897 g = some (g + 1) ∧ h.R 898 g = some (g + 2) ∧ h.tag (g + 1) = some (4, 0) ∧ h.tag (g + 2) = some (4, 0)) ∧ SP h (g + 1) (mts m) (fls m f 0) ∧ SP h (g + 2) (mts m) (fls m f 1) ∧ h.I 896 g = nI (fgs m f)
theorem CG.fr {P : Nat → Nat → Prop} {h h' : AH} {g f : Nat} {m : Md} (q : Fr P h h') (np : ∀ x a, (stF ++ tcF ++ tbF).contains x = true → ¬ P x a) (s : CG h g m f) : CG h' g m f := by
  obtain ⟨⟨a1, a2, a3, a4, a5⟩, a6, a7, a8⟩ := s
  exact ⟨⟨q.tag a1, by rw [q.R (np _ _ rfl)]; exact a2, by rw [q.R (np _ _ rfl)]; exact a3, q.tag a4, q.tag a5⟩, a6.fr q (np _ _ rfl) (np _ _ rfl), a7.fr q (np _ _ rfl) (np _ _ rfl), by rw [q.I (np _ _ rfl)]; exact a8⟩
theorem fat_ok {G : Gt} {d : Nat} {h : AH} {K : Outcome → AH → Prop} {T f : Nat} {m : Md} (hT : STb h T) (hm : MX h T (mts m) (mcs m) m) (hf : f < m.2.2.2.2.2.length + m.2.2.2.1.length) (kk : ∀ g, CG h g m f → K (.returned (some (.ref (g)))) h) : MW G d e_X3_functionAt [.ref T, .int (nI f)] h K := by
  refine st_X3_functionAt fun X o hG hD _ => ?_
  subst hG; subst hD
  obtain ⟨⟨a1, a2, a3, a4, a5⟩, ⟨b1, b2, b3, b4, b5, b6⟩, m1, m2, m3, m4, m5⟩ := hm
  obtain ⟨⟨g1, g2, g3, g4', g5, g6⟩, ⟨p1, p2, -⟩, -, -, dF⟩ := id hT
  by_cases c : f < m.2.2.2.2.2.length
  · obtain ⟨d1, d2, ⟨d3, d4, d5⟩, d6, d7, d8⟩ := dF f (by omega)
    have ix : IX (nI f) 96 f := IX.mk (by omega) (by omega)
    obtain ⟨u1, u2, u3, u4, u5⟩ := m5 f _ (List.getElem?_eq_getElem c)
    refine k_X3_functionAt_0 o (fun z => ?_) (fun _ => ?_)
    · exact absurd ((nI_leI (by omega) (by omega)).mp z) (by omega)
    refine k_X3_functionAt_8 o ?_
    refine k_X3_functionAt_31 o ?_
    have e0 : fls m f 0 = (m.2.2.2.2.2[f]).2.1 := by unfold fls; rw [if_pos c, List.getElem?_eq_getElem c]; rfl
    have e1 : fls m f 1 = (m.2.2.2.2.2[f]).2.2.1 := by unfold fls; rw [if_pos c, List.getElem?_eq_getElem c]; rfl
    have e2 : fgs m f = (m.2.2.2.2.2[f]).1 := by unfold fgs; rw [if_pos c, List.getElem?_eq_getElem c]
    refine kk _ ⟨⟨d2, by rw [show T + 140 + 4 * f + 1 = T + 141 + 4 * f by omega]; exact d3, by rw [show T + 140 + 4 * f + 2 = T + 142 + 4 * f by omega]; exact d4, by rw [show T + 140 + 4 * f + 1 = T + 141 + 4 * f by omega]; exact d6, by rw [show T + 140 + 4 * f + 2 = T + 142 + 4 * f by omega]; exact d7⟩, by rw [e0]; exact u2, by rw [e1]; exact u3, by rw [e2]; exact u1⟩
  · have c2 : f - m.2.2.2.2.2.length < m.2.2.2.1.length := by omega
    obtain ⟨d1, d2, ⟨d3, d4, d5⟩, d6, d7, d8⟩ := dF (64 + f - m.2.2.2.2.2.length) (by omega)
    have ix : IX (nI 64 + nI f - nI m.2.2.2.2.2.length) 96 (64 + f - m.2.2.2.2.2.length) := by rw [nI_add, nI_sub (by omega)]; exact IX.mk (by omega) (by omega)
    obtain ⟨u1, u2, u3, u4, u5⟩ := m3 _ _ (List.getElem?_eq_getElem c2)
    have ea : T + 140 + 4 * (64 + f - m.2.2.2.2.2.length) = T + 396 + 4 * (f - m.2.2.2.2.2.length) := by omega
    refine k_X3_functionAt_0 o (fun _ => ?_) (fun z => ?_)
    rotate_left
    · exact absurd ((nI_leI (by omega) (by omega)).mpr (by omega)) z
    refine k_X3_functionAt_17 o ?_
    refine k_X3_functionAt_31 o ?_
    have e0 : fls m f 0 = (m.2.2.2.1[f - m.2.2.2.2.2.length]).2.2.2.1 := by unfold fls; rw [if_neg c, List.getElem?_eq_getElem c2]; rfl
    have e1 : fls m f 1 = (m.2.2.2.1[f - m.2.2.2.2.2.length]).2.2.2.2 := by unfold fls; rw [if_neg c, List.getElem?_eq_getElem c2]; rfl
    have e2 : fgs m f = (m.2.2.2.1[f - m.2.2.2.2.2.length]).2.2.1 := by unfold fgs; rw [if_neg c, List.getElem?_eq_getElem c2]
    rw [ea] at d2 d3 d4 ⊢
    refine kk _ ⟨⟨d2, by rw [d3]; congr 1; omega, by rw [d4]; congr 1; omega, ?_, ?_⟩, by rw [e0]; exact u4, by rw [e1]; exact u5, by rw [e2]; exact u3⟩
    · rw [show T + 396 + 4 * (f - m.2.2.2.2.2.length) + 1 = T + 141 + 4 * (64 + f - m.2.2.2.2.2.length) by omega]; exact d6
    · rw [show T + 396 + 4 * (f - m.2.2.2.2.2.length) + 2 = T + 142 + 4 * (64 + f - m.2.2.2.2.2.length) by omega]; exact d7
theorem fls_ok {m : Md} (g : gM m) {f : Nat} (hf : f < m.2.2.2.2.2.length + m.2.2.2.1.length) : (fls m f 0).length ≤ 8 ∧ (fls m f 1).length ≤ 8 ∧ (∀ x ∈ fls m f 0, gT m x.1) ∧ (∀ x ∈ fls m f 1, gT m x.1) ∧ fgs m f ≤ 7 := by
  by_cases c : f < m.2.2.2.2.2.length
  · have hu := g.2.2.2.2.1 _ (List.getElem_mem c)
    have e0 : fls m f 0 = (m.2.2.2.2.2[f]).2.1 := by unfold fls; rw [if_pos c, List.getElem?_eq_getElem c]; rfl
    have e1 : fls m f 1 = (m.2.2.2.2.2[f]).2.2.1 := by unfold fls; rw [if_pos c, List.getElem?_eq_getElem c]; rfl
    have e2 : fgs m f = (m.2.2.2.2.2[f]).1 := by unfold fgs; rw [if_pos c, List.getElem?_eq_getElem c]
    rw [e0, e1, e2]
    exact ⟨hu.2.1, hu.2.2.1, hu.2.2.2.2.1, hu.2.2.2.2.2.1, hu.1⟩
  · have c2 : f - m.2.2.2.2.2.length < m.2.2.2.1.length := by omega
    have hc := g.2.2.2.1 _ (List.getElem_mem c2)
    have e0 : fls m f 0 = (m.2.2.2.1[f - m.2.2.2.2.2.length]).2.2.2.1 := by unfold fls; rw [if_neg c, List.getElem?_eq_getElem c2]; rfl
    have e1 : fls m f 1 = (m.2.2.2.1[f - m.2.2.2.2.2.length]).2.2.2.2 := by unfold fls; rw [if_neg c, List.getElem?_eq_getElem c2]; rfl
    have e2 : fgs m f = (m.2.2.2.1[f - m.2.2.2.2.2.length]).2.2.1 := by unfold fgs; rw [if_neg c, List.getElem?_eq_getElem c2]
    rw [e0, e1, e2]
    exact ⟨hc.2.1, hc.2.2.1, hc.2.2.2.1, hc.2.2.2.2, hc.1⟩
/-- what was given to a call, from the i-th on -/
def GVh (h : AH) (C i : Nat) (gs : Sk) : Prop := ∀ j x, gs[j]? = some x → h.EJ 435 (C + 8) (i + j) = lN (tyc x.1) ∧ h.EJ 451 (C + 9) (i + j) = lN x.2.1
def GVo (m : Md) (gs : Sk) : Prop := ∀ x ∈ gs, tOK m x.1 ∧ x.2.1 < 9223372036854775808 ∧ (isRf x.1 = false → x.2 = (0, false))
theorem GVh.fr {l : List Nat} {h h' : AH} {C i : Nat} {gs : Sk} (q : Fq (FS l) h h') (hl : [10000 + 435, 10000 + 451].all (fun f => !l.contains f) = true) (s : GVh h C i gs) : GVh h' C i gs := fun j x hx => by
  have np := FS.no hl
  exact ⟨by rw [q.1.EJ (np _ _ rfl)]; exact (s j x hx).1, by rw [q.1.EJ (np _ _ rfl)]; exact (s j x hx).2⟩
def clF : List Nat := tkF ++ [10000 + 435, 10000 + 451]
def P1c (lt : List Ty) (s : Sk) (l : Ls) (g : Sk) (x : (Ty × Og) × Nat) : Bool := !isWr x.1.1 || (!liv lt s l x.1.2.1 2 && g.zipIdx.all fun y => y.2 == x.2 || (y.1.2.1 &&& x.1.2.1) == 0)
theorem gAl_P (lt : List Ty) (s : Sk) (l : Ls) (g : Sk) : gAl lt s l g = g.zipIdx.all (P1c lt s l g) := rfl
theorem gAll_s (g : Sk) (x : Ty × Og) : gAll (g ++ [x]) = gAll g ||| x.2.1 := by unfold gAll; rw [List.foldl_append]; rfl
theorem gWr_s (g : Sk) (x : Ty × Og) : gWr (g ++ [x]) = if isWr x.1 then gWr g ||| x.2.1 else gWr g := by unfold gWr; rw [List.foldl_append]; rfl
theorem gAll_lt {m : Md} : ∀ {g : Sk}, GVo m g → gAll g < 9223372036854775808 := by
  have : ∀ (g : Sk) (a : Nat), GVo m g → a < 9223372036854775808 → g.foldl (fun a x => a ||| x.2.1) a < 9223372036854775808 := by
    intro g
    induction g with
    | nil => intro a _ ha; exact ha
    | cons x g ih => intro a hg ha; exact ih _ (fun y hy => hg y (List.mem_cons_of_mem _ hy)) (or63 ha (hg x (by simp)).2.1)
  intro g hg
  exact this g 0 hg (by decide)
theorem gWr_lt {m : Md} : ∀ {g : Sk}, GVo m g → gWr g < 9223372036854775808 := by
  have : ∀ (g : Sk) (a : Nat), GVo m g → a < 9223372036854775808 → g.foldl (fun a x => if isWr x.1 then a ||| x.2.1 else a) a < 9223372036854775808 := by
    intro g
    induction g with
    | nil => intro a _ ha; exact ha
    | cons x g ih =>
      intro a hg ha
      refine ih _ (fun y hy => hg y (List.mem_cons_of_mem _ hy)) ?_
      show (if isWr x.1 then a ||| x.2.1 else a) < 9223372036854775808
      by_cases c : isWr x.1 = true
      · rw [if_pos c]; exact or63 ha (hg x (by simp)).2.1
      · rw [if_neg c]; exact ha
  intro g hg
  exact this g 0 hg (by decide)
