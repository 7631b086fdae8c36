/-! where a type ends -/
theorem bas_c {b : Nat} {t : Ty} (h : bas (b :: t) = true) : (t = [] ∧ 1 ≤ b ∧ b ≤ 5) ∨ (b = 6 ∧ t.length = 1) ∨ (b = 7 ∧ bas t = true) := by
  unfold bas at h
  split at h
  · next e => simp at e; obtain ⟨e1, e2⟩ := e; subst e1; subst e2; exact Or.inl ⟨rfl, of_decide_eq_true h⟩
  · next e => simp at e; obtain ⟨e1, e2⟩ := e; subst e1; subst e2; exact Or.inr (Or.inl ⟨rfl, rfl⟩)
  · next e => simp at e; obtain ⟨e1, e2⟩ := e; subst e1; subst e2; exact Or.inr (Or.inr ⟨rfl, h⟩)
  · cases h
theorem bas_st {B : Nat → Nat} : ∀ (k : Nat) {p : Nat}, bas (bts B p k) = true → ∃ j, j < k ∧ (∀ i, i < j → B (p + i) = 7) ∧ 1 ≤ B (p + j) ∧ B (p + j) ≤ 6 ∧ ((B (p + j) = 6 ∧ k = j + 2) ∨ (B (p + j) ≠ 6 ∧ k = j + 1)) := by
  intro k
  induction k with
  | zero => intro p h; simp [bts, bas] at h
  | succ k ih =>
    intro p h
    rw [bts_c] at h
    rcases bas_c h with ⟨e, h1, h2⟩ | ⟨h1, h2⟩ | ⟨h1, h2⟩
    · have := congrArg List.length e
      rw [bts_len] at this
      have hk : k = 0 := this
      subst hk
      exact ⟨0, by omega, fun i hi => by omega, h1, show B p ≤ 6 by omega, Or.inr ⟨show B p ≠ 6 by omega, rfl⟩⟩
    · rw [bts_len] at h2
      subst h2
      exact ⟨0, by omega, fun i hi => by omega, show 1 ≤ B p by omega, show B p ≤ 6 by omega, Or.inl ⟨h1, rfl⟩⟩
    · obtain ⟨j, g1, g2, g3, g4, g5⟩ := ih h2
      rw [show p + 1 + j = p + (j + 1) by omega] at g3 g4 g5
      refine ⟨j + 1, by omega, fun i hi => ?_, g3, g4, ?_⟩
      · cases i with
        | zero => exact h1
        | succ i => rw [show p + (i + 1) = p + 1 + i by omega]; exact g2 i (by omega)
      · rcases g5 with ⟨a, b⟩ | ⟨a, b⟩
        · exact Or.inl ⟨a, by omega⟩
        · exact Or.inr ⟨a, by omega⟩
theorem sidx_c (a b c : Nat) (t : Ty) : sidx (a :: b :: c :: t) = sidx (b :: c :: t) := rfl
theorem sidx_st {B : Nat → Nat} : ∀ (j : Nat) {p : Nat}, (∀ i, i < j → B (p + i) ≠ 6) → sidx (bts B p (j + 1)) = none ∧ (B (p + j) = 6 → sidx (bts B p (j + 2)) = some (B (p + j + 1))) := by
  intro j
  induction j with
  | zero =>
    intro p _
    refine ⟨rfl, fun h => ?_⟩
    show sidx [B (p + 0), B (p + 1)] = _
    simp only [sidx]
    rw [if_pos h]
  | succ j ih =>
    intro p h
    have := ih (p := p + 1) fun i hi => by rw [show p + 1 + i = p + (i + 1) by omega]; exact h (i + 1) (by omega)
    constructor
    · cases j with
      | zero =>
        show sidx [B (p + 0), B (p + 1)] = none
        simp only [sidx]
        rw [if_neg (h 0 (by omega))]
      | succ j =>
        rw [bts_c, bts_c, bts_c, sidx_c, ← bts_c, ← bts_c]
        exact this.1
    · intro h6
      rw [bts_c, bts_c, bts_c, sidx_c, ← bts_c, ← bts_c]
      have := this.2 (by rw [show p + 1 + j = p + (j + 1) by omega]; exact h6)
      rw [this]; congr 2; omega
theorem rdT_st {n : Nat} {B : Nat → Nat} {r : Bool} {p q : Nat} {x : Ty × Nat} (h : rdT n B r p = .ok (x, q)) : ∃ j, (∀ i, i < j → 6 < B (p + i)) ∧ 1 ≤ B (p + j) ∧ B (p + j) ≤ 6 ∧ ((B (p + j) = 6 ∧ q = p + j + 2 ∧ sidx x.1 = some (B (p + j + 1))) ∨ (B (p + j) ≠ 6 ∧ q = p + j + 1 ∧ sidx x.1 = none)) := by
  obtain ⟨e1, e2, e3, e4, e5, e6⟩ := rdT_ok h
  generalize x.1.length = k at *
  rw [e1] at e6
  obtain ⟨k, rfl⟩ : ∃ k', k = k' + 1 := ⟨k - 1, by omega⟩
  rw [bts_c] at e6
  have fin : ∀ j, (∀ i, i < j → 6 < B (p + i)) → 1 ≤ B (p + j) → B (p + j) ≤ 6 → ((B (p + j) = 6 ∧ k + 1 = j + 2) ∨ (B (p + j) ≠ 6 ∧ k + 1 = j + 1)) → ∃ j, (∀ i, i < j → 6 < B (p + i)) ∧ 1 ≤ B (p + j) ∧ B (p + j) ≤ 6 ∧ ((B (p + j) = 6 ∧ q = p + j + 2 ∧ sidx x.1 = some (B (p + j + 1))) ∨ (B (p + j) ≠ 6 ∧ q = p + j + 1 ∧ sidx x.1 = none)) := fun j g1 g2 g3 g4 => by
    have st := sidx_st (B := B) j (p := p) fun i hi => by have := g1 i hi; omega
    refine ⟨j, g1, g2, g3, ?_⟩
    rcases g4 with ⟨a, b⟩ | ⟨a, b⟩
    · refine Or.inl ⟨a, by omega, ?_⟩
      rw [e1, b]; exact st.2 a
    · refine Or.inr ⟨a, by omega, ?_⟩
      rw [e1, b]; exact st.1
  have e6 : if B p = 8 ∨ B p = 9 then r = true ∧ bas (bts B (p + 1) k) = true ∧ nve (bts B (p + 1) k) ≤ 4 else bas (B p :: bts B (p + 1) k) = true ∧ nve (B p :: bts B (p + 1) k) ≤ 4 := e6
  by_cases hb : B p = 8 ∨ B p = 9
  · rw [if_pos hb] at e6
    obtain ⟨-, e7, -⟩ := e6
    obtain ⟨j, g1, g2, g3, g4, g5⟩ := bas_st k e7
    rw [show p + 1 + j = p + (j + 1) by omega] at g3 g4 g5
    refine fin (j + 1) (fun i hi => ?_) g3 g4 ?_
    · cases i with
      | zero => show 6 < B p; omega
      | succ i => rw [show p + (i + 1) = p + 1 + i by omega, g2 i (by omega)]; omega
    · rcases g5 with ⟨a, b⟩ | ⟨a, b⟩
      · exact Or.inl ⟨a, by omega⟩
      · exact Or.inr ⟨a, by omega⟩
  · rw [if_neg hb] at e6
    obtain ⟨e7, -⟩ := e6
    rw [← bts_c] at e7
    obtain ⟨j, g1, g2, g3, g4, g5⟩ := bas_st (k + 1) e7
    exact fin j (fun i hi => by rw [g2 i hi]; omega) g3 g4 g5
theorem utend_ok {G : Gt} {d : Nat} {h : AH} {K : Outcome → AH → Prop} {U n p q : Nat} {B : Nat → Nat} {r : Bool} {x : Ty × Nat} (hs : SU h U n B) (hx : rdT n B r p = .ok (x, q)) (hd : 1 ≤ d) (kk : K (.returned (some (.int (nI q)))) h) : MW G d e_X29_typeEnd [.ref U, .int (nI p)] h K := by
  refine st_X29_typeEnd fun X o hG hD _ => ?_
  subst hG; subst hD
  have s0 := hs.1.1
  have hn := hs.2.2.1
  have hB := hs.2.2.2.1
  have hq := (rdT_ok hx).2.2.2.2.1
  obtain ⟨j, g1, g2, g3, g4⟩ := rdT_st hx
  have hpj : p + j < n := by rcases g4 with ⟨-, a, -⟩ | ⟨-, a, -⟩ <;> omega
  have loop : ∀ k i, k + i = j → V X K 2 [.ref U, .int (nI p), .int (nI (p + i))] [] h := by
    intro k
    induction k with
    | zero =>
      intro i hi
      have hi : i = j := by omega
      subst hi
      have hb := hB (p + i)
      refine k_X29_typeEnd_2 o ?_
      refine ubyte_ok hs (by omega) ?_
      refine k_X29_typeEnd_7 o (fun _ => ?_) (fun c => absurd ((nI_leI (by omega) (by omega)).mpr g3) c)
      refine k_X29_typeEnd_18 o ?_
      refine ubyte_ok hs (by omega) ?_
      refine k_X29_typeEnd_23 o (fun c => ?_) (fun c => ?_)
      · have c : ¬ B (p + i) = 6 := fun z => c (by rw [z])
        rcases g4 with ⟨a, -⟩ | ⟨-, a, -⟩
        · exact absurd a c
        refine k_X29_typeEnd_34 o ?_
        refine k_X29_typeEnd_37 o ?_
        rw [nI_add, ← a]
        exact kk
      · have c : B (p + i) = 6 := (nI_eq (by omega) (by omega)).mp c
        rcases g4 with ⟨-, a, -⟩ | ⟨a, -⟩
        · refine k_X29_typeEnd_28 o ?_
          refine k_X29_typeEnd_37 o ?_
          rw [nI_add, ← a]
          exact kk
        · exact absurd c a
    | succ k ih =>
      intro i hi
      have hb := hB (p + i)
      have hg := g1 i (by omega)
      refine k_X29_typeEnd_2 o ?_
      refine ubyte_ok hs (by omega) ?_
      refine k_X29_typeEnd_7 o (fun c => ?_) (fun _ => ?_)
      · exact absurd ((nI_leI (by omega) (by omega)).mp c) (by omega)
      refine k_X29_typeEnd_12 o ?_
      rw [nI_add]
      exact ih (i + 1) (by omega)
  refine k_X29_typeEnd_0 o ?_
  exact loop j 0 (by omega)
theorem ustru_ok {G : Gt} {d : Nat} {h : AH} {K : Outcome → AH → Prop} {U n p q : Nat} {B : Nat → Nat} {r : Bool} {x : Ty × Nat} (hs : SU h U n B) (hx : rdT n B r p = .ok (x, q)) (hd : 1 ≤ d) (kk : K (.returned (some (.int (bI (sidx x.1).isSome)))) h) : MW G d e_X29_isStructureType [.ref U, .int (nI p)] h K := by
  refine st_X29_isStructureType fun X o hG hD _ => ?_
  subst hG; subst hD
  have s0 := hs.1.1
  have hn := hs.2.2.1
  have hB := hs.2.2.2.1
  have hq := (rdT_ok hx).2.2.2.2.1
  obtain ⟨j, g1, g2, g3, g4⟩ := rdT_st hx
  have hpj : p + j < n := by rcases g4 with ⟨-, a, -⟩ | ⟨-, a, -⟩ <;> omega
  have loop : ∀ k i, k + i = j → V X K 2 [.ref U, .int (nI p), .int (nI (p + i))] [] h := by
    intro k
    induction k with
    | zero =>
      intro i hi
      have hi : i = j := by omega
      subst hi
      have hb := hB (p + i)
      refine k_X29_isStructureType_2 o ?_
      refine ubyte_ok hs (by omega) ?_
      refine k_X29_isStructureType_7 o (fun _ => ?_) (fun c => absurd ((nI_leI (by omega) (by omega)).mpr g3) c)
      refine k_X29_isStructureType_18 o ?_
      refine ubyte_ok hs (by omega) ?_
      refine k_X29_isStructureType_23 o (fun c => ?_) (fun c => ?_)
      · have c : ¬ B (p + i) = 6 := fun z => c (by rw [z])
        rcases g4 with ⟨a, -⟩ | ⟨-, -, a⟩
        · exact absurd a c
        rw [a] at kk
        refine k_X29_isStructureType_32 o ?_
        refine k_X29_isStructureType_33 o ?_
        exact kk
      · have c : B (p + i) = 6 := (nI_eq (by omega) (by omega)).mp c
        rcases g4 with ⟨-, -, a⟩ | ⟨a, -⟩
        · rw [a] at kk
          refine k_X29_isStructureType_28 o ?_
          refine k_X29_isStructureType_33 o ?_
          exact kk
        · exact absurd c a
    | succ k ih =>
      intro i hi
      have hb := hB (p + i)
      have hg := g1 i (by omega)
      refine k_X29_isStructureType_2 o ?_
      refine ubyte_ok hs (by omega) ?_
      refine k_X29_isStructureType_7 o (fun c => ?_) (fun _ => ?_)
      · exact absurd ((nI_leI (by omega) (by omega)).mp c) (by omega)
      refine k_X29_isStructureType_12 o ?_
      rw [nI_add]
      exact ih (i + 1) (by omega)
  refine k_X29_isStructureType_0 o ?_
  exact loop j 0 (by omega)
/-- the first fault, if there is one -/
def LFt (h : AH) (U : Nat) (r : Option (Nat × Nat)) : Prop := match r with
  | none => h.I 3587 U = 0
  | some e => h.I 3587 U = nI e.1 ∧ h.I 3587 U ≠ 0 ∧ h.I 3588 U = nI e.2
def ulF : List Nat := [3587, 3588]
theorem ufk_ok {G : Gt} {d : Nat} {h : AH} {K : Outcome → AH → Prop} {U w q : Nat} {r : Option (Nat × Nat)} (hU : h.tag U = some (28, 0)) (hr : LFt h U r) (hw : nI w ≠ 0) (kk : ∀ h', Fq (UQ ulF U) h h' → LFt h' U (r.or (some (w, q))) → K (.returned none) h') : MW G d e_X29_fail [.ref U, .int (nI w), .int (nI q)] h K := by
  cases r with
  | none => exact ufail_ok hU hr hw fun h' f' e1 e2 e3 => kk h' f' ⟨e1, e2, e3⟩
  | some e => exact ufail1_ok hU hr.2.1 (kk h (Fq.refl h) hr)
theorem ulT_ok {G : Gt} {d : Nat} {h : AH} {K : Outcome → AH → Prop} {U n p q a b : Nat} {B : Nat → Nat} {ρ : Bool} {x : Ty × Nat} {r : Option (Nat × Nat)} (hs : SU h U n B) (hx : rdT n B ρ p = .ok (x, q)) (h1 : h.I 3589 U = nI a) (h2 : h.I 3590 U = nI b) (ha : a ≤ 32) (hb : b ≤ 32) (hr : LFt h U r) (hd : 2 ≤ d)
    (kk : ∀ h', Fq (UQ ulF U) h h' → LFt h' U (r.or (tck (a + b) x)) → K (.returned (some (.int (nI q)))) h') : MW G d e_X29_lookType [.ref U, .int (nI p)] h K := by
  refine st_X29_lookType fun X o hG hD _ => ?_
  subst hG; subst hD
  have s0 := hs.1.1
  have hn := hs.2.2.1
  have hB := hs.2.2.2.1
  obtain ⟨e1, e2, e3, e4, e5, -⟩ := rdT_ok hx
  obtain ⟨j, g1, g2, g3, g4⟩ := rdT_st hx
  refine k_X29_lookType_0 o ?_
  refine utend_ok hs hx (by omega) ?_
  refine k_X29_lookType_5 o ?_
  refine ustru_ok hs hx (by omega) ?_
  unfold tck at kk
  rcases g4 with ⟨a1, a2, a3⟩ | ⟨a1, a2, a3⟩
  · rw [a3] at kk ⊢
    have hb' := hB (p + j + 1)
    refine k_X29_lookType_11 o (fun c => absurd (show bI true = 0 from c) (by decide)) (fun _ => ?_)
    refine k_X29_lookType_14 o ?_
    rw [nI_sub (by omega)]
    refine ubyte_ok hs (by omega) ?_
    rw [show q - 1 = p + j + 1 by omega]
    refine k_X29_lookType_21 o (fun c => ?_) (fun c => ?_)
    · rw [nI_add] at c
      have c := (nI_ltI (by omega) (by omega)).mp c
      simp only at kk
      rw [if_pos c] at kk
      refine k_X29_lookType_42 o ?_
      exact kk h (Fq.refl h) (by cases r <;> exact hr)
    · rw [nI_add] at c
      have c : ¬ B (p + j + 1) < a + b := fun z => c ((nI_ltI (by omega) (by omega)).mpr z)
      simp only at kk
      rw [if_neg c] at kk
      refine k_X29_lookType_33 o ?_
      rw [nI_sub (by omega)]
      refine ufk_ok s0 hr (by decide) fun h' f' l' => ?_
      refine k_X29_lookType_42 o ?_
      rw [← e4] at l'
      exact kk h' f' l'
  · rw [a3] at kk ⊢
    refine k_X29_lookType_11 o (fun _ => ?_) (fun c => absurd rfl c)
    refine k_X29_lookType_42 o ?_
    exact kk h (Fq.refl h) (by cases r <;> exact hr)
theorem or_none' (r : Option (Nat × Nat)) : r.or none = r := by cases r <;> rfl
theorem or_as (a b c : Option (Nat × Nat)) : (a.or b).or c = a.or (b.or c) := by cases a <;> rfl
theorem fsm_c {α : Type} (f : α → Option (Nat × Nat)) (x : α) (l : List α) : (x :: l).findSome? f = (f x).or (l.findSome? f) := by
  rw [List.findSome?_cons]
  cases f x <;> rfl
theorem ulL_ok {G : Gt} {d : Nat} {h : AH} {K : Outcome → AH → Prop} {U n p q a b hi : Nat} {B : Nat → Nat} {l : TL} {r : Option (Nat × Nat)} (hs : SU h U n B) (hx : rdL n B hi p = .ok (l, q)) (h1 : h.I 3589 U = nI a) (h2 : h.I 3590 U = nI b) (ha : a ≤ 32) (hb : b ≤ 32) (hr : LFt h U r) (hd : 3 ≤ d)
    (kk : ∀ h', Fq (UQ ulF U) h h' → LFt h' U (r.or (l.findSome? (tck (a + b)))) → K (.returned (some (.int (nI q)))) h') : MW G d e_X29_lookList [.ref U, .int (nI p)] h K := by
  refine st_X29_lookList fun X o hG hD _ => ?_
  subst hG; subst hD
  have s0 := hs.1.1
  have hn := hs.2.2.1
  have hB := hs.2.2.2.1
  obtain ⟨k, p1, ek, el⟩ := bd_ok hx
  obtain ⟨rfl, rfl, hpn, -, -⟩ := rdC_ok ek
  have hbp := hB p
  have loop : ∀ l k i p1 r hx, k + i = B p → rep (rdT n B true) k p1 = .ok (l, q) → Fq (UQ ulF U) h hx → LFt hx U r → (∀ h', Fq (UQ ulF U) h h' → LFt h' U (r.or (l.findSome? (tck (a + b)))) → K (.returned (some (.int (nI q)))) h') → V X K 13 [.ref U, .int (nI p), .int (nI (B p)), .int (nI p1), .int (nI i)] [] hx := by
    intro l
    induction l with
    | nil =>
      intro k i p1 r hx hk er fx lx kx
      cases k with
      | succ k =>
        obtain ⟨_, _, _, z⟩ := bd_ok er
        obtain ⟨_, _, _, z⟩ := bd_ok z
        cases z
      | zero =>
        cases er
        refine k_X29_lookList_13 o (fun _ => ?_) (fun c => absurd ((nI_leI (by omega) (by omega)).mpr (by omega)) c)
        refine k_X29_lookList_31 o ?_
        refine kx hx fx ?_
        show LFt hx U (r.or none)
        rw [or_none']; exact lx
    | cons y l ih =>
      intro k i p1 r hx hk er fx lx kx
      cases k with
      | zero => cases er
      | succ k =>
        obtain ⟨y', p2, ey, z⟩ := bd_ok er
        obtain ⟨l', p3, el', z⟩ := bd_ok z
        cases z
        have sx := hs.uq fx rfl
        have u0 := sx.1.1
        refine k_X29_lookList_13 o (fun c => ?_) (fun _ => ?_)
        · exact absurd ((nI_leI (by omega) (by omega)).mp c) (by omega)
        refine k_X29_lookList_19 o ?_
        refine ulT_ok sx ey (by rw [fx.1.I (UQ.n rfl)]; exact h1) (by rw [fx.1.I (UQ.n rfl)]; exact h2) ha hb lx (by omega) fun h' f' l2 => ?_
        refine k_X29_lookList_24 o ?_
        rw [nI_add]
        refine ih k (i + 1) p2 _ h' (by omega) el' (fx.trans f') l2 fun h'' f'' l3 => kx h'' f'' ?_
        rw [fsm_c, ← or_as]; exact l3
  refine k_X29_lookList_0 o ?_
  refine ubyte_ok hs (by omega) ?_
  refine k_X29_lookList_5 o ?_
  rw [nI_add]
  exact loop l (B p) 0 (p + 1) r h (by omega) el (Fq.refl h) hr kk
theorem ulE_ok {G : Gt} {d : Nat} {h : AH} {K : Outcome → AH → Prop} {U n p q hi : Nat} {B : Nat → Nat} {l : TL} (hs : SU h U n B) (hx : rdL n B hi p = .ok (l, q)) (hd : 2 ≤ d) (kk : K (.returned (some (.int (nI q)))) h) : MW G d e_X29_listEnd [.ref U, .int (nI p)] h K := by
  refine st_X29_listEnd fun X o hG hD _ => ?_
  subst hG; subst hD
  have s0 := hs.1.1
  have hn := hs.2.2.1
  have hB := hs.2.2.2.1
  obtain ⟨k, p1, ek, el⟩ := bd_ok hx
  obtain ⟨rfl, rfl, hpn, -, -⟩ := rdC_ok ek
  have hbp := hB p
  have loop : ∀ l k i p1, k + i = B p → rep (rdT n B true) k p1 = .ok (l, q) → V X K 13 [.ref U, .int (nI p), .int (nI (B p)), .int (nI p1), .int (nI i)] [] h := by
    intro l
    induction l with
    | nil =>
      intro k i p1 hk er
      cases k with
      | succ k =>
        obtain ⟨_, _, _, z⟩ := bd_ok er
        obtain ⟨_, _, _, z⟩ := bd_ok z
        cases z
      | zero =>
        cases er
        refine k_X29_listEnd_13 o (fun _ => ?_) (fun c => absurd ((nI_leI (by omega) (by omega)).mpr (by omega)) c)
        refine k_X29_listEnd_31 o ?_
        exact kk
    | cons y l ih =>
      intro k i p1 hk er
      cases k with
      | zero => cases er
      | succ k =>
        obtain ⟨y', p2, ey, z⟩ := bd_ok er
        obtain ⟨l', p3, el', z⟩ := bd_ok z
        cases z
        refine k_X29_listEnd_13 o (fun c => ?_) (fun _ => ?_)
        · exact absurd ((nI_leI (by omega) (by omega)).mp c) (by omega)
        refine k_X29_listEnd_19 o ?_
        refine utend_ok hs ey (by omega) ?_
        refine k_X29_listEnd_24 o ?_
        rw [nI_add]
        exact ih k (i + 1) p2 (by omega) el'
  refine k_X29_listEnd_0 o ?_
  refine ubyte_ok hs (by omega) ?_
  refine k_X29_listEnd_5 o ?_
  rw [nI_add]
  exact loop l (B p) 0 (p + 1) (by omega) el
