/-! whether types of two modules are the same -/
def smd (m : Md) (k : Nat) : Nat := if k < m.2.1.length then m.1 else (match m.2.2.1[k - m.2.1.length]? with | some s => s.1 | none => 0)
def snb (m : Md) (k : Nat) : Nat := if k < m.2.1.length then k else (match m.2.2.1[k - m.2.1.length]? with | some s => s.2.1 | none => 0)
def sty (m : Md) (t : Ty) (m' : Md) (t' : Ty) : Bool := match sidx t, sidx t' with
  | none, none => decide (tyc t = tyc t')
  | some k, some j => decide (tyc t / 256 = tyc t' / 256) && (decide (smd m k = smd m' j) && decide (snb m k = snb m' j))
  | _, _ => false
section
variable {G : Gt} {d : Nat} {h : AH} {K : Outcome → AH → Prop}
theorem saf_ok {G : Gt} {d : Nat} {h : AH} {K : Outcome → AH → Prop} {T k : Nat} {m : Md} (hT : STb h T) (hm : MX h T (mts m) (mcs m) m) (hk : k < nst m) (hk2 : m.2.1.length ≤ k) (kk : h.tag (T + 76 + 2 * (k - m.2.1.length)) = some (6, 0) → K (.returned (some (.ref (T + 76 + 2 * (k - m.2.1.length))))) h) : MW G d e_X3_structureAt [.ref T, .int (nI k)] h K := by
  refine st_X3_structureAt fun X o hG hD hf => ?_
  subst hG; subst hD
  obtain ⟨⟨a1, a2, a3, a4, a5⟩, ⟨b1, b2, b3, b4, b5, b6⟩, m1, m2, -⟩ := hm
  obtain ⟨⟨g1, g2, g3, g4', g5, g6⟩, ⟨p1, -⟩, -, dS, -⟩ := id hT
  unfold nst at hk
  obtain ⟨d1, d2, d3, d4⟩ := dS (32 + k - m.2.1.length) (by omega)
  have ix : IX (nI 32 + nI k - nI m.2.1.length) 64 (32 + k - m.2.1.length) := by rw [nI_add, nI_sub (by omega)]; exact IX.mk (by omega) (by omega)
  refine k_X3_structureAt_0 o (fun _ => ?_) (fun z => ?_)
  rotate_left
  · exact absurd ((nI_leI (by omega) (by omega)).mpr (by omega)) z
  refine k_X3_structureAt_17 o ?_
  refine k_X3_structureAt_31 o ?_
  rw [show T + 12 + 2 * (32 + k - m.2.1.length) = T + 76 + 2 * (k - m.2.1.length) by omega] at d2 ⊢
  exact kk d2
theorem modOf_ok {T k : Nat} {m : Md} (hT : STb h T) (hm : MX h T (mts m) (mcs m) m) (hk : k < nst m) (hd : 1 ≤ d) (kk : K (.returned (some (.int (nI (smd m k))))) h) : MW G d e_X1_moduleOf [.ref T, .int (nI k)] h K := by
  refine st_X1_moduleOf fun X o hG hD _ => ?_
  subst hG; subst hD
  have t0 := hT.1.1
  obtain ⟨⟨a1, a2, a3, a4, a5⟩, ⟨b1, b2, b3, b4, b5, b6⟩, m1, m2, -⟩ := id hm
  have hn : nst m = m.2.1.length + m.2.2.1.length := rfl
  by_cases c : k < m.2.1.length
  · have e : smd m k = m.1 := if_pos c
    rw [e] at kk
    refine k_X1_moduleOf_0 (r2 := a2) o (fun z => absurd ((nI_leI (by omega) (by omega)).mp z) (by omega)) (fun _ => ?_)
    refine k_X1_moduleOf_8 (r2 := a1) o ?_
    exact k_X1_moduleOf_23 o kk
  · obtain ⟨s, hs⟩ : ∃ s, m.2.2.1[k - m.2.1.length]? = some s := ⟨_, List.getElem?_eq_getElem (by omega)⟩
    have e : smd m k = s.1 := by unfold smd; rw [if_neg c, hs]
    rw [e] at kk
    refine k_X1_moduleOf_0 (r2 := a2) o (fun _ => ?_) (fun z => absurd ((nI_leI (by omega) (by omega)).mpr (by omega)) z)
    refine k_X1_moduleOf_15 o ?_
    refine saf_ok hT hm hk (by omega) fun tS => ?_
    refine k_X1_moduleOf_20 (r2 := (m2 _ s hs).1) o ?_
    exact k_X1_moduleOf_23 o kk
theorem nuOf_ok {T k : Nat} {m : Md} (hT : STb h T) (hm : MX h T (mts m) (mcs m) m) (hk : k < nst m) (hd : 1 ≤ d) (kk : K (.returned (some (.int (nI (snb m k))))) h) : MW G d e_X1_numberOf [.ref T, .int (nI k)] h K := by
  refine st_X1_numberOf fun X o hG hD _ => ?_
  subst hG; subst hD
  have t0 := hT.1.1
  obtain ⟨⟨a1, a2, a3, a4, a5⟩, ⟨b1, b2, b3, b4, b5, b6⟩, m1, m2, -⟩ := id hm
  have hn : nst m = m.2.1.length + m.2.2.1.length := rfl
  by_cases c : k < m.2.1.length
  · have e : snb m k = k := if_pos c
    rw [e] at kk
    refine k_X1_numberOf_0 (r2 := a2) o (fun z => absurd ((nI_leI (by omega) (by omega)).mp z) (by omega)) (fun _ => ?_)
    refine k_X1_numberOf_8 o ?_
    exact k_X1_numberOf_20 o kk
  · obtain ⟨s, hs⟩ : ∃ s, m.2.2.1[k - m.2.1.length]? = some s := ⟨_, List.getElem?_eq_getElem (by omega)⟩
    have e : snb m k = s.2.1 := by unfold snb; rw [if_neg c, hs]
    rw [e] at kk
    refine k_X1_numberOf_0 (r2 := a2) o (fun _ => ?_) (fun z => absurd ((nI_leI (by omega) (by omega)).mpr (by omega)) z)
    refine k_X1_numberOf_12 o ?_
    refine saf_ok hT hm hk (by omega) fun tS => ?_
    refine k_X1_numberOf_17 (r2 := (m2 _ s hs).2.1) o ?_
    exact k_X1_numberOf_20 o kk
/-- numbers of modules and structures are small -/
def smB (m : Md) : Prop := ∀ k, k < nst m → smd m k < 2147483648 ∧ snb m k < 2147483648
theorem isSame_ok2 {T T' : Nat} {m m' : Md} {t t' : Ty} (hT : STb h T) (hm : MX h T (mts m) (mcs m) m) (hT' : STb h T') (hm' : MX h T' (mts m') (mcs m') m') (gt : gT m t) (gt' : gT m' t') (hb : smB m) (hb' : smB m') (hd : 2 ≤ d) (kk : K (.returned (some (.int (bI (sty m t m' t'))))) h) : MW G d e_X1_isSameType [.ref T, .long (lN (tyc t)), .ref T', .long (lN (tyc t'))] h K := by
  refine st_X1_isSameType fun X o hG hD _ => ?_
  subst hG; subst hD
  have l1 := gt.ok.tv.1.lt63
  have l2 := gt'.ok.tv.1.lt63
  have s1 := sidx_n gt.1
  have s2 := sidx_n gt'.1
  have et : ∀ n, n < 9223372036854775808 → (((lN n >>> ((nI 8).toInt64 &&& 63)) &&& 255) = (6 : Int64) ↔ n / 256 % 256 = 6) := fun n hn => by
    have e : un (((lN n >>> ((nI 8).toInt64 &&& 63)) &&& 255)) = n / 256 % 256 := by rw [un_fld (m := 8) _ (by omega) (by omega) rfl, un_l (by omega)]
    exact ⟨fun z => by have := congrArg un z; rw [e] at this; exact this, fun z => un_inj (by rw [e, z]; rfl)⟩
  have eb : ∀ n, n < 9223372036854775808 → (lN n &&& (255 : Int64)).toInt32 = nI (n % 256) := fun n hn => by
    have : (lN n &&& (255 : Int64)) = lN (n % 256) := un_inj (by rw [un_and, un_l (by omega), un_l (by omega), show un (255 : Int64) = 2 ^ 8 - 1 from rfl, Nat.and_two_pow_sub_one_eq_mod])
    rw [this, n32_l (by omega)]
  have es : ∀ n, n < 9223372036854775808 → un (lN n >>> ((nI 8).toInt64 &&& 63)) = n / 256 := fun n hn => by
    rw [un_shr _ (by omega) (by rw [un_l (by omega)]; exact hn), un_l (by omega), Nat.shiftRight_eq_div_pow]
  -- behind the two tests
  have p45 : ∀ (b b' : Bool), (b = true ↔ tyc t / 256 % 256 = 6) → (b' = true ↔ tyc t' / 256 % 256 = 6) → ∀ l7 l8, V X K 45 [.ref T, .long (lN (tyc t)), nov, .ref T', .long (lN (tyc t')), nov, .int (bI b), l7, l8] [.int (bI b'), .int (bI b)] h := fun b b' e1 e2 l7 l8 => by
    refine k_X1_isSameType_45 o (fun c => ?_) (fun c => ?_)
    · have hbb : b = b' := by
        cases b with
        | true => exact (bI_1.mp (show bI b' = 1 from c.symm)).symm
        | false => exact (bI_0.mp (show bI b' = 0 from c.symm)).symm
      subst hbb
      cases b with
      | false =>
        have n1 : ¬ tyc t / 256 % 256 = 6 := fun z => by have := e1.mpr z; cases this
        have n2 : ¬ tyc t' / 256 % 256 = 6 := fun z => by have := e2.mpr z; cases this
        rw [if_neg n1] at s1
        rw [if_neg n2] at s2
        have ev : sty m t m' t' = decide (tyc t = tyc t') := by unfold sty; rw [s1, s2]
        rw [ev] at kk
        have eq : lN (tyc t) = lN (tyc t') ↔ tyc t = tyc t' := ⟨fun z => by have := congrArg un z; rwa [un_l (by omega), un_l (by omega)] at this, fun z => by rw [z]⟩
        refine k_X1_isSameType_50 o (fun z => absurd rfl z) (fun _ => ?_)
        refine k_X1_isSameType_55 o (fun z => ?_) (fun z => ?_)
        · refine k_X1_isSameType_66 o ?_
          rw [decide_eq_false (fun q => z (eq.mpr q))] at kk
          exact k_X1_isSameType_67 o kk
        · refine k_X1_isSameType_62 o ?_
          rw [decide_eq_true (eq.mp z)] at kk
          exact k_X1_isSameType_67 o kk
      | true =>
        have n1 := e1.mp rfl
        have n2 := e2.mp rfl
        rw [if_pos n1] at s1
        rw [if_pos n2] at s2
        have k1 := gt.2.2 _ s1
        have k2 := gt'.2.2 _ s2
        obtain ⟨v1, v2⟩ := hb _ k1
        obtain ⟨v3, v4⟩ := hb' _ k2
        have ev : sty m t m' t' = (decide (tyc t / 256 = tyc t' / 256) && (decide (smd m (tyc t % 256) = smd m' (tyc t' % 256)) && decide (snb m (tyc t % 256) = snb m' (tyc t' % 256)))) := by unfold sty; rw [s1, s2]
        rw [ev] at kk
        have eq : (lN (tyc t) >>> ((nI 8).toInt64 &&& 63)) = (lN (tyc t') >>> ((nI 8).toInt64 &&& 63)) ↔ tyc t / 256 = tyc t' / 256 := ⟨fun z => by have := congrArg un z; rwa [es _ l1, es _ l2] at this, fun z => un_inj (by rw [es _ l1, es _ l2, z])⟩
        refine k_X1_isSameType_50 o (fun _ => ?_) (fun z => absurd z (by decide))
        have no : ∀ l7 l8, (decide (tyc t / 256 = tyc t' / 256) && (decide (smd m (tyc t % 256) = smd m' (tyc t' % 256)) && decide (snb m (tyc t % 256) = snb m' (tyc t' % 256)))) = false → V X K 132 [.ref T, .long (lN (tyc t)), nov, .ref T', .long (lN (tyc t')), nov, .int (bI true), l7, l8] [] h := fun l7 l8 z => by
          rw [z] at kk
          refine k_X1_isSameType_132 o ?_
          exact k_X1_isSameType_133 o kk
        refine k_X1_isSameType_68 o (fun z => ?_) (fun z => ?_)
        · exact no _ _ (by rw [decide_eq_false (fun q => z (eq.mpr q))]; rfl)
        rw [eb _ l1, eb _ l2]
        refine k_X1_isSameType_98 o ?_
        refine modOf_ok hT hm k1 (by omega) ?_
        refine k_X1_isSameType_104 o ?_
        refine modOf_ok hT' hm' k2 (by omega) ?_
        refine k_X1_isSameType_110 o (fun z2 => ?_) (fun z2 => ?_)
        · exact no _ _ (by rw [decide_eq_false (p := smd m (tyc t % 256) = smd m' (tyc t' % 256)) (fun q => z2 (by rw [q]))]; simp)
        refine k_X1_isSameType_113 o ?_
        refine nuOf_ok hT hm k1 (by omega) ?_
        refine k_X1_isSameType_119 o ?_
        refine nuOf_ok hT' hm' k2 (by omega) ?_
        refine k_X1_isSameType_125 o (fun z3 => ?_) (fun z3 => ?_)
        · exact no _ _ (by rw [decide_eq_false (p := snb m (tyc t % 256) = snb m' (tyc t' % 256)) (fun q => z3 (by rw [q]))]; simp)
        refine k_X1_isSameType_128 o ?_
        rw [decide_eq_true (eq.mp z), decide_eq_true ((nI_eq (by omega) (by omega)).mp z2), decide_eq_true ((nI_eq (by omega) (by omega)).mp z3)] at kk
        exact k_X1_isSameType_133 o kk
    · refine k_X1_isSameType_48 o ?_
      have ev : sty m t m' t' = false := by
        unfold sty
        rw [s1, s2]
        cases b with
        | true =>
          cases b' with
          | true => exact absurd rfl c
          | false => rw [if_pos (e1.mp rfl), if_neg (fun z => by have := e2.mpr z; cases this)]
        | false =>
          cases b' with
          | true => rw [if_neg (fun z => by have := e1.mpr z; cases this), if_pos (e2.mp rfl)]
          | false => exact absurd rfl c
      rw [ev] at kk
      exact kk
  have p20 : ∀ (b : Bool), (b = true ↔ tyc t / 256 % 256 = 6) → ∀ l6 l7 l8, V X K 20 [.ref T, .long (lN (tyc t)), nov, .ref T', .long (lN (tyc t')), nov, l6, l7, l8] [.int (bI b)] h := fun b e1 l6 l7 l8 => by
    refine k_X1_isSameType_20 o (fun z => ?_) (fun z => ?_)
    · refine k_X1_isSameType_44 o ?_
      exact p45 b false e1 ⟨fun q => by (cases q), fun q => absurd ((et _ l2).mpr q) z⟩ _ _
    · refine k_X1_isSameType_40 o ?_
      exact p45 b true e1 ⟨fun _ => (et _ l2).mp z, fun _ => rfl⟩ _ _
  refine k_X1_isSameType_0 o (fun z => ?_) (fun z => ?_)
  · refine k_X1_isSameType_19 o ?_
    exact p20 false ⟨fun q => by (cases q), fun q => absurd ((et _ l1).mpr q) z⟩ _ _ _
  · refine k_X1_isSameType_15 o ?_
    exact p20 true ⟨fun _ => (et _ l1).mp z, fun _ => rfl⟩ _ _ _
end
