/-! the root: the order of places -/
def pcl (p q : Pc) : Bool := if p.1 = q.1 then (if p.2.1 = q.2.1 then decide (p.2.2 < q.2.2) else decide (un p.2.1 < un q.2.1)) else decide (p.1 < q.1)
theorem pcl_i {p q : Pc} : pcl p q = true ↔ p.1 < q.1 ∨ (p.1 = q.1 ∧ (un p.2.1 < un q.2.1 ∨ (un p.2.1 = un q.2.1 ∧ p.2.2 < q.2.2))) := by
  unfold pcl
  by_cases c : p.1 = q.1
  · rw [if_pos c]
    by_cases c2 : p.2.1 = q.2.1
    · rw [if_pos c2, decide_eq_true_iff, c2]
      exact ⟨fun h => Or.inr ⟨c, Or.inr ⟨rfl, h⟩⟩, fun h => by omega⟩
    · have c3 : un p.2.1 ≠ un q.2.1 := fun z => c2 (un_inj z)
      rw [if_neg c2, decide_eq_true_iff]
      exact ⟨fun h => Or.inr ⟨c, Or.inl h⟩, fun h => by omega⟩
  · rw [if_neg c, decide_eq_true_iff]
    exact ⟨Or.inl, fun h => by omega⟩
theorem pcl_irr {p : Pc} : ¬ pcl p p = true := fun h => by rw [pcl_i] at h; omega
theorem pcl_tr {p q r : Pc} (h1 : pcl p q = true) (h2 : pcl q r = true) : pcl p r = true := by rw [pcl_i] at *; omega
theorem pcl_or {p q : Pc} (h : p ≠ q) : pcl p q = true ∨ pcl q p = true := by
  rw [pcl_i, pcl_i]
  by_cases c : p.1 = q.1 ∧ un p.2.1 = un q.2.1 ∧ p.2.2 = q.2.2
  · exfalso
    apply h
    obtain ⟨p1, p2, p3⟩ := p
    obtain ⟨q1, q2, q3⟩ := q
    obtain ⟨c1, c2, c3⟩ := c
    have c1 : p1 = q1 := c1
    have c2 := un_inj c2
    have c2 : p2 = q2 := c2
    have c3 : p3 = q3 := c3
    rw [c1, c2, c3]
  · omega
/-- what is planted, one behind the other: the latest has the word -/
def plA (E : List (F4 × F4)) (e : F4 × F4) : List (F4 × F4) := e :: E.filter fun z => decide (z.1 ≠ e.1)
/-- a root of places with their keys and values: the least place of a key counts -/
def RTS (S : List (Pc × F4 × F4)) (r : F4) : Prop := ∃ E : List (F4 × F4), (E.map Prod.fst).Nodup ∧ (∀ e, e ∈ E ↔ ∃ p, (p, e) ∈ S ∧ ∀ p' e', (p', e') ∈ S → e'.1 = e.1 → ¬ pcl p' p = true) ∧ r = Rt 256 E
theorem perm_nd {α : Type} [BEq α] [LawfulBEq α] : ∀ {l l' : List α}, l.Nodup → l'.Nodup → (∀ a, a ∈ l ↔ a ∈ l') → l.Perm l'
  | [], l', _, _, h => by
    cases l' with
    | nil => exact List.Perm.nil
    | cons b l' => exact absurd ((h b).mpr (List.mem_cons_self ..)) (by simp)
  | a :: l, l', hn, hn', h => by
    rw [List.nodup_cons] at hn
    have ha := (h a).mp (List.mem_cons_self ..)
    refine List.Perm.trans (List.Perm.cons a ?_) (List.perm_cons_erase ha).symm
    refine perm_nd hn.2 (hn'.erase a) fun b => ?_
    rw [hn'.mem_erase_iff, ← h b, List.mem_cons]
    constructor
    · intro hb
      exact ⟨fun e => hn.1 (e ▸ hb), Or.inr hb⟩
    · rintro ⟨h1, h2⟩
      exact h2.resolve_left h1
theorem RTS.uniq {S S' : List (Pc × F4 × F4)} {r r' : F4} (h : RTS S r) (h' : RTS S' r') (e : ∀ x, x ∈ S ↔ x ∈ S') : r = r' := by
  obtain ⟨E, n1, m1, r1⟩ := h
  obtain ⟨E', n2, m2, r2⟩ := h'
  have nd : ∀ {E : List (F4 × F4)}, (E.map Prod.fst).Nodup → E.Nodup := fun {E} hn => by
    induction E with
    | nil => exact List.nodup_nil
    | cons a l ih =>
      rw [List.map_cons, List.nodup_cons] at hn
      rw [List.nodup_cons]
      exact ⟨fun z => hn.1 (List.mem_map.mpr ⟨a, z, rfl⟩), ih hn.2⟩
  rw [r1, r2]
  refine Rt_perm 256 (perm_nd (nd n1) (nd n2) fun x => ?_)
  rw [m1, m2]
  constructor
  · rintro ⟨p, h1, h2⟩
    exact ⟨p, (e _).mp h1, fun p' e' hp => h2 p' e' ((e _).mpr hp)⟩
  · rintro ⟨p, h1, h2⟩
    exact ⟨p, (e _).mpr h1, fun p' e' hp => h2 p' e' ((e _).mp hp)⟩
/-- places from the greatest on -/
theorem plA_s : ∀ (L : List (Pc × F4 × F4)), L.Pairwise (fun x y => pcl y.1 x.1 = true) → ((L.foldl (fun E x => plA E x.2) []).map Prod.fst).Nodup ∧ ∀ e, e ∈ L.foldl (fun E x => plA E x.2) [] ↔ ∃ p, (p, e) ∈ L ∧ ∀ p' e', (p', e') ∈ L → e'.1 = e.1 → ¬ pcl p' p = true := fun L => by
  generalize hn : L.length = n
  induction n generalizing L with
  | zero =>
    intro _
    have : L = [] := List.length_eq_zero_iff.mp hn
    subst this
    exact ⟨List.nodup_nil, fun e => ⟨fun h => by simp at h, fun ⟨p, h, _⟩ => by simp at h⟩⟩
  | succ n ih =>
    intro hp
    have hne : L ≠ [] := fun z => by rw [z] at hn; simp at hn
    obtain ⟨L', x, rfl⟩ : ∃ L' x, L = L' ++ [x] := ⟨L.dropLast, L.getLast hne, (List.dropLast_concat_getLast hne).symm⟩
    rw [List.pairwise_append] at hp
    obtain ⟨hp1, -, hp3⟩ := hp
    have hl : L'.length = n := by rw [List.length_append] at hn; simp only [List.length_cons, List.length_nil] at hn; omega
    obtain ⟨i1, i2⟩ := ih L' hl hp1
    rw [List.foldl_append, List.foldl_cons, List.foldl_nil]
    generalize L'.foldl (fun E x => plA E x.2) [] = E at i1 i2
    have hx : ∀ y ∈ L', pcl x.1 y.1 = true := fun y hy => hp3 y hy x (List.mem_singleton.mpr rfl)
    refine ⟨?_, fun e => ?_⟩
    · show ((x.2 :: E.filter fun z => decide (z.1 ≠ x.2.1)).map Prod.fst).Nodup
      rw [List.map_cons, List.nodup_cons]
      refine ⟨fun z => ?_, ?_⟩
      · obtain ⟨w, w1, w2⟩ := List.mem_map.mp z
        have := (List.mem_filter.mp w1).2
        exact absurd w2 (of_decide_eq_true this)
      · exact List.Nodup.sublist (List.Sublist.map _ List.filter_sublist) i1
    · show e ∈ x.2 :: E.filter (fun z => decide (z.1 ≠ x.2.1)) ↔ _
      rw [List.mem_cons, List.mem_filter, i2 e]
      constructor
      · rintro (he | ⟨⟨p, h1, h2⟩, h3⟩)
        · refine ⟨x.1, ?_, fun p' e' hp' _ hlt => ?_⟩
          · rw [he]; exact List.mem_append_right _ (List.mem_singleton.mpr rfl)
          · rcases List.mem_append.mp hp' with z | z
            · exact pcl_irr (pcl_tr (hx _ z) hlt)
            · rw [List.mem_singleton] at z
              rw [← z] at hlt
              exact pcl_irr hlt
        · refine ⟨p, List.mem_append_left _ h1, fun p' e' hp' hk => ?_⟩
          rcases List.mem_append.mp hp' with z | z
          · exact h2 p' e' z hk
          · rw [List.mem_singleton] at z
            rw [← z] at h3
            exact absurd hk.symm (of_decide_eq_true h3)
      · rintro ⟨p, h1, h2⟩
        rcases List.mem_append.mp h1 with z | z
        · by_cases ck : e.1 = x.2.1
          · exact absurd (hx _ z) (h2 x.1 x.2 (List.mem_append_right _ (List.mem_singleton.mpr rfl)) ck.symm)
          · exact Or.inr ⟨⟨p, z, fun p' e' hp' => h2 p' e' (List.mem_append_left _ hp')⟩, decide_eq_true ck⟩
        · rw [List.mem_singleton] at z
          exact Or.inl (by rw [← z])
section
variable {G : Gt} {d : Nat} {h : AH} {K : Outcome → AH → Prop}
theorem lless_ok {EA EB : Nat} {p q : Pc} (tA : h.tag EA = some (9, 0)) (tB : h.tag EB = some (9, 0)) (hA : h.I 1152 EA = nI p.1 ∧ h.J 1153 EA = p.2.1 ∧ h.I 1154 EA = nI p.2.2) (hB : h.I 1152 EB = nI q.1 ∧ h.J 1153 EB = q.2.1 ∧ h.I 1154 EB = nI q.2.2) (pp : PB p) (pq : PB q) (hd : 2 ≤ d) (kk : K (.returned (some (.int (bI (pcl p q))))) h) : MW G d e_X1_isLess [.ref EA, .ref EB] h K := by
  refine st_X1_isLess fun X o hG hD _ => ?_
  subst hG; subst hD
  obtain ⟨a1, a2, a3⟩ := hA
  obtain ⟨b1, b2, b3⟩ := hB
  obtain ⟨pp1, pp2⟩ := pp
  obtain ⟨pq1, pq2⟩ := pq
  unfold pcl at kk
  by_cases c1 : p.1 = q.1
  · rw [if_pos c1] at kk
    refine k_X1_isLess_0 (r2 := a1) (r5 := b1) o (fun _ => ?_) (fun z => absurd (by rw [c1]) z)
    by_cases c2 : p.2.1 = q.2.1
    · rw [if_pos c2] at kk
      refine k_X1_isLess_28 (r2 := a2) (r5 := b2) o (fun _ => ?_) (fun z => absurd c2 z)
      by_cases c3 : p.2.2 < q.2.2
      · rw [decide_eq_true c3] at kk
        refine k_X1_isLess_62 (r2 := a3) (r5 := b3) o (fun z => absurd ((nI_leI (by omega) (by omega)).mp z) (by omega)) (fun _ => ?_)
        refine k_X1_isLess_73 o ?_
        exact k_X1_isLess_78 o kk
      · rw [decide_eq_false c3] at kk
        refine k_X1_isLess_62 (r2 := a3) (r5 := b3) o (fun _ => ?_) (fun z => absurd ((nI_leI (by omega) (by omega)).mpr (by omega)) z)
        refine k_X1_isLess_77 o ?_
        exact k_X1_isLess_78 o kk
    · rw [if_neg c2] at kk
      refine k_X1_isLess_28 (r2 := a2) (r5 := b2) o (fun z => absurd z c2) (fun _ => ?_)
      refine k_X1_isLess_40 (r2 := a2) (r5 := b2) o ?_
      refine compareU_ok (by omega) ?_
      by_cases c3 : un p.2.1 < un q.2.1
      · rw [decide_eq_true c3] at kk
        have e : cmu p.2.1 q.2.1 = -1 := by unfold cmu; rw [if_pos c3]
        rw [e]
        refine k_X1_isLess_51 o (fun z => absurd z (by decide)) (fun _ => ?_)
        refine k_X1_isLess_54 o ?_
        exact k_X1_isLess_78 o kk
      · rw [decide_eq_false c3] at kk
        have e : cmu p.2.1 q.2.1 = 1 := by
          unfold cmu
          rw [if_neg c3, if_neg (fun z => c2 (un_inj z))]
          rfl
        rw [e]
        refine k_X1_isLess_51 o (fun _ => ?_) (fun z => absurd (by decide) z)
        refine k_X1_isLess_58 o ?_
        exact k_X1_isLess_78 o kk
  · rw [if_neg c1] at kk
    refine k_X1_isLess_0 (r2 := a1) (r5 := b1) o (fun z => absurd ((nI_eq (by omega) (by omega)).mp z) c1) (fun _ => ?_)
    by_cases c3 : p.1 < q.1
    · rw [decide_eq_true c3] at kk
      refine k_X1_isLess_11 (r2 := a1) (r5 := b1) o (fun z => absurd ((nI_leI (by omega) (by omega)).mp z) (by omega)) (fun _ => ?_)
      refine k_X1_isLess_22 o ?_
      exact k_X1_isLess_27 o kk
    · rw [decide_eq_false c3] at kk
      refine k_X1_isLess_11 (r2 := a1) (r5 := b1) o (fun _ => ?_) (fun z => absurd ((nI_leI (by omega) (by omega)).mpr (by omega)) z)
      refine k_X1_isLess_26 o ?_
      exact k_X1_isLess_27 o kk
end
