/-! whether a function is what another module takes it for -/
def stl (m : Md) (l : TL) (m' : Md) (l' : TL) : Bool := (l.zip l').all fun p => sty m p.1.1 m' p.2.1
def slk (m : Md) (f : Cx) (m' : Md) (g : Ux) : Bool := (decide (g.1 &&& 1 = 1) && (decide (f.2.2.1 &&& 4 = g.1 &&& 4) && (decide (f.2.2.2.1.length = g.2.1.length) && decide (f.2.2.2.2.length = g.2.2.1.length)))) && (stl m f.2.2.2.1 m' g.2.1 && stl m f.2.2.2.2 m' g.2.2.1)
theorem stl_i {m m' : Md} {l l' : TL} (hl : l.length = l'.length) : stl m l m' l' = true ↔ ∀ (i : Nat) (x y : Ty × Nat), l[i]? = some x → l'[i]? = some y → sty m x.1 m' y.1 = true := by
  unfold stl
  rw [List.all_eq_true]
  refine ⟨fun h i x y hx hy => ?_, fun h p hp => ?_⟩
  · refine h (x, y) (List.mem_of_getElem? (i := i) ?_)
    rw [List.getElem?_zip_eq_some]
    exact ⟨hx, hy⟩
  · obtain ⟨i, hi, ei⟩ := List.mem_iff_getElem.mp hp
    have hz : (l.zip l')[i]? = some p := by rw [List.getElem?_eq_getElem hi, ei]
    rw [List.getElem?_zip_eq_some] at hz
    exact h i p.1 p.2 hz.1 hz.2
section
variable {G : Gt} {d : Nat} {h : AH} {K : Outcome → AH → Prop}
theorem like_69 {X : Xt} (o : OK e_X1_isLike X) {M M' F F' : Nat} {m m' : Md} {l l' : TL} (md : MDR h M m) (md' : MDR h M' m') (tF : h.tag F = some (7, 0)) (tF' : h.tag F' = some (7, 0)) (rF : h.R 897 F = some (F + 1)) (rF' : h.R 897 F' = some (F' + 1)) (tS : h.tag (F + 1) = some (4, 0)) (tS' : h.tag (F' + 1) = some (4, 0)) (sp : SP h (F + 1) (mts m) l) (sp' : SP h (F' + 1) (mts m') l') (hl : l.length = l'.length) (h8 : l.length ≤ 100) (tl : (mts m).length ≤ 2048) (tl' : (mts m').length ≤ 2048) (gt : ∀ x ∈ l, gT m x.1) (gt' : ∀ x ∈ l', gT m' x.1) (hb : smB m) (hb' : smB m') (hd : 3 ≤ X.d) (kk : ∀ v5, V X K 137 [.ref M, .ref F, .ref M', .ref F', .int (bI (stl m l m' l')), v5] [] h) : ∀ (r i : Nat), r + i = l.length → (∀ (j : Nat) (x y : Ty × Nat), j < i → l[j]? = some x → l'[j]? = some y → sty m x.1 m' y.1 = true) → V X K 69 [.ref M, .ref F, .ref M', .ref F', .int (nI 1), .int (nI i)] [] h := by
  obtain ⟨⟨tM, rT⟩, sT, ty, -, mx⟩ := id md
  obtain ⟨⟨tM', rT'⟩, sT', ty', -, mx'⟩ := id md'
  obtain ⟨⟨g1, g2, g3, g4', g5, g6⟩, -⟩ := id sT
  obtain ⟨⟨g1', g2', g3', g4'', g5', g6'⟩, -⟩ := id sT'
  obtain ⟨pre, post, p1, p2, p3⟩ := id sp
  have no : ∀ i, stl m l m' l' = false → V X K 69 [.ref M, .ref F, .ref M', .ref F', .int (nI 0), .int (nI i)] [] h := fun i hf => by
    have k0 := kk (.int (nI i))
    rw [hf] at k0
    refine k_X1_isLike_69 (r5 := p3) o (fun _ => k0) (fun _ => ?_)
    exact k_X1_isLike_81 o (fun _ => k0) (fun c => absurd rfl c)
  intro r
  induction r with
  | zero =>
    intro i hi hj
    have k0 := kk (.int (nI i))
    rw [(stl_i hl).mpr (fun j x y hx hy => hj j x y (by have := get_lt hx; omega) hx hy)] at k0
    exact k_X1_isLike_69 (r5 := p3) o (fun _ => k0) (fun c => absurd ((nI_leI (by omega) (by omega)).mpr (by omega)) c)
  | succ r ih =>
    intro i hi hj
    obtain ⟨x, hx⟩ : ∃ x, l[i]? = some x := ⟨_, List.getElem?_eq_getElem (by omega)⟩
    obtain ⟨y, hy⟩ : ∃ y, l'[i]? = some y := ⟨_, List.getElem?_eq_getElem (by omega)⟩
    refine k_X1_isLike_69 (r5 := p3) o (fun c => absurd ((nI_leI (by omega) (by omega)).mp c) (by omega)) (fun _ => ?_)
    refine k_X1_isLike_81 o (fun c => absurd c (by decide)) (fun _ => ?_)
    refine k_X1_isLike_86 (x3 := some (M + 1)) (r2 := rT) o ?_
    refine spget_ok (T := M + 1) tS sT ty tl sp (by omega) ?_
    rw [hx]
    refine k_X1_isLike_106 (x3 := some (M' + 1)) (r2 := rT') o ?_
    refine spget_ok (T := M' + 1) tS' sT' ty' tl' sp' (by omega) ?_
    rw [hy]
    refine k_X1_isLike_126 o ?_
    refine isSame_ok2 (t := x.1) (t' := y.1) sT mx sT' mx' (gt x (List.mem_of_getElem? hx)) (gt' y (List.mem_of_getElem? hy)) hb hb' (by omega) ?_
    refine k_X1_isLike_129 o ?_
    rw [nI_add]
    cases hs : sty m x.1 m' y.1 with
    | true =>
      refine ih (i + 1) (by omega) fun j x' y' hj' hx' hy' => ?_
      by_cases e : j = i
      · subst e
        rw [hx] at hx'
        rw [hy] at hy'
        cases hx'
        cases hy'
        exact hs
      · exact hj j x' y' (by omega) hx' hy'
    | false =>
      refine no (i + 1) ?_
      rw [Bool.eq_false_iff]
      intro q
      have := (stl_i hl).mp q i x y hx hy
      rw [hs] at this; cases this
theorem like_140 {X : Xt} (o : OK e_X1_isLike X) {M M' F F' : Nat} {m m' : Md} {l l' : TL} (md : MDR h M m) (md' : MDR h M' m') (tF : h.tag F = some (7, 0)) (tF' : h.tag F' = some (7, 0)) (rF : h.R 898 F = some (F + 2)) (rF' : h.R 898 F' = some (F' + 2)) (tS : h.tag (F + 2) = some (4, 0)) (tS' : h.tag (F' + 2) = some (4, 0)) (sp : SP h (F + 2) (mts m) l) (sp' : SP h (F' + 2) (mts m') l') (hl : l.length = l'.length) (h8 : l.length ≤ 100) (tl : (mts m).length ≤ 2048) (tl' : (mts m').length ≤ 2048) (gt : ∀ x ∈ l, gT m x.1) (gt' : ∀ x ∈ l', gT m' x.1) (hb : smB m) (hb' : smB m') (hd : 3 ≤ X.d) (kk : K (.returned (some (.int (bI (stl m l m' l'))))) h) : ∀ (r i : Nat), r + i = l.length → (∀ (j : Nat) (x y : Ty × Nat), j < i → l[j]? = some x → l'[j]? = some y → sty m x.1 m' y.1 = true) → V X K 140 [.ref M, .ref F, .ref M', .ref F', .int (nI 1), .int (nI i)] [] h := by
  obtain ⟨⟨tM, rT⟩, sT, ty, -, mx⟩ := id md
  obtain ⟨⟨tM', rT'⟩, sT', ty', -, mx'⟩ := id md'
  obtain ⟨⟨g1, g2, g3, g4', g5, g6⟩, -⟩ := id sT
  obtain ⟨⟨g1', g2', g3', g4'', g5', g6'⟩, -⟩ := id sT'
  obtain ⟨pre, post, p1, p2, p3⟩ := id sp
  have no : ∀ i, stl m l m' l' = false → V X K 140 [.ref M, .ref F, .ref M', .ref F', .int (nI 0), .int (nI i)] [] h := fun i hf => by
    rw [hf] at kk
    refine k_X1_isLike_140 (r5 := p3) o (fun _ => k_X1_isLike_208 o kk) (fun _ => ?_)
    exact k_X1_isLike_152 o (fun _ => k_X1_isLike_208 o kk) (fun c => absurd rfl c)
  intro r
  induction r with
  | zero =>
    intro i hi hj
    rw [(stl_i hl).mpr (fun j x y hx hy => hj j x y (by have := get_lt hx; omega) hx hy)] at kk
    exact k_X1_isLike_140 (r5 := p3) o (fun _ => k_X1_isLike_208 o kk) (fun c => absurd ((nI_leI (by omega) (by omega)).mpr (by omega)) c)
  | succ r ih =>
    intro i hi hj
    obtain ⟨x, hx⟩ : ∃ x, l[i]? = some x := ⟨_, List.getElem?_eq_getElem (by omega)⟩
    obtain ⟨y, hy⟩ : ∃ y, l'[i]? = some y := ⟨_, List.getElem?_eq_getElem (by omega)⟩
    refine k_X1_isLike_140 (r5 := p3) o (fun c => absurd ((nI_leI (by omega) (by omega)).mp c) (by omega)) (fun _ => ?_)
    refine k_X1_isLike_152 o (fun c => absurd c (by decide)) (fun _ => ?_)
    refine k_X1_isLike_157 (x3 := some (M + 1)) (r2 := rT) o ?_
    refine spget_ok (T := M + 1) tS sT ty tl sp (by omega) ?_
    rw [hx]
    refine k_X1_isLike_177 (x3 := some (M' + 1)) (r2 := rT') o ?_
    refine spget_ok (T := M' + 1) tS' sT' ty' tl' sp' (by omega) ?_
    rw [hy]
    refine k_X1_isLike_197 o ?_
    refine isSame_ok2 (t := x.1) (t' := y.1) sT mx sT' mx' (gt x (List.mem_of_getElem? hx)) (gt' y (List.mem_of_getElem? hy)) hb hb' (by omega) ?_
    refine k_X1_isLike_200 o ?_
    rw [nI_add]
    cases hs : sty m x.1 m' y.1 with
    | true =>
      refine ih (i + 1) (by omega) fun j x' y' hj' hx' hy' => ?_
      by_cases e : j = i
      · subst e
        rw [hx] at hx'
        rw [hy] at hy'
        cases hx'
        cases hy'
        exact hs
      · exact hj j x' y' (by omega) hx' hy'
    | false =>
      refine no (i + 1) ?_
      rw [Bool.eq_false_iff]
      intro q
      have := (stl_i hl).mp q i x y hx hy
      rw [hs] at this; cases this
end
