/-! how deep values are -/
def tdp (D : Nat → Nat) : List Nat → Nat
  | [] => 1
  | b :: t => if b = 7 then 1 + tdp D t else if b = 6 then D (t.headD 0) else 1
/-- depths of structures -/
def DW (W : Wd) (D : Nat → Nat) : Prop := (∀ i, 1 ≤ D i ∧ D i ≤ 24) ∧ ∀ i, ∀ T ∈ fdi W i, tdp D T + 1 ≤ D i
section
variable {W : Wd} {D : Nat → Nat}
theorem tdp_1 (hD : DW W D) (T : List Nat) : 1 ≤ tdp D T := by
  cases T with
  | nil => exact Nat.le_refl _
  | cons b t =>
    show 1 ≤ if b = 7 then 1 + tdp D t else if b = 6 then D (t.headD 0) else 1
    split
    · omega
    · split
      · exact (hD.1 _).1
      · omega
theorem tdp_len (hD : DW W D) : ∀ T : List Nat, tdp D T ≤ T.length + 24
  | [] => by show 1 ≤ _; omega
  | b :: t => by
    show (if b = 7 then 1 + tdp D t else if b = 6 then D (t.headD 0) else 1) ≤ (b :: t).length + 24
    have := tdp_len hD t
    rw [List.length_cons]
    split
    · omega
    · split
      · have := (hD.1 (t.headD 0)).2; omega
      · omega
theorem tdp_exs (hD : DW W D) {T U : List Nat} {n : Nat} (hU : U ∈ exs W T n) : tdp D U + 1 ≤ tdp D T := by
  unfold exs at hU
  split at hU
  · simp at hU
  · rename_i i
    have : tdp D [6, i] = D i := by
      show (if 6 = 7 then _ else if 6 = 6 then D ([i].headD 0) else 1) = _
      rw [if_neg (by decide), if_pos rfl]; rfl
    rw [this]
    exact hD.2 i U hU
  · rename_i t _ _
    have := (List.mem_replicate.mp hU).2
    subst this
    show _ ≤ if 7 = 7 then 1 + tdp D U else _
    rw [if_pos rfl]; omega
  · simp at hU
theorem FT_dp (hD : DW W D) : ∀ {c : Fo} {l : List (List Nat)} {n : Nat}, FT W c l → (∀ T ∈ l, tdp D T ≤ n) → fdp c ≤ n
  | .leaf, l, n, _, _ => by show 0 ≤ n; omega
  | .inner k x u c nx, l, n, h, hn => by
    cases l with
    | nil => exact h.elim
    | cons T l =>
      obtain ⟨h1, h2, h3⟩ := h
      have a := FT_dp hD (n := tdp D T - 1) h2 (fun U hU => by have := tdp_exs hD hU; omega)
      have b := FT_dp hD h3 (fun U hU => hn U (List.mem_cons_of_mem _ hU))
      have c1 := hn T List.mem_cons_self
      have c2 := tdp_1 hD T
      show max (1 + fdp c) (fdp nx) ≤ n
      omega
theorem VT.css {T : List Nat} {v : VL} (h : VT W T v) : (∃ b, T = [b] ∧ v.1 = b ∧ fln v.2.2 = 0 ∧ (1 ≤ b ∧ b ≤ 5) ∧ rng b v.2.1) ∨ (∃ i, T = [6, i] ∧ v.1 = 6 ∧ fln v.2.2 = (fdi W i).length) ∨ ∃ t, T = 7 :: t ∧ v.1 = 7 ∧ fln v.2.2 ≤ 256 ∧ t.length ≤ 7 := by
  obtain ⟨h1, h2, -⟩ := VT_iff.mp h
  unfold hdk at h1
  split at h1
  · rename_i b
    exact Or.inl ⟨b, rfl, h1.1, h1.2.1, h1.2.2.1, h1.2.2.2⟩
  · rename_i i
    refine Or.inr (Or.inl ⟨i, rfl, h1.1, ?_⟩)
    rw [← flo_len, h2]; rfl
  · exact Or.inr (Or.inr ⟨_, rfl, h1.1, h1.2.2.1, h1.2.2.2⟩)
  · exact h1.elim
theorem VT.tln {T : List Nat} {v : VL} (h : VT W T v) : T.length ≤ 8 := by
  rcases h.css with ⟨b, e, -⟩ | ⟨i, e, -⟩ | ⟨t, e, -, -, h4⟩
  · rw [e]; show 1 ≤ 8; omega
  · rw [e]; show 2 ≤ 8; omega
  · rw [e, List.length_cons]; omega
theorem VT.dp (hD : DW W D) {T : List Nat} {v : VL} (h : VT W T v) : fdp v.2.2 ≤ 31 := by
  have a := FT_dp hD (n := tdp D T - 1) h.2 (fun U hU => by have := tdp_exs hD hU; omega)
  have b := tdp_len hD T
  have c := h.tln
  omega
theorem WV.fdn (hW : WV W) (i : Nat) : (fdi W i).length ≤ 16 := by
  unfold fdi
  cases hm : W (i / 256) with
  | none => show 1 ≤ 16; omega
  | some m =>
    show (if i % 256 < m.2.1.length then (fdl m (i % 256)).map (rty m) else [[]]).length ≤ 16
    split
    case isFalse => show 1 ≤ 16; omega
    rw [List.length_map]
    unfold fdl
    cases hs : m.2.1[i % 256]? with
    | none => show 0 ≤ 16; omega
    | some s =>
      show (s.2.2.map Prod.fst).length ≤ 16
      rw [List.length_map]
      exact ((hW.2 _ _ hm).2.1.2.1 s (List.mem_of_getElem? hs)).1
theorem VT.ln (hW : WV W) {T : List Nat} {v : VL} (h : VT W T v) : v.1 < 8 ∧ fln v.2.2 ≤ 256 := by
  rcases h.css with ⟨b, e, h2, h3, h4, -⟩ | ⟨i, e, h2, h3⟩ | ⟨t, e, h2, h3, h4⟩
  · exact ⟨by omega, by omega⟩
  · have := hW.fdn i; exact ⟨by omega, by omega⟩
  · exact ⟨by omega, by omega⟩
theorem FT_bd (hW : WV W) : ∀ {c : Fo} {l : List (List Nat)}, FT W c l → fbd c
  | .leaf, l, _ => trivial
  | .inner k x u c nx, l, h => by
    cases l with
    | nil => exact h.elim
    | cons T l =>
      obtain ⟨h1, h2, h3⟩ := h
      have hv : VT W T (k, x, c) := ⟨h1, h2⟩
      have := hv.ln hW
      exact ⟨by have := this.1; show k < 16; omega, by have : fln c ≤ 256 := this.2; omega, FT_bd hW h2, FT_bd hW h3⟩
theorem fln_z {c : Fo} (h : fln c = 0) : c = .leaf := by
  cases c with
  | leaf => rfl
  | inner k x u c n => exfalso; have h : 1 + fln n = 0 := h; omega
theorem VT.vw (hW : WV W) (hD : DW W D) {T : List Nat} {v : VL} (h : VT W T v) (hs : fsz v.2.2 ≤ 200000) : VW v := by
  obtain ⟨a, b⟩ := h.ln hW
  have c := h.dp hD
  refine ⟨⟨a, by omega, b, FT_bd hW h.2⟩, fun z => ?_, hs⟩
  rcases h.css with ⟨b', e, h2, h3, h4, h5⟩ | ⟨i, e, h2, h3⟩ | ⟨t, e, h2, h3, h4⟩
  · rw [h2]; exact ⟨h5, fln_z h3⟩
  · omega
  · omega
/-- elements of a vector are of one kind -/
theorem VT.knd {T : List Nat} {v : VL} (h : VT W T v) (h7 : v.1 = 7) {w w' : VL} (hw : w ∈ flo v.2.2) (hw' : w' ∈ flo v.2.2) : w.1 = w'.1 := by
  rcases h.css with ⟨b', e, h2, h3, h4, h5⟩ | ⟨i, e, h2, h3⟩ | ⟨t, e, h2, h3, h4⟩
  · omega
  · omega
  · subst e
    obtain ⟨i, hi, ei⟩ := List.mem_iff_getElem.mp hw
    obtain ⟨j, hj, ej⟩ := List.mem_iff_getElem.mp hw'
    obtain ⟨U, a1, -, a3⟩ := h.nth (i := i) (w := w) (by rw [List.getElem?_eq_getElem hi, ei])
    obtain ⟨U', b1, -, b3⟩ := h.nth (i := j) (w := w') (by rw [List.getElem?_eq_getElem hj, ej])
    have : U = U' := by
      by_cases c : t = []
      · subst c
        cases a1
      · rw [tst_7 c] at a1 b1
        cases a1; cases b1; rfl
    subst this
    exact hdk_k a3.1 b3.1
/-- coins -/
theorem VT.coin (hF : fdi W 0 = [[3]]) {v : VL} {y : Int64} (h : VT W [6, 0] v) (hc : cvl v = some y) : v = vCv y := by
  obtain ⟨h1, h2, h3⟩ := VT_iff.mp h
  have h1 : v.1 = 6 ∧ v.2.1 = (lN (0 / 256), lN (0 % 256)) := h1
  have e1 : exs W [6, 0] (fln v.2.2) = [[3]] := hF
  rw [e1] at h2 h3
  obtain ⟨w, hw⟩ : ∃ w, flo v.2.2 = [w] := List.length_eq_one_iff.mp h2
  have hv := h3 0 w [3] (by rw [hw]; rfl) rfl
  have hv1 : w.1 = 3 ∧ fln w.2.2 = 0 ∧ (1 ≤ 3 ∧ 3 ≤ 5) ∧ rng 3 w.2.1 := hv.1
  have hz : w.2.1.1 = 0 := hv1.2.2.2.1.resolve_left (by decide)
  have hy : w.2.1.2 = y := by
    unfold cvl at hc
    rw [if_pos h1.1, hw] at hc
    exact Option.some.inj hc
  have hl := fln_z hv1.2.1
  have e2 : v.2.2 = fof [w] := by rw [← hw, fof_flo]
  obtain ⟨k, x, c⟩ := v
  obtain ⟨k', ⟨x1, x2⟩, c'⟩ := w
  have a1 : k = 6 := h1.1
  have a2 : x = (0, 0) := h1.2
  have a3 : c = fof [(k', (x1, x2), c')] := e2
  have a4 : k' = 3 := hv1.1
  have a5 : x1 = 0 := hz
  have a6 : x2 = y := hy
  have a7 : c' = .leaf := hl
  subst a4; subst a5; subst a6; subst a7
  rw [a1, a2, a3]; rfl
end
