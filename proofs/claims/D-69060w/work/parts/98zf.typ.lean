/-! types of values: structures are told by their modules and numbers -/
def rty (m : Md) : Ty → List Nat
  | [] => []
  | b :: t => if b = 6 then 6 :: t.map (sid m) else b :: rty m t
theorem rty_c {m : Md} {b : Nat} {t : Ty} (h : b ≠ 6) : rty m (b :: t) = b :: rty m t := by
  show (if b = 6 then 6 :: t.map (sid m) else b :: rty m t) = _
  rw [if_neg h]
theorem rty_6 {m : Md} {k : Nat} : rty m [6, k] = [6, sid m k] := rfl
/-- fields of a structure; one that is not there has no values -/
def fdi (W : Wd) (id : Nat) : List (List Nat) := match W (id / 256) with
  | some m => if id % 256 < m.2.1.length then (fdl m (id % 256)).map (rty m) else [[]]
  | none => [[]]
def rng (b : Nat) (x : Int64 × Int64) : Prop := (b = 4 ∨ x.1 = 0) ∧ (b = 1 → x.2 = 0 ∨ x.2 = 1) ∧ (b = 2 → un x.2 < 256)
def hdk (T : List Nat) (k : Nat) (x : Int64 × Int64) (n : Nat) : Prop := match T with
  | [b] => k = b ∧ n = 0 ∧ (1 ≤ b ∧ b ≤ 5) ∧ rng b x
  | [6, id] => k = 6 ∧ x = (lN (id / 256), lN (id % 256))
  | 7 :: t => k = 7 ∧ x = (0, 0) ∧ n ≤ 256 ∧ t.length ≤ 7
  | _ => False
def exs (W : Wd) (T : List Nat) (n : Nat) : List (List Nat) := match T with
  | [_] => []
  | [6, id] => fdi W id
  | 7 :: t => List.replicate n t
  | _ => []
/-- values of types, one behind the other -/
def FT (W : Wd) : Fo → List (List Nat) → Prop
  | .leaf, l => l = []
  | .inner k x _ c nx, l => match l with
    | [] => False
    | T :: l => hdk T k x (fln c) ∧ FT W c (exs W T (fln c)) ∧ FT W nx l
def VT (W : Wd) (T : List Nat) (v : VL) : Prop := hdk T v.1 v.2.1 (fln v.2.2) ∧ FT W v.2.2 (exs W T (fln v.2.2))
theorem FT_iff {W : Wd} : ∀ {c : Fo} {l : List (List Nat)}, FT W c l ↔ (flo c).length = l.length ∧ ∀ (i : Nat) (v : VL) (T : List Nat), (flo c)[i]? = some v → l[i]? = some T → VT W T v
  | .leaf, l => by
    constructor
    · intro h
      have h : l = [] := h
      subst h
      exact ⟨rfl, fun i v T hv _ => by simp [flo] at hv⟩
    · rintro ⟨h, -⟩
      exact List.length_eq_zero_iff.mp h.symm
  | .inner k x u c nx, l => by
    cases l with
    | nil =>
      constructor
      · intro h; exact h.elim
      · rintro ⟨h, -⟩; simp [flo] at h
    | cons T l =>
      have ih := FT_iff (W := W) (c := nx) (l := l)
      constructor
      · rintro ⟨h1, h2, h3⟩
        obtain ⟨h4, h5⟩ := ih.mp h3
        refine ⟨by simp [flo, h4], fun i v T' hv hT => ?_⟩
        cases i with
        | zero =>
          have hv : some (k, x, c) = some v := hv
          cases hv; cases hT
          exact ⟨h1, h2⟩
        | succ i => exact h5 i v T' hv hT
      · rintro ⟨h1, h2⟩
        obtain ⟨h3, h4⟩ := h2 0 (k, x, c) T rfl rfl
        refine ⟨h3, h4, ih.mpr ⟨by simpa [flo] using h1, fun i v T' hv hT => h2 (i + 1) v T' hv hT⟩⟩
theorem VT_iff {W : Wd} {T : List Nat} {v : VL} : VT W T v ↔ hdk T v.1 v.2.1 (fln v.2.2) ∧ (flo v.2.2).length = (exs W T (fln v.2.2)).length ∧ ∀ (i : Nat) (w : VL) (U : List Nat), (flo v.2.2)[i]? = some w → (exs W T (fln v.2.2))[i]? = some U → VT W U w := by
  unfold VT
  rw [FT_iff]
  rfl
/-- the type at a path -/
def tst (W : Wd) (T : List Nat) (i : Nat) : Option (List Nat) := match T with
  | [_] => none
  | [6, id] => (fdi W id)[i]?
  | 7 :: t => some t
  | _ => none
def tpa (W : Wd) : List Nat → List Nat → Option (List Nat)
  | T, [] => some T
  | T, i :: p => match tst W T i with
    | some U => tpa W U p
    | none => none
theorem tpa_ap {W : Wd} : ∀ {p q : List Nat} {T : List Nat}, tpa W T (p ++ q) = (tpa W T p).bind fun U => tpa W U q
  | [], q, T => rfl
  | i :: p, q, T => by
    show (match tst W T i with | some U => tpa W U (p ++ q) | none => none) = (match tst W T i with | some U => tpa W U p | none => none).bind _
    cases tst W T i with
    | none => rfl
    | some U => exact tpa_ap
theorem exs_t {W : Wd} {T : List Nat} {n i : Nat} {U : List Nat} (h : (exs W T n)[i]? = some U) : tst W T i = some U := by
  unfold exs at h
  unfold tst
  split at h
  · simp at h
  · exact h
  · rw [List.getElem?_replicate] at h
    split at h
    · cases h; rfl
    · cases h
  · simp at h
theorem VT.nth {W : Wd} {T : List Nat} {v w : VL} {i : Nat} (h : VT W T v) (hw : (flo v.2.2)[i]? = some w) : ∃ U, tst W T i = some U ∧ (exs W T (fln v.2.2))[i]? = some U ∧ VT W U w := by
  obtain ⟨h1, h2, h3⟩ := VT_iff.mp h
  have hi : i < (exs W T (fln v.2.2)).length := by rw [← h2]; exact get_lt hw
  have e := List.getElem?_eq_getElem hi
  exact ⟨_, exs_t e, e, h3 i w _ hw e⟩
theorem VT.get {W : Wd} : ∀ {p : List Nat} {T : List Nat} {v w : VL}, VT W T v → vgt v p = some w → ∃ U, tpa W T p = some U ∧ VT W U w
  | [], T, v, w, h, hw => by cases hw; exact ⟨T, rfl, h⟩
  | i :: p, T, v, w, h, hw => by
    unfold vgt at hw
    split at hw
    · next a ha =>
      obtain ⟨U, h1, -, h2⟩ := h.nth ha
      obtain ⟨X, h3, h4⟩ := h2.get hw
      refine ⟨X, ?_, h4⟩
      unfold tpa
      rw [h1]; exact h3
    · cases hw
theorem VT.set {W : Wd} : ∀ {p : List Nat} {T U : List Nat} {v w w' : VL}, VT W T v → vgt v p = some w → tpa W T p = some U → VT W U w' → VT W T (vst v p w')
  | [], T, U, v, w, w', h, hw, ht, h' => by cases ht; exact h'
  | i :: p, T, U, v, w, w', h, hw, ht, h' => by
    unfold vgt at hw
    split at hw
    · next a ha =>
      obtain ⟨X, h1, h0, h2⟩ := h.nth ha
      unfold tpa at ht
      rw [h1] at ht
      have h3 := h2.set hw ht h'
      have e : vst v (i :: p) w' = (v.1, v.2.1, fof ((flo v.2.2).set i (vst a p w'))) := by
        show (match (flo v.2.2)[i]? with | some a => _ | none => v) = _
        rw [ha]
      rw [e]
      obtain ⟨g1, g2, g3⟩ := VT_iff.mp h
      have el : fln (fof ((flo v.2.2).set i (vst a p w'))) = fln v.2.2 := by
        rw [← flo_len, flo_fof, List.length_set, flo_len]
      refine VT_iff.mpr ⟨?_, ?_, fun j b Y hb hY => ?_⟩
      · show hdk T v.1 v.2.1 (fln (fof ((flo v.2.2).set i (vst a p w'))))
        rw [el]; exact g1
      · show (flo (fof ((flo v.2.2).set i (vst a p w')))).length = (exs W T (fln (fof ((flo v.2.2).set i (vst a p w'))))).length
        rw [el, flo_fof, List.length_set]; exact g2
      · have hb : (flo (fof ((flo v.2.2).set i (vst a p w'))))[j]? = some b := hb
        have hY2 : (exs W T (fln (fof ((flo v.2.2).set i (vst a p w')))))[j]? = some Y := hY
        rw [el] at hY2
        rw [flo_fof] at hb
        by_cases c : j = i
        · subst c
          rw [List.getElem?_set_self (get_lt ha)] at hb
          cases hb
          rw [h0] at hY2; cases hY2
          exact h3
        · rw [List.getElem?_set_ne (fun z => c z.symm)] at hb
          exact g3 j b Y hb hY2
    · cases hw
/-! paths -/
theorem vgt_ap : ∀ {p q : List Nat} {v : VL}, vgt v (p ++ q) = (vgt v p).bind fun w => vgt w q
  | [], q, v => rfl
  | i :: p, q, v => by
    show (match (flo v.2.2)[i]? with | some w => vgt w (p ++ q) | none => none) = (match (flo v.2.2)[i]? with | some w => vgt w p | none => none).bind _
    cases (flo v.2.2)[i]? with
    | none => rfl
    | some w => exact vgt_ap
theorem vgt_st : ∀ {p : List Nat} {v w w' : VL}, vgt v p = some w → vgt (vst v p w') p = some w'
  | [], v, w, w', h => rfl
  | i :: p, v, w, w', h => by
    unfold vgt at h
    split at h
    · next a ha =>
      have e : vst v (i :: p) w' = (v.1, v.2.1, fof ((flo v.2.2).set i (vst a p w'))) := by
        show (match (flo v.2.2)[i]? with | some a => _ | none => v) = _
        rw [ha]
      rw [e]
      show (match (flo (fof ((flo v.2.2).set i (vst a p w'))))[i]? with | some w => vgt w p | none => none) = _
      rw [flo_fof, List.getElem?_set_self (get_lt ha)]
      exact vgt_st h
    · cases h
/-- what is not below a place is there still -/
theorem vgt_sn : ∀ {p q : List Nat} {v w w' : VL}, ¬ (p <+: q ∧ p ≠ q) → vgt v p = some w → (vgt v q).isSome = true → (vgt (vst v p w') q).isSome = true
  | [], q, v, w, w', hn, h, hq => by
    cases q with
    | nil => rfl
    | cons j q => exact absurd ⟨List.nil_prefix, by simp⟩ hn
  | i :: p, [], v, w, w', hn, h, hq => rfl
  | i :: p, j :: q, v, w, w', hn, h, hq => by
    unfold vgt at h
    split at h
    · next a ha =>
      have e : vst v (i :: p) w' = (v.1, v.2.1, fof ((flo v.2.2).set i (vst a p w'))) := by
        show (match (flo v.2.2)[i]? with | some a => _ | none => v) = _
        rw [ha]
      rw [e]
      show (match (flo (fof ((flo v.2.2).set i (vst a p w'))))[j]? with | some w => vgt w q | none => none).isSome = true
      have hq : (match (flo v.2.2)[j]? with | some w => vgt w q | none => none).isSome = true := hq
      rw [flo_fof]
      by_cases c : j = i
      · subst c
        rw [ha] at hq
        rw [List.getElem?_set_self (get_lt ha)]
        refine vgt_sn (fun z => hn ⟨?_, fun z2 => z.2 (List.cons.inj z2).2⟩) h hq
        exact List.cons_prefix_cons.mpr ⟨rfl, z.1⟩
      · rw [List.getElem?_set_ne (fun z => c z.symm)]
        exact hq
    · cases h
/-- a part that was added does not matter -/
theorem vgt_sub {q : List Nat} {v w w' : VL} {p : List Nat} (h : vgt v p = some w) (hs : ∀ r, (vgt w r).isSome = true → (vgt w' r).isSome = true) (hq : (vgt v q).isSome = true) : (vgt (vst v p w') q).isSome = true := by
  by_cases c : p <+: q
  · obtain ⟨r, rfl⟩ := c
    rw [vgt_ap, h] at hq
    rw [vgt_ap, vgt_st h]
    exact hs r hq
  · exact vgt_sn (fun z => c z.1) h hq
