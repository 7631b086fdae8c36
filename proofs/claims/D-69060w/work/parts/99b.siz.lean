/-! how great a transaction's state is -/
def szO : Option It → Nat
  | some i => isz i
  | none => 0
def szK (k : List It) : Nat := (k.map isz).sum
def szL (l : Nat → Option It) : Nat := ((List.range 40).map fun k => szO (l k)).sum
def szF (f : Fm) : Nat := szK f.2.2.2 + szL f.2.2.1
def szE (es : List En) : Nat := (es.map fun e => csz e.2.2.1).sum
def szN (F : Nat → Fm) (n : Nat) : Nat := ((List.range n).map fun j => szF (F j)).sum
def szs (s : Ms) : Nat := szN s.2.1 s.1 + szE (ens s)
theorem sum_same {f g : Nat → Nat} {n : Nat} (h : ∀ j, j < n → g j = f j) : ((List.range n).map g).sum = ((List.range n).map f).sum := by
  congr 1
  exact List.map_congr_left fun j hj => h j (List.mem_range.mp hj)
theorem sum_le {f g : Nat → Nat} : ∀ {n : Nat}, (∀ j, j < n → g j ≤ f j) → ((List.range n).map g).sum ≤ ((List.range n).map f).sum
  | 0, _ => Nat.le_refl _
  | n + 1, h => by
    rw [List.range_succ, List.map_append, List.map_append, List.sum_append, List.sum_append]
    have := sum_le (n := n) fun j hj => h j (by omega)
    have := h n (by omega)
    simp only [List.map_cons, List.map_nil, List.sum_cons, List.sum_nil]
    omega
theorem sum_one {f g : Nat → Nat} {t : Nat} (h : ∀ j, j ≠ t → g j = f j) : ∀ {n : Nat}, t < n → ((List.range n).map g).sum + f t = ((List.range n).map f).sum + g t
  | 0, hn => absurd hn (by omega)
  | n + 1, hn => by
    rw [List.range_succ, List.map_append, List.map_append, List.sum_append, List.sum_append]
    simp only [List.map_cons, List.map_nil, List.sum_cons, List.sum_nil]
    by_cases c : t = n
    · have := sum_same (n := n) fun j hj => h j (by omega)
      rw [this, c]; omega
    · have := sum_one h (n := n) (by omega)
      have := h n (by omega)
      omega
theorem sum_set : ∀ {l : List Nat} {i a b : Nat}, l[i]? = some a → (l.set i b).sum + a = l.sum + b
  | [], i, a, b, h => by simp at h
  | x :: l, 0, a, b, h => by
    have h : x = a := by simpa using h
    subst h
    show (b :: l).sum + x = (x :: l).sum + b
    simp only [List.sum_cons]; omega
  | x :: l, i + 1, a, b, h => by
    have h : l[i]? = some a := by simpa using h
    have := sum_set (b := b) h
    show (x :: l.set i b).sum + a = (x :: l).sum + b
    simp only [List.sum_cons]; omega
theorem fsz_flo : ∀ c : Fo, fsz c = ((flo c).map vsz).sum
  | .leaf => rfl
  | .inner k x u c n => by
    have := fsz_flo n
    show 1 + fsz c + fsz n = (vsz (k, x, c) :: (flo n).map vsz).sum
    rw [List.sum_cons, ← this]; rfl
theorem fsz_fof (l : List VL) : fsz (fof l) = (l.map vsz).sum := by rw [fsz_flo, flo_fof]
theorem vsz_f (k : Nat) (x : Int64 × Int64) (l : List VL) : vsz (k, x, fof l) = 1 + (l.map vsz).sum := by
  show 1 + fsz (fof l) = _
  rw [fsz_fof]
theorem vsz_v (v : VL) : vsz v = 1 + ((flo v.2.2).map vsz).sum := by
  show 1 + fsz v.2.2 = _
  rw [fsz_flo]
theorem vsz_st : ∀ {p : List Nat} {v w y : VL}, vgt v p = some y → vsz (vst v p w) + vsz y = vsz v + vsz w
  | [], v, w, y, h => by
    cases h
    show vsz w + vsz v = vsz v + vsz w
    omega
  | i :: p, v, w, y, h => by
    unfold vgt at h
    cases ha : (flo v.2.2)[i]? with
    | none => rw [ha] at h; cases h
    | some a =>
      rw [ha] at h
      have ih := vsz_st (w := w) h
      have e : vst v (i :: p) w = (v.1, v.2.1, fof ((flo v.2.2).set i (vst a p w))) := by
        show (match (flo v.2.2)[i]? with | some a => _ | none => v) = _
        rw [ha]
      rw [e, vsz_f, vsz_v v, List.map_set]
      have := sum_set (l := (flo v.2.2).map vsz) (i := i) (a := vsz a) (b := vsz (vst a p w)) (by rw [List.getElem?_map, ha]; rfl)
      omega
theorem vsz_gt : ∀ {p : List Nat} {v y : VL}, vgt v p = some y → vsz y ≤ vsz v := fun {p v y} h => by
  induction p generalizing v with
  | nil => cases h; exact Nat.le_refl _
  | cons i p ih =>
    unfold vgt at h
    cases ha : (flo v.2.2)[i]? with
    | none => rw [ha] at h; cases h
    | some a =>
      rw [ha] at h
      have := ih h
      rw [vsz_v v]
      have : vsz a ≤ ((flo v.2.2).map vsz).sum := by
        have := sum_set (l := (flo v.2.2).map vsz) (i := i) (a := vsz a) (b := 0) (by rw [List.getElem?_map, ha]; rfl)
        omega
      omega
section
variable {s : Ms}
theorem szN_u {F : Nat → Fm} {t n : Nat} {f : Fm} (h : t < n) : szN (uF F t f) n + szF (F t) = szN F n + szF f := by
  have := sum_one (f := fun j => szF (F j)) (g := fun j => szF (uF F t f j)) (t := t) (fun j hj => by show szF (uF F t f j) = _; rw [uF_n hj]) h
  have e : szF (uF F t f t) = szF f := by rw [uF_s]
  unfold szN
  simp only [e] at this
  exact this
theorem szs_F {f : Fm} (h1 : 1 ≤ s.1) : szs (sF s f) + szF (tpf s) = szs s + szF f := by
  have := szN_u (F := s.2.1) (t := s.1 - 1) (n := s.1) (f := f) (by omega)
  show szN (uF s.2.1 (s.1 - 1) f) s.1 + szE (ens s) + szF (s.2.1 (s.1 - 1)) = szN s.2.1 s.1 + szE (ens s) + szF f
  omega
theorem szs_LK {l : Nat → Option It} {k : List It} (h1 : 1 ≤ s.1) : szs (sLK s l k) + szK (stk s) + szL (lcs s) = szs s + szK k + szL l := by
  have := szs_F (s := s) (f := ((tpf s).1, (tpf s).2.1, l, k)) h1
  have e1 : szF (tpf s) = szK (stk s) + szL (lcs s) := rfl
  have e2 : szF ((tpf s).1, (tpf s).2.1, l, k) = szK k + szL l := rfl
  rw [e1, e2] at this
  show szs (sF s ((tpf s).1, (tpf s).2.1, l, k)) + szK (stk s) + szL (lcs s) = _
  omega
theorem szs_K {k : List It} (h1 : 1 ≤ s.1) : szs (sK s k) + szK (stk s) = szs s + szK k := by
  have := szs_LK (s := s) (l := lcs s) (k := k) h1
  have e : szs (sLK s (lcs s) k) = szs (sK s k) := rfl
  omega
theorem szK_c (i : It) (k : List It) : szK (i :: k) = isz i + szK k := by unfold szK; rw [List.map_cons, List.sum_cons]
theorem szK_ap (a b : List It) : szK (a ++ b) = szK a + szK b := by unfold szK; rw [List.map_append, List.sum_append]
theorem szK_v (l : List VL) : szK (l.map Sum.inl) = (l.map vsz).sum := by
  unfold szK; rw [List.map_map]; rfl
theorem szL_u {l : Nat → Option It} {k : Nat} {x : Option It} (h : k < 40) : szL (uLc l k x) + szO (l k) = szL l + szO x := by
  have := sum_one (f := fun j => szO (l j)) (g := fun j => szO (uLc l k x j)) (t := k) (fun j hj => by show szO (uLc l k x j) = _; unfold uLc; rw [if_neg hj]) h
  have e : szO (uLc l k x k) = szO x := by unfold uLc; rw [if_pos rfl]
  unfold szL
  simp only [e] at this
  exact this
theorem szE_set {es : List En} {e : Nat} {x y : En} (h : es[e]? = some x) : szE (es.set e y) + csz x.2.2.1 = szE es + csz y.2.2.1 := by
  have := sum_set (l := es.map fun e => csz e.2.2.1) (i := e) (a := csz x.2.2.1) (b := csz y.2.2.1) (by rw [List.getElem?_map, h]; rfl)
  unfold szE
  rw [List.map_set]
  exact this
theorem szs_en {e : Nat} {x : En} {f : En → En} (h : (ens s)[e]? = some x) : szs (sEn s e f) + csz x.2.2.1 = szs s + csz (f x).2.2.1 := by
  have es : sEn s e f = sE s ((ens s).set e (f x)) := by unfold sEn; rw [h]
  rw [es]
  have := szE_set (y := f x) h
  show szN s.2.1 s.1 + szE ((ens s).set e (f x)) + csz x.2.2.1 = szN s.2.1 s.1 + szE (ens s) + csz (f x).2.2.1
  omega
theorem sEn_n {e : Nat} {f : En → En} : gas (sEn s e f) = gas s ∧ (ens (sEn s e f)).length = (ens s).length ∧ (sEn s e f).1 = s.1 := by
  unfold sEn
  cases h : (ens s)[e]? with
  | none => exact ⟨rfl, rfl, rfl⟩
  | some x => exact ⟨rfl, by show ((ens s).set e (f x)).length = _; rw [List.length_set], rfl⟩
/-- a root within the state -/
def rin (s : Ms) (r : Rx) : Prop := r.1.1 ≤ s.1 ∧ (r.1.1 ≠ 0 → r.1.2 < 40)
theorem rtv_sz {r : Rx} {v : VL} (hr : rin s r) (hv : rtv s r.1 = some v) : vsz v ≤ szs s := by
  obtain ⟨⟨a, k⟩, p⟩ := r
  obtain ⟨h1, h2⟩ := hr
  cases a with
  | zero =>
    have hv : (match (ens s)[k]? with | some e => e.2.2.1.2.2.2 | none => none) = some v := hv
    cases hx : (ens s)[k]? with
    | none => rw [hx] at hv; cases hv
    | some x =>
      rw [hx] at hv
      have hv : x.2.2.1.2.2.2 = some v := hv
      have := szE_set (y := (x.1, x.2.1, (false, 0, 0, none), false)) hx
      have e1 : csz x.2.2.1 = vsz v := by unfold csz; rw [hv]
      have e2 : csz ((x.1, x.2.1, ((false, 0, 0, none) : Cn), false) : En).2.2.1 = 0 := rfl
      rw [e1, e2] at this
      unfold szs; omega
  | succ j =>
    have hv : (match (s.2.1 j).2.2.1 k with | some (.inl v) => some v | _ => none) = some v := hv
    have h1 : j + 1 ≤ s.1 := h1
    have hk : k < 40 := h2 (by show j + 1 ≠ 0; omega)
    have a := szN_u (F := s.2.1) (t := j) (n := s.1) (f := ((0, 0), 0, fun _ => none, [])) (by omega)
    have e0 : szF ((0, 0), 0, fun _ => none, []) = 0 := by decide
    have b := szL_u (l := (s.2.1 j).2.2.1) (k := k) (x := none) hk
    cases hl : (s.2.1 j).2.2.1 k with
    | none => rw [hl] at hv; cases hv
    | some i =>
      rw [hl] at hv b
      cases i with
      | inr q => cases hv
      | inl w =>
        cases hv
        have e1 : szO (some (.inl v)) = vsz v := rfl
        have e2 : szO none = 0 := rfl
        rw [e1, e2] at b
        have e3 : szF (s.2.1 j) = szK (s.2.1 j).2.2.2 + szL (s.2.1 j).2.2.1 := rfl
        unfold szs
        omega
theorem drf_sz {r : Rx} {v : VL} (hr : rin s r) (hv : drf s r = some v) : vsz v ≤ szs s := by
  unfold drf at hv
  cases h : rtv s r.1 with
  | none => rw [h] at hv; cases hv
  | some v0 =>
    rw [h] at hv
    exact Nat.le_trans (vsz_gt hv) (rtv_sz hr h)
theorem stk_sz {v : VL} (h1 : 1 ≤ s.1) (h : (Sum.inl v : It) ∈ stk s) : vsz v ≤ szs s := by
  have := szs_K (s := s) (k := []) h1
  have e : szK ([] : List It) = 0 := rfl
  have : vsz v ≤ szK (stk s) := by
    obtain ⟨i, hi, ei⟩ := List.mem_iff_getElem.mp h
    have := sum_set (l := (stk s).map isz) (i := i) (a := vsz v) (b := 0) (by rw [List.getElem?_map, List.getElem?_eq_getElem hi, ei]; rfl)
    unfold szK; omega
  omega
theorem szs_w {r : Rx} {v w : VL} (hr : rin s r) (hv : drf s r = some v) : szs (wrf s r w) + vsz v = szs s + vsz w := by
  unfold drf at hv
  unfold wrf
  cases h : rtv s r.1 with
  | none => rw [h] at hv; cases hv
  | some v0 =>
    rw [h] at hv
    have st := vsz_st (w := w) hv
    simp only
    obtain ⟨⟨a, k⟩, p⟩ := r
    obtain ⟨h1, h2⟩ := hr
    cases a with
    | zero =>
      have h : (match (ens s)[k]? with | some e => e.2.2.1.2.2.2 | none => none) = some v0 := h
      cases hx : (ens s)[k]? with
      | none => rw [hx] at h; cases h
      | some x =>
        rw [hx] at h
        have h : x.2.2.1.2.2.2 = some v0 := h
        have := szE_set (y := (x.1, x.2.1, (x.2.2.1.1, x.2.2.1.2.1, x.2.2.1.2.2.1, some (vst v0 p w)), x.2.2.2)) hx
        have e1 : csz x.2.2.1 = vsz v0 := by unfold csz; rw [h]
        have e2 : csz ((x.1, x.2.1, ((x.2.2.1.1, x.2.2.1.2.1, x.2.2.1.2.2.1, some (vst v0 p w)) : Cn), x.2.2.2) : En).2.2.1 = vsz (vst v0 p w) := rfl
        rw [e1, e2] at this
        have er : rst s (0, k) (vst v0 p w) = sE s ((ens s).set k (x.1, x.2.1, (x.2.2.1.1, x.2.2.1.2.1, x.2.2.1.2.2.1, some (vst v0 p w)), x.2.2.2)) := by
          show (match (ens s)[k]? with | some e => _ | none => s) = _
          rw [hx]
        show szs (rst s (0, k) (vst v0 p w)) + vsz v = szs s + vsz w
        rw [er]
        show szN s.2.1 s.1 + szE ((ens s).set k _) + vsz v = szN s.2.1 s.1 + szE (ens s) + vsz w
        have st : vsz (vst v0 p w) + vsz v = vsz v0 + vsz w := st
        omega
    | succ j =>
      have h : (match (s.2.1 j).2.2.1 k with | some (.inl v) => some v | _ => none) = some v0 := h
      have h1 : j + 1 ≤ s.1 := h1
      have hk : k < 40 := h2 (by show j + 1 ≠ 0; omega)
      have a := szN_u (F := s.2.1) (t := j) (n := s.1) (f := ((s.2.1 j).1, (s.2.1 j).2.1, uLc (s.2.1 j).2.2.1 k (some (.inl (vst v0 p w))), (s.2.1 j).2.2.2)) (by omega)
      have b := szL_u (l := (s.2.1 j).2.2.1) (k := k) (x := some (.inl (vst v0 p w))) hk
      cases hl : (s.2.1 j).2.2.1 k with
      | none => rw [hl] at h; cases h
      | some i =>
        rw [hl] at h b
        cases i with
        | inr q => cases h
        | inl w' =>
          have : w' = v0 := Option.some.inj h
          subst this
          have e1 : szO (some (.inl w')) = vsz w' := rfl
          have e2 : szO (some (.inl (vst w' p w))) = vsz (vst w' p w) := rfl
          rw [e1, e2] at b
          have e3 : szF (s.2.1 j) = szK (s.2.1 j).2.2.2 + szL (s.2.1 j).2.2.1 := rfl
          have e4 : szF ((s.2.1 j).1, (s.2.1 j).2.1, uLc (s.2.1 j).2.2.1 k (some (.inl (vst w' p w))), (s.2.1 j).2.2.2) = szK (s.2.1 j).2.2.2 + szL (uLc (s.2.1 j).2.2.1 k (some (.inl (vst w' p w)))) := rfl
          have st : vsz (vst w' p w) + vsz v = vsz w' + vsz w := st
          show szN (uF s.2.1 j ((s.2.1 j).1, (s.2.1 j).2.1, uLc (s.2.1 j).2.2.1 k (some (.inl (vst w' p w))), (s.2.1 j).2.2.2)) s.1 + szE (ens s) + vsz v = szN s.2.1 s.1 + szE (ens s) + vsz w
          omega
theorem wrf_n {r : Rx} {w : VL} : gas (wrf s r w) = gas s ∧ (ens (wrf s r w)).length = (ens s).length ∧ (wrf s r w).1 = s.1 := by
  unfold wrf
  cases h : rtv s r.1 with
  | none => exact ⟨rfl, rfl, rfl⟩
  | some v0 =>
    simp only
    unfold rst
    split
    · split
      · exact ⟨rfl, by show ((ens s).set _ _).length = _; rw [List.length_set], rfl⟩
      · exact ⟨rfl, rfl, rfl⟩
    · exact ⟨rfl, rfl, rfl⟩
end
