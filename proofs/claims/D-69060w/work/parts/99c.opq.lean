/-! what operations do to entries and to sizes -/
def SQ (n : Nat) (s s2 : Ms) : Prop := szs s2 + gas s + 64 * (ens s).length ≤ szs s + gas s2 + 64 * (ens s2).length + n
/-- an entry goes on -/
def EX (x x' : En) : Prop := x'.1 = x.1 ∧ x'.2.1 = x.2.1 ∧ (x.2.2.2 = true → x'.2.2.2 = true) ∧ (x'.2.2.2 = false → x'.2.2.1 = x.2.2.1) ∧ (x.1.1 = 2 → x'.2.2 = x.2.2) ∧ (x.1.1 = 1 → (x.2.2.1.1 = true → x'.2.2.1.1 = true) ∧ x'.2.2.1.2.2 = x.2.2.1.2.2) ∧ (x.1.1 = 3 → x'.2.2.1.2.1 = x.2.2.1.2.1 ∧ x'.2.2.1.2.2.1 = x.2.2.1.2.2.1) ∧ (x.1.1 = 4 → x'.2.2.1.1 = x.2.2.1.1 ∧ x'.2.2.1.2.2 = x.2.2.1.2.2)
theorem EX.refl (x : En) : EX x x := ⟨rfl, rfl, id, fun _ => rfl, fun _ => rfl, fun _ => ⟨id, rfl⟩, fun _ => ⟨rfl, rfl⟩, fun _ => ⟨rfl, rfl⟩⟩
theorem EX.trans {x y z : En} (a : EX x y) (b : EX y z) : EX x z := by
  obtain ⟨a1, a2, a3, a4, a5, a6, a7, a8⟩ := a
  obtain ⟨b1, b2, b3, b4, b5, b6, b7, b8⟩ := b
  refine ⟨b1.trans a1, b2.trans a2, fun h => b3 (a3 h), fun h => ?_, fun h => ?_, fun h => ?_, fun h => ?_, fun h => ?_⟩
  · have : y.2.2.2 = false := by
      cases hy : y.2.2.2 with
      | false => rfl
      | true => rw [b3 hy] at h; cases h
    rw [b4 h, a4 this]
  · rw [b5 (by rw [a1]; exact h), a5 h]
  · obtain ⟨c1, c2⟩ := a6 h
    obtain ⟨d1, d2⟩ := b6 (by rw [a1]; exact h)
    exact ⟨fun z => d1 (c1 z), d2.trans c2⟩
  · obtain ⟨c1, c2⟩ := a7 h
    obtain ⟨d1, d2⟩ := b7 (by rw [a1]; exact h)
    exact ⟨d1.trans c1, d2.trans c2⟩
  · obtain ⟨c1, c2⟩ := a8 h
    obtain ⟨d1, d2⟩ := b8 (by rw [a1]; exact h)
    exact ⟨d1.trans c1, d2.trans c2⟩
def esX (es es2 : List En) : Prop := es2.length = es.length ∧ ∀ (i : Nat) (x : En), es[i]? = some x → ∃ x', es2[i]? = some x' ∧ EX x x'
theorem esX.refl (es : List En) : esX es es := ⟨rfl, fun i x h => ⟨x, h, EX.refl x⟩⟩
theorem esX.trans {a b c : List En} (h : esX a b) (k : esX b c) : esX a c := ⟨k.1.trans h.1, fun i x hx => by
  obtain ⟨y, y1, y2⟩ := h.2 i x hx
  obtain ⟨z, z1, z2⟩ := k.2 i y y1
  exact ⟨z, z1, y2.trans z2⟩⟩
theorem esX.set {es : List En} {e : Nat} {x y : En} (hx : es[e]? = some x) (h : EX x y) : esX es (es.set e y) := ⟨List.length_set, fun i z hz => by
  by_cases c : e = i
  · subst c
    rw [hx] at hz; cases hz
    exact ⟨y, List.getElem?_set_self (get_lt hx), h⟩
  · exact ⟨z, by rw [List.getElem?_set_ne c]; exact hz, EX.refl z⟩⟩
def esE (s s2 : Ms) : Prop := s2.2.2.2.1 = s.2.2.2.1 ∧ esX (ens s) (ens s2)
def OPq (s s2 : Ms) : Prop := SQ 1 s s2 ∧ esE s s2
section
variable {s s' : Ms}
theorem esE.refl : esE s s := ⟨rfl, esX.refl _⟩
theorem esE.trans {a b c : Ms} (h : esE a b) (k : esE b c) : esE a c := ⟨k.1.trans h.1, h.2.trans k.2⟩
theorem SQ.trans {a n m : Nat} {x y z : Ms} (h : SQ n x y) (k : SQ m y z) (e : a = n + m) : SQ a x z := by unfold SQ at *; omega
theorem esE.en {e : Nat} {f : En → En} {x : En} (hx : (ens s)[e]? = some x) (h : EX x (f x)) : esE s (sEn s e f) := by
  have es : sEn s e f = sE s ((ens s).set e (f x)) := by unfold sEn; rw [hx]
  rw [es]
  exact ⟨rfl, esX.set hx h⟩
theorem OPq.id : OPq s s := ⟨by unfold SQ; omega, esE.refl⟩
theorem OPq.g (h : gas s ≤ gas s') (e1 : szs s' = szs s) (e2 : ens s' = ens s) (e3 : s'.2.2.2.1 = s.2.2.2.1) : OPq s s' := ⟨by unfold SQ; rw [e1, e2]; omega, e3, by rw [e2]; exact esX.refl _⟩
theorem rzP.py {P : Ms → Prop} {lim n : Nat} {k : Ms → Rz} (h1 : P (sG s lim)) (h2 : rzP P (k (sG s (gas s + n)))) : rzP P (mpay lim n s k) := by
  unfold mpay
  split
  · exact h2
  · exact h1
theorem OPq.lim {lim : Nat} (h : gas s ≤ lim) : OPq s (sG s lim) := OPq.g h rfl rfl rfl
/-- only the stack is other -/
theorem OPq.K {k : List It} {n : Nat} (h1 : 1 ≤ s.1) (h : szK k ≤ szK (stk s) + n + 1) : OPq s (sK (sG s (gas s + n)) k) := by
  refine ⟨?_, rfl, esX.refl _⟩
  have := szs_K (s := s) (k := k) h1
  have e : szs (sK (sG s (gas s + n)) k) = szs (sK s k) := rfl
  unfold SQ
  rw [e]
  show _ ≤ szs s + (gas s + n) + 64 * (ens s).length + 1
  omega
theorem OPq.K0 {k : List It} (h1 : 1 ≤ s.1) (h : szK k ≤ szK (stk s) + 1) : OPq s (sK s k) := OPq.K (n := 0) h1 h
theorem OPq.LK {l : Nat → Option It} {k : List It} (h1 : 1 ≤ s.1) (h : szK k + szL l ≤ szK (stk s) + szL (lcs s) + 1) : OPq s (sLK s l k) := by
  refine ⟨?_, rfl, esX.refl _⟩
  have := szs_LK (s := s) (l := l) (k := k) h1
  unfold SQ
  show _ ≤ szs s + gas s + 64 * (ens s).length + 1
  omega
/-- a reference through which one may write -/
def wok (s : Ms) (r : Rx) : Prop := r.1.1 = 0 → ∃ x, (ens s)[r.1.2]? = some x ∧ x.1.1 = 3 ∧ x.2.2.2 = true
theorem esE.w {r : Rx} {w : VL} (h : wok s r) : esE s (wrf s r w) := by
  unfold wrf
  cases hv : rtv s r.1 with
  | none => exact esE.refl
  | some v0 =>
    simp only
    obtain ⟨⟨a, k⟩, p⟩ := r
    cases a with
    | succ j => exact ⟨rfl, esX.refl _⟩
    | zero =>
      obtain ⟨x, x1, x2, x3⟩ := h rfl
      have x1 : (ens s)[k]? = some x := x1
      have er : rst s (0, k) (vst v0 p w) = sE s ((ens s).set k (x.1, x.2.1, (x.2.2.1.1, x.2.2.1.2.1, x.2.2.1.2.2.1, some (vst v0 p w)), x.2.2.2)) := by
        show (match (ens s)[k]? with | some e => _ | none => s) = _
        rw [x1]
      show esE s (rst s (0, k) (vst v0 p w))
      rw [er]
      refine ⟨rfl, esX.set x1 ⟨rfl, rfl, id, fun z => ?_, fun z => ?_, fun z => ?_, fun _ => ⟨rfl, rfl⟩, fun z => ?_⟩⟩
      · rw [x3] at z; cases z
      · rw [x2] at z; cases z
      · rw [x2] at z; cases z
      · rw [x2] at z; cases z
theorem OPq.w {r : Rx} {v w : VL} {k : List It} (h1 : 1 ≤ s.1) (hr : rin s r) (hv : drf s r = some v) (hw : wok s r) (h : szK k + vsz w ≤ szK (stk s) + vsz v + 1) : OPq s (wrf (sK s k) r w) := by
  have a := szs_K (s := s) (k := k) h1
  have hr2 : rin (sK s k) r := hr
  have b := szs_w (s := sK s k) (w := w) hr2 (by rw [drf_K]; exact hv)
  obtain ⟨c1, c2, -⟩ := wrf_n (s := sK s k) (r := r) (w := w)
  refine ⟨?_, ?_⟩
  · unfold SQ
    rw [c1, c2]
    show _ ≤ szs s + gas s + 64 * (ens s).length + 1
    omega
  · exact esE.trans (b := sK s k) ⟨rfl, esX.refl _⟩ (esE.w hw)
theorem isz_vI (k : Nat) (x y : Int64) : isz (vI k x y) = 1 := rfl
theorem isz_vT (b : Bool) : isz (vT b) = 1 := rfl
theorem isz_r (r : Rx) : isz (.inr r) = 1 := rfl
theorem isz_v (v : VL) : isz (.inl v) = vsz v := rfl
theorem vsz_1 (v : VL) : 1 ≤ vsz v := by unfold vsz; omega
theorem isz_1 (i : It) : 1 ≤ isz i := by
  cases i with
  | inl v => exact vsz_1 v
  | inr r => exact Nat.le_refl _
theorem isz_vC (x : Int64) : isz (vC x) = 2 := rfl
theorem q_con {snd : Int64} {o a b : Nat} (h1 : 1 ≤ s.1) : rzP (OPq s) (oCon snd o a b s) := by
  refine rz_go (OPq.K0 h1 ?_)
  rw [szK_c]
  have : isz (if o = 5 then vI 2 0 (lN a) else if o = 6 then vI 3 0 (lN a) else if o = 7 then vI 4 (lN a) (lN b) else if o = 10 then vI 5 0 (lN a) else if o = 46 then vI 5 0 snd else vT (o == 8)) = 1 := by
    repeat' (first | rfl | split)
  omega
theorem q_loc {lim o k : Nat} (h1 : 1 ≤ s.1) (hk : k < 40) (hg : gas s ≤ lim) : rzP (OPq s) (oLoc lim o k s) := by
  unfold oLoc
  split
  · split
    · rename_i x t hs
      refine rzP.re (rz_go (OPq.LK h1 ?_))
      rw [hs, szK_c]
      have := szL_u (l := lcs s) (k := k) (x := some x) hk
      have e : szO (some x) = isz x := rfl
      omega
    · trivial
  · split
    · trivial
    · rename_i x hx
      split
      · refine rzP.py (OPq.lim hg) (rz_go ?_)
        refine OPq.K h1 ?_
        rw [szK_c]
        have e : stk (sG s (gas s + isz x)) = stk s := rfl
        rw [e]; omega
      · split
        · refine rzP.re (rz_go (OPq.LK h1 ?_))
          rw [szK_c]
          have := szL_u (l := lcs s) (k := k) (x := none) hk
          have e : szO (some x) = isz x := rfl
          have e2 : szO none = 0 := rfl
          rw [hx] at this
          omega
        · split
          · refine rz_go (OPq.K0 h1 ?_)
            rw [szK_c, isz_r]; omega
          · trivial
theorem q_ref {lim o b : Nat} (h1 : 1 ≤ s.1) (hg : gas s ≤ lim) (hr : ∀ r, (Sum.inr r : It) ∈ stk s → rin s r) (hw : o = 19 → ∀ r t, stk s = .inr r :: t → wok s r) : rzP (OPq s) (oRef lim o b s) := by
  unfold oRef
  split
  · rename_i r t hs
    split
    · trivial
    · rename_i v hv
      split
      · split
        · refine rzP.re (rz_go (OPq.K0 h1 ?_))
          rw [hs, szK_c, szK_c, isz_r, isz_r]; omega
        · trivial
      · split
        · refine rzP.py (OPq.lim hg) (rz_go (OPq.K h1 ?_))
          rw [hs, szK_c, szK_c, isz_v, isz_r]; omega
        · split
          · rename_i c19
            split
            · rename_i w t'
              refine rzP.re (rz_go (OPq.w h1 (hr r (by rw [hs]; simp)) hv (hw c19 r _ hs) ?_))
              rw [hs, szK_c, szK_c, isz_r, isz_v]; omega
            · trivial
          · exact OPq.id
  · trivial
theorem tkV_sz : ∀ {n : Nat} {k t : List It} {l : List VL}, tkV n k = some (l, t) → szK k = (l.map vsz).sum + szK t
  | 0, k, t, l, h => by
    cases h
    show szK k = 0 + szK k
    omega
  | n + 1, [], t, l, h => by cases h
  | n + 1, .inr r :: k, t, l, h => by cases h
  | n + 1, .inl v :: k, t, l, h => by
    unfold tkV at h
    cases hh : tkV n k with
    | none => rw [hh] at h; cases h
    | some q =>
      obtain ⟨l', t'⟩ := q
      rw [hh] at h
      cases h
      have := tkV_sz hh
      rw [szK_c, this, List.map_cons, List.sum_cons, isz_v]; omega
theorem sum_rev (l : List VL) : (l.reverse.map vsz).sum = (l.map vsz).sum := by
  rw [List.map_reverse, List.sum_reverse]
theorem q_pck {m : Md} {k : Nat} (h1 : 1 ≤ s.1) : rzP (OPq s) (oPck m k s) := by
  unfold oPck
  split
  · rename_i l t hl
    refine rz_go (OPq.K0 h1 ?_)
    rw [szK_c, isz_v, vsz_f, sum_rev, tkV_sz hl]; omega
  · trivial
theorem q_unp {m : Md} {k : Nat} (h1 : 1 ≤ s.1) : rzP (OPq s) (oUnp m k s) := by
  unfold oUnp
  split
  · rename_i v t hs
    refine rzP.re (rz_go (OPq.K0 h1 ?_))
    rw [szK_ap, szK_v, sum_rev, hs, szK_c, isz_v, vsz_v]; omega
  · trivial
theorem q_num {lim o : Nat} (h1 : 1 ≤ s.1) (hg : gas s ≤ lim) : rzP (OPq s) (oNum lim o s) := by
  unfold oNum
  split
  · exact OPq.id
  · split
    · split
      · rename_i v t hs
        refine rzP.re (rz_go (OPq.K0 h1 ?_))
        rw [hs, szK_c, szK_c, isz_vI]; omega
      · trivial
    · split
      · split
        · rename_i v t hs
          refine rzP.re (rzP.nd OPq.id (rz_go (OPq.K0 h1 ?_)))
          rw [hs, szK_c, szK_c, isz_vI]; omega
        · trivial
      · split
        · rename_i b a t hs
          have hz : szK (stk s) = vsz b + (vsz a + szK t) := by rw [hs, szK_c, szK_c, isz_v, isz_v]
          have := vsz_1 a
          split
          · refine rzP.re ?_
            split
            · refine rz_go (OPq.K0 h1 ?_)
              rw [szK_c, isz_vI]; omega
            · exact OPq.id
          · split
            · refine rzP.re (rz_go (OPq.K0 h1 ?_))
              rw [szK_c, isz_vI]; omega
            · split
              · refine rzP.re (rzP.nd OPq.id (rz_go (OPq.K0 h1 ?_)))
                rw [szK_c, isz_v]
                have : vsz (a.1, msh o a.1 (un b.2.1.2) a.2.1, .leaf) = 1 := rfl
                omega
              · split
                · refine rzP.re (rzP.py (OPq.lim hg) (rz_go (OPq.K h1 ?_)))
                  rw [szK_c, isz_vT]; omega
                · refine rzP.re (rz_go (OPq.K0 h1 ?_))
                  rw [szK_c, isz_vT]; omega
        · trivial
theorem sum_hby (c : Fo) : ((hby c).map vsz).sum = 32 := by
  unfold hby
  rw [List.map_map]
  have : (vsz ∘ fun k => ((2, (0, lN (dby ((flo c).map fun v => i8 v.2.1.2.toInt32) k)), .leaf) : VL)) = fun _ => 1 := by funext k; rfl
  rw [this]
  decide
theorem sum_ap (a b : List VL) : ((a ++ b).map vsz).sum = (a.map vsz).sum + (b.map vsz).sum := by rw [List.map_append, List.sum_append]
theorem sum_lsw (l : List VL) (i j : Nat) : ((lsw l i j).map vsz).sum = (l.map vsz).sum := by
  unfold lsw
  split
  · rename_i a b ha hb
    have e1 := sum_set (l := l.map vsz) (i := i) (a := vsz a) (b := vsz b) (by rw [List.getElem?_map, ha]; rfl)
    by_cases c : i = j
    · subst c
      rw [ha] at hb; cases hb
      rw [List.map_set, List.map_set]
      have e2 := sum_set (l := (l.map vsz).set i (vsz a)) (i := i) (a := vsz a) (b := vsz a) (by rw [List.getElem?_set_self (by rw [List.length_map]; exact get_lt ha)])
      omega
    · rw [List.map_set, List.map_set]
      have e2 := sum_set (l := (l.map vsz).set i (vsz b)) (i := j) (a := vsz b) (b := vsz a) (by rw [List.getElem?_set_ne c, List.getElem?_map, hb]; rfl)
      omega
  · rfl
theorem q_vec {lim o b : Nat} (h1 : 1 ≤ s.1) (hg : gas s ≤ lim) (hr : ∀ r, (Sum.inr r : It) ∈ stk s → rin s r) (hw : (o = 56 → ∀ w r t, stk s = .inl w :: .inr r :: t → wok s r) ∧ (o = 57 → ∀ r t, stk s = .inr r :: t → wok s r) ∧ (o = 58 → ∀ a b r t, stk s = .inl a :: .inl b :: .inr r :: t → wok s r)) (ho : 52 ≤ o ∧ o ≤ 59) : rzP (OPq s) (oVec lim o b s) := by
  unfold oVec
  split
  · refine rzP.py (OPq.lim hg) ?_
    split
    · rename_i l t hl
      have hl : tkV b (stk s) = some (l, t) := hl
      refine rz_go (OPq.K h1 ?_)
      rw [szK_c, isz_v, vsz_f, sum_rev, tkV_sz hl]; omega
    · trivial
  · split
    · split
      · rename_i v t hs
        refine rzP.re (rzP.py (OPq.lim hg) (rz_go (OPq.K h1 ?_)))
        rw [szK_c, isz_v, vsz_f, sum_hby, hs, szK_c]; omega
      · trivial
    · split
      · split
        · rename_i r t hs
          split
          · refine rzP.re (rz_go (OPq.K0 h1 ?_))
            rw [hs, szK_c, szK_c, isz_vI]; omega
          · trivial
        · trivial
      · split
        · split
          · rename_i i r t hs
            split
            · refine rzP.re (rzP.nd OPq.id (rz_go (OPq.K0 h1 ?_)))
              rw [hs, szK_c, szK_c, szK_c, isz_r]; omega
            · trivial
          · trivial
        · split
          · rename_i c56
            split
            · rename_i w r t hs
              split
              · rename_i v hv
                refine rzP.re (rzP.nd OPq.id (rz_go (OPq.w h1 (hr r (by rw [hs]; simp)) hv (hw.1 c56 w r t hs) ?_)))
                rw [vsz_f, sum_ap, vsz_v v, hs, szK_c, szK_c, isz_r, isz_v]
                simp only [List.map_cons, List.map_nil, List.sum_cons, List.sum_nil]
                omega
              · trivial
            · trivial
          · split
            · rename_i c57
              split
              · rename_i r t hs
                split
                · rename_i v hv
                  refine rzP.re ?_
                  split
                  · rename_i w hl
                    refine rzP.re (rz_go ?_)
                    have hd : flo v.2.2 = (flo v.2.2).dropLast ++ [w] := by
                      obtain ⟨ys, hy⟩ := List.getLast?_eq_some_iff.mp hl
                      rw [hy]; simp
                    have hsum : ((flo v.2.2).map vsz).sum = ((flo v.2.2).dropLast.map vsz).sum + vsz w := by
                      conv => lhs; rw [hd]
                      rw [sum_ap]
                      simp
                    have a := OPq.w (k := t) (w := (v.1, v.2.1, fof (flo v.2.2).dropLast)) h1 (hr r (by rw [hs]; simp)) hv (hw.2.1 c57 r t hs) (by
                      rw [vsz_f, vsz_v v, hs, szK_c, isz_r]; omega)
                    obtain ⟨⟨a1, a2⟩, a3⟩ := And.intro a.2 a.1
                    have hr2 : rin (sK s t) r := hr r (by rw [hs]; simp)
                    have b := szs_w (s := sK s t) (w := (v.1, v.2.1, fof (flo v.2.2).dropLast)) hr2 (by rw [drf_K]; exact hv)
                    obtain ⟨c1, c2, c3⟩ := wrf_n (s := sK s t) (r := r) (w := (v.1, v.2.1, fof (flo v.2.2).dropLast))
                    have d := szs_K (s := s) (k := t) h1
                    generalize hq : wrf (sK s t) r (v.1, v.2.1, fof (flo v.2.2).dropLast) = s3 at *
                    have h13 : 1 ≤ s3.1 := by rw [c3]; exact h1
                    have e := szs_K (s := s3) (k := .inl w :: stk s3) h13
                    rw [szK_c, isz_v] at e
                    rw [vsz_f, vsz_v v] at b
                    refine ⟨?_, a1, a2⟩
                    unfold SQ
                    show szs (sK s3 (.inl w :: stk s3)) + gas s + 64 * (ens s).length ≤ szs s + gas s3 + 64 * (ens s3).length + 1
                    rw [c1, c2]
                    show szs (sK s3 (.inl w :: stk s3)) + gas s + 64 * (ens s).length ≤ szs s + gas s + 64 * (ens s).length + 1
                    have f : szK (stk s) = 1 + szK t := by rw [hs, szK_c, isz_r]
                    omega
                  · exact OPq.id
                · trivial
              · trivial
            · split
              · rename_i a b' r t hs
                split
                · rename_i v hv
                  refine rzP.re (rzP.nd OPq.id (rzP.re (rz_go (OPq.w h1 (hr r (by rw [hs]; simp)) hv (hw.2.2 (by omega) a b' r t hs) ?_))))
                  rw [vsz_f, sum_lsw, vsz_v v, hs, szK_c, szK_c, szK_c, isz_r]; omega
                · trivial
              · trivial
end
