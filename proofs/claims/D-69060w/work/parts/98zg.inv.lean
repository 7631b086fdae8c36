/-! what holds while a transaction goes on: types -/
/-- what types depend on: places of entries, functions of frames -/
abbrev Sg : Type := List Pc × (Nat → Nat × Nat) × (Nat → Bool)
/-- whether an entry was changed -/
def chgd (es : List En) (e : Nat) : Bool := match es[e]? with
  | some x => x.2.2.2
  | none => false
def sgn (s : Ms) : Sg := ((ens s).map (fun e => e.1), (fun j => (s.2.1 j).1), chgd (ens s))
def sgs (n : Nat) (g g' : Sg) : Prop := g.1 <+: g'.1 ∧ (∀ j, j < n → g'.2.1 j = g.2.1 j) ∧ ∀ e, g.2.2 e = true → g'.2.2 e = true
def rtT (W : Wd) (g : Sg) (r : Nat × Nat) : Option (List Nat) := match r.1 with
  | 0 => (match g.1[r.2]? with
    | some p => if p.1 = 3 then some [6, p.2.2] else none
    | none => none)
  | j + 1 => (match W (g.2.1 j).1 with
    | none => none
    | some m => (match m.2.2.2.2.2[(g.2.1 j).2]? with
      | none => none
      | some u => if r.2 < nlo u ∧ isRf (tgt (lty u) r.2) = false then some (rty m (tgt (lty u) r.2)) else none))
theorem pre_get {α : Type} {a b : List α} {i : Nat} {x : α} (h : a <+: b) (hx : a[i]? = some x) : b[i]? = some x := by
  obtain ⟨c, rfl⟩ := h
  rw [List.getElem?_append_left (get_lt hx)]; exact hx
theorem rtT_m {W : Wd} {g g' : Sg} {n : Nat} {r : Nat × Nat} {T : List Nat} (h : sgs n g g') (hr : r.1 ≤ n) (hT : rtT W g r = some T) : rtT W g' r = some T := by
  obtain ⟨a, b⟩ := r
  cases a with
  | zero =>
    unfold rtT at hT ⊢
    simp only at hT ⊢
    split at hT
    · next p hp => rw [pre_get h.1 hp]; exact hT
    · cases hT
  | succ j =>
    unfold rtT at hT ⊢
    simp only at hT ⊢
    rw [h.2.1 j hr]; exact hT
/-- where a reference comes from -/
def OgM (g : Sg) (A : Nat → Nat → Rx) (j : Nat) (m : Md) (u : Ux) (t : Ty) (og : Og) (r : Rx) : Prop :=
  (∃ k, k < 40 ∧ og.1.testBit k = true ∧ r.1 = (j + 1, k) ∧ (og.2 = false → r.2 = [])) ∨
  (∃ a, a < 8 ∧ og.1.testBit (40 + a) = true ∧ r.1 = (A j a).1 ∧ (A j a).2 <+: r.2 ∧ (og.2 = false → r.2 = (A j a).2) ∧ (isWr t = true → isWr (tgt (lty u) a) = true) ∧ a < u.2.1.length ∧ isRf (tgt (lty u) a) = true) ∨
  (∃ e c p, hsR u.1 = true ∧ og.1.testBit (48 + c) = true ∧ (c < 15 ∧ (isWr t = true → g.2.2 e = true)) ∧ r.1 = (0, e) ∧ g.1[e]? = some p ∧ p.1 = 3 ∧ p.2.2 / 256 = m.1 ∧ p.2.2 % 256 % 15 = c ∧ (og.2 = false → r.2 = []))
theorem and_bit {a b k : Nat} (h : a &&& b = a) (hk : a.testBit k = true) : b.testBit k = true := by
  rw [← h, Nat.testBit_and, Bool.and_eq_true] at hk
  exact hk.2
theorem OgM.le {g : Sg} {A : Nat → Nat → Rx} {j : Nat} {m : Md} {u : Ux} {t : Ty} {og og' : Og} {r : Rx} (h : OgM g A j m u t og r) (h1 : og.1 &&& og'.1 = og.1) (h2 : og.2 = true → og'.2 = true) : OgM g A j m u t og' r := by
  have hf : og'.2 = false → og.2 = false := fun z => by
    cases hh : og.2 with
    | false => rfl
    | true => rw [h2 hh] at z; cases z
  rcases h with ⟨k, a1, a2, a3, a4⟩ | ⟨a, a1, a2, a3, a4, a5, a6⟩ | ⟨e, c, p, a1, a2, a3, a4, a5, a6, a7, a8, a9⟩
  · exact Or.inl ⟨k, a1, and_bit h1 a2, a3, fun z => a4 (hf z)⟩
  · exact Or.inr (Or.inl ⟨a, a1, and_bit h1 a2, a3, a4, fun z => a5 (hf z), a6⟩)
  · exact Or.inr (Or.inr ⟨e, c, p, a1, and_bit h1 a2, a3, a4, a5, a6, a7, a8, fun z => a9 (hf z)⟩)
theorem OgM.wr {g : Sg} {A : Nat → Nat → Rx} {j : Nat} {m : Md} {u : Ux} {t t' : Ty} {og : Og} {r : Rx} (h : OgM g A j m u t og r) (h1 : isWr t' = true → isWr t = true) : OgM g A j m u t' og r := by
  rcases h with z | ⟨a, a1, a2, a3, a4, a5, a6, a7⟩ | ⟨e, c, p, a1, a2, a3, a4⟩
  · exact Or.inl z
  · exact Or.inr (Or.inl ⟨a, a1, a2, a3, a4, a5, fun q => a6 (h1 q), a7⟩)
  · exact Or.inr (Or.inr ⟨e, c, p, a1, a2, ⟨a3.1, fun q => a3.2 (h1 q)⟩, a4⟩)
/-- further in -/
theorem OgM.ins {g : Sg} {A : Nat → Nat → Rx} {j : Nat} {m : Md} {u : Ux} {t : Ty} {og : Og} {r : Rx} (h : OgM g A j m u t og r) (i : Nat) : OgM g A j m u t (og.1, true) (r.1, r.2 ++ [i]) := by
  rcases h with ⟨k, a1, a2, a3, a4⟩ | ⟨a, a1, a2, a3, a4, a5, a6⟩ | ⟨e, c, p, a1, a2, a3, a4, a5, a6, a7, a8, a9⟩
  · exact Or.inl ⟨k, a1, a2, a3, fun z => (by cases z)⟩
  · exact Or.inr (Or.inl ⟨a, a1, a2, a3, a4.trans (List.prefix_append _ _), fun z => (by cases z), a6⟩)
  · exact Or.inr (Or.inr ⟨e, c, p, a1, a2, a3, a4, a5, a6, a7, a8, fun z => (by cases z)⟩)
theorem OgM.m {g g' : Sg} {A A' : Nat → Nat → Rx} {n j : Nat} {m : Md} {u : Ux} {t : Ty} {og : Og} {r : Rx} (h : OgM g A j m u t og r) (hg : sgs n g g') (hA : A' j = A j) : OgM g' A' j m u t og r := by
  rcases h with z | ⟨a, a1, a2, a3, a4, a5, a6⟩ | ⟨e, c, p, a1, a2, a3, a4, a5, a6, a7, a8, a9⟩
  · exact Or.inl z
  · exact Or.inr (Or.inl ⟨a, a1, a2, by rw [hA]; exact a3, by rw [hA]; exact a4, by rw [hA]; exact a5, a6⟩)
  · exact Or.inr (Or.inr ⟨e, c, p, a1, a2, ⟨a3.1, fun q => hg.2.2 e (a3.2 q)⟩, a4, pre_get hg.1 a5, a6, a7, a8, a9⟩)
def RfT (W : Wd) (g : Sg) (A : Nat → Nat → Rx) (j : Nat) (m : Md) (u : Ux) (t : Ty) (og : Og) (r : Rx) : Prop := isRf t = true ∧ (∃ T, rtT W g r.1 = some T ∧ tpa W T r.2 = some (rty m t.tail)) ∧ r.1.1 ≤ j + 1 ∧ OgM g A j m u t og r
def ItT (W : Wd) (g : Sg) (A : Nat → Nat → Rx) (j : Nat) (m : Md) (u : Ux) (x : Ty × Og) (i : It) : Prop := match i with
  | .inl v => isRf x.1 = false ∧ VT W (rty m x.1) v
  | .inr r => RfT W g A j m u x.1 x.2 r
def StT (W : Wd) (g : Sg) (A : Nat → Nat → Rx) (j : Nat) (m : Md) (u : Ux) : List It → Sk → Prop
  | [], [] => True
  | i :: k, x :: sk => ItT W g A j m u x i ∧ StT W g A j m u k sk
  | _, _ => False
def LcT (W : Wd) (g : Sg) (A : Nat → Nat → Rx) (j : Nat) (m : Md) (u : Ux) (l : Nat → Option It) (ls : Ls) : Prop := (∀ k, k < nlo u → match lgt ls k with
    | some og => ∃ i, l k = some i ∧ ItT W g A j m u (tgt (lty u) k, og) i
    | none => l k = none ∨ ∃ v, l k = some (.inl v) ∧ isRf (tgt (lty u) k) = false ∧ VT W (rty m (tgt (lty u) k)) v) ∧ ∀ k, nlo u ≤ k → l k = none
theorem RfT.m {W : Wd} {g g' : Sg} {A A' : Nat → Nat → Rx} {n j : Nat} {m : Md} {u : Ux} {t : Ty} {og : Og} {r : Rx} (h : RfT W g A j m u t og r) (hg : sgs n g g') (hj : j < n) (hA : A' j = A j) : RfT W g' A' j m u t og r := by
  obtain ⟨h1, ⟨T, h2, h3⟩, h4, h5⟩ := h
  exact ⟨h1, ⟨T, rtT_m hg (by omega) h2, h3⟩, h4, h5.m hg hA⟩
theorem ItT.m {W : Wd} {g g' : Sg} {A A' : Nat → Nat → Rx} {n j : Nat} {m : Md} {u : Ux} {x : Ty × Og} {i : It} (h : ItT W g A j m u x i) (hg : sgs n g g') (hj : j < n) (hA : A' j = A j) : ItT W g' A' j m u x i := by
  cases i with
  | inl v => exact h
  | inr r => exact RfT.m h hg hj hA
theorem StT.m {W : Wd} {g g' : Sg} {A A' : Nat → Nat → Rx} {n j : Nat} {m : Md} {u : Ux} (hg : sgs n g g') (hj : j < n) (hA : A' j = A j) : ∀ {k : List It} {sk : Sk}, StT W g A j m u k sk → StT W g' A' j m u k sk
  | [], [], h => h
  | i :: k, x :: sk, h => ⟨h.1.m hg hj hA, StT.m hg hj hA h.2⟩
  | [], _ :: _, h => h.elim
  | _ :: _, [], h => h.elim
theorem LcT.m {W : Wd} {g g' : Sg} {A A' : Nat → Nat → Rx} {n j : Nat} {m : Md} {u : Ux} {l : Nat → Option It} {ls : Ls} (h : LcT W g A j m u l ls) (hg : sgs n g g') (hj : j < n) (hA : A' j = A j) : LcT W g' A' j m u l ls := by
  refine ⟨fun k hk => ?_, h.2⟩
  have := h.1 k hk
  cases hh : lgt ls k with
  | none => rw [hh] at this; exact this
  | some og =>
    rw [hh] at this
    obtain ⟨i, e1, e2⟩ := this
    exact ⟨i, e1, e2.m hg hj hA⟩
theorem ItT.le {W : Wd} {g : Sg} {A : Nat → Nat → Rx} {j : Nat} {m : Md} {u : Ux} {t : Ty} {og og' : Og} {i : It} (h : ItT W g A j m u (t, og) i) (h1 : og.1 &&& og'.1 = og.1) (h2 : og.2 = true → og'.2 = true) : ItT W g A j m u (t, og') i := by
  cases i with
  | inl v => exact h
  | inr r =>
    obtain ⟨e1, e2, e3, e4⟩ := (h : RfT W g A j m u t og r)
    exact show RfT W g A j m u t og' r from ⟨e1, e2, e3, e4.le h1 h2⟩
/-- on to what is noted -/
theorem LcT.nx {W : Wd} {g : Sg} {A : Nat → Nat → Rx} {j : Nat} {m : Md} {u : Ux} {l : Nat → Option It} {ls ls' : Ls} (h : LcT W g A j m u l ls) (hl : lsl ls ls') : LcT W g A j m u (fgl ls' l) ls' := by
  refine ⟨fun k hk => ?_, fun k hk => ?_⟩
  · have h1 := h.1 k hk
    have h2 := hl.2 k
    cases hh : lgt ls' k with
    | some og' =>
      obtain ⟨og, e1, e2, e3⟩ := h2 og' hh
      rw [e1] at h1
      obtain ⟨i, e4, e5⟩ := h1
      refine ⟨i, ?_, e5.le e2 e3⟩
      unfold fgl
      rw [e4]
      cases i with
      | inl v => rfl
      | inr r => simp only [hh]; rfl
    | none =>
      have key : (∃ i, l k = some i ∧ ((∃ r, i = .inr r) ∨ ∃ v, i = .inl v ∧ isRf (tgt (lty u) k) = false ∧ VT W (rty m (tgt (lty u) k)) v)) ∨ l k = none := by
        cases h3 : lgt ls k with
        | none =>
          rw [h3] at h1
          rcases h1 with z | ⟨v, z1, z2, z3⟩
          · exact Or.inr z
          · exact Or.inl ⟨_, z1, Or.inr ⟨v, rfl, z2, z3⟩⟩
        | some og =>
          rw [h3] at h1
          obtain ⟨i, e4, e5⟩ := h1
          refine Or.inl ⟨i, e4, ?_⟩
          cases i with
          | inl v => exact Or.inr ⟨v, rfl, e5.1, e5.2⟩
          | inr r => exact Or.inl ⟨r, rfl⟩
      show fgl ls' l k = none ∨ _
      unfold fgl
      rcases key with ⟨i, e1, z | ⟨v, z1, z2, z3⟩⟩ | z
      · obtain ⟨r, rfl⟩ := z
        rw [e1]
        simp only [hh]
        exact Or.inl rfl
      · subst z1
        rw [e1]
        exact Or.inr ⟨v, rfl, z2, z3⟩
      · rw [z]; exact Or.inl rfl
  · unfold fgl
    rw [h.2 k hk]
/-- a local is written -/
theorem LcT.put {W : Wd} {g : Sg} {A : Nat → Nat → Rx} {j : Nat} {m : Md} {u : Ux} {l : Nat → Option It} {ls : Ls} {k : Nat} {x : Option It} {og : Option Og} (h : LcT W g A j m u l ls) (hk : k < nlo u) (hl : ls.length = nlo u) (hx : match og with
    | some og => ∃ i, x = some i ∧ ItT W g A j m u (tgt (lty u) k, og) i
    | none => x = none ∨ ∃ v, x = some (.inl v) ∧ isRf (tgt (lty u) k) = false ∧ VT W (rty m (tgt (lty u) k)) v) : LcT W g A j m u (uLc l k x) (ls.set k og) := by
  refine ⟨fun i hi => ?_, fun i hi => ?_⟩
  · unfold uLc lgt
    by_cases c : i = k
    · subst c
      rw [List.getElem?_set_self (by omega), if_pos rfl]
      exact hx
    · rw [List.getElem?_set_ne (fun z => c z.symm), if_neg c]
      exact h.1 i hi
  · unfold uLc
    rw [if_neg (by omega)]; exact h.2 i hi
/-- a value in a local is changed -/
theorem LcT.chg {W : Wd} {g : Sg} {A : Nat → Nat → Rx} {j : Nat} {m : Md} {u : Ux} {l : Nat → Option It} {ls : Ls} {k : Nat} {v : VL} (h : LcT W g A j m u l ls) (hk : k < nlo u) (hr : isRf (tgt (lty u) k) = false) (hv : VT W (rty m (tgt (lty u) k)) v) : LcT W g A j m u (uLc l k (some (.inl v))) ls := by
  refine ⟨fun i hi => ?_, fun i hi => ?_⟩
  · unfold uLc
    by_cases c : i = k
    · subst c
      simp only [if_pos]
      cases hh : lgt ls i with
      | none => exact Or.inr ⟨v, rfl, hr, hv⟩
      | some og => exact ⟨_, rfl, hr, hv⟩
    · simp only [if_neg c]
      exact h.1 i hi
  · unfold uLc
    rw [if_neg (by omega)]; exact h.2 i hi
def EnT (W : Wd) (es : List En) : Prop := ∀ e ∈ es, e.1.1 = 3 → (∃ m, W (e.1.2.2 / 256) = some m ∧ e.1.2.2 % 256 < m.2.1.length) ∧ (e.2.2.1.1 = e.2.2.1.2.2.2.isSome) ∧ ∀ v, e.2.2.1.2.2.2 = some v → VT W [6, e.1.2.2] v
/-- values of roots have their types -/
def RTV (W : Wd) (s : Ms) : Prop := ∀ r T v, r.1 ≤ s.1 → rtT W (sgn s) r = some T → rtv s r = some v → VT W T v
def frU (W : Wd) (f : Fm) (m : Md) (u : Ux) : Prop := W f.1.1 = some m ∧ m.2.2.2.2.2[f.1.2]? = some u
theorem RTV.mk {W : Wd} {s : Ms} {A : Nat → Nat → Rx} {MM : Nat → Md} {UU : Nat → Ux} {LL : Nat → Ls} (hf : ∀ j, j < s.1 → frU W (s.2.1 j) (MM j) (UU j) ∧ LcT W (sgn s) A j (MM j) (UU j) (s.2.1 j).2.2.1 (LL j)) (he : EnT W (ens s)) : RTV W s := by
  rintro ⟨a, k⟩ T v hr hT hv
  cases a with
  | zero =>
    unfold rtT at hT
    unfold rtv at hv
    simp only at hT hv
    cases hh : (ens s)[k]? with
    | none => rw [hh] at hv; cases hv
    | some e =>
      rw [hh] at hv
      have h1 : (sgn s).1[k]? = some e.1 := by unfold sgn; rw [List.getElem?_map, hh]; rfl
      rw [h1] at hT
      simp only at hT
      split at hT
      · next c =>
        cases hT
        exact (he e (List.mem_of_getElem? hh) c).2.2 v hv
      · cases hT
  | succ j =>
    obtain ⟨⟨f1, f2⟩, fl⟩ := hf j hr
    unfold rtT at hT
    unfold rtv at hv
    simp only at hT hv
    have e1 : (sgn s).2.1 j = (s.2.1 j).1 := rfl
    rw [e1, f1] at hT
    simp only at hT
    rw [f2] at hT
    simp only at hT
    split at hT
    · next c =>
      cases hT
      have h1 := fl.1 k c.1
      split at hv
      · next w hw =>
        cases hv
        cases hh : lgt (LL j) k with
        | none =>
          rw [hh] at h1
          rcases h1 with z | ⟨v', z1, z2, z3⟩
          · rw [hw] at z; cases z
          · rw [hw] at z1; cases z1; exact z3
        | some og =>
          rw [hh] at h1
          obtain ⟨i, z1, z2⟩ := h1
          rw [hw] at z1; cases z1
          exact z2.2
      · cases hv
    · cases hT
/-- what a reference points to -/
theorem RfT.val {W : Wd} {s : Ms} {A : Nat → Nat → Rx} {j : Nat} {m : Md} {u : Ux} {t : Ty} {og : Og} {r : Rx} (h : RfT W (sgn s) A j m u t og r) (hj : j < s.1) (hv : RTV W s) (hd : (drf s r).isSome = true) : ∃ v, drf s r = some v ∧ VT W (rty m t.tail) v := by
  obtain ⟨h1, ⟨T, h2, h3⟩, h4, h5⟩ := h
  cases hh : drf s r with
  | none => rw [hh] at hd; cases hd
  | some v =>
    refine ⟨v, rfl, ?_⟩
    unfold drf at hh
    split at hh
    · next v0 e =>
      have := hv r.1 T v0 (by omega) h2 e
      obtain ⟨U, e1, e2⟩ := this.get hh
      rw [h3] at e1; cases e1
      exact e2
    · cases hh
