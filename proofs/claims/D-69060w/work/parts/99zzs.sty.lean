/-! the same type, whichever module names it -/
theorem bas_d : ∀ {t : Ty}, bas t = true → (∃ s b, t = s ++ [b] ∧ (∀ y ∈ s, y = 7) ∧ 1 ≤ b ∧ b ≤ 5) ∨ ∃ s k, t = s ++ [6, k] ∧ ∀ y ∈ s, y = 7
  | [], h => by simp [bas] at h
  | [b], h => by
    left
    refine ⟨[], b, rfl, by simp, ?_⟩
    have : decide (1 ≤ b ∧ b ≤ 5) = true := by
      unfold bas at h
      exact h
    simpa using this
  | b :: c :: r, h => by
    by_cases b7 : b = 7
    · subst b7
      rw [bas_7] at h
      rcases bas_d h with ⟨s, b, e, hs, hb⟩ | ⟨s, k, e, hs⟩
      · left
        exact ⟨7 :: s, b, by rw [e]; rfl, fun y hy => by
          rcases List.mem_cons.mp hy with q | q
          · exact q
          · exact hs y q, hb⟩
      · right
        exact ⟨7 :: s, k, by rw [e]; rfl, fun y hy => by
          rcases List.mem_cons.mp hy with q | q
          · exact q
          · exact hs y q⟩
    · right
      have : r = [] ∧ b = 6 := by
        unfold bas at h
        split at h
        · rename_i e; simp at e
        · rename_i e; cases e; exact ⟨rfl, rfl⟩
        · rename_i e; cases e; exact absurd rfl b7
        · cases h
      exact ⟨[], c, by rw [this.1, this.2]; rfl, by simp⟩
theorem gT_d {m : Md} {t : Ty} (h : gT m t) : (∃ s b, t = s ++ [b] ∧ (∀ y ∈ s, y ≠ 6) ∧ b ≠ 6) ∨ ∃ s k, t = s ++ [6, k] ∧ ∀ y ∈ s, y ≠ 6 := by
  have key : ∀ {r : Ty} (p : List Nat), (∀ y ∈ p, y ≠ 6) → bas r = true → (∃ s b, p ++ r = s ++ [b] ∧ (∀ y ∈ s, y ≠ 6) ∧ b ≠ 6) ∨ ∃ s k, p ++ r = s ++ [6, k] ∧ ∀ y ∈ s, y ≠ 6 := fun p hp hb => by
    rcases bas_d hb with ⟨s, b, e, hs, h1, h2⟩ | ⟨s, k, e, hs⟩
    · left
      refine ⟨p ++ s, b, by rw [e, List.append_assoc], fun y hy => ?_, by omega⟩
      rcases List.mem_append.mp hy with q | q
      · exact hp y q
      · rw [hs y q]; decide
    · right
      refine ⟨p ++ s, k, by rw [e, List.append_assoc], fun y hy => ?_⟩
      rcases List.mem_append.mp hy with q | q
      · exact hp y q
      · rw [hs y q]; decide
  obtain ⟨-, hw, -⟩ := h
  cases t with
  | nil => exact hw.elim
  | cons b r =>
    have hw : if b = 8 ∨ b = 9 then true = true ∧ bas r = true ∧ nve r ≤ 4 else bas (b :: r) = true ∧ nve (b :: r) ≤ 4 := hw
    split at hw
    · rename_i c
      exact key [b] (fun y hy => by rw [List.mem_singleton.mp hy]; omega) hw.2.1
    · exact key [] (by simp) hw.1
theorem rty_1 {m : Md} {b : Nat} (hb : b ≠ 6) : ∀ {s : List Nat}, (∀ y ∈ s, y ≠ 6) → rty m (s ++ [b]) = s ++ [b]
  | [], _ => by
    show rty m [b] = [b]
    rw [rty_c hb]; rfl
  | y :: s, h => by
    show rty m (y :: (s ++ [b])) = y :: (s ++ [b])
    rw [rty_c (h y (List.mem_cons_self ..)), rty_1 hb (fun z hz => h z (List.mem_cons_of_mem _ hz))]
theorem rty_2 {m : Md} {k : Nat} : ∀ {s : List Nat}, (∀ y ∈ s, y ≠ 6) → rty m (s ++ [6, k]) = s ++ [6, sid m k]
  | [], _ => rfl
  | y :: s, h => by
    show rty m (y :: (s ++ [6, k])) = y :: (s ++ [6, sid m k])
    rw [rty_c (h y (List.mem_cons_self ..)), rty_2 (fun z hz => h z (List.mem_cons_of_mem _ hz))]
theorem sidx_1 {b : Nat} (hb : b ≠ 6) : ∀ {s : List Nat}, (∀ y ∈ s, y ≠ 6) → sidx (s ++ [b]) = none
  | [], _ => rfl
  | y :: s, h => by
    show sidx (y :: (s ++ [b])) = none
    rw [sidx_b (h y (List.mem_cons_self ..)) (by simp), sidx_1 hb (fun z hz => h z (List.mem_cons_of_mem _ hz))]
theorem sidx_2 {k : Nat} : ∀ {s : List Nat}, (∀ y ∈ s, y ≠ 6) → sidx (s ++ [6, k]) = some k
  | [], _ => rfl
  | y :: s, h => by
    show sidx (y :: (s ++ [6, k])) = some k
    rw [sidx_b (h y (List.mem_cons_self ..)) (by simp), sidx_2 (fun z hz => h z (List.mem_cons_of_mem _ hz))]
theorem sid_e {m : Md} {k : Nat} (hk : k < nst m) : sid m k = 256 * smd m k + snb m k := by
  unfold sid smd snb
  by_cases c : k < m.2.1.length
  · rw [if_pos c, if_pos c, if_pos c]
  · rw [if_neg c, if_neg c, if_neg c]
    have hn : nst m = m.2.1.length + m.2.2.1.length := rfl
    rw [List.getElem?_eq_getElem (by omega)]
theorem sty_rty {m m' : Md} {t t' : Ty} (gt : gT m t) (gt' : gT m' t') (hb : ∀ k, k < nst m → snb m k < 256) (hb' : ∀ k, k < nst m' → snb m' k < 256) : sty m t m' t' = true ↔ rty m t = rty m' t' := by
  have tv := gt.ok.tv.1
  have tv' := gt'.ok.tv.1
  have pre : ∀ {u : Ty} {s : List Nat} {k : Nat}, TV u → u = s ++ [6, k] → TV (s ++ [6]) := fun {u s k} tu e => by
    obtain ⟨a1, a2, b, r, a3, a4, a5⟩ := tu
    have e2 : u = (s ++ [6]) ++ [k] := by rw [e, List.append_assoc]; rfl
    refine ⟨fun y hy => a1 y (by rw [e2]; exact List.mem_append_left _ hy), by rw [e2, List.length_append] at a2; omega, ?_⟩
    cases hs : s with
    | nil => exact ⟨6, [], rfl, by omega, by omega⟩
    | cons y s' =>
      refine ⟨y, s' ++ [6], rfl, ?_⟩
      rw [e, hs] at a3
      have : y = b := (List.cons.inj a3).1
      rw [this]; exact ⟨a4, a5⟩
  rcases gT_d gt with ⟨s, b, e, hs, hb6⟩ | ⟨s, k, e, hs⟩
  · rcases gT_d gt' with ⟨s', b', e', hs', hb6'⟩ | ⟨s', k', e', hs'⟩
    · have r1 : rty m t = t := by rw [e]; exact rty_1 hb6 hs
      have r2 : rty m' t' = t' := by rw [e']; exact rty_1 hb6' hs'
      have x1 : sidx t = none := by rw [e]; exact sidx_1 hb6 hs
      have x2 : sidx t' = none := by rw [e']; exact sidx_1 hb6' hs'
      unfold sty
      rw [x1, x2, r1, r2]
      simp only [decide_eq_true_eq]
      exact ⟨fun h => tyc_inj tv tv' h, fun h => by rw [h]⟩
    · have r1 : rty m t = t := by rw [e]; exact rty_1 hb6 hs
      have r2 : rty m' t' = s' ++ [6, sid m' k'] := by rw [e']; exact rty_2 hs'
      have x1 : sidx t = none := by rw [e]; exact sidx_1 hb6 hs
      have x2 : sidx t' = some k' := by rw [e']; exact sidx_2 hs'
      unfold sty
      rw [x1, x2, r1, r2]
      refine ⟨fun h => by (cases h), fun h => ?_⟩
      exfalso
      have : sidx t = some (sid m' k') := by rw [h]; exact sidx_2 hs'
      rw [x1] at this; cases this
  · rcases gT_d gt' with ⟨s', b', e', hs', hb6'⟩ | ⟨s', k', e', hs'⟩
    · have r1 : rty m t = s ++ [6, sid m k] := by rw [e]; exact rty_2 hs
      have r2 : rty m' t' = t' := by rw [e']; exact rty_1 hb6' hs'
      have x1 : sidx t = some k := by rw [e]; exact sidx_2 hs
      have x2 : sidx t' = none := by rw [e']; exact sidx_1 hb6' hs'
      unfold sty
      rw [x1, x2, r1, r2]
      refine ⟨fun h => by (cases h), fun h => ?_⟩
      exfalso
      have : sidx t' = some (sid m k) := by rw [← h]; exact sidx_2 hs
      rw [x2] at this; cases this
    · have r1 : rty m t = s ++ [6, sid m k] := by rw [e]; exact rty_2 hs
      have r2 : rty m' t' = s' ++ [6, sid m' k'] := by rw [e']; exact rty_2 hs'
      have x1 : sidx t = some k := by rw [e]; exact sidx_2 hs
      have x2 : sidx t' = some k' := by rw [e']; exact sidx_2 hs'
      have k1 := gt.2.2 k x1
      have k2 := gt'.2.2 k' x2
      have q1 : tyc t / 256 = tyc (s ++ [6]) := by
        have : tyc t = 256 * tyc (s ++ [6]) + k := by rw [e, ← tyc_snoc, List.append_assoc]; rfl
        have kb : k < 256 := gt.1 k (by rw [e]; simp)
        omega
      have q2 : tyc t' / 256 = tyc (s' ++ [6]) := by
        have : tyc t' = 256 * tyc (s' ++ [6]) + k' := by rw [e', ← tyc_snoc, List.append_assoc]; rfl
        have kb : k' < 256 := gt'.1 k' (by rw [e']; simp)
        omega
      have b1 := hb k k1
      have b2 := hb' k' k2
      unfold sty
      rw [x1, x2, r1, r2, q1, q2]
      simp only [Bool.and_eq_true, decide_eq_true_eq]
      rw [sid_e k1, sid_e k2]
      constructor
      · rintro ⟨h1, h2, h3⟩
        have := tyc_inj (pre tv e) (pre tv' e') h1
        have : s = s' := List.append_cancel_right this
        rw [this, h2, h3]
      · intro h
        have hl : s.length = s'.length := by have := congrArg List.length h; simp at this; exact this
        have hh := List.append_inj h hl
        have h2 := hh.2
        have h2 : 256 * smd m k + snb m k = 256 * smd m' k' + snb m' k' := by simpa using h2
        exact ⟨by rw [hh.1], by omega, by omega⟩
