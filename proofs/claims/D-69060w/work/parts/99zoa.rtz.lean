/-! what a run's result says of its entries -/
/-- how many places more there are when a call is done -/
def Q0g (es' : List En) : Prop := (mor es' = 0 ∧ ∀ x ∈ es', x.1.1 < 4) ∨ ∃ es c, es' = es ++ [((4, 0, 0), c, (c.1, Int64.ofInt (c.2.1.toInt + mor es), c.2.2), true)] ∧ (∀ x ∈ es, x.1.1 < 4) ∧ c.2.1.toInt + mor es ≤ 256
theorem Q0g_m {env : Pc → Cn} {s : Ms} (h4 : ∀ x ∈ ens s, x.1.1 < 4) : rzE (fun o s => o = 0 → Q0g (ens s)) (mset env s) := by
  unfold mset
  by_cases c1 : tlg (ens s) = true
  · rw [if_pos c1]
    exact fun z => absurd z (show (2 : Nat) ≠ 0 by decide)
  · rw [if_neg c1]
    by_cases c2 : mor (ens s) = 0
    · rw [if_pos c2]
      exact fun _ => Or.inl ⟨c2, h4⟩
    · rw [if_neg c2]
      have hf : ((ens s).findIdx? fun e => e.1 == (4, 0, 0)) = none := by
        rw [List.findIdx?_eq_none_iff]
        intro x hx
        rw [beq_eq_false_iff_ne]
        intro e
        have := h4 x hx
        rw [e] at this
        exact absurd this (by decide)
      unfold mask
      rw [hf]
      show rzE _ (if (false && s.2.2.2.1 == 24) = true then _ else _)
      rw [if_neg (by simp)]
      have gx : (ens s ++ [(((4, 0, 0), env (4, 0, 0), env (4, 0, 0), false) : En)])[(ens s).length]? = some ((4, 0, 0), env (4, 0, 0), env (4, 0, 0), false) := by simp
      have ge : (ens ((s.1, s.2.1, ens s ++ [((4, 0, 0), env (4, 0, 0), env (4, 0, 0), false)], (if false = true then s.2.2.2.1 + 1 else s.2.2.2.1), gas s) : Ms))[(ens s).length]? = some ((4, 0, 0), env (4, 0, 0), env (4, 0, 0), false) := gx
      simp only [ge]
      have em : mor (ens ((s.1, s.2.1, ens s ++ [((4, 0, 0), env (4, 0, 0), env (4, 0, 0), false)], (if false = true then s.2.2.2.1 + 1 else s.2.2.2.1), gas s) : Ms)) = mor (ens s) := by
        show mor (ens s ++ [_]) = _
        rw [mor_ap, mo1_4 rfl, Int.add_zero]
      rw [em]
      split
      · rename_i c3
        intro _
        right
        refine ⟨ens s, env (4, 0, 0), ?_, h4, c3⟩
        unfold sEn
        simp only [ge]
        show (ens s ++ [_]).set (ens s).length _ = _
        rw [List.set_append_right _ _ (Nat.le_refl _), Nat.sub_self]
        rfl
      · exact fun z => absurd z (show (2 : Nat) ≠ 0 by decide)
def RTZ (W : Wd) (x : TxC) (r : TxR) : Prop := (r.1 ≠ 3 → ENQ W x.1 x.2.2.1 r.2.2.1) ∧ (r.1 = 0 → Q0g r.2.2.1)
section
variable {W : Wd} {D : Nat → Nat} {env : Pc → Cn} {s : Ms} {x : TxC}
theorem RTZ.beg {e : Int64 × List En} : RTZ W x (3, e.1, e.2, 0, [], 0) := ⟨fun q => absurd rfl q, fun q => by cases q⟩
theorem RTZ.end {e : Nat × Int64 × Ms} (hW : WV W) (hD : DW W D) (hE : EVW W env) (hl : x.2.2.1 ≤ 20000) (h : PIq W x.2.2.1 x.1 s) (hm : mstp W x.1 x.2.2.1 env s = some (.error e)) : RTZ W x (e.1, e.2.1, ens e.2.2, gas e.2.2, (if e.1 = 0 then rsv e.2.2 else []), 0) := by
  have st := (h.step hW hD hE hl).1
  rw [hm] at st
  obtain ⟨⟨p1, p2, p3, p4, p5⟩, -, -⟩ := st
  have hz := h.sz hl
  obtain ⟨h1, h2, h3, h4, h5, h6, h9⟩ := h
  obtain ⟨m, u, y, T⟩ := Inv.top hW hD h1 (by omega)
  have q0 := fo_mst (P := fun o s => o = 0 → Q0g (ens s)) (snd := x.1) (lim := x.2.2.1) (env := env) (fun o s o1 _ z => by omega) T (fun _ => Q0g_m h9)
  rw [hm] at q0
  exact ⟨fun _ => p5, q0⟩
end
