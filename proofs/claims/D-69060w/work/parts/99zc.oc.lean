/-! which outcomes there are -/
abbrev oP (P : Nat → Ms → Prop) : Prop := ∀ o s, 1 ≤ o → o < 3 → P o s
section
variable {s s' : Ms} {lim : Nat} {P : Nat → Ms → Prop}
theorem fo_loc (hP : oP P) {o k : Nat} (h : frE s s') : rzE P (oLoc lim o k s') := by
  unfold oLoc
  repeat' (first | exact trivial | exact hP _ _ (by decide) (by decide) | refine rzE.re ?_ | refine rzE.py ?_ ?_ | exact rzE.go | split)
theorem fo_ref (hP : oP P) {o k : Nat} (h : frE s s') : rzE P (oRef lim o k s') := by
  unfold oRef
  repeat' (first | exact trivial | exact hP _ _ (by decide) (by decide) | refine rzE.re ?_ | refine rzE.py ?_ ?_ | exact rzE.go | split)
theorem fo_pck (hP : oP P) {m : Md} {k : Nat} : rzE P (oPck m k s') := by
  unfold oPck
  repeat' (first | exact trivial | exact rzE.go | split)
theorem fo_unp (hP : oP P) {m : Md} {k : Nat} : rzE P (oUnp m k s') := by
  unfold oUnp
  repeat' (first | exact trivial | refine rzE.re ?_ | exact rzE.go | split)
theorem fo_num (hP : oP P) {o : Nat} (h : frE s s') : rzE P (oNum lim o s') := by
  unfold oNum
  repeat' (first | exact trivial | exact hP _ _ (by decide) (by decide) | refine rzE.re ?_ | refine rzE.nd ?_ ?_ | refine rzE.py ?_ ?_ | refine rzE.st ?_ | exact rzE.go | split)
theorem fo_vec (hP : oP P) {o b : Nat} (h : frE s s') : rzE P (oVec lim o b s') := by
  unfold oVec
  repeat' (first | exact trivial | exact hP _ _ (by decide) (by decide) | refine rzE.re ?_ | refine rzE.nd ?_ ?_ | refine rzE.py ?_ ?_ | refine rzE.st ?_ | exact rzE.go | split)
theorem fo_rsK (hP : oP P) {o e : Nat} {v : VL} {t : List It} (h : frE s s') : rzE P (rsK lim o e v t s') := by
  unfold rsK
  repeat' (first | exact trivial | exact hP _ _ (by decide) (by decide) | refine rzE.re ?_ | refine rzE.nd ?_ ?_ | refine rzE.py ?_ ?_ | exact rzE.go | split)
theorem fo_res (hP : oP P) {snd : Int64} {env : Pc → Cn} {o k : Nat} {m : Md} (h : frE s s') : rzE P (oRes snd env lim o m k s') := by
  cases hs : stk s' with
  | nil => unfold oRes; rw [hs]; trivial
  | cons i t =>
    cases i with
    | inr r => unfold oRes; rw [hs]; trivial
    | inl v =>
      rw [oRes_k hs]
      exact rzE.re (rzE.msk (hP _ _ (by decide) (by decide)) (fun i => fo_rsK hP h) (fun i es n => fo_rsK hP (show frE s (s'.1, s'.2.1, es, n, gas s') from h)))
theorem fo_kc (hP : oP P) {e : Nat} {v : VL} {y : Int64} {t : List It} (h : frE s s') : rzE P (kc0 lim e v t s') ∧ rzE P (kc1 lim e y t s') ∧ rzE P (kc5 lim e t s') := by
  refine ⟨?_, ?_, ?_⟩
  · unfold kc0
    repeat' (first | exact trivial | exact hP _ _ (by decide) (by decide) | refine rzE.py ?_ ?_ | refine rzE.st ?_ | exact rzE.go | split)
  · unfold kc1
    repeat' (first | exact trivial | exact hP _ _ (by decide) (by decide) | refine rzE.py ?_ ?_ | refine rzE.st ?_ | exact rzE.go | split)
  · unfold kc5
    repeat' (first | exact trivial | exact hP _ _ (by decide) (by decide) | refine rzE.py ?_ ?_ | refine rzE.st ?_ | exact rzE.go | split)
theorem fo_coi (hP : oP P) {snd : Int64} {env : Pc → Cn} {n : Nat} (h : frE s s') : rzE P (oCoi snd env lim n s') := by
  unfold oCoi
  split
  · split
    · exact rzE.re (rzE.msk (hP _ _ (by decide) (by decide)) (fun i => (fo_kc hP (y := 0) h).1) (fun i es n => (fo_kc hP (y := 0) (show frE s (s'.1, s'.2.1, es, n, gas s') from h)).1))
    · trivial
  · split
    · split
      · refine rzE.re ?_
        split
        · exact rzE.msk (hP _ _ (by decide) (by decide)) (fun i => (fo_kc hP (v := (0, (0, 0), .leaf)) h).2.1) (fun i es n => (fo_kc hP (v := (0, (0, 0), .leaf)) (show frE s (s'.1, s'.2.1, es, n, gas s') from h)).2.1)
        · trivial
      · trivial
    · split
      · repeat' (first | exact trivial | exact hP _ _ (by decide) (by decide) | refine rzE.re ?_ | refine rzE.py ?_ ?_ | refine rzE.st ?_ | exact rzE.go | split)
      · split
        · repeat' (first | exact trivial | exact hP _ _ (by decide) (by decide) | refine rzE.re ?_ | refine rzE.py ?_ ?_ | refine rzE.st ?_ | exact rzE.go | split)
        · split
          · repeat' (first | exact trivial | exact hP _ _ (by decide) (by decide) | refine rzE.re ?_ | refine rzE.py ?_ ?_ | refine rzE.st ?_ | exact rzE.go | split)
          · split
            · split
              · exact rzE.re (rzE.msk (hP _ _ (by decide) (by decide)) (fun i => (fo_kc hP (v := (0, (0, 0), .leaf)) (y := 0) h).2.2) (fun i es n => (fo_kc hP (v := (0, (0, 0), .leaf)) (y := 0) (show frE s (s'.1, s'.2.1, es, n, gas s') from h)).2.2))
              · trivial
            · trivial
theorem fo_mop (hP : oP P) {snd : Int64} {env : Pc → Cn} {m : Md} {x : Ix} (h : frE s s') : rzE P (mop snd env lim m x s') := by
  unfold mop
  split
  · split
    · exact rzE.go
    · trivial
  · repeat' (first | exact rzE.go | exact fo_loc hP h | exact fo_ref hP h | exact fo_pck hP | exact fo_unp hP | exact fo_num hP h | exact fo_res hP h | exact fo_vec hP h | split)
theorem fo_call (hP : oP P) {W : Wd} {i : Nat} {m : Md} {u : Ux} {g : Nat × Nat} (h : frE s s') : rzE P (mcall W lim m u i g s') := by
  unfold mcall
  split
  · trivial
  · split
    · trivial
    · exact rzE.nd (hP _ _ (by decide) (by decide)) (rzE.py (hP _ _ (by decide) (by decide)) (rzE.re rzE.go))
theorem fo_end {env : Pc → Cn} {u : Ux} (h0 : (stk s').length = u.2.2.1.length → rzE P (mset env s')) : rzE P (mend env u s') := by
  unfold mend mre
  split
  · rename_i c
    split
    · exact h0 (by simpa using c)
    · exact rzE.re rzE.go
  · trivial
theorem fo_mst (hP : oP P) {W : Wd} {snd : Int64} {env : Pc → Cn} {m : Md} {u : Ux} {x : Ix} (T : TOPI W s m u x) (h0 : (stk (sG s (gas s + 1))).length = u.2.2.1.length → rzE P (mset env (sG s (gas s + 1)))) : rzE P (mstp W snd lim env s) := by
  obtain ⟨⟨t1, t2, t3⟩, -, -⟩ := T
  rw [mstp_1 t1 t2 t3]
  have h : frE s (sG s (gas s + 1)) := frE.rfl
  have main : x.1 ≠ 1 → rzE P (mpay lim 1 s (mst1 W snd lim env m u x)) := fun c1 => by
    refine rzE.py (hP _ _ (by decide) (by decide)) ?_
    clear h0
    generalize sG s (gas s + 1) = s' at *
    unfold mst1
    rw [if_neg c1]
    split
    · split
      · exact rzE.re (hP 1 s' (by decide) (by decide))
      · trivial
    · split
      · unfold mbr
        split
        · exact rzE.go
        · split
          · exact rzE.re rzE.go
          · trivial
      · split
        · unfold mcl
          split
          · exact fo_call hP h
          · split
            · trivial
            · split
              · exact rzE.rb (fo_coi hP h)
              · exact rzE.msk (hP _ _ (by decide) (by decide)) (fun i => fo_call hP h) (fun i es n => fo_call hP (show frE s (s'.1, s'.2.1, es, n, gas s') from h))
        · exact rzE.rb (fo_mop hP h)
  by_cases c1 : x.1 = 1
  · refine rzE.py (hP _ _ (by decide) (by decide)) ?_
    unfold mst1
    rw [if_pos c1]
    exact fo_end h0
  · exact main c1
/-- an outcome is one of three -/
theorem oc_mst {W : Wd} {snd : Int64} {env : Pc → Cn} {m : Md} {u : Ux} {x : Ix} (T : TOPI W s m u x) : rzE (fun o _ => o < 3) (mstp W snd lim env s) := by
  refine fo_mst (fun o s _ h => h) T (fun _ => ?_)
  unfold mset
  split
  · exact show (2 : Nat) < 3 by decide
  · split
    · exact show (0 : Nat) < 3 by decide
    · refine rzE.msk (P := fun o _ => o < 3) (show (2 : Nat) < 3 by decide) (fun i => ?_) (fun i es n => ?_)
      · split
        · trivial
        · split
          · exact show (0 : Nat) < 3 by decide
          · exact show (2 : Nat) < 3 by decide
      · split
        · trivial
        · split
          · exact show (0 : Nat) < 3 by decide
          · exact show (2 : Nat) < 3 by decide
end
