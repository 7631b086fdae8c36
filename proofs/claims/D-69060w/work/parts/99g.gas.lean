/-! gas -/
def gR (lim : Nat) (s s2 : Ms) : Prop := gas s ≤ gas s2 ∧ gas s2 ≤ lim
section
variable {s s' : Ms} {lim : Nat}
theorem gR.K {k : List It} (h : gR lim s s') : gR lim s (sK s' k) := h
theorem gR.LK {lc : Nat → Option It} {k : List It} (h : gR lim s s') : gR lim s (sLK s' lc k) := h
theorem gR.P {i : It} (h : gR lim s s') : gR lim s (mpu s' i) := h
theorem gR.nx {m : Md} {u : Ux} {i : Nat} (h : gR lim s s') : gR lim s (nx m u i s') := h
theorem gR.ee {e : Nat} {f : En → En} (h : gR lim s s') : gR lim s (sEn s' e f) := by
  unfold gR
  rw [(sEn_n (s := s') (e := e) (f := f)).1]; exact h
theorem gR.W {r : Rx} {v : VL} (h : gR lim s s') : gR lim s (wrf s' r v) := by
  unfold gR
  rw [(wrf_n (s := s') (r := r) (w := v)).1]; exact h
theorem gR.A {d : Nat} {F : Nat → Fm} {es : List En} {n : Nat} (h : gR lim s s') : gR lim s (d, F, es, n, gas s') := h
theorem rzP.pyg {n : Nat} {k : Ms → Rz} (h : gR lim s s') (hk : gR lim s (sG s' (gas s' + n)) → rzP (gR lim s) (k (sG s' (gas s' + n)))) : rzP (gR lim s) (mpay lim n s' k) := by
  unfold mpay
  split
  · exact hk ⟨by show gas s ≤ gas s' + n; have := h.1; omega, by assumption⟩
  · exact ⟨by show gas s ≤ lim; have := h.1; have := h.2; omega, Nat.le_refl _⟩
theorem g_con {snd : Int64} {o a b : Nat} (h : gR lim s s') : rzP (gR lim s) (oCon snd o a b s') := rz_go (gR.P h)
theorem g_loc {o k : Nat} (h : gR lim s s') : rzP (gR lim s) (oLoc lim o k s') := by
  unfold oLoc
  repeat' (first | exact trivial | assumption | refine rzP.re ?_ | refine rzP.pyg ?_ (fun _ => ?_) | refine rz_go ?_ | refine gR.LK ?_ | refine gR.P ?_ | split)
theorem g_ref {o k : Nat} (h : gR lim s s') : rzP (gR lim s) (oRef lim o k s') := by
  unfold oRef
  repeat' (first | exact trivial | assumption | refine rzP.re ?_ | refine rzP.pyg ?_ (fun _ => ?_) | refine rz_go ?_ | refine gR.W ?_ | refine gR.K ?_ | refine gR.P ?_ | split)
theorem g_pck {m : Md} {k : Nat} (h : gR lim s s') : rzP (gR lim s) (oPck m k s') := by
  unfold oPck
  repeat' (first | exact trivial | assumption | refine rz_go ?_ | refine gR.K ?_ | split)
theorem g_unp {m : Md} {k : Nat} (h : gR lim s s') : rzP (gR lim s) (oUnp m k s') := by
  unfold oUnp
  repeat' (first | exact trivial | assumption | refine rzP.re ?_ | refine rz_go ?_ | refine gR.K ?_ | split)
theorem g_num {o : Nat} (h : gR lim s s') : rzP (gR lim s) (oNum lim o s') := by
  unfold oNum
  repeat' (first | exact trivial | assumption | refine rzP.re ?_ | refine rzP.nd ?_ ?_ | refine rzP.pyg ?_ (fun _ => ?_) | refine rz_st ?_ | refine rz_go ?_ | refine gR.K ?_ | split)
theorem g_vec {o b : Nat} (h : gR lim s s') : rzP (gR lim s) (oVec lim o b s') := by
  unfold oVec
  repeat' (first | exact trivial | assumption | refine rzP.re ?_ | refine rzP.nd ?_ ?_ | refine rzP.pyg ?_ (fun _ => ?_) | refine rz_st ?_ | refine rz_go ?_ | refine gR.P ?_ | refine gR.W ?_ | refine gR.K ?_ | split)
theorem g_rsK {o e : Nat} {v : VL} {t : List It} (h : gR lim s s') : rzP (gR lim s) (rsK lim o e v t s') := by
  unfold rsK
  repeat' (first | exact trivial | assumption | refine rzP.re ?_ | refine rzP.nd ?_ ?_ | refine rzP.pyg ?_ (fun _ => ?_) | refine rz_go ?_ | refine gR.ee ?_ | refine gR.K ?_ | split)
theorem g_res {snd : Int64} {env : Pc → Cn} {o k : Nat} {m : Md} (h : gR lim s s') : rzP (gR lim s) (oRes snd env lim o m k s') := by
  cases hs : stk s' with
  | nil => unfold oRes; rw [hs]; trivial
  | cons i t =>
    cases i with
    | inr r => unfold oRes; rw [hs]; trivial
    | inl v =>
      rw [oRes_k hs]
      exact rzP.re (rzP.msk h (fun i => g_rsK h) (fun i es n => g_rsK (gR.A h)))
theorem g_kc {e : Nat} {v : VL} {y : Int64} {t : List It} (h : gR lim s s') : rzP (gR lim s) (kc0 lim e v t s') ∧ rzP (gR lim s) (kc1 lim e y t s') ∧ rzP (gR lim s) (kc5 lim e t s') := by
  refine ⟨?_, ?_, ?_⟩
  · unfold kc0
    repeat' (first | exact trivial | assumption | refine rzP.pyg ?_ (fun _ => ?_) | refine rz_st ?_ | refine rz_go ?_ | refine gR.ee ?_ | refine gR.K ?_ | split)
  · unfold kc1
    repeat' (first | exact trivial | assumption | refine rzP.pyg ?_ (fun _ => ?_) | refine rz_st ?_ | refine rz_go ?_ | refine gR.ee ?_ | refine gR.K ?_ | split)
  · unfold kc5
    repeat' (first | exact trivial | assumption | refine rzP.pyg ?_ (fun _ => ?_) | refine rz_st ?_ | refine rz_go ?_ | refine gR.ee ?_ | refine gR.K ?_ | split)
theorem g_coi {snd : Int64} {env : Pc → Cn} {n : Nat} (h : gR lim s s') : rzP (gR lim s) (oCoi snd env lim n s') := by
  unfold oCoi
  split
  · split
    · exact rzP.re (rzP.msk h (fun i => (g_kc (y := 0) h).1) (fun i es n => (g_kc (y := 0) (gR.A h)).1))
    · trivial
  · split
    · split
      · refine rzP.re ?_
        split
        · exact rzP.msk h (fun i => (g_kc (v := (0, (0, 0), .leaf)) h).2.1) (fun i es n => (g_kc (v := (0, (0, 0), .leaf)) (gR.A h)).2.1)
        · trivial
      · trivial
    · split
      · repeat' (first | exact trivial | assumption | refine rzP.re ?_ | refine rzP.pyg ?_ (fun _ => ?_) | refine rz_st ?_ | refine rz_go ?_ | refine gR.K ?_ | split)
      · split
        · repeat' (first | exact trivial | assumption | refine rzP.re ?_ | refine rzP.pyg ?_ (fun _ => ?_) | refine rz_st ?_ | refine rz_go ?_ | refine gR.K ?_ | split)
        · split
          · repeat' (first | exact trivial | assumption | refine rzP.re ?_ | refine rzP.pyg ?_ (fun _ => ?_) | refine rz_st ?_ | refine rz_go ?_ | refine gR.K ?_ | split)
          · split
            · split
              · exact rzP.re (rzP.msk h (fun i => (g_kc (v := (0, (0, 0), .leaf)) (y := 0) h).2.2) (fun i es n => (g_kc (v := (0, (0, 0), .leaf)) (y := 0) (gR.A h)).2.2))
              · trivial
            · trivial
theorem g_mop {snd : Int64} {env : Pc → Cn} {m : Md} {x : Ix} (h : gR lim s s') : rzP (gR lim s) (mop snd env lim m x s') := by
  unfold mop
  split
  · split
    · exact rz_go (gR.K h)
    · trivial
  · repeat' (first | exact g_con h | exact g_loc h | exact g_ref h | exact g_pck h | exact g_unp h | exact g_num h | exact g_res h | exact g_vec h | split)
theorem g_call {W : Wd} {i : Nat} {m : Md} {u : Ux} {g : Nat × Nat} (h : gR lim s s') : rzP (gR lim s) (mcall W lim m u i g s') := by
  unfold mcall
  split
  · trivial
  · split
    · trivial
    · exact rzP.nd h (rzP.pyg h fun h' => rzP.re (rz_go h'))
theorem g_set {env : Pc → Cn} (h : gR lim s s') : rzP (gR lim s) (mset env s') := by
  unfold mset
  split
  · exact h
  · split
    · exact h
    · refine rzP.msk h (fun i => ?_) (fun i es n => ?_)
      · repeat' (first | exact trivial | assumption | refine rz_st ?_ | refine gR.ee ?_ | split)
      · have h' : gR lim s (s'.1, s'.2.1, es, n, gas s') := gR.A h
        repeat' (first | exact trivial | assumption | refine rz_st ?_ | refine gR.ee ?_ | split)
theorem g_end {env : Pc → Cn} {u : Ux} (h : gR lim s s') : rzP (gR lim s) (mend env u s') := by
  unfold mend
  refine rzP.re ?_
  split
  · exact g_set h
  · exact rzP.re (rz_go h)
theorem g_rb {r : Rz} {m : Md} {u : Ux} (h : rzP (gR lim s) r) : rzP (gR lim s) (rb r fun s => mgo (nx m u ((tpf s).2.1 + 1) s)) := by
  cases r with
  | none => trivial
  | some e => cases e <;> exact h
theorem gR.two {r : Rz} (h : rzP (gR lim (sG s (gas s + 1))) r) : rz2 (fun s2 => gas s < gas s2 ∧ gas s2 ≤ lim) (fun s2 => gas s ≤ gas s2 ∧ gas s2 ≤ lim) r := by
  have e : gas (sG s (gas s + 1)) = gas s + 1 := rfl
  cases r with
  | none => trivial
  | some z =>
    cases z with
    | ok s2 => exact ⟨by have := h.1; rw [e] at this; show gas s < gas s2; omega, h.2⟩
    | error z => exact ⟨by have := h.1; rw [e] at this; show gas s ≤ gas z.2.2; omega, h.2⟩
/-- an instruction costs something, and no more than there is -/
theorem g_mst {W : Wd} {snd : Int64} {env : Pc → Cn} (hg : gas s ≤ lim) : rz2 (fun s2 => gas s < gas s2 ∧ gas s2 ≤ lim) (fun s2 => gas s ≤ gas s2 ∧ gas s2 ≤ lim) (mstp W snd lim env s) := by
  unfold mstp
  split
  · trivial
  · rename_i m hm
    split
    · trivial
    · rename_i u hu
      split
      · trivial
      · rename_i x hx
        unfold mpay
        by_cases c : gas s + 1 ≤ lim
        · rw [if_pos c]
          have h : gR lim (sG s (gas s + 1)) (sG s (gas s + 1)) := ⟨Nat.le_refl _, c⟩
          have key : rzP (gR lim (sG s (gas s + 1))) (if x.1 = 1 then mend env u (sG s (gas s + 1))
            else if x.1 = 45 then (match stk (sG s (gas s + 1)) with
              | .inl v :: _ => mre (v.1 == 3) (mst 1 v.2.1.2 (sG s (gas s + 1)))
              | _ => none)
            else if x.1 = 2 then mgo (nx m u x.2.1 (sG s (gas s + 1)))
            else if x.1 < 5 ∧ 2 < x.1 then (match stk (sG s (gas s + 1)) with
              | .inl v :: t => mre (v.1 == 1) (mgo (nx m u (if (v.2.1.2 == 1) == (x.1 == 3) then x.2.1 else (tpf (sG s (gas s + 1))).2.1 + 1) (sK (sG s (gas s + 1)) t)))
              | _ => none)
            else if x.1 = 23 then (if x.2.1 < m.2.2.2.2.2.length then mcall W lim m u (tpf (sG s (gas s + 1))).2.1 (m.1, x.2.1) (sG s (gas s + 1))
              else match m.2.2.2.1[x.2.1 - m.2.2.2.2.2.length]? with
                | none => none
                | some c => if c.1 = 0 then rb (oCoi snd env lim c.2.1 (sG s (gas s + 1))) fun s => mgo (nx m u ((tpf s).2.1 + 1) s)
                  else mask env true (2, lN c.1, 0) (sG s (gas s + 1)) fun _ s => mcall W lim m u (tpf s).2.1 (c.1, c.2.1) s)
            else rb (mop snd env lim m x (sG s (gas s + 1))) fun s => mgo (nx m u ((tpf s).2.1 + 1) s)) := by
            generalize sG s (gas s + 1) = s' at *
            split
            · exact g_end h
            · split
              · split
                · exact rzP.re h
                · trivial
              · split
                · exact h
                · split
                  · split
                    · exact rzP.re (rz_go (gR.nx (gR.K h)))
                    · trivial
                  · split
                    · split
                      · exact g_call h
                      · split
                        · trivial
                        · split
                          · exact g_rb (g_coi h)
                          · exact rzP.msk h (fun i => g_call h) (fun i es n => g_call (gR.A h))
                    · exact g_rb (g_mop h)
          exact gR.two key
        · rw [if_neg c]
          exact ⟨hg, Nat.le_refl _⟩
end
