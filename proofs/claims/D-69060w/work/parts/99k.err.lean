/-! ends leave the frames; what can be cleared -/
def rzE (P : Nat → Ms → Prop) (r : Rz) : Prop := match r with
  | some (.error e) => P e.1 e.2.2
  | _ => True
def frE (s s2 : Ms) : Prop := s2.1 = s.1 ∧ s2.2.1 = s.2.1
/-- an end that is none of a call -/
def frO (s : Ms) (o : Nat) (s2 : Ms) : Prop := o ≠ 0 ∧ frE s s2
def frA (s : Ms) (_o : Nat) (s2 : Ms) : Prop := frE s s2
section
variable {P : Nat → Ms → Prop} {s s' : Ms} {lim : Nat}
theorem rzE.re {b : Bool} {k : Rz} (h : rzE P k) : rzE P (mre b k) := by
  unfold mre
  split
  · exact h
  · trivial
theorem rzE.nd {b : Bool} {w : Int64} {k : Rz} (h1 : P 2 s) (h : rzE P k) : rzE P (mnd b w s k) := by
  unfold mnd
  split
  · exact h
  · exact h1
theorem rzE.py {n : Nat} {k : Ms → Rz} (h1 : P 2 (sG s lim)) (h2 : rzE P (k (sG s (gas s + n)))) : rzE P (mpay lim n s k) := by
  unfold mpay
  split
  · exact h2
  · exact h1
theorem rzE.go : rzE P (mgo s) := trivial
theorem rzE.st {o : Nat} {c : Int64} (h : P o s) : rzE P (mst o c s) := h
theorem rzE.msk {env : Pc → Cn} {c : Bool} {p : Pc} {k : Nat → Ms → Rz} (h1 : P 2 s) (h2 : ∀ i, rzE P (k i s)) (h3 : ∀ i es n, rzE P (k i (s.1, s.2.1, es, n, gas s))) : rzE P (mask env c p s k) := by
  unfold mask
  split
  · exact h2 _
  · split
    · exact h1
    · exact h3 _ _ _
theorem rzE.rb {r : Rz} {m : Md} {u : Ux} (h : rzE P r) : rzE P (rb r fun s => mgo (nx m u ((tpf s).2.1 + 1) s)) := by
  cases r with
  | none => trivial
  | some e => cases e with
    | ok s => trivial
    | error e => exact h
theorem frE.rfl : frE s s := ⟨Eq.refl _, Eq.refl _⟩
theorem frE.en {i : Nat} {f : En → En} (h : frE s s') : frE s (sEn s' i f) := by
  refine ⟨(sEn_n (s := s') (e := i) (f := f)).2.2.trans h.1, ?_⟩
  have : (sEn s' i f).2.1 = s'.2.1 := by unfold sEn; split <;> rfl
  rw [this]; exact h.2
theorem fe_loc {o k : Nat} (h : frE s s') : rzE (frO s) (oLoc lim o k s') := by
  unfold oLoc
  repeat' (first | exact trivial | exact ⟨by decide, h⟩ | refine rzE.re ?_ | refine rzE.py ?_ ?_ | exact rzE.go | split)
theorem fe_ref {o k : Nat} (h : frE s s') : rzE (frO s) (oRef lim o k s') := by
  unfold oRef
  repeat' (first | exact trivial | exact ⟨by decide, h⟩ | refine rzE.re ?_ | refine rzE.py ?_ ?_ | exact rzE.go | split)
theorem fe_pck {m : Md} {k : Nat} : rzE (frO s) (oPck m k s') := by
  unfold oPck
  repeat' (first | exact trivial | exact rzE.go | split)
theorem fe_unp {m : Md} {k : Nat} : rzE (frO s) (oUnp m k s') := by
  unfold oUnp
  repeat' (first | exact trivial | refine rzE.re ?_ | exact rzE.go | split)
theorem fe_num {o : Nat} (h : frE s s') : rzE (frO s) (oNum lim o s') := by
  unfold oNum
  repeat' (first | exact trivial | exact ⟨by decide, h⟩ | refine rzE.re ?_ | refine rzE.nd ?_ ?_ | refine rzE.py ?_ ?_ | refine rzE.st ?_ | exact rzE.go | split)
theorem fe_vec {o b : Nat} (h : frE s s') : rzE (frO s) (oVec lim o b s') := by
  unfold oVec
  repeat' (first | exact trivial | exact ⟨by decide, h⟩ | refine rzE.re ?_ | refine rzE.nd ?_ ?_ | refine rzE.py ?_ ?_ | refine rzE.st ?_ | exact rzE.go | split)
theorem fe_rsK {o e : Nat} {v : VL} {t : List It} (h : frE s s') : rzE (frO s) (rsK lim o e v t s') := by
  unfold rsK
  repeat' (first | exact trivial | exact ⟨by decide, h⟩ | refine rzE.re ?_ | refine rzE.nd ?_ ?_ | refine rzE.py ?_ ?_ | exact rzE.go | split)
theorem fe_res {snd : Int64} {env : Pc → Cn} {o k : Nat} {m : Md} (h : frE s s') : rzE (frO s) (oRes snd env lim o m k s') := by
  cases hs : stk s' with
  | nil => unfold oRes; rw [hs]; trivial
  | cons i t =>
    cases i with
    | inr r => unfold oRes; rw [hs]; trivial
    | inl v =>
      rw [oRes_k hs]
      exact rzE.re (rzE.msk ⟨by decide, h⟩ (fun i => fe_rsK h) (fun i es n => fe_rsK (show frE s (s'.1, s'.2.1, es, n, gas s') from h)))
theorem fe_kc {e : Nat} {v : VL} {y : Int64} {t : List It} (h : frE s s') : rzE (frO s) (kc0 lim e v t s') ∧ rzE (frO s) (kc1 lim e y t s') ∧ rzE (frO s) (kc5 lim e t s') := by
  refine ⟨?_, ?_, ?_⟩
  · unfold kc0
    repeat' (first | exact trivial | exact ⟨by decide, h⟩ | refine rzE.py ?_ ?_ | refine rzE.st ?_ | exact rzE.go | split)
  · unfold kc1
    repeat' (first | exact trivial | exact ⟨by decide, h⟩ | refine rzE.py ?_ ?_ | refine rzE.st ?_ | exact rzE.go | split)
  · unfold kc5
    repeat' (first | exact trivial | exact ⟨by decide, h⟩ | refine rzE.py ?_ ?_ | refine rzE.st ?_ | exact rzE.go | split)
theorem fe_coi {snd : Int64} {env : Pc → Cn} {n : Nat} (h : frE s s') : rzE (frO s) (oCoi snd env lim n s') := by
  unfold oCoi
  split
  · split
    · exact rzE.re (rzE.msk ⟨by decide, h⟩ (fun i => (fe_kc (y := 0) h).1) (fun i es n => (fe_kc (y := 0) (show frE s (s'.1, s'.2.1, es, n, gas s') from h)).1))
    · trivial
  · split
    · split
      · refine rzE.re ?_
        split
        · exact rzE.msk ⟨by decide, h⟩ (fun i => (fe_kc (v := (0, (0, 0), .leaf)) h).2.1) (fun i es n => (fe_kc (v := (0, (0, 0), .leaf)) (show frE s (s'.1, s'.2.1, es, n, gas s') from h)).2.1)
        · trivial
      · trivial
    · split
      · repeat' (first | exact trivial | exact ⟨by decide, h⟩ | refine rzE.re ?_ | refine rzE.py ?_ ?_ | refine rzE.st ?_ | exact rzE.go | split)
      · split
        · repeat' (first | exact trivial | exact ⟨by decide, h⟩ | refine rzE.re ?_ | refine rzE.py ?_ ?_ | refine rzE.st ?_ | exact rzE.go | split)
        · split
          · repeat' (first | exact trivial | exact ⟨by decide, h⟩ | refine rzE.re ?_ | refine rzE.py ?_ ?_ | refine rzE.st ?_ | exact rzE.go | split)
          · split
            · split
              · exact rzE.re (rzE.msk ⟨by decide, h⟩ (fun i => (fe_kc (v := (0, (0, 0), .leaf)) (y := 0) h).2.2) (fun i es n => (fe_kc (v := (0, (0, 0), .leaf)) (y := 0) (show frE s (s'.1, s'.2.1, es, n, gas s') from h)).2.2))
              · trivial
            · trivial
theorem fe_mop {snd : Int64} {env : Pc → Cn} {m : Md} {x : Ix} (h : frE s s') : rzE (frO s) (mop snd env lim m x s') := by
  unfold mop
  split
  · split
    · exact rzE.go
    · trivial
  · repeat' (first | exact rzE.go | exact fe_loc h | exact fe_ref h | exact fe_pck | exact fe_unp | exact fe_num h | exact fe_res h | exact fe_vec h | split)
theorem fe_call {W : Wd} {i : Nat} {m : Md} {u : Ux} {g : Nat × Nat} (h : frE s s') : rzE (frO s) (mcall W lim m u i g s') := by
  unfold mcall
  split
  · trivial
  · split
    · trivial
    · exact rzE.nd ⟨by decide, h⟩ (rzE.py ⟨by decide, h⟩ (rzE.re rzE.go))
theorem fe_end {env : Pc → Cn} {u : Ux} (h : frE s s') : rzE (frA s) (mend env u s') := by
  unfold mend
  refine rzE.re ?_
  split
  · unfold mset
    split
    · exact h
    · split
      · exact h
      · refine rzE.msk (P := frA s) h (fun i => ?_) (fun i es n => ?_)
        · split
          · trivial
          · split
            · exact frE.en h
            · exact h
        · split
          · trivial
          · split
            · exact frE.en (s' := (s'.1, s'.2.1, es, n, gas s')) h
            · exact h
  · exact rzE.re rzE.go
theorem rzE.mono {Q : Nat → Ms → Prop} {r : Rz} (h : rzE P r) (hq : ∀ o s, P o s → Q o s) : rzE Q r := by
  cases r with
  | none => trivial
  | some e => cases e with
    | ok s => trivial
    | error e => exact hq _ _ h
theorem fe_mst {W : Wd} {snd : Int64} {env : Pc → Cn} {m : Md} {u : Ux} {x : Ix} (T : TOPI W s m u x) : rzE (frA s) (mstp W snd lim env s) ∧ (x.1 ≠ 1 → rzE (frO s) (mstp W snd lim env s)) := by
  obtain ⟨⟨t1, t2, t3⟩, -, -⟩ := T
  rw [mstp_1 t1 t2 t3]
  have h : frE s (sG s (gas s + 1)) := frE.rfl
  have main : x.1 ≠ 1 → rzE (frO s) (mpay lim 1 s (mst1 W snd lim env m u x)) := fun c1 => by
    refine rzE.py ⟨by decide, frE.rfl⟩ ?_
    generalize sG s (gas s + 1) = s' at *
    unfold mst1
    rw [if_neg c1]
    split
    · split
      · exact rzE.re ⟨Nat.one_ne_zero, h⟩
      · trivial
    · split
      · unfold mbr
        split
        · exact rzE.go
        · split
          · exact rzE.re rzE.go
          · trivial
      · split
        · unfold mcl
          split
          · exact fe_call h
          · split
            · trivial
            · split
              · exact rzE.rb (fe_coi h)
              · exact rzE.msk ⟨by decide, h⟩ (fun i => fe_call h) (fun i es n => fe_call (show frE s (s'.1, s'.2.1, es, n, gas s') from h))
        · exact rzE.rb (fe_mop h)
  refine ⟨?_, main⟩
  by_cases c1 : x.1 = 1
  · refine rzE.py frE.rfl ?_
    unfold mst1
    rw [if_pos c1]
    exact fe_end h
  · exact (main c1).mono fun _ _ z => z.2
end
/-- values that can go -/
def CLR (s : Ms) : Prop := (∀ j, j < s.1 → (∀ v, (Sum.inl v : It) ∈ (s.2.1 j).2.2.2 → VW v) ∧ ∀ k v, (s.2.1 j).2.2.1 k = some (.inl v) → VW v) ∧ ∀ x ∈ ens s, ∀ v, x.2.2.1.2.2.2 = some v → VW v
section
variable {W : Wd} {D : Nat → Nat} {s s2 : Ms} {snd : Int64} {lim : Nat}
theorem ENQ.no3 {es : List En} (q : ENQ W snd lim es) {x : En} (hx : x ∈ es) (h3 : x.1.1 ≠ 3) : x.2.2.1.2.2.2 = none := by
  obtain ⟨i, hi, ei⟩ := List.mem_iff_getElem.mp hx
  obtain ⟨a, b, c, d⟩ := q.2.2 i x (by rw [List.getElem?_eq_getElem hi, ei])
  have b2 := b.2.1 h3
  have e : (bsE lim i x).1 = x.1 := by unfold bsE; split <;> rfl
  have v : (bsE lim i x).2.2.1.2.2.2 = x.2.1.2.2.2 := by unfold bsE; split <;> rfl
  by_cases c1 : x.1.1 = 1
  · have := (c.2.2.2.2.2.1 (by rw [e]; exact c1)).2
    rw [congrArg Prod.snd this, v, b2]
  · by_cases c2 : x.1.1 = 2
    · have := c.2.2.2.2.1 (by rw [e]; exact c2)
      rw [congrArg (fun z => z.1.2.2.2) this, v, b2]
    · have c4 : x.1.1 = 4 := by omega
      have := (c.2.2.2.2.2.2.2 (by rw [e]; exact c4)).2
      rw [congrArg Prod.snd this, v, b2]
theorem PIq.clr (hW : WV W) (hD : DW W D) (hl : lim ≤ 20000) (h : PIq W lim snd s) : CLR s := by
  have hz := h.sz hl
  obtain ⟨A, MM, UU, SS, LL, KK, SJ, hc, -⟩ := h.1
  refine ⟨fun j hj => ⟨fun v hv => i_frs hc hW hD (by omega) hj hv, fun k v hv => i_frl hc hW hD (by omega) hj hv⟩, fun x hx v hv => ?_⟩
  by_cases c : x.1.1 = 3
  · exact i_en hc hW hD (by omega) hx c hv
  · rw [h.2.2.2.2.1.no3 hx c] at hv; cases hv
theorem PEq.en (hW : WV W) (hD : DW W D) (hl : lim ≤ 20000) (h : PEq W lim snd s) : ∀ x ∈ ens s, ∀ v, x.2.2.1.2.2.2 = some v → VW v := fun x hx v hv => by
  obtain ⟨h1, h2, h3, h4, h5⟩ := h
  by_cases c : x.1.1 = 3
  · have hT := (h1 x hx c).2.2 v hv
    obtain ⟨i, hi, ei⟩ := List.mem_iff_getElem.mp hx
    have := rtv_sz (s := s) (r := ((0, i), [])) (v := v) ⟨Nat.zero_le _, fun z => absurd rfl z⟩ (by
      show (match (ens s)[i]? with | some e => e.2.2.1.2.2.2 | none => none) = some v
      rw [List.getElem?_eq_getElem hi, ei]; exact hv)
    refine hT.vw hW hD ?_
    have e : vsz v = 1 + fsz v.2.2 := rfl
    omega
  · rw [h5.no3 hx c] at hv; cases hv
theorem CLR.of (h : CLR s) (hf : frE s s2) (he : ∀ x ∈ ens s2, ∀ v, x.2.2.1.2.2.2 = some v → VW v) : CLR s2 := ⟨fun j hj => by rw [hf.2]; exact h.1 j (by rw [← hf.1]; exact hj), he⟩
end
