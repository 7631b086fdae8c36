/-! entries: how they are found -/
/-- places of entries, and the entries' own cells -/
def EtS (h : AH) (E n : Nat) : Prop := (h.tag E = some (8, 0) ∧ h.R 1024 E = some (E + 1) ∧ h.tag (E + 1) = some (342, n)) ∧ ∀ e, e < n → h.ER 342 (E + 1) e = some (E + 2 + e) ∧ h.tag (E + 2 + e) = some (9, 0)
def EtP (h : AH) (E n : Nat) (ps : List Pc) : Prop := EtS h E n ∧ (h.I 1025 E = nI ps.length ∧ ps.length ≤ n ∧ n ≤ 1000) ∧ ∀ (e : Nat) (p : Pc), ps[e]? = some p → (h.I 1152 (E + 2 + e) = nI p.1 ∧ h.J 1153 (E + 2 + e) = p.2.1 ∧ h.I 1154 (E + 2 + e) = nI p.2.2) ∧ PB p
theorem Pc.eq {p q : Pc} (hp : PB p) (hq : PB q) : (nI p.1 = nI q.1 ∧ p.2.1 = q.2.1 ∧ nI p.2.2 = nI q.2.2) ↔ p = q := by
  obtain ⟨h1, h2⟩ := hp
  obtain ⟨h3, h4⟩ := hq
  rw [nI_eq (by omega) (by omega), nI_eq (by omega) (by omega)]
  constructor
  · rintro ⟨e1, e2, e3⟩
    exact Prod.ext e1 (Prod.ext e2 e3)
  · rintro rfl
    exact ⟨rfl, rfl, rfl⟩
section
variable {G : Gt} {d : Nat} {h : AH} {K : Outcome → AH → Prop}
theorem eisAt_ok {a : Nat} {p q : Pc} (t0 : h.tag a = some (9, 0)) (h1 : h.I 1152 a = nI p.1) (h2 : h.J 1153 a = p.2.1) (h3 : h.I 1154 a = nI p.2.2) (hp : PB p) (hq : PB q) (kk : K (.returned (some (.int (bI (p == q))))) h) : MW G d e_X10_isAt [.ref a, .int (nI q.1), .long q.2.1, .int (nI q.2.2)] h K := by
  refine st_X10_isAt fun X oo hG hD _ => ?_
  subst hG; subst hD
  have key : ∀ b, b = bI (p == q) → V X K 31 [.ref a, .int (nI q.1), .long q.2.1, nov, .int (nI q.2.2)] [.int b] h := fun b hb => by
    subst hb
    exact k_X10_isAt_31 oo kk
  have pe := Pc.eq hp hq
  by_cases c1 : nI p.1 = nI q.1
  · refine k_X10_isAt_0 (r2 := h1) oo (fun c => absurd c1 c) (fun _ => ?_)
    by_cases c2 : p.2.1 = q.2.1
    · refine k_X10_isAt_8 (r2 := h2) oo (fun c => absurd c2 c) (fun _ => ?_)
      by_cases c3 : nI p.2.2 = nI q.2.2
      · refine k_X10_isAt_17 (r2 := h3) oo (fun c => absurd c3 c) (fun _ => ?_)
        refine k_X10_isAt_26 oo (key _ ?_)
        rw [pe.mp ⟨c1, c2, c3⟩]; simp [bI]; rfl
      · refine k_X10_isAt_17 (r2 := h3) oo (fun _ => ?_) (fun c => absurd c c3)
        refine k_X10_isAt_30 oo (key _ ?_)
        rw [show (p == q) = false from beq_eq_false_iff_ne.mpr fun e => c3 (pe.mpr e).2.2]; rfl
    · refine k_X10_isAt_8 (r2 := h2) oo (fun _ => ?_) (fun c => absurd c c2)
      refine k_X10_isAt_30 oo (key _ ?_)
      rw [show (p == q) = false from beq_eq_false_iff_ne.mpr fun e => c2 (pe.mpr e).2.1]; rfl
  · refine k_X10_isAt_0 (r2 := h1) oo (fun _ => ?_) (fun c => absurd c c1)
    refine k_X10_isAt_30 oo (key _ ?_)
    rw [show (p == q) = false from beq_eq_false_iff_ne.mpr fun e => c1 (pe.mpr e).1]; rfl
theorem find_ok {E n : Nat} {ps : List Pc} {q : Pc} (s : EtP h E n ps) (hq : PB q) (hd : 1 ≤ d) (kk : K (.returned (some (va_rf ((ps.findIdx? fun p => p == q).map fun e => E + 2 + e)))) h) : MW G d e_X9_find [.ref E, .int (nI q.1), .long q.2.1, .int (nI q.2.2)] h K := by
  refine st_X9_find fun X oo hG hD _ => ?_
  subst hG; subst hD
  obtain ⟨⟨⟨s1, s2, s3⟩, s4⟩, ⟨s5, s6, s7⟩, s8⟩ := s
  have key : ∀ (m i : Nat), m + i = ps.length → ((ps.take i).findIdx? fun p => p == q) = none → V X K 6 [.ref E, .int (nI q.1), .long q.2.1, nov, .int (nI q.2.2), .null, .int (nI i)] [] h := by
    intro m
    induction m with
    | zero =>
      intro i hm hf
      refine k_X9_find_6 (r2 := s5) oo (fun _ => ?_) (fun c => absurd ((nI_leI (by omega) (by omega)).mpr (by omega)) c)
      refine k_X9_find_52 oo ?_
      rw [List.take_of_length_le (by omega)] at hf
      rw [hf] at kk
      exact kk
    | succ m ih =>
      intro i hm hf
      obtain ⟨p, hp⟩ : ∃ p, ps[i]? = some p := ⟨_, List.getElem?_eq_getElem (by omega)⟩
      obtain ⟨⟨p1, p2, p3⟩, p4⟩ := s8 i p hp
      obtain ⟨q1, q2⟩ := s4 i (by omega)
      have ix : IX (nI i) n i := IX.mk (by omega) (by omega)
      have etk : ps.take (i + 1) = ps.take i ++ [p] := by rw [List.take_add_one, hp]; rfl
      refine k_X9_find_6 (r2 := s5) oo (fun c => absurd ((nI_leI (by omega) (by omega)).mp c) (by omega)) (fun _ => ?_)
      refine k_X9_find_15 (l5 := none) oo (fun _ => ?_) (fun a c => by cases c)
      refine k_X9_find_20 oo ?_
      refine eisAt_ok q2 p1 p2 p3 p4 hq ?_
      by_cases c : p = q
      · have cb : (p == q) = true := by rw [c]; simp
        rw [cb]
        refine k_X9_find_34 oo (fun c => absurd (show bI true = 0 from c) (by decide)) (fun _ => ?_)
        refine k_X9_find_37 oo ?_
        refine k_X9_find_46 oo ?_
        rw [nI_add]
        -- found
        have ef : (ps.findIdx? fun p => p == q) = some i := by
          rw [List.findIdx?_eq_some_iff_getElem]
          refine ⟨by omega, ?_, fun j hj => ?_⟩
          · rw [List.getElem?_eq_getElem (by omega)] at hp
            rw [Option.some.inj hp]; exact cb
          · rw [List.findIdx?_eq_none_iff] at hf
            have : ps[j] ∈ ps.take i := by
              rw [List.mem_take_iff_getElem]
              exact ⟨j, by omega, rfl⟩
            have := hf _ this
            simpa using this
        rw [ef] at kk
        have fin : V X K 52 [.ref E, .int (nI q.1), .long q.2.1, nov, .int (nI q.2.2), .ref (E + 2 + i), .int (nI (i + 1))] [] h := k_X9_find_52 oo kk
        by_cases c2 : ps.length ≤ i + 1
        · exact k_X9_find_6 (r2 := s5) oo (fun _ => fin) (fun c => absurd ((nI_leI (by omega) (by omega)).mpr (by omega)) c)
        · refine k_X9_find_6 (r2 := s5) oo (fun c => absurd ((nI_leI (by omega) (by omega)).mp c) (by omega)) (fun _ => ?_)
          exact k_X9_find_15 (l5 := some (E + 2 + i)) oo (fun c => by cases c) (fun a c => by rw [← Option.some.inj c]; exact fin)
      · have cb : (p == q) = false := beq_eq_false_iff_ne.mpr c
        rw [cb]
        refine k_X9_find_34 oo (fun _ => ?_) (fun c => absurd rfl c)
        refine k_X9_find_46 oo ?_
        rw [nI_add]
        refine ih (i + 1) (by omega) ?_
        rw [etk, List.findIdx?_append, hf]
        simp [cb]
  refine k_X9_find_0 oo ?_
  exact key ps.length 0 (by omega) rfl
end
