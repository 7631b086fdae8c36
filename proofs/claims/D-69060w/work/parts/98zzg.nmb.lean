/-! a worker of the component's: numbers, all -/
theorem mre_n {b : Bool} {k : Rz} (h : mre b k ≠ none) : b = true ∧ mre b k = k := by
  unfold mre at h ⊢
  cases b with
  | true => exact ⟨rfl, rfl⟩
  | false => exact absurd rfl h
section
variable {G : Gt} {B d : Nat} {h : AH} {l : List Nat} {o : Lc} {wi W A q BA X tt lim SP t : Nat} {snd : Int64} {MA : Ma} {s : Ms} {K : Outcome → AH → Prop}
theorem cnumber_ok {op : Nat} (H : OPR G B h A W q BA X tt snd lim SP wi MA l o s) (ho : 24 ≤ op ∧ op < 45) (hT : ∀ v, (Sum.inl v : It) ∈ stk s → VW v) (hne : oNum lim op s ≠ none) (hav : 5 ≤ av G h l) (hd : 62 ≤ d) (kk : RZ K G B h A W q BA X tt snd lim SP wi MA o (oNum lim op s)) : MW G d e_X1_number [.ref A, .int (nI op)] h K := by
  have t0 := H.1.1.1
  unfold oNum at hne kk
  by_cases c35 : op = 35
  · rw [if_pos c35] at kk
    refine st_X1_number fun XX oo hG hD _ => ?_
    subst hG; subst hD
    subst c35
    refine k_X1_number_0 oo (fun _ => ?_) (fun c => absurd (by decide) c)
    refine k_X1_number_14 oo (fun _ => ?_) (fun c => absurd c (by decide))
    refine k_X1_number_37 oo (fun _ => ?_) (fun c => absurd (by decide) c)
    refine k_X1_number_57 oo (fun _ => ?_) (fun c => absurd (by decide) c)
    refine k_X1_number_94 oo ?_
    exact kk h l o OUT.refl H
  rw [if_neg c35] at hne kk
  by_cases c34 : op = 34
  · rw [if_pos c34] at hne kk
    subst c34
    cases hst : stk s with
    | nil => rw [hst] at hne; exact absurd rfl hne
    | cons i k =>
      cases i with
      | inr r => rw [hst] at hne; exact absurd rfl hne
      | inl v =>
        rw [hst] at hne kk
        have hne : mre (v.1 == 1) (mgo (sK s (vI 1 v.2.1.1 (v.2.1.2 ^^^ 1) :: k))) ≠ none := hne
        have kk : RZ K G B h A W q BA X tt snd lim SP wi MA o (mre (v.1 == 1) (mgo (sK s (vI 1 v.2.1.1 (v.2.1.2 ^^^ 1) :: k)))) := kk
        obtain ⟨e1, e2⟩ := mre_n hne
        rw [e2] at kk
        have e1 : v.1 = 1 := by simpa using e1
        have hv := hT v (by rw [hst]; simp)
        exact cnot_ok H hst e1 (hv.2.1 (by omega)).2 (by omega) kk
  rw [if_neg c34] at hne kk
  by_cases c41 : 41 < op
  · rw [if_pos c41] at hne kk
    cases hst : stk s with
    | nil => rw [hst] at hne; exact absurd rfl hne
    | cons i k =>
      cases i with
      | inr r => rw [hst] at hne; exact absurd rfl hne
      | inl v =>
        rw [hst] at hne kk
        have hne : mre (decide (2 ≤ v.1 ∧ v.1 ≤ 4)) (mnd (decide (w128 v.2.1.1 v.2.1.2 < 2 ^ mbits (op - 40))) 1 s (mgo (sK s (vI (op - 40) v.2.1.1 v.2.1.2 :: k)))) ≠ none := hne
        have kk : RZ K G B h A W q BA X tt snd lim SP wi MA o (mre (decide (2 ≤ v.1 ∧ v.1 ≤ 4)) (mnd (decide (w128 v.2.1.1 v.2.1.2 < 2 ^ mbits (op - 40))) 1 s (mgo (sK s (vI (op - 40) v.2.1.1 v.2.1.2 :: k))))) := kk
        obtain ⟨e1, e2⟩ := mre_n hne
        rw [e2] at kk
        have e1 := of_decide_eq_true e1
        have hv := hT v (by rw [hst]; simp)
        have lf := (hv.2.1 (by omega)).2
        refine st_X1_number fun XX oo hG hD _ => ?_
        subst hG; subst hD
        have fin : ∀ kd, kd = op - 40 → V XX K 91 [.ref A, .int (nI op)] [.long (lN kd), .ref A] h := fun kd hkd => by
          refine k_X1_number_91 oo ?_
          subst hkd
          refine ccast_ok (K := kin (V XX K 94) K [.ref A, .int (nI op)] []) H (by omega) hst lf (by omega) ?_
          have end' : ∀ h', K (.returned none) h' → kin (V XX K 94) K [.ref A, .int (nI op)] [] (.returned none) h' := fun h' z => k_X1_number_94 oo z
          generalize mnd (decide (w128 v.2.1.1 v.2.1.2 < 2 ^ mbits (op - 40))) 1 s (mgo (sK s (vI (op - 40) v.2.1.1 v.2.1.2 :: k))) = r at kk
          cases r with
          | none => trivial
          | some e =>
            cases e with
            | ok s' => exact fun h' l' o' u1 H1 => end' h' (kk h' l' o' u1 H1)
            | error e => exact fun h' l' o' u1 H1 q1 q2 => kk h' l' o' u1 H1 q1 q2
        refine k_X1_number_0 oo (fun _ => ?_) (fun c => absurd ((nI_leI (by omega) (by omega)).mpr (by omega)) c)
        refine k_X1_number_14 oo (fun _ => ?_) (fun c => absurd ((nI_eq (by omega) (by omega)).mp c) c34)
        refine k_X1_number_37 oo (fun c => absurd ((nI_leI (by omega) (by omega)).mp c) (by omega)) (fun _ => ?_)
        refine k_X1_number_43 oo (fun _ => ?_) (fun c => absurd ((nI_leI (by omega) (by omega)).mpr (by omega)) c)
        refine k_X1_number_57 oo (fun c => absurd ((nI_leI (by omega) (by omega)).mp c) (by omega)) (fun _ => ?_)
        rcases (show op = 42 ∨ op = 43 ∨ op = 44 by omega) with z | z | z
        · subst z
          refine k_X1_number_63 oo (fun c => absurd rfl c) (fun _ => ?_)
          exact k_X1_number_70 oo (fin 2 rfl)
        · subst z
          refine k_X1_number_63 oo (fun _ => ?_) (fun c => absurd c (by decide))
          refine k_X1_number_76 oo (fun c => absurd rfl c) (fun _ => ?_)
          exact k_X1_number_82 oo (fin 3 rfl)
        · subst z
          refine k_X1_number_63 oo (fun _ => ?_) (fun c => absurd c (by decide))
          refine k_X1_number_76 oo (fun _ => ?_) (fun c => absurd c (by decide))
          exact k_X1_number_88 oo (fin 4 rfl)
  rw [if_neg c41] at hne kk
  cases hst : stk s with
  | nil => rw [hst] at hne; exact absurd rfl hne
  | cons i k =>
    cases i with
    | inr r => rw [hst] at hne; exact absurd rfl hne
    | inl vb =>
      cases k with
      | nil => rw [hst] at hne; exact absurd rfl hne
      | cons i k =>
        cases i with
        | inr r => rw [hst] at hne; exact absurd rfl hne
        | inl va =>
          rw [hst] at hne kk
          simp only at hne kk
          have hA := hT va (by rw [hst]; simp)
          have hB := hT vb (by rw [hst]; simp)
          refine st_X1_number fun XX oo hG hD _ => ?_
          subst hG; subst hD
          have end' : ∀ pc, (pc = 11 ∨ pc = 54) → ∀ h', K (.returned none) h' → kin (V XX K pc) K [.ref A, .int (nI op)] [] (.returned none) h' := fun pc hpc h' z => by
            rcases hpc with e | e
            · subst e; exact k_X1_number_11 oo (k_X1_number_94 oo z)
            · subst e; exact k_X1_number_54 oo (k_X1_number_94 oo z)
          have lift : ∀ pc, (pc = 11 ∨ pc = 54) → ∀ r, RZ K XX.G B h A W q BA X tt snd lim SP wi MA o r → RZ (kin (V XX K pc) K [.ref A, .int (nI op)] []) XX.G B h A W q BA X tt snd lim SP wi MA o r := fun pc hpc r k1 => by
            cases r with
            | none => trivial
            | some e =>
              cases e with
              | ok s' => exact fun h' l' o' u1 H1 => end' pc hpc h' (k1 h' l' o' u1 H1)
              | error e => exact fun h' l' o' u1 H1 q1 q2 => k1 h' l' o' u1 H1 q1 q2
          by_cases c38 : op < 34
          · refine k_X1_number_0 oo (fun c => absurd ((nI_leI (by omega) (by omega)).mp c) (by omega)) (fun _ => ?_)
            refine k_X1_number_6 oo ?_
            by_cases c29 : op < 29
            · rw [if_pos c29] at hne kk
              obtain ⟨e1, e2⟩ := mre_n hne
              rw [e2] at kk
              rw [Bool.and_eq_true] at e1
              have k1 : va.1 = vb.1 := by simpa using e1.1
              have k2 := of_decide_eq_true e1.2
              refine creckon_ok H (by omega) hst ⟨(hA.2.1 (by omega)).2, by omega, (hA.2.1 (by omega)).1⟩ ⟨(hB.2.1 (by omega)).2, (hB.2.1 (by omega)).1⟩ (fun _ => k2.1) (fun _ => k1.symm) (fun z => by omega) (by omega) (lift 11 (Or.inl rfl) _ ?_)
              unfold rck
              rw [if_pos c29]; exact kk
            · rw [if_neg c29] at hne kk
              by_cases c32 : op < 32
              · rw [if_pos c32] at hne kk
                obtain ⟨e1, e2⟩ := mre_n hne
                rw [e2] at kk
                rw [Bool.and_eq_true] at e1
                have k1 : va.1 = vb.1 := by simpa using e1.1
                have k2 := of_decide_eq_true e1.2
                refine creckon_ok H (by omega) hst ⟨(hA.2.1 (by omega)).2, by omega, (hA.2.1 (by omega)).1⟩ ⟨(hB.2.1 (by omega)).2, (hB.2.1 (by omega)).1⟩ (fun z => by omega) (fun _ => k1.symm) (fun z => by omega) (by omega) (lift 11 (Or.inl rfl) _ ?_)
                unfold rck
                rw [if_neg c29, if_pos c32]; exact kk
              · rw [if_neg c32, if_pos c38] at hne kk
                obtain ⟨e1, e2⟩ := mre_n hne
                rw [e2] at kk
                rw [Bool.and_eq_true] at e1
                have k1 : vb.1 = 2 := by simpa using e1.1
                have k2 := of_decide_eq_true e1.2
                refine creckon_ok H (by omega) hst ⟨(hA.2.1 (by omega)).2, by omega, (hA.2.1 (by omega)).1⟩ ⟨(hB.2.1 (by omega)).2, (hB.2.1 (by omega)).1⟩ (fun z => by omega) (fun z => by omega) (fun _ => ⟨k1, k2.1⟩) (by omega) (lift 11 (Or.inl rfl) _ ?_)
                unfold rck
                rw [if_neg c29, if_neg c32]; exact kk
          · rw [if_neg (by omega), if_neg (by omega), if_neg c38] at hne kk
            refine k_X1_number_0 oo (fun _ => ?_) (fun c => absurd ((nI_leI (by omega) (by omega)).mpr (by omega)) c)
            refine k_X1_number_14 oo (fun _ => ?_) (fun c => absurd ((nI_eq (by omega) (by omega)).mp c) c34)
            refine k_X1_number_37 oo (fun c => absurd ((nI_leI (by omega) (by omega)).mp c) (by omega)) (fun _ => ?_)
            refine k_X1_number_43 oo (fun c => absurd ((nI_leI (by omega) (by omega)).mp c) (by omega)) (fun _ => ?_)
            refine k_X1_number_49 oo ?_
            refine ccompare_ok H (by omega) hst hA hB (by omega) hav (lift 54 (Or.inr rfl) _ ?_)
            by_cases c : op < 38
            · rw [if_pos c] at hne kk ⊢
              obtain ⟨e1, e2⟩ := mre_n hne
              rw [e2] at kk
              exact kk
            · rw [if_neg c] at hne kk ⊢
              obtain ⟨e1, e2⟩ := mre_n hne
              rw [e2] at kk
              exact kk
end
