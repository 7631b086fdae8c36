/-! the twin's machine: its stack -/
section
variable {G : Gt} {d : Nat} {h h' : AH} {o o' : Lc} {tx UX at' : Nat → Nat} {A n : Nat} {s : Ms} {K : Outcome → AH → Prop}
theorem TK.t0 (k : TK h A tx UX at' o n s) : h.tag A = some (22, 0) := k.1.1.1.1
theorem goes_ok (t0 : h.tag A = some (22, 0)) (ho : h.I 2843 A = -1) (kk : K (.returned (some (.int (nI 1)))) h) : MW G d e_X23_goesOn [.ref A] h K := by
  refine st_X23_goesOn fun X o hG hD _ => ?_
  refine k_X23_goesOn_0 (r2 := ho) o (fun q => absurd q (by decide)) (fun _ => ?_)
  refine k_X23_goesOn_7 o ?_
  exact k_X23_goesOn_12 o kk
theorem goes_no {oc : Nat} (t0 : h.tag A = some (22, 0)) (ho : h.I 2843 A = nI oc) (hoc : oc < 100) (kk : K (.returned (some (.int (nI 0)))) h) : MW G d e_X23_goesOn [.ref A] h K := by
  refine st_X23_goesOn fun X o hG hD _ => ?_
  refine k_X23_goesOn_0 (r2 := ho) o (fun _ => ?_) (fun q => absurd ((nI_leI (a := 0) (by omega) (by omega)).mpr (Nat.zero_le _)) q)
  refine k_X23_goesOn_11 o ?_
  exact k_X23_goesOn_12 o kk
/-- an end was met: outcome, code, gas -/
def TKX (h : AH) (A oc : Nat) (c : Int64) (g : Nat) : Prop := h.I 2843 A = nI oc ∧ h.J 2844 A = c ∧ h.I 2842 A = nI g
theorem mEnd_ok {oc : Nat} {c : Int64} (t0 : h.tag A = some (22, 0)) (ho : h.I 2843 A = -1) (kk : ∀ h', Fq (FS [2843, 2844]) h h' → h'.I 2843 A = nI oc → h'.J 2844 A = c → K (.returned none) h') : MW G d e_X23_end [.ref A, .int (nI oc), .long c] h K := by
  refine st_X23_end fun X o hG hD _ => ?_
  refine k_X23_end_0 (r2 := ho) o (fun _ => ?_) (fun q => absurd (by decide) q)
  refine k_X23_end_8 o ?_
  exact kk _ (Fq.sJ (Fq.sI (Fq.refl h) (fsr rfl)) (fsr rfl)) (by simp [n_sI, z_sI, tag_sI, I_sI, J_sI, R_sI, EI_sI, EJ_sI, ER_sI, n_sJ, z_sJ, tag_sJ, I_sJ, J_sJ, R_sJ, EI_sJ, EJ_sJ, ER_sJ, n_sR, z_sR, tag_sR, I_sR, J_sR, R_sR, EI_sR, EJ_sR, ER_sR, n_sEI, z_sEI, tag_sEI, I_sEI, J_sEI, R_sEI, EI_sEI, EJ_sEI, ER_sEI, n_sEJ, z_sEJ, tag_sEJ, I_sEJ, J_sEJ, R_sEJ, EI_sEJ, EJ_sEJ, ER_sEJ, n_sER, z_sER, tag_sER, I_sER, J_sER, R_sER, EI_sER, EJ_sER, ER_sER, n_nw, z_nw, tag_nw, I_nw, J_nw, R_nw, EI_nw, EJ_nw, ER_nw]) (by simp [n_sI, z_sI, tag_sI, I_sI, J_sI, R_sI, EI_sI, EJ_sI, ER_sI, n_sJ, z_sJ, tag_sJ, I_sJ, J_sJ, R_sJ, EI_sJ, EJ_sJ, ER_sJ, n_sR, z_sR, tag_sR, I_sR, J_sR, R_sR, EI_sR, EJ_sR, ER_sR, n_sEI, z_sEI, tag_sEI, I_sEI, J_sEI, R_sEI, EI_sEI, EJ_sEI, ER_sEI, n_sEJ, z_sEJ, tag_sEJ, I_sEJ, J_sEJ, R_sEJ, EI_sEJ, EJ_sEJ, ER_sEJ, n_sER, z_sER, tag_sER, I_sER, J_sER, R_sER, EI_sER, EJ_sER, ER_sER, n_nw, z_nw, tag_nw, I_nw, J_nw, R_nw, EI_nw, EJ_nw, ER_nw])
/-- what spending writes -/
def spF : List Nat := [2842, 2843, 2844]
theorem spend_ok {g lim k : Nat} (t0 : h.tag A = some (22, 0)) (ho : h.I 2843 A = -1) (hg : h.I 2842 A = nI g) (hl : h.I 2841 A = nI lim) (hb : g + k < 2147483648 ∧ lim < 2147483648) (hd : 1 ≤ d) (k1 : g + k ≤ lim → ∀ h', Fq (FS [2842]) h h' → h'.I 2842 A = nI (g + k) → K (.returned (some (.int (nI 1)))) h') (k2 : lim < g + k → ∀ h', Fq (FS spF) h h' → TKX h' A 2 5 lim → K (.returned (some (.int (nI 0)))) h') : MW G d e_X23_spend [.ref A, .int (nI k)] h K := by
  refine st_X23_spend fun X o hG hD _ => ?_
  subst hG; subst hD
  refine k_X23_spend_0 o ?_
  refine goes_ok t0 ho ?_
  refine k_X23_spend_4 o (fun _ => ?_) (fun q => absurd q (by decide))
  by_cases c : g + k ≤ lim
  · refine k_X23_spend_9 (r2 := hg) (r4 := hl) o (fun _ => ?_) (fun q => absurd (by rw [nI_add]; exact (nI_leI (by omega) (by omega)).mpr c) q)
    refine k_X23_spend_40 (r2 := hg) o ?_
    rw [nI_add]
    exact k1 c _ (Fq.sI (Fq.refl h) (fsr rfl)) (by simp [n_sI, z_sI, tag_sI, I_sI, J_sI, R_sI, EI_sI, EJ_sI, ER_sI, n_sJ, z_sJ, tag_sJ, I_sJ, J_sJ, R_sJ, EI_sJ, EJ_sJ, ER_sJ, n_sR, z_sR, tag_sR, I_sR, J_sR, R_sR, EI_sR, EJ_sR, ER_sR, n_sEI, z_sEI, tag_sEI, I_sEI, J_sEI, R_sEI, EI_sEI, EJ_sEI, ER_sEI, n_sEJ, z_sEJ, tag_sEJ, I_sEJ, J_sEJ, R_sEJ, EI_sEJ, EJ_sEJ, ER_sEJ, n_sER, z_sER, tag_sER, I_sER, J_sER, R_sER, EI_sER, EJ_sER, ER_sER, n_nw, z_nw, tag_nw, I_nw, J_nw, R_nw, EI_nw, EJ_nw, ER_nw])
  · refine k_X23_spend_9 (r2 := hg) (r4 := hl) o (fun q => absurd ((nI_leI (a := g + k) (b := lim) (by omega) (by omega)).mp (by rw [← nI_add]; exact q)) c) (fun _ => ?_)
    refine k_X23_spend_22 (r2 := hl) o ?_
    have q1 : Fq (FS spF) h (h.sI 2842 A (nI lim)) := Fq.sI (Fq.refl h) (fsr rfl)
    have o1 : (h.sI 2842 A (nI lim)).I 2843 A = -1 := by simpa [n_sI, z_sI, tag_sI, I_sI, J_sI, R_sI, EI_sI, EJ_sI, ER_sI, n_sJ, z_sJ, tag_sJ, I_sJ, J_sJ, R_sJ, EI_sJ, EJ_sJ, ER_sJ, n_sR, z_sR, tag_sR, I_sR, J_sR, R_sR, EI_sR, EJ_sR, ER_sR, n_sEI, z_sEI, tag_sEI, I_sEI, J_sEI, R_sEI, EI_sEI, EJ_sEI, ER_sEI, n_sEJ, z_sEJ, tag_sEJ, I_sEJ, J_sEJ, R_sEJ, EI_sEJ, EJ_sEJ, ER_sEJ, n_sER, z_sER, tag_sER, I_sER, J_sER, R_sER, EI_sER, EJ_sER, ER_sER, n_nw, z_nw, tag_nw, I_nw, J_nw, R_nw, EI_nw, EJ_nw, ER_nw] using ho
    have g1 : (h.sI 2842 A (nI lim)).I 2842 A = nI lim := by simp [n_sI, z_sI, tag_sI, I_sI, J_sI, R_sI, EI_sI, EJ_sI, ER_sI, n_sJ, z_sJ, tag_sJ, I_sJ, J_sJ, R_sJ, EI_sJ, EJ_sJ, ER_sJ, n_sR, z_sR, tag_sR, I_sR, J_sR, R_sR, EI_sR, EJ_sR, ER_sR, n_sEI, z_sEI, tag_sEI, I_sEI, J_sEI, R_sEI, EI_sEI, EJ_sEI, ER_sEI, n_sEJ, z_sEJ, tag_sEJ, I_sEJ, J_sEJ, R_sEJ, EI_sEJ, EJ_sEJ, ER_sEJ, n_sER, z_sER, tag_sER, I_sER, J_sER, R_sER, EI_sER, EJ_sER, ER_sER, n_nw, z_nw, tag_nw, I_nw, J_nw, R_nw, EI_nw, EJ_nw, ER_nw]
    refine mEnd_ok (oc := 2) (q1.1.tag t0) o1 (fun h2 q2 o2 c2 => ?_)
    refine k_X23_spend_38 o ?_
    refine k2 (by omega) h2 (q1.trans (q2.mono fun f a z => ?_)) ⟨o2, c2, by rw [q2.1.I (FS.n rfl)]; exact g1⟩
    unfold FS at z ⊢
    rw [List.contains_iff_mem] at z ⊢
    exact List.mem_cons_of_mem _ z
/-- in the pure machine -/
theorem TK.gas {g : Nat} (k : TK h A tx UX at' o n s) (q : Fq (FS [2842]) h h') (hg : h'.I 2842 A = nI g) : TK h' A tx UX at' o n (sG s g) := by
  obtain ⟨⟨k1, k2⟩, ⟨k3, k4, k5, k6, k7⟩, k8, k9, k10, k11⟩ := k
  refine ⟨⟨k1.fr q.1 (FS.no (by decide)), k2.fr q.1 (FS.no (by decide))⟩, ⟨by rw [q.1.I (FS.n rfl)]; exact k3, hg, by rw [q.1.I (FS.n rfl)]; exact k5, by rw [q.1.I (FS.n rfl)]; exact k6, by rw [q.1.I (FS.n rfl)]; exact k7⟩, k8, fun j hj => ?_, fun e x hx => (k10 e x hx).kp (fun f hf a => q.1.EI (FS.n ?_) _) (fun f hf a => q.1.EJ (FS.n ?_) _) rfl, k11⟩
  · obtain ⟨⟨f1, f2, f3, f4⟩, ⟨f5, f6⟩, f7⟩ := k9 j hj
    refine ⟨⟨by rw [q.1.EI (FS.n (by decide))]; exact f1, by rw [q.1.EI (FS.n (by decide))]; exact f2, by rw [q.1.EI (FS.n (by decide))]; exact f3, by rw [q.1.EI (FS.n (by decide))]; exact f4⟩, ⟨f5.kp (fun p _ _ => ⟨q.1.EI (FS.n (by decide)) _, q.1.EI (FS.n (by decide)) _, rfl⟩) (fun _ _ _ ha => ha), f6⟩, fun k => ?_⟩
    have := f7 k
    by_cases c : k < 40
    · rw [if_pos c] at this ⊢
      exact this.kp (q.1.EI (FS.n (by decide)) _) (q.1.EI (FS.n (by decide)) _) rfl (fun _ _ _ ha => ha)
    · rw [if_neg c] at this ⊢; exact this
  · simp only [List.mem_cons, List.mem_nil_iff, or_false] at hf
    rcases hf with e | e | e | e <;> (rw [e]; decide)
  · simp only [List.mem_cons, List.mem_nil_iff, or_false] at hf
    rcases hf with e | e <;> (rw [e]; decide)
/-- references lead into what is owned -/
theorem rad_lt {r : Rx} {a : Nat} (v : TH h (tx 0) n o) (hr : rad o 0 r = some a) : a < n ∧ ∃ z y, o (rsl' 0 r.1) = some z ∧ lva z r.2 = some y ∧ y.1 = a := by
  unfold rad at hr
  cases hz : o (rsl' 0 r.1) with
  | none => rw [hz] at hr; cases hr
  | some z =>
    rw [hz] at hr
    simp only at hr
    cases hy : lva z r.2 with
    | none => rw [hy] at hr; cases hr
    | some y =>
      rw [hy] at hr
      have e : y.1 = a := Option.some.inj hr
      exact ⟨by rw [← e]; exact (v.2.2 _ z hz).2.1 _ (adr_in hy _ (adr_1 y)), z, y, rfl, hy, e⟩
/-- the top frame's stack becomes another one -/
theorem TK.top {l : List It} (h1 : 1 ≤ s.1) (k : TK h A tx UX at' o n s) (sm : SMm h' A tx) (th : ∀ n', n' = n → TH h' (tx 0) n o') (hn : ∀ f ∈ [2843, 2842, 2852, 2845], h'.I f A = h.I f A) (hh : h'.I 2861 A = nI (bsf s.2.1 (s.1 - 1) + l.length)) (l64 : l.length ≤ 64) (nS : ∀ p, p < bsf s.2.1 (s.1 - 1) → h'.EI 1216 (tx 1) p = h.EI 1216 (tx 1) p ∧ h'.EI 1234 (tx 2) p = h.EI 1234 (tx 2) p ∧ o' (1, 0, 0, p) = o (1, 0, 0, p)) (hl : TKS h' o' tx (bsf s.2.1 (s.1 - 1)) l) (nE : ∀ f ∈ [1184, 1202, 1168, 1152, 1120, 1136, 1024, 1056, 1088, 1106], ∀ a p, h'.EI f a p = h.EI f a p) (nJ : ∀ f ∈ [1043, 1075], ∀ a p, h'.EJ f a p = h.EJ f a p) (ho : ∀ c a b e, c = 2 ∨ c = 3 → o' (c, a, b, e) = o (c, a, b, e)) (h0 : ∀ p, bsf s.2.1 (s.1 - 1) + l.length ≤ p → o' (1, 0, 0, p) = none) : TK h' A tx UX at' o' n (sK s l) := by
  obtain ⟨⟨k1, k2⟩, ⟨k3, k4, k5, k6, k7⟩, k8, k9, k10, k11, k12, k13⟩ := k
  have er : ∀ r : Rx, rad o' 0 r = rad o 0 r := rad_k (fun c i j hc => ho c 0 i j hc)
  have bf : ∀ j, j ≤ s.1 - 1 → bsf (sK s l).2.1 j = bsf s.2.1 j := fun j hj => bsf_c fun i hi => by
    show (uF s.2.1 (s.1 - 1) _ i).2.2.2 = _
    unfold uF
    rw [if_neg (by omega)]
  have bt : bsf (sK s l).2.1 (sK s l).1 = bsf s.2.1 (s.1 - 1) + l.length := by
    show bsf (sK s l).2.1 s.1 = _
    have : s.1 = (s.1 - 1) + 1 := by omega
    rw [this]
    show bsf (sK s l).2.1 (s.1 - 1) + ((sK s l).2.1 (s.1 - 1)).2.2.2.length = _
    rw [bf _ (Nat.le_refl _)]
    show _ + (uF s.2.1 (s.1 - 1) _ (s.1 - 1)).2.2.2.length = _
    unfold uF
    rw [if_pos rfl]
    simp only [Nat.add_sub_cancel]
  refine ⟨⟨sm, th n rfl⟩, ⟨by rw [hn _ (by decide)]; exact k3, by rw [hn _ (by decide)]; exact k4, by rw [hn _ (by decide)]; exact k5, by rw [bt]; exact hh, by rw [hn _ (by decide)]; exact k7⟩, k8, fun j hj => ?_, fun e x hx => (k10 e x hx).kp (fun f hf a => nE f (by
    simp only [List.mem_cons, List.mem_nil_iff, or_false] at hf ⊢
    rcases hf with e | e | e | e <;> (rw [e]; decide)) a e) (fun f hf a => nJ f hf a e) (ho 3 0 e 0 (Or.inr rfl)), fun p hp => by rw [bt] at hp; exact h0 p hp, fun j k hj => by rw [ho 2 0 j k (Or.inl rfl)]; exact k12 j k hj, fun e b he => by rw [ho 3 0 e b (Or.inr rfl)]; exact k13 e b he⟩
  have hj : j < s.1 := hj
  obtain ⟨⟨f1, f2, f3, f4⟩, ⟨f5, f6⟩, f7⟩ := k9 j hj
  have lc : ∀ (g : Nat → Option It), g = (s.2.1 j).2.2.1 → ∀ k, if k < 40 then TKL h' o' tx j k (g k) else o' (2, 0, j, k) = none := fun g hg k => by
    have := f7 k
    rw [hg]
    by_cases c : k < 40
    · rw [if_pos c] at this ⊢
      exact this.kp (nE _ (by decide) _ _) (nE _ (by decide) _ _) (ho 2 0 j k (Or.inl rfl)) (fun r _ a ha => by rw [er]; exact ha)
    · rw [if_neg c] at this ⊢
      rw [ho 2 0 j k (Or.inl rfl)]; exact this
  by_cases e : j = s.1 - 1
  · have ef : (sK s l).2.1 j = ((s.2.1 j).1, (s.2.1 j).2.1, (s.2.1 j).2.2.1, l) := by
      show uF s.2.1 (s.1 - 1) _ j = _
      unfold uF
      rw [if_pos e, e]; rfl
    rw [ef, bf j (by omega)]
    refine ⟨⟨by rw [nE _ (by decide)]; exact f1, by rw [nE _ (by decide)]; exact f2, by rw [nE _ (by decide)]; exact f3, by rw [nE _ (by decide)]; exact f4⟩, ⟨by rw [e]; exact hl, l64⟩, lc _ rfl⟩
  · have ef : (sK s l).2.1 j = s.2.1 j := by
      show uF s.2.1 (s.1 - 1) _ j = _
      unfold uF
      rw [if_neg e]
    rw [ef, bf j (by omega)]
    refine ⟨⟨by rw [nE _ (by decide)]; exact f1, by rw [nE _ (by decide)]; exact f2, by rw [nE _ (by decide)]; exact f3, by rw [nE _ (by decide)]; exact f4⟩, ⟨f5.kp (fun p _ p2 => nS p (by
      have : bsf s.2.1 (j + 1) ≤ bsf s.2.1 (s.1 - 1) := bsf_m (by omega)
      have e2 : bsf s.2.1 (j + 1) = bsf s.2.1 j + (s.2.1 j).2.2.2.length := rfl
      omega)) (fun r _ a ha => by rw [er]; exact ha), f6⟩, lc _ rfl⟩
end
