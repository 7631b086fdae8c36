/-! a transaction runs again -/
def gsd (ls : Lw) (n : Nat) : Lw := ls.mapIdx fun e x => (x.1, x.2.1, x.2.2 || decide (e < n))
theorem gsd_at {ls : Lw} {n e : Nat} : (gsd ls n)[e]? = (ls[e]?).map fun x => (x.1, x.2.1, x.2.2 || decide (e < n)) := by unfold gsd; rw [List.getElem?_mapIdx]
theorem gsd_len {ls : Lw} {n : Nat} : (gsd ls n).length = ls.length := by unfold gsd; rw [List.length_mapIdx]
theorem gsd_p {ls : Lw} {n : Nat} : (gsd ls n).map (fun x => x.1) = ls.map fun x => x.1 := by
  refine List.ext_getElem? fun e => ?_
  rw [List.getElem?_map, List.getElem?_map, gsd_at]
  cases ls[e]? with
  | none => rfl
  | some x => rfl
theorem gsd_0 {ls : Lw} : gsd ls 0 = ls := by
  refine List.ext_getElem? fun e => ?_
  rw [gsd_at]
  cases ls[e]? with
  | none => rfl
  | some x => simp
theorem gsd_all {ls : Lw} : gsd ls ls.length = ls.map fun x => (x.1, x.2.1, true) := by
  refine List.ext_getElem? fun e => ?_
  rw [gsd_at, List.getElem?_map]
  cases h : ls[e]? with
  | none => rfl
  | some x =>
    have := get_lt h
    simp [this]
def PAg (A X LA g a : Nat) : Prop := ((g = 11 ∨ g = 10) ∧ a = A) ∨ ((g = 2703 ∨ g = 2702) ∧ a = X) ∨ (g = 1164 ∧ LA + 2 ≤ a ∧ a < LA + 32)
section
variable {G : Gt} {d : Nat} {h : AH} {o : Lc} {A BA : Nat} {XA LA RA : Nat → Nat} {MA : Ma} {K : Outcome → AH → Prop}
theorem again_ok {t R Tl : Nat} {r : Int32} {ls : Lw} (t0 : h.tag A = some (0, 0)) (rB : h.R 3 A = some BA) (bk : BLK h BA XA LA RA) (ht : t < 32) (hr : h.I 10 A = nI R) (hR : R ≤ 32) (hT : h.I 11 A = nI Tl) (hT2 : Tl ≤ 32) (hrn : h.I 2703 (XA t) = r) (lf : EtR h o 4 t (LA t) 30 MA ls) (hd1 : 2 ≤ d) (kk : ∀ h', Fq (PAg A (XA t) (LA t)) h h' → EtR h' o 4 t (LA t) 30 MA (ls.map fun x => (x.1, x.2.1, true)) → h'.I 2703 (XA t) = r + nI 1 → h'.I 2702 (XA t) = nI 0 → h'.I 10 A = nI (min R t) → h'.I 11 A = nI (min Tl (t + 1)) → K (.returned none) h') : MW G d e_X1_again [.ref A, .int (nI t)] h K := by
  refine st_X1_again fun XX oo hG hD _ => ?_
  subst hG; subst hD
  have tB := bk.1
  obtain ⟨eX, tX, rL, -⟩ := bk.2.2 t ht
  have ix : IX (nI t) 32 t := IX.mk (by omega) (by omega)
  obtain ⟨⟨⟨s1, s2, s3⟩, s4⟩, ⟨s5, s6, s7⟩, s8⟩ := lf.1
  rw [List.length_map] at s5 s6
  have key : ∀ n k, n + k = ls.length → ∀ h1, Fq (fun g a => g = 1164 ∧ LA t + 2 ≤ a ∧ a < LA t + 32) h h1 → EtR h1 o 4 t (LA t) 30 MA (gsd ls k) → V XX K 9 [.ref A, .int (nI t), .ref (XA t), .int (nI k)] [] h1 := by
    intro n
    induction n with
    | zero =>
      intro k hk h1 f1 e1
      have e : k = ls.length := by omega
      subst e
      rw [gsd_all] at e1
      have nn : ∀ g a, [2705, 1025, 2703, 10, 11].contains g = true → ¬ (g = 1164 ∧ LA t + 2 ≤ a ∧ a < LA t + 32) := fun g a hg z => by rw [z.1] at hg; exact absurd hg (by decide)
      have t1 := f1.1.tag t0
      have tX1 := f1.1.tag tX
      have tL1 := f1.1.tag s1
      have rL1 : h1.R 2705 (XA t) = some (LA t) := by rw [f1.1.R (nn _ _ rfl)]; exact rL
      have c1 : h1.I 1025 (LA t) = nI ls.length := by rw [f1.1.I (nn _ _ rfl)]; exact s5
      have r1 : h1.I 2703 (XA t) = r := by rw [f1.1.I (nn _ _ rfl)]; exact hrn
      have q1 : h1.I 10 A = nI R := by rw [f1.1.I (nn _ _ rfl)]; exact hr
      refine k_X1_again_9 (r5 := c1) oo (fun _ => ?_) (fun c => absurd (Int32.le_refl _) c)
      refine k_X1_again_39 (r2 := r1) (r5 := q1) oo ?_
      refine mmin_ok ?_
      rw [nI_min (by omega) (by omega)]
      generalize hh2 : (h1.sI 2703 (XA t) (r + nI 1)).sI 2702 (XA t) (nI 0) = h2
      have f2 : Fq (PAg A (XA t) (LA t)) h1 h2 := by
        rw [← hh2]
        exact Fq.sI (Fq.sI (Fq.refl h1) (Or.inr (Or.inl ⟨Or.inl rfl, rfl⟩))) (Or.inr (Or.inl ⟨Or.inr rfl, rfl⟩))
      have t2 := f2.1.tag t1
      have q2 : h2.I 11 A = nI Tl := by rw [← hh2]; simp [n_sI, z_sI, tag_sI, I_sI, J_sI, R_sI, EI_sI, EJ_sI, ER_sI, n_sJ, z_sJ, tag_sJ, I_sJ, J_sJ, R_sJ, EI_sJ, EJ_sJ, ER_sJ, n_sR, z_sR, tag_sR, I_sR, J_sR, R_sR, EI_sR, EJ_sR, ER_sR, n_sEI, z_sEI, tag_sEI, I_sEI, J_sEI, R_sEI, EI_sEI, EJ_sEI, ER_sEI, n_sEJ, z_sEJ, tag_sEJ, I_sEJ, J_sEJ, R_sEJ, EI_sEJ, EJ_sEJ, ER_sEJ, n_sER, z_sER, tag_sER, I_sER, J_sER, R_sER, EI_sER, EJ_sER, ER_sER, n_nw, z_nw, tag_nw, I_nw, J_nw, R_nw, EI_nw, EJ_nw, ER_nw]; rw [f1.1.I (nn _ _ rfl)]; exact hT
      refine k_X1_again_63 (r3 := q2) oo ?_
      rw [nI_add]
      refine mmin_ok ?_
      rw [nI_min (by omega) (by omega)]
      generalize hh3 : h2.sI 10 A (nI (min R t)) = h3
      have t3 : h3.tag A = some (0, 0) := by rw [← hh3]; exact t2
      refine k_X1_again_77 oo ?_
      generalize hh4 : h3.sI 11 A (nI (min Tl (t + 1))) = h4
      have f4 : Fq (fun g a => ((g = 11 ∨ g = 10) ∧ a = A) ∨ ((g = 2703 ∨ g = 2702) ∧ a = XA t)) h1 h4 := by
        rw [← hh4, ← hh3, ← hh2]
        exact Fq.sI (Fq.sI (Fq.sI (Fq.sI (Fq.refl h1) (Or.inr ⟨Or.inl rfl, rfl⟩)) (Or.inr ⟨Or.inr rfl, rfl⟩)) (Or.inl ⟨Or.inr rfl, rfl⟩)) (Or.inl ⟨Or.inl rfl, rfl⟩)
      refine kk h4 ((f1.mono fun g a z => Or.inr (Or.inr z)).trans (f4.mono fun g a z => z.elim Or.inl (fun y => Or.inr (Or.inl y)))) (e1.fr f4.1 (fun f a hf _ _ z => ?_) (fun _ => rfl)) ?_ ?_ ?_ ?_
      · rcases z with ⟨z | z, -⟩ | ⟨z | z, -⟩ <;> (rw [z] at hf; exact absurd hf (by decide))
      · rw [← hh4, ← hh3, ← hh2]; simp [n_sI, z_sI, tag_sI, I_sI, J_sI, R_sI, EI_sI, EJ_sI, ER_sI, n_sJ, z_sJ, tag_sJ, I_sJ, J_sJ, R_sJ, EI_sJ, EJ_sJ, ER_sJ, n_sR, z_sR, tag_sR, I_sR, J_sR, R_sR, EI_sR, EJ_sR, ER_sR, n_sEI, z_sEI, tag_sEI, I_sEI, J_sEI, R_sEI, EI_sEI, EJ_sEI, ER_sEI, n_sEJ, z_sEJ, tag_sEJ, I_sEJ, J_sEJ, R_sEJ, EI_sEJ, EJ_sEJ, ER_sEJ, n_sER, z_sER, tag_sER, I_sER, J_sER, R_sER, EI_sER, EJ_sER, ER_sER, n_nw, z_nw, tag_nw, I_nw, J_nw, R_nw, EI_nw, EJ_nw, ER_nw]
      · rw [← hh4, ← hh3, ← hh2]; simp [n_sI, z_sI, tag_sI, I_sI, J_sI, R_sI, EI_sI, EJ_sI, ER_sI, n_sJ, z_sJ, tag_sJ, I_sJ, J_sJ, R_sJ, EI_sJ, EJ_sJ, ER_sJ, n_sR, z_sR, tag_sR, I_sR, J_sR, R_sR, EI_sR, EJ_sR, ER_sR, n_sEI, z_sEI, tag_sEI, I_sEI, J_sEI, R_sEI, EI_sEI, EJ_sEI, ER_sEI, n_sEJ, z_sEJ, tag_sEJ, I_sEJ, J_sEJ, R_sEJ, EI_sEJ, EJ_sEJ, ER_sEJ, n_sER, z_sER, tag_sER, I_sER, J_sER, R_sER, EI_sER, EJ_sER, ER_sER, n_nw, z_nw, tag_nw, I_nw, J_nw, R_nw, EI_nw, EJ_nw, ER_nw]
      · rw [← hh4, ← hh3, ← hh2]; simp [n_sI, z_sI, tag_sI, I_sI, J_sI, R_sI, EI_sI, EJ_sI, ER_sI, n_sJ, z_sJ, tag_sJ, I_sJ, J_sJ, R_sJ, EI_sJ, EJ_sJ, ER_sJ, n_sR, z_sR, tag_sR, I_sR, J_sR, R_sR, EI_sR, EJ_sR, ER_sR, n_sEI, z_sEI, tag_sEI, I_sEI, J_sEI, R_sEI, EI_sEI, EJ_sEI, ER_sEI, n_sEJ, z_sEJ, tag_sEJ, I_sEJ, J_sEJ, R_sEJ, EI_sEJ, EJ_sEJ, ER_sEJ, n_sER, z_sER, tag_sER, I_sER, J_sER, R_sER, EI_sER, EJ_sER, ER_sER, n_nw, z_nw, tag_nw, I_nw, J_nw, R_nw, EI_nw, EJ_nw, ER_nw]
      · rw [← hh4, ← hh3, ← hh2]; simp [n_sI, z_sI, tag_sI, I_sI, J_sI, R_sI, EI_sI, EJ_sI, ER_sI, n_sJ, z_sJ, tag_sJ, I_sJ, J_sJ, R_sJ, EI_sJ, EJ_sJ, ER_sJ, n_sR, z_sR, tag_sR, I_sR, J_sR, R_sR, EI_sR, EJ_sR, ER_sR, n_sEI, z_sEI, tag_sEI, I_sEI, J_sEI, R_sEI, EI_sEI, EJ_sEI, ER_sEI, n_sEJ, z_sEJ, tag_sEJ, I_sEJ, J_sEJ, R_sEJ, EI_sEJ, EJ_sEJ, ER_sEJ, n_sER, z_sER, tag_sER, I_sER, J_sER, R_sER, EI_sER, EJ_sER, ER_sER, n_nw, z_nw, tag_nw, I_nw, J_nw, R_nw, EI_nw, EJ_nw, ER_nw]
    | succ n ih =>
      intro k hk h1 f1 e1
      obtain ⟨s41, s42⟩ := s4 k (by omega)
      have nn : ∀ g a, [2705, 1025, 1024, 10000 + 342].contains g = true → ¬ (g = 1164 ∧ LA t + 2 ≤ a ∧ a < LA t + 32) := fun g a hg z => by rw [z.1] at hg; exact absurd hg (by decide)
      have tX1 := f1.1.tag tX
      have tL1 := f1.1.tag s1
      have tR1 := f1.1.tag s3
      have tK1 := f1.1.tag s42
      have rL1 : h1.R 2705 (XA t) = some (LA t) := by rw [f1.1.R (nn _ _ rfl)]; exact rL
      have rr1 : h1.R 1024 (LA t) = some (LA t + 1) := by rw [f1.1.R (nn _ _ rfl)]; exact s2
      have er1 : h1.ER 342 (LA t + 1) k = some (LA t + 2 + k) := by rw [f1.1.ER (nn _ _ rfl)]; exact s41
      have c1 : h1.I 1025 (LA t) = nI ls.length := by rw [f1.1.I (nn _ _ rfl)]; exact s5
      have ixk : IX (nI k) 30 k := IX.mk (by omega) (by omega)
      refine k_X1_again_9 (r5 := c1) oo (fun c => absurd ((nI_leI (by omega) (by omega)).mp c) (by omega)) (fun _ => ?_)
      refine k_X1_again_20 oo ?_
      rw [nI_add]
      have f2 : Fq (fun g a => g = 1164 ∧ a = LA t + 2 + k) h1 (h1.sI 1164 (LA t + 2 + k) (nI 1)) := Fq.sI (Fq.refl h1) ⟨rfl, rfl⟩
      have gk : (h1.sI 1164 (LA t + 2 + k) (nI 1)).I 1164 (LA t + 2 + k) = nI 1 := by simp [n_sI, z_sI, tag_sI, I_sI, J_sI, R_sI, EI_sI, EJ_sI, ER_sI, n_sJ, z_sJ, tag_sJ, I_sJ, J_sJ, R_sJ, EI_sJ, EJ_sJ, ER_sJ, n_sR, z_sR, tag_sR, I_sR, J_sR, R_sR, EI_sR, EJ_sR, ER_sR, n_sEI, z_sEI, tag_sEI, I_sEI, J_sEI, R_sEI, EI_sEI, EJ_sEI, ER_sEI, n_sEJ, z_sEJ, tag_sEJ, I_sEJ, J_sEJ, R_sEJ, EI_sEJ, EJ_sEJ, ER_sEJ, n_sER, z_sER, tag_sER, I_sER, J_sER, R_sER, EI_sER, EJ_sER, ER_sER, n_nw, z_nw, tag_nw, I_nw, J_nw, R_nw, EI_nw, EJ_nw, ER_nw]
      generalize h1.sI 1164 (LA t + 2 + k) (nI 1) = h2 at f2 gk ⊢
      have np : ∀ g a, g ≠ 1164 → ¬ (g = 1164 ∧ a = LA t + 2 + k) := fun g a hg z => hg z.1
      refine ih (k + 1) (by omega) h2 (f1.trans (f2.mono fun g a z => ⟨z.1, by rw [z.2]; omega, by rw [z.2]; omega⟩)) ?_
      obtain ⟨⟨⟨⟨p1, p2, p3⟩, p4⟩, ⟨p5, p6, p7⟩, p8⟩, p9, p10⟩ := e1
      rw [gsd_p] at p5 p6 p8
      rw [gsd_len] at p10
      refine ⟨⟨⟨⟨f2.1.tag p1, by rw [f2.1.R (np _ _ (by decide))]; exact p2, f2.1.tag p3⟩, fun e he => ⟨by rw [f2.1.ER (np _ _ (by decide))]; exact (p4 e he).1, f2.1.tag (p4 e he).2⟩⟩, ⟨by rw [gsd_p, f2.1.I (np _ _ (by decide))]; exact p5, by rw [gsd_p]; exact p6, p7⟩, fun e p hp => ?_⟩, fun e x hx => ?_, fun e he => p10 e (by rw [gsd_len] at he; exact he)⟩
      · rw [gsd_p] at hp
        obtain ⟨⟨a1, a2, a3⟩, a4⟩ := p8 e p hp
        exact ⟨⟨by rw [f2.1.I (np _ _ (by decide))]; exact a1, by rw [f2.1.J (np _ _ (by decide))]; exact a2, by rw [f2.1.I (np _ _ (by decide))]; exact a3⟩, a4⟩
      · rw [gsd_at] at hx
        cases hy : ls[e]? with
        | none => rw [hy] at hx; cases hx
        | some y =>
          rw [hy] at hx
          have hx := Option.some.inj hx
          obtain ⟨⟨a1, a2, a3⟩, ⟨b1, b2⟩, c2⟩ := p9 e (y.1, y.2.1, y.2.2 || decide (e < k)) (by rw [gsd_at, hy]; rfl)
          rw [← hx]
          refine ⟨⟨by rw [f2.1.I (np _ _ (by decide))]; exact a1, by rw [f2.1.J (np _ _ (by decide))]; exact a2, by rw [f2.1.J (np _ _ (by decide))]; exact a3⟩, ⟨?_, fun z1 z2 => by rw [f2.1.R (np _ _ (by decide))]; exact b2 z1 z2⟩, ?_⟩
          · show h2.I 1164 (LA t + 2 + e) = bI (y.2.2 || decide (e < k + 1))
            by_cases ek : e = k
            · rw [ek, gk]
              have : decide (k < k + 1) = true := by simp
              rw [this, Bool.or_true]; rfl
            · rw [f2.1.I (fun z => by omega), b1]
              show bI (y.2.2 || decide (e < k)) = _
              have : decide (e < k) = decide (e < k + 1) := by rw [decide_eq_decide]; omega
              rw [this]
          · rw [f2.1.R (np _ _ (by decide))]; exact c2
  refine k_X1_again_0 oo ?_
  exact key ls.length 0 (by omega) h (Fq.refl h) (by rw [gsd_0]; exact lf)
end
