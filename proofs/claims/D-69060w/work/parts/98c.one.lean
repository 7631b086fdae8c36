/-! the component's checker: one instruction -/
theorem ife_n {b : Bool} {w q : Nat} (h : ife b w q = none) : b = true := by
  unfold ife at h
  split at h
  · assumption
  · cases h
theorem sop_n {own n k q : Nat} (h : sop own n k q = none) : k < own := by
  unfold sop at h
  split at h
  · split at h
    · assumption
    · cases h
  · cases h
theorem or_n {a b : Option (Nat × Nat)} (h : a.or b = none) : a = none ∧ b = none := by
  cases a with
  | none => exact ⟨rfl, h⟩
  | some e => cases h
/-- an instruction whose numbers are in bounds -/
def gX (m : Md) (u : Ux) (x : Ix) : Prop := ick m u x = none ∧ ixw x
theorem gX.br {m : Md} {u : Ux} {x : Ix} (g : gX m u x) (h : 2 ≤ x.1 ∧ x.1 ≤ 4) : x.2.1 < (ui u).length := by
  have e : fmo x.1 = 8 := by rcases (show x.1 = 2 ∨ x.1 = 3 ∨ x.1 = 4 by omega) with z | z | z <;> rw [z] <;> rfl
  have := g.1; unfold ick at this; rw [e] at this
  exact of_decide_eq_true (ife_n this)
theorem gX.lo {m : Md} {u : Ux} {x : Ix} (g : gX m u x) (h : 11 ≤ x.1 ∧ x.1 ≤ 15) : x.2.1 < nlo u := by
  have e : fmo x.1 = 2 := by rcases (show x.1 = 11 ∨ x.1 = 12 ∨ x.1 = 13 ∨ x.1 = 14 ∨ x.1 = 15 by omega) with z | z | z | z | z <;> rw [z] <;> rfl
  have := g.1; unfold ick at this; rw [e] at this
  exact of_decide_eq_true (ife_n this)
theorem gX.fd {m : Md} {u : Ux} {x : Ix} (g : gX m u x) (h : x.1 = 16 ∨ x.1 = 17) : ∃ s, m.2.1[x.2.1]? = some s ∧ x.2.2.1 < s.2.2.length := by
  have e : fmo x.1 = 6 := by rcases h with z | z <;> rw [z] <;> rfl
  have := g.1; unfold ick at this; rw [e] at this
  obtain ⟨h1, h2⟩ := or_n this
  have h1 := sop_n h1
  have h2 : x.2.2.1 < fco m x.2.1 := of_decide_eq_true (ife_n h2)
  refine ⟨m.2.1[x.2.1], List.getElem?_eq_getElem h1, ?_⟩
  unfold fco at h2
  rw [List.getElem?_eq_getElem h1] at h2
  exact h2
theorem gX.ow {m : Md} {u : Ux} {x : Ix} (g : gX m u x) (h : x.1 = 21 ∨ x.1 = 22 ∨ (47 ≤ x.1 ∧ x.1 ≤ 51)) : x.2.1 < m.2.1.length := by
  have e : fmo x.1 = 3 := by rcases (show x.1 = 21 ∨ x.1 = 22 ∨ x.1 = 47 ∨ x.1 = 48 ∨ x.1 = 49 ∨ x.1 = 50 ∨ x.1 = 51 by omega) with z | z | z | z | z | z | z <;> rw [z] <;> rfl
  have := g.1; unfold ick at this; rw [e] at this
  exact sop_n this
theorem gX.fu {m : Md} {u : Ux} {x : Ix} (g : gX m u x) (h : x.1 = 23) : x.2.1 < m.2.2.2.2.2.length + m.2.2.2.1.length := by
  have e : fmo x.1 = 4 := by rw [h]; rfl
  have := g.1; unfold ick at this; rw [e] at this
  exact of_decide_eq_true (ife_n this)
theorem gX.el {m : Md} {u : Ux} {x : Ix} (g : gX m u x) (h : 52 ≤ x.1 ∧ x.1 ≤ 58) : x.2.1 < m.2.2.2.2.1.length ∧ x.2.2.1 ≤ 255 := by
  have g1 := g.1
  have g2 := g.2.2.2.1
  by_cases c : x.1 = 52
  · have e : fmo x.1 = 7 := by rw [c]; rfl
    unfold ick at g1; rw [e] at g1
    refine ⟨of_decide_eq_true (ife_n g1), ?_⟩
    unfold fq2 at g2; rw [e] at g2
    have : x.2.2.1 < 256 := g2
    omega
  · have e : fmo x.1 = 5 := by rcases (show x.1 = 53 ∨ x.1 = 54 ∨ x.1 = 55 ∨ x.1 = 56 ∨ x.1 = 57 ∨ x.1 = 58 by omega) with z | z | z | z | z | z <;> rw [z] <;> rfl
    unfold ick at g1; rw [e] at g1
    refine ⟨of_decide_eq_true (ife_n g1), ?_⟩
    unfold fq2 at g2; rw [e] at g2
    have : x.2.2.1 < 1 := g2
    omega
def otF : List Nat := opF ++ tbF'
theorem cbra_ok {G : Gt} {d : Nat} {h : AH} {K : Outcome → AH → Prop} {C W T F i a op n : Nat} {m : Md} {u : Ux} {s : Sk} {l : Ls} {tb : Tb} (hs : CTb h C W T F m u) (hu : gU m u) (h4 : ab4 m) (hk : SKh h C m s) (hl : LSh h C (lty u) l) (ht : TBh h C n (lty u) tb) (hn : n ≤ 1024) (ha : a < n) (hat : h.I 1539 C = nI i) (hi : i < n) (hcm : ∀ j, j ≤ i → (tat tb j).isSome) (hop : 2 ≤ op ∧ op ≤ 4) (hd : 10 ≤ d)
    (kk : EQ (eb (if op = 2 then eb (nee s.isEmpty 8) fun _ => .ok (s, l) else eb (tkT [1] s) fun r => eb (nee r.2.isEmpty 8) fun _ => .ok (r.2, l) : Except Nat Cs) fun d => eb (cCome m (lty u) i a d.2 tb) fun tb' => .ok (d, tb')) (fun r => ∀ h', Fq (FS otF) h h' → SKh h' C m r.1.1 → LSh h' C (lty u) r.1.2 → TBh h' C n (lty u) r.2 → K (.returned none) h') (CE K C W h)) : MW G d e_X13_branch [.ref C, .int (nI op), .int (nI a)] h K := by
  refine st_X13_branch fun X o hG hD _ => ?_
  subst hG; subst hD
  have t0 := hs.1.1.1
  have kk := EQ_eb.mp kk
  have tail : ∀ s1 h1, Fq (FS tkF) h h1 → SKh h1 C m s1 → EQ (eb (nee s1.isEmpty 8) fun _ => .ok ((s1, l) : Cs)) (fun d => EQ (eb (cCome m (lty u) i a d.2 tb) fun tb' => .ok (d, tb')) (fun r => ∀ h', Fq (FS otF) h h' → SKh h' C m r.1.1 → LSh h' C (lty u) r.1.2 → TBh h' C n (lty u) r.2 → K (.returned none) h') (CE K C W h)) (CE K C W h) → V X K 10 [.ref C, .int (nI op), .int (nI a)] [] h1 := fun s1 h1 f1 sk1 k1 => by
    have hs1 : CTb h1 C W T F m u := hs.fr f1.1 (FS.no rfl)
    have hl1 : LSh h1 C (lty u) l := hl.fr f1 rfl
    have ht1 : TBh h1 C n (lty u) tb := ht.fr f1 rfl
    have hat1 : h1.I 1539 C = nI i := by rw [f1.1.I (FS.n rfl)]; exact hat
    have u0 := hs1.1.1.1
    have hh1 := sk1.1
    have hle := sk1.2.2.1
    have k1 := EQ_eb.mp k1
    have key : ∀ b, s1.isEmpty = b → V X K 23 [.ref C, .int (nI op), .int (nI a)] [.int (bI b), .ref C] h1 := fun b hb => by
      rw [hb] at k1
      refine k_X13_branch_23 o ?_
      refine cneed_ok hs1.1 (by omega) (k1.mono (fun _ _ k2 => ?_) (fun w t => CE.fq f1 t rfl))
      show V X K 28 [.ref C, .int (nI op), .int (nI a)] [] h1
      refine k_X13_branch_28 o ?_
      have k2 : EQ (eb (cCome m (lty u) i a l tb) fun tb' => .ok (((s1, l) : Cs), tb')) (fun r => ∀ h', Fq (FS otF) h h' → SKh h' C m r.1.1 → LSh h' C (lty u) r.1.2 → TBh h' C n (lty u) r.2 → K (.returned none) h') (CE K C W h) := k2
      refine ccom_ok hs1 hu h4 hl1 ht1 hn ha hat1 hi (hcm a) (by omega) ((EQ_eb.mp k2).mono (fun tb' _ k3 h' f' t' => ?_) (fun w t => CE.fq f1 t rfl))
      refine k_X13_branch_33 o ?_
      exact k3 h' ((f1.mono (FS.mono rfl)).trans (f'.mono (FS.mono rfl))) (sk1.fr f' rfl) (hl1.fr f' rfl) t'
    refine k_X13_branch_10 o (fun c => ?_) (fun c => ?_)
    · refine k_X13_branch_22 o ?_
      refine key false ?_
      cases s1 with
      | nil => exact absurd rfl c
      | cons _ _ => rfl
    · refine k_X13_branch_18 o ?_
      refine key true ?_
      cases s1 with
      | nil => rfl
      | cons x s1 =>
        have c : nI (s1.length + 1) = nI 0 := c
        have hle : s1.length + 1 ≤ 64 := hle
        exact absurd ((nI_eq (by omega) (by omega)).mp c) (by omega)
  by_cases c2 : op = 2
  · subst c2
    refine k_X13_branch_0 o (fun _ => ?_) (fun c => absurd (by decide) c)
    exact tail s h (Fq.refl h) hk kk
  · rw [if_neg c2] at kk
    refine k_X13_branch_0 o (fun c => absurd ((nI_leI (by omega) (by omega)).mp c) (by omega)) (fun _ => ?_)
    refine k_X13_branch_5 o ?_
    refine ctakeL_ok (t := [1]) rfl hs.1 hk (tOK.pr (m := m) (by omega) (by omega)).tv.1 (by omega) ((EQ_eb.mp kk).mono (fun r er k2 h1 f1 tn1 sk1 => ?_) (fun w t => t))
    exact tail r.2 h1 f1 sk1 k2
theorem cdo_ok {G : Gt} {d : Nat} {h : AH} {K : Outcome → AH → Prop} {C W T F i n : Nat} {m : Md} {u : Ux} {s : Sk} {l : Ls} {tb : Tb} {x : Ix} (hs : CTb h C W T F m u) (hu : gU m u) (hu7 : u.1 ≤ 7) (gm : gM m) (hk : SKh h C m s) (hl : LSh h C (lty u) l) (ht : TBh h C n (lty u) tb) (hn : n ≤ 1024) (hnu : n = (ui u).length) (hx : gX m u x) (hat : h.I 1539 C = nI i) (hi : i < n) (hcm : ∀ j, j ≤ i → (tat tb j).isSome) (hd : 11 ≤ d)
    (kk : EQ (eb (cOp m u (lty u) x.1 x.2.1 x.2.2.1 (s, l)) fun d => eb (if 1 < x.1 ∧ x.1 < 5 then cCome m (lty u) i x.2.1 d.2 tb else .ok tb) fun tb' => .ok (d, tb')) (fun r => ∀ h', Fq (FS otF) h h' → SKh h' C m r.1.1 → LSh h' C (lty u) r.1.2 → TBh h' C n (lty u) r.2 → K (.returned none) h') (CE K C W h)) : MW G d e_X13_doOne [.ref C, .int (nI x.1), .int (nI x.2.1), .int (nI x.2.2.1)] h K := by
  refine st_X13_doOne fun X o hG hD _ => ?_
  subst hG; subst hD
  have t0 := hs.1.1.1
  have t1 := hs.2.1.1
  have t2 := hs.2.2.1.1.1.1
  have h4 := gm.1
  obtain ⟨hw1, hw2, hw3, hw4⟩ := hx.2
  have br := hx.br
  have lo := hx.lo
  have fd := hx.fd
  have ow := hx.ow
  have fu := hx.fu
  have el := hx.el
  clear hw2 hw3
  generalize x.1 = op at *
  generalize x.2.1 = a at *
  generalize x.2.2.1 = b at *
  have fin : ∀ h', K (.returned none) h' → V X K 235 [.ref C, .int (nI op), .int (nI a), .int (nI b)] [] h' := fun h' k => k_X13_doOne_235 o k
  -- an operation that leads nowhere else
  have plain : ¬ (1 < op ∧ op < 5) → EQ (cOp m u (lty u) op a b (s, l)) (CN (fun oc h' => match oc with | .returned _ => K (.returned none) h' | .threw q => K (.threw q) h') C m (lty u) h) (CE K C W h) := fun c => by
    refine (EQ_eb.mp kk).mono (fun d _ z => ?_) (fun _ z => z)
    rw [if_neg c] at z
    intro h' f' sk' l'
    exact z h' (f'.mono (FS.mono rfl)) sk' l' (ht.fr f' rfl)
  have conv : ∀ {r : Except Nat Cs} {pc : Nat}, (∀ h', V X K 235 [.ref C, .int (nI op), .int (nI a), .int (nI b)] [] h' → V X K pc [.ref C, .int (nI op), .int (nI a), .int (nI b)] [] h') → EQ r (CN (fun oc h' => match oc with | .returned _ => K (.returned none) h' | .threw q => K (.threw q) h') C m (lty u) h) (CE K C W h) → EQ r (CN (kin (V X K pc) K [.ref C, .int (nI op), .int (nI a), .int (nI b)] []) C m (lty u) h) (CE (kin (V X K pc) K [.ref C, .int (nI op), .int (nI a), .int (nI b)] []) C W h) := fun {r pc} hv k =>
    k.mono (fun d _ z h' f' sk' l' => hv h' (fin h' (z h' f' sk' l'))) (fun w z h' f' e => z h' f' e)
  by_cases c0 : op = 0
  · have p := plain (by omega)
    unfold cOp at p
    rw [if_pos c0] at p
    have p := EQ_eb.mp p
    refine k_X13_doOne_0 o (fun c => absurd (by rw [c0]; rfl) c) (fun _ => ?_)
    refine k_X13_doOne_4 o ?_
    refine ctake_ok hs.1 hk (by omega) (p.mono (fun r er k2 h1 f1 tn1 sk1 => ?_) (fun w t => t))
    have hs1 : CTb h1 C W T F m u := hs.fr f1.1 (FS.no rfl)
    have u0 := hs1.1.1.1
    have r1 := tn1.1
    refine k_X13_doOne_8 o ?_
    refine cnab_ok hs1 h4 (tk_mem hk er).1 (by omega) (by omega) ((EQ_eb.mp k2).mono (fun _ _ k3 => ?_) (fun w t => CE.fq f1 t rfl))
    refine k_X13_doOne_17 o ?_
    exact fin h1 (k3 h1 (f1.mono (FS.mono rfl)) sk1 (hl.fr f1 rfl))
  refine k_X13_doOne_0 o (fun _ => ?_) (fun c => absurd ((nI_eq (b := 0) (by omega) (by omega)).mp c) c0)
  by_cases c1 : op = 1
  · have p := plain (by omega)
    unfold cOp at p
    rw [if_neg c0, if_pos c1] at p
    refine k_X13_doOne_20 o (fun c => absurd (by rw [c1]) c) (fun _ => ?_)
    refine k_X13_doOne_25 o ?_
    refine cend_ok hs hu h4 hk hl (by omega) (p.mono (fun d ed k => ?_) (fun w t => t))
    have ed : d = (s, l) := by
      unfold cEnd at ed
      obtain ⟨_, _, ed⟩ := eb_ok ed
      obtain ⟨_, _, ed⟩ := eb_ok ed
      obtain ⟨_, _, ed⟩ := eb_ok ed
      cases ed; rfl
    subst ed
    refine k_X13_doOne_29 o ?_
    exact fin h (k h (Fq.refl h) hk hl)
  refine k_X13_doOne_20 o (fun _ => ?_) (fun c => absurd ((nI_eq (by omega) (by omega)).mp c) c1)
  by_cases c5 : op < 5
  · refine k_X13_doOne_32 o (fun c => absurd ((nI_leI (by omega) (by omega)).mp c) (by omega)) (fun _ => ?_)
    refine k_X13_doOne_37 o ?_
    refine cbra_ok hs hu h4 hk hl ht hn (by rw [hnu]; exact br ⟨by omega, by omega⟩) hat hi hcm ⟨by omega, by omega⟩ (by omega) ?_
    have e : cOp m u (lty u) op a b (s, l) = (if op = 2 then eb (nee s.isEmpty 8) fun _ => .ok (s, l) else eb (tkT [1] s) fun r => eb (nee r.2.isEmpty 8) fun _ => .ok (r.2, l) : Except Nat Cs) := by
      unfold cOp
      rw [if_neg c0, if_neg c1]
      by_cases c2 : op = 2
      · rw [if_pos c2, if_pos c2]
      · rw [if_neg c2, if_neg c2, if_pos c5]
    rw [e] at kk
    have kk := EQ_eb.mp kk
    refine EQ_eb.mpr (kk.mono (fun d _ k => ?_) (fun w t h' f' e => t h' f' e))
    rw [if_pos ⟨by omega, c5⟩] at k
    refine k.mono (fun r _ z h' f' sk' l' t' => ?_) (fun w t h' f' e => t h' f' e)
    refine k_X13_doOne_43 o ?_
    exact fin h' (z h' f' sk' l' t')
  have p := plain (by omega)
  refine k_X13_doOne_32 o (fun _ => ?_) (fun c => absurd ((nI_leI (by omega) (by omega)).mpr (by omega)) c)
  unfold cOp at p
  rw [if_neg c0, if_neg c1, if_neg (show ¬ op = 2 by omega), if_neg c5] at p
  by_cases cc : op < 11 ∨ op = 46
  · have con : V X K 58 [.ref C, .int (nI op), .int (nI a), .int (nI b)] [] h := by
      refine k_X13_doOne_58 o ?_
      have ht' : ∃ t, ((5 ≤ op ∧ op ≤ 7 ∧ t = [op - 3]) ∨ (8 ≤ op ∧ op < 10 ∧ t = [1]) ∨ (10 ≤ op ∧ op < 60 ∧ t = [5])) ∧ EQ (eb (pt t (0, false) s) fun s => .ok ((s, l) : Cs)) (CN (fun oc h' => match oc with | .returned _ => K (.returned none) h' | .threw q => K (.threw q) h') C m (lty u) h) (CE K C W h) := by
        by_cases q1 : op < 8
        · rw [if_pos q1] at p; exact ⟨_, Or.inl ⟨by omega, by omega, rfl⟩, p⟩
        · rw [if_neg q1] at p
          by_cases q2 : op < 10
          · rw [if_pos q2] at p; exact ⟨_, Or.inr (Or.inl ⟨by omega, q2, rfl⟩), p⟩
          · rw [if_neg q2, if_pos (by omega)] at p; exact ⟨_, Or.inr (Or.inr ⟨by omega, hw1, rfl⟩), p⟩
      obtain ⟨t, ht1, ht2⟩ := ht'
      exact ccon_ok hs hk hl ht1 (by omega) (conv (fun h' v => k_X13_doOne_63 o v) ht2)
    by_cases q : op < 11
    · refine k_X13_doOne_46 o (fun _ => con) (fun c => absurd ((nI_ltI (by omega) (by omega)).mpr q) c)
    · refine k_X13_doOne_46 o (fun c => absurd ((nI_ltI (by omega) (by omega)).mp c) q) (fun _ => ?_)
      refine k_X13_doOne_52 o (fun c => absurd (by rw [show op = 46 by omega]) c) (fun _ => con)
  refine k_X13_doOne_46 o (fun c => absurd ((nI_ltI (by omega) (by omega)).mp c) (by omega)) (fun _ => ?_)
  refine k_X13_doOne_52 o (fun _ => ?_) (fun c => absurd ((nI_eq (by omega) (by omega)).mp c) (by omega))
  rw [if_neg (show ¬ op < 8 by omega), if_neg (show ¬ op < 10 by omega), if_neg (show ¬ (op = 10 ∨ op = 46) by omega)] at p
  by_cases c16 : op < 16
  · rw [if_pos c16] at p
    refine k_X13_doOne_66 o (fun c => absurd ((nI_leI (by omega) (by omega)).mp c) (by omega)) (fun _ => ?_)
    refine k_X13_doOne_72 o ?_
    exact cuse_ok hs hu h4 hk hl (lo ⟨by omega, by omega⟩) ⟨by omega, by omega⟩ (by omega) (conv (fun h' v => k_X13_doOne_78 o v) p)
  rw [if_neg c16] at p
  refine k_X13_doOne_66 o (fun _ => ?_) (fun c => absurd ((nI_leI (by omega) (by omega)).mpr (by omega)) c)
  by_cases c18 : op < 18
  · rw [if_pos c18] at p
    obtain ⟨sx, g1, g2⟩ := fd (by omega)
    have h16 := gm.2.1 sx (List.mem_of_getElem? g1)
    have hlt := get_lt g1
    have b32 := hs.2.2.1.2.2.2.2.1.2.1
    refine k_X13_doOne_81 o (fun c => absurd ((nI_leI (by omega) (by omega)).mp c) (by omega)) (fun _ => ?_)
    have go : ∀ w, (op == 17) = w → V X K 99 [.ref C, .int (nI op), .int (nI a), .int (nI b)] [.int (bI w), .ref C] h := fun w hw => by
      rw [hw] at p
      refine k_X13_doOne_99 o ?_
      exact cbor_ok hs hu gm hk hl g1 g2 (by omega) (conv (fun h' v => k_X13_doOne_104 o v) p)
    refine k_X13_doOne_87 o (fun c => ?_) (fun c => ?_)
    · refine k_X13_doOne_98 o ?_
      refine go false ?_
      have : ¬ op = 17 := fun z => c (by rw [z])
      simpa using this
    · refine k_X13_doOne_94 o ?_
      refine go true ?_
      simpa using (nI_eq (by omega) (by omega)).mp c
  rw [if_neg c18] at p
  refine k_X13_doOne_81 o (fun _ => ?_) (fun c => absurd ((nI_leI (by omega) (by omega)).mpr (by omega)) c)
  by_cases c21 : op < 21
  · rw [if_pos c21] at p
    refine k_X13_doOne_107 o (fun c => absurd ((nI_leI (by omega) (by omega)).mp c) (by omega)) (fun _ => ?_)
    refine k_X13_doOne_113 o ?_
    exact cref_ok hs hu h4 hk hl ⟨by omega, by omega⟩ (by omega) (conv (fun h' v => k_X13_doOne_118 o v) p)
  rw [if_neg c21] at p
  refine k_X13_doOne_107 o (fun _ => ?_) (fun c => absurd ((nI_leI (by omega) (by omega)).mpr (by omega)) c)
  by_cases e21 : op = 21
  · rw [if_pos e21] at p
    refine k_X13_doOne_121 o (fun c => absurd (by rw [e21]) c) (fun _ => ?_)
    refine k_X13_doOne_127 o ?_
    exact cpak_ok hs hu gm hk hl (List.getElem?_eq_getElem (ow (Or.inl e21))) (by omega) (conv (fun h' v => k_X13_doOne_132 o v) p)
  rw [if_neg e21] at p
  refine k_X13_doOne_121 o (fun _ => ?_) (fun c => absurd ((nI_eq (by omega) (by omega)).mp c) e21)
  by_cases e22 : op = 22
  · rw [if_pos e22] at p
    refine k_X13_doOne_135 o (fun c => absurd (by rw [e22]) c) (fun _ => ?_)
    refine k_X13_doOne_141 o ?_
    exact cunp_ok hs hu gm hk hl (List.getElem?_eq_getElem (ow (Or.inr (Or.inl e22)))) (by omega) (conv (fun h' v => k_X13_doOne_146 o v) p)
  rw [if_neg e22] at p
  refine k_X13_doOne_135 o (fun _ => ?_) (fun c => absurd ((nI_eq (by omega) (by omega)).mp c) e22)
  by_cases e23 : op = 23
  · rw [if_pos e23] at p
    refine k_X13_doOne_149 o (fun c => absurd (by rw [e23]) c) (fun _ => ?_)
    refine k_X13_doOne_155 o ?_
    refine fat_ok hs.2.2.1.1 hs.2.2.1.2.2.2 (fu e23) fun g hg => ?_
    refine k_X13_doOne_164 o ?_
    exact ccal_ok hs hu hu7 gm hk hl (fu e23) hg (by omega) (conv (fun h' v => k_X13_doOne_167 o v) p)
  rw [if_neg e23] at p
  refine k_X13_doOne_149 o (fun _ => ?_) (fun c => absurd ((nI_eq (by omega) (by omega)).mp c) e23)
  by_cases c45 : op < 45
  · rw [if_pos c45] at p
    refine k_X13_doOne_170 o (fun c => absurd ((nI_leI (by omega) (by omega)).mp c) (by omega)) (fun _ => ?_)
    refine k_X13_doOne_176 o ?_
    exact crek_ok hs gm hk hl ⟨by omega, by omega⟩ (by omega) (conv (fun h' v => k_X13_doOne_181 o v) p)
  rw [if_neg c45] at p
  refine k_X13_doOne_170 o (fun _ => ?_) (fun c => absurd ((nI_leI (by omega) (by omega)).mpr (by omega)) c)
  by_cases e45 : op = 45
  · rw [if_pos e45] at p
    refine k_X13_doOne_184 o (fun c => absurd (by rw [e45]) c) (fun _ => ?_)
    refine k_X13_doOne_190 o ?_
    refine ctakeL_ok (t := [3]) rfl hs.1 hk (tOK.pr (m := m) (by omega) (by omega)).tv.1 (by omega) ((EQ_eb.mp p).mono (fun r er k2 h1 f1 tn1 sk1 => ?_) (fun w t => t))
    refine k_X13_doOne_197 o ?_
    exact fin h1 (k2 h1 (f1.mono (FS.mono rfl)) sk1 (hl.fr f1 rfl))
  rw [if_neg e45] at p
  refine k_X13_doOne_184 o (fun _ => ?_) (fun c => absurd ((nI_eq (by omega) (by omega)).mp c) e45)
  by_cases c52 : op < 52
  · rw [if_pos c52] at p
    refine k_X13_doOne_200 o (fun c => absurd ((nI_leI (by omega) (by omega)).mp c) (by omega)) (fun _ => ?_)
    refine k_X13_doOne_206 o ?_
    exact cres_ok hs hu hu7 gm hk hl (ow (Or.inr (Or.inr ⟨by omega, by omega⟩))) ⟨by omega, by omega⟩ (by omega) (conv (fun h' v => k_X13_doOne_212 o v) p)
  rw [if_neg c52] at p
  refine k_X13_doOne_200 o (fun _ => ?_) (fun c => absurd ((nI_leI (by omega) (by omega)).mpr (by omega)) c)
  by_cases c59 : op < 59
  · rw [if_pos c59] at p
    obtain ⟨g1, g2⟩ := el ⟨by omega, by omega⟩
    refine k_X13_doOne_215 o (fun c => absurd ((nI_leI (by omega) (by omega)).mp c) (by omega)) (fun _ => ?_)
    refine k_X13_doOne_221 o ?_
    exact cvec_ok hs hu gm hk hl g1 g2 ⟨by omega, by omega⟩ (by omega) (conv (fun h' v => k_X13_doOne_228 o v) p)
  rw [if_neg c59] at p
  refine k_X13_doOne_215 o (fun _ => ?_) (fun c => absurd ((nI_leI (by omega) (by omega)).mpr (by omega)) c)
  refine k_X13_doOne_231 o ?_
  exact cbyt_ok hs hk hl (by omega) (conv (fun h' v => v) p)
