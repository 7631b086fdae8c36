/-! a call ends: what it gives is noted -/
def resF : List Nat := [2714, 10000 + 832, 10000 + 803, 10000 + 819]
def TXS (h : AH) (X RT RH RL : Nat) : Prop := (h.R 2713 X = some RT ∧ h.R 2711 X = some RH ∧ h.R 2712 X = some RL) ∧ h.tag RT = some (832, 8) ∧ h.tag RH = some (803, 8) ∧ h.tag RL = some (819, 8)
def RSL (h : AH) (X RT RH RL : Nat) (vs : List VL) : Prop := h.I 2714 X = nI vs.length ∧ ∀ (i : Nat) (v : VL), vs[i]? = some v → h.EI 832 RT i = nI v.1 ∧ h.EJ 803 RH i = v.2.1.1 ∧ h.EJ 819 RL i = v.2.1.2
theorem RSL.fr {P : Nat → Nat → Prop} {h h' : AH} {X RT RH RL : Nat} {vs : List VL} (q : Fr P h h') (np : ∀ f a, resF.contains f = true → ¬ P f a) (s : RSL h X RT RH RL vs) : RSL h' X RT RH RL vs :=
  ⟨by rw [q.I (np _ _ rfl)]; exact s.1, fun i v hv => by
    obtain ⟨a, b, c⟩ := s.2 i v hv
    exact ⟨by rw [q.EI (np _ _ rfl)]; exact a, by rw [q.EJ (np _ _ rfl)]; exact b, by rw [q.EJ (np _ _ rfl)]; exact c⟩⟩
def PRx (X RT RH RL f a : Nat) : Prop := resF.contains f = true ∧ (a = X ∨ a = RT ∨ a = RH ∨ a = RL)
def IPX (W X RT RH RL f a : Nat) : Prop := IP W f a ∨ PRx X RT RH RL f a
def OUX (wi W X RT RH RL : Nat) (h h' : AH) (o o' : Lc) : Prop := Fr (IPX W X RT RH RL) h h' ∧ ∀ p : Sl, (p.1 = 0 ∨ 3 < p.1) ∨ p.2.1 ≠ wi → o' p = o p ∧ ∀ x, o p = some x → h'.R 3718 x.1 = h.R 3718 x.1
theorem OUX.out {wi W X RT RH RL : Nat} {h h1 h2 : AH} {o o1 o2 : Lc} (a : OUX wi W X RT RH RL h h1 o o1) (b : OUT wi W h1 h2 o1 o2) : OUX wi W X RT RH RL h h2 o o2 := ⟨a.1.trans (b.1.mono fun f a z => Or.inl z), fun p hp => by
  obtain ⟨a1, a2⟩ := a.2 p hp
  obtain ⟨b1, b2⟩ := b.2 p hp
  exact ⟨b1.trans a1, fun x hx => by rw [b2 x (by rw [a1]; exact hx), a2 x hx]⟩⟩
theorem OUT.oux {wi W X RT RH RL : Nat} {h h1 h2 : AH} {o o1 o2 : Lc} (a : OUT wi W h h1 o o1) (b : OUX wi W X RT RH RL h1 h2 o1 o2) : OUX wi W X RT RH RL h h2 o o2 := ⟨(a.1.mono fun f a z => Or.inl z).trans b.1, fun p hp => by
  obtain ⟨a1, a2⟩ := a.2 p hp
  obtain ⟨b1, b2⟩ := b.2 p hp
  exact ⟨b1.trans a1, fun x hx => by rw [b2 x (by rw [a1]; exact hx), a2 x hx]⟩⟩
theorem WRD.fr {P : Nat → Nat → Prop} {h h' : AH} {o o' : Lc} {A W BA tt fs : Nat} {MA : Ma} {st : Lw} {Lf : Nat → Lw} {RN : Nat → Int32} (q : Fr P h h') (np : ∀ f a, wdF.contains f = true → ¬ P f a) (np2 : ∀ f a, etF.contains f = true → a < W ∨ W + 130 ≤ a → ¬ P f a) (ho : ∀ p : Sl, p.1 = 0 ∨ 3 < p.1 → o' p = o p) (w : WRD h o A W BA tt MA fs st Lf RN) : WRD h' o' A W BA tt MA fs st Lf RN := by
  obtain ⟨⟨SA, a1, a2, a3⟩, ⟨b1, b2⟩, c⟩ := w
  refine ⟨⟨SA, by rw [q.R (np _ _ rfl)]; exact a1, a2.fr q (fun f a hf h1 h2 => np2 f a hf (by omega)) (fun e => ho _ (Or.inl rfl)), a3⟩, ⟨by rw [q.I (np _ _ rfl)]; exact b1, b2⟩, fun k hk => ?_⟩
  obtain ⟨XA, LA, c1, c2, c3, c4, c5, c6⟩ := c k hk
  exact ⟨XA, LA, by rw [q.ER (np _ _ rfl)]; exact c1, q.tag c2, by rw [q.R (np _ _ rfl)]; exact c3, by rw [q.I (np _ _ rfl)]; exact c4, c5.fr q (fun f a hf h1 h2 => np2 f a hf (by omega)) (fun e => ho _ (Or.inr (by show 3 < 4; omega))), c6⟩
def PRs (W X RT RH RL f a : Nat) : Prop := VQ f a ∨ (f = 2438 ∧ a = W) ∨ (f = 2565 ∧ a = Fa W 0) ∨ PRx X RT RH RL f a
theorem PRs.no {W X RT RH RL : Nat} {l : List Nat} (h : l.all (fun f => !((3712 ≤ f && f ≤ 3718) || f == 1280 || (2438 :: 2565 :: resF).contains f)) = true) : ∀ f a, l.contains f = true → ¬ PRs W X RT RH RL f a := fun f a hf z => by
  rw [List.all_eq_true] at h
  have := h f (List.contains_iff_mem.mp hf)
  simp only [Bool.not_eq_true', Bool.or_eq_false_iff, Bool.and_eq_false_iff] at this
  obtain ⟨⟨t1, t2⟩, t3⟩ := this
  rcases z with (z | z) | z | z | z
  · rcases t1 with t | t
    · exact absurd z.1 (by simpa using t)
    · exact absurd z.2 (by simpa using t)
  · rw [z] at t2; simp at t2
  · rw [z.1] at t3; exact absurd t3 (by decide)
  · rw [z.1] at t3; exact absurd t3 (by decide)
  · have e : f ∈ (2438 :: 2565 :: resF) := List.mem_cons_of_mem _ (List.mem_cons_of_mem _ (List.contains_iff_mem.mp z.1))
    rw [← List.contains_iff_mem, t3] at e; cases e
theorem PRs.ip {W X RT RH RL : Nat} : ∀ f a, PRs W X RT RH RL f a → IPX W X RT RH RL f a := fun f a z => by
  rcases z with z | z | z | z
  · exact Or.inl (Or.inl z)
  · rw [z.1, z.2]; exact Or.inl (Or.inr (Or.inl ⟨rfl, by omega, by omega⟩))
  · rw [z.1, z.2]; exact Or.inl (Or.inr (Or.inl ⟨rfl, by unfold Fa; omega, by unfold Fa; omega⟩))
  · exact Or.inr z
/-- what the end of a call owes -/
def REN (K : Outcome → AH → Prop) (G : Gt) (B : Nat) (h : AH) (A W q BA X tt : Nat) (snd : Int64) (lim SP wi : Nat) (MA : Ma) (o : Lc) (n : Nat) (sc : Pc → Option (Int32 × Int32)) (RT RH RL : Nat) (vs : List VL) (r : Rz) : Prop := match r with
  | none => True
  | some (.ok s') => ∀ h' l' o' MA', OUX wi W X RT RH RL h h' o o' → OPQ 0 (some (Fa W 0)) G B h' A W q BA X tt snd lim SP wi MA' l' o' s' → MAX n MA MA' (plc s') sc → RSL h' X RT RH RL vs → h'.I 24 A = nI 0 → h'.J 25 A = -1 → K (.threw SP) h'
  | some (.error e) => ∀ h' l' o' MA', OUX wi W X RT RH RL h h' o o' → OPQ 0 (some (Fa W 0)) G B h' A W q BA X tt snd lim SP wi MA' l' o' e.2.2 → MAX n MA MA' (plc e.2.2) sc → h'.I 24 A = nI e.1 → h'.J 25 A = e.2.1 → K (.threw SP) h'
section
variable {G : Gt} {B d : Nat} {h : AH} {l : List Nat} {o : Lc} {wi W A q BA X tt lim SP t : Nat} {snd : Int64} {MA : Ma} {s : Ms} {K : Outcome → AH → Prop}
theorem PRx.vq {RT RH RL : Nat} : ∀ g a, VQ g a → ¬ PRx X RT RH RL g a := fun g a z z2 => VQ.no (l := resF) rfl g a z2.1 z
def rnF : List Nat := [2, 2564, 10000 + 747, 2713, 2711, 2712]
/-- results are noted, one by one -/
theorem end_155 {XX : Xt} (oo : OK e_X1_end XX) {RT RH RL : Nat} {vs : List VL} (tx : TXS h X RT RH RL) (tX : h.tag X = some (21, 0)) (t0 : h.tag A = some (0, 0)) (rq : h.R 2 A = some q) (sf : SFr h (Fa W 0)) (hst : StR h o wi 0 (Fa W 0) (vs.map Sum.inl).reverse) (h8 : vs.length ≤ 8) (hT : ∀ v ∈ vs, VW v) (hd : 60 ≤ XX.d) (kk : ∀ h' l' o' l5, Fr (PRs W X RT RH RL) h h' → VH XX.G B h' q l' o' → (∀ p : Sl, ¬ (p.1 = 1 ∧ p.2.1 = wi ∧ p.2.2.1 = 0 ∧ p.2.2.2 < vs.length) → o' p = o p) → (∀ i, i < vs.length → o' (1, wi, 0, i) = none) → (∀ p x, o' p = some x → h'.R 3718 x.1 = h.R 3718 x.1) → h'.I 2438 W = nI 0 → RSL h' X RT RH RL vs → av XX.G h l ≤ av XX.G h' l' → V XX K 221 [.ref A, .int (nI vs.length), .ref (Fa W 0), .ref X, .int (nI vs.length), l5] [] h') : ∀ (r k : Nat), r + k = vs.length → ∀ h1 l1 o1 l5, Fr (PRs W X RT RH RL) h h1 → VH XX.G B h1 q l1 o1 → (∀ p : Sl, ¬ (p.1 = 1 ∧ p.2.1 = wi ∧ p.2.2.1 = 0 ∧ p.2.2.2 < k) → o1 p = o p) → (∀ i, i < k → o1 (1, wi, 0, i) = none) → (∀ p x, o1 p = some x → h1.R 3718 x.1 = h.R 3718 x.1) → h1.I 2438 W = nI 0 → h1.I 2714 X = nI vs.length → (∀ (i : Nat) (v : VL), i < k → vs[i]? = some v → h1.EI 832 RT i = nI v.1 ∧ h1.EJ 803 RH i = v.2.1.1 ∧ h1.EJ 819 RL i = v.2.1.2) → av XX.G h l ≤ av XX.G h1 l1 → V XX K 155 [.ref A, .int (nI vs.length), .ref (Fa W 0), .ref X, .int (nI k), l5] [] h1 := by
  intro r
  induction r with
  | zero =>
    intro k hk h1 l1 o1 l5 q0 q1 q2 q3 q4 q5 q6 q7 q8
    have e : k = vs.length := by omega
    subst e
    exact k_X1_end_155 oo (fun _ => kk h1 l1 o1 l5 q0 q1 q2 q3 q4 q5 ⟨q6, fun i v hv => q7 i v (get_lt hv) hv⟩ q8) (fun c => absurd (Int32.le_refl _) c)
  | succ r ih =>
    intro k hk h1 l1 o1 l5 q0 q1 q2 q3 q4 q5 q6 q7 q8
    refine k_X1_end_155 oo (fun c => absurd ((nI_leI (by omega) (by omega)).mp c) (by omega)) (fun _ => ?_)
    obtain ⟨v, hv⟩ : ∃ v, vs[k]? = some v := ⟨_, List.getElem?_eq_getElem (by omega)⟩
    have hl : ((vs.map Sum.inl : List It).reverse).length = vs.length := by simp
    have hit : ((vs.map Sum.inl : List It).reverse)[vs.length - 1 - k]? = some (Sum.inl v) := by
      rw [List.getElem?_reverse (by simp; omega), List.length_map, show vs.length - 1 - (vs.length - 1 - k) = k by omega, List.getElem?_map, hv]; rfl
    obtain ⟨x, x1, x2, x3⟩ := hst.nth hit
    rw [hl, show vs.length - 1 - (vs.length - 1 - k) = k by omega] at x1 x2
    have x1' : o1 (1, wi, 0, k) = some x := by
      rw [q2 _ (fun z => by have : k < k := z.2.2.2; omega)]; exact x1
    have ex : lvE x = v := x3
    have rx := (q1.2.2.2 _ _ x1').1
    have tx1 := rx.1
    have kx : h1.I 3712 x.1 = nI v.1 := by rw [← ex]; exact rx.2.1
    have hx : h1.J 3713 x.1 = v.2.1.1 := by rw [← ex]; exact rx.2.2.1
    have lx : h1.J 3714 x.1 = v.2.1.2 := by rw [← ex]; exact rx.2.2.2.1
    have dx : fdp x.2.2.2 ≤ 40 := by
      have := (hT v (List.mem_of_getElem? hv)).1.2.1
      rw [← ex] at this
      have e2 : fdp (lvE x).2.2 = fdp x.2.2.2 := fer_dp _
      omega
    have np := PRs.no (W := W) (X := X) (RT := RT) (RH := RH) (RL := RL) (l := rnF) rfl
    have tA := q0.tag t0
    have tF := q0.tag sf.1
    have tS := q0.tag sf.2.2.2.2
    have rS : h1.R 2564 (Fa W 0) = some (Fa W 0 + 2) := by rw [q0.R (np _ _ rfl)]; exact sf.2.2.1
    have eS : h1.ER 747 (Fa W 0 + 2) k = some x.1 := by rw [q0.ER (np _ _ rfl)]; exact x2
    have tX1 := q0.tag tX
    have r1 : h1.R 2713 X = some RT := by rw [q0.R (np _ _ rfl)]; exact tx.1.1
    have r2 : h1.R 2711 X = some RH := by rw [q0.R (np _ _ rfl)]; exact tx.1.2.1
    have r3 : h1.R 2712 X = some RL := by rw [q0.R (np _ _ rfl)]; exact tx.1.2.2
    have g1 := q0.tag tx.2.1
    have g2 := q0.tag tx.2.2.1
    have g3 := q0.tag tx.2.2.2
    have rP : h1.R 2 A = some q := by rw [q0.R (np _ _ rfl)]; exact rq
    have ix : IX (nI k) 64 k := IX.mk (by omega) (by omega)
    have ix8 : IX (nI k) 8 k := IX.mk (by omega) (by omega)
    refine k_X1_end_161 (x15 := nI v.1) (x23 := v.2.1.1) (x31 := v.2.1.2) (r14 := kx) (r22 := hx) (r30 := lx) oo ?_
    have f12 : Fq (PRx X RT RH RL) h1 (((h1.sEI 832 RT k (nI v.1)).sEJ 803 RH k v.2.1.1).sEJ 819 RL k v.2.1.2) := by
      refine Fq.sEJ (Fq.sEJ (Fq.sEI (Fq.refl h1) ?_) ?_) ?_
      · exact ⟨rfl, Or.inr (Or.inl rfl)⟩
      · exact ⟨rfl, Or.inr (Or.inr (Or.inl rfl))⟩
      · exact ⟨rfl, Or.inr (Or.inr (Or.inr rfl))⟩
    have eA : (((h1.sEI 832 RT k (nI v.1)).sEJ 803 RH k v.2.1.1).sEJ 819 RL k v.2.1.2).I 2714 X = nI vs.length := by simp [n_sI, z_sI, tag_sI, I_sI, J_sI, R_sI, EI_sI, EJ_sI, ER_sI, n_sJ, z_sJ, tag_sJ, I_sJ, J_sJ, R_sJ, EI_sJ, EJ_sJ, ER_sJ, n_sR, z_sR, tag_sR, I_sR, J_sR, R_sR, EI_sR, EJ_sR, ER_sR, n_sEI, z_sEI, tag_sEI, I_sEI, J_sEI, R_sEI, EI_sEI, EJ_sEI, ER_sEI, n_sEJ, z_sEJ, tag_sEJ, I_sEJ, J_sEJ, R_sEJ, EI_sEJ, EJ_sEJ, ER_sEJ, n_sER, z_sER, tag_sER, I_sER, J_sER, R_sER, EI_sER, EJ_sER, ER_sER, n_nw, z_nw, tag_nw, I_nw, J_nw, R_nw, EI_nw, EJ_nw, ER_nw]; exact q6
    have eB : ∀ (i : Nat) (v' : VL), i < k + 1 → vs[i]? = some v' → (((h1.sEI 832 RT k (nI v.1)).sEJ 803 RH k v.2.1.1).sEJ 819 RL k v.2.1.2).EI 832 RT i = nI v'.1 ∧ (((h1.sEI 832 RT k (nI v.1)).sEJ 803 RH k v.2.1.1).sEJ 819 RL k v.2.1.2).EJ 803 RH i = v'.2.1.1 ∧ (((h1.sEI 832 RT k (nI v.1)).sEJ 803 RH k v.2.1.1).sEJ 819 RL k v.2.1.2).EJ 819 RL i = v'.2.1.2 := fun i v' hi hv' => by
      by_cases c : i = k
      · subst c
        rw [hv] at hv'
        have := Option.some.inj hv'
        subst this
        exact ⟨by simp [n_sI, z_sI, tag_sI, I_sI, J_sI, R_sI, EI_sI, EJ_sI, ER_sI, n_sJ, z_sJ, tag_sJ, I_sJ, J_sJ, R_sJ, EI_sJ, EJ_sJ, ER_sJ, n_sR, z_sR, tag_sR, I_sR, J_sR, R_sR, EI_sR, EJ_sR, ER_sR, n_sEI, z_sEI, tag_sEI, I_sEI, J_sEI, R_sEI, EI_sEI, EJ_sEI, ER_sEI, n_sEJ, z_sEJ, tag_sEJ, I_sEJ, J_sEJ, R_sEJ, EI_sEJ, EJ_sEJ, ER_sEJ, n_sER, z_sER, tag_sER, I_sER, J_sER, R_sER, EI_sER, EJ_sER, ER_sER, n_nw, z_nw, tag_nw, I_nw, J_nw, R_nw, EI_nw, EJ_nw, ER_nw], by simp [n_sI, z_sI, tag_sI, I_sI, J_sI, R_sI, EI_sI, EJ_sI, ER_sI, n_sJ, z_sJ, tag_sJ, I_sJ, J_sJ, R_sJ, EI_sJ, EJ_sJ, ER_sJ, n_sR, z_sR, tag_sR, I_sR, J_sR, R_sR, EI_sR, EJ_sR, ER_sR, n_sEI, z_sEI, tag_sEI, I_sEI, J_sEI, R_sEI, EI_sEI, EJ_sEI, ER_sEI, n_sEJ, z_sEJ, tag_sEJ, I_sEJ, J_sEJ, R_sEJ, EI_sEJ, EJ_sEJ, ER_sEJ, n_sER, z_sER, tag_sER, I_sER, J_sER, R_sER, EI_sER, EJ_sER, ER_sER, n_nw, z_nw, tag_nw, I_nw, J_nw, R_nw, EI_nw, EJ_nw, ER_nw], by simp [n_sI, z_sI, tag_sI, I_sI, J_sI, R_sI, EI_sI, EJ_sI, ER_sI, n_sJ, z_sJ, tag_sJ, I_sJ, J_sJ, R_sJ, EI_sJ, EJ_sJ, ER_sJ, n_sR, z_sR, tag_sR, I_sR, J_sR, R_sR, EI_sR, EJ_sR, ER_sR, n_sEI, z_sEI, tag_sEI, I_sEI, J_sEI, R_sEI, EI_sEI, EJ_sEI, ER_sEI, n_sEJ, z_sEJ, tag_sEJ, I_sEJ, J_sEJ, R_sEJ, EI_sEJ, EJ_sEJ, ER_sEJ, n_sER, z_sER, tag_sER, I_sER, J_sER, R_sER, EI_sER, EJ_sER, ER_sER, n_nw, z_nw, tag_nw, I_nw, J_nw, R_nw, EI_nw, EJ_nw, ER_nw]⟩
      · obtain ⟨z1, z2, z3⟩ := q7 i v' (by omega) hv'
        exact ⟨by simp [n_sI, z_sI, tag_sI, I_sI, J_sI, R_sI, EI_sI, EJ_sI, ER_sI, n_sJ, z_sJ, tag_sJ, I_sJ, J_sJ, R_sJ, EI_sJ, EJ_sJ, ER_sJ, n_sR, z_sR, tag_sR, I_sR, J_sR, R_sR, EI_sR, EJ_sR, ER_sR, n_sEI, z_sEI, tag_sEI, I_sEI, J_sEI, R_sEI, EI_sEI, EJ_sEI, ER_sEI, n_sEJ, z_sEJ, tag_sEJ, I_sEJ, J_sEJ, R_sEJ, EI_sEJ, EJ_sEJ, ER_sEJ, n_sER, z_sER, tag_sER, I_sER, J_sER, R_sER, EI_sER, EJ_sER, ER_sER, n_nw, z_nw, tag_nw, I_nw, J_nw, R_nw, EI_nw, EJ_nw, ER_nw, c]; exact z1, by simp [n_sI, z_sI, tag_sI, I_sI, J_sI, R_sI, EI_sI, EJ_sI, ER_sI, n_sJ, z_sJ, tag_sJ, I_sJ, J_sJ, R_sJ, EI_sJ, EJ_sJ, ER_sJ, n_sR, z_sR, tag_sR, I_sR, J_sR, R_sR, EI_sR, EJ_sR, ER_sR, n_sEI, z_sEI, tag_sEI, I_sEI, J_sEI, R_sEI, EI_sEI, EJ_sEI, ER_sEI, n_sEJ, z_sEJ, tag_sEJ, I_sEJ, J_sEJ, R_sEJ, EI_sEJ, EJ_sEJ, ER_sEJ, n_sER, z_sER, tag_sER, I_sER, J_sER, R_sER, EI_sER, EJ_sER, ER_sER, n_nw, z_nw, tag_nw, I_nw, J_nw, R_nw, EI_nw, EJ_nw, ER_nw, c]; exact z2, by simp [n_sI, z_sI, tag_sI, I_sI, J_sI, R_sI, EI_sI, EJ_sI, ER_sI, n_sJ, z_sJ, tag_sJ, I_sJ, J_sJ, R_sJ, EI_sJ, EJ_sJ, ER_sJ, n_sR, z_sR, tag_sR, I_sR, J_sR, R_sR, EI_sR, EJ_sR, ER_sR, n_sEI, z_sEI, tag_sEI, I_sEI, J_sEI, R_sEI, EI_sEI, EJ_sEI, ER_sEI, n_sEJ, z_sEJ, tag_sEJ, I_sEJ, J_sEJ, R_sEJ, EI_sEJ, EJ_sEJ, ER_sEJ, n_sER, z_sER, tag_sER, I_sER, J_sER, R_sER, EI_sER, EJ_sER, ER_sER, n_nw, z_nw, tag_nw, I_nw, J_nw, R_nw, EI_nw, EJ_nw, ER_nw, c]; exact z3⟩
    generalize hh2 : (((h1.sEI 832 RT k (nI v.1)).sEJ 803 RH k v.2.1.1).sEJ 819 RL k v.2.1.2) = h2 at f12 eA eB
    obtain ⟨v2, tg2⟩ := q1.oth f12 PRx.vq
    have av2 : av XX.G h2 l1 = av XX.G h1 l1 := by unfold av; rw [f12.2.1]
    refine vdrop_ok v2 x1' (by omega) fun h3 l3 f3 n3 v3 tg3 a3 => ?_
    refine k_X1_end_215 oo ?_
    rw [nI_add]
    have nv := VQ.no (l := 2438 :: resF) rfl
    refine ih (k + 1) (by omega) h3 l3 _ _ ((q0.trans (f12.1.mono fun f a z => Or.inr (Or.inr (Or.inr z)))).trans (f3.mono fun f a z => Or.inl z)) v3 (fun p hp => ?_) (fun i hi => ?_) (fun p y hy => ?_) ?_ ?_ (fun i v' hi hv' => ?_) (by omega)
    · have : p ≠ (1, wi, 0, k) := fun e => hp (by rw [e]; exact ⟨rfl, rfl, rfl, by show k < k + 1; omega⟩)
      rw [uO_n this]
      exact q2 p (fun z => hp ⟨z.1, z.2.1, z.2.2.1, by have := z.2.2.2; omega⟩)
    · by_cases c : i = k
      · rw [c]; exact uO_s
      · rw [uO_n (fun e => c (congrArg (fun p : Sl => p.2.2.2) e))]
        exact q3 i (by omega)
    · by_cases c : p = (1, wi, 0, k)
      · rw [c, uO_s] at hy; cases hy
      · rw [uO_n c] at hy
        rw [tg3 p y (by simpa using c) hy, tg2 p y (by simp) hy]
        exact q4 p y hy
    · rw [f3.I (nv _ _ rfl), f12.1.I (fun z => absurd z.1 (by decide))]; exact q5
    · rw [f3.I (nv _ _ rfl)]; exact eA
    · obtain ⟨z1, z2, z3⟩ := eB i v' hi hv'
      exact ⟨by rw [f3.EI (nv _ _ rfl)]; exact z1, by rw [f3.EJ (nv _ _ rfl)]; exact z2, by rw [f3.EJ (nv _ _ rfl)]; exact z3⟩
end
