/-! the twin's machine: pushing and taking -/
section
variable {G : Gt} {d : Nat} {h h' : AH} {o o' : Lc} {tx UX at' : Nat → Nat} {A n n' : Nat} {s : Ms} {K : Outcome → AH → Prop}
/-- values aside -/
theorem TK.asd (k : TK h A tx UX at' o n s) (q : Fq (FS tFl) h h') (th : TH h' (tx 0) n' o') (ho : ∀ p : Sl, p.1 ≠ 5 → o' p = o p) : TK h' A tx UX at' o' n' s := by
  obtain ⟨⟨k1, k2⟩, ⟨k3, k4, k5, k6, k7⟩, k8, k9, k10, k11, k12, k13⟩ := k
  have er : ∀ r : Rx, rad o' 0 r = rad o 0 r := rad_k (fun c i j hc => ho (c, 0, i, j) (by show c ≠ 5; omega))
  refine ⟨⟨k1.fr q.1 (FS.no (by decide)), th⟩, ⟨by rw [q.1.I (FS.n rfl)]; exact k3, by rw [q.1.I (FS.n rfl)]; exact k4, by rw [q.1.I (FS.n rfl)]; exact k5, by rw [q.1.I (FS.n rfl)]; exact k6, by rw [q.1.I (FS.n rfl)]; exact k7⟩, k8, fun j hj => ?_, fun e x hx => (k10 e x hx).kp (fun f hf a => q.1.EI (FS.n ?_) _) (fun f hf a => q.1.EJ (FS.n ?_) _) (ho _ (by show (3 : Nat) ≠ 5; decide)), fun p hp => by rw [ho _ (by show (1 : Nat) ≠ 5; decide)]; exact k11 p hp, fun j k hj => by rw [ho _ (by show (2 : Nat) ≠ 5; decide)]; exact k12 j k hj, fun e b he => by rw [ho _ (by show (3 : Nat) ≠ 5; decide)]; exact k13 e b he⟩
  · obtain ⟨⟨f1, f2, f3, f4⟩, ⟨f5, f6⟩, f7⟩ := k9 j hj
    refine ⟨⟨by rw [q.1.EI (FS.n (by decide))]; exact f1, by rw [q.1.EI (FS.n (by decide))]; exact f2, by rw [q.1.EI (FS.n (by decide))]; exact f3, by rw [q.1.EI (FS.n (by decide))]; exact f4⟩, ⟨f5.kp (fun p _ _ => ⟨q.1.EI (FS.n (by decide)) _, q.1.EI (FS.n (by decide)) _, ho _ (by show (1 : Nat) ≠ 5; decide)⟩) (fun r _ a ha => by rw [er]; exact ha), f6⟩, fun k => ?_⟩
    have := f7 k
    by_cases c : k < 40
    · rw [if_pos c] at this ⊢
      exact this.kp (q.1.EI (FS.n (by decide)) _) (q.1.EI (FS.n (by decide)) _) (ho _ (by show (2 : Nat) ≠ 5; decide)) (fun r _ a ha => by rw [er]; exact ha)
    · rw [if_neg c] at this ⊢
      rw [ho _ (by show (2 : Nat) ≠ 5; decide)]; exact this
  · simp only [List.mem_cons, List.mem_nil_iff, or_false] at hf
    rcases hf with e | e | e | e <;> (rw [e]; decide)
  · simp only [List.mem_cons, List.mem_nil_iff, or_false] at hf
    rcases hf with e | e <;> (rw [e]; decide)
theorem TK.hgt (k : TK h A tx UX at' o n s) (h1 : 1 ≤ s.1) : bsf s.2.1 s.1 = bsf s.2.1 (s.1 - 1) + (stk s).length ∧ bsf s.2.1 s.1 ≤ 2048 ∧ (stk s).length ≤ 64 ∧ TKS h o tx (bsf s.2.1 (s.1 - 1)) (stk s) := by
  obtain ⟨-, -, k8, k9, -⟩ := k
  have e : bsf s.2.1 s.1 = bsf s.2.1 (s.1 - 1) + (stk s).length := by
    have : s.1 = (s.1 - 1) + 1 := by omega
    conv => lhs; rw [this]
    rfl
  have b := bsf_64 (F := s.2.1) (j := s.1) (fun i hi => (k9 i hi).2.1.2)
  exact ⟨e, by omega, (k9 (s.1 - 1) (by omega)).2.1.2, (k9 (s.1 - 1) (by omega)).2.1.1⟩
def psF : List Nat := [10000 + 1216, 10000 + 1234, 2861]
/-- an item is pushed -/
theorem tkpush_ok {i : It} {a : Nat} {b : Bool} (k : TK h A tx UX at' o n s) (h1 : 1 ≤ s.1) (h64 : (stk s).length < 64) (o' : Lc) (th : TH h (tx 0) n o') (ho : ∀ p : Sl, p.1 ≠ 5 → p ≠ (1, 0, 0, bsf s.2.1 s.1) → o' p = o p) (hi : match i with
    | .inl v => b = false ∧ ∃ y, o' (1, 0, 0, bsf s.2.1 s.1) = some y ∧ lvE y = v ∧ y.1 = a
    | .inr r => b = true ∧ rad o 0 r = some a ∧ o' (1, 0, 0, bsf s.2.1 s.1) = none) (hd : 1 ≤ d) (kk : ∀ h', Fq (FS psF) h h' → TK h' A tx UX at' o' n (mpu s i) → K (.returned none) h') : MW G d e_X23_push [.ref A, .int (nI a), .int (bI b)] h K := by
  refine st_X23_push fun X oo hG hD _ => ?_
  subst hG; subst hD
  obtain ⟨⟨k1, k2⟩, ⟨k3, k4, k5, k6, k7⟩, k8, k9, k10, k11, k12, k13⟩ := id k
  have t0 := k.t0
  obtain ⟨e1, e2, e3, e4⟩ := k.hgt h1
  obtain ⟨r1, r2⟩ := k1.at 0 rfl
  obtain ⟨r3, r4⟩ := k1.at 1 rfl
  have ix : IX (nI (bsf s.2.1 s.1)) 2200 (bsf s.2.1 s.1) := IX.mk (by omega) (by omega)
  refine k_X23_push_0 oo ?_
  refine goes_ok t0 k3 ?_
  refine k_X23_push_4 oo (fun _ => ?_) (fun q => absurd q (by decide))
  refine k_X23_push_8 (r2 := r1) (r4 := k6) (r10 := r3) (r12 := k6) (r19 := k6) oo ?_
  rw [nI_add]
  have q : Fq (FS psF) h (((h.sEI 1216 (tx 1) (bsf s.2.1 s.1) (nI a)).sEI 1234 (tx 2) (bsf s.2.1 s.1) (bI b)).sI 2861 A (nI (bsf s.2.1 s.1 + 1))) := Fq.sI (Fq.sEI (Fq.sEI (Fq.refl h) (fsr rfl)) (fsr rfl)) (fsr rfl)
  have s1 : ∀ p, (((h.sEI 1216 (tx 1) (bsf s.2.1 s.1) (nI a)).sEI 1234 (tx 2) (bsf s.2.1 s.1) (bI b)).sI 2861 A (nI (bsf s.2.1 s.1 + 1))).EI 1216 (tx 1) p = if p = bsf s.2.1 s.1 then nI a else h.EI 1216 (tx 1) p := fun p => by
    by_cases c : p = bsf s.2.1 s.1
    · subst c; simp [n_sI, z_sI, tag_sI, I_sI, J_sI, R_sI, EI_sI, EJ_sI, ER_sI, n_sJ, z_sJ, tag_sJ, I_sJ, J_sJ, R_sJ, EI_sJ, EJ_sJ, ER_sJ, n_sR, z_sR, tag_sR, I_sR, J_sR, R_sR, EI_sR, EJ_sR, ER_sR, n_sEI, z_sEI, tag_sEI, I_sEI, J_sEI, R_sEI, EI_sEI, EJ_sEI, ER_sEI, n_sEJ, z_sEJ, tag_sEJ, I_sEJ, J_sEJ, R_sEJ, EI_sEJ, EJ_sEJ, ER_sEJ, n_sER, z_sER, tag_sER, I_sER, J_sER, R_sER, EI_sER, EJ_sER, ER_sER, n_nw, z_nw, tag_nw, I_nw, J_nw, R_nw, EI_nw, EJ_nw, ER_nw]
    · simp [n_sI, z_sI, tag_sI, I_sI, J_sI, R_sI, EI_sI, EJ_sI, ER_sI, n_sJ, z_sJ, tag_sJ, I_sJ, J_sJ, R_sJ, EI_sJ, EJ_sJ, ER_sJ, n_sR, z_sR, tag_sR, I_sR, J_sR, R_sR, EI_sR, EJ_sR, ER_sR, n_sEI, z_sEI, tag_sEI, I_sEI, J_sEI, R_sEI, EI_sEI, EJ_sEI, ER_sEI, n_sEJ, z_sEJ, tag_sEJ, I_sEJ, J_sEJ, R_sEJ, EI_sEJ, EJ_sEJ, ER_sEJ, n_sER, z_sER, tag_sER, I_sER, J_sER, R_sER, EI_sER, EJ_sER, ER_sER, n_nw, z_nw, tag_nw, I_nw, J_nw, R_nw, EI_nw, EJ_nw, ER_nw, c]
  have s2 : ∀ p, (((h.sEI 1216 (tx 1) (bsf s.2.1 s.1) (nI a)).sEI 1234 (tx 2) (bsf s.2.1 s.1) (bI b)).sI 2861 A (nI (bsf s.2.1 s.1 + 1))).EI 1234 (tx 2) p = if p = bsf s.2.1 s.1 then bI b else h.EI 1234 (tx 2) p := fun p => by
    by_cases c : p = bsf s.2.1 s.1
    · subst c; simp [n_sI, z_sI, tag_sI, I_sI, J_sI, R_sI, EI_sI, EJ_sI, ER_sI, n_sJ, z_sJ, tag_sJ, I_sJ, J_sJ, R_sJ, EI_sJ, EJ_sJ, ER_sJ, n_sR, z_sR, tag_sR, I_sR, J_sR, R_sR, EI_sR, EJ_sR, ER_sR, n_sEI, z_sEI, tag_sEI, I_sEI, J_sEI, R_sEI, EI_sEI, EJ_sEI, ER_sEI, n_sEJ, z_sEJ, tag_sEJ, I_sEJ, J_sEJ, R_sEJ, EI_sEJ, EJ_sEJ, ER_sEJ, n_sER, z_sER, tag_sER, I_sER, J_sER, R_sER, EI_sER, EJ_sER, ER_sER, n_nw, z_nw, tag_nw, I_nw, J_nw, R_nw, EI_nw, EJ_nw, ER_nw]
    · simp [n_sI, z_sI, tag_sI, I_sI, J_sI, R_sI, EI_sI, EJ_sI, ER_sI, n_sJ, z_sJ, tag_sJ, I_sJ, J_sJ, R_sJ, EI_sJ, EJ_sJ, ER_sJ, n_sR, z_sR, tag_sR, I_sR, J_sR, R_sR, EI_sR, EJ_sR, ER_sR, n_sEI, z_sEI, tag_sEI, I_sEI, J_sEI, R_sEI, EI_sEI, EJ_sEI, ER_sEI, n_sEJ, z_sEJ, tag_sEJ, I_sEJ, J_sEJ, R_sEJ, EI_sEJ, EJ_sEJ, ER_sEJ, n_sER, z_sER, tag_sER, I_sER, J_sER, R_sER, EI_sER, EJ_sER, ER_sER, n_nw, z_nw, tag_nw, I_nw, J_nw, R_nw, EI_nw, EJ_nw, ER_nw, c]
  have s3 : (((h.sEI 1216 (tx 1) (bsf s.2.1 s.1) (nI a)).sEI 1234 (tx 2) (bsf s.2.1 s.1) (bI b)).sI 2861 A (nI (bsf s.2.1 s.1 + 1))).I 2861 A = nI (bsf s.2.1 s.1 + 1) := by simp [n_sI, z_sI, tag_sI, I_sI, J_sI, R_sI, EI_sI, EJ_sI, ER_sI, n_sJ, z_sJ, tag_sJ, I_sJ, J_sJ, R_sJ, EI_sJ, EJ_sJ, ER_sJ, n_sR, z_sR, tag_sR, I_sR, J_sR, R_sR, EI_sR, EJ_sR, ER_sR, n_sEI, z_sEI, tag_sEI, I_sEI, J_sEI, R_sEI, EI_sEI, EJ_sEI, ER_sEI, n_sEJ, z_sEJ, tag_sEJ, I_sEJ, J_sEJ, R_sEJ, EI_sEJ, EJ_sEJ, ER_sEJ, n_sER, z_sER, tag_sER, I_sER, J_sER, R_sER, EI_sER, EJ_sER, ER_sER, n_nw, z_nw, tag_nw, I_nw, J_nw, R_nw, EI_nw, EJ_nw, ER_nw]
  generalize ((h.sEI 1216 (tx 1) (bsf s.2.1 s.1) (nI a)).sEI 1234 (tx 2) (bsf s.2.1 s.1) (bI b)).sI 2861 A (nI (bsf s.2.1 s.1 + 1)) = h2 at q s1 s2 s3
  have ho' : ∀ c a b e, c = 2 ∨ c = 3 → o' (c, a, b, e) = o (c, a, b, e) := fun c a b e hc => ho _ (by show c ≠ 5; omega) (fun z => by have := congrArg Prod.fst z; have : c = 1 := this; omega)
  have er : ∀ r : Rx, rad o' 0 r = rad o 0 r := rad_k (fun c i j hc => ho' c 0 i j hc)
  have ho1 : ∀ p, p ≠ bsf s.2.1 s.1 → o' (1, 0, 0, p) = o (1, 0, 0, p) := fun p hp => ho _ (by show (1 : Nat) ≠ 5; decide) (fun z => hp (congrArg (fun p : Sl => p.2.2.2) z))
  refine kk h2 q (TK.top h1 k (k1.fr q.1 (FS.no (by decide))) (fun _ _ => th.fr q.1 (FS.no (by decide))) (fun f hf => q.1.I (FS.n ?_)) (by rw [s3, e1]; rfl) (by show (stk s).length + 1 ≤ 64; omega) (fun p hp => ⟨by rw [s1, if_neg (by omega)], by rw [s2, if_neg (by omega)], ho1 p (by omega)⟩) ⟨?_, e4.kp (fun p _ p2 => ⟨by rw [s1, if_neg (by omega)], by rw [s2, if_neg (by omega)], ho1 p (by omega)⟩) (fun r _ a ha => by rw [er]; exact ha)⟩ (fun f hf a p => q.1.EI (FS.n ?_) _) (fun f hf a p => q.1.EJ (FS.n ?_) _) ho' (fun p hp => ?_))
  · simp only [List.mem_cons, List.mem_nil_iff, or_false] at hf
    rcases hf with e | e | e | e <;> (rw [e]; decide)
  · rw [← e1]
    cases i with
    | inl v =>
      obtain ⟨hb, y, y1, y2, y3⟩ := hi
      exact ⟨y, y1, y2, by rw [s1, if_pos rfl, y3], by rw [s2, if_pos rfl, hb]; rfl⟩
    | inr r =>
      obtain ⟨hb, y1, y2⟩ := hi
      exact ⟨a, by rw [er]; exact y1, by rw [s1, if_pos rfl], by rw [s2, if_pos rfl, hb]; rfl, y2⟩
  · simp only [List.mem_cons, List.mem_nil_iff, or_false] at hf
    rcases hf with e | e | e | e | e | e | e | e | e | e <;> (rw [e]; decide)
  · simp only [List.mem_cons, List.mem_nil_iff, or_false] at hf
    rcases hf with e | e <;> (rw [e]; decide)
  · have hp : bsf s.2.1 (s.1 - 1) + ((stk s).length + 1) ≤ p := hp
    rw [ho1 p (by omega)]
    exact k11 p (by omega)
def taF : List Nat := [2861, 2862]
/-- an item is taken -/
theorem tktake_ok {i : It} {t : List It} {a : Nat} {b : Bool} (k : TK h A tx UX at' o n s) (h1 : 1 ≤ s.1) (hs : stk s = i :: t) (o' : Lc) (th : TH h (tx 0) n o') (ho : ∀ p : Sl, p.1 ≠ 5 → p ≠ (1, 0, 0, bsf s.2.1 (s.1 - 1) + t.length) → o' p = o p) (ho2 : o' (1, 0, 0, bsf s.2.1 (s.1 - 1) + t.length) = none) (hi : match i with
    | .inl _ => b = false ∧ ∃ y, o (1, 0, 0, bsf s.2.1 (s.1 - 1) + t.length) = some y ∧ y.1 = a
    | .inr r => b = true ∧ rad o 0 r = some a) (hd : 1 ≤ d) (kk : ∀ h', Fq (FS taF) h h' → TK h' A tx UX at' o' n (sK s t) → h'.I 2862 A = nI a → K (.returned (some (.int (nI a)))) h') : MW G d e_X23_takeAny [.ref A, .int (bI b)] h K := by
  refine st_X23_takeAny fun X oo hG hD _ => ?_
  subst hG; subst hD
  obtain ⟨⟨k1, k2⟩, ⟨k3, k4, k5, k6, k7⟩, k8, k9, k10, k11, k12, k13⟩ := id k
  have t0 := k.t0
  obtain ⟨e1, e2, e3, e4⟩ := k.hgt h1
  rw [hs] at e1 e3 e4
  have e1 : bsf s.2.1 s.1 = bsf s.2.1 (s.1 - 1) + (t.length + 1) := e1
  obtain ⟨r1, r2⟩ := k1.at 0 rfl
  obtain ⟨r3, r4⟩ := k1.at 1 rfl
  obtain ⟨r5, r6⟩ := k1.at 4 rfl
  obtain ⟨⟨b1, -⟩, -⟩ := k9 (s.1 - 1) (by omega)
  have is : nI s.1 - nI 1 = nI (s.1 - 1) := nI_sub (by omega)
  have ih : nI (bsf s.2.1 s.1) - nI 1 = nI (bsf s.2.1 (s.1 - 1) + t.length) := by
    rw [nI_sub (by omega)]
    congr 1; omega
  have ix1 : IX (nI s.1 - nI 1) 32 (s.1 - 1) := by rw [is]; exact IX.mk (by omega) (by omega)
  have ix2 : IX (nI (bsf s.2.1 s.1) - nI 1) 2200 (bsf s.2.1 (s.1 - 1) + t.length) := by rw [ih]; exact IX.mk (by omega) (by omega)
  -- what lies there
  have it : h.EI 1216 (tx 1) (bsf s.2.1 (s.1 - 1) + t.length) = nI a ∧ h.EI 1234 (tx 2) (bsf s.2.1 (s.1 - 1) + t.length) = bI b := by
    have := e4.1
    cases i with
    | inl v =>
      obtain ⟨hb, y, y1, y2⟩ := hi
      obtain ⟨z, z1, -, z3, z4⟩ := this
      rw [y1] at z1
      have z1 := Option.some.inj z1
      subst z1
      exact ⟨by rw [z3, y2], by rw [z4, hb]; rfl⟩
    | inr r =>
      obtain ⟨hb, y1⟩ := hi
      obtain ⟨z, z1, z3, z4, -⟩ := this
      rw [y1] at z1
      have z1 := Option.some.inj z1
      subst z1
      exact ⟨z3, by rw [z4, hb]; rfl⟩
  refine k_X23_takeAny_0 oo ?_
  refine goes_ok t0 k3 ?_
  refine k_X23_takeAny_4 oo (fun q => absurd q (by decide)) (fun _ => ?_)
  refine k_X23_takeAny_7 (r2 := k6) (r4 := r5) (r6 := k5) (b10 := ix1) (r12 := b1) oo (fun q => absurd ((nI_eq (by omega) (by omega)).mp q) (by omega)) (fun _ => ?_)
  refine k_X23_takeAny_25 (r2 := r3) (r4 := k6) (b8 := ix2) (r10 := it.2) oo (fun _ => ?_) (fun q => absurd rfl q)
  refine k_X23_takeAny_44 oo ?_
  refine goes_ok t0 k3 ?_
  refine k_X23_takeAny_48 oo (fun _ => ?_) (fun q => absurd q (by decide))
  refine k_X23_takeAny_53 (r2 := k6) (r4 := r1) (b8 := ix2) (r10 := it.1) oo ?_
  rw [ih]
  have q : Fq (FS taF) h ((h.sI 2861 A (nI (bsf s.2.1 (s.1 - 1) + t.length))).sI 2862 A (nI a)) := Fq.sI (Fq.sI (Fq.refl h) (fsr rfl)) (fsr rfl)
  have s3 : ((h.sI 2861 A (nI (bsf s.2.1 (s.1 - 1) + t.length))).sI 2862 A (nI a)).I 2861 A = nI (bsf s.2.1 (s.1 - 1) + t.length) := by simp [n_sI, z_sI, tag_sI, I_sI, J_sI, R_sI, EI_sI, EJ_sI, ER_sI, n_sJ, z_sJ, tag_sJ, I_sJ, J_sJ, R_sJ, EI_sJ, EJ_sJ, ER_sJ, n_sR, z_sR, tag_sR, I_sR, J_sR, R_sR, EI_sR, EJ_sR, ER_sR, n_sEI, z_sEI, tag_sEI, I_sEI, J_sEI, R_sEI, EI_sEI, EJ_sEI, ER_sEI, n_sEJ, z_sEJ, tag_sEJ, I_sEJ, J_sEJ, R_sEJ, EI_sEJ, EJ_sEJ, ER_sEJ, n_sER, z_sER, tag_sER, I_sER, J_sER, R_sER, EI_sER, EJ_sER, ER_sER, n_nw, z_nw, tag_nw, I_nw, J_nw, R_nw, EI_nw, EJ_nw, ER_nw]
  have s4 : ((h.sI 2861 A (nI (bsf s.2.1 (s.1 - 1) + t.length))).sI 2862 A (nI a)).I 2862 A = nI a := by simp [n_sI, z_sI, tag_sI, I_sI, J_sI, R_sI, EI_sI, EJ_sI, ER_sI, n_sJ, z_sJ, tag_sJ, I_sJ, J_sJ, R_sJ, EI_sJ, EJ_sJ, ER_sJ, n_sR, z_sR, tag_sR, I_sR, J_sR, R_sR, EI_sR, EJ_sR, ER_sR, n_sEI, z_sEI, tag_sEI, I_sEI, J_sEI, R_sEI, EI_sEI, EJ_sEI, ER_sEI, n_sEJ, z_sEJ, tag_sEJ, I_sEJ, J_sEJ, R_sEJ, EI_sEJ, EJ_sEJ, ER_sEJ, n_sER, z_sER, tag_sER, I_sER, J_sER, R_sER, EI_sER, EJ_sER, ER_sER, n_nw, z_nw, tag_nw, I_nw, J_nw, R_nw, EI_nw, EJ_nw, ER_nw]
  generalize (h.sI 2861 A (nI (bsf s.2.1 (s.1 - 1) + t.length))).sI 2862 A (nI a) = h2 at q s3 s4
  have ho' : ∀ c a b e, c = 2 ∨ c = 3 → o' (c, a, b, e) = o (c, a, b, e) := fun c a b e hc => ho _ (by show c ≠ 5; omega) (fun z => by have := congrArg Prod.fst z; have : c = 1 := this; omega)
  have er : ∀ r : Rx, rad o' 0 r = rad o 0 r := rad_k (fun c i j hc => ho' c 0 i j hc)
  have ho1 : ∀ p, p ≠ bsf s.2.1 (s.1 - 1) + t.length → o' (1, 0, 0, p) = o (1, 0, 0, p) := fun p hp => ho _ (by show (1 : Nat) ≠ 5; decide) (fun z => hp (congrArg (fun p : Sl => p.2.2.2) z))
  refine kk h2 q (TK.top h1 k (k1.fr q.1 (FS.no (by decide))) (fun _ _ => th.fr q.1 (FS.no (by decide))) (fun f hf => q.1.I (FS.n ?_)) s3 (by have : t.length + 1 ≤ 64 := e3; omega) (fun p hp => ⟨q.1.EI (FS.n (by decide)) _, q.1.EI (FS.n (by decide)) _, ho1 p (by omega)⟩) (e4.2.kp (fun p _ p2 => ⟨q.1.EI (FS.n (by decide)) _, q.1.EI (FS.n (by decide)) _, ho1 p (by omega)⟩) (fun r _ a ha => by rw [er]; exact ha)) (fun f hf a p => q.1.EI (FS.n ?_) _) (fun f hf a p => q.1.EJ (FS.n ?_) _) ho' (fun p hp => ?_)) s4
  · simp only [List.mem_cons, List.mem_nil_iff, or_false] at hf
    rcases hf with e | e | e | e <;> (rw [e]; decide)
  · simp only [List.mem_cons, List.mem_nil_iff, or_false] at hf
    rcases hf with e | e | e | e | e | e | e | e | e | e <;> (rw [e]; decide)
  · simp only [List.mem_cons, List.mem_nil_iff, or_false] at hf
    rcases hf with e | e <;> (rw [e]; decide)
  · by_cases c : p = bsf s.2.1 (s.1 - 1) + t.length
    · rw [c]; exact ho2
    · rw [ho1 p c]
      exact k11 p (by omega)
end
