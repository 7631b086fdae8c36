/-! types that values have -/
theorem bas_hd {t : Ty} (h : bas t = true) : ∃ b r, t = b :: r ∧ 1 ≤ b ∧ b ≤ 7 := by
  cases t with
  | nil => cases h
  | cons b r =>
    refine ⟨b, r, rfl, ?_⟩
    rcases bas_c h with ⟨-, h1, h2⟩ | ⟨h1, -⟩ | ⟨h1, -⟩ <;> omega
theorem tOK.tv {m : Md} {t : Ty} (h : tOK m t) : TV t ∧ t.length ≤ 7 := by
  obtain ⟨h1, h2 | ⟨b, r, e, hb, h2, h3⟩, -⟩ := h
  · have := bas_len h2.1
    obtain ⟨b, r, e, c1, c2⟩ := bas_hd h2.1
    exact ⟨⟨h1, by omega, b, r, e, by omega, by omega⟩, by omega⟩
  · have := bas_len h2
    subst e
    exact ⟨⟨h1, by simp; omega, b, r, rfl, by omega, by omega⟩, by simp; omega⟩
/-- a type without a reference, as fields have it -/
def fT (m : Md) (t : Ty) : Prop := tby t ∧ bas t = true ∧ nve t ≤ 4 ∧ ∀ k, sidx t = some k → k < nst m
def gT (m : Md) (t : Ty) : Prop := tby t ∧ wty true t ∧ ∀ k, sidx t = some k → k < nst m
theorem sidx_b {b : Nat} {t : Ty} (hb : b ≠ 6) (ht : t ≠ []) : sidx (b :: t) = sidx t := by
  cases t with
  | nil => exact absurd rfl ht
  | cons c t =>
    cases t with
    | nil => simp only [sidx]; rw [if_neg hb]
    | cons d t => rfl
theorem fT.ok {m : Md} {t : Ty} (h : fT m t) : tOK m t := ⟨h.1, Or.inl ⟨h.2.1, by have := h.2.2.1; omega⟩, h.2.2.2⟩
theorem fT.ne {m : Md} {t : Ty} (h : fT m t) : t ≠ [] := by obtain ⟨b, r, e, -⟩ := bas_hd h.2.1; rw [e]; exact List.cons_ne_nil _ _
theorem fT.rf {m : Md} {t : Ty} (h : fT m t) : isRf t = false := by
  obtain ⟨b, r, e, h1, h2⟩ := bas_hd h.2.1
  subst e
  simp [isRf]; omega
theorem tby_c {b : Nat} {t : Ty} (hb : b < 256) (h : tby t) : tby (b :: t) := fun x hx => by
  rcases List.mem_cons.mp hx with rfl | hx
  · exact hb
  · exact h x hx
theorem fT.ref {m : Md} {t : Ty} (h : fT m t) {b : Nat} (hb : b = 8 ∨ b = 9) : tOK m (b :: t) := ⟨tby_c (by omega) h.1, Or.inr ⟨b, t, rfl, hb, h.2.1, h.2.2.1⟩, fun k hk => h.2.2.2 k (by rw [sidx_b (by omega) h.ne] at hk; exact hk)⟩
theorem fT.vec {m : Md} {t : Ty} (h : fT m t) : tOK m (7 :: t) := by
  refine ⟨tby_c (by omega) h.1, Or.inl ⟨?_, ?_⟩, fun k hk => h.2.2.2 k (by rw [sidx_b (by omega) h.ne] at hk; exact hk)⟩
  · obtain ⟨b, r, e, -⟩ := bas_hd h.2.1
    rw [e, bas_7, ← e]; exact h.2.1
  · show 1 + nve t ≤ 5
    have := h.2.2.1; omega
theorem gT.ok {m : Md} {t : Ty} (h : gT m t) : tOK m t := by
  obtain ⟨h1, h2, h3⟩ := h
  cases t with
  | nil => exact h2.elim
  | cons b r =>
    have h2 : if b = 8 ∨ b = 9 then true = true ∧ bas r = true ∧ nve r ≤ 4 else bas (b :: r) = true ∧ nve (b :: r) ≤ 4 := h2
    by_cases c : b = 8 ∨ b = 9
    · rw [if_pos c] at h2; exact ⟨h1, Or.inr ⟨b, r, rfl, c, h2.2⟩, h3⟩
    · rw [if_neg c] at h2; exact ⟨h1, Or.inl ⟨h2.1, by omega⟩, h3⟩
theorem gT.f {m : Md} {t : Ty} (h : gT m t) (hr : isRf t = false) : fT m t := by
  obtain ⟨h1, h2, h3⟩ := h
  cases t with
  | nil => exact h2.elim
  | cons b r =>
    have h2 : if b = 8 ∨ b = 9 then true = true ∧ bas r = true ∧ nve r ≤ 4 else bas (b :: r) = true ∧ nve (b :: r) ≤ 4 := h2
    simp [isRf] at hr
    rw [if_neg (by omega)] at h2
    exact ⟨h1, h2.1, h2.2, h3⟩
theorem tOK.rst {m : Md} {t : Ty} (h : tOK m t) (hr : isRf t = true) : ∃ b r, t = b :: r ∧ (b = 8 ∨ b = 9) ∧ fT m r := by
  obtain ⟨h1, h2 | ⟨b, r, e, hb, h2, h3⟩, h4⟩ := h
  · obtain ⟨b, r, e, c1, c2⟩ := bas_hd h2.1
    subst e
    simp [isRf] at hr; omega
  · subst e
    have hne : r ≠ [] := by obtain ⟨b, r', e, -⟩ := bas_hd h2; rw [e]; exact List.cons_ne_nil _ _
    refine ⟨b, r, rfl, hb, fun x hx => h1 x (List.mem_cons_of_mem _ hx), h2, h3, fun k hk => h4 k ?_⟩
    rw [sidx_b (by omega) hne]; exact hk
theorem tOK.st {m : Md} {k : Nat} (hk : k < nst m) (h64 : nst m ≤ 64) : tOK m [6, k] := ⟨fun x hx => by simp at hx; omega, Or.inl ⟨rfl, by simp [nve]⟩, fun j hj => by simp [sidx] at hj; omega⟩
theorem tOK.pr {m : Md} {b : Nat} (h1 : 1 ≤ b) (h2 : b ≤ 5) : tOK m [b] := ⟨fun x hx => by simp at hx; omega, Or.inl ⟨by simp [bas]; omega, by
  unfold nve; split
  · next e => simp at e; omega
  · omega⟩, fun j hj => by simp [sidx] at hj⟩
/-! the component's checker: needs, the stack -/
def ckF : List Nat := [1542, 1545, 1546, 1543, 1551, 10000 + 387, 10000 + 403, 10000 + 419, 10000 + 435, 10000 + 451, 10000 + 482, 10000 + 499, 10000 + 515]
/-- what operations change, but for the table -/
def opF : List Nat := [1542, 1545, 1546, 1543, 10000 + 387, 10000 + 403, 10000 + 419, 10000 + 435, 10000 + 451]
def CE (K : Outcome → AH → Prop) (C W : Nat) (h : AH) (w : Nat) : Prop := ∀ h', Fq (FS ckF) h h' → h'.I 1551 C = nI w → K (.threw W) h'
theorem CE.fq {K : Outcome → AH → Prop} {C W : Nat} {h h1 : AH} {w : Nat} {l : List Nat} (f : Fq (FS l) h h1) (t : CE K C W h w) (hl : l.all (fun f => ckF.contains f) = true) : CE K C W h1 w := fun h' f' e => t h' ((f.mono (FS.mono hl)).trans f') e
theorem cneed_ok {G : Gt} {d : Nat} {h : AH} {K : Outcome → AH → Prop} {C W w : Nat} {b : Bool} (hs : SCk h C W) (hd : 1 ≤ d) (kk : EQ (nee b w) (fun _ => K (.returned none) h) (CE K C W h)) : MW G d e_X13_need [.ref C, .int (bI b), .int (nI w)] h K := by
  refine st_X13_need fun X o hG hD hf => ?_
  subst hG; subst hD
  have t0 := hs.1.1
  have r1 := hs.2.1.2.2.2.2.2.2
  cases b with
  | true =>
    refine k_X13_need_0 o (fun _ => ?_) (fun c => absurd c (by decide))
    refine k_X13_need_9 o ?_
    exact kk
  | false =>
    refine k_X13_need_0 o (fun c => absurd rfl c) (fun _ => ?_)
    refine k_X13_need_4 o ?_
    refine st_X13_fail fun X' o' hG' hD' _ => ?_
    refine k_X13_fail_0 o' ?_
    refine kk _ ((Fq.refl h).sI rfl) ?_
    simp [n_sI, z_sI, tag_sI, I_sI, J_sI, R_sI, EI_sI, EJ_sI, ER_sI, n_sJ, z_sJ, tag_sJ, I_sJ, J_sJ, R_sJ, EI_sJ, EJ_sJ, ER_sJ, n_sR, z_sR, tag_sR, I_sR, J_sR, R_sR, EI_sR, EJ_sR, ER_sR, n_sEI, z_sEI, tag_sEI, I_sEI, J_sEI, R_sEI, EI_sEI, EJ_sEI, ER_sEI, n_sEJ, z_sEJ, tag_sEJ, I_sEJ, J_sEJ, R_sEJ, EI_sEJ, EJ_sEJ, ER_sEJ, n_sER, z_sER, tag_sER, I_sER, J_sER, R_sER, EI_sER, EJ_sER, ER_sER, n_nw, z_nw, tag_nw, I_nw, J_nw, R_nw, EI_nw, EJ_nw, ER_nw]
theorem SKr.fr {P : Nat → Nat → Prop} {h h' : AH} {C : Nat} (q : Fr P h h') (n1 : ∀ a, ¬ P (10000 + 387) a) (n2 : ∀ a, ¬ P (10000 + 403) a) : ∀ {s : Sk}, SKr h C s → SKr h' C s
  | [], _ => trivial
  | x :: s, hs => ⟨⟨by rw [q.EJ (n1 _)]; exact hs.1.1, by rw [q.EJ (n2 _)]; exact hs.1.2⟩, SKr.fr q n1 n2 hs.2⟩
theorem SKh.fr {l : List Nat} {h h' : AH} {C : Nat} {m : Md} {s : Sk} (q : Fq (FS l) h h') (hl : [1542, 10000 + 387, 10000 + 403].all (fun f => !l.contains f) = true) (k : SKh h C m s) : SKh h' C m s := by
  have np : ∀ f a, [1542, 10000 + 387, 10000 + 403].contains f = true → ¬ FS l f a := FS.no hl
  exact ⟨by rw [q.1.I (np _ _ rfl)]; exact k.1, k.2.1.fr q.1 (fun a => np _ _ rfl) (fun a => np _ _ rfl), k.2.2⟩
theorem LSh.fr {l : List Nat} {h h' : AH} {C : Nat} {lt : List Ty} {s : Ls} (q : Fq (FS l) h h') (hl : [1543, 10000 + 419].all (fun f => !l.contains f) = true) (k : LSh h C lt s) : LSh h' C lt s := by
  have np : ∀ f a, [1543, 10000 + 419].contains f = true → ¬ FS l f a := FS.no hl
  exact ⟨by rw [q.1.J (np _ _ rfl)]; exact k.1, fun i og hi => by rw [q.1.EJ (np _ _ rfl)]; exact k.2.1 i og hi, k.2.2⟩
def tkF : List Nat := [1542, 1545, 1546]
/-- what was taken -/
def TKn (h : AH) (C : Nat) (x : Ty × Og) : Prop := h.J 1545 C = lN (tyc x.1) ∧ h.J 1546 C = enc x.2
theorem ctake_ok {G : Gt} {d : Nat} {h : AH} {K : Outcome → AH → Prop} {C W : Nat} {m : Md} {s : Sk} (hs : SCk h C W) (hk : SKh h C m s) (hd : 2 ≤ d) (kk : EQ (tk s) (fun r => ∀ h', Fq (FS tkF) h h' → TKn h' C r.1 → SKh h' C m r.2 → K (.returned none) h') (CE K C W h)) : MW G d e_X13_take [.ref C] h K := by
  refine st_X13_take fun X o hG hD hf => ?_
  subst hG; subst hD
  have t0 := hs.1.1
  obtain ⟨k1, k2, k3, k4⟩ := id hk
  cases s with
  | nil =>
    refine k_X13_take_0 o (fun _ => ?_) (fun c => ?_)
    rotate_left
    · exact absurd (show nI 0 ≤ 0 by decide) c
    refine k_X13_take_12 o ?_
    refine k_X13_take_13 o ?_
    exact cneed_ok (b := false) hs (by omega) kk
  | cons x s =>
    have hl : s.length + 1 ≤ 64 := k3
    have t1 := hs.2.1.1
    have t2 := hs.2.1.2.1
    have t3 := hs.2.2.2.2.2.1
    have t4 := hs.2.2.2.2.2.2.1
    have ix : IX (nI (x :: s).length - nI 1) 64 s.length := by
      show IX (nI (s.length + 1) - nI 1) 64 s.length
      rw [nI_sub (by omega)]; exact IX.mk (by omega) (by omega)
    refine k_X13_take_0 o (fun c => ?_) (fun _ => ?_)
    · have c : nI (s.length + 1) ≤ nI 0 := c
      exact absurd ((nI_leI (by omega) (by omega)).mp c) (by omega)
    refine k_X13_take_8 o ?_
    refine k_X13_take_13 o ?_
    refine cneed_ok (b := true) hs (by omega) ?_
    have e1 := k2.1.1
    have e2 := k2.1.2
    show V X K 17 _ _ h
    refine k_X13_take_17 o ?_
    have e3 : nI (x :: s).length - nI 1 = nI s.length := by
      show nI (s.length + 1) - nI 1 = _
      rw [nI_sub (by omega)]; rfl
    rw [e3]
    have f1 : Fq (FS tkF) h (((h.sI 1542 C (nI s.length)).sJ 1545 C (lN (tyc x.1))).sJ 1546 C (enc x.2)) := (by refine (Fq.sJ (Fq.sJ (Fq.sI (Fq.refl h) ?_) ?_) ?_) <;> exact rfl)
    refine kk _ f1 ⟨?_, ?_⟩ ⟨?_, ?_, show s.length ≤ 64 by omega, fun y hy => k4 y (List.mem_cons_of_mem _ hy)⟩
    · simp [n_sI, z_sI, tag_sI, I_sI, J_sI, R_sI, EI_sI, EJ_sI, ER_sI, n_sJ, z_sJ, tag_sJ, I_sJ, J_sJ, R_sJ, EI_sJ, EJ_sJ, ER_sJ, n_sR, z_sR, tag_sR, I_sR, J_sR, R_sR, EI_sR, EJ_sR, ER_sR, n_sEI, z_sEI, tag_sEI, I_sEI, J_sEI, R_sEI, EI_sEI, EJ_sEI, ER_sEI, n_sEJ, z_sEJ, tag_sEJ, I_sEJ, J_sEJ, R_sEJ, EI_sEJ, EJ_sEJ, ER_sEJ, n_sER, z_sER, tag_sER, I_sER, J_sER, R_sER, EI_sER, EJ_sER, ER_sER, n_nw, z_nw, tag_nw, I_nw, J_nw, R_nw, EI_nw, EJ_nw, ER_nw]
    · simp [n_sI, z_sI, tag_sI, I_sI, J_sI, R_sI, EI_sI, EJ_sI, ER_sI, n_sJ, z_sJ, tag_sJ, I_sJ, J_sJ, R_sJ, EI_sJ, EJ_sJ, ER_sJ, n_sR, z_sR, tag_sR, I_sR, J_sR, R_sR, EI_sR, EJ_sR, ER_sR, n_sEI, z_sEI, tag_sEI, I_sEI, J_sEI, R_sEI, EI_sEI, EJ_sEI, ER_sEI, n_sEJ, z_sEJ, tag_sEJ, I_sEJ, J_sEJ, R_sEJ, EI_sEJ, EJ_sEJ, ER_sEJ, n_sER, z_sER, tag_sER, I_sER, J_sER, R_sER, EI_sER, EJ_sER, ER_sER, n_nw, z_nw, tag_nw, I_nw, J_nw, R_nw, EI_nw, EJ_nw, ER_nw]
    · simp [n_sI, z_sI, tag_sI, I_sI, J_sI, R_sI, EI_sI, EJ_sI, ER_sI, n_sJ, z_sJ, tag_sJ, I_sJ, J_sJ, R_sJ, EI_sJ, EJ_sJ, ER_sJ, n_sR, z_sR, tag_sR, I_sR, J_sR, R_sR, EI_sR, EJ_sR, ER_sR, n_sEI, z_sEI, tag_sEI, I_sEI, J_sEI, R_sEI, EI_sEI, EJ_sEI, ER_sEI, n_sEJ, z_sEJ, tag_sEJ, I_sEJ, J_sEJ, R_sEJ, EI_sEJ, EJ_sEJ, ER_sEJ, n_sER, z_sER, tag_sER, I_sER, J_sER, R_sER, EI_sER, EJ_sER, ER_sER, n_nw, z_nw, tag_nw, I_nw, J_nw, R_nw, EI_nw, EJ_nw, ER_nw]
    · exact k2.2.fr f1.1 (fun a => FS.n rfl) (fun a => FS.n rfl)
theorem cput_ok {G : Gt} {d : Nat} {h : AH} {K : Outcome → AH → Prop} {C W : Nat} {m : Md} {s : Sk} {t : Ty} {og : Og} (hs : SCk h C W) (hk : SKh h C m s) (ht : tOK m t) (ho : og.1 < 9223372036854775808 ∧ (isRf t = false → og = (0, false))) (hd : 2 ≤ d) (kk : EQ (pt t og s) (fun s' => ∀ h', Fq (FS [1542, 10000 + 387, 10000 + 403]) h h' → SKh h' C m s' → K (.returned none) h') (CE K C W h)) : MW G d e_X13_put [.ref C, .long (lN (tyc t)), .long (enc og)] h K := by
  refine st_X13_put fun X o hG hD hf => ?_
  subst hG; subst hD
  have t0 := hs.1.1
  obtain ⟨k1, k2, k3, k4⟩ := id hk
  have t1 := hs.2.1.1
  have t2 := hs.2.1.2.1
  have t3 := hs.2.2.2.2.2.1
  have t4 := hs.2.2.2.2.2.2.1
  unfold pt at kk
  have kk := EQ_eb.mp kk
  refine k_X13_put_0 o (fun c => ?_) (fun c => ?_)
  · have c := (nI_leI (by omega) (by omega)).mp c
    rw [decide_eq_false (by omega)] at kk
    refine k_X13_put_14 o ?_
    refine k_X13_put_15 o ?_
    exact cneed_ok (b := false) hs (by omega) kk
  · have c : s.length < 64 := Nat.not_le.mp fun z => c ((nI_leI (by omega) (by omega)).mpr z)
    rw [decide_eq_true c] at kk
    have kk := EQ_nt.mp kk
    have ix : IX (nI s.length) 64 s.length := IX.mk (by omega) (by omega)
    refine k_X13_put_10 o ?_
    refine k_X13_put_15 o ?_
    refine cneed_ok (b := true) hs (by omega) ?_
    show V X K 19 _ _ h
    refine k_X13_put_19 o ?_
    have f1 : Fq (FS [1542, 10000 + 387, 10000 + 403]) h (((h.sEJ 387 (C + 5) s.length (lN (tyc t))).sEJ 403 (C + 6) s.length (enc og)).sI 1542 C (nI s.length + nI 1)) := (by refine (Fq.sI (Fq.sEJ (Fq.sEJ (Fq.refl h) ?_) ?_) ?_) <;> exact rfl)
    have ss : ∀ s' : Sk, s'.length ≤ s.length → SKr h C s' → SKr (((h.sEJ 387 (C + 5) s.length (lN (tyc t))).sEJ 403 (C + 6) s.length (enc og)).sI 1542 C (nI s.length + nI 1)) C s' := by
      intro s'
      induction s' with
      | nil => intro _ _; trivial
      | cons y s' ih =>
        intro hl hk'
        simp only [List.length_cons] at hl
        have ne : s'.length ≠ s.length := by omega
        refine ⟨⟨?_, ?_⟩, ih (by omega) hk'.2⟩
        · have := hk'.1.1
          simpa [n_sI, z_sI, tag_sI, I_sI, J_sI, R_sI, EI_sI, EJ_sI, ER_sI, n_sJ, z_sJ, tag_sJ, I_sJ, J_sJ, R_sJ, EI_sJ, EJ_sJ, ER_sJ, n_sR, z_sR, tag_sR, I_sR, J_sR, R_sR, EI_sR, EJ_sR, ER_sR, n_sEI, z_sEI, tag_sEI, I_sEI, J_sEI, R_sEI, EI_sEI, EJ_sEI, ER_sEI, n_sEJ, z_sEJ, tag_sEJ, I_sEJ, J_sEJ, R_sEJ, EI_sEJ, EJ_sEJ, ER_sEJ, n_sER, z_sER, tag_sER, I_sER, J_sER, R_sER, EI_sER, EJ_sER, ER_sER, n_nw, z_nw, tag_nw, I_nw, J_nw, R_nw, EI_nw, EJ_nw, ER_nw, ne] using this
        · have := hk'.1.2
          simpa [n_sI, z_sI, tag_sI, I_sI, J_sI, R_sI, EI_sI, EJ_sI, ER_sI, n_sJ, z_sJ, tag_sJ, I_sJ, J_sJ, R_sJ, EI_sJ, EJ_sJ, ER_sJ, n_sR, z_sR, tag_sR, I_sR, J_sR, R_sR, EI_sR, EJ_sR, ER_sR, n_sEI, z_sEI, tag_sEI, I_sEI, J_sEI, R_sEI, EI_sEI, EJ_sEI, ER_sEI, n_sEJ, z_sEJ, tag_sEJ, I_sEJ, J_sEJ, R_sEJ, EI_sEJ, EJ_sEJ, ER_sEJ, n_sER, z_sER, tag_sER, I_sER, J_sER, R_sER, EI_sER, EJ_sER, ER_sER, n_nw, z_nw, tag_nw, I_nw, J_nw, R_nw, EI_nw, EJ_nw, ER_nw, ne] using this
    refine kk _ f1 ⟨?_, ⟨⟨?_, ?_⟩, ss s (Nat.le_refl _) k2⟩, by simp; omega, fun y hy => ?_⟩
    · simp [n_sI, z_sI, tag_sI, I_sI, J_sI, R_sI, EI_sI, EJ_sI, ER_sI, n_sJ, z_sJ, tag_sJ, I_sJ, J_sJ, R_sJ, EI_sJ, EJ_sJ, ER_sJ, n_sR, z_sR, tag_sR, I_sR, J_sR, R_sR, EI_sR, EJ_sR, ER_sR, n_sEI, z_sEI, tag_sEI, I_sEI, J_sEI, R_sEI, EI_sEI, EJ_sEI, ER_sEI, n_sEJ, z_sEJ, tag_sEJ, I_sEJ, J_sEJ, R_sEJ, EI_sEJ, EJ_sEJ, ER_sEJ, n_sER, z_sER, tag_sER, I_sER, J_sER, R_sER, EI_sER, EJ_sER, ER_sER, n_nw, z_nw, tag_nw, I_nw, J_nw, R_nw, EI_nw, EJ_nw, ER_nw, nI_add]
    · simp [n_sI, z_sI, tag_sI, I_sI, J_sI, R_sI, EI_sI, EJ_sI, ER_sI, n_sJ, z_sJ, tag_sJ, I_sJ, J_sJ, R_sJ, EI_sJ, EJ_sJ, ER_sJ, n_sR, z_sR, tag_sR, I_sR, J_sR, R_sR, EI_sR, EJ_sR, ER_sR, n_sEI, z_sEI, tag_sEI, I_sEI, J_sEI, R_sEI, EI_sEI, EJ_sEI, ER_sEI, n_sEJ, z_sEJ, tag_sEJ, I_sEJ, J_sEJ, R_sEJ, EI_sEJ, EJ_sEJ, ER_sEJ, n_sER, z_sER, tag_sER, I_sER, J_sER, R_sER, EI_sER, EJ_sER, ER_sER, n_nw, z_nw, tag_nw, I_nw, J_nw, R_nw, EI_nw, EJ_nw, ER_nw]
    · simp [n_sI, z_sI, tag_sI, I_sI, J_sI, R_sI, EI_sI, EJ_sI, ER_sI, n_sJ, z_sJ, tag_sJ, I_sJ, J_sJ, R_sJ, EI_sJ, EJ_sJ, ER_sJ, n_sR, z_sR, tag_sR, I_sR, J_sR, R_sR, EI_sR, EJ_sR, ER_sR, n_sEI, z_sEI, tag_sEI, I_sEI, J_sEI, R_sEI, EI_sEI, EJ_sEI, ER_sEI, n_sEJ, z_sEJ, tag_sEJ, I_sEJ, J_sEJ, R_sEJ, EI_sEJ, EJ_sEJ, ER_sEJ, n_sER, z_sER, tag_sER, I_sER, J_sER, R_sER, EI_sER, EJ_sER, ER_sER, n_nw, z_nw, tag_nw, I_nw, J_nw, R_nw, EI_nw, EJ_nw, ER_nw]
    · rcases List.mem_cons.mp hy with rfl | hy
      · exact ⟨ht, ho⟩
      · exact k4 y hy
