/-! the ledger's face: execute -/
/-- behind execute -/
def abE (a : Ab) (rr : Nat → TxR) (s : Qs) : Ab := (a.1, (a.2.1.1, bnS a.2.1.2 rr a.2.2.1.1 (a.2.2.1.2 - a.2.2.1.1)), (a.2.2.1.2, a.2.2.1.2), (a.2.2.2.1.1, a.2.2.2.1.2.1, a.2.2.2.1.2.2.1, fun k => if k < a.2.2.1.1 then a.2.2.2.1.2.2.2 k else rr k), a.2.2.2.2.1, s, a.2.2.2.2.2.2)
section
variable {n B : Nat} {G : Gt} {cm : Md} {y : Ly} {lx : Lx} {a : Ab} {h h' : AH} {d : Nat} {K : Outcome → AH → Prop}
theorem exG {l : List Nat} (hl : l.all (fun f => !exeG f) = true) : ∀ f a, l.contains f = true → ¬ (fun f (_ : Nat) => exeG f = true) f a := fun f _ hf h => exN.f (P := fun _ _ => True) hl hf h
theorem lexe_ok (r : RCm n G B cm y lx a h) (hd : 79 ≤ d) (k0 : a.2.2.1.1 = a.2.2.1.2 → K (.returned (some (.int (-2)))) h) (kk : a.2.2.1.1 < a.2.2.1.2 → ∀ h' (rr : Nat → TxR) (ss : Nat → Qs), ss a.2.2.1.1 = a.2.2.2.2.2.1 → QCH cm a.2.2.2.1.1 (opb a.2.2.2.1.2.1 a.2.2.2.1.2.2.1) rr ss a.2.2.1.1 a.2.2.1.2 → RCm n G B cm y lx (abE a rr (ss a.2.2.1.2)) h' → Fr (fun f _ => exeG f = true) h h' → h'.I 20 (yA y) = nI 0 → K (.returned (some (.int (nI (dnc rr a.2.2.1.1 (a.2.2.1.2 - a.2.2.1.1)))))) h') : MW G d e_X1_execute [.ref (yA y)] h K := by
  obtain ⟨⟨r1, ⟨r2, r3, r4, r4'⟩, r5⟩, ⟨r6, r7, ⟨wv, r8⟩, r9, r9'⟩, ⟨r10, r11⟩, ⟨r12, r13, r14, r15⟩, r16, r17, r18, r19⟩ := r
  refine execute_ok r1 r2 r3 r4 r4' r5 r17 r18 r19 r8 hd k0 (fun hlt h1 rr ss e0 ch ex rs ot fr ⟨f1, o1⟩ => ?_)
  refine kk hlt h1 rr ss e0 ch ⟨⟨ex, ⟨f1, ?_, Nat.le_refl _, r4'⟩, r5⟩, ⟨?_, r7.fr fr (exG (by decide)), ⟨wv, r8.fr fr (exG (by decide))⟩, r9.fr fr (exG (by decide)), r9'⟩, ⟨fun k k1 k2 => ?_, fun k k1 k2 => ?_⟩, ⟨?_, r13.fr fr (exG (by decide)), fr.tag r14, r15.fr fr (exG (l := [14096]) (by decide) _ (G.ad 12) rfl)⟩, r16, r17, r18, r19⟩ fr o1
  · rw [fr.I (exG (l := [4]) (by decide) _ (yA y) rfl)]; exact r3
  · rw [fr.J (exG (l := [17]) (by decide) _ (yA y) rfl)]; exact r6
  · show TXO h1 y k (a.2.2.2.1.2.1 k) (if k < a.2.2.1.1 then a.2.2.2.1.2.2.2 k else rr k) ∧ _
    by_cases c : k < a.2.2.1.1
    · rw [if_pos c]
      obtain ⟨x1, x2⟩ := r10 k k1 c
      obtain ⟨o1, o2⟩ := ot k (by omega) (fun q => by omega)
      exact ⟨o1 _ _ x1, o2.trans x2⟩
    · rw [if_neg c]
      exact rs k (by omega) k2
  · have k1 : a.2.2.1.2 ≤ k := k1
    have k2 : k < a.2.2.1.2 := k2
    omega
  · rw [fr.R (exG (l := [13]) (by decide) _ (yA y) rfl)]; exact r12
theorem lslips_ok (kk : K (.returned (some (.int (nI 0)))) h) : MW G d e_X1_slips [.ref (yA y)] h K := by
  refine st_X1_slips fun X o hG hD _ => ?_
  exact k_X1_slips_0 o kk
/-- what stays of the tree -/
theorem TRE.fr {P : Nat → Nat → Prop} {T O : Nat} {a' : Ab} (q : Fr P h h') (np : ∀ f a, ([19, 33, 14096] ++ htR).contains f = true → ¬ P f a) (nz : ¬ P (10000 + 691) (T + 24)) (hr : h'.I 20 (yA y) = nI 0 ∨ (∀ f a, (20 :: ttF).contains f = true → ¬ P f a) ∧ a'.2.2.2.2.2.1 = a.2.2.2.2.2.1) (t : TRE G y T O a h) : TRE G y T O a' h' := by
  obtain ⟨⟨t1, t2, t3, t4⟩, ⟨t5, t6⟩, t7⟩ := t
  have sub : ∀ f a, htR.contains f = true → ¬ P f a := fun f a hf => np f a (by rw [List.contains_iff_mem] at hf ⊢; exact List.mem_append_right _ hf)
  refine ⟨⟨by rw [q.R (np _ _ rfl)]; exact t1, t2.fr q sub, by rw [r4_fr q nz]; exact t3, t4.fr q (np _ _ rfl)⟩, ⟨by rw [q.R (np _ _ rfl)]; exact t5, q.tag t6⟩, ?_⟩
  rcases hr with hr | ⟨nr, hs⟩
  · exact Or.inl hr
  · have eI : h'.I 20 (yA y) = h.I 20 (yA y) := q.I (nr _ _ rfl)
    rw [eI, hs]
    rcases t7 with t7 | ⟨t7, ot, rr, t8, t9⟩
    · exact Or.inl t7
    · exact Or.inr ⟨t7, ot, rr, t8.fr q (fun f a hf _ => nr f a (by rw [List.contains_iff_mem] at hf ⊢; exact List.mem_cons_of_mem _ hf)) (fun a _ => nr _ _ (by decide)), t9⟩
end
