/-! the twin's looker: coming from one instruction to another one -/
/-- a cell of what was noted -/
def inO (v : Option Og) : Bool := match v with
  | some og => og.2
  | none => false
def TCe (h : AH) (O p : Nat) (v : Option Og) : Prop := h.EI 1762 (O + 4) p = bI v.isSome ∧ h.EI 1794 (O + 6) p = bI (inO v) ∧ ∀ og, v = some og → h.EJ 1779 (O + 5) p = lN og.1
def SCe (h h' : AH) (O p : Nat) : Prop := h'.EI 1762 (O + 4) p = h.EI 1762 (O + 4) p ∧ h'.EJ 1779 (O + 5) p = h.EJ 1779 (O + 5) p ∧ h'.EI 1794 (O + 6) p = h.EI 1794 (O + 6) p
theorem TCe.eq {h h' : AH} {O p : Nat} {v : Option Og} (s : TCe h O p v) (e : SCe h h' O p) : TCe h' O p v := ⟨by rw [e.1]; exact s.1, by rw [e.2.2]; exact s.2.1, fun og hg => by rw [e.2.1]; exact s.2.2 og hg⟩
theorem SCe.trans {h h' h2 : AH} {O p : Nat} (a : SCe h h' O p) (b : SCe h' h2 O p) : SCe h h2 O p := ⟨by rw [b.1, a.1], by rw [b.2.1, a.2.1], by rw [b.2.2, a.2.2]⟩
theorem SCe.fr {P : Nat → Nat → Prop} {h h' : AH} {O p : Nat} (q : Fr P h h') (n1 : ∀ a, ¬ P (10000 + 1762) a) (n2 : ∀ a, ¬ P (10000 + 1779) a) (n3 : ∀ a, ¬ P (10000 + 1794) a) : SCe h h' O p := ⟨q.EI (n1 _) p, q.EJ (n2 _) p, q.EI (n3 _) p⟩
def TMr (h : AH) (O j : Nat) (lt : List Ty) (l : Ls) : Prop := (∀ k, k < l.length → TCe h O (40 * j + k) (lgt l k)) ∧ LSo lt l
def TMh (h : AH) (O n : Nat) (lt : List Ty) (tb : Tb) : Prop := tb.length = n ∧ ∀ j, j < n → h.EI 1730 (O + 2) j = bI (tat tb j).isSome ∧ ∀ l, tat tb j = some l → TMr h O j lt l
def tmF : List Nat := [10000 + 1730, 10000 + 1762, 10000 + 1779, 10000 + 1794]
theorem TMh.fr {P : Nat → Nat → Prop} {h h' : AH} {O n : Nat} {lt : List Ty} {tb : Tb} (q : Fr P h h') (np : ∀ f a, tmF.contains f = true → ¬ P f a) (s : TMh h O n lt tb) : TMh h' O n lt tb :=
  ⟨s.1, fun j hj => ⟨by rw [q.EI (np _ _ rfl)]; exact (s.2 j hj).1, fun l hl => ⟨fun k hk => (((s.2 j hj).2 l hl).1 k hk).eq (SCe.fr q (fun _ => np _ _ rfl) (fun _ => np _ _ rfl) (fun _ => np _ _ rfl)), ((s.2 j hj).2 l hl).2⟩⟩⟩
def meF : List Nat := [3090, 10000 + 1762, 10000 + 1779, 10000 + 1794]
theorem TRs.st {h h' : AH} {O : Nat} {m : Md} {lt : List Ty} {e : Except Nat Ts} {l : List Nat} (q : Fq (FS l) h h') (hl : trF.all (fun f => !l.contains f) = true) (s : TRs h O m lt e) : TRs h' O m lt e := s.fr q.1 (FS.no hl)
theorem lmee_ok {G : Gt} {d : Nat} {h : AH} {K : Outcome → AH → Prop} {O U n f p k : Nat} {B : Nat → Nat} {m : Md} {u : Ux} {x : Ts} {a0 : Option Og} (hs : LC h O U n B m f u) (hu : gU m u) (h4 : ab4 m) (hr : TGd h O m (lty u) x) (hk : k < nlo u) (hp : p < 41000) (ha : TCe h O p a0) (hd : 4 ≤ d)
    (kk : ∀ h', Fq (FS meF) h h' → (∀ q, q ≠ p → SCe h h' O q) → EQ (nee ((a0.isSome == (lgt x.2.2 k).isSome) || hsA m (tgt (lty u) k) 2) 9) (fun _ => TGd h' O m (lty u) x ∧ TCe h' O p (jn1 a0 (lgt x.2.2 k))) (TBd h' O) → K (.returned none) h') : MW G d e_X25_meet [.ref O, .int (nI p), .int (nI k)] h K := by
  refine st_X25_meet fun X o hG hD _ => ?_
  subst hG; subst hD
  obtain ⟨s0, ⟨a1, a2, a3, a4, a5, a6⟩, ⟨b1, b2, b3, b4, b5, b6⟩, ⟨c1, c2, c3, c4, c5, c6⟩, d1, d2, d3, d4, d5, d6⟩ := id hs.1.1
  have hn := hu.n
  have ix : IX (nI k) 40 k := IX.mk (by omega) (by omega)
  have ip : IX (nI p) 41000 p := IX.mk (by omega) (by omega)
  obtain ⟨t1, t2, t3, t4⟩ := id hr
  have hll : x.2.2.length = nlo u := by rw [t3.2.2.1, lty_len]
  have w1 := t3.1 k (by omega)
  have w2 := ha.1
  have w3 := hs.2.2 k hk
  have hgt := hu.lt hk
  have hr' : TRs h O m (lty u) (.ok x) := hr
  generalize hb0 : lgt x.2.2 k = b0 at *
  -- behind the need
  have after : ∀ h1 e, Fq (FS [3090]) h h1 → TRs h1 O m (lty u) (eb (.ok x) fun x => eb (nee e 9) fun _ => .ok x) → (e = ((a0.isSome == b0.isSome) || hsA m (tgt (lty u) k) 2)) → V X K 40 [.ref O, .int (nI p), .int (nI k), nov] [] h1 := by
    intro h1 e f1 r1 he
    have l1 : LC h1 O U n B m f u := hs.fr f1.1 (FS.no rfl)
    obtain ⟨s0, ⟨a1, a2, a3, a4, a5, a6⟩, ⟨b1, b2, b3, b4, b5, b6⟩, ⟨c1, c2, c3, c4, c5, c6⟩, d1, d2, d3, d4, d5, d6⟩ := id l1.1.1
    have ha1 : TCe h1 O p a0 := ha.eq (SCe.fr f1.1 (fun _ => FS.n rfl) (fun _ => FS.n rfl) (fun _ => FS.n rfl))
    have y1 := ha1.1
    have y2 : h1.EI 1858 (O + 10) k = bI b0.isSome := by rw [f1.1.EI (FS.n rfl)]; exact w1
    have fin : ∀ h5, Fq (FS [10000 + 1762, 10000 + 1779, 10000 + 1794]) h1 h5 → (∀ q, q ≠ p → SCe h1 h5 O q) → TCe h5 O p (jn1 a0 b0) → K (.returned none) h5 := by
      intro h5 f5 s5 t5
      refine kk h5 ((f1.mono (FS.mono rfl)).trans (f5.mono (FS.mono rfl))) (fun q hq => (SCe.fr f1.1 (fun _ => FS.n rfl) (fun _ => FS.n rfl) (fun _ => FS.n rfl)).trans (s5 q hq)) ?_
      rw [← he]
      have r5 : TRs h5 O m (lty u) (eb (.ok x) fun x => eb (nee e 9) fun _ => .ok x) := r1.st f5 rfl
      cases e with
      | true => exact ⟨r5, t5⟩
      | false => exact r5
    -- not both
    have nb : jn1 a0 b0 = none → V X K 62 [.ref O, .int (nI p), .int (nI k), nov] [] h1 := fun hj => by
      rw [hj] at fin
      refine k_X25_meet_62 o ?_
      refine k_X25_meet_63 o (fun _ => ?_) (fun c => absurd rfl c)
      generalize hh2 : h1.sEI 1762 (O + 4) p (nI 0) = h2
      have m1 : h2.tag O = some (24, 0) := by subst hh2; simp [n_sI, z_sI, tag_sI, I_sI, J_sI, R_sI, EI_sI, EJ_sI, ER_sI, n_sJ, z_sJ, tag_sJ, I_sJ, J_sJ, R_sJ, EI_sJ, EJ_sJ, ER_sJ, n_sR, z_sR, tag_sR, I_sR, J_sR, R_sR, EI_sR, EJ_sR, ER_sR, n_sEI, z_sEI, tag_sEI, I_sEI, J_sEI, R_sEI, EI_sEI, EJ_sEI, ER_sEI, n_sEJ, z_sEJ, tag_sEJ, I_sEJ, J_sEJ, R_sEJ, EI_sEJ, EJ_sEJ, ER_sEJ, n_sER, z_sER, tag_sER, I_sER, J_sER, R_sER, EI_sER, EJ_sER, ER_sER, n_nw, z_nw, tag_nw, I_nw, J_nw, R_nw, EI_nw, EJ_nw, ER_nw, s0]
      have m2 : h2.tag (O + 5) = some (1779, 41000) := by subst hh2; simp [n_sI, z_sI, tag_sI, I_sI, J_sI, R_sI, EI_sI, EJ_sI, ER_sI, n_sJ, z_sJ, tag_sJ, I_sJ, J_sJ, R_sJ, EI_sJ, EJ_sJ, ER_sJ, n_sR, z_sR, tag_sR, I_sR, J_sR, R_sR, EI_sR, EJ_sR, ER_sR, n_sEI, z_sEI, tag_sEI, I_sEI, J_sEI, R_sEI, EI_sEI, EJ_sEI, ER_sEI, n_sEJ, z_sEJ, tag_sEJ, I_sEJ, J_sEJ, R_sEJ, EI_sEJ, EJ_sEJ, ER_sEJ, n_sER, z_sER, tag_sER, I_sER, J_sER, R_sER, EI_sER, EJ_sER, ER_sER, n_nw, z_nw, tag_nw, I_nw, J_nw, R_nw, EI_nw, EJ_nw, ER_nw, c5]
      have m3 : h2.R 3082 O = some (O + 6) := by subst hh2; simp [n_sI, z_sI, tag_sI, I_sI, J_sI, R_sI, EI_sI, EJ_sI, ER_sI, n_sJ, z_sJ, tag_sJ, I_sJ, J_sJ, R_sJ, EI_sJ, EJ_sJ, ER_sJ, n_sR, z_sR, tag_sR, I_sR, J_sR, R_sR, EI_sR, EJ_sR, ER_sR, n_sEI, z_sEI, tag_sEI, I_sEI, J_sEI, R_sEI, EI_sEI, EJ_sEI, ER_sEI, n_sEJ, z_sEJ, tag_sEJ, I_sEJ, J_sEJ, R_sEJ, EI_sEJ, EJ_sEJ, ER_sEJ, n_sER, z_sER, tag_sER, I_sER, J_sER, R_sER, EI_sER, EJ_sER, ER_sER, n_nw, z_nw, tag_nw, I_nw, J_nw, R_nw, EI_nw, EJ_nw, ER_nw, a6]
      refine k_X25_meet_96 o ?_
      refine k_X25_meet_97 o (fun _ => ?_) (fun c => absurd rfl c)
      have m4 : (h2.sEJ 1779 (O + 5) p 0).tag (O + 6) = some (1794, 41000) := by subst hh2; simp [n_sI, z_sI, tag_sI, I_sI, J_sI, R_sI, EI_sI, EJ_sI, ER_sI, n_sJ, z_sJ, tag_sJ, I_sJ, J_sJ, R_sJ, EI_sJ, EJ_sJ, ER_sJ, n_sR, z_sR, tag_sR, I_sR, J_sR, R_sR, EI_sR, EJ_sR, ER_sR, n_sEI, z_sEI, tag_sEI, I_sEI, J_sEI, R_sEI, EI_sEI, EJ_sEI, ER_sEI, n_sEJ, z_sEJ, tag_sEJ, I_sEJ, J_sEJ, R_sEJ, EI_sEJ, EJ_sEJ, ER_sEJ, n_sER, z_sER, tag_sER, I_sER, J_sER, R_sER, EI_sER, EJ_sER, ER_sER, n_nw, z_nw, tag_nw, I_nw, J_nw, R_nw, EI_nw, EJ_nw, ER_nw, c6]
      refine k_X25_meet_129 o ?_
      refine k_X25_meet_130 o ?_
      refine fin _ ?_ (fun q hq => ?_) ⟨?_, ?_, fun og hg => by cases hg⟩
      · subst hh2; exact (by refine (Fq.sEI (Fq.sEJ (Fq.sEI (Fq.refl h1) ?_) ?_) ?_) <;> exact rfl)
      · subst hh2; exact ⟨by simp [n_sI, z_sI, tag_sI, I_sI, J_sI, R_sI, EI_sI, EJ_sI, ER_sI, n_sJ, z_sJ, tag_sJ, I_sJ, J_sJ, R_sJ, EI_sJ, EJ_sJ, ER_sJ, n_sR, z_sR, tag_sR, I_sR, J_sR, R_sR, EI_sR, EJ_sR, ER_sR, n_sEI, z_sEI, tag_sEI, I_sEI, J_sEI, R_sEI, EI_sEI, EJ_sEI, ER_sEI, n_sEJ, z_sEJ, tag_sEJ, I_sEJ, J_sEJ, R_sEJ, EI_sEJ, EJ_sEJ, ER_sEJ, n_sER, z_sER, tag_sER, I_sER, J_sER, R_sER, EI_sER, EJ_sER, ER_sER, n_nw, z_nw, tag_nw, I_nw, J_nw, R_nw, EI_nw, EJ_nw, ER_nw, hq], by simp [n_sI, z_sI, tag_sI, I_sI, J_sI, R_sI, EI_sI, EJ_sI, ER_sI, n_sJ, z_sJ, tag_sJ, I_sJ, J_sJ, R_sJ, EI_sJ, EJ_sJ, ER_sJ, n_sR, z_sR, tag_sR, I_sR, J_sR, R_sR, EI_sR, EJ_sR, ER_sR, n_sEI, z_sEI, tag_sEI, I_sEI, J_sEI, R_sEI, EI_sEI, EJ_sEI, ER_sEI, n_sEJ, z_sEJ, tag_sEJ, I_sEJ, J_sEJ, R_sEJ, EI_sEJ, EJ_sEJ, ER_sEJ, n_sER, z_sER, tag_sER, I_sER, J_sER, R_sER, EI_sER, EJ_sER, ER_sER, n_nw, z_nw, tag_nw, I_nw, J_nw, R_nw, EI_nw, EJ_nw, ER_nw, hq], by simp [n_sI, z_sI, tag_sI, I_sI, J_sI, R_sI, EI_sI, EJ_sI, ER_sI, n_sJ, z_sJ, tag_sJ, I_sJ, J_sJ, R_sJ, EI_sJ, EJ_sJ, ER_sJ, n_sR, z_sR, tag_sR, I_sR, J_sR, R_sR, EI_sR, EJ_sR, ER_sR, n_sEI, z_sEI, tag_sEI, I_sEI, J_sEI, R_sEI, EI_sEI, EJ_sEI, ER_sEI, n_sEJ, z_sEJ, tag_sEJ, I_sEJ, J_sEJ, R_sEJ, EI_sEJ, EJ_sEJ, ER_sEJ, n_sER, z_sER, tag_sER, I_sER, J_sER, R_sER, EI_sER, EJ_sER, ER_sER, n_nw, z_nw, tag_nw, I_nw, J_nw, R_nw, EI_nw, EJ_nw, ER_nw, hq]⟩
      · subst hh2; simp [n_sI, z_sI, tag_sI, I_sI, J_sI, R_sI, EI_sI, EJ_sI, ER_sI, n_sJ, z_sJ, tag_sJ, I_sJ, J_sJ, R_sJ, EI_sJ, EJ_sJ, ER_sJ, n_sR, z_sR, tag_sR, I_sR, J_sR, R_sR, EI_sR, EJ_sR, ER_sR, n_sEI, z_sEI, tag_sEI, I_sEI, J_sEI, R_sEI, EI_sEI, EJ_sEI, ER_sEI, n_sEJ, z_sEJ, tag_sEJ, I_sEJ, J_sEJ, R_sEJ, EI_sEJ, EJ_sEJ, ER_sEJ, n_sER, z_sER, tag_sER, I_sER, J_sER, R_sER, EI_sER, EJ_sER, ER_sER, n_nw, z_nw, tag_nw, I_nw, J_nw, R_nw, EI_nw, EJ_nw, ER_nw]; rfl
      · subst hh2; simp [n_sI, z_sI, tag_sI, I_sI, J_sI, R_sI, EI_sI, EJ_sI, ER_sI, n_sJ, z_sJ, tag_sJ, I_sJ, J_sJ, R_sJ, EI_sJ, EJ_sJ, ER_sJ, n_sR, z_sR, tag_sR, I_sR, J_sR, R_sR, EI_sR, EJ_sR, ER_sR, n_sEI, z_sEI, tag_sEI, I_sEI, J_sEI, R_sEI, EI_sEI, EJ_sEI, ER_sEI, n_sEJ, z_sEJ, tag_sEJ, I_sEJ, J_sEJ, R_sEJ, EI_sEJ, EJ_sEJ, ER_sEJ, n_sER, z_sER, tag_sER, I_sER, J_sER, R_sER, EI_sER, EJ_sER, ER_sER, n_nw, z_nw, tag_nw, I_nw, J_nw, R_nw, EI_nw, EJ_nw, ER_nw]; rfl
    cases a0 with
    | none =>
      refine k_X25_meet_40 o (fun _ => ?_) (fun c => absurd rfl c)
      exact nb rfl
    | some g =>
      refine k_X25_meet_40 o (fun c => absurd (show bI true = 0 from c) (by decide)) (fun _ => ?_)
      cases b0 with
      | none =>
        refine k_X25_meet_49 o (fun _ => ?_) (fun c => absurd rfl c)
        exact nb rfl
      | some g' =>
        refine k_X25_meet_49 o (fun c => absurd (show bI true = 0 from c) (by decide)) (fun _ => ?_)
        obtain ⟨z1, z2, z3, z4⟩ := lgt_at t3 hb0
        have z5 := ha1.2.2 g rfl
        have z6 : h1.EI 1794 (O + 6) p = bI g.2 := ha1.2.1
        refine k_X25_meet_58 o ?_
        refine k_X25_meet_63 o (fun c => absurd (show bI true = 0 from c) (by decide)) (fun _ => ?_)
        generalize hh2 : h1.sEI 1762 (O + 4) p (nI 1) = h2
        have m1 : h2.tag O = some (24, 0) := by subst hh2; simp [n_sI, z_sI, tag_sI, I_sI, J_sI, R_sI, EI_sI, EJ_sI, ER_sI, n_sJ, z_sJ, tag_sJ, I_sJ, J_sJ, R_sJ, EI_sJ, EJ_sJ, ER_sJ, n_sR, z_sR, tag_sR, I_sR, J_sR, R_sR, EI_sR, EJ_sR, ER_sR, n_sEI, z_sEI, tag_sEI, I_sEI, J_sEI, R_sEI, EI_sEI, EJ_sEI, ER_sEI, n_sEJ, z_sEJ, tag_sEJ, I_sEJ, J_sEJ, R_sEJ, EI_sEJ, EJ_sEJ, ER_sEJ, n_sER, z_sER, tag_sER, I_sER, J_sER, R_sER, EI_sER, EJ_sER, ER_sER, n_nw, z_nw, tag_nw, I_nw, J_nw, R_nw, EI_nw, EJ_nw, ER_nw, s0]
        have m2 : h2.tag (O + 5) = some (1779, 41000) := by subst hh2; simp [n_sI, z_sI, tag_sI, I_sI, J_sI, R_sI, EI_sI, EJ_sI, ER_sI, n_sJ, z_sJ, tag_sJ, I_sJ, J_sJ, R_sJ, EI_sJ, EJ_sJ, ER_sJ, n_sR, z_sR, tag_sR, I_sR, J_sR, R_sR, EI_sR, EJ_sR, ER_sR, n_sEI, z_sEI, tag_sEI, I_sEI, J_sEI, R_sEI, EI_sEI, EJ_sEI, ER_sEI, n_sEJ, z_sEJ, tag_sEJ, I_sEJ, J_sEJ, R_sEJ, EI_sEJ, EJ_sEJ, ER_sEJ, n_sER, z_sER, tag_sER, I_sER, J_sER, R_sER, EI_sER, EJ_sER, ER_sER, n_nw, z_nw, tag_nw, I_nw, J_nw, R_nw, EI_nw, EJ_nw, ER_nw, c5]
        have m3 : h2.R 3082 O = some (O + 6) := by subst hh2; simp [n_sI, z_sI, tag_sI, I_sI, J_sI, R_sI, EI_sI, EJ_sI, ER_sI, n_sJ, z_sJ, tag_sJ, I_sJ, J_sJ, R_sJ, EI_sJ, EJ_sJ, ER_sJ, n_sR, z_sR, tag_sR, I_sR, J_sR, R_sR, EI_sR, EJ_sR, ER_sR, n_sEI, z_sEI, tag_sEI, I_sEI, J_sEI, R_sEI, EI_sEI, EJ_sEI, ER_sEI, n_sEJ, z_sEJ, tag_sEJ, I_sEJ, J_sEJ, R_sEJ, EI_sEJ, EJ_sEJ, ER_sEJ, n_sER, z_sER, tag_sER, I_sER, J_sER, R_sER, EI_sER, EJ_sER, ER_sER, n_nw, z_nw, tag_nw, I_nw, J_nw, R_nw, EI_nw, EJ_nw, ER_nw, a6]
        have m5 : h2.R 3081 O = some (O + 5) := by subst hh2; simp [n_sI, z_sI, tag_sI, I_sI, J_sI, R_sI, EI_sI, EJ_sI, ER_sI, n_sJ, z_sJ, tag_sJ, I_sJ, J_sJ, R_sJ, EI_sJ, EJ_sJ, ER_sJ, n_sR, z_sR, tag_sR, I_sR, J_sR, R_sR, EI_sR, EJ_sR, ER_sR, n_sEI, z_sEI, tag_sEI, I_sEI, J_sEI, R_sEI, EI_sEI, EJ_sEI, ER_sEI, n_sEJ, z_sEJ, tag_sEJ, I_sEJ, J_sEJ, R_sEJ, EI_sEJ, EJ_sEJ, ER_sEJ, n_sER, z_sER, tag_sER, I_sER, J_sER, R_sER, EI_sER, EJ_sER, ER_sER, n_nw, z_nw, tag_nw, I_nw, J_nw, R_nw, EI_nw, EJ_nw, ER_nw, a5]
        have m6 : h2.R 3088 O = some (O + 11) := by subst hh2; simp [n_sI, z_sI, tag_sI, I_sI, J_sI, R_sI, EI_sI, EJ_sI, ER_sI, n_sJ, z_sJ, tag_sJ, I_sJ, J_sJ, R_sJ, EI_sJ, EJ_sJ, ER_sJ, n_sR, z_sR, tag_sR, I_sR, J_sR, R_sR, EI_sR, EJ_sR, ER_sR, n_sEI, z_sEI, tag_sEI, I_sEI, J_sEI, R_sEI, EI_sEI, EJ_sEI, ER_sEI, n_sEJ, z_sEJ, tag_sEJ, I_sEJ, J_sEJ, R_sEJ, EI_sEJ, EJ_sEJ, ER_sEJ, n_sER, z_sER, tag_sER, I_sER, J_sER, R_sER, EI_sER, EJ_sER, ER_sER, n_nw, z_nw, tag_nw, I_nw, J_nw, R_nw, EI_nw, EJ_nw, ER_nw, b5]
        have m7 : h2.tag (O + 11) = some (1875, 40) := by subst hh2; simp [n_sI, z_sI, tag_sI, I_sI, J_sI, R_sI, EI_sI, EJ_sI, ER_sI, n_sJ, z_sJ, tag_sJ, I_sJ, J_sJ, R_sJ, EI_sJ, EJ_sJ, ER_sJ, n_sR, z_sR, tag_sR, I_sR, J_sR, R_sR, EI_sR, EJ_sR, ER_sR, n_sEI, z_sEI, tag_sEI, I_sEI, J_sEI, R_sEI, EI_sEI, EJ_sEI, ER_sEI, n_sEJ, z_sEJ, tag_sEJ, I_sEJ, J_sEJ, R_sEJ, EI_sEJ, EJ_sEJ, ER_sEJ, n_sER, z_sER, tag_sER, I_sER, J_sER, R_sER, EI_sER, EJ_sER, ER_sER, n_nw, z_nw, tag_nw, I_nw, J_nw, R_nw, EI_nw, EJ_nw, ER_nw, d5]
        have m8 : h2.EJ 1779 (O + 5) p = lN g.1 := by subst hh2; simp [n_sI, z_sI, tag_sI, I_sI, J_sI, R_sI, EI_sI, EJ_sI, ER_sI, n_sJ, z_sJ, tag_sJ, I_sJ, J_sJ, R_sJ, EI_sJ, EJ_sJ, ER_sJ, n_sR, z_sR, tag_sR, I_sR, J_sR, R_sR, EI_sR, EJ_sR, ER_sR, n_sEI, z_sEI, tag_sEI, I_sEI, J_sEI, R_sEI, EI_sEI, EJ_sEI, ER_sEI, n_sEJ, z_sEJ, tag_sEJ, I_sEJ, J_sEJ, R_sEJ, EI_sEJ, EJ_sEJ, ER_sEJ, n_sER, z_sER, tag_sER, I_sER, J_sER, R_sER, EI_sER, EJ_sER, ER_sER, n_nw, z_nw, tag_nw, I_nw, J_nw, R_nw, EI_nw, EJ_nw, ER_nw, z5]
        have m9 : h2.EJ 1875 (O + 11) k = lN g'.1 := by
          have : h1.EJ 1875 (O + 11) k = lN g'.1 := by rw [f1.1.EJ (FS.n rfl)]; exact z1
          subst hh2; simp [n_sI, z_sI, tag_sI, I_sI, J_sI, R_sI, EI_sI, EJ_sI, ER_sI, n_sJ, z_sJ, tag_sJ, I_sJ, J_sJ, R_sJ, EI_sJ, EJ_sJ, ER_sJ, n_sR, z_sR, tag_sR, I_sR, J_sR, R_sR, EI_sR, EJ_sR, ER_sR, n_sEI, z_sEI, tag_sEI, I_sEI, J_sEI, R_sEI, EI_sEI, EJ_sEI, ER_sEI, n_sEJ, z_sEJ, tag_sEJ, I_sEJ, J_sEJ, R_sEJ, EI_sEJ, EJ_sEJ, ER_sEJ, n_sER, z_sER, tag_sER, I_sER, J_sER, R_sER, EI_sER, EJ_sER, ER_sER, n_nw, z_nw, tag_nw, I_nw, J_nw, R_nw, EI_nw, EJ_nw, ER_nw, this]
        refine k_X25_meet_80 o ?_
        rw [lN_or]
        refine k_X25_meet_97 o (fun c => absurd (show bI true = 0 from c) (by decide)) (fun _ => ?_)
        generalize hh3 : h2.sEJ 1779 (O + 5) p (lN (g.1 ||| g'.1)) = h3
        have n1 : h3.tag O = some (24, 0) := by subst hh3; simp [n_sI, z_sI, tag_sI, I_sI, J_sI, R_sI, EI_sI, EJ_sI, ER_sI, n_sJ, z_sJ, tag_sJ, I_sJ, J_sJ, R_sJ, EI_sJ, EJ_sJ, ER_sJ, n_sR, z_sR, tag_sR, I_sR, J_sR, R_sR, EI_sR, EJ_sR, ER_sR, n_sEI, z_sEI, tag_sEI, I_sEI, J_sEI, R_sEI, EI_sEI, EJ_sEI, ER_sEI, n_sEJ, z_sEJ, tag_sEJ, I_sEJ, J_sEJ, R_sEJ, EI_sEJ, EJ_sEJ, ER_sEJ, n_sER, z_sER, tag_sER, I_sER, J_sER, R_sER, EI_sER, EJ_sER, ER_sER, n_nw, z_nw, tag_nw, I_nw, J_nw, R_nw, EI_nw, EJ_nw, ER_nw, m1]
        have n2 : h3.tag (O + 6) = some (1794, 41000) := by subst hh3; subst hh2; simp [n_sI, z_sI, tag_sI, I_sI, J_sI, R_sI, EI_sI, EJ_sI, ER_sI, n_sJ, z_sJ, tag_sJ, I_sJ, J_sJ, R_sJ, EI_sJ, EJ_sJ, ER_sJ, n_sR, z_sR, tag_sR, I_sR, J_sR, R_sR, EI_sR, EJ_sR, ER_sR, n_sEI, z_sEI, tag_sEI, I_sEI, J_sEI, R_sEI, EI_sEI, EJ_sEI, ER_sEI, n_sEJ, z_sEJ, tag_sEJ, I_sEJ, J_sEJ, R_sEJ, EI_sEJ, EJ_sEJ, ER_sEJ, n_sER, z_sER, tag_sER, I_sER, J_sER, R_sER, EI_sER, EJ_sER, ER_sER, n_nw, z_nw, tag_nw, I_nw, J_nw, R_nw, EI_nw, EJ_nw, ER_nw, c6]
        have n3 : h3.R 3082 O = some (O + 6) := by subst hh3; simp [n_sI, z_sI, tag_sI, I_sI, J_sI, R_sI, EI_sI, EJ_sI, ER_sI, n_sJ, z_sJ, tag_sJ, I_sJ, J_sJ, R_sJ, EI_sJ, EJ_sJ, ER_sJ, n_sR, z_sR, tag_sR, I_sR, J_sR, R_sR, EI_sR, EJ_sR, ER_sR, n_sEI, z_sEI, tag_sEI, I_sEI, J_sEI, R_sEI, EI_sEI, EJ_sEI, ER_sEI, n_sEJ, z_sEJ, tag_sEJ, I_sEJ, J_sEJ, R_sEJ, EI_sEJ, EJ_sEJ, ER_sEJ, n_sER, z_sER, tag_sER, I_sER, J_sER, R_sER, EI_sER, EJ_sER, ER_sER, n_nw, z_nw, tag_nw, I_nw, J_nw, R_nw, EI_nw, EJ_nw, ER_nw, m3]
        have n4 : h3.R 3089 O = some (O + 12) := by subst hh3; subst hh2; simp [n_sI, z_sI, tag_sI, I_sI, J_sI, R_sI, EI_sI, EJ_sI, ER_sI, n_sJ, z_sJ, tag_sJ, I_sJ, J_sJ, R_sJ, EI_sJ, EJ_sJ, ER_sJ, n_sR, z_sR, tag_sR, I_sR, J_sR, R_sR, EI_sR, EJ_sR, ER_sR, n_sEI, z_sEI, tag_sEI, I_sEI, J_sEI, R_sEI, EI_sEI, EJ_sEI, ER_sEI, n_sEJ, z_sEJ, tag_sEJ, I_sEJ, J_sEJ, R_sEJ, EI_sEJ, EJ_sEJ, ER_sEJ, n_sER, z_sER, tag_sER, I_sER, J_sER, R_sER, EI_sER, EJ_sER, ER_sER, n_nw, z_nw, tag_nw, I_nw, J_nw, R_nw, EI_nw, EJ_nw, ER_nw, b6]
        have n5 : h3.tag (O + 12) = some (1890, 40) := by subst hh3; subst hh2; simp [n_sI, z_sI, tag_sI, I_sI, J_sI, R_sI, EI_sI, EJ_sI, ER_sI, n_sJ, z_sJ, tag_sJ, I_sJ, J_sJ, R_sJ, EI_sJ, EJ_sJ, ER_sJ, n_sR, z_sR, tag_sR, I_sR, J_sR, R_sR, EI_sR, EJ_sR, ER_sR, n_sEI, z_sEI, tag_sEI, I_sEI, J_sEI, R_sEI, EI_sEI, EJ_sEI, ER_sEI, n_sEJ, z_sEJ, tag_sEJ, I_sEJ, J_sEJ, R_sEJ, EI_sEJ, EJ_sEJ, ER_sEJ, n_sER, z_sER, tag_sER, I_sER, J_sER, R_sER, EI_sER, EJ_sER, ER_sER, n_nw, z_nw, tag_nw, I_nw, J_nw, R_nw, EI_nw, EJ_nw, ER_nw, d6]
        have n6 : h3.EI 1794 (O + 6) p = bI g.2 := by subst hh3; subst hh2; simp [n_sI, z_sI, tag_sI, I_sI, J_sI, R_sI, EI_sI, EJ_sI, ER_sI, n_sJ, z_sJ, tag_sJ, I_sJ, J_sJ, R_sJ, EI_sJ, EJ_sJ, ER_sJ, n_sR, z_sR, tag_sR, I_sR, J_sR, R_sR, EI_sR, EJ_sR, ER_sR, n_sEI, z_sEI, tag_sEI, I_sEI, J_sEI, R_sEI, EI_sEI, EJ_sEI, ER_sEI, n_sEJ, z_sEJ, tag_sEJ, I_sEJ, J_sEJ, R_sEJ, EI_sEJ, EJ_sEJ, ER_sEJ, n_sER, z_sER, tag_sER, I_sER, J_sER, R_sER, EI_sER, EJ_sER, ER_sER, n_nw, z_nw, tag_nw, I_nw, J_nw, R_nw, EI_nw, EJ_nw, ER_nw, z6]
        have n7 : h3.EI 1890 (O + 12) k = bI g'.2 := by
          have : h1.EI 1890 (O + 12) k = bI g'.2 := by rw [f1.1.EI (FS.n rfl)]; exact z2
          subst hh3; subst hh2; simp [n_sI, z_sI, tag_sI, I_sI, J_sI, R_sI, EI_sI, EJ_sI, ER_sI, n_sJ, z_sJ, tag_sJ, I_sJ, J_sJ, R_sJ, EI_sJ, EJ_sJ, ER_sJ, n_sR, z_sR, tag_sR, I_sR, J_sR, R_sR, EI_sR, EJ_sR, ER_sR, n_sEI, z_sEI, tag_sEI, I_sEI, J_sEI, R_sEI, EI_sEI, EJ_sEI, ER_sEI, n_sEJ, z_sEJ, tag_sEJ, I_sEJ, J_sEJ, R_sEJ, EI_sEJ, EJ_sEJ, ER_sEJ, n_sER, z_sER, tag_sER, I_sER, J_sER, R_sER, EI_sER, EJ_sER, ER_sER, n_nw, z_nw, tag_nw, I_nw, J_nw, R_nw, EI_nw, EJ_nw, ER_nw, this]
        have wr : ∀ e : Bool, e = (g.2 || g'.2) → V X K 130 [.ref O, .int (nI p), .int (nI k), .int (nI 1)] [.int (bI e), .int (nI p), .ref (O + 6)] h3 := fun e he => by
          refine k_X25_meet_130 o ?_
          refine fin _ ?_ (fun q hq => ?_) ⟨?_, ?_, fun og hg => ?_⟩
          · subst hh3; subst hh2; exact (by refine (Fq.sEI (Fq.sEJ (Fq.sEI (Fq.refl h1) ?_) ?_) ?_) <;> exact rfl)
          · subst hh3; subst hh2; exact ⟨by simp [n_sI, z_sI, tag_sI, I_sI, J_sI, R_sI, EI_sI, EJ_sI, ER_sI, n_sJ, z_sJ, tag_sJ, I_sJ, J_sJ, R_sJ, EI_sJ, EJ_sJ, ER_sJ, n_sR, z_sR, tag_sR, I_sR, J_sR, R_sR, EI_sR, EJ_sR, ER_sR, n_sEI, z_sEI, tag_sEI, I_sEI, J_sEI, R_sEI, EI_sEI, EJ_sEI, ER_sEI, n_sEJ, z_sEJ, tag_sEJ, I_sEJ, J_sEJ, R_sEJ, EI_sEJ, EJ_sEJ, ER_sEJ, n_sER, z_sER, tag_sER, I_sER, J_sER, R_sER, EI_sER, EJ_sER, ER_sER, n_nw, z_nw, tag_nw, I_nw, J_nw, R_nw, EI_nw, EJ_nw, ER_nw, hq], by simp [n_sI, z_sI, tag_sI, I_sI, J_sI, R_sI, EI_sI, EJ_sI, ER_sI, n_sJ, z_sJ, tag_sJ, I_sJ, J_sJ, R_sJ, EI_sJ, EJ_sJ, ER_sJ, n_sR, z_sR, tag_sR, I_sR, J_sR, R_sR, EI_sR, EJ_sR, ER_sR, n_sEI, z_sEI, tag_sEI, I_sEI, J_sEI, R_sEI, EI_sEI, EJ_sEI, ER_sEI, n_sEJ, z_sEJ, tag_sEJ, I_sEJ, J_sEJ, R_sEJ, EI_sEJ, EJ_sEJ, ER_sEJ, n_sER, z_sER, tag_sER, I_sER, J_sER, R_sER, EI_sER, EJ_sER, ER_sER, n_nw, z_nw, tag_nw, I_nw, J_nw, R_nw, EI_nw, EJ_nw, ER_nw, hq], by simp [n_sI, z_sI, tag_sI, I_sI, J_sI, R_sI, EI_sI, EJ_sI, ER_sI, n_sJ, z_sJ, tag_sJ, I_sJ, J_sJ, R_sJ, EI_sJ, EJ_sJ, ER_sJ, n_sR, z_sR, tag_sR, I_sR, J_sR, R_sR, EI_sR, EJ_sR, ER_sR, n_sEI, z_sEI, tag_sEI, I_sEI, J_sEI, R_sEI, EI_sEI, EJ_sEI, ER_sEI, n_sEJ, z_sEJ, tag_sEJ, I_sEJ, J_sEJ, R_sEJ, EI_sEJ, EJ_sEJ, ER_sEJ, n_sER, z_sER, tag_sER, I_sER, J_sER, R_sER, EI_sER, EJ_sER, ER_sER, n_nw, z_nw, tag_nw, I_nw, J_nw, R_nw, EI_nw, EJ_nw, ER_nw, hq]⟩
          · subst hh3; subst hh2; simp [n_sI, z_sI, tag_sI, I_sI, J_sI, R_sI, EI_sI, EJ_sI, ER_sI, n_sJ, z_sJ, tag_sJ, I_sJ, J_sJ, R_sJ, EI_sJ, EJ_sJ, ER_sJ, n_sR, z_sR, tag_sR, I_sR, J_sR, R_sR, EI_sR, EJ_sR, ER_sR, n_sEI, z_sEI, tag_sEI, I_sEI, J_sEI, R_sEI, EI_sEI, EJ_sEI, ER_sEI, n_sEJ, z_sEJ, tag_sEJ, I_sEJ, J_sEJ, R_sEJ, EI_sEJ, EJ_sEJ, ER_sEJ, n_sER, z_sER, tag_sER, I_sER, J_sER, R_sER, EI_sER, EJ_sER, ER_sER, n_nw, z_nw, tag_nw, I_nw, J_nw, R_nw, EI_nw, EJ_nw, ER_nw]; rfl
          · subst he; subst hh3; subst hh2; simp [n_sI, z_sI, tag_sI, I_sI, J_sI, R_sI, EI_sI, EJ_sI, ER_sI, n_sJ, z_sJ, tag_sJ, I_sJ, J_sJ, R_sJ, EI_sJ, EJ_sJ, ER_sJ, n_sR, z_sR, tag_sR, I_sR, J_sR, R_sR, EI_sR, EJ_sR, ER_sR, n_sEI, z_sEI, tag_sEI, I_sEI, J_sEI, R_sEI, EI_sEI, EJ_sEI, ER_sEI, n_sEJ, z_sEJ, tag_sEJ, I_sEJ, J_sEJ, R_sEJ, EI_sEJ, EJ_sEJ, ER_sEJ, n_sER, z_sER, tag_sER, I_sER, J_sER, R_sER, EI_sER, EJ_sER, ER_sER, n_nw, z_nw, tag_nw, I_nw, J_nw, R_nw, EI_nw, EJ_nw, ER_nw]; rfl
          · cases hg
            subst hh3; subst hh2; simp [n_sI, z_sI, tag_sI, I_sI, J_sI, R_sI, EI_sI, EJ_sI, ER_sI, n_sJ, z_sJ, tag_sJ, I_sJ, J_sJ, R_sJ, EI_sJ, EJ_sJ, ER_sJ, n_sR, z_sR, tag_sR, I_sR, J_sR, R_sR, EI_sR, EJ_sR, ER_sR, n_sEI, z_sEI, tag_sEI, I_sEI, J_sEI, R_sEI, EI_sEI, EJ_sEI, ER_sEI, n_sEJ, z_sEJ, tag_sEJ, I_sEJ, J_sEJ, R_sEJ, EI_sEJ, EJ_sEJ, ER_sEJ, n_sER, z_sER, tag_sER, I_sER, J_sER, R_sER, EI_sER, EJ_sER, ER_sER, n_nw, z_nw, tag_nw, I_nw, J_nw, R_nw, EI_nw, EJ_nw, ER_nw]
        cases hg2 : g.2 with
        | true =>
          rw [hg2] at n6
          refine k_X25_meet_107 o (fun _ => ?_) (fun c => absurd (show bI true = 0 from c) (by decide))
          refine k_X25_meet_125 o ?_
          exact wr true (by rw [hg2]; rfl)
        | false =>
          rw [hg2] at n6
          refine k_X25_meet_107 o (fun c => absurd rfl c) (fun _ => ?_)
          cases hg3 : g'.2 with
          | true =>
            rw [hg3] at n7
            refine k_X25_meet_116 o (fun c => absurd (show bI true = 0 from c) (by decide)) (fun _ => ?_)
            refine k_X25_meet_125 o ?_
            exact wr true (by rw [hg2, hg3]; rfl)
          | false =>
            rw [hg3] at n7
            refine k_X25_meet_116 o (fun _ => ?_) (fun c => absurd rfl c)
            refine k_X25_meet_129 o ?_
            exact wr false (by rw [hg2, hg3]; rfl)
  have key : ∀ b, b = ((a0.isSome == b0.isSome) || hsA m (tgt (lty u) k) 2) → V X K 35 [.ref O, .int (nI p), .int (nI k), nov] [.int (bI b), .ref O] h := fun b hb => by
    refine k_X25_meet_35 o ?_
    refine lneed_ok (b := b) s0 hr' (fun _ _ => rfl) (by decide) (by omega) fun h1 f1 r1 => ?_
    exact after h1 b f1 r1 hb
  refine k_X25_meet_0 o (fun c => ?_) (fun c => ?_)
  · have e : (a0.isSome == b0.isSome) = true := by
      cases h1 : a0.isSome <;> cases h2 : b0.isSome <;> rw [h1, h2] at c <;> first | rfl | exact absurd c (by decide)
    refine k_X25_meet_30 o ?_
    exact key true (by rw [e]; rfl)
  · have e : (a0.isSome == b0.isSome) = false := by
      cases h1 : a0.isSome <;> cases h2 : b0.isSome <;> rw [h1, h2] at c <;> first | rfl | exact absurd rfl c
    refine k_X25_meet_16 o ?_
    refine lhas_ok hs.1 h4 hgt.ok (by omega) (by omega) ?_
    cases hd2 : hsA m (tgt (lty u) k) 2 with
    | false =>
      refine k_X25_meet_27 o (fun _ => ?_) (fun c => absurd rfl c)
      refine k_X25_meet_34 o ?_
      exact key false (by rw [e, hd2]; rfl)
    | true =>
      refine k_X25_meet_27 o (fun c => absurd (show bI true = 0 from c) (by decide)) (fun _ => ?_)
      refine k_X25_meet_30 o ?_
      exact key true (by rw [e, hd2]; rfl)
theorem og_sub {a b : Nat} (ha : a < 9223372036854775808) (hb : b < 9223372036854775808) : (lN a &&& (lN b ^^^ (-1))) = (0 : Int64) ↔ ((a &&& b) == a) = true := by
  have := enc_sub (y := (a, false)) (x := (b, false)) ha hb
  have e : ∀ q, q < 9223372036854775808 → enc (q, false) = lN q := fun q hq => un_inj (by
    rw [un_enc hq, un_l (by omega)]
    show q ||| 0 = q
    rw [Nat.or_zero])
  rw [e a ha, e b hb] at this
  rw [this]
  simp
theorem lbac_ok {G : Gt} {d : Nat} {h : AH} {K : Outcome → AH → Prop} {O U n f p k : Nat} {B : Nat → Nat} {m : Md} {u : Ux} {x : Ts} {a0 : Option Og} (hs : LC h O U n B m f u) (hu : gU m u) (h4 : ab4 m) (hr : TGd h O m (lty u) x) (hk : k < nlo u) (hp : p < 41000) (ha : TCe h O p a0) (ha3 : ∀ g, a0 = some g → g.1 < 9223372036854775808) (hd : 4 ≤ d)
    (kk : ∀ h', Fq (FS [3090]) h h' → EQ (nee (bk1 m (tgt (lty u) k) a0 (lgt x.2.2 k)) 9) (fun _ => TGd h' O m (lty u) x) (TBd h' O) → K (.returned none) h') : MW G d e_X25_back [.ref O, .int (nI p), .int (nI k)] h K := by
  refine st_X25_back fun X o hG hD _ => ?_
  subst hG; subst hD
  obtain ⟨s0, ⟨a1, a2, a3, a4, a5, a6⟩, ⟨b1, b2, b3, b4, b5, b6⟩, ⟨c1, c2, c3, c4, c5, c6⟩, d1, d2, d3, d4, d5, d6⟩ := id hs.1.1
  have hn := hu.n
  have ix : IX (nI k) 40 k := IX.mk (by omega) (by omega)
  have ip : IX (nI p) 41000 p := IX.mk (by omega) (by omega)
  obtain ⟨t1, t2, t3, t4⟩ := id hr
  have hll : x.2.2.length = nlo u := by rw [t3.2.2.1, lty_len]
  have w1 := t3.1 k (by omega)
  have w2 := ha.1
  have w3 := hs.2.2 k hk
  have hgt := hu.lt hk
  have hr' : TRs h O m (lty u) (.ok x) := hr
  generalize hb0 : lgt x.2.2 k = b0 at *
  have fin : ∀ h1 e, Fq (FS [3090]) h h1 → TRs h1 O m (lty u) (eb (.ok x) fun x => eb (nee e 9) fun _ => .ok x) → e = bk1 m (tgt (lty u) k) a0 b0 → K (.returned none) h1 := by
    intro h1 e f1 r1 he
    refine kk h1 f1 ?_
    rw [← he]
    cases e with
    | true => exact r1
    | false => exact r1
  cases a0 with
  | none =>
    refine k_X25_back_0 o (fun _ => ?_) (fun c => absurd rfl c)
    have key : ∀ b, b = bk1 m (tgt (lty u) k) none b0 → V X K 101 [.ref O, .int (nI p), .int (nI k)] [.int (bI b), .ref O] h := fun b hb => by
      refine k_X25_back_101 o ?_
      refine lneed_ok (b := b) s0 hr' (fun _ _ => rfl) (by decide) (by omega) fun h1 f1 r1 => ?_
      refine k_X25_back_106 o ?_
      exact fin h1 b f1 r1 hb
    cases b0 with
    | none =>
      refine k_X25_back_72 o (fun _ => ?_) (fun c => absurd rfl c)
      refine k_X25_back_96 o ?_
      exact key true rfl
    | some g' =>
      refine k_X25_back_72 o (fun c => absurd (show bI true = 0 from c) (by decide)) (fun _ => ?_)
      refine k_X25_back_82 o ?_
      refine lhas_ok hs.1 h4 hgt.ok (by omega) (by omega) ?_
      cases hd2 : hsA m (tgt (lty u) k) 2 with
      | false =>
        refine k_X25_back_93 o (fun _ => ?_) (fun c => absurd rfl c)
        refine k_X25_back_100 o ?_
        exact key false (by unfold bk1; rw [hd2]; rfl)
      | true =>
        refine k_X25_back_93 o (fun c => absurd (show bI true = 0 from c) (by decide)) (fun _ => ?_)
        refine k_X25_back_96 o ?_
        exact key true (by unfold bk1; rw [hd2]; rfl)
  | some g =>
    refine k_X25_back_0 o (fun c => absurd (show bI true = 0 from c) (by decide)) (fun _ => ?_)
    have key : ∀ b, b = bk1 m (tgt (lty u) k) (some g) b0 → V X K 64 [.ref O, .int (nI p), .int (nI k)] [.int (bI b), .ref O] h := fun b hb => by
      refine k_X25_back_64 o ?_
      refine lneed_ok (b := b) s0 hr' (fun _ _ => rfl) (by decide) (by omega) fun h1 f1 r1 => ?_
      refine k_X25_back_69 o ?_
      refine k_X25_back_106 o ?_
      exact fin h1 b f1 r1 hb
    cases b0 with
    | none =>
      refine k_X25_back_9 o (fun _ => ?_) (fun c => absurd rfl c)
      refine k_X25_back_63 o ?_
      exact key false rfl
    | some g' =>
      refine k_X25_back_9 o (fun c => absurd (show bI true = 0 from c) (by decide)) (fun _ => ?_)
      obtain ⟨z1, z2, z3, z4⟩ := lgt_at t3 hb0
      have z5 := ha.2.2 g rfl
      have z6 : h.EI 1794 (O + 6) p = bI g.2 := ha.2.1
      have hg := ha3 g rfl
      have es := og_sub z3 hg
      refine k_X25_back_19 o (fun c => ?_) (fun c => ?_)
      · refine k_X25_back_63 o ?_
        refine key false ?_
        have : ((g'.1 &&& g.1) == g'.1) = false := by
          cases hh : (g'.1 &&& g.1) == g'.1 with
          | false => rfl
          | true => exact absurd (es.mpr hh) c
        show false = ((g'.1 &&& g.1) == g'.1 && (!g'.2 || g.2))
        rw [this]; rfl
      · have e1 := es.mp c
        cases h2 : g'.2 with
        | false =>
          rw [h2] at z2
          refine k_X25_back_41 o (fun _ => ?_) (fun c => absurd rfl c)
          refine k_X25_back_59 o ?_
          refine key true ?_
          show true = ((g'.1 &&& g.1) == g'.1 && (!g'.2 || g.2))
          rw [e1, h2]; rfl
        | true =>
          rw [h2] at z2
          refine k_X25_back_41 o (fun c => absurd (show bI true = 0 from c) (by decide)) (fun _ => ?_)
          cases h3 : g.2 with
          | false =>
            rw [h3] at z6
            refine k_X25_back_50 o (fun _ => ?_) (fun c => absurd rfl c)
            refine k_X25_back_63 o ?_
            refine key false ?_
            show false = ((g'.1 &&& g.1) == g'.1 && (!g'.2 || g.2))
            rw [e1, h2, h3]; rfl
          | true =>
            rw [h3] at z6
            refine k_X25_back_50 o (fun c => absurd (show bI true = 0 from c) (by decide)) (fun _ => ?_)
            refine k_X25_back_59 o ?_
            refine key true ?_
            show true = ((g'.1 &&& g.1) == g'.1 && (!g'.2 || g.2))
            rw [e1, h2, h3]; rfl
