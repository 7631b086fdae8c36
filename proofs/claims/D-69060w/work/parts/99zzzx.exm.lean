/-! execute: a block, and what stays -/
section
variable {c : Cy} {n B : Nat} {G : Gt} {g : Gg} {h h' : AH} {l : List Nat} {o : Lc} {st : Lw} {mw : Mw} {Wb BT : Nat → By} {f ct : Nat} {dx dw : Nat → Nat → Nat} {cm m : Md} {ms : List Nat} {P : Nat → Nat → Prop}
theorem exN {l : List Nat} (hl : l.all (fun f => !exeF f) = true) {f : Nat} (hf : l.contains f = true) (h : exeF f = true) : False := by
  rw [List.all_eq_true] at hl
  have := hl f (List.contains_iff_mem.mp hf)
  rw [h] at this; cases this
theorem MMS.fp {mA : Nat → Nat} {i0 : Nat} (u : Fr P h h') (np : ∀ f a, mwdF.contains f = true → ¬ P f a) (nd : ∀ a, a ≠ mA i0 + 526 → ¬ P (10000 + 192) a) (hd : ∃ dp, DPR h' (mA i0) (mA i0 + 526) dp) (a2 : MAP mA) (h0 : i0 < 41) (s : MMS h mA) : MMS h' mA := fun i hi => by
  have sub : ∀ l' : List Nat, l'.all (fun f => mwdF.contains f) = true → ∀ f a, l'.contains f = true → ¬ P f a := fun l' hl f a hf => np f a (by rw [List.all_eq_true] at hl; exact hl f (List.contains_iff_mem.mp hf))
  obtain ⟨⟨⟨x1, x2⟩, x3, x4⟩, x5, dp, x6⟩ := s i hi
  refine ⟨⟨⟨u.tag x1, by rw [u.R (np _ _ rfl)]; exact x2⟩, by rw [u.R (np _ _ rfl)]; exact x3, u.tag x4⟩, x5.fr u (sub stF (by decide)), ?_⟩
  by_cases e : i = i0
  · rw [e]; exact hd
  · exact ⟨dp, x6.ou u (np _ _ rfl) (nd _ (fun q => by have := a2 i i0 hi h0 e; omega))⟩
/-- a publication that is not done -/
theorem MWD.p0 (u : Fr P h h') (np : ∀ f a, mwdF.contains f = true → ¬ P f a) (nd : ∀ a, a ≠ mw.1 (mw.2.1 f) + 526 → ¬ P (10000 + 192) a) (hd : ∃ dp, DPR h' (mw.1 (mw.2.1 f)) (mw.1 (mw.2.1 f) + 526) dp) (hf : f < 32) (em : ∀ k, k < 32 → h'.R 2698 (yX c.1 k) = h.R 2698 (yX c.1 k)) (es : h'.I 32 (yA c.1) = h.I 32 (yA c.1)) (s : MWD h c mw Wb BT f ct dx) : MWD h' c mw Wb BT (f + 1) ct dx := by
  have sub : ∀ l' : List Nat, l'.all (fun f => mwdF.contains f) = true → ∀ f a, l'.contains f = true → ¬ P f a := fun l' hl f a hf => np f a (by rw [List.all_eq_true] at hl; exact hl f (List.contains_iff_mem.mp hf))
  obtain ⟨⟨a1, a2⟩, ⟨b1, b2, b3, b4, b5⟩, ⟨c1, c2, c3, c4⟩, ⟨d1, d2⟩, e, ⟨f1, f2, f3⟩⟩ := s
  have tf := (c1 f hf).1
  have ne : ∀ i, i < 41 → i ≠ mw.2.1 f → mw.1 i + 526 ≠ mw.1 (mw.2.1 f) + 526 := fun i hi hne q => by
    have := a2 i (mw.2.1 f) hi (by omega) hne
    omega
  refine ⟨⟨a1.fp u np nd hd a2 (by omega), a2⟩, ⟨by rw [es]; exact b1, by rw [u.R (np _ _ rfl)]; exact b2, u.tag b3, fun j hj => by rw [u.ER (np _ _ rfl)]; exact b4 j hj, b5⟩, ⟨fun k hk => ⟨(c1 k hk).1, by rw [em k hk]; exact (c1 k hk).2.1, (c1 k hk).2.2⟩, c2, c3, c4⟩, ⟨fun n m hm h0 => ?_, d2.ou u (np _ _ rfl) (nd _ (ne 40 (by omega) (by omega)))⟩, fun k k1 k2 k3 k4 => (e k k1 (by omega) k3 k4).fr u np (em k k1), by rw [u.R (np _ _ rfl)]; exact f1, f2.fr u (sub scF (by decide)), u.tag f3⟩
  obtain ⟨x1, x2, x3⟩ := d1 n m hm h0
  obtain ⟨y1, -, y3, -⟩ := c4 n m hm h0
  exact ⟨x1.fr u (sub _ (by decide)), x2, x3.ou u (np _ _ rfl) (nd _ (ne _ (by omega) (fun q => y3 f hf q.symm)))⟩
/-- a publication that is done -/
theorem MWD.p1 {dp : Nat → Nat} (u : Fr P h h') (np : ∀ f a, mwdF.contains f = true → ¬ P f a) (nd : ∀ a, a ≠ mw.1 (mw.2.1 f) + 526 → ¬ P (10000 + 192) a) (hd : DPR h' (mw.1 (mw.2.1 f)) (mw.1 (mw.2.1 f) + 526) dp) (hf : f < 32) (hct : f < ct) (hpb : c.2.2.2.2 f = true) (em : ∀ k, k < 32 → k ≠ f → h'.R 2698 (yX c.1 k) = h.R 2698 (yX c.1 k)) (ef : h'.R 2698 (yX c.1 f) = some (mw.1 (32 + mw.2.2.2.1))) (es : h'.I 32 (yA c.1) = nI (mw.2.2.2.1 + 1)) (s8 : mw.2.2.2.1 < 8) (hr : rdi (BT f).1 (BT f).2 = .ok m) (m0 : m.1 ≠ 0) (hn : c.2.2.1 m.1 = none) (hma : c.2.1.1 m.1 = mw.1 (mw.2.1 f)) (s : MWD h c mw Wb BT f ct dx) : MWD h' (c.1, c.2.1, wup c.2.2.1 m, c.2.2.2) (mw.1, (fun k => if k = f then 32 + mw.2.2.2.1 else mw.2.1 k), (fun n => if n = m.1 then mw.2.1 f else mw.2.2.1 n), mw.2.2.2.1 + 1, mw.2.2.2.2) (fun n => if n = m.1 then BT f else Wb n) BT (f + 1) ct (fun n => if n = m.1 then dp else dx n) := by
  have sub : ∀ l' : List Nat, l'.all (fun f => mwdF.contains f) = true → ∀ f a, l'.contains f = true → ¬ P f a := fun l' hl f a hf => np f a (by rw [List.all_eq_true] at hl; exact hl f (List.contains_iff_mem.mp hf))
  obtain ⟨⟨a1, a2⟩, ⟨b1, b2, b3, b4, b5⟩, ⟨c1, c2, c3, c4⟩, ⟨d1, d2⟩, e, ⟨f1, f2, f3⟩⟩ := s
  have tf := (c1 f hf).1
  have ne : ∀ i, i < 41 → i ≠ mw.2.1 f → mw.1 i + 526 ≠ mw.1 (mw.2.1 f) + 526 := fun i hi hne q => by
    have := a2 i (mw.2.1 f) hi (by omega) hne
    omega
  have wu : ∀ n m', wup c.2.2.1 m n = some m' → n ≠ m.1 → c.2.2.1 n = some m' := fun n m' hm hne => by
    unfold wup at hm
    rw [if_neg hne] at hm
    exact hm
  have wm : ∀ n m', wup c.2.2.1 m n = some m' → n = m.1 → m' = m := fun n m' hm he => by
    unfold wup at hm
    rw [if_pos he] at hm
    exact (Option.some.inj hm).symm
  refine ⟨⟨a1.fp u np nd ⟨dp, hd⟩ a2 (by omega), a2⟩, ⟨es, by rw [u.R (np _ _ rfl)]; exact b2, u.tag b3, fun j hj => by rw [u.ER (np _ _ rfl)]; exact b4 j hj, s8⟩, ⟨fun k hk => ?_, c2, c3, fun n m' hm h0 => ?_⟩, ⟨fun n m' hm h0 => ?_, ?_⟩, fun k k1 k2 k3 k4 => ?_, by rw [u.R (np _ _ rfl)]; exact f1, f2.fr u (sub scF (by decide)), u.tag f3⟩
  · show (if k = f then 32 + mw.2.2.2.1 else mw.2.1 k) < 32 + (mw.2.2.2.1 + 1) ∧ h'.R 2698 (yX c.1 k) = some (mw.1 (if k = f then 32 + mw.2.2.2.1 else mw.2.1 k)) ∧ ∀ k', k' < 32 → k ≠ k' → (if k = f then 32 + mw.2.2.2.1 else mw.2.1 k) ≠ if k' = f then 32 + mw.2.2.2.1 else mw.2.1 k'
    obtain ⟨x1, x2, x3⟩ := c1 k hk
    by_cases e : k = f
    · rw [if_pos e]
      refine ⟨by omega, by rw [e]; exact ef, fun k' hk' hne => ?_⟩
      rw [if_neg (fun q => hne (e.trans q.symm))]
      have := (c1 k' hk').1
      omega
    · rw [if_neg e]
      refine ⟨by omega, by rw [em k hk e]; exact x2, fun k' hk' hne => ?_⟩
      by_cases e' : k' = f
      · rw [if_pos e']; omega
      · rw [if_neg e']; exact x3 k' hk' hne
  · show (if n = m.1 then mw.2.1 f else mw.2.2.1 n) < 32 + (mw.2.2.2.1 + 1) ∧ c.2.1.1 n = mw.1 (if n = m.1 then mw.2.1 f else mw.2.2.1 n) ∧ (∀ k, k < 32 → (if k = f then 32 + mw.2.2.2.1 else mw.2.1 k) ≠ if n = m.1 then mw.2.1 f else mw.2.2.1 n) ∧ ∀ n' m', wup c.2.2.1 m n' = some m' → n' ≠ 0 → n ≠ n' → (if n = m.1 then mw.2.1 f else mw.2.2.1 n) ≠ if n' = m.1 then mw.2.1 f else mw.2.2.1 n'
    by_cases e : n = m.1
    · rw [if_pos e]
      refine ⟨by omega, by rw [e]; exact hma, fun k hk => ?_, fun n' m2 hm2 h02 hne => ?_⟩
      · by_cases e' : k = f
        · rw [if_pos e']; omega
        · rw [if_neg e']; exact (c1 k hk).2.2 f hf e'
      · rw [if_neg (fun q => hne (e.trans q.symm))]
        exact (c4 n' m2 (wu _ _ hm2 (fun q => hne (e.trans q.symm))) h02).2.2.1 f hf
    · rw [if_neg e]
      obtain ⟨y1, y2, y3, y4⟩ := c4 n m' (wu _ _ hm e) h0
      refine ⟨by omega, y2, fun k hk => ?_, fun n' m2 hm2 h02 hne => ?_⟩
      · by_cases e' : k = f
        · rw [if_pos e']; omega
        · rw [if_neg e']; exact y3 k hk
      · by_cases e' : n' = m.1
        · rw [if_pos e']; exact fun q => y3 f hf q.symm
        · rw [if_neg e']; exact y4 n' m2 (wu _ _ hm2 e') h02 hne
  · show BYR h' (mw.1 (if n = m.1 then mw.2.1 f else mw.2.2.1 n)) (if n = m.1 then BT f else Wb n) ∧ rdi (if n = m.1 then BT f else Wb n).1 (if n = m.1 then BT f else Wb n).2 = .ok m' ∧ DPR h' (mw.1 (if n = m.1 then mw.2.1 f else mw.2.2.1 n)) (mw.1 (if n = m.1 then mw.2.1 f else mw.2.2.1 n) + 526) (if n = m.1 then dp else dx n)
    by_cases e' : n = m.1
    · rw [if_pos e', if_pos e', if_pos e', wm n m' hm e']
      exact ⟨(e f hf (Nat.le_refl _) hct hpb).1.fr u (sub _ (by decide)), hr, hd⟩
    · rw [if_neg e', if_neg e', if_neg e']
      obtain ⟨x1, x2, x3⟩ := d1 n m' (wu _ _ hm e') h0
      obtain ⟨y1, -, y3, -⟩ := c4 n m' (wu _ _ hm e') h0
      exact ⟨x1.fr u (sub _ (by decide)), x2, x3.ou u (np _ _ rfl) (nd _ (ne _ (by omega) (fun q => y3 f hf q.symm)))⟩
  · show DPR h' (mw.1 40) (mw.1 40 + 526) (if 0 = m.1 then dp else dx 0)
    rw [if_neg (fun q => m0 q.symm)]
    exact d2.ou u (np _ _ rfl) (nd _ (ne 40 (by omega) (by omega)))
  · have e' : k ≠ f := by omega
    show TPB h' (yX c.1 k) (mw.1 (if k = f then 32 + mw.2.2.2.1 else mw.2.1 k)) (BT k)
    rw [if_neg e']
    exact (e k k1 (by omega) k3 k4).fr u np (em k k1 e')
/-- one more module -/
theorem CML.up {M : Nat} (r : CML c n G B st g h l o) (md : MDR h M m) (hm1 : c.2.1.1 m.1 = M) (hm2 : ∀ k, c.2.1.2.1 (m.1, k) = M + 141 + 4 * k) (hM : M ≠ yC c.1) (gd : GDm m) : CML (c.1, c.2.1, wup c.2.2.1 m, c.2.2.2) n G B st g h l o := by
  obtain ⟨⟨⟨a1, a2, ⟨a3, a4, a5⟩, a6⟩, r1⟩, r2⟩ := r
  refine ⟨⟨⟨a1, a2, ⟨⟨a3.1, fun n' m' hm => ?_⟩, a4, a5⟩, a6⟩, r1⟩, r2⟩
  have hm : wup c.2.2.1 m n' = some m' := hm
  unfold wup at hm
  by_cases e : n' = m.1
  · rw [if_pos e] at hm
    have hm := Option.some.inj hm
    subst hm
    subst e
    exact ⟨by show MDR h (c.2.1.1 m.1) m; rw [hm1]; exact md, fun k => by show c.2.1.2.1 (m.1, k) = c.2.1.1 m.1 + 141 + 4 * k; rw [hm1]; exact hm2 k, fun _ => by show c.2.1.1 m.1 ≠ _; rw [hm1]; exact hM, gd.2.2.2.1.1, fun u hu => (gd.1.2.2.2.2.1 u hu).2.1⟩
  · rw [if_neg e] at hm
    exact a3.2 n' m' hm
end
