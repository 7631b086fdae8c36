/-! execute: what stays between blocks -/
/-- what execute writes, by fields alone -/
def exeL : List Nat := [1280, 26, 29, 30, 18, 32, 2698, 2701, 10000 + 192, 1025, 2703, 2702, 10, 11, 12] ++ etE ++ pgW ++ pgT ++ pgX ++ pgL ++ ccF
def exeF (f : Nat) : Bool := (3712 ≤ f && f ≤ 3718) || exeL.contains f
theorem exeF.m {f : Nat} (h : f ∈ exeL) : exeF f = true := by
  unfold exeF
  rw [List.contains_iff_mem.mpr h, Bool.or_true]
theorem exeF.s {l : List Nat} (hl : l.all (fun f => exeL.contains f) = true) {f : Nat} (h : l.contains f = true) : exeF f = true := by
  rw [List.all_eq_true] at hl
  exact exeF.m (List.contains_iff_mem.mp (hl f (List.contains_iff_mem.mp h)))
theorem exeF.v {f a : Nat} (h : VQ f a) : exeF f = true := by
  rcases h with ⟨h1, h2⟩ | h
  · unfold exeF
    rw [decide_eq_true h1, decide_eq_true h2]; rfl
  · exact exeF.m (by rw [h]; exact List.mem_cons_self ..)
section
variable {c : Cy} {z : Cz} {DP lo hi : Nat}
theorem PG.ex {y : Ly} {j t f a : Nat} (h : PG y j t f a) : exeF f = true := by
  rcases h with h | ⟨h, -⟩ | ⟨h, -⟩ | ⟨h, -⟩ | h
  · exact exeF.v h
  · exact exeF.s (l := pgW) (by decide) h
  · exact exeF.s (l := pgT) (by decide) h
  · exact exeF.s (l := pgX) (by decide) h
  · exact exeF.s (l := pgL) (by decide) h
theorem PEX.ex {f a : Nat} (h : PEX (PGP c z DP) c.1 lo hi f a) : exeF f = true := by
  have one : ∀ g, [29, 30, 26, 18, 2698, 32, 2701, 10000 + 192].contains g = true → exeF g = true := fun g hg => exeF.s (l := [29, 30, 26, 18, 2698, 32, 2701, 10000 + 192]) (by decide) hg
  rcases h with (h | h) | h
  · rcases h with ((⟨j, t, -, -, h⟩ | ⟨j, -, h⟩ | h) | h) | ⟨h, -⟩
    · exact h.ex
    · exact (PG0.g (t := 0) _ _ h).ex
    · rw [h]; exact one _ rfl
    · rcases h with ⟨h, -⟩ | h
      · rw [h]; exact one _ (by decide)
      · exact exeF.s (l := ccF) (by decide) h
    · rcases h with h | h <;> (rw [h]; exact one _ rfl)
  · exact exeF.s (l := [2703, 1025, 2702, 10, 11, 12]) (by decide) h
  · rcases h with ⟨t, -, h⟩ | ⟨h, -⟩
    · rcases h with ((((h | ⟨h, -⟩) | ⟨h, -⟩) | ⟨h, -⟩)) | ⟨h, -⟩ | ⟨h, -⟩
      · exact exeF.v h
      · exact exeF.s (l := 1025 :: etE) (by decide) h
      · rcases h with h | h
        · rw [h]; exact exeF.s (l := 1025 :: etE) (by decide) rfl
        · rw [h]; exact exeF.s (l := 1025 :: etE) (by decide) rfl
      · rw [h]; exact one _ rfl
      · rw [h]; exact one _ rfl
      · rw [h]; exact one _ rfl
    · rw [h]; exact one _ rfl
/-- results of others stay -/
theorem PEX.tx (ly : LYD c.1 (zn z)) (h32 : zl z ≤ 32) {k : Nat} (k32 : k < 32) (hk : ¬ (zf z ≤ k ∧ k < zl z)) : ∀ f, (txF ++ resF).contains f = true → ∀ a, (a = yX c.1 k ∨ a = c.1.2 7 k ∨ a = c.1.2 8 k ∨ a = c.1.2 9 k) → ¬ PEX (PGP c z DP) c.1 lo hi f a := fun f hf a ha y => by
  have dis : ∀ l : List Nat, (txF ++ resF).all (fun f => !(l.contains f)) = true → l.contains f = true → False := fun l h1 h2 => by
    rw [List.all_eq_true] at h1
    have := h1 f (List.contains_iff_mem.mp hf)
    rw [h2] at this; exact absurd this (by decide)
  have npg : ∀ j t, t ≠ k → t < 32 → ¬ PG c.1 j t f a := fun j t ht t32 => PG.nn (l := txF ++ resF) (by decide) hf (fun z _ _ => dis pgW (by decide) z) (fun z _ => dis pgT (by decide) z) (fun _ z => by
    have := (ly.2.2 k k32).2.2 t t32
    have := (this.2 (fun e => ht e.symm)).2.2
    rcases ha with e | e | e | e <;> rcases z with q | q | q | q <;> exact this _ _ (by decide) (by decide) (e.symm.trans q))
  rcases y with (y | y) | y
  · rcases y with ((⟨j, t, -, ⟨t1, t2⟩, y⟩ | ⟨j, -, y⟩ | y) | y) | ⟨y, -⟩
    · exact npg j t (fun e => hk (by omega)) (by omega) y
    · by_cases k0 : k = 0
      · exact npg j 1 (by omega) (by omega) (PG0.g _ _ y)
      · exact npg j 0 (by omega) (by omega) (PG0.g _ _ y)
    · exact dis [26] rfl (by rw [y]; rfl)
    · rcases y with ⟨y, -⟩ | y
      · exact dis [10000 + 192] rfl (by rw [y]; rfl)
      · exact dis ccF (by decide) y
    · exact dis [29, 30] rfl (by rcases y with y | y <;> (rw [y]; rfl))
  · exact dis [2703, 1025, 2702, 10, 11, 12] (by decide) y
  · exact PXE.no (l := txF ++ resF) rfl rfl f a hf y
/-- whether others were done, and their modules, stay -/
theorem PEX.dn (ly : LYD c.1 (zn z)) {k : Nat} (k32 : k < 32) (h32 : hi ≤ 32) (hk : ¬ (lo ≤ k ∧ k < hi)) : ∀ f, [2701, 2698].contains f = true → ¬ PEX (PGP c z DP) c.1 lo hi f (yX c.1 k) := fun f hf y => by
  have dis : ∀ l : List Nat, [2701, 2698].all (fun f => !(l.contains f)) = true → l.contains f = true → False := fun l h1 h2 => by
    rw [List.all_eq_true] at h1
    have := h1 f (List.contains_iff_mem.mp hf)
    rw [h2] at this; exact absurd this (by decide)
  have ne : ∀ t, lo ≤ t ∧ t < hi → yX c.1 k ≠ yX c.1 t := fun t ht e => by
    have := (ly.2.2 k k32).2.2 t (by omega)
    exact (this.2 (fun e => hk (by omega))).2.2 1 1 (by decide) (by decide) e
  rcases y with (y | y) | y
  · rcases y with (y | y) | ⟨y, -⟩
    · exact PGU.no (l := [2701, 2698]) (by decide) (by decide) f _ hf y
    · exact EPb.no (l := [2701, 2698]) (by decide) f _ hf y
    · exact dis [29, 30] rfl (by rcases y with y | y <;> (rw [y]; rfl))
  · exact dis [2703, 1025, 2702, 10, 11, 12] rfl y
  · rcases y with ⟨t, ht, y⟩ | ⟨-, t, ht, y⟩
    · rcases y with y | ⟨-, y⟩ | ⟨y, -⟩
      · exact PTb.no (l := [2701, 2698]) (by decide) (by decide) f _ hf y
      · exact ne t ht y
      · exact dis [32] rfl (by rw [y]; rfl)
    · exact ne t ht y
end
/-- world, depths, state, bytes of the modules -/
abbrev Qs : Type := Wd × (Nat → Nat → Nat) × Lw × (Nat → By)
/-- one transaction, one behind the other -/
def qst (cm : Md) (s : Qs) (x : TxC) (b : Option By) (r : TxR) (s' : Qs) : Prop := match b with
  | none => MTX s.1 x (vsw s.2.2.1) r ∧ s' = (s.1, s.2.1, tkOv s.2.2.1 (lR1 x.2.2.1 false r), s.2.2.2)
  | some b => r = mpx s.1 cm s.2.1 (vsw s.2.2.1) x b.1 (rdi b.1 b.2) ∧ s'.2.2.1 = tkOv s.2.2.1 (lR1 x.2.2.1 true r) ∧ if r.1 = 0 then ∃ m, rdi b.1 b.2 = .ok m ∧ s'.1 = wup s.1 m ∧ s'.2.1 = dwu m s.2.1 ∧ s'.2.2.2 = (fun n => if n = m.1 then b else s.2.2.2 n) else s'.1 = s.1 ∧ s'.2.1 = s.2.1 ∧ s'.2.2.2 = s.2.2.2
/-- the pure state is sound -/
def QOK (cm : Md) (s : Qs) (ms : List Nat) : Prop := (STI s.1 s.2.2.1 ∧ K1s s.2.2.1) ∧ MST s.1 s.2.2.1 ms ∧ WOK s.1 cm s.2.1
/-- the ledger between blocks -/
def EXV (n : Nat) (G : Gt) (B : Nat) (cm : Md) (y : Ly) (X : Nat → TxC) (pb : Nat → Bool) (BT : Nat → By) (f ct : Nat) (s : Qs) (bn : Int64) (h : AH) : Prop := ∃ MA mw dx ms g l o, (CML (y, MA, s.1, X, pb) n G B s.2.2.1 g h l o ∧ ∀ k, k < 32 → xL g k = []) ∧ QOK cm s ms ∧ mw.2.2.2.1 = ms.length ∧ AGD s.1 dx s.2.1 ∧ MWD h (y, MA, s.1, X, pb) mw s.2.2.2 BT f ct dx ∧ h.J 18 (yA y) = bn
def exvF : List Nat := gsxF ++ swF ++ pgW ++ etF ++ rdF ++ [2703, 2704, 2702, 27, 2306] ++ mwdF ++ [10000 + 192, 2698, 32, 18]
theorem EXV.fr {n : Nat} {G : Gt} {B : Nat} {cm : Md} {y : Ly} {X : Nat → TxC} {pb : Nat → Bool} {BT : Nat → By} {f f' ct : Nat} {s : Qs} {bn : Int64} {h h' : AH} {P : Nat → Nat → Prop} (q : Fq P h h') (np : ∀ f a, exvF.contains f = true → ¬ P f a) (nv : ∀ f a, VQ f a → ¬ P f a) (hf : f ≤ f') (e : EXV n G B cm y X pb BT f ct s bn h) : EXV n G B cm y X pb BT f' ct s bn h' := by
  have sub : ∀ l' : List Nat, l'.all (fun f => exvF.contains f) = true → ∀ f a, l'.contains f = true → ¬ P f a := fun l' hl f a hf => np f a (by rw [List.all_eq_true] at hl; exact hl f (List.contains_iff_mem.mp hf))
  obtain ⟨MA, mw, dx, ms, g, l, o, ⟨e1, e2⟩, e3, e4, e5, e6, e7⟩ := e
  exact ⟨MA, mw, dx, ms, g, l, o, ⟨e1.dn q (sub _ (by decide)) nv, e2⟩, e3, e4, e5, e6.fr q.1 (sub mwdF (by decide)) (fun a => np _ a (by decide)) (fun k _ => by rw [q.1.R (np _ _ (by decide))]) (by rw [q.1.I (np _ _ (by decide))]) hf, by rw [q.1.J (np _ _ (by decide))]; exact e7⟩
/-- what is asked of transactions -/
def TQF (X : Nat → TxC) (pb : Nat → Bool) (BT : Nat → By) (ct : Nat) : Prop := ∀ k, k < ct → (X k).2.2.1 ≤ 20000 ∧ (pb k = false → AGv (X k).2.2.2.2.2) ∧ (pb k = true → BGd (BT k))
/-- results of transactions -/
def RES (h : AH) (y : Ly) (pb : Nat → Bool) (rr : Nat → TxR) (lo hi : Nat) : Prop := ∀ k, lo ≤ k → k < hi → TXO h y k (pb k) (rr k) ∧ h.I 2701 (yX y k) = nI 1
