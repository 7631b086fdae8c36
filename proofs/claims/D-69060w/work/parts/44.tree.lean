/-! the component's tree in the heap: hashes -/
def SNd (h : AH) (N : Nat) : Prop := (h.tag N = some (16, 0) ∧ h.R 2048 N = some (N + 1) ∧ h.R 2049 N = some (N + 3) ∧ h.R 2050 N = some (N + 5) ∧ h.R 2051 N = some (N + 7) ∧ h.R 2052 N = some (N + 9) ∧ h.R 2053 N = some (N + 10) ∧ h.R 2054 N = some (N + 11) ∧ h.R 2055 N = some (N + 12) ∧ h.R 2056 N = some (N + 13)) ∧
  (h.tag (N + 9) = some (608, 1024) ∧ h.tag (N + 10) = some (624, 1024) ∧ h.tag (N + 11) = some (640, 1024) ∧ h.tag (N + 12) = some (656, 1024) ∧ h.tag (N + 13) = some (674, 1024)) ∧ SFo h (N + 1) ∧ SFo h (N + 3) ∧ SFo h (N + 5) ∧ SFo h (N + 7)
def SHt (h : AH) (T : Nat) : Prop := (h.tag T = some (14, 0) ∧ h.R 1792 T = some (T + 1) ∧ h.R 1793 T = some (T + 6) ∧ h.R 1796 T = some (T + 20) ∧ h.R 1797 T = some (T + 22) ∧ h.R 1798 T = some (T + 23)) ∧ h.tag (T + 22) = some (528, 1024) ∧ SDg h (T + 1) ∧ SNd h (T + 6) ∧ SFo h (T + 20) ∧ SFo h (T + 23)
/-- references that never change -/
def htR : List Nat := [1920, 1921, 1922, 1923, 2176, 2048, 2049, 2050, 2051, 2052, 2053, 2054, 2055, 2056, 1792, 1793, 1796, 1797, 1798]
theorem SNd.fr {P : Nat → Nat → Prop} {h h' : AH} {N : Nat} (q : Fr P h h') (np : ∀ f a, htR.contains f = true → ¬ P f a) (s : SNd h N) : SNd h' N := by
  obtain ⟨⟨e1, e2, e3, e4, e5, e6, e7, e8, e9, e10⟩, ⟨t1, t2, t3, t4, t5⟩, s1, s2, s3, s4⟩ := s
  exact ⟨⟨q.tag e1, by rw [q.R (np _ _ rfl)]; exact e2, by rw [q.R (np _ _ rfl)]; exact e3, by rw [q.R (np _ _ rfl)]; exact e4, by rw [q.R (np _ _ rfl)]; exact e5, by rw [q.R (np _ _ rfl)]; exact e6, by rw [q.R (np _ _ rfl)]; exact e7, by rw [q.R (np _ _ rfl)]; exact e8, by rw [q.R (np _ _ rfl)]; exact e9, by rw [q.R (np _ _ rfl)]; exact e10⟩, ⟨q.tag t1, q.tag t2, q.tag t3, q.tag t4, q.tag t5⟩, s1.fr q (np _ _ rfl), s2.fr q (np _ _ rfl), s3.fr q (np _ _ rfl), s4.fr q (np _ _ rfl)⟩
theorem SHt.fr {P : Nat → Nat → Prop} {h h' : AH} {T : Nat} (q : Fr P h h') (np : ∀ f a, htR.contains f = true → ¬ P f a) (s : SHt h T) : SHt h' T := by
  obtain ⟨⟨e1, e2, e3, e4, e5, e6⟩, t1, s1, s2, s3, s4⟩ := s
  exact ⟨⟨q.tag e1, by rw [q.R (np _ _ rfl)]; exact e2, by rw [q.R (np _ _ rfl)]; exact e3, by rw [q.R (np _ _ rfl)]; exact e4, by rw [q.R (np _ _ rfl)]; exact e5, by rw [q.R (np _ _ rfl)]; exact e6⟩, q.tag t1, s1.fr q (fun f hf => np f _ (by rcases hf with r | r | r | r <;> subst r <;> rfl)), s2.fr q np, s3.fr q (np _ _ rfl), s4.fr q (np _ _ rfl)⟩
/-- what hashes write: the digest, a row -/
def HW (A : List Nat) (f a : Nat) : Prop := FS dgF f a ∨ (f = 10000 + 691 ∧ a ∈ A)
theorem HW.np {A : List Nat} : ∀ f a, htR.contains f = true → ¬ HW A f a := fun f a hf q => by
  rcases q with q | q
  · have : htR.all (fun f => !dgF.contains f) = true := by decide
    rw [List.all_eq_true] at this
    have h2 := this f (List.contains_iff_mem.mp hf)
    unfold FS at q
    rw [q] at h2; cases h2
  · rw [q.1] at hf; exact absurd hf (by decide)
theorem HW.row {A : List Nat} {a : Nat} (h : a ∉ A) : ¬ HW A (10000 + 691) a := fun q => by
  rcases q with q | q
  · exact absurd q (FS.n (by decide))
  · exact h q.2
theorem HW.fld {A : List Nat} {f a : Nat} (h : dgF.contains f = false) (h2 : f ≠ 10000 + 691) : ¬ HW A f a := fun q => by
  rcases q with q | q
  · exact FS.n h q
  · exact h2 q.1
def b4 (q : F4) : Nat → List Int32
  | 0 => []
  | i + 1 => b4 q i ++ nb (g4 q i) 8
theorem b4_len (q : F4) : ∀ i, (b4 q i).length = 8 * i
  | 0 => rfl
  | i + 1 => by simp [b4, b4_len q i, nb_len]; omega
theorem b4_4 (q : F4) : b4 q 4 = bytes4 q := rfl
theorem hash_ok {G : Gt} {d : Nat} {h : AH} {K : Outcome → AH → Prop} {T b F1 k F2 j F3 n : Nat} (hs : SHt h T) (hc : CR G h) (s1 : SFo h F1) (s2 : SFo h F2) (s3 : SFo h F3) (hk : k < 1024) (hj : j < 1024) (hn : n < 1024) (hd : 6 ≤ d)
    (kk : ∀ h', Fq (HW [F3 + 1]) h h' → (∀ i, i ≠ n → r4 h' F3 i = r4 h F3 i) → r4 h' F3 n = hsh b (r4 h F1 k) (r4 h F2 j) → K (.returned none) h') : MW G d e_X15_hash [.ref T, .int (nI b), .ref F1, .int (nI k), .ref F2, .int (nI j), .ref F3, .int (nI n)] h K := by
  refine st_X15_hash fun X o hG hD hf => ?_
  subst hG; subst hD
  obtain ⟨⟨e1, e2, e3, e4, e5, e6⟩, t1, sd, -⟩ := id hs
  have td := sd.1.1
  generalize hx : r4 h F1 k = x at kk
  generalize hy : r4 h F2 j = y at kk
  have eh : hsh b x y = q4 ([i8 (nI b)] ++ bytes4 x ++ bytes4 y) := by unfold hsh hmsg; rfl
  rw [eh] at kk
  clear eh
  have lift : ∀ {h1}, Fq (FS dgF) h h1 → SHt h1 T ∧ CR X.G h1 ∧ SFo h1 F1 ∧ SFo h1 F2 ∧ SFo h1 F3 ∧ r4 h1 F1 k = x ∧ r4 h1 F2 j = y := fun {h1} f1 =>
    ⟨hs.fr f1.1 (fun f a hf q => HW.np (A := []) f a hf (Or.inl q)), hc.fr f1.1 (FS.n (by decide)), s1.fr f1.1 (FS.n (by decide)), s2.fr f1.1 (FS.n (by decide)), s3.fr f1.1 (FS.n (by decide)), by rw [r4_fr f1.1 (FS.n (by decide))]; exact hx, by rw [r4_fr f1.1 (FS.n (by decide))]; exact hy⟩
  have loop2 : ∀ m i h1, m + i = 4 → Fq (FS dgF) h h1 → DG h1 (T + 1) ([i8 (nI b)] ++ bytes4 x ++ b4 y i) → V X K 47 [.ref T, .int (nI b), .ref F1, .int (nI k), .ref F2, .int (nI j), .ref F3, .int (nI n), .int (nI i)] [] h1 := by
    intro m
    induction m with
    | zero =>
      intro i h1 hi f1 g1
      have : i = 4 := by omega
      subst this
      obtain ⟨hs1, hc1, s11, s21, s31, x1, y1⟩ := lift f1
      obtain ⟨⟨i1, i2, i3, i4, i5, i6⟩, -, sd1, -⟩ := id hs1
      have td1 := sd1.1.1
      rw [b4_4] at g1
      refine k_X15_hash_47 o (fun c => ?_) (fun c => ?_)
      rotate_left
      · exact absurd (by decide) c
      refine k_X15_hash_75 o ?_
      refine dend_ok g1 hc1 (by simp [bytes4, nb_len]) (by omega) fun h2 f2 sd2 w2 => ?_
      have F12 := f1.trans f2
      obtain ⟨hs2, hc2, s12, s22, s32, x2, y2⟩ := lift F12
      obtain ⟨⟨j1, j2, j3, j4, j5, j6⟩, -, sd2', -⟩ := id hs2
      have td2 := sd2'.1.1
      refine k_X15_hash_82 o ?_
      refine dnumber_ok sd2 w2 (by omega) ?_
      refine k_X15_hash_94 o ?_
      refine dnumber_ok sd2 w2 (by omega) ?_
      refine k_X15_hash_102 o ?_
      refine dnumber_ok sd2 w2 (by omega) ?_
      refine k_X15_hash_110 o ?_
      refine dnumber_ok sd2 w2 (by omega) ?_
      have ts := s32.1
      refine k_X15_hash_118 o ?_
      refine fset_ok (q := q4 ([i8 (nI b)] ++ bytes4 x ++ bytes4 y)) s32 hn fun h3 f3 r3 => ?_
      refine k_X15_hash_121 o ?_
      refine (kk h3 ((F12.mono fun f a q => Or.inl q).trans (f3.1.mono fun f a q => Or.inr ⟨q.1, by rw [q.2]; simp⟩)) (fun i hi => ?_) r3)
      rw [f3.2 i hi, r4_fr F12.1 (FS.n (by decide))]
    | succ m ih =>
      intro i h1 hi f1 g1
      obtain ⟨hs1, hc1, s11, s21, s31, x1, y1⟩ := lift f1
      obtain ⟨⟨i1, i2, i3, i4, i5, i6⟩, -, sd1, -⟩ := id hs1
      have td1 := sd1.1.1
      have tf := s21.1
      refine k_X15_hash_47 o (fun c => ?_) (fun c => ?_)
      · exact absurd ((nI_leI (by omega) (by omega)).mp c) (by omega)
      refine k_X15_hash_53 o ?_
      refine fget_ok s21 hj (by omega) ?_
      rw [y1]
      refine k_X15_hash_66 o ?_
      refine daddLong_ok g1 hc1 (by simp [bytes4, nb_len, b4_len]; omega) (by omega) fun h2 f2 g2 => ?_
      refine k_X15_hash_69 o ?_
      rw [nI_add]
      refine ih (i + 1) h2 (by omega) (f1.trans f2) ?_
      simp only [b4]
      rw [← List.append_assoc]; exact g2
  have loop1 : ∀ m i h1, m + i = 4 → Fq (FS dgF) h h1 → DG h1 (T + 1) ([i8 (nI b)] ++ b4 x i) → V X K 18 [.ref T, .int (nI b), .ref F1, .int (nI k), .ref F2, .int (nI j), .ref F3, .int (nI n), .int (nI i)] [] h1 := by
    intro m
    induction m with
    | zero =>
      intro i h1 hi f1 g1
      have : i = 4 := by omega
      subst this
      rw [b4_4] at g1
      refine k_X15_hash_18 o (fun c => ?_) (fun c => ?_)
      rotate_left
      · exact absurd (by decide) c
      refine k_X15_hash_44 o ?_
      exact loop2 4 0 h1 rfl f1 (by simpa [b4] using g1)
    | succ m ih =>
      intro i h1 hi f1 g1
      obtain ⟨hs1, hc1, s11, s21, s31, x1, y1⟩ := lift f1
      obtain ⟨⟨i1, i2, i3, i4, i5, i6⟩, -, sd1, -⟩ := id hs1
      have td1 := sd1.1.1
      have tf := s11.1
      refine k_X15_hash_18 o (fun c => ?_) (fun c => ?_)
      · exact absurd ((nI_leI (by omega) (by omega)).mp c) (by omega)
      refine k_X15_hash_24 o ?_
      refine fget_ok s11 hk (by omega) ?_
      rw [x1]
      refine k_X15_hash_35 o ?_
      refine daddLong_ok g1 hc1 (by simp [b4_len]; omega) (by omega) fun h2 f2 g2 => ?_
      refine k_X15_hash_38 o ?_
      rw [nI_add]
      refine ih (i + 1) h2 (by omega) (f1.trans f2) ?_
      simp only [b4]
      rw [← List.append_assoc]; exact g2
  refine k_X15_hash_0 o ?_
  refine dbegin_ok sd fun h1 f1 g1 => ?_
  obtain ⟨hs1, hc1, -⟩ := lift f1
  obtain ⟨⟨i1, i2, i3, i4, i5, i6⟩, -, sd1, -⟩ := id hs1
  have td1 := sd1.1.1
  refine k_X15_hash_7 o ?_
  refine dadd_ok g1 hc1 (by simp) (by omega) fun h2 f2 g2 => ?_
  refine k_X15_hash_15 o ?_
  exact loop1 4 0 h2 rfl (f1.trans f2) (by simpa [b4] using g2)
