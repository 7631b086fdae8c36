/-! a worker of the component's: what it holds -/
def Fa (W j : Nat) : Nat := W + 34 + 3 * j
def Ea (W e : Nat) : Nat := W + 4 + e
def SFr (h : AH) (F : Nat) : Prop := h.tag F = some (20, 0) ∧ h.R 2563 F = some (F + 1) ∧ h.R 2564 F = some (F + 2) ∧ h.tag (F + 1) = some (731, 40) ∧ h.tag (F + 2) = some (747, 64)
def SWk (h : AH) (W : Nat) : Prop := (h.tag W = some (19, 0) ∧ h.R 2437 W = some (W + 1) ∧ h.tag (W + 1) = some (714, 32)) ∧ (h.R 2440 W = some (W + 2) ∧ h.tag (W + 2) = some (8, 0) ∧ h.R 1024 (W + 2) = some (W + 3) ∧ h.tag (W + 3) = some (342, 30)) ∧
  (∀ j, j < 32 → h.ER 714 (W + 1) j = some (Fa W j) ∧ SFr h (Fa W j)) ∧ ∀ e, e < 30 → h.ER 342 (W + 3) e = some (Ea W e) ∧ h.tag (Ea W e) = some (9, 0)
def swF : List Nat := [2563, 2564, 2437, 2440, 1024, 10000 + 714, 10000 + 342]
theorem SFr.fr {P : Nat → Nat → Prop} {h h' : AH} {F : Nat} (q : Fr P h h') (np : ∀ f a, swF.contains f = true → ¬ P f a) (s : SFr h F) : SFr h' F := by
  obtain ⟨s1, s2, s3, s4, s5⟩ := s
  exact ⟨q.tag s1, by rw [q.R (np _ _ rfl)]; exact s2, by rw [q.R (np _ _ rfl)]; exact s3, q.tag s4, q.tag s5⟩
theorem SWk.fr {P : Nat → Nat → Prop} {h h' : AH} {W : Nat} (q : Fr P h h') (np : ∀ f a, swF.contains f = true → ¬ P f a) (s : SWk h W) : SWk h' W := by
  obtain ⟨⟨s1, s2, s3⟩, ⟨s4, s5, s6, s7⟩, s8, s9⟩ := s
  refine ⟨⟨q.tag s1, by rw [q.R (np _ _ rfl)]; exact s2, q.tag s3⟩, ⟨by rw [q.R (np _ _ rfl)]; exact s4, q.tag s5, by rw [q.R (np _ _ rfl)]; exact s6, q.tag s7⟩, fun j hj => ⟨by rw [q.ER (np _ _ rfl)]; exact (s8 j hj).1, (s8 j hj).2.fr q np⟩, fun e he => ⟨by rw [q.ER (np _ _ rfl)]; exact (s9 e he).1, q.tag (s9 e he).2⟩⟩
/-- slots: 1 a frame's stack, 2 its locals, 3 entries -/
def rsl' (wi : Nat) (r : Nat × Nat) : Sl := match r.1 with
  | 0 => (3, wi, r.2, 0)
  | j + 1 => (2, wi, j, r.2)
/-- where a reference leads -/
def rad (o : Lc) (wi : Nat) (r : Rx) : Option Nat := match o (rsl' wi r.1) with
  | some z => (lva z r.2).map fun y => y.1
  | none => none
def ItL (h : AH) (o : Lc) (wi : Nat) (i : It) (x : LV) : Prop := match i with
  | .inl v => lvE x = v
  | .inr r => x.2.1 = 8 ∧ x.2.2.2 = .leaf ∧ ∃ a, rad o wi r = some a ∧ h.R 3718 x.1 = some a
def StR (h : AH) (o : Lc) (wi j F : Nat) : List It → Prop
  | [] => True
  | i :: k => (∃ x, o (1, wi, j, k.length) = some x ∧ h.ER 747 (F + 2) k.length = some x.1 ∧ ItL h o wi i x) ∧ StR h o wi j F k
def LcR (h : AH) (o : Lc) (wi j F : Nat) (l : Nat → Option It) : Prop := ∀ k, k < 40 → match l k with
  | some i => ∃ x, o (2, wi, j, k) = some x ∧ h.ER 731 (F + 1) k = some x.1 ∧ ItL h o wi i x
  | none => (o (2, wi, j, k) = none ∧ h.ER 731 (F + 1) k = none) ∨ ∃ x, o (2, wi, j, k) = some x ∧ h.ER 731 (F + 1) k = some x.1 ∧ x.2.1 = 8 ∧ x.2.2.2 = .leaf
/-- addresses of modules and functions; the next instruction of each frame; from where entries came -/
abbrev Ma : Type := (Nat → Nat) × (Nat × Nat → Nat) × (Nat → Nat) × (Nat → Int32 × Int32)
def FmR (h : AH) (o : Lc) (wi j F : Nat) (MA : Ma) (f : Fm) : Prop := (h.R 2560 F = some (MA.1 f.1.1) ∧ h.R 2561 F = some (MA.2.1 f.1) ∧ h.I 2562 F = nI (MA.2.2.1 j) ∧ h.I 2565 F = nI f.2.2.2.length ∧ f.2.2.2.length ≤ 64) ∧ StR h o wi j F f.2.2.2 ∧ (∀ i, f.2.2.2.length ≤ i → o (1, wi, j, i) = none) ∧ LcR h o wi j F f.2.2.1 ∧ ∀ i, 40 ≤ i → o (2, wi, j, i) = none
/-- places are small -/
def PB (p : Pc) : Prop := p.1 < 16 ∧ p.2.2 < 2147483648
def EnR1 (h : AH) (o : Lc) (wi W e : Nat) (MA : Ma) (x : En) : Prop := (h.I 1152 (Ea W e) = nI x.1.1 ∧ h.J 1153 (Ea W e) = x.1.2.1 ∧ h.I 1154 (Ea W e) = nI x.1.2.2 ∧ PB x.1) ∧ (h.I 1155 (Ea W e) = bI x.2.2.1.1 ∧ h.J 1156 (Ea W e) = x.2.2.1.2.1 ∧ h.J 1157 (Ea W e) = x.2.2.1.2.2.1) ∧ (h.I 1162 (Ea W e) = bI x.2.1.1 ∧ h.I 1163 (Ea W e) = bI x.2.2.2) ∧ (h.I 1160 (Ea W e) = (MA.2.2.2 e).1 ∧ h.I 1161 (Ea W e) = (MA.2.2.2 e).2 ∧ (x.1.1 = 2 → x.2.2.1.1 = true → h.R 1158 (Ea W e) = some (MA.1 (un x.1.2.1)))) ∧
  match x.2.2.1.2.2.2 with
    | some v => ∃ y, o (3, wi, e, 0) = some y ∧ h.R 1159 (Ea W e) = some y.1 ∧ lvE y = v
    | none => o (3, wi, e, 0) = none ∧ h.R 1159 (Ea W e) = none
def EnR (h : AH) (o : Lc) (wi W : Nat) (MA : Ma) (es : List En) : Prop := (h.I 1025 (W + 2) = nI es.length ∧ es.length ≤ 26) ∧ (∀ (e : Nat) (x : En), es[e]? = some x → EnR1 h o wi W e MA x) ∧ ∀ e b, es.length ≤ e ∨ b ≠ 0 → o (3, wi, e, b) = none
def WkQ (z : Nat) (h : AH) (o : Lc) (wi W : Nat) (MA : Ma) (s : Ms) : Prop := (SWk h W ∧ h.I 2438 W = nI s.1 ∧ z ≤ s.1 ∧ s.1 ≤ 32 ∧ h.I 2439 W = nI (gas s) ∧ h.I 2441 W = nI s.2.2.2.1) ∧ (∀ j, j < s.1 → FmR h o wi j (Fa W j) MA (s.2.1 j)) ∧ (∀ j, s.1 ≤ j → ∀ i, o (1, wi, j, i) = none ∧ o (2, wi, j, i) = none) ∧ EnR h o wi W MA (ens s)
def WkR (h : AH) (o : Lc) (wi W : Nat) (MA : Ma) (s : Ms) : Prop := WkQ 1 h o wi W MA s
/-! what stays -/
theorem ItL.keep {h h' : AH} {o o' : Lc} {wi : Nat} {i : It} {x : LV} (s : ItL h o wi i x) (ht : h'.R 3718 x.1 = h.R 3718 x.1) (hr : ∀ r, i = .inr r → ∀ a, rad o wi r = some a → rad o' wi r = some a) : ItL h' o' wi i x := by
  cases i with
  | inl v => exact s
  | inr r =>
    obtain ⟨s1, s2, a, s3, s4⟩ := s
    exact ⟨s1, s2, a, hr r rfl a s3, by rw [ht]; exact s4⟩
theorem StR.keep {h h' : AH} {o o' : Lc} {wi j F : Nat} : ∀ {k : List It}, StR h o wi j F k → (∀ i, i < k.length → o' (1, wi, j, i) = o (1, wi, j, i)) → (∀ i, i < k.length → h'.ER 747 (F + 2) i = h.ER 747 (F + 2) i) → (∀ i x, i < k.length → o (1, wi, j, i) = some x → h'.R 3718 x.1 = h.R 3718 x.1) → (∀ r ∈ k.flatMap rfI, ∀ a, rad o wi r = some a → rad o' wi r = some a) → StR h' o' wi j F k
  | [], _, _, _, _, _ => trivial
  | i :: k, ⟨⟨x, x1, x2, x3⟩, s⟩, h1, h2, h3, h4 => by
    refine ⟨⟨x, ?_, ?_, x3.keep (h3 _ x (by simp) x1) fun r hr => h4 r ?_⟩, StR.keep s (fun n hn => h1 n (by simp; omega)) (fun n hn => h2 n (by simp; omega)) (fun n y hn => h3 n y (by simp; omega)) fun r hr => h4 r (vt_fl hr)⟩
    · rw [h1 _ (by simp)]; exact x1
    · rw [h2 _ (by simp)]; exact x2
    · subst hr; simp [rfI]
theorem LcR.keep {h h' : AH} {o o' : Lc} {wi j F : Nat} {l : Nat → Option It} (s : LcR h o wi j F l) (h1 : ∀ k, k < 40 → o' (2, wi, j, k) = o (2, wi, j, k)) (h2 : ∀ k, k < 40 → h'.ER 731 (F + 1) k = h.ER 731 (F + 1) k) (h3 : ∀ k x, o (2, wi, j, k) = some x → h'.R 3718 x.1 = h.R 3718 x.1) (h4 : ∀ k r, k < 40 → l k = some (.inr r) → ∀ a, rad o wi r = some a → rad o' wi r = some a) : LcR h' o' wi j F l := fun k hk => by
  have := s k hk
  rw [h1 k hk, h2 k hk]
  cases hl : l k with
  | none => rw [hl] at this; exact this
  | some i =>
    rw [hl] at this
    obtain ⟨x, x1, x2, x3⟩ := this
    exact ⟨x, x1, x2, x3.keep (h3 k x x1) fun r hr => h4 k r hk (by rw [hl, hr])⟩
def fmF : List Nat := [2560, 2561, 2562, 2565, 10000 + 731, 10000 + 747]
theorem FmR.keep {P : Nat → Nat → Prop} {h h' : AH} {o o' : Lc} {wi j F : Nat} {MA : Ma} {f : Fm} (s : FmR h o wi j F MA f) (q : Fr P h h') (np : ∀ g a, fmF.contains g = true → F ≤ a → a < F + 3 → ¬ P g a) (h1 : ∀ c i, c = 1 ∨ c = 2 → o' (c, wi, j, i) = o (c, wi, j, i)) (h3 : ∀ c i x, c = 1 ∨ c = 2 → o (c, wi, j, i) = some x → h'.R 3718 x.1 = h.R 3718 x.1) (h4 : ∀ r ∈ rfF f, ∀ a, rad o wi r = some a → rad o' wi r = some a) : FmR h' o' wi j F MA f := by
  obtain ⟨⟨s1, s2, s3, s4, s5⟩, s6, s7, s8, s9⟩ := s
  have z : ∀ g, fmF.contains g = true → ¬ P g F := fun g hg => np g F hg (by omega) (by omega)
  refine ⟨⟨by rw [q.R (z _ rfl)]; exact s1, by rw [q.R (z _ rfl)]; exact s2, by rw [q.I (z _ rfl)]; exact s3, by rw [q.I (z _ rfl)]; exact s4, s5⟩, s6.keep (fun i _ => h1 1 i (Or.inl rfl)) (fun i _ => q.ER (np _ _ rfl (by omega) (by omega)) i) (fun i x _ hx => h3 1 i x (Or.inl rfl) hx) (fun r hr => h4 r (List.mem_append_left _ hr)), fun i hi => by rw [h1 1 i (Or.inl rfl)]; exact s7 i hi, s8.keep (fun i _ => h1 2 i (Or.inr rfl)) (fun i _ => q.ER (np _ _ rfl (by omega) (by omega)) i) (fun i x hx => h3 2 i x (Or.inr rfl) hx) (fun k r hk hl => h4 r (rfF_i.mpr (Or.inr ⟨k, hk, hl⟩))), fun i hi => by rw [h1 2 i (Or.inr rfl)]; exact s9 i hi⟩
def enF : List Nat := [1152, 1153, 1154, 1155, 1156, 1157, 1162, 1163, 1159, 1025, 1160, 1161, 1158]
theorem EnR.keep {P : Nat → Nat → Prop} {h h' : AH} {o o' : Lc} {wi W : Nat} {MA : Ma} {es : List En} (s : EnR h o wi W MA es) (q : Fr P h h') (np : ∀ g a, enF.contains g = true → W ≤ a → a < W + 34 → ¬ P g a) (h1 : ∀ e b, o' (3, wi, e, b) = o (3, wi, e, b)) : EnR h' o' wi W MA es := by
  obtain ⟨⟨s1, s0⟩, s2, s3⟩ := s
  refine ⟨⟨by rw [q.I (np _ _ rfl (by omega) (by omega))]; exact s1, s0⟩, fun e x hx => ?_, fun e b he => by rw [h1]; exact s3 e b he⟩
  have he := get_lt hx
  obtain ⟨⟨a1, a2, a3, a4⟩, ⟨b1, b2, b3⟩, ⟨c1, c2⟩, ⟨e1, e2, e3⟩, d1⟩ := s2 e x hx
  have z : ∀ g, enF.contains g = true → ¬ P g (Ea W e) := fun g hg => np g _ hg (by unfold Ea; omega) (by unfold Ea; omega)
  refine ⟨⟨by rw [q.I (z _ rfl)]; exact a1, by rw [q.J (z _ rfl)]; exact a2, by rw [q.I (z _ rfl)]; exact a3, a4⟩, ⟨by rw [q.I (z _ rfl)]; exact b1, by rw [q.J (z _ rfl)]; exact b2, by rw [q.J (z _ rfl)]; exact b3⟩, ⟨by rw [q.I (z _ rfl)]; exact c1, by rw [q.I (z _ rfl)]; exact c2⟩, ⟨by rw [q.I (z _ rfl)]; exact e1, by rw [q.I (z _ rfl)]; exact e2, fun u1 u2 => by rw [q.R (z _ rfl)]; exact e3 u1 u2⟩, ?_⟩
  rw [h1, q.R (z _ rfl)]; exact d1
/-- only slots of the topmost frame's stack, and that stack, change -/
theorem rad_k {o o' : Lc} {wi : Nat} (h : ∀ c i j, c = 2 ∨ c = 3 → o' (c, wi, i, j) = o (c, wi, i, j)) (r : Rx) : rad o' wi r = rad o wi r := by
  unfold rad
  have : o' (rsl' wi r.1) = o (rsl' wi r.1) := by
    obtain ⟨⟨a, k⟩, p⟩ := r
    cases a with
    | zero => exact h 3 k 0 (Or.inr rfl)
    | succ j => exact h 2 j k (Or.inl rfl)
  rw [this]
def ipM : List Nat := fmF ++ enF ++ [2438, 2439, 2441]
def ipL : List Nat := [28, 24, 25, 2304, 2305, 2306] ++ dgF
def IP (W f a : Nat) : Prop := VQ f a ∨ (ipM.contains f = true ∧ W ≤ a ∧ a < W + 130) ∨ ipL.contains f = true
/-- what is about a worker that goes on -/
def CTX (h : AH) (A W q BA X tt : Nat) (snd : Int64) (lim SP : Nat) : Prop := (h.tag A = some (0, 0) ∧ h.R 2 A = some q ∧ h.R 26 A = some W ∧ h.R 3 A = some BA ∧ h.R 23 A = some SP) ∧ (h.tag BA = some (71, 32) ∧ h.I 2433 W = nI tt ∧ tt < 32 ∧ h.ER 71 BA tt = some X) ∧ (h.tag X = some (21, 0) ∧ h.I 2691 X = nI lim ∧ lim ≤ 20000 ∧ h.J 2689 X = snd)
def cxF : List Nat := [2, 26, 3, 23, 2433, 10000 + 71, 2691, 2689]
theorem CTX.fr {P : Nat → Nat → Prop} {h h' : AH} {A W q BA X tt lim SP : Nat} {snd : Int64} (f : Fr P h h') (np : ∀ g a, cxF.contains g = true → ¬ P g a) (c : CTX h A W q BA X tt snd lim SP) : CTX h' A W q BA X tt snd lim SP := by
  obtain ⟨⟨a1, a2, a3, a4, a5⟩, ⟨b1, b2, b3, b4⟩, c1, c2, c3, c4⟩ := c
  exact ⟨⟨f.tag a1, by rw [f.R (np _ _ rfl)]; exact a2, by rw [f.R (np _ _ rfl)]; exact a3, by rw [f.R (np _ _ rfl)]; exact a4, by rw [f.R (np _ _ rfl)]; exact a5⟩, ⟨f.tag b1, by rw [f.I (np _ _ rfl)]; exact b2, b3, by rw [f.ER (np _ _ rfl)]; exact b4⟩, f.tag c1, by rw [f.I (np _ _ rfl)]; exact c2, c3, by rw [f.J (np _ _ rfl)]; exact c4⟩
theorem IP.no {W : Nat} {l : List Nat} (h : l.all (fun f => !((3712 ≤ f && f ≤ 3718) || f == 1280 || (ipM ++ ipL).contains f)) = true) : ∀ f a, l.contains f = true → ¬ IP W f a := fun f a hf z => by
  rw [List.all_eq_true] at h
  have := h f (List.contains_iff_mem.mp hf)
  simp only [Bool.not_eq_true', Bool.or_eq_false_iff, Bool.and_eq_false_iff] at this
  obtain ⟨⟨t1, t2⟩, t3⟩ := this
  rcases z with (z | z) | z | z
  · rcases t1 with t | t
    · exact absurd z.1 (by simpa using t)
    · exact absurd z.2 (by simpa using t)
  · rw [z] at t2; simp at t2
  · rw [List.contains_iff_mem] at z
    have : f ∈ ipM ++ ipL := List.mem_append_left _ z.1
    rw [← List.contains_iff_mem, t3] at this; cases this
  · have : f ∈ ipM ++ ipL := List.mem_append_right _ (List.contains_iff_mem.mp z)
    rw [← List.contains_iff_mem, t3] at this; cases this
