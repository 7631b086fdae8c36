/-! the twin's machine: how its rows stand for the pure machine -/
def smm : List (Nat × Nat × Nat × Nat) := [(2859, 1216, 2200, 1), (2860, 1234, 2200, 2), (2857, 1184, 1280, 3), (2858, 1202, 1280, 4), (2856, 1168, 32, 5), (2855, 1152, 32, 6), (2853, 1120, 32, 7), (2854, 1136, 32, 8), (2846, 1024, 24, 9), (2847, 1043, 24, 10), (2848, 1056, 24, 11), (2849, 1075, 24, 12), (2850, 1088, 24, 13), (2851, 1106, 24, 14), (2820, 908, 10, 15)]
/-- rows and where they lie: 0 trees, then as above -/
def SMm (h : AH) (A : Nat) (tx : Nat → Nat) : Prop := (h.tag A = some (22, 0) ∧ h.R 2831 A = some (tx 0)) ∧ ∀ z ∈ smm, h.R z.1 A = some (tx z.2.2.2) ∧ h.tag (tx z.2.2.2) = some (z.2.1, z.2.2.1)
def smmF : List Nat := 2831 :: smm.map fun z => z.1
theorem SMm.fr {P : Nat → Nat → Prop} {h h' : AH} {A : Nat} {tx : Nat → Nat} (q : Fr P h h') (np : ∀ f a, smmF.contains f = true → ¬ P f a) (s : SMm h A tx) : SMm h' A tx := ⟨⟨q.tag s.1.1, by rw [q.R (np _ _ rfl)]; exact s.1.2⟩, fun z hz => ⟨by rw [q.R (np _ _ (by rw [List.contains_iff_mem]; exact List.mem_cons_of_mem _ (List.mem_map.mpr ⟨z, hz, rfl⟩)))]; exact (s.2 z hz).1, q.tag (s.2 z hz).2⟩⟩
theorem SMm.at {h : AH} {A : Nat} {tx : Nat → Nat} (s : SMm h A tx) (i : Nat) {z : Nat × Nat × Nat × Nat} (hz : smm[i]? = some z) : h.R z.1 A = some (tx z.2.2.2) ∧ h.tag (tx z.2.2.2) = some (z.2.1, z.2.2.1) := s.2 z (List.mem_of_getElem? hz)
/-- an item of the stack -/
def TKI (h : AH) (o : Lc) (tx : Nat → Nat) (p : Nat) : It → Prop
  | .inl v => ∃ y, o (1, 0, 0, p) = some y ∧ lvE y = v ∧ h.EI 1216 (tx 1) p = nI y.1 ∧ h.EI 1234 (tx 2) p = nI 0
  | .inr r => ∃ a, rad o 0 r = some a ∧ h.EI 1216 (tx 1) p = nI a ∧ h.EI 1234 (tx 2) p = nI 1 ∧ o (1, 0, 0, p) = none
def TKS (h : AH) (o : Lc) (tx : Nat → Nat) (b : Nat) : List It → Prop
  | [] => True
  | x :: t => TKI h o tx (b + t.length) x ∧ TKS h o tx b t
def TKL (h : AH) (o : Lc) (tx : Nat → Nat) (j k : Nat) : Option It → Prop
  | none => o (2, 0, j, k) = none
  | some (.inl v) => ∃ y, o (2, 0, j, k) = some y ∧ lvE y = v ∧ h.EI 1184 (tx 3) (40 * j + k) = nI y.1 ∧ h.EI 1202 (tx 4) (40 * j + k) = nI 0
  | some (.inr r) => o (2, 0, j, k) = none ∧ ∃ a, rad o 0 r = some a ∧ h.EI 1184 (tx 3) (40 * j + k) = nI a ∧ h.EI 1202 (tx 4) (40 * j + k) = nI 1
/-- where a frame's stack begins -/
def bsf (F : Nat → Fm) : Nat → Nat
  | 0 => 0
  | j + 1 => bsf F j + (F j).2.2.2.length
theorem bsf_c {F F' : Nat → Fm} : ∀ {j : Nat}, (∀ i, i < j → (F' i).2.2.2 = (F i).2.2.2) → bsf F' j = bsf F j
  | 0, _ => rfl
  | j + 1, h => by
    show bsf F' j + _ = bsf F j + _
    rw [bsf_c (fun i hi => h i (by omega)), h j (by omega)]
theorem bsf_m {F : Nat → Fm} : ∀ {i j : Nat}, i ≤ j → bsf F i ≤ bsf F j
  | i, 0, h => by
    have : i = 0 := by omega
    rw [this]; exact Nat.le_refl _
  | i, j + 1, h => by
    by_cases e : i = j + 1
    · rw [e]; exact Nat.le_refl _
    · have := bsf_m (F := F) (i := i) (j := j) (by omega)
      show bsf F i ≤ bsf F j + _
      omega
theorem bsf_64 {F : Nat → Fm} : ∀ {j : Nat}, (∀ i, i < j → (F i).2.2.2.length ≤ 64) → bsf F j ≤ 64 * j
  | 0, _ => Nat.le_refl _
  | j + 1, h => by
    have := bsf_64 (F := F) (j := j) (fun i hi => h i (by omega))
    have := h j (by omega)
    show bsf F j + _ ≤ 64 * (j + 1)
    omega
/-- a frame -/
def TKF (h : AH) (o : Lc) (tx UX at' : Nat → Nat) (b j : Nat) (f : Fm) : Prop := (h.EI 1168 (tx 5) j = nI b ∧ h.EI 1120 (tx 7) j = nI (UX f.1.1) ∧ h.EI 1136 (tx 8) j = nI f.1.2 ∧ h.EI 1152 (tx 6) j = nI (at' j)) ∧ (TKS h o tx b f.2.2.2 ∧ f.2.2.2.length ≤ 64) ∧ ∀ k, if k < 40 then TKL h o tx j k (f.2.2.1 k) else o (2, 0, j, k) = none
/-- a place that was asked for -/
def TKE (h : AH) (o : Lc) (tx : Nat → Nat) (e : Nat) (x : En) : Prop := (h.EI 1024 (tx 9) e = nI x.1.1 ∧ h.EJ 1043 (tx 10) e = x.1.2.1 ∧ h.EI 1056 (tx 11) e = nI x.1.2.2 ∧ PB x.1) ∧ (x.1.1 ≠ 2 → h.EI 1106 (tx 14) e = bI x.2.2.1.1) ∧ (x.1.1 = 1 → h.EJ 1075 (tx 12) e = x.2.2.1.2.1) ∧
  match x.2.2.1.2.2.2 with
    | some v => ∃ y, o (3, 0, e, 0) = some y ∧ h.EI 1088 (tx 13) e = nI y.1 ∧ lvE y = v
    | none => o (3, 0, e, 0) = none ∧ h.EI 1088 (tx 13) e = -1
/-- the twin's machine stands for s; values may lie aside -/
def TK (h : AH) (A : Nat) (tx UX at' : Nat → Nat) (o : Lc) (n : Nat) (s : Ms) : Prop := (SMm h A tx ∧ TH h (tx 0) n o) ∧ (h.I 2843 A = -1 ∧ h.I 2842 A = nI (gas s) ∧ h.I 2852 A = nI s.1 ∧ h.I 2861 A = nI (bsf s.2.1 s.1) ∧ h.I 2845 A = nI (ens s).length) ∧ (s.1 ≤ 32 ∧ (ens s).length ≤ 24 ∧ s.2.2.2.1 = (ens s).length) ∧ (∀ j, j < s.1 → TKF h o tx UX at' (bsf s.2.1 j) j (s.2.1 j)) ∧ (∀ (e : Nat) (x : En), (ens s)[e]? = some x → TKE h o tx e x) ∧ (∀ p, bsf s.2.1 s.1 ≤ p → o (1, 0, 0, p) = none) ∧ (∀ j k, s.1 ≤ j → o (2, 0, j, k) = none) ∧ ∀ e b, (ens s).length ≤ e ∨ b ≠ 0 → o (3, 0, e, b) = none
/-- nothing lies aside -/
def T5 (o : Lc) : Prop := ∀ a b c, o (5, a, b, c) = none
section
variable {h h' : AH} {o o' : Lc} {tx UX at' : Nat → Nat} {A n : Nat} {s : Ms}
theorem TKI.kp {p : Nat} {i : It} (hi : TKI h o tx p i) (h1 : h'.EI 1216 (tx 1) p = h.EI 1216 (tx 1) p) (h2 : h'.EI 1234 (tx 2) p = h.EI 1234 (tx 2) p) (h3 : o' (1, 0, 0, p) = o (1, 0, 0, p)) (h4 : ∀ r, i = .inr r → ∀ a, rad o 0 r = some a → rad o' 0 r = some a) : TKI h' o' tx p i := by
  cases i with
  | inl v =>
    obtain ⟨y, y1, y2, y3, y4⟩ := hi
    exact ⟨y, by rw [h3]; exact y1, y2, by rw [h1]; exact y3, by rw [h2]; exact y4⟩
  | inr r =>
    obtain ⟨a, a1, a2, a3, a4⟩ := hi
    exact ⟨a, h4 r rfl a a1, by rw [h1]; exact a2, by rw [h2]; exact a3, by rw [h3]; exact a4⟩
theorem TKS.kp : ∀ {l : List It} {b : Nat}, TKS h o tx b l → (∀ p, b ≤ p → p < b + l.length → h'.EI 1216 (tx 1) p = h.EI 1216 (tx 1) p ∧ h'.EI 1234 (tx 2) p = h.EI 1234 (tx 2) p ∧ o' (1, 0, 0, p) = o (1, 0, 0, p)) → (∀ r, (.inr r) ∈ l → ∀ a, rad o 0 r = some a → rad o' 0 r = some a) → TKS h' o' tx b l
  | [], _, _, _, _ => trivial
  | x :: t, b, hs, hp, hr => by
    have hl : (x :: t).length = t.length + 1 := rfl
    obtain ⟨p1, p2, p3⟩ := hp (b + t.length) (by omega) (by rw [hl]; omega)
    exact ⟨hs.1.kp p1 p2 p3 (fun r e a ha => hr r (by rw [e]; exact List.mem_cons_self ..) a ha), TKS.kp hs.2 (fun p h1 h2 => hp p h1 (by rw [hl]; omega)) (fun r hm => hr r (List.mem_cons_of_mem _ hm))⟩
theorem TKL.kp {j k : Nat} {i : Option It} (hi : TKL h o tx j k i) (h1 : h'.EI 1184 (tx 3) (40 * j + k) = h.EI 1184 (tx 3) (40 * j + k)) (h2 : h'.EI 1202 (tx 4) (40 * j + k) = h.EI 1202 (tx 4) (40 * j + k)) (h3 : o' (2, 0, j, k) = o (2, 0, j, k)) (h4 : ∀ r, i = some (.inr r) → ∀ a, rad o 0 r = some a → rad o' 0 r = some a) : TKL h' o' tx j k i := by
  cases i with
  | none => show o' _ = none; rw [h3]; exact hi
  | some i =>
    cases i with
    | inl v =>
      obtain ⟨y, y1, y2, y3, y4⟩ := hi
      exact ⟨y, by rw [h3]; exact y1, y2, by rw [h1]; exact y3, by rw [h2]; exact y4⟩
    | inr r =>
      obtain ⟨a0, a, a1, a2, a3⟩ := hi
      exact ⟨by rw [h3]; exact a0, a, h4 r rfl a a1, by rw [h1]; exact a2, by rw [h2]; exact a3⟩
theorem TKE.kp {e : Nat} {x : En} (hx : TKE h o tx e x) (h1 : ∀ f ∈ [1024, 1056, 1106, 1088], ∀ a, h'.EI f a e = h.EI f a e) (h2 : ∀ f ∈ [1043, 1075], ∀ a, h'.EJ f a e = h.EJ f a e) (h3 : o' (3, 0, e, 0) = o (3, 0, e, 0)) : TKE h' o' tx e x := by
  obtain ⟨⟨a1, a2, a3, a4⟩, b, c, d⟩ := hx
  refine ⟨⟨by rw [h1 _ (by decide)]; exact a1, by rw [h2 _ (by decide)]; exact a2, by rw [h1 _ (by decide)]; exact a3, a4⟩, fun q => by rw [h1 _ (by decide)]; exact b q, fun q => by rw [h2 _ (by decide)]; exact c q, ?_⟩
  cases hv : x.2.2.1.2.2.2 with
  | none =>
    rw [hv] at d
    exact ⟨by rw [h3]; exact d.1, by rw [h1 _ (by decide)]; exact d.2⟩
  | some v =>
    rw [hv] at d
    obtain ⟨y, y1, y2, y3⟩ := d
    exact ⟨y, by rw [h3]; exact y1, by rw [h1 _ (by decide)]; exact y2, y3⟩
/-- fields of the twin's machine -/
def tkmF : List Nat := [2843, 2842, 2852, 2861, 2845, 10000 + 1216, 10000 + 1234, 10000 + 1184, 10000 + 1202, 10000 + 1168, 10000 + 1152, 10000 + 1120, 10000 + 1136, 10000 + 1024, 10000 + 1043, 10000 + 1056, 10000 + 1075, 10000 + 1088, 10000 + 1106]
/-- where nothing of it is written -/
theorem TK.fr {P : Nat → Nat → Prop} (q : Fr P h h') (np : ∀ f a, (smmF ++ tkmF ++ [2944, 2945, 2946, 2947, 2948] ++ tFl).contains f = true → ¬ P f a) (k : TK h A tx UX at' o n s) : TK h' A tx UX at' o n s := by
  have sub : ∀ l' : List Nat, l'.all (fun f => (smmF ++ tkmF ++ [2944, 2945, 2946, 2947, 2948] ++ tFl).contains f) = true → ∀ f a, l'.contains f = true → ¬ P f a := fun l' hl f a hf => np f a (by rw [List.all_eq_true] at hl; exact hl f (List.contains_iff_mem.mp hf))
  have n1 := sub tkmF (by decide)
  obtain ⟨⟨k1, k2⟩, ⟨k3, k4, k5, k6, k7⟩, k8, k9, k10, k11⟩ := k
  refine ⟨⟨k1.fr q (sub smmF (by decide)), k2.fr q (sub _ (by decide))⟩, ⟨by rw [q.I (n1 _ _ rfl)]; exact k3, by rw [q.I (n1 _ _ rfl)]; exact k4, by rw [q.I (n1 _ _ rfl)]; exact k5, by rw [q.I (n1 _ _ rfl)]; exact k6, by rw [q.I (n1 _ _ rfl)]; exact k7⟩, k8, fun j hj => ?_, fun e x hx => ?_, k11⟩
  · obtain ⟨⟨f1, f2, f3, f4⟩, ⟨f5, f6⟩, f7⟩ := k9 j hj
    refine ⟨⟨by rw [q.EI (n1 _ _ (by decide))]; exact f1, by rw [q.EI (n1 _ _ (by decide))]; exact f2, by rw [q.EI (n1 _ _ (by decide))]; exact f3, by rw [q.EI (n1 _ _ (by decide))]; exact f4⟩, ⟨f5.kp (fun p _ _ => ⟨q.EI (n1 _ _ (by decide)) _, q.EI (n1 _ _ (by decide)) _, rfl⟩) (fun _ _ _ ha => ha), f6⟩, fun k => ?_⟩
    have := f7 k
    by_cases c : k < 40
    · rw [if_pos c] at this ⊢
      exact this.kp (q.EI (n1 _ _ (by decide)) _) (q.EI (n1 _ _ (by decide)) _) rfl (fun _ _ _ ha => ha)
    · rw [if_neg c] at this ⊢; exact this
  · refine (k10 e x hx).kp (fun f hf a => q.EI (n1 _ _ ?_) _) (fun f hf a => q.EJ (n1 _ _ ?_) _) rfl
    · rw [List.contains_iff_mem]
      simp only [List.mem_cons, List.mem_nil_iff, or_false] at hf
      rcases hf with e | e | e | e <;> (rw [e]; decide)
    · rw [List.contains_iff_mem]
      simp only [List.mem_cons, List.mem_nil_iff, or_false] at hf
      rcases hf with e | e <;> (rw [e]; decide)
end
