/-! frames end: what they give goes below -/
def eO (o : Lc) (wi t1 n : Nat) : Lc := fun p => if p.1 = 1 ∧ p.2.1 = wi ∧ p.2.2.1 = t1 + 1 then none else if p.1 = 1 ∧ p.2.1 = wi ∧ p.2.2.1 = t1 ∧ n ≤ p.2.2.2 then o (1, wi, t1 + 1, p.2.2.2 - n) else o p
def PGv (W A t1 g a : Nat) : Prop := (g = 2438 ∧ a = W) ∨ (g = 28 ∧ a = A) ∨ ((g = 2565 ∨ g = 10000 + 747) ∧ Fa W t1 ≤ a ∧ a < Fa W t1 + 6)
section
variable {G : Gt} {B d : Nat} {h : AH} {l : List Nat} {o : Lc} {wi W A q BA X tt lim SP t : Nat} {snd : Int64} {MA : Ma} {s : Ms} {K : Outcome → AH → Prop}
theorem eO_i {t1 n : Nat} {p : Sl} {x : LV} (h : eO o wi t1 n p = some x) : (¬ (p.1 = 1 ∧ p.2.1 = wi ∧ p.2.2.1 = t1 + 1)) ∧ ((p.1 = 1 ∧ p.2.1 = wi ∧ p.2.2.1 = t1 ∧ n ≤ p.2.2.2 ∧ o (1, wi, t1 + 1, p.2.2.2 - n) = some x) ∨ (¬ (p.1 = 1 ∧ p.2.1 = wi ∧ p.2.2.1 = t1 ∧ n ≤ p.2.2.2) ∧ o p = some x)) := by
  unfold eO at h
  split at h
  · cases h
  · rename_i c1
    refine ⟨c1, ?_⟩
    split at h
    · rename_i c2
      exact Or.inl ⟨c2.1, c2.2.1, c2.2.2.1, c2.2.2.2, h⟩
    · rename_i c2
      exact Or.inr ⟨c2, h⟩
theorem eO_o {t1 n : Nat} {p : Sl} (h : ¬ (p.1 = 1 ∧ p.2.1 = wi ∧ (p.2.2.1 = t1 + 1 ∨ p.2.2.1 = t1 ∧ n ≤ p.2.2.2))) : eO o wi t1 n p = o p := by
  unfold eO
  rw [if_neg (fun z => h ⟨z.1, z.2.1, Or.inl z.2.2⟩), if_neg (fun z => h ⟨z.1, z.2.1, Or.inr z.2.2⟩)]
theorem eO_m {t1 n i : Nat} : eO o wi t1 n (1, wi, t1, n + i) = o (1, wi, t1 + 1, i) := by
  unfold eO
  rw [if_neg (fun z => by have : t1 = t1 + 1 := z.2.2; omega), if_pos ⟨rfl, rfl, rfl, by show n ≤ n + i; omega⟩]
  show o (1, wi, t1 + 1, n + i - n) = _
  rw [Nat.add_sub_cancel_left]
theorem eO_n {t1 n i : Nat} : eO o wi t1 n (1, wi, t1 + 1, i) = none := by
  unfold eO
  rw [if_pos ⟨rfl, rfl, rfl⟩]
theorem DJ.eO {t1 n : Nat} (dj : DJ o) : DJ (eO o wi t1 n) := by
  refine ⟨fun p x hp => ?_, fun p q x y hpq hp hq => ?_⟩
  · rcases (eO_i hp).2 with z | z
    · exact dj.1 _ _ z.2.2.2.2
    · exact dj.1 _ _ z.2
  · obtain ⟨a1, a2⟩ := eO_i hp
    obtain ⟨b1, b2⟩ := eO_i hq
    rcases a2 with ⟨e1, e2, e3, e4, e5⟩ | ⟨e1, e2⟩
    · rcases b2 with ⟨f1, f2, f3, f4, f5⟩ | ⟨f1, f2⟩
      · refine dj.2 _ _ x y (fun e => hpq ?_) e5 f5
        have : p.2.2.2 - n = q.2.2.2 - n := congrArg (fun p : Sl => p.2.2.2) e
        exact Prod.ext (by rw [e1, f1]) (Prod.ext (by rw [e2, f2]) (Prod.ext (by rw [e3, f3]) (by omega)))
      · refine dj.2 _ _ x y (fun e => b1 ?_) e5 f2
        rw [← e]; exact ⟨rfl, rfl, rfl⟩
    · rcases b2 with ⟨f1, f2, f3, f4, f5⟩ | ⟨f1, f2⟩
      · refine dj.2 _ _ x y (fun e => a1 ?_) e2 f5
        rw [e]; exact ⟨rfl, rfl, rfl⟩
      · exact dj.2 p q x y hpq e2 f2
theorem VH.eO {P : Nat → Nat → Prop} {h' : AH} {t1 n : Nat} (v : VH G B h q l o) (f : Fq P h h') (np : ∀ g a, VQ g a → ¬ P g a) (hn : ∀ i, n ≤ i → o (1, wi, t1, i) = none) : VH G B h' q l (eO o wi t1 n) ∧ TG o [] h h' := by
  obtain ⟨v1, tg⟩ := v.oth f np
  refine ⟨v1.gen (Fq.refl h') (P := fun _ _ => False) (fun _ z => z) (fun _ _ z => z) (DJ.eO v1.2.1) (fun p x hp a ha => ?_) (fun p x hp => ?_), tg⟩
  · by_cases c : p.1 = 1 ∧ p.2.1 = wi ∧ p.2.2.1 = t1 + 1
    · refine ⟨(1, wi, t1, n + p.2.2.2), x, ?_, ha⟩
      rw [eO_m, ← hp]
      congr 1
      exact Prod.ext c.1.symm (Prod.ext c.2.1.symm (Prod.ext c.2.2.symm rfl))
    · refine ⟨p, x, ?_, ha⟩
      rw [eO_o (fun z => ?_)]
      · exact hp
      · rcases z.2.2 with z2 | z2
        · exact c ⟨z.1, z.2.1, z2⟩
        · have : p = (1, wi, t1, p.2.2.2) := Prod.ext z.1 (Prod.ext z.2.1 (Prod.ext z2.1 rfl))
          rw [this, hn _ z2.2] at hp; cases hp
  · rcases (eO_i hp).2 with z | z
    · exact ⟨(v1.2.2.2 _ _ z.2.2.2.2).1, fun a ha => ⟨_, x, z.2.2.2.2, ha⟩⟩
    · exact ⟨(v1.2.2.2 _ _ z.2).1, fun a ha => ⟨_, x, z.2, ha⟩⟩
theorem StR.mvd {h' : AH} {o' : Lc} {j F j1 F1 : Nat} {k1 : List It} (tl : StR h' o' wi j1 F1 k1) : ∀ {k : List It}, StR h o wi j F k → (∀ i, i < k.length → o' (1, wi, j1, k1.length + i) = o (1, wi, j, i)) → (∀ i, i < k.length → h'.ER 747 (F1 + 2) (k1.length + i) = h.ER 747 (F + 2) i) → (∀ i x, i < k.length → o (1, wi, j, i) = some x → h'.R 3718 x.1 = h.R 3718 x.1) → (∀ r ∈ k.flatMap rfI, ∀ a, rad o wi r = some a → rad o' wi r = some a) → StR h' o' wi j1 F1 (k ++ k1)
  | [], _, _, _, _, _ => tl
  | i :: k, ⟨⟨x, x1, x2, x3⟩, s⟩, h1, h2, h3, h4 => by
    have el : (k ++ k1).length = k1.length + k.length := by rw [List.length_append]; omega
    refine ⟨⟨x, ?_, ?_, x3.keep (h3 _ x (by simp) x1) fun r hr => h4 r ?_⟩, StR.mvd tl s (fun n hn => h1 n (by simp; omega)) (fun n hn => h2 n (by simp; omega)) (fun n y hn => h3 n y (by simp; omega)) fun r hr => h4 r (vt_fl hr)⟩
    · show o' (1, wi, j1, (k ++ k1).length) = some x
      rw [el, h1 _ (by simp)]; exact x1
    · show h'.ER 747 (F1 + 2) (k ++ k1).length = some x.1
      rw [el, h2 _ (by simp)]; exact x2
    · subst hr; simp [rfI]
theorem PGv.ip {t1 : Nat} (ht : t1 + 1 < 32) : ∀ g a, PGv W A t1 g a → IP W g a := fun g a z => by
  rcases z with ⟨e, e2⟩ | ⟨e, e2⟩ | ⟨e, e2, e3⟩
  · rw [e, e2]; exact Or.inr (Or.inl ⟨rfl, by omega, by omega⟩)
  · rw [e]; exact Or.inr (Or.inr rfl)
  · refine Or.inr (Or.inl ⟨by rcases e with e | e <;> (rw [e]; rfl), ?_, ?_⟩)
    · unfold Fa at *; omega
    · unfold Fa at *; omega
theorem PGv.vq {t1 : Nat} : ∀ g a, VQ g a → ¬ PGv W A t1 g a := fun g a z z2 => by
  rcases z2 with ⟨e, -⟩ | ⟨e, -⟩ | ⟨e, -⟩
  · exact VQ.no (l := [2438]) rfl g a (by rw [e]; rfl) z
  · exact VQ.no (l := [28]) rfl g a (by rw [e]; rfl) z
  · exact VQ.no (l := fmF) rfl g a (by rcases e with e | e <;> (rw [e]; rfl)) z
theorem PGv.no {t1 : Nat} {l : List Nat} (h : l.all (fun f => !([2438, 28, 2565, 10000 + 747].contains f)) = true) : ∀ f a, l.contains f = true → ¬ PGv W A t1 f a := fun f a hf z => by
  rw [List.all_eq_true] at h
  have := h f (List.contains_iff_mem.mp hf)
  rcases z with ⟨e, -⟩ | ⟨e, -⟩ | ⟨e, -⟩
  · rw [e] at this; exact absurd this (by decide)
  · rw [e] at this; exact absurd this (by decide)
  · rcases e with e | e <;> (rw [e] at this; exact absurd this (by decide))
/-- what a frame gives lies below -/
theorem WkR.give {h' : AH} {t1 : Nat} (w : WkR h o wi W MA s) (ht : t1 + 2 = s.1) (hl0 : ∀ k, o (2, wi, t1 + 1, k) = none) (f : Fr (PGv W A t1) h h') (e1 : h'.I 2438 W = nI (t1 + 1)) (e2 : h'.I 2565 (Fa W t1) = nI ((s.2.1 t1).2.2.2.length + (stk s).length)) (h64 : (s.2.1 t1).2.2.2.length + (stk s).length ≤ 64) (e3 : ∀ i, i < (stk s).length → h'.ER 747 (Fa W t1 + 2) ((s.2.1 t1).2.2.2.length + i) = h.ER 747 (Fa W (t1 + 1) + 2) i) (e4 : ∀ i, i < (s.2.1 t1).2.2.2.length → h'.ER 747 (Fa W t1 + 2) i = h.ER 747 (Fa W t1 + 2) i) : WkR h' (eO o wi t1 (s.2.1 t1).2.2.2.length) wi W MA (t1 + 1, uF s.2.1 t1 ((s.2.1 t1).1, (s.2.1 t1).2.1, (s.2.1 t1).2.2.1, stk s ++ (s.2.1 t1).2.2.2), s.2.2) := by
  obtain ⟨⟨w1, w2, w3, w4, w5, w6⟩, w7, w8, w9⟩ := w
  have np := PGv.no (W := W) (A := A) (t1 := t1) (l := swF ++ enF ++ [2439, 2441, 3718, 2560, 2561, 2562, 10000 + 731]) rfl
  have sub : ∀ l' : List Nat, l'.all (fun f => (swF ++ enF ++ [2439, 2441, 3718, 2560, 2561, 2562, 10000 + 731]).contains f) = true → ∀ f a, l'.contains f = true → ¬ PGv W A t1 f a := fun l' hl f a hf => np f a (by rw [List.all_eq_true] at hl; exact hl f (List.contains_iff_mem.mp hf))
  have rk : ∀ r, rad (eO o wi t1 (s.2.1 t1).2.2.2.length) wi r = rad o wi r := rad_k fun c i j hc => eO_o (fun z => by
    have : c = 1 := z.1
    omega)
  have est : stk s = (s.2.1 (t1 + 1)).2.2.2 := by unfold stk tpf; rw [show s.1 - 1 = t1 + 1 by omega]
  have oj : ∀ c j i, j ≠ t1 → j ≠ t1 + 1 → eO o wi t1 (s.2.1 t1).2.2.2.length (c, wi, j, i) = o (c, wi, j, i) := fun c j i n1 n2 => eO_o (fun z => by
    rcases z.2.2 with z | z
    · exact n2 z
    · exact n1 z.1)
  have o2 : ∀ j i, eO o wi t1 (s.2.1 t1).2.2.2.length (2, wi, j, i) = o (2, wi, j, i) := fun j i => eO_o (fun z => by
    have : (2 : Nat) = 1 := z.1
    omega)
  refine ⟨⟨w1.fr f (sub swF rfl), e1, by show 1 ≤ t1 + 1; omega, by show t1 + 1 ≤ 32; omega, by show h'.I 2439 W = nI (gas s); rw [f.I (np _ _ rfl)]; exact w5, by show h'.I 2441 W = nI s.2.2.2.1; rw [f.I (np _ _ rfl)]; exact w6⟩, fun j hj => ?_, fun j hj i => ?_, ?_⟩
  · have hj : j < t1 + 1 := hj
    show FmR h' _ wi j (Fa W j) MA (uF s.2.1 t1 _ j)
    by_cases c : j = t1
    · subst c
      unfold uF
      rw [if_pos rfl]
      obtain ⟨⟨m1, m2, m3, m4, m5⟩, m6, m7, m8, m9⟩ := w7 j (by omega)
      obtain ⟨-, n6, n7, -, -⟩ := w7 (j + 1) (by omega)
      rw [← est] at n6 n7
      refine ⟨⟨by rw [f.R (np _ _ rfl)]; exact m1, by rw [f.R (np _ _ rfl)]; exact m2, by rw [f.I (np _ _ rfl)]; exact m3, ?_, ?_⟩, StR.mvd (m6.keep (fun i hi => eO_o (fun z => ?_)) e4 (fun i x _ hx => f.R (np _ _ rfl)) (fun r _ a ha => by rw [rk]; exact ha)) n6 (fun i _ => eO_m) e3 (fun i x _ hx => f.R (np _ _ rfl)) (fun r _ a ha => by rw [rk]; exact ha), fun i hi => ?_, m8.keep (fun i _ => o2 _ _) (fun i _ => f.ER (np _ _ rfl) i) (fun i x hx => f.R (np _ _ rfl)) (fun i r _ _ a ha => by rw [rk]; exact ha), fun i hi => by rw [o2]; exact m9 i hi⟩
      · show h'.I 2565 (Fa W j) = nI (stk s ++ (s.2.1 j).2.2.2).length
        rw [List.length_append, Nat.add_comm]; exact e2
      · show (stk s ++ (s.2.1 j).2.2.2).length ≤ 64
        rw [List.length_append]; omega
      · rcases z.2.2 with z | z
        · have : j = j + 1 := z
          omega
        · have : (s.2.1 j).2.2.2.length ≤ i := z.2
          omega
      · change (stk s ++ (s.2.1 j).2.2.2).length ≤ i at hi
        rw [List.length_append] at hi
        obtain ⟨i', rfl⟩ : ∃ i', i = (s.2.1 j).2.2.2.length + i' := ⟨i - (s.2.1 j).2.2.2.length, by omega⟩
        rw [eO_m]
        exact n7 i' (by omega)
    · rw [uF_e c]
      refine (w7 j (by omega)).keep f (fun g a hg h1 h2 z => ?_) (fun b i hb => oj b j i c (by omega)) (fun b i x _ hx => f.R (np _ _ rfl)) (fun r _ a ha => by rw [rk]; exact ha)
      rcases z with z | z | z
      · rw [z.1] at hg; exact absurd hg (by decide)
      · rw [z.1] at hg; exact absurd hg (by decide)
      · unfold Fa at *; omega
  · have hj : t1 + 1 ≤ j := hj
    by_cases c : j = t1 + 1
    · subst c
      exact ⟨eO_n, by rw [o2]; exact hl0 i⟩
    · rw [oj 1 j i (by omega) c, oj 2 j i (by omega) c]
      exact w8 j (by omega) i
  · exact w9.keep f (fun g a hg _ _ => sub enF rfl g a hg) (fun e _ => eO_o (fun z => by
      have : (3 : Nat) = 1 := z.1
      omega))
end
