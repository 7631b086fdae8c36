/-! a new entry of a worker's -/
/-- OPR, where the frame at hand and the least depth are other -/
def OPQ (z : Nat) (fx : Option Nat) (G : Gt) (B : Nat) (h : AH) (A W q BA X tt : Nat) (snd : Int64) (lim SP wi : Nat) (MA : Ma) (l : List Nat) (o : Lc) (s : Ms) : Prop := CTX h A W q BA X tt snd lim SP ∧ VH G B h q l o ∧ WkQ z h o wi W MA s ∧ h.R 28 A = fx ∧ gas s ≤ lim ∧ WDR h A
theorem WkQ.oth {P : Nat → Nat → Prop} {h h' : AH} {o : Lc} {z wi W : Nat} {MA : Ma} {s : Ms} (w : WkQ z h o wi W MA s) (f : Fr P h h') (np : ∀ g a, (swF ++ fmF ++ enF ++ [2438, 2439, 2441, 3718]).contains g = true → ¬ P g a) : WkQ z h' o wi W MA s := by
  obtain ⟨⟨w1, w2, w3, w4, w5, w6⟩, w7, w8, w9⟩ := w
  have sub : ∀ l' : List Nat, l'.all (fun f => (swF ++ fmF ++ enF ++ [2438, 2439, 2441, 3718]).contains f) = true → ∀ f a, l'.contains f = true → ¬ P f a := fun l' hl f a hf => np f a (by rw [List.all_eq_true] at hl; exact hl f (List.contains_iff_mem.mp hf))
  exact ⟨⟨w1.fr f (sub swF rfl), by rw [f.I (np _ _ rfl)]; exact w2, w3, w4, by rw [f.I (np _ _ rfl)]; exact w5, by rw [f.I (np _ _ rfl)]; exact w6⟩, fun j hj => (w7 j hj).keep f (fun g a hg _ _ => sub fmF rfl g a hg) (fun _ _ _ => rfl) (fun c i x _ hx => f.R (np _ _ rfl)) (fun r _ a ha => ha), w8, w9.keep f (fun g a hg _ _ => sub enF rfl g a hg) (fun _ _ => rfl)⟩
theorem OPQ.stop {z : Nat} {fx : Option Nat} {G : Gt} {B : Nat} {h : AH} {A W q BA X tt : Nat} {snd : Int64} {lim SP wi : Nat} {MA : Ma} {l : List Nat} {o : Lc} {s : Ms} {K : Outcome → AH → Prop} (H : OPQ z fx G B h A W q BA X tt snd lim SP wi MA l o s) {w : Nat} {c : Int64} (k : ∀ h' l' o', OUT wi W h h' o o' → OPQ z fx G B h' A W q BA X tt snd lim SP wi MA l' o' s → h'.I 24 A = nI w → h'.J 25 A = c → K (.threw SP) h') : STP K A SP h w c := fun h' f e1 e2 => by
  obtain ⟨a, v, w1, hf, hg, hw⟩ := H
  obtain ⟨v1, tg⟩ := v.oth f (FS.vq rfl)
  have fi : Fr (IP W) h h' := f.1.mono stp_ip
  exact k h' l o (OUT.mk0 fi tg) ⟨a.ip fi, v1, w1.oth f.1 (FS.no rfl), by rw [f.1.R (FS.n rfl)]; exact hf, hg, hw.fr f.1 (fun _ => FS.n rfl) (fun _ => FS.n rfl)⟩ e1 e2
def enE : List Nat := [1152, 1153, 1154, 1155, 1156, 1157, 1162, 1163, 1159, 1160, 1161, 1158]
def PE0 (W n g a : Nat) : Prop := (g = 1025 ∧ a = W + 2) ∨ (enE.contains g = true ∧ a = Ea W n)
def PEV (W n g a : Nat) : Prop := VQ g a ∨ PE0 W n g a ∨ (g = 2441 ∧ a = W)
theorem PE0.vq {W n : Nat} : ∀ g a, VQ g a → ¬ PE0 W n g a := fun g a z z2 => by
  have nz := VQ.no (l := 1025 :: enE) rfl
  rcases z2 with ⟨e, -⟩ | ⟨e, -⟩
  · exact nz g a (by rw [e]; rfl) z
  · exact nz g a (by rw [List.contains_iff_mem] at e ⊢; exact List.mem_cons_of_mem _ e) z
theorem PE0.pv {W n : Nat} : ∀ g a, PE0 W n g a → PEV W n g a := fun g a z => Or.inr (Or.inl z)
theorem VQ.pv {W n : Nat} : ∀ g a, VQ g a → PEV W n g a := fun g a z => Or.inl z
theorem PEV.ip {W n : Nat} (hn : n < 30) : ∀ g a, PEV W n g a → IP W g a := fun g a z => by
  rcases z with z | z | z
  · exact Or.inl z
  · refine Or.inr (Or.inl ?_)
    rcases z with ⟨e, e2⟩ | ⟨e, e2⟩
    · rw [e, e2]; exact ⟨rfl, by omega, by omega⟩
    · refine ⟨?_, by rw [e2]; unfold Ea; omega, by rw [e2]; unfold Ea; omega⟩
      have : enE.all (fun f => ipM.contains f) = true := rfl
      rw [List.all_eq_true] at this
      exact this g (List.contains_iff_mem.mp e)
  · rw [z.1, z.2]; exact Or.inr (Or.inl ⟨rfl, by omega, by omega⟩)
theorem PEV.no {W n : Nat} {l : List Nat} (h : l.all (fun f => !((3712 ≤ f && f ≤ 3718) || f == 1280 || (1025 :: 2441 :: enE).contains f)) = true) : ∀ f a, l.contains f = true → ¬ PEV W n f a := fun f a hf z => by
  rw [List.all_eq_true] at h
  have := h f (List.contains_iff_mem.mp hf)
  simp only [Bool.not_eq_true', Bool.or_eq_false_iff, Bool.and_eq_false_iff] at this
  obtain ⟨⟨t1, t2⟩, t3⟩ := this
  rcases z with (z | z) | (z | z) | z
  · rcases t1 with t | t
    · exact absurd z.1 (by simpa using t)
    · exact absurd z.2 (by simpa using t)
  · rw [z] at t2; simp at t2
  · rw [z.1] at t3; exact absurd t3 (by decide)
  · have : f ∈ (1025 :: 2441 :: enE) := List.mem_cons_of_mem _ (List.mem_cons_of_mem _ (List.contains_iff_mem.mp z.1))
    rw [← List.contains_iff_mem, t3] at this; cases this
  · rw [z.1] at t3; exact absurd t3 (by decide)
theorem EnR1.fr {P : Nat → Nat → Prop} {h h' : AH} {o o' : Lc} {wi W e : Nat} {MA MA' : Ma} {x : En} (s : EnR1 h o wi W e MA x) (q : Fr P h h') (z : ∀ g, enE.contains g = true → ¬ P g (Ea W e)) (ho : o' (3, wi, e, 0) = o (3, wi, e, 0)) (m1 : MA'.1 = MA.1) (m2 : MA'.2.2.2 e = MA.2.2.2 e) : EnR1 h' o' wi W e MA' x := by
  obtain ⟨⟨a1, a2, a3, a4⟩, ⟨b1, b2, b3⟩, ⟨c1, c2⟩, ⟨e1, e2, e3⟩, d1⟩ := s
  refine ⟨⟨by rw [q.I (z _ rfl)]; exact a1, by rw [q.J (z _ rfl)]; exact a2, by rw [q.I (z _ rfl)]; exact a3, a4⟩, ⟨by rw [q.I (z _ rfl)]; exact b1, by rw [q.J (z _ rfl)]; exact b2, by rw [q.J (z _ rfl)]; exact b3⟩, ⟨by rw [q.I (z _ rfl)]; exact c1, by rw [q.I (z _ rfl)]; exact c2⟩, ⟨by rw [q.I (z _ rfl), m2]; exact e1, by rw [q.I (z _ rfl), m2]; exact e2, fun u1 u2 => by rw [q.R (z _ rfl), m1]; exact e3 u1 u2⟩, ?_⟩
  rw [ho, q.R (z _ rfl)]; exact d1
theorem FmR.ma {h : AH} {o : Lc} {wi j F : Nat} {MA MA' : Ma} {f : Fm} (m1 : MA'.1 = MA.1) (m2 : MA'.2.1 = MA.2.1) (m3 : MA'.2.2.1 j = MA.2.2.1 j) (s : FmR h o wi j F MA f) : FmR h o wi j F MA' f := by
  obtain ⟨⟨s1, s2, s3, s4⟩, s5⟩ := s
  exact ⟨⟨by rw [m1]; exact s1, by rw [m2]; exact s2, by rw [m3]; exact s3, s4⟩, s5⟩
theorem WkQ.ent {h h' : AH} {o o' : Lc} {z wi W n ak : Nat} {MA MA' : Ma} {s : Ms} {x : En} (w : WkQ z h o wi W MA s) (hn : n = (ens s).length) (hn2 : n < 26) (f : Fr (PEV W n) h h') (ho : ∀ p, p ≠ (3, wi, n, 0) → o' p = o p) (tg : TG o [] h h') (hc : h'.I 1025 (W + 2) = nI (n + 1)) (hk : h'.I 2441 W = nI ak) (nw : EnR1 h' o' wi W n MA' x) (m1 : MA'.1 = MA.1) (m2 : MA'.2.1 = MA.2.1) (m3 : MA'.2.2.1 = MA.2.2.1) (m4 : ∀ e, e < n → MA'.2.2.2 e = MA.2.2.2 e) : WkQ z h' o' wi W MA' (s.1, s.2.1, ens s ++ [x], ak, gas s) := by
  obtain ⟨⟨w1, w2, w3, w4, w5, w6⟩, w7, w8, ⟨w9, w10⟩, w11, w12⟩ := w
  have np := PEV.no (W := W) (n := n) (l := swF ++ fmF ++ [2438, 2439]) rfl
  have sub : ∀ l' : List Nat, l'.all (fun f => (swF ++ fmF ++ [2438, 2439]).contains f) = true → ∀ f a, l'.contains f = true → ¬ PEV W n f a := fun l' hl f a hf => np f a (by rw [List.all_eq_true] at hl; exact hl f (List.contains_iff_mem.mp hf))
  have o12 : ∀ c i j, c = 1 ∨ c = 2 → o' (c, wi, i, j) = o (c, wi, i, j) := fun c i j hc => ho _ (fun e => by
    have : c = 3 := congrArg Prod.fst e
    omega)
  have hr : ∀ (r : Rx) a, rad o wi r = some a → rad o' wi r = some a := fun r a hr => by
    by_cases c : rsl' wi r.1 = (3, wi, n, 0)
    · unfold rad at hr
      rw [c, w12 n 0 (Or.inl (by omega))] at hr
      cases hr
    · unfold rad at hr ⊢
      rw [ho _ c]; exact hr
  refine ⟨⟨w1.fr f (sub swF rfl), by rw [f.I (np _ _ rfl)]; exact w2, w3, w4, by rw [f.I (np _ _ rfl)]; exact w5, hk⟩, fun j hj => ((w7 j hj).keep f (fun g a hg _ _ => sub fmF rfl g a hg) (fun c i hc => o12 c j i hc) (fun c i y _ hy => tg _ y (by simp) hy) (fun r _ a ha => hr r a ha)).ma m1 m2 (by rw [m3]), fun j hj i => ?_, ⟨?_, ?_⟩, fun e y hy => ?_, fun e b he => ?_⟩
  · rw [o12 1 j i (Or.inl rfl), o12 2 j i (Or.inr rfl)]; exact w8 j hj i
  · show h'.I 1025 (W + 2) = nI (ens s ++ [x]).length
    rw [hc, List.length_append, ← hn]; rfl
  · show (ens s ++ [x]).length ≤ 26
    rw [List.length_append, ← hn]; simp; omega
  · change (ens s ++ [x])[e]? = some y at hy
    by_cases c : e < n
    · rw [List.getElem?_append_left (by omega)] at hy
      refine (w11 e y hy).fr f (fun g hg z => ?_) (ho _ (fun q => ?_)) m1 (m4 e c)
      · rcases z with z | (z | z) | z
        · exact VQ.no (l := enE) rfl g _ hg z
        · have := z.2
          unfold Ea at this; omega
        · have := z.2
          unfold Ea at this; omega
        · have := z.2
          unfold Ea at this; omega
      · have : e = n := congrArg (fun p : Sl => p.2.2.1) q
        omega
    · have e1 : e = n := by
        have := get_lt hy
        rw [List.length_append] at this
        simp at this
        omega
      subst e1
      rw [hn, List.getElem?_append_right (by omega)] at hy
      simp at hy
      rw [← hy]
      exact nw
  · change (ens s ++ [x]).length ≤ e ∨ b ≠ 0 at he
    rw [List.length_append] at he
    simp only [List.length_cons, List.length_nil] at he
    rw [ho _ (fun q => by
      have z1 : e = n := congrArg (fun p : Sl => p.2.2.1) q
      have z2 : b = 0 := congrArg (fun p : Sl => p.2.2.2) q
      omega)]
    exact w12 e b (by omega)
