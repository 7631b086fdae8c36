/-! arguments go over to a frame that begins -/
def PMv (W t g a : Nat) : Prop := (g = 2565 ∧ a = Fa W t) ∨ (g = 10000 + 731 ∧ a = Fa W (t + 1) + 1)
theorem PMv.ip {W t : Nat} (ht : t + 1 < 32) : ∀ g a, PMv W t g a → IP W g a := fun g a z => by
  rcases z with ⟨e, e2⟩ | ⟨e, e2⟩
  · exact PTF.ip (W := W) (j := t) (by omega) g a (Or.inl ⟨by rw [e]; rfl, by omega, by omega⟩)
  · exact PTF.ip (W := W) (j := t + 1) (by omega) g a (Or.inl ⟨by rw [e]; rfl, by omega, by omega⟩)
theorem PMv.vq {W t : Nat} : ∀ g a, VQ g a → ¬ PMv W t g a := fun g a z z2 => by
  have nz := VQ.no (l := fmF) rfl
  rcases z2 with ⟨e, -⟩ | ⟨e, -⟩ <;> exact nz g a (by rw [e]; rfl) z
theorem PMv.no {W t : Nat} {l : List Nat} (h : l.all (fun f => !([2565, 10000 + 731].contains f)) = true) : ∀ f a, l.contains f = true → ¬ PMv W t f a := fun f a hf z => by
  rw [List.all_eq_true] at h
  have := h f (List.contains_iff_mem.mp hf)
  rcases z with ⟨e, -⟩ | ⟨e, -⟩ <;> (rw [e] at this; exact absurd this (by decide))
section
variable {G : Gt} {B d : Nat} {h : AH} {l : List Nat} {o : Lc} {wi W A q BA X tt lim SP t : Nat} {snd : Int64} {MA : Ma} {s : Ms} {K : Outcome → AH → Prop}
theorem WkR.mv {c : Nat} {i : It} {k : List It} {x : LV} (w : WkR h o wi W MA s) (ht : t + 2 = s.1) (hs : (s.2.1 t).2.2.2 = i :: k) (hc : c < 40) (hf : o (2, wi, t + 1, c) = none) (hx : o (1, wi, t, k.length) = some x) : WkR ((h.sI 2565 (Fa W t) (nI k.length)).sER 731 (Fa W (t + 1) + 1) c (some x.1)) (uO (uO o (1, wi, t, k.length) none) (2, wi, t + 1, c) (some x)) wi W MA (s.1, uF (uF s.2.1 t ((s.2.1 t).1, (s.2.1 t).2.1, (s.2.1 t).2.2.1, k)) (t + 1) ((s.2.1 (t + 1)).1, (s.2.1 (t + 1)).2.1, uLc (s.2.1 (t + 1)).2.2.1 c (some i), (s.2.1 (t + 1)).2.2.2), s.2.2) := by
  have fq : Fq (PMv W t) h ((h.sI 2565 (Fa W t) (nI k.length)).sER 731 (Fa W (t + 1) + 1) c (some x.1)) := by
    refine Fq.sER (Fq.sI (Fq.refl h) ?_) ?_
    · exact Or.inl ⟨rfl, rfl⟩
    · exact Or.inr ⟨rfl, rfl⟩
  have eH : ((h.sI 2565 (Fa W t) (nI k.length)).sER 731 (Fa W (t + 1) + 1) c (some x.1)).I 2565 (Fa W t) = nI k.length := by simp [n_sI, z_sI, tag_sI, I_sI, J_sI, R_sI, EI_sI, EJ_sI, ER_sI, n_sJ, z_sJ, tag_sJ, I_sJ, J_sJ, R_sJ, EI_sJ, EJ_sJ, ER_sJ, n_sR, z_sR, tag_sR, I_sR, J_sR, R_sR, EI_sR, EJ_sR, ER_sR, n_sEI, z_sEI, tag_sEI, I_sEI, J_sEI, R_sEI, EI_sEI, EJ_sEI, ER_sEI, n_sEJ, z_sEJ, tag_sEJ, I_sEJ, J_sEJ, R_sEJ, EI_sEJ, EJ_sEJ, ER_sEJ, n_sER, z_sER, tag_sER, I_sER, J_sER, R_sER, EI_sER, EJ_sER, ER_sER, n_nw, z_nw, tag_nw, I_nw, J_nw, R_nw, EI_nw, EJ_nw, ER_nw]
  have eL : ∀ j, ((h.sI 2565 (Fa W t) (nI k.length)).sER 731 (Fa W (t + 1) + 1) c (some x.1)).ER 731 (Fa W (t + 1) + 1) j = if j = c then some x.1 else h.ER 731 (Fa W (t + 1) + 1) j := fun j => by
    by_cases e : j = c
    · subst e; simp [n_sI, z_sI, tag_sI, I_sI, J_sI, R_sI, EI_sI, EJ_sI, ER_sI, n_sJ, z_sJ, tag_sJ, I_sJ, J_sJ, R_sJ, EI_sJ, EJ_sJ, ER_sJ, n_sR, z_sR, tag_sR, I_sR, J_sR, R_sR, EI_sR, EJ_sR, ER_sR, n_sEI, z_sEI, tag_sEI, I_sEI, J_sEI, R_sEI, EI_sEI, EJ_sEI, ER_sEI, n_sEJ, z_sEJ, tag_sEJ, I_sEJ, J_sEJ, R_sEJ, EI_sEJ, EJ_sEJ, ER_sEJ, n_sER, z_sER, tag_sER, I_sER, J_sER, R_sER, EI_sER, EJ_sER, ER_sER, n_nw, z_nw, tag_nw, I_nw, J_nw, R_nw, EI_nw, EJ_nw, ER_nw]
    · simp [n_sI, z_sI, tag_sI, I_sI, J_sI, R_sI, EI_sI, EJ_sI, ER_sI, n_sJ, z_sJ, tag_sJ, I_sJ, J_sJ, R_sJ, EI_sJ, EJ_sJ, ER_sJ, n_sR, z_sR, tag_sR, I_sR, J_sR, R_sR, EI_sR, EJ_sR, ER_sR, n_sEI, z_sEI, tag_sEI, I_sEI, J_sEI, R_sEI, EI_sEI, EJ_sEI, ER_sEI, n_sEJ, z_sEJ, tag_sEJ, I_sEJ, J_sEJ, R_sEJ, EI_sEJ, EJ_sEJ, ER_sEJ, n_sER, z_sER, tag_sER, I_sER, J_sER, R_sER, EI_sER, EJ_sER, ER_sER, n_nw, z_nw, tag_nw, I_nw, J_nw, R_nw, EI_nw, EJ_nw, ER_nw, e]
  generalize hh : (h.sI 2565 (Fa W t) (nI k.length)).sER 731 (Fa W (t + 1) + 1) c (some x.1) = h' at fq eH eL
  obtain ⟨⟨w1, w2, w3, w4, w5, w6⟩, w7, w8, w9⟩ := w
  have f := fq.1
  have np := PMv.no (W := W) (t := t) (l := swF ++ enF ++ [2438, 2439, 2441, 3718, 2560, 2561, 2562, 10000 + 747]) rfl
  have sub : ∀ l' : List Nat, l'.all (fun f => (swF ++ enF ++ [2438, 2439, 2441, 3718, 2560, 2561, 2562, 10000 + 747]).contains f) = true → ∀ f a, l'.contains f = true → ¬ PMv W t f a := fun l' hl f a hf => np f a (by rw [List.all_eq_true] at hl; exact hl f (List.contains_iff_mem.mp hf))
  have oo : ∀ p : Sl, p ≠ (1, wi, t, k.length) → p ≠ (2, wi, t + 1, c) → uO (uO o (1, wi, t, k.length) none) (2, wi, t + 1, c) (some x) p = o p := fun p n1 n2 => by rw [uO_n n2, uO_n n1]
  have hr : ∀ (r : Rx) a, rad o wi r = some a → rad (uO (uO o (1, wi, t, k.length) none) (2, wi, t + 1, c) (some x)) wi r = some a := fun r a ha => by
    have : rsl' wi r.1 ≠ (2, wi, t + 1, c) := fun e => by
      unfold rad at ha
      rw [e, hf] at ha; cases ha
    rw [rad_u this, rad_u rsl_1]; exact ha
  have fj : ∀ {a b c d e f g : Nat}, ((a, b, c, d) : Sl) = (e, b, f, g) → a = e ∧ c = f ∧ d = g := fun e => ⟨congrArg Prod.fst e, congrArg (fun p : Sl => p.2.2.1) e, congrArg (fun p : Sl => p.2.2.2) e⟩
  refine ⟨⟨w1.fr f (sub swF rfl), by rw [f.I (np _ _ rfl)]; exact w2, w3, w4, by show h'.I 2439 W = nI (gas s); rw [f.I (np _ _ rfl)]; exact w5, by show h'.I 2441 W = nI s.2.2.2.1; rw [f.I (np _ _ rfl)]; exact w6⟩, fun j hj => ?_, fun j hj i' => ?_, ?_⟩
  · show FmR h' _ wi j (Fa W j) MA (uF (uF s.2.1 t _) (t + 1) _ j)
    have hj : j < s.1 := hj
    by_cases c1 : j = t + 1
    · subst c1
      unfold uF
      rw [if_pos rfl]
      obtain ⟨⟨m1, m2, m3, m4, m5⟩, m6, m7, m8, m9⟩ := w7 (t + 1) hj
      refine ⟨⟨by rw [f.R (np _ _ rfl)]; exact m1, by rw [f.R (np _ _ rfl)]; exact m2, by rw [f.I (np _ _ rfl)]; exact m3, ?_, m5⟩, m6.keep (fun n _ => oo _ (fun e => by have := fj e; omega) (fun e => by have := fj e; omega)) (fun n _ => f.ER (np _ _ rfl) n) (fun n y _ hy => f.R (np _ _ rfl)) (fun r _ a ha => hr r a ha), fun n hn => ?_, fun n hn => ?_, fun n hn => ?_⟩
      · rw [f.I (fun z => by
          rcases z with z | z
          · have := z.2; unfold Fa at this; omega
          · exact absurd z.1 (by decide))]
        exact m4
      · rw [oo _ (fun e => by have := fj e; omega) (fun e => by have := fj e; omega)]; exact m7 n hn
      · show match uLc _ c (some i) n with
          | some i => _
          | none => _
        unfold uLc
        rw [eL n]
        by_cases e : n = c
        · subst e
          rw [if_pos rfl, if_pos rfl]
          obtain ⟨⟨-, -, -, -, -⟩, q6, -⟩ := w7 t (by omega)
          rw [hs] at q6
          obtain ⟨⟨y, y1, y2, y3⟩, -⟩ := q6
          have : y = x := by rw [hx] at y1; exact (Option.some.inj y1).symm
          subst this
          exact ⟨y, uO_s, rfl, y3.keep (f.R (np _ _ rfl)) fun r _ a ha => hr r a ha⟩
        · rw [if_neg e, if_neg e]
          have := m8 n hn
          rw [oo _ (fun e => by have := fj e; omega) (fun q => by have := fj q; omega)]
          cases hl : (s.2.1 (t + 1)).2.2.1 n with
          | none => rw [hl] at this; exact this
          | some i2 =>
            rw [hl] at this
            obtain ⟨y, y1, y2, y3⟩ := this
            exact ⟨y, y1, y2, y3.keep (f.R (np _ _ rfl)) fun r _ a ha => hr r a ha⟩
      · rw [oo _ (fun e => by have := fj e; omega) (fun e => by have := fj e; omega)]; exact m9 n hn
    · rw [uF_e c1]
      by_cases c2 : j = t
      · subst c2
        unfold uF
        rw [if_pos rfl]
        obtain ⟨⟨m1, m2, m3, m4, m5⟩, m6, m7, m8, m9⟩ := w7 j hj
        rw [hs] at m6 m7 m5
        obtain ⟨⟨y, y1, y2, y3⟩, s2⟩ := m6
        have m5 : k.length + 1 ≤ 64 := m5
        refine ⟨⟨by rw [f.R (np _ _ rfl)]; exact m1, by rw [f.R (np _ _ rfl)]; exact m2, by rw [f.I (np _ _ rfl)]; exact m3, eH, by show k.length ≤ 64; omega⟩, s2.keep (fun n hn => oo _ (fun e => by have := fj e; omega) (fun e => by have := fj e; omega)) (fun n _ => f.ER (np _ _ rfl) n) (fun n y _ hy => f.R (np _ _ rfl)) (fun r _ a ha => hr r a ha), fun n hn => ?_, m8.keep (fun n _ => oo _ (fun e => by have := fj e; omega) (fun e => by have := fj e; omega)) (fun n _ => f.ER (fun z => ?_) n) (fun n y hy => f.R (np _ _ rfl)) (fun n r _ _ a ha => hr r a ha), fun n hn => ?_⟩
        · have hn : k.length ≤ n := hn
          by_cases e : n = k.length
          · subst e
            rw [uO_n (fun e => by have := fj e; omega), uO_s]
          · rw [oo _ (fun q => by have := fj q; omega) (fun e => by have := fj e; omega)]
            exact m7 n (by show k.length + 1 ≤ n; omega)
        · rcases z with z | z
          · exact absurd z.1 (by decide)
          · have := z.2; unfold Fa at this; omega
        · rw [oo _ (fun e => by have := fj e; omega) (fun e => by have := fj e; omega)]; exact m9 n hn
      · rw [uF_e c2]
        refine (w7 j hj).keep f (fun g a hg h1 h2 z => ?_) (fun b n hb => oo _ (fun e => by have := fj e; omega) (fun e => by have := fj e; omega)) (fun b n y _ hy => f.R (np _ _ rfl)) (fun r _ a ha => hr r a ha)
        rcases z with z | z
        · have := z.2; unfold Fa at *; omega
        · have := z.2; unfold Fa at *; omega
  · have hj : s.1 ≤ j := hj
    rw [oo _ (fun e => by have := fj e; omega) (fun e => by have := fj e; omega), oo _ (fun e => by have := fj e; omega) (fun e => by have := fj e; omega)]
    exact w8 j hj i'
  · exact w9.keep f (fun g a hg _ _ => sub enF rfl g a hg) (fun e _ => oo _ (fun q => by have := fj q; omega) (fun q => by have := fj q; omega))
end
