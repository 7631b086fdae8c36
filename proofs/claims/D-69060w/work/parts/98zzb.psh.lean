/-! a worker of the component's: its topmost stack -/
def PH (F g a : Nat) : Prop := (g = 2565 ∨ g = 10000 + 747) ∧ F ≤ a ∧ a < F + 3
/-- values do not mind what others do -/
theorem VH.oth {P : Nat → Nat → Prop} {G : Gt} {B q : Nat} {h h' : AH} {l : List Nat} {o : Lc} (v : VH G B h q l o) (f : Fq P h h') (hp : ∀ g a, VQ g a → ¬ P g a) : VH G B h' q l o ∧ TG o [] h h' := by
  obtain ⟨v1, v2, ⟨v3, v5⟩, v4⟩ := id v
  obtain ⟨p1, p2, p3, p4, p5⟩ := v1
  have nv : ∀ g a, 3712 ≤ g → g ≤ 3718 → ¬ P g a := fun g a h1 h2 => hp g a (Or.inl ⟨h1, h2⟩)
  refine ⟨⟨⟨f.1.tag p1, ?_, p3, ?_, by rw [f.2.1]; exact p5⟩, v2, ⟨fun a ha => by rw [f.2.1]; exact v3 a ha, fun a h1 h2 => v5 a h1 (by rw [← f.2.1]; exact h2)⟩, fun p x hx => ?_⟩, fun p x _ hx => f.1.R (nv _ _ (by decide) (by decide))⟩
  · rw [f.1.R (hp _ _ (Or.inr rfl))]
    exact FL.fr f.1 p2 fun a _ => nv _ _ (by decide) (by decide)
  · unfold RM at *
    rw [f.2.1, f.2.2]; exact p4
  · obtain ⟨g1, g2, g3⟩ := v4 p x hx
    exact ⟨g1.fr f.1 fun g b _ h1 h2 => nv g b h1 h2, g2, fun a ha => by rw [f.2.1]; exact g3 a ha⟩
theorem PH.v {F : Nat} : ∀ g a, VQ g a → ¬ PH F g a := fun g a h z => by
  rcases z.1 with z | z
  · rw [z] at h
    rcases h with h | h
    · exact absurd h (by decide)
    · exact absurd h (by decide)
  · rw [z] at h
    rcases h with h | h
    · exact absurd h (by decide)
    · exact absurd h (by decide)
theorem PH.ip {W j : Nat} (hj : j < 32) : ∀ g a, PH (Fa W j) g a → IP W g a := fun g a h => by
  refine Or.inr (Or.inl ⟨?_, ?_, ?_⟩)
  · rcases h.1 with z | z <;> (rw [z]; decide)
  · have := h.2.1; unfold Fa at this; omega
  · have := h.2.2; unfold Fa at this; omega
theorem StR.nth {h : AH} {o : Lc} {wi j F : Nat} : ∀ {k : List It} {b : Nat} {i : It}, StR h o wi j F k → (k)[b]? = some i → ∃ x, o (1, wi, j, k.length - 1 - b) = some x ∧ h.ER 747 (F + 2) (k.length - 1 - b) = some x.1 ∧ ItL h o wi i x
  | [], b, i, _, hb => by simp at hb
  | y :: k, 0, i, s, hb => by cases hb; exact s.1
  | y :: k, b + 1, i, s, hb => by
    have := StR.nth s.2 (show (k)[b]? = some i from hb)
    rw [show (y :: k).length - 1 - (b + 1) = k.length - 1 - b by simp; omega]
    exact this
section
variable {h : AH} {o : Lc} {wi W A q BA X tt lim SP t : Nat} {snd : Int64} {MA : Ma} {s : Ms}
theorem FmR.ne {j : Nat} (hj : j ≠ t) (hj2 : j < 32) (ht2 : t < 32) : ∀ g a, fmF.contains g = true → Fa W j ≤ a → a < Fa W j + 3 → ¬ PH (Fa W t) g a := fun g a _ h1 h2 z => by
  obtain ⟨-, z1, z2⟩ := z
  unfold Fa at *
  omega
/-- the topmost stack becomes another one -/
theorem WkR.sk {h' : AH} {o' : Lc} {k : List It} (w : WkR h o wi W MA s) (ht : t + 1 = s.1) (f1 : Fq (PH (Fa W t)) h h') (hs : ∀ p : Sl, p.1 ≠ 1 ∨ p.2.1 ≠ wi ∨ p.2.2.1 ≠ t → o' p = o p) (hst : StR h' o' wi t (Fa W t) k) (hh : h'.I 2565 (Fa W t) = nI k.length) (h64 : k.length ≤ 64) (hb : ∀ i, k.length ≤ i → o' (1, wi, t, i) = none) : WkR h' o' wi W MA (sK s k) := by
  obtain ⟨⟨w1, w2, w3, w4, w5, w6⟩, w7, w8, w9⟩ := w
  have nv : ∀ g a, 3712 ≤ g → g ≤ 3718 → ¬ PH (Fa W t) g a := fun g a h1 h2 => PH.v g a (Or.inl ⟨h1, h2⟩)
  have np : ∀ g a, g ≠ 2565 → g ≠ 10000 + 747 → ¬ PH (Fa W t) g a := fun g a h1 h2 z => by
    rcases z.1 with z | z
    · exact h1 z
    · exact h2 z
  have rk : ∀ r, rad o' wi r = rad o wi r := rad_k fun c i j hc => hs _ (Or.inl (by rcases hc with z | z <;> (rw [z]; simp)))
  have fr : ∀ j, (sK s k).2.1 j = if j = t then ((s.2.1 t).1, (s.2.1 t).2.1, (s.2.1 t).2.2.1, k) else s.2.1 j := fun j => by
    show uF s.2.1 (s.1 - 1) ((tpf s).1, (tpf s).2.1, (tpf s).2.2.1, k) j = _
    rw [tpt ht, show s.1 - 1 = t by omega]
    rfl
  refine ⟨⟨w1.fr f1.1 (fun g a hg => np g a (fun e => by rw [e] at hg; exact absurd hg (by decide)) (fun e => by rw [e] at hg; exact absurd hg (by decide))), by rw [f1.1.I (np _ _ (by decide) (by decide))]; exact w2, w3, w4, by rw [f1.1.I (np _ _ (by decide) (by decide))]; exact w5, by rw [f1.1.I (np _ _ (by decide) (by decide))]; exact w6⟩, fun j hj => ?_, fun j hj i => ?_, w9.keep f1.1 (fun g a hg _ _ => np g a (fun e => by rw [e] at hg; exact absurd hg (by decide)) (fun e => by rw [e] at hg; exact absurd hg (by decide))) fun e _ => hs _ (Or.inl (by simp))⟩
  · have hj : j < s.1 := hj
    rw [fr]
    by_cases c : j = t
    · subst c
      rw [if_pos rfl]
      obtain ⟨⟨s1, s2, s3, s4, s5⟩, s6, s7, s8, s9⟩ := w7 j hj
      refine ⟨⟨by rw [f1.1.R (np _ _ (by decide) (by decide))]; exact s1, by rw [f1.1.R (np _ _ (by decide) (by decide))]; exact s2, by rw [f1.1.I (np _ _ (by decide) (by decide))]; exact s3, hh, h64⟩, hst, hb, ?_, fun i hi => by rw [hs _ (Or.inl (by simp))]; exact s9 i hi⟩
      exact s8.keep (fun i _ => hs _ (Or.inl (by simp))) (fun i _ => f1.1.ER (np _ _ (by decide) (by decide)) i) (fun i x _ => f1.1.R (nv _ _ (by decide) (by decide))) fun i r _ _ a ha => by rw [rk]; exact ha
    · rw [if_neg c]
      exact (w7 j hj).keep f1.1 (FmR.ne c (by omega) (by omega)) (fun cc i _ => hs _ (Or.inr (Or.inr c))) (fun cc i x _ _ => f1.1.R (nv _ _ (by decide) (by decide))) fun r _ a ha => by rw [rk]; exact ha
  · have hj : s.1 ≤ j := hj
    rw [hs _ (Or.inr (Or.inr (by show j ≠ t; omega))), hs _ (Or.inl (by simp))]
    exact w8 j hj i
theorem WkR.F (w : WkR h o wi W MA s) (ht : t + 1 = s.1) : SFr h (Fa W t) ∧ FmR h o wi t (Fa W t) MA (s.2.1 t) ∧ stk s = (s.2.1 t).2.2.2 ∧ lcs s = (s.2.1 t).2.2.1 := by
  refine ⟨(w.1.1.2.2.1 t (by have := w.1.2.2.2.1; omega)).2, w.2.1 t (by omega), ?_, ?_⟩
  · unfold stk; rw [tpt ht]
  · unfold lcs; rw [tpt ht]
theorem cpop_ok {G : Gt} {d : Nat} {K : Outcome → AH → Prop} {i : It} {k : List It} (c : CTX h A W q BA X tt snd lim SP) (w : WkR h o wi W MA s) (hf : h.R 28 A = some (Fa W t)) (ht : t + 1 = s.1) (hs : stk s = i :: k) (kk : ∀ h' x, Fq (PH (Fa W t)) h h' → o (1, wi, t, k.length) = some x → ItL h o wi i x → WkR h' (uO o (1, wi, t, k.length) none) wi W MA (sK s k) → K (.returned (some (.ref x.1))) h') : MW G d e_X1_pop [.ref A] h K := by
  refine st_X1_pop fun XX oo hG hD _ => ?_
  subst hG; subst hD
  obtain ⟨⟨f1, f2, f3, f4, f5⟩, ⟨⟨m1, m2, m3, m4, m5⟩, m6, m7, m8, m9⟩, es, el⟩ := w.F ht
  have t0 := c.1.1
  rw [← es, hs] at m4 m5 m6 m7
  have m5 : k.length + 1 ≤ 64 := m5
  obtain ⟨⟨x, x1, x2, x3⟩, s2⟩ := m6
  have m4 : h.I 2565 (Fa W t) = nI (k.length + 1) := m4
  have e1 : (h.sI 2565 (Fa W t) (nI (k.length + 1) - nI 1)).I 2565 (Fa W t) = nI k.length := by
    rw [I_same, nI_sub (by omega), Nat.add_sub_cancel]
  have ix : IX (nI k.length) 64 k.length := IX.mk (by omega) (by omega)
  refine k_X1_pop_0 oo ?_
  have e2 : ∀ n, (h.sI 2565 (Fa W t) (nI (k.length + 1) - nI 1)).ER 747 (Fa W t + 2) n = h.ER 747 (Fa W t + 2) n := fun n => by simp [n_sI, z_sI, tag_sI, I_sI, J_sI, R_sI, EI_sI, EJ_sI, ER_sI, n_sJ, z_sJ, tag_sJ, I_sJ, J_sJ, R_sJ, EI_sJ, EJ_sJ, ER_sJ, n_sR, z_sR, tag_sR, I_sR, J_sR, R_sR, EI_sR, EJ_sR, ER_sR, n_sEI, z_sEI, tag_sEI, I_sEI, J_sEI, R_sEI, EI_sEI, EJ_sEI, ER_sEI, n_sEJ, z_sEJ, tag_sEJ, I_sEJ, J_sEJ, R_sEJ, EI_sEJ, EJ_sEJ, ER_sEJ, n_sER, z_sER, tag_sER, I_sER, J_sER, R_sER, EI_sER, EJ_sER, ER_sER, n_nw, z_nw, tag_nw, I_nw, J_nw, R_nw, EI_nw, EJ_nw, ER_nw]
  have g1 : Fq (PH (Fa W t)) h (h.sI 2565 (Fa W t) (nI (k.length + 1) - nI 1)) := (Fq.refl h).sI ⟨Or.inl rfl, by omega, by omega⟩
  generalize h.sI 2565 (Fa W t) (nI (k.length + 1) - nI 1) = h1 at *
  have nv : ∀ g a, 3712 ≤ g → g ≤ 3718 → ¬ PH (Fa W t) g a := fun g a h1 h2 => PH.v g a (Or.inl ⟨h1, h2⟩)
  have rk : ∀ r, rad (uO o (1, wi, t, k.length) none) wi r = rad o wi r := rad_k fun c i j hc => uO_n (by rcases hc with z | z <;> (rw [z]; intro e; cases e))
  refine kk h1 x g1 x1 x3 (w.sk ht g1 (fun p hp => uO_n fun e => ?_) (s2.keep (fun n hn => uO_n fun e => ?_) (fun n hn => ?_) (fun n y _ _ => g1.1.R (nv _ _ (by decide) (by decide))) fun r _ a ha => by rw [rk]; exact ha) e1 (by omega) fun n hn => ?_)
  · subst e
    rcases hp with z | z | z
    · exact z rfl
    · exact z rfl
    · exact z rfl
  · have := congrArg (fun p : Sl => p.2.2.2) e
    have : n = k.length := this
    omega
  · exact e2 n
  · by_cases e : n = k.length
    · rw [e, uO_s]
    · rw [uO_n (fun z => e (congrArg (fun p : Sl => p.2.2.2) z))]
      exact m7 n (by show k.length + 1 ≤ n; omega)
theorem ctop_ok {G : Gt} {d : Nat} {K : Outcome → AH → Prop} {i : It} {b : Nat} (c : CTX h A W q BA X tt snd lim SP) (w : WkR h o wi W MA s) (hf : h.R 28 A = some (Fa W t)) (ht : t + 1 = s.1) (hs : (stk s)[b]? = some i) (kk : ∀ x, o (1, wi, t, (stk s).length - 1 - b) = some x → ItL h o wi i x → K (.returned (some (.ref x.1))) h) : MW G d e_X1_top [.ref A, .int (nI b)] h K := by
  refine st_X1_top fun XX oo hG hD _ => ?_
  subst hG; subst hD
  obtain ⟨⟨f1, f2, f3, f4, f5⟩, ⟨⟨m1, m2, m3, m4, m5⟩, m6, m7, m8, m9⟩, es, el⟩ := w.F ht
  have t0 := c.1.1
  rw [← es] at m4 m5 m6
  obtain ⟨x, x1, x2, x3⟩ := m6.nth hs
  have hb := get_lt hs
  have ix : IX (nI (stk s).length - nI 1 - nI b) 64 ((stk s).length - 1 - b) := by
    rw [nI_sub (by omega), nI_sub (by omega)]; exact IX.mk (by omega) (by omega)
  refine k_X1_top_0 oo ?_
  exact kk x x1 x3
theorem cpush_ok {G : Gt} {d : Nat} {K : Outcome → AH → Prop} {i : It} {x : LV} (c : CTX h A W q BA X tt snd lim SP) (w : WkR h o wi W MA s) (hf : h.R 28 A = some (Fa W t)) (ht : t + 1 = s.1) (hn : (stk s).length < 64) (hx : h.tag x.1 = some (29, 0)) (hi : ItL h o wi i x) (kk : ∀ h', Fq (PH (Fa W t)) h h' → WkR h' (uO o (1, wi, t, (stk s).length) (some x)) wi W MA (mpu s i) → K (.returned none) h') : MW G d e_X1_push [.ref A, .ref x.1] h K := by
  refine st_X1_push fun XX oo hG hD _ => ?_
  subst hG; subst hD
  obtain ⟨⟨f1, f2, f3, f4, f5⟩, ⟨⟨m1, m2, m3, m4, m5⟩, m6, m7, m8, m9⟩, es, el⟩ := w.F ht
  have t0 := c.1.1
  rw [← es] at m4 m5 m6 m7
  have ix : IX (nI (stk s).length) 64 (stk s).length := IX.mk (by omega) (by omega)
  have ft : fitE h 11 (some x.1) := hx
  refine k_X1_push_0 oo ?_
  rw [nI_add]
  have g1 : Fq (PH (Fa W t)) h ((h.sER 747 (Fa W t + 2) (stk s).length (some x.1)).sI 2565 (Fa W t) (nI ((stk s).length + 1))) := ((Fq.refl h).sER (t := 747) (a := Fa W t + 2) ⟨Or.inr rfl, by omega, by omega⟩).sI (f := 2565) (a := Fa W t) ⟨Or.inl rfl, by omega, by omega⟩
  have e1 : ((h.sER 747 (Fa W t + 2) (stk s).length (some x.1)).sI 2565 (Fa W t) (nI ((stk s).length + 1))).I 2565 (Fa W t) = nI ((stk s).length + 1) := by simp [n_sI, z_sI, tag_sI, I_sI, J_sI, R_sI, EI_sI, EJ_sI, ER_sI, n_sJ, z_sJ, tag_sJ, I_sJ, J_sJ, R_sJ, EI_sJ, EJ_sJ, ER_sJ, n_sR, z_sR, tag_sR, I_sR, J_sR, R_sR, EI_sR, EJ_sR, ER_sR, n_sEI, z_sEI, tag_sEI, I_sEI, J_sEI, R_sEI, EI_sEI, EJ_sEI, ER_sEI, n_sEJ, z_sEJ, tag_sEJ, I_sEJ, J_sEJ, R_sEJ, EI_sEJ, EJ_sEJ, ER_sEJ, n_sER, z_sER, tag_sER, I_sER, J_sER, R_sER, EI_sER, EJ_sER, ER_sER, n_nw, z_nw, tag_nw, I_nw, J_nw, R_nw, EI_nw, EJ_nw, ER_nw]
  have e2 : ∀ n, ((h.sER 747 (Fa W t + 2) (stk s).length (some x.1)).sI 2565 (Fa W t) (nI ((stk s).length + 1))).ER 747 (Fa W t + 2) n = if n = (stk s).length then some x.1 else h.ER 747 (Fa W t + 2) n := fun n => by
    by_cases e : n = (stk s).length
    · rw [if_pos e, e]; simp [n_sI, z_sI, tag_sI, I_sI, J_sI, R_sI, EI_sI, EJ_sI, ER_sI, n_sJ, z_sJ, tag_sJ, I_sJ, J_sJ, R_sJ, EI_sJ, EJ_sJ, ER_sJ, n_sR, z_sR, tag_sR, I_sR, J_sR, R_sR, EI_sR, EJ_sR, ER_sR, n_sEI, z_sEI, tag_sEI, I_sEI, J_sEI, R_sEI, EI_sEI, EJ_sEI, ER_sEI, n_sEJ, z_sEJ, tag_sEJ, I_sEJ, J_sEJ, R_sEJ, EI_sEJ, EJ_sEJ, ER_sEJ, n_sER, z_sER, tag_sER, I_sER, J_sER, R_sER, EI_sER, EJ_sER, ER_sER, n_nw, z_nw, tag_nw, I_nw, J_nw, R_nw, EI_nw, EJ_nw, ER_nw]
    · rw [if_neg e]; simp [n_sI, z_sI, tag_sI, I_sI, J_sI, R_sI, EI_sI, EJ_sI, ER_sI, n_sJ, z_sJ, tag_sJ, I_sJ, J_sJ, R_sJ, EI_sJ, EJ_sJ, ER_sJ, n_sR, z_sR, tag_sR, I_sR, J_sR, R_sR, EI_sR, EJ_sR, ER_sR, n_sEI, z_sEI, tag_sEI, I_sEI, J_sEI, R_sEI, EI_sEI, EJ_sEI, ER_sEI, n_sEJ, z_sEJ, tag_sEJ, I_sEJ, J_sEJ, R_sEJ, EI_sEJ, EJ_sEJ, ER_sEJ, n_sER, z_sER, tag_sER, I_sER, J_sER, R_sER, EI_sER, EJ_sER, ER_sER, n_nw, z_nw, tag_nw, I_nw, J_nw, R_nw, EI_nw, EJ_nw, ER_nw, e]
  generalize (h.sER 747 (Fa W t + 2) (stk s).length (some x.1)).sI 2565 (Fa W t) (nI ((stk s).length + 1)) = h1 at *
  have nv : ∀ g a, 3712 ≤ g → g ≤ 3718 → ¬ PH (Fa W t) g a := fun g a h1 h2 => PH.v g a (Or.inl ⟨h1, h2⟩)
  have rk : ∀ r, rad (uO o (1, wi, t, (stk s).length) (some x)) wi r = rad o wi r := rad_k fun c i j hc => uO_n (by rcases hc with z | z <;> (rw [z]; intro e; cases e))
  refine kk h1 g1 (w.sk ht g1 (fun p hp => uO_n fun e => ?_) ⟨⟨x, uO_s, ?_, hi.keep (g1.1.R (nv _ _ (by decide) (by decide))) fun r _ a ha => by rw [rk]; exact ha⟩, m6.keep (fun n hn => uO_n fun e => ?_) (fun n hn => ?_) (fun n y _ _ => g1.1.R (nv _ _ (by decide) (by decide))) fun r _ a ha => by rw [rk]; exact ha⟩ e1 hn fun n hn => ?_)
  · subst e
    rcases hp with z | z | z
    · exact z rfl
    · exact z rfl
    · exact z rfl
  · rw [e2, if_pos rfl]
  · have := congrArg (fun p : Sl => p.2.2.2) e
    have : n = (stk s).length := this
    omega
  · rw [e2, if_neg (by omega)]
  · have hn : (stk s).length + 1 ≤ n := hn
    rw [uO_n (fun z => by have := congrArg (fun p : Sl => p.2.2.2) z; have : n = (stk s).length := this; omega)]
    exact m7 n (by omega)
end
