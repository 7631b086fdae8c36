/-! frames end: locals go -/
def lcR (lc : Nat → Option It) : Nat → Option It := fun k => match lc k with
  | some (.inr _) => none
  | x => x
def lcD (lc : Nat → Option It) (i : Nat) : Nat → Option It := fun k => if k < i then none else lcR lc k
def Edr (s : Ms) (i : Nat) : Ms := sLK s (lcD (lcs s) i) (stk s)
theorem lcD_r {lc : Nat → Option It} {i k : Nat} {r : Rx} : lcD lc i k ≠ some (.inr r) := fun e => by
  unfold lcD lcR at e
  split at e
  · cases e
  · split at e
    · cases e
    · rename_i hq
      exact hq r e
section
variable {G : Gt} {B d : Nat} {h : AH} {l : List Nat} {o : Lc} {wi W A q BA X tt lim SP t : Nat} {snd : Int64} {MA : Ma} {s : Ms} {K : Outcome → AH → Prop}
theorem Edr_t (ht : t + 1 = s.1) {i : Nat} : (Edr s i).2.1 t = ((tpf s).1, (tpf s).2.1, lcD (lcs s) i, stk s) := by
  show uF s.2.1 (s.1 - 1) _ t = _
  unfold uF
  rw [if_pos (by omega)]
theorem Edr_j (ht : t + 1 = s.1) {i j : Nat} (hj : j ≠ t) : (Edr s i).2.1 j = s.2.1 j := by
  show uF s.2.1 (s.1 - 1) _ j = _
  exact uF_e (by omega)
theorem Edr_s {i : Nat} : Edr s (i + 1) = sF (Edr s i) ((tpf s).1, (tpf s).2.1, lcD (lcs s) (i + 1), stk s) := by
  unfold Edr sLK
  rw [sF_sF]
theorem WkR.edr (w : WkR h o wi W MA s) : WkR h o wi W MA (Edr s 0) := by
  refine w.fgt (j := s.1 - 1) (p := (tpf s).2.1) (lc := lcD (lcs s) 0) fun k => ?_
  unfold lcD lcR
  rw [if_neg (by omega)]
  cases hq : lcs s k with
  | none => left; exact hq.symm
  | some it =>
    cases it with
    | inl v => left; exact hq.symm
    | inr r => right; exact ⟨rfl, r, hq⟩
theorem end_16 {XX : Xt} (oo : OK e_X1_end XX) {nn : Int32} {l3 l4 l5 : Value} (ht : t + 1 = s.1) (hnr : (∀ r ∈ (stk s).flatMap rfI, r.1.1 ≠ s.1) ∧ ∀ j, j < t → ∀ r ∈ rfF (s.2.1 j), r.1.1 ≠ s.1) (hL : ∀ k v, lcs s k = some (.inl v) → VW v) (hd : 60 ≤ XX.d) (kk : ∀ h' l' o', OUT wi W h h' o o' → OPR XX.G B h' A W q BA X tt snd lim SP wi MA l' o' (Edr s 40) → (∀ k, o' (2, wi, t, k) = none) → V XX K 66 [.ref A, .int nn, .int (nI 40), l3, l4, l5] [] h') : ∀ (r i : Nat), r + i = 40 → ∀ h1 l1 o1, OUT wi W h h1 o o1 → OPR XX.G B h1 A W q BA X tt snd lim SP wi MA l1 o1 (Edr s i) → (∀ k, k < i → o1 (2, wi, t, k) = none) → V XX K 16 [.ref A, .int nn, .int (nI i), l3, l4, l5] [] h1 := by
  intro r
  induction r with
  | zero =>
    intro i hi h1 l1 o1 u1 H1 n1
    have e : i = 40 := by omega
    subst e
    refine k_X1_end_16 oo (fun _ => kk h1 l1 o1 u1 H1 fun k => ?_) (fun c => absurd (Int32.le_refl _) c)
    by_cases c : k < 40
    · exact n1 k c
    · obtain ⟨-, -, -, -, m9⟩ := H1.2.2.1.2.1 t (by show t < s.1; omega)
      exact m9 k (by omega)
  | succ r ih =>
    intro i hi h1 l1 o1 u1 H1 n1
    obtain ⟨c, v, w, hf, hg, hw⟩ := id H1
    have hf : h1.R 28 A = some (Fa W t) := by rw [hf]; show some (Fa W (s.1 - 1)) = _; rw [show s.1 - 1 = t by omega]
    have t32 : t < 32 := by have : s.1 ≤ 32 := w.1.2.2.2.1; omega
    obtain ⟨-, f1, f2, f3, f4, f5⟩ := w.1.1.2.2.1 t t32
    obtain ⟨⟨m1, m2, m3, m4, m5⟩, m6, m7, m8, m9⟩ := w.2.1 t (by show t < s.1; omega)
    rw [Edr_t ht] at m1 m2 m4 m5 m6 m7 m8
    have ix : IX (nI i) 40 i := IX.mk (by omega) (by omega)
    have t0 := c.1.1
    have rq := c.1.2.1
    -- behind the drop
    have go : ∀ h2 l2 o2, Fr VQ h1 h2 → (∀ p, p ≠ (2, wi, t, i) → o2 p = o1 p) → o2 (2, wi, t, i) = none → VH XX.G B h2 q l2 o2 → (∀ p x, p ≠ (2, wi, t, i) → o1 p = some x → h2.R 3718 x.1 = h1.R 3718 x.1) → V XX K 50 [.ref A, .int nn, .int (nI i), l3, l4, l5] [] h2 := by
      intro h2 l2 o2 g1 g2 g3 g4 g5
      have np := VQ.no (l := [28, 2563, 27, 2306]) rfl
      have hf2 : h2.R 28 A = some (Fa W t) := by rw [g1.R (np _ _ rfl)]; exact hf
      have rl2 : h2.R 2563 (Fa W t) = some (Fa W t + 1) := by rw [g1.R (np _ _ rfl)]; exact f2
      have tA2 := g1.tag t0
      have tF2 := g1.tag f1
      have tL2 := g1.tag f4
      refine k_X1_end_50 oo ?_
      rw [nI_add]
      have fq : Fq (PTF (Fa W t)) h2 (h2.sER 731 (Fa W t + 1) i none) := Fq.sER (Fq.refl h2) (Or.inl ⟨rfl, by omega, by omega⟩)
      have fqv : Fq (fun g a => g = 10000 + 731 ∧ a = Fa W t + 1) h2 (h2.sER 731 (Fa W t + 1) i none) := Fq.sER (Fq.refl h2) ⟨rfl, rfl⟩
      obtain ⟨v3, tg3⟩ := g4.oth fqv (fun g a z z2 => VQ.no (l := fmF) rfl g a (by rw [z2.1]; rfl) z)
      have g13 := (g1.mono VQ.pt).trans fq.1
      have eL : ∀ j, (h2.sER 731 (Fa W t + 1) i none).ER 731 (Fa W t + 1) j = if j = i then none else h2.ER 731 (Fa W t + 1) j := fun j => by
        by_cases e : j = i
        · subst e; simp [n_sI, z_sI, tag_sI, I_sI, J_sI, R_sI, EI_sI, EJ_sI, ER_sI, n_sJ, z_sJ, tag_sJ, I_sJ, J_sJ, R_sJ, EI_sJ, EJ_sJ, ER_sJ, n_sR, z_sR, tag_sR, I_sR, J_sR, R_sR, EI_sR, EJ_sR, ER_sR, n_sEI, z_sEI, tag_sEI, I_sEI, J_sEI, R_sEI, EI_sEI, EJ_sEI, ER_sEI, n_sEJ, z_sEJ, tag_sEJ, I_sEJ, J_sEJ, R_sEJ, EI_sEJ, EJ_sEJ, ER_sEJ, n_sER, z_sER, tag_sER, I_sER, J_sER, R_sER, EI_sER, EJ_sER, ER_sER, n_nw, z_nw, tag_nw, I_nw, J_nw, R_nw, EI_nw, EJ_nw, ER_nw]
        · simp [n_sI, z_sI, tag_sI, I_sI, J_sI, R_sI, EI_sI, EJ_sI, ER_sI, n_sJ, z_sJ, tag_sJ, I_sJ, J_sJ, R_sJ, EI_sJ, EJ_sJ, ER_sJ, n_sR, z_sR, tag_sR, I_sR, J_sR, R_sR, EI_sR, EJ_sR, ER_sR, n_sEI, z_sEI, tag_sEI, I_sEI, J_sEI, R_sEI, EI_sEI, EJ_sEI, ER_sEI, n_sEJ, z_sEJ, tag_sEJ, I_sEJ, J_sEJ, R_sEJ, EI_sEJ, EJ_sEJ, ER_sEJ, n_sER, z_sER, tag_sER, I_sER, J_sER, R_sER, EI_sER, EJ_sER, ER_sER, n_nw, z_nw, tag_nw, I_nw, J_nw, R_nw, EI_nw, EJ_nw, ER_nw, e]
      generalize hh3 : h2.sER 731 (Fa W t + 1) i none = h3 at fq fqv v3 tg3 g13 eL
      have fm := VQ.no (l := fmF) rfl
      have nl : ∀ g a, g ≠ 10000 + 731 → ¬ (g = 10000 + 731 ∧ a = Fa W t + 1) := fun g a hg z => hg z.1
      have f13 : Fr (fun g a => VQ g a ∨ (g = 10000 + 731 ∧ a = Fa W t + 1)) h1 h3 := (g1.mono fun g a z => Or.inl z).trans (fqv.1.mono fun g a z => Or.inr z)
      have nf : ∀ g a, fmF.contains g = true → g ≠ 10000 + 731 → ¬ (VQ g a ∨ (g = 10000 + 731 ∧ a = Fa W t + 1)) := fun g a hg hn z => z.elim (fm g a hg) (fun z => hn z.1)
      have tg13 : ∀ p x, p ≠ (2, wi, t, i) → o1 p = some x → h3.R 3718 x.1 = h1.R 3718 x.1 := fun p x hp hx => by
        rw [tg3 p x (by simp) (by rw [g2 p hp]; exact hx)]; exact g5 p x hp hx
      have rk : ∀ r : Rx, r.1.1 ≠ s.1 → rad o2 wi r = rad o1 wi r := fun r hr => by
        have : rsl' wi r.1 ≠ (2, wi, t, i) := rsl_2 (fun e => by rw [e] at hr; exact hr (by show t + 1 = s.1; exact ht))
        unfold rad
        rw [g2 _ this]
      have n12 : ∀ n, ((1, wi, t, n) : Sl) ≠ (2, wi, t, i) := fun n e => by
        have : (1 : Nat) = 2 := congrArg Prod.fst e
        omega
      have n22 : ∀ n, n ≠ i → ((2, wi, t, n) : Sl) ≠ (2, wi, t, i) := fun n hn e => hn (congrArg (fun p : Sl => p.2.2.2) e)
      have ft : FmR h3 o2 wi t (Fa W t) MA ((tpf s).1, (tpf s).2.1, lcD (lcs s) (i + 1), stk s) := by
        refine ⟨⟨by rw [f13.R (nf _ _ rfl (by decide))]; exact m1, by rw [f13.R (nf _ _ rfl (by decide))]; exact m2, by rw [f13.I (nf _ _ rfl (by decide))]; exact m3, by rw [f13.I (nf _ _ rfl (by decide))]; exact m4, m5⟩, m6.keep (fun n _ => g2 _ (n12 n)) (fun n _ => f13.ER (nf _ _ rfl (by decide)) n) (fun n x _ hx => tg13 _ x (n12 n) hx) (fun r hr a ha => by rw [rk r (hnr.1 r hr)]; exact ha), fun n hn => by rw [g2 _ (n12 n)]; exact m7 n hn, fun n hn => ?_, fun n hn => ?_⟩
        · by_cases e : n = i
          · subst e
            have : lcD (lcs s) (n + 1) n = none := by unfold lcD; rw [if_pos (by omega)]
            dsimp only
            rw [this]
            exact Or.inl ⟨g3, by rw [eL, if_pos rfl]⟩
          · have e2 : lcD (lcs s) (i + 1) n = lcD (lcs s) i n := by
              unfold lcD
              by_cases c : n < i
              · rw [if_pos c, if_pos (by omega)]
              · rw [if_neg c, if_neg (by omega)]
            have m8 := m8 n hn
            dsimp only at m8 ⊢
            rw [e2, g2 _ (n22 n e), eL, if_neg e, g1.ER (fm _ _ rfl)]
            cases hq : lcD (lcs s) i n with
            | none => rw [hq] at m8; exact m8
            | some it =>
              rw [hq] at m8
              cases it with
              | inr r => exact absurd hq lcD_r
              | inl vv => exact m8
        · by_cases e : n = i
          · rw [e]; exact g3
          · rw [g2 _ (n22 n e)]; exact m9 n hn
      have w3 := w.top (f' := ((tpf s).1, (tpf s).2.1, lcD (lcs s) (i + 1), stk s)) (by show t + 1 = s.1; exact ht) g13 (fun p hp => g2 p (fun e => by
        subst e
        rcases hp with z | z
        · have : (2 : Nat) = 3 := z
          omega
        · exact z.2.2 rfl)) (fun p x hp hq hj hx => tg13 p x (fun e => by rw [e] at hj; exact hj rfl) hx) (fun j hj r hr a ha => by
        rw [Edr_j ht (by omega)] at hr
        rw [rk r (hnr.2 j hj r hr)]; exact ha) ft
      rw [← Edr_s] at w3
      have fi := g13.mono (PTF.ip (W := W) t32)
      refine ih (i + 1) (by omega) h3 l2 o2 (u1.trans ⟨fi, fun p hp => ⟨g2 p (OUT.ne hp (by omega)), fun x hx => tg13 p x (OUT.ne hp (by omega)) hx⟩⟩) ⟨c.ip fi, v3, w3, ?_, hg, ?_⟩ (fun k hk => ?_)
      · rw [f13.R (fun z => z.elim (np _ _ rfl) (fun z => absurd z.1 (by decide)))]
        show h1.R 28 A = some (Fa W (s.1 - 1))
        rw [show s.1 - 1 = t by omega]; exact hf
      · exact hw.fr f13 (fun a z => z.elim (np _ _ rfl) (fun z => absurd z.1 (by decide))) (fun a z => z.elim (np _ _ rfl) (fun z => absurd z.1 (by decide)))
      · by_cases e : k = i
        · rw [e]; exact g3
        · rw [g2 _ (n22 k e)]; exact n1 k (by omega)
    refine k_X1_end_16 oo (fun c => absurd ((nI_leI (by omega) (by omega)).mp c) (by omega)) (fun _ => ?_)
    have cs : (o1 (2, wi, t, i) = none ∧ h1.ER 731 (Fa W t + 1) i = none) ∨ ∃ x, o1 (2, wi, t, i) = some x ∧ h1.ER 731 (Fa W t + 1) i = some x.1 ∧ fdp x.2.2.2 ≤ 40 := by
      have m8 := m8 i (by omega)
      dsimp only at m8
      cases hq : lcD (lcs s) i i with
      | none =>
        rw [hq] at m8
        rcases m8 with z | ⟨x, x1, x2, x3, x4⟩
        · exact Or.inl z
        · exact Or.inr ⟨x, x1, x2, by rw [x4]; simp [fdp]⟩
      | some it =>
        rw [hq] at m8
        obtain ⟨x, x1, x2, x3⟩ := m8
        cases it with
        | inr r => exact absurd hq lcD_r
        | inl vv =>
          refine Or.inr ⟨x, x1, x2, ?_⟩
          have e1 : lcs s i = some (.inl vv) := by
            unfold lcD lcR at hq
            rw [if_neg (by omega)] at hq
            split at hq
            · cases hq
            · exact hq
          have := (hL i vv e1).1.2.1
          have e2 : lvE x = vv := x3
          rw [← e2] at this
          have e3 : fdp (lvE x).2.2 = fdp x.2.2.2 := fer_dp _
          omega
    rcases cs with ⟨z1, z2⟩ | ⟨x, z1, z2, z3⟩
    · refine k_X1_end_22 (r11 := z2) oo (fun _ => ?_) (fun a c => by cases c)
      exact go h1 l1 o1 (Fr.refl h1) (fun _ _ => rfl) z1 v (fun _ _ _ _ => rfl)
    · refine k_X1_end_22 (r11 := z2) oo (fun c => by cases c) (fun a _ => ?_)
      refine k_X1_end_34 oo ?_
      refine vdrop_ok v z1 (by omega) fun h2 l2 g1 n2 v2 tg2 a2 => ?_
      exact go h2 l2 _ g1 (fun p hp => uO_n hp) uO_s v2 (fun p x hp hx => tg2 p x (by simpa using hp) hx)
end
