/-! a call ends, the last frame -/
def s00 (s : Ms) : Ms := (0, s.2.1, s.2.2)
section
variable {G : Gt} {B d : Nat} {h : AH} {l : List Nat} {o : Lc} {wi W A q BA X tt lim SP t : Nat} {snd : Int64} {MA : Ma} {s : Ms} {K : Outcome → AH → Prop} {fs : Nat} {st : Lw} {Lf : Nat → Lw} {RN : Nat → Int32}
def fwF : List Nat := swF ++ enF ++ [2439, 2441, 28, 27, 2306] ++ cxF
theorem end_66b {XX : Xt} (oo : OK e_X1_end XX) {RT RH RL : Nat} {vs : List VL} {env : Pc → Cn} {l3 l4 l5 : Value} (H : OPR XX.G B h A W q BA X tt snd lim SP wi MA l o (Edr s 40)) (hs1 : s.1 = 1) (hl0 : ∀ k, o (2, wi, 0, k) = none) (hst : stk s = (vs.map Sum.inl).reverse) (h8 : vs.length ≤ 8) (hT : ∀ v ∈ vs, VW v) (tx : TXS h X RT RH RL) (wd : WRD h o A W BA tt MA fs st Lf RN) (hen : ∀ x ∈ ens s, x.1.1 = 3 → x.2.2.1.1 = x.2.2.1.2.2.2.isSome) (hvw : ∀ x ∈ ens s, ∀ v, x.2.2.1.2.2.2 = some v → VW v) (henv : ∀ p, gss Lf fs tt p = none → env p = vew st Lf fs tt p) (hn2 : (ens s).length < 26) (hak : s.2.2.2.1 ≤ 24) (hv : ∀ p v, (vew st Lf fs tt p).2.2.2 = some v → vsz v ≤ 64 ∧ fdp v.2.2 ≤ 40) (hb : ∀ x ∈ ens s, x.1 = (4, 0, 0) → -100000 ≤ x.2.2.1.2.1.toInt ∧ x.2.2.1.2.1.toInt ≤ 100000) (hb2 : gss Lf fs tt (4, 0, 0) = none → -100000 ≤ (vew st Lf fs tt (4, 0, 0)).2.1.toInt ∧ (vew st Lf fs tt (4, 0, 0)).2.1.toInt ≤ 100000) (hav : 64 ≤ av XX.G h l) (hd : 64 ≤ XX.d) (wt : ∀ k p, PB p → gss Lf fs tt p = some k → ∀ h' l' o' s' MA', OUX wi W X RT RH RL h h' o o' → OPQ 0 (some (Fa W 0)) XX.G B h' A W q BA X tt snd lim SP wi MA' l' o' s' → s'.1 = 0 ∧ ens s' = ens s → h'.I 24 A = nI 9 → h'.J 25 A = lN k → K (.threw SP) h') (kk : REN K XX.G B h A W q BA X tt snd lim SP wi MA o (ens s).length (sco Lf RN fs tt) RT RH RL vs (msq env (s00 s))) : V XX K 66 [.ref A, .int (nI vs.length), .int (nI 40), l3, l4, l5] [] h := by
  obtain ⟨c, v, w, hf, hg, hw⟩ := id H
  have hS : (Edr s 40).1 = s.1 := rfl
  have ht0 : 0 + 1 = s.1 := by omega
  have hf : h.R 28 A = some (Fa W 0) := by rw [hf, hS, hs1]
  obtain ⟨⟨c1, c2, c3, c4, c5⟩, ⟨c6, c7, c8, c9⟩, c10, -, -, -⟩ := id c
  have tW := w.1.1.1.1
  have dW : h.I 2438 W = nI 1 := by rw [w.1.2.1, hS, hs1]
  have ed : nI 1 - nI 1 = nI 0 := by decide
  obtain ⟨-, sf⟩ := w.1.1.2.2.1 0 (by omega)
  obtain ⟨⟨-, -, -, -, m5⟩, m6, m7, -, -⟩ := w.2.1 0 (by rw [hS]; omega)
  rw [Edr_t (t := 0) ht0] at m5 m6 m7
  have m6 : StR h o wi 0 (Fa W 0) (vs.map Sum.inl).reverse := by rw [← hst]; exact m6
  have hlen : (stk s).length = vs.length := by rw [hst]; simp
  refine k_X1_end_66 (x8 := nI 1) (x13 := nI 0) (r7 := dW) (r12 := by rw [ed]; simp [n_sI, z_sI, tag_sI, I_sI, J_sI, R_sI, EI_sI, EJ_sI, ER_sI, n_sJ, z_sJ, tag_sJ, I_sJ, J_sJ, R_sJ, EI_sJ, EJ_sJ, ER_sJ, n_sR, z_sR, tag_sR, I_sR, J_sR, R_sR, EI_sR, EJ_sR, ER_sR, n_sEI, z_sEI, tag_sEI, I_sEI, J_sEI, R_sEI, EI_sEI, EJ_sEI, ER_sEI, n_sEJ, z_sEJ, tag_sEJ, I_sEJ, J_sEJ, R_sEJ, EI_sEJ, EJ_sEJ, ER_sEJ, n_sER, z_sER, tag_sER, I_sER, J_sER, R_sER, EI_sER, EJ_sER, ER_sER, n_nw, z_nw, tag_nw, I_nw, J_nw, R_nw, EI_nw, EJ_nw, ER_nw]) oo (fun _ => ?_) (fun c => absurd (by decide) c)
  rw [ed]
  have ix : IX (nI tt) 32 tt := IX.mk (by omega) (by omega)
  have fa : Fq (fun g a => g = 2438 ∧ a = W) h (h.sI 2438 W (nI 0)) := Fq.sI (Fq.refl h) ⟨rfl, rfl⟩
  have na : ∀ g a, g ≠ 2438 → ¬ (g = 2438 ∧ a = W) := fun g a h1 z => h1 z.1
  have da : (h.sI 2438 W (nI 0)).I 2438 W = nI 0 := by simp [n_sI, z_sI, tag_sI, I_sI, J_sI, R_sI, EI_sI, EJ_sI, ER_sI, n_sJ, z_sJ, tag_sJ, I_sJ, J_sJ, R_sJ, EI_sJ, EJ_sJ, ER_sJ, n_sR, z_sR, tag_sR, I_sR, J_sR, R_sR, EI_sR, EJ_sR, ER_sR, n_sEI, z_sEI, tag_sEI, I_sEI, J_sEI, R_sEI, EI_sEI, EJ_sEI, ER_sEI, n_sEJ, z_sEJ, tag_sEJ, I_sEJ, J_sEJ, R_sEJ, EI_sEJ, EJ_sEJ, ER_sEJ, n_sER, z_sER, tag_sER, I_sER, J_sER, R_sER, EI_sER, EJ_sER, ER_sER, n_nw, z_nw, tag_nw, I_nw, J_nw, R_nw, EI_nw, EJ_nw, ER_nw]
  generalize hha : h.sI 2438 W (nI 0) = ha at fa da
  have a1 := fa.1.tag c1
  have a2 : ha.R 3 A = some BA := by rw [fa.1.R (na _ _ (by decide))]; exact c4
  have a3 : ha.R 26 A = some W := by rw [fa.1.R (na _ _ (by decide))]; exact c3
  have a4 := fa.1.tag tW
  have a5 : ha.I 2433 W = nI tt := by rw [fa.1.I (na _ _ (by decide))]; exact c7
  have a6 := fa.1.tag c6
  have a7 : ha.ER 71 BA tt = some X := by rw [fa.1.ER (na _ _ (by decide))]; exact c9
  have a8 := fa.1.tag c10
  refine k_X1_end_134 (r7 := a5) oo ?_
  have fb : Fq (fun g a => (g = 2438 ∧ a = W) ∨ PRx X RT RH RL g a) h (ha.sI 2714 X (nI vs.length)) := (fa.mono fun g a z => Or.inl z).sI (Or.inr ⟨rfl, Or.inl rfl⟩)
  obtain ⟨vb, tgb⟩ := v.oth fb (fun g a z z2 => by
    rcases z2 with z2 | z2
    · exact VQ.no (l := [2438]) rfl g a (by rw [z2.1]; rfl) z
    · exact PRx.vq g a z z2)
  refine end_155 oo tx c10 c1 c2 sf m6 h8 hT (by omega) (fun h1 l1 o1 l5' q0 q1 q2 q3 q4 q5 q6 q7 => ?_) vs.length 0 (by omega) _ l o _ (fb.1.mono fun g a z => z.elim (fun z => Or.inr (Or.inl z)) (fun z => Or.inr (Or.inr (Or.inr z)))) vb (fun p _ => rfl) (fun i hi => by omega) (fun p x hx => tgb p x (by simp) hx) (by simp [n_sI, z_sI, tag_sI, I_sI, J_sI, R_sI, EI_sI, EJ_sI, ER_sI, n_sJ, z_sJ, tag_sJ, I_sJ, J_sJ, R_sJ, EI_sJ, EJ_sJ, ER_sJ, n_sR, z_sR, tag_sR, I_sR, J_sR, R_sR, EI_sR, EJ_sR, ER_sR, n_sEI, z_sEI, tag_sEI, I_sEI, J_sEI, R_sEI, EI_sEI, EJ_sEI, ER_sEI, n_sEJ, z_sEJ, tag_sEJ, I_sEJ, J_sEJ, R_sEJ, EI_sEJ, EJ_sEJ, ER_sEJ, n_sER, z_sER, tag_sER, I_sER, J_sER, R_sER, EI_sER, EJ_sER, ER_sER, n_nw, z_nw, tag_nw, I_nw, J_nw, R_nw, EI_nw, EJ_nw, ER_nw]; exact da) (by simp [n_sI, z_sI, tag_sI, I_sI, J_sI, R_sI, EI_sI, EJ_sI, ER_sI, n_sJ, z_sJ, tag_sJ, I_sJ, J_sJ, R_sJ, EI_sJ, EJ_sJ, ER_sJ, n_sR, z_sR, tag_sR, I_sR, J_sR, R_sR, EI_sR, EJ_sR, ER_sR, n_sEI, z_sEI, tag_sEI, I_sEI, J_sEI, R_sEI, EI_sEI, EJ_sEI, ER_sEI, n_sEJ, z_sEJ, tag_sEJ, I_sEJ, J_sEJ, R_sEJ, EI_sEJ, EJ_sEJ, ER_sEJ, n_sER, z_sER, tag_sER, I_sER, J_sER, R_sER, EI_sER, EJ_sER, ER_sER, n_nw, z_nw, tag_nw, I_nw, J_nw, R_nw, EI_nw, EJ_nw, ER_nw]) (fun i v hi => by omega) (by unfold av; rw [fb.2.1]; exact Nat.le_refl _)
  -- settled
  have tA1 := q0.tag c1
  have tF1 := q0.tag sf.1
  refine k_X1_end_221 oo ?_
  have fc : Fq (fun g a => g = 2565 ∧ a = Fa W 0) h1 (h1.sI 2565 (Fa W 0) (nI 0)) := Fq.sI (Fq.refl h1) ⟨rfl, rfl⟩
  have nc : ∀ g a, g ≠ 2565 → ¬ (g = 2565 ∧ a = Fa W 0) := fun g a h1 z => h1 z.1
  obtain ⟨v2, tg2⟩ := q1.oth fc (fun g a z z2 => VQ.no (l := fmF) rfl g a (by rw [z2.1]; rfl) z)
  have q02 : Fr (PRs W X RT RH RL) h (h1.sI 2565 (Fa W 0) (nI 0)) := q0.trans (fc.1.mono fun g a z => Or.inr (Or.inr (Or.inl z)))
  have rs2 : RSL (h1.sI 2565 (Fa W 0) (nI 0)) X RT RH RL vs := q6.fr fc.1 (fun f a hf z => by rw [z.1] at hf; exact absurd hf (by decide))
  have dp2 : (h1.sI 2565 (Fa W 0) (nI 0)).I 2438 W = nI 0 := by simp [n_sI, z_sI, tag_sI, I_sI, J_sI, R_sI, EI_sI, EJ_sI, ER_sI, n_sJ, z_sJ, tag_sJ, I_sJ, J_sJ, R_sJ, EI_sJ, EJ_sJ, ER_sJ, n_sR, z_sR, tag_sR, I_sR, J_sR, R_sR, EI_sR, EJ_sR, ER_sR, n_sEI, z_sEI, tag_sEI, I_sEI, J_sEI, R_sEI, EI_sEI, EJ_sEI, ER_sEI, n_sEJ, z_sEJ, tag_sEJ, I_sEJ, J_sEJ, R_sEJ, EI_sEJ, EJ_sEJ, ER_sEJ, n_sER, z_sER, tag_sER, I_sER, J_sER, R_sER, EI_sER, EJ_sER, ER_sER, n_nw, z_nw, tag_nw, I_nw, J_nw, R_nw, EI_nw, EJ_nw, ER_nw]; exact q5
  have av2 : av XX.G (h1.sI 2565 (Fa W 0) (nI 0)) l1 = av XX.G h1 l1 := by unfold av; rw [fc.2.1]
  generalize hh2 : h1.sI 2565 (Fa W 0) (nI 0) = h2 at fc v2 tg2 q02 rs2 dp2 av2
  have np := PRs.no (W := W) (X := X) (RT := RT) (RH := RH) (RL := RL) (l := fwF) rfl
  have sub : ∀ l' : List Nat, l'.all (fun f => fwF.contains f) = true → ∀ f a, l'.contains f = true → ¬ PRs W X RT RH RL f a := fun l' hl f a hf => np f a (by rw [List.all_eq_true] at hl; exact hl f (List.contains_iff_mem.mp hf))
  have o1e : ∀ p : Sl, ¬ (p.1 = 1 ∧ p.2.1 = wi) → o1 p = o p := fun p hp => q2 p (fun z => hp ⟨z.1, z.2.1⟩)
  have w2 : WkQ 0 h2 o1 wi W MA (s00 s) := by
    obtain ⟨⟨w1, -, -, -, w5, w6⟩, -, w8, w9⟩ := id w
    refine ⟨⟨w1.fr q02 (sub swF rfl), dp2, Nat.zero_le _, by show (0 : Nat) ≤ 32; omega, by show h2.I 2439 W = nI (gas s); rw [q02.I (np _ _ rfl)]; exact w5, by show h2.I 2441 W = nI s.2.2.2.1; rw [q02.I (np _ _ rfl)]; exact w6⟩, fun j hj => absurd hj (Nat.not_lt_zero j), fun j _ i => ?_, w9.keep q02 (fun g a hg _ _ => sub enF rfl g a hg) (fun e _ => o1e _ (fun z => by have : (3 : Nat) = 1 := z.1; omega))⟩
    have e2 : o1 (2, wi, j, i) = o (2, wi, j, i) := o1e _ (fun z => by have : (2 : Nat) = 1 := z.1; omega)
    by_cases cj : j = 0
    · subst cj
      refine ⟨?_, by rw [e2]; exact hl0 i⟩
      by_cases ci : i < vs.length
      · exact q3 i ci
      · rw [q2 _ (fun z => ci z.2.2.2)]
        exact m7 i (by show (stk s).length ≤ i; omega)
    · have := w8 j (by rw [hS]; omega) i
      rw [q2 _ (fun z => cj z.2.2.1), e2]
      exact this
  have u2 : OUX wi W X RT RH RL h h2 o o1 := ⟨q02.mono PRs.ip, fun p hp => ⟨q2 p (fun z => ?_), fun x hx => ?_⟩⟩
  rotate_left
  · rcases hp with y | y
    · have := z.1; omega
    · exact y z.2.1
  · have e1 : o1 p = o p := q2 p (fun z => by
      rcases hp with y | y
      · have := z.1; omega
      · exact y z.2.1)
    rw [tg2 p x (by simp) (by rw [e1]; exact hx)]
    exact q4 p x (by rw [e1]; exact hx)
  have H2 : OPQ 0 (some (Fa W 0)) XX.G B h2 A W q BA X tt snd lim SP wi MA l1 o1 (s00 s) := ⟨c.fr q02 (sub cxF rfl), v2, w2, by rw [q02.R (np _ _ rfl)]; exact hf, hg, hw.fr q02 (fun a => np _ a rfl) (fun a => np _ a rfl)⟩
  have wd2 : WRD h2 o1 A W BA tt MA fs st Lf RN := wd.fr q02 (PRs.no rfl) (fun f a hf _ => PRs.no (l := etF) rfl f a hf) (fun p hp => o1e p (fun z => by have := z.1; omega))
  refine csettle_ok (z := 0) (fx := some (Fa W 0)) (env := env) H2 wd2 hen hvw henv hn2 hak hv hb hb2 (by rw [av2]; omega) (by omega) (fun a b c d h' l' o' s' MA' u H3 e e1 e2 => wt a b c d h' l' o' s' MA' (u2.out u) H3 ⟨e.1, e.2.2⟩ e1 e2) ?_
  cases hr : msq env (s00 s) with
  | none => trivial
  | some e =>
    rw [hr] at kk
    cases e with
    | error e => exact fun h' l' o' MA' u H3 mx e1 e2 => kk h' l' o' MA' (u2.out u) H3 mx e1 e2
    | ok s' =>
      intro h' l' o' MA' u H3 mx
      have t3 := H3.1.1.1
      refine k_X1_end_230 oo ?_
      refine cstop_ok (w := 0) H3.1 (fun h4 f4 e1 e2 => ?_)
      have rs3 := rs2.fr u.1 (IP.no (l := resF) rfl)
      refine H3.stop (w := 0) (c := -1) (fun h5 l5 o5 u5 H5 e3 e4 => ?_) h4 f4 e1 e2
      exact kk h5 l5 o5 MA' ((u2.out u).out u5) H5 mx (rs3.fr u5.1 (IP.no (l := resF) rfl)) e3 e4
end
