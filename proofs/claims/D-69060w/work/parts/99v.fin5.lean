/-! the end of a run: the join -/
section
variable {G : Gt} {B d : Nat} {h : AH} {l : List Nat} {o : Lc} {wi W A q BA tt lim SP : Nat} {snd : Int64} {MA : Ma} {K : Outcome → AH → Prop} {XA LA RA : Nat → Nat}
theorem finish_ok {dd oc g last R Tl : Nat} {pub : Bool} {wb wq code : Int64} {ls : Lw} {rs0 : List (Pc × Int32 × Int32)} {e0 : En} {es' : List En} {st : Nat → Nat} {hd : Nat → Int32} {b : Int32} (c0 : CTX h A W q BA (XA tt) tt snd lim SP) (bk : BLK h BA XA LA RA) (v : VH G B h q l o) (en : EnR h o wi W MA (e0 :: es')) (cl : CLW h o wi W dd (es'.length + 1)) (h0 : e0.1.1 = 1) (far : LA tt + 32 ≤ W ∨ W + 130 ≤ LA tt) (farR : RA tt + 32 ≤ W ∨ W + 130 ≤ RA tt) (farL : RA tt + 32 ≤ LA tt ∨ LA tt + 32 ≤ RA tt) (lf : EtR h o 4 tt (LA tt) 30 MA ls) (hls : ∀ x ∈ ls, ∀ v, x.2.1.2.2.2 = some v → fdp v.2.2 ≤ 40) (rd : RDR h (RA tt) rs0) (hoc : oc < 16) (hwb : h.J 2442 W = wb) (hwq : h.J 2443 W = wq) (hg : h.I 2439 W = nI g) (hg2 : g ≤ 100000) (hpb : h.I 2688 (XA tt) = bI pub) (hfd : ∀ x ∈ e0 :: es', ∀ v, x.2.2.1.2.2.2 = some v → fdp v.2.2 ≤ 40) (hl : h.I 6 A = nI last) (hl2 : last ≤ 32) (ht : tt < last) (hr : h.I 10 A = nI R) (hR : R ≤ 32) (hT : h.I 11 A = nI Tl) (hT2 : Tl ≤ 32) (hb : h.I 12 A = b) (hs : ∀ k, k < 32 → h.I 2702 (XA k) = nI (st k) ∧ st k < 4 ∧ h.I 2704 (XA k) = hd k) (hd1 : 74 ≤ d) (kk : ∀ h' l' o' R', Fr (PFn A W (XA tt) (LA tt) (RA tt)) h h' → VH G B h' q l' o' → IDW h' o' wi W → EtR h' o' 4 tt (LA tt) 30 MA (lfE oc pub lim (if oc = 3 then 0 else g) wb wq e0 es') → RDR h' (RA tt) (rdE MA (e0 :: es')) → TLD h h' (XA tt) oc g code pub → (∀ p : Sl, ¬ (1 ≤ p.1 ∧ p.1 ≤ 3 ∧ p.2.1 = wi) → ¬ (p.1 = 4 ∧ p.2.1 = tt ∧ p.2.2.2 = 0) → o' p = o p) → (∀ p x, o' p = some x → h'.R 3718 x.1 = h.R 3718 x.1) → (∀ k, k < 32 → h'.I 2702 (XA k) = nI (if k = tt then 2 else if rlb hd tt last st k then 0 else st k)) → h'.I 10 A = nI R' → R' ≤ R → (∀ k, rlb hd tt last st k → R' ≤ k) → (tt < R' ∨ R' = R) → h'.I 11 A = nI (min Tl tt) → h'.I 2432 W = nI 0 → h'.I 12 A = b - nI 1 → K (.returned none) h') : MW G d e_X1_finish [.ref A, .int (nI oc), .long code] h K := by
  refine st_X1_finish fun XX oo hG hD _ => ?_
  subst hG; subst hD
  obtain ⟨⟨t0, rq, rW, rB, rS⟩, ⟨tB, wt, ht32, eX⟩, tX, -⟩ := id c0
  obtain ⟨-, -, rL, rR⟩ := bk.2.2 tt (by omega)
  have sw := cl.1.1
  refine finish_0 oo c0 sw.1.1 hoc hg hpb fun ha l3 l5 l6 l7 fa ta => ?_
  have qa : Fq (PXR (XA tt) (RA tt)) h ha := fa.mono fun g a z => Or.inl z
  have tXa := qa.1.tag tX
  have noR := PXR.no (X := XA tt) (R := RA tt) (l := cxF ++ swF ++ bkF ++ [2438, 2565, 10000 + 747, 10000 + 731, 2442, 2443, 2688, 6, 10, 11, 12, 2702, 2704, 1155, 1156, 1157, 1162, 1163, 1164, 1159, 1158]) rfl
  have sub : ∀ l' : List Nat, l'.all (fun f => (cxF ++ swF ++ bkF ++ [2438, 2565, 10000 + 747, 10000 + 731, 2442, 2443, 2688, 6, 10, 11, 12, 2702, 2704, 1155, 1156, 1157, 1162, 1163, 1164, 1159, 1158]).contains f) = true → ∀ f a, l'.contains f = true → ¬ PXR (XA tt) (RA tt) f a := fun l' hl f a hf => noR f a (by rw [List.all_eq_true] at hl; exact hl f (List.contains_iff_mem.mp hf))
  have rRa : ha.R 2706 (XA tt) = some (RA tt) := by rw [qa.1.R (sub bkF rfl _ _ rfl)]; exact rR
  obtain ⟨⟨⟨⟨s1, s2, s3⟩, s4⟩, ⟨s5, s6, s7⟩, s8⟩, s9⟩ := id rd
  have s1a := qa.1.tag s1
  refine k_X1_finish_90 oo ?_
  have qb0 : Fq (PRd (RA tt)) ha (ha.sI 1025 (RA tt) (nI 0)) := Fq.sI (Fq.refl ha) ⟨by decide, by omega, by omega⟩
  have cb : (ha.sI 1025 (RA tt) (nI 0)).I 1025 (RA tt) = nI 0 := by simp [n_sI, z_sI, tag_sI, I_sI, J_sI, R_sI, EI_sI, EJ_sI, ER_sI, n_sJ, z_sJ, tag_sJ, I_sJ, J_sJ, R_sJ, EI_sJ, EJ_sJ, ER_sJ, n_sR, z_sR, tag_sR, I_sR, J_sR, R_sR, EI_sR, EJ_sR, ER_sR, n_sEI, z_sEI, tag_sEI, I_sEI, J_sEI, R_sEI, EI_sEI, EJ_sEI, ER_sEI, n_sEJ, z_sEJ, tag_sEJ, I_sEJ, J_sEJ, R_sEJ, EI_sEJ, EJ_sEJ, ER_sEJ, n_sER, z_sER, tag_sER, I_sER, J_sER, R_sER, EI_sER, EJ_sER, ER_sER, n_nw, z_nw, tag_nw, I_nw, J_nw, R_nw, EI_nw, EJ_nw, ER_nw]
  generalize ha.sI 1025 (RA tt) (nI 0) = hb' at qb0 cb ⊢
  have qb : Fq (PXR (XA tt) (RA tt)) h hb' := qa.trans (qb0.mono fun g a z => Or.inr z)
  have farE : ∀ g a, rdF.contains g = true → W ≤ a → a < W + 130 → ¬ PXR (XA tt) (RA tt) g a := fun g a hg h1 h2 z => by
    rcases z with ⟨z, -⟩ | z
    · have : ∀ f ∈ rdF, txF.contains f = false := by decide
      rw [this g (List.contains_iff_mem.mp hg)] at z; cases z
    · have := z.2; omega
  have farX : ∀ g a, rdF.contains g = true → LA tt ≤ a → a < LA tt + 32 → ¬ PXR (XA tt) (RA tt) g a := fun g a hg h1 h2 z => by
    rcases z with ⟨z, -⟩ | z
    · have : ∀ f ∈ rdF, txF.contains f = false := by decide
      rw [this g (List.contains_iff_mem.mp hg)] at z; cases z
    · have := z.2; omega
  have enK : ∀ h2, Fq (PXR (XA tt) (RA tt)) h h2 → EnR h2 o wi W MA (e0 :: es') := fun h2 q2 => en.keep q2.1 (fun g a hg h1 h2 => by
    by_cases hr : rdF.contains g = true
    · exact farE g a hr h1 (by omega)
    · refine sub [1155, 1156, 1157, 1162, 1163, 1159, 1158] rfl g a ?_
      rw [List.contains_iff_mem] at hg hr ⊢
      unfold enF at hg
      unfold rdF at hr
      simp only [List.mem_cons, List.mem_nil_iff, or_false] at hg hr ⊢
      omega) (fun _ _ => rfl)
  refine finish_102 (R := RA tt) (X := XA tt) (es := e0 :: es') (MA := MA) (o := o) (wi := wi) (h := hb') oo (qb.1.tag t0) (by rw [qb.1.R (sub cxF rfl _ _ rfl)]; exact rW) (sw.fr qb.1 (sub swF rfl)) (enK hb' qb) (qb.1.tag tX) (by rw [qb.1.R (sub bkF rfl _ _ rfl)]; exact rR) farR (by omega) (fun h' l5 l6 l7 f' r' => ?_) (e0 :: es').length 0 rfl hb' _ _ (Fq.refl hb') ⟨⟨⟨⟨qb.1.tag s1, by rw [qb.1.R (sub swF rfl _ _ rfl)]; exact s2, qb.1.tag s3⟩, fun e he => ⟨by rw [qb.1.ER (sub swF rfl _ _ rfl)]; exact (s4 e he).1, qb.1.tag (s4 e he).2⟩⟩, ⟨cb, Nat.zero_le _, s7⟩, fun e p hp => by simp at hp⟩, fun e x hx => by simp at hx⟩
  have q' : Fq (PXR (XA tt) (RA tt)) h h' := qb.trans (f'.mono fun g a z => Or.inr z)
  have q'a : Fq (PRd (RA tt)) ha h' := qb0.trans f'
  have ntx : ∀ f a, txF.contains f = true → ¬ PRd (RA tt) f a := PRd.no rfl
  have tl' : TLD h h' (XA tt) oc g code pub := ta.fr q'a.1 ntx
  obtain ⟨v', tg'⟩ := v.oth q' (fun g a z y => by
    rcases y with ⟨y, -⟩ | ⟨y, -⟩
    · exact VQ.no (l := txF) rfl g a y z
    · exact VQ.no (l := rdF) rfl g a y z)
  have J : ∀ g a, [2442, 2443, 2688, 6, 10, 11, 12, 2702, 2704].contains g = true → ¬ PXR (XA tt) (RA tt) g a := sub _ rfl
  have cl' : CLW h' o wi W dd (es'.length + 1) := cl.keep q'.1 (sub clwF rfl) (farE _ _ rfl (by omega) (by omega)) (fun _ _ _ _ => rfl) (fun e he => (cl.2.1.2.2 e he).keep q'.1 (sub [1159] rfl _ _ rfl) rfl) cl.2.2.2
  have lf' : EtR h' o 4 tt (LA tt) 30 MA ls := lf.fr q'.1 (fun f a hf h1 h2 => by
    by_cases hr : rdF.contains f = true
    · exact farX f a hr h1 (by omega)
    · refine sub [1024, 10000 + 342, 1155, 1156, 1157, 1164, 1158, 1159] rfl f a ?_
      rw [List.contains_iff_mem] at hf hr ⊢
      unfold etF at hf
      unfold rdF at hr
      simp only [List.mem_cons, List.mem_nil_iff, or_false] at hf hr ⊢
      omega) (fun _ => rfl)
  have hs' : ∀ k, k < 32 → h'.I 2702 (XA k) = nI (st k) ∧ st k < 4 ∧ h'.I 2704 (XA k) = hd k := fun k hk => by
    obtain ⟨a1, a2, a3⟩ := hs k hk
    exact ⟨by rw [q'.1.I (J _ _ rfl)]; exact a1, a2, by rw [q'.1.I (J _ _ rfl)]; exact a3⟩
  refine finish_205 (b := b) (wb := wb) (wq := wq) (pub := pub) (used := if oc = 3 then 0 else g) oo (c0.fr q'.1 (sub cxF rfl)) (bk.fr q'.1 (sub bkF rfl)) v' (enK h' q') cl' h0 far lf' hls hoc (by rw [q'.1.J (J _ _ rfl)]; exact hwb) (by rw [q'.1.J (J _ _ rfl)]; exact hwq) tl'.1.2.2 (by split <;> omega) (by rw [q'.1.I (J _ _ rfl)]; exact hpb) hfd (by rw [q'.1.I (J _ _ rfl)]; exact hl) hl2 ht (by rw [q'.1.I (J _ _ rfl)]; exact hr) hR (by rw [q'.1.I (J _ _ rfl)]; exact hT) hT2 (by rw [q'.1.I (J _ _ rfl)]; exact hb) hs' (by omega) fun h2 l2 o2 R' g1 g2 g3 g4 g5 g6 g7 g8 g9 g10 g11 g12 g13 g14 => ?_
  refine kk h2 l2 o2 R' ((q'.1.mono fun g a z => Or.inr z).trans (g1.mono fun g a z => Or.inl z)) g2 g3 g4 (r'.fr g1 (PF2.no rfl) (fun f a hf h1 h2 z => ?_)) (tl'.fr g1 (PF2.no rfl)) g5 (fun p x hx => ?_) g7 g8 g9 g10 g11 g12 g13 g14
  · rcases z with (z | ⟨-, z1, z2⟩) | (⟨-, z1, z2⟩ | ⟨-, z1, z2⟩) | (z | ⟨-, z1, z2⟩) | z | ⟨z | z | z, -⟩ | ⟨z, -⟩
    · exact VQ.no (l := rdF) rfl f a hf z
    · omega
    · omega
    · omega
    · exact VQ.no (l := rdF) rfl f a hf z
    · omega
    · rw [z] at hf; exact absurd hf (by decide)
    · rw [z] at hf; exact absurd hf (by decide)
    · rw [z] at hf; exact absurd hf (by decide)
    · rw [z] at hf; exact absurd hf (by decide)
    · rw [z] at hf; exact absurd hf (by decide)
  · rw [g6 p x hx]; exact q'.1.R (PXR.no (l := [3718]) rfl _ _ rfl)
end
