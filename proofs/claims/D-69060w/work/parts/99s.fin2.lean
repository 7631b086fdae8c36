/-! the end of a run: what was left before goes, what it left comes -/
section
variable {G : Gt} {B d : Nat} {h : AH} {l : List Nat} {o : Lc} {wi W A q BA tt lim SP : Nat} {snd : Int64} {MA : Ma} {K : Outcome → AH → Prop} {XA LA RA : Nat → Nat}
theorem PF2.no {A W LA : Nat} {l : List Nat} (h : l.all (fun f => !((3712 ≤ f && f ≤ 3718) || f == 1280 || ([1159, 1025, 1163, 2702, 10, 11, 12, 2432] ++ etE ++ crF).contains f)) = true) : ∀ f a, l.contains f = true → ¬ PF2 A W LA f a := fun f a hf z => by
  rw [List.all_eq_true] at h
  have := h f (List.contains_iff_mem.mp hf)
  simp only [Bool.not_eq_true', Bool.or_eq_false_iff] at this
  obtain ⟨⟨t1, t2⟩, t3⟩ := this
  have vq : ¬ VQ f a := VQ.no (l := [f]) (by simp only [List.all_cons, List.all_nil, Bool.and_true]; rw [t1, t2]; rfl) f a (by simp)
  have t3' : ∀ g ∈ [1159, 1025, 1163, 2702, 10, 11, 12, 2432] ++ etE ++ crF, f ≠ g := fun g hg e => by
    rw [e, List.contains_iff_mem.mpr hg] at t3; cases t3
  rcases z with (z | ⟨z, -⟩) | (⟨z, -⟩ | ⟨z, -⟩) | (z | ⟨z, -⟩) | z | ⟨z, -⟩ | ⟨z, -⟩
  · exact vq z
  · rcases z with z | z <;> exact t3' _ (by decide) z
  · rw [List.contains_iff_mem] at z
    rcases List.mem_cons.mp z with y | y
    · exact t3' _ (by decide) y
    · exact t3' f (List.mem_append_left _ (List.mem_append_right _ y)) rfl
  · rw [List.contains_iff_mem] at z
    simp only [List.mem_cons, List.mem_nil_iff, or_false] at z
    rcases z with y | y | y | y <;> exact t3' _ (by decide) y
  · exact vq z
  · rw [List.contains_iff_mem] at z
    exact t3' f (List.mem_append_right _ z) rfl
  · exact t3' _ (by decide) z
  · rcases z with z | z | z <;> exact t3' _ (by decide) z
  · exact t3' _ (by decide) z
theorem finish_205 {XX : Xt} (oo : OK e_X1_finish XX) {dd oc used last R Tl : Nat} {pub : Bool} {wb wq : Int64} {ls : Lw} {e0 : En} {es' : List En} {st : Nat → Nat} {hd : Nat → Int32} {b : Int32} {l2 l3 l5 l6 l7 : Value} (c0 : CTX h A W q BA (XA tt) tt snd lim SP) (bk : BLK h BA XA LA RA) (v : VH XX.G B h q l o) (en : EnR h o wi W MA (e0 :: es')) (cl : CLW h o wi W dd (es'.length + 1)) (h0 : e0.1.1 = 1) (far : LA tt + 32 ≤ W ∨ W + 130 ≤ LA tt) (lf : EtR h o 4 tt (LA tt) 30 MA ls) (hls : ∀ x ∈ ls, ∀ v, x.2.1.2.2.2 = some v → fdp v.2.2 ≤ 40) (hoc : oc < 16) (hwb : h.J 2442 W = wb) (hwq : h.J 2443 W = wq) (hu : h.I 2710 (XA tt) = nI used) (hu2 : used ≤ 100000) (hpb : h.I 2688 (XA tt) = bI pub) (hfd : ∀ x ∈ e0 :: es', ∀ v, x.2.2.1.2.2.2 = some v → fdp v.2.2 ≤ 40) (hl : h.I 6 A = nI last) (hl2 : last ≤ 32) (ht : tt < last) (hr : h.I 10 A = nI R) (hR : R ≤ 32) (hT : h.I 11 A = nI Tl) (hT2 : Tl ≤ 32) (hb : h.I 12 A = b) (hs : ∀ k, k < 32 → h.I 2702 (XA k) = nI (st k) ∧ st k < 4 ∧ h.I 2704 (XA k) = hd k) (hd1 : 73 ≤ XX.d) (kk : ∀ h' l' o' R', Fr (PF2 A W (LA tt)) h h' → VH XX.G B h' q l' o' → IDW h' o' wi W → EtR h' o' 4 tt (LA tt) 30 MA (lfE oc pub lim used wb wq e0 es') → (∀ p : Sl, ¬ (1 ≤ p.1 ∧ p.1 ≤ 3 ∧ p.2.1 = wi) → ¬ (p.1 = 4 ∧ p.2.1 = tt ∧ p.2.2.2 = 0) → o' p = o p) → (∀ p x, o' p = some x → h'.R 3718 x.1 = h.R 3718 x.1) → (∀ k, k < 32 → h'.I 2702 (XA k) = nI (if k = tt then 2 else if rlb hd tt last st k then 0 else st k)) → h'.I 10 A = nI R' → R' ≤ R → (∀ k, rlb hd tt last st k → R' ≤ k) → (tt < R' ∨ R' = R) → h'.I 11 A = nI (min Tl tt) → h'.I 2432 W = nI 0 → h'.I 12 A = b - nI 1 → K (.returned none) h') : V XX K 205 [.ref A, .int (nI oc), l2, l3, .ref (XA tt), l5, l6, l7] [] h := by
  obtain ⟨⟨t0, rq, rW, rB, rS⟩, ⟨tB, wt, ht32, eX⟩, tX, -⟩ := id c0
  obtain ⟨-, -, rL, -⟩ := bk.2.2 tt (by omega)
  refine k_X1_finish_205 oo ?_
  refine forget_ok t0 rq tX rL v lf hls (by omega) fun h1 l1 o1 f1 v1 e1 o11 tg1 a1 => ?_
  have no1 := PFg.no (LA := LA tt) (l := cxF ++ swF ++ bkF ++ [2438, 2565, 10000 + 747, 10000 + 731, 1152, 1153, 1154, 1155, 1156, 1157, 1162, 1163, 1160, 1161, 1158, 2442, 2443, 2710, 2688, 6, 10, 11, 12, 2702, 2704]) rfl
  have sub1 : ∀ l' : List Nat, l'.all (fun f => (cxF ++ swF ++ bkF ++ [2438, 2565, 10000 + 747, 10000 + 731, 1152, 1153, 1154, 1155, 1156, 1157, 1162, 1163, 1160, 1161, 1158, 2442, 2443, 2710, 2688, 6, 10, 11, 12, 2702, 2704]).contains f) = true → ∀ f a, l'.contains f = true → ¬ PFg (LA tt) f a := fun l' hl f a hf => no1 f a (by rw [List.all_eq_true] at hl; exact hl f (List.contains_iff_mem.mp hf))
  have near1 : ∀ g a, g = 1159 ∨ g = 1025 → W ≤ a → a < W + 130 → ¬ PFg (LA tt) g a := fun g a hg h1 h2 z => by
    rcases z with z | ⟨-, z1, z2⟩
    · rcases hg with y | y
      · rw [y] at z; exact VQ.no (l := [1159]) rfl _ _ rfl z
      · rw [y] at z; exact VQ.no (l := [1025]) rfl _ _ rfl z
    · omega
  have o13 : ∀ c j i, c ≠ 4 → o1 (c, wi, j, i) = o (c, wi, j, i) := fun c j i hc => o11 _ (fun z => hc z.1)
  have c1 := c0.fr f1 (sub1 cxF rfl)
  have bk1 := bk.fr f1 (sub1 bkF rfl)
  have en1 : EnR h1 o1 wi W MA (e0 :: es') := en.keep f1 (fun g a hg h1 h2 => by
    by_cases hv : g = 1159 ∨ g = 1025
    · exact near1 g a hv h1 (by omega)
    · refine sub1 [1152, 1153, 1154, 1155, 1156, 1157, 1162, 1163, 1160, 1161, 1158] rfl g a ?_
      rw [List.contains_iff_mem] at hg ⊢
      unfold enF at hg
      simp only [List.mem_cons, List.mem_nil_iff, or_false] at hg ⊢
      omega) (fun e b => o13 3 e b (by decide))
  have cl1 : CLW h1 o1 wi W dd (es'.length + 1) := cl.keep f1 (sub1 clwF rfl) (near1 _ _ (Or.inr rfl) (by omega) (by omega)) (fun a j i ha => o13 a j i (by omega)) (fun e he => (cl.2.1.2.2 e he).keep f1 (near1 _ _ (Or.inl rfl) (by unfold Ea; omega) (by have := cl.2.1.1; unfold Ea; omega)) (o13 3 e 0 (by decide))) (fun e b hb => by rw [o13 3 e b (by decide)]; exact cl.2.2.2 e b hb)
  have J1 : ∀ g a, [2442, 2443, 2710, 2688, 6, 10, 11, 12, 2702, 2704].contains g = true → ¬ PFg (LA tt) g a := sub1 _ rfl
  have hs1 : ∀ k, k < 32 → h1.I 2702 (XA k) = nI (st k) ∧ st k < 4 ∧ h1.I 2704 (XA k) = hd k := fun k hk => by
    obtain ⟨s1, s2, s3⟩ := hs k hk
    exact ⟨by rw [f1.I (J1 _ _ rfl)]; exact s1, s2, by rw [f1.I (J1 _ _ rfl)]; exact s3⟩
  have m2 : ∀ g a, (PCl W g a ∨ g = 2702 ∨ ((g = 10 ∨ g = 11 ∨ g = 12) ∧ a = A) ∨ (g = 2432 ∧ a = W)) → PF2 A W (LA tt) g a := fun g a z => Or.inr (Or.inr z)
  have far2 : ∀ f a, etF.contains f = true → LA tt ≤ a → a < LA tt + 2 + 30 → ¬ (PCl W f a ∨ f = 2702 ∨ ((f = 10 ∨ f = 11 ∨ f = 12) ∧ a = A) ∨ (f = 2432 ∧ a = W)) := fun f a hf h1 h2 z => by
    rcases z with (z | z) | z | ⟨z | z | z, -⟩ | ⟨z, -⟩
    · exact VQ.no (l := etF) rfl f a hf z
    · omega
    · rw [z] at hf; exact absurd hf (by decide)
    · rw [z] at hf; exact absurd hf (by decide)
    · rw [z] at hf; exact absurd hf (by decide)
    · rw [z] at hf; exact absurd hf (by decide)
    · rw [z] at hf; exact absurd hf (by decide)
  by_cases o3 : oc = 3
  · refine k_X1_finish_211 oo (fun _ => ?_) (fun c => absurd (by rw [o3]) c)
    refine finish_231 (b := b) oo c1 bk1 v1 cl1 (by rw [f1.I (J1 _ _ rfl)]; exact hl) hl2 ht (by rw [f1.I (J1 _ _ rfl)]; exact hr) hR (by rw [f1.I (J1 _ _ rfl)]; exact hT) hT2 (by rw [f1.I (J1 _ _ rfl)]; exact hb) hs1 hd1 fun h' l' o' R' g1 g2 g3 g4 g5 g6 g7 g8 g9 g10 g11 g12 g13 => ?_
    refine kk h' l' o' R' ((f1.mono fun g a z => Or.inl z).trans (g1.mono m2)) g2 g3 ?_ (fun p p1 p2 => by rw [g4 p p1, o11 p p2]) (fun p x hx => ?_) g6 g7 g8 g9 g10 g11 g12 g13
    · unfold lfE
      rw [if_pos o3]
      exact e1.fr g1 far2 (fun e => g4 _ (fun z => by have := z.2.1; have : (4 : Nat) ≤ 3 := this; omega))
    · rw [g5 p x hx]
      refine tg1 p x ?_
      by_cases cp : 1 ≤ p.1 ∧ p.1 ≤ 3 ∧ p.2.1 = wi
      · rw [g3.2 p cp.1 cp.2.1 cp.2.2] at hx; cases hx
      · rw [← g4 p cp]; exact hx
  · have n3 : ¬ nI oc = nI 3 := fun z => o3 ((nI_eq (by omega) (by omega)).mp z)
    refine k_X1_finish_211 oo (fun c => absurd c n3) (fun _ => ?_)
    have main : V XX K 228 [.ref A, .int (nI oc), l2, l3, .ref (XA tt), l5, l6, l7] [.int (bI (decide (oc = 0))), .ref (XA tt), .ref A] h1 := by
      have t1 := c1.1.1
      refine k_X1_finish_228 oo ?_
      refine leave_ok (all := decide (oc = 0)) (pub := pub) (used := used) (wb := wb) (wq := wq) c1 cl1.1.1 v1 en1 h0 (bk1.2.2 tt (by omega)).2.2.1 far e1 (by rw [f1.J (J1 _ _ rfl)]; exact hwb) (by rw [f1.J (J1 _ _ rfl)]; exact hwq) (by rw [f1.I (J1 _ _ rfl)]; exact hu) hu2 (by rw [f1.I (J1 _ _ rfl)]; exact hpb) hfd (by omega) fun h2 o2 f2 n2 v2 e2 c2 o22 tg2 => ?_
      have no2 := PLv.no (W := W) (LA := LA tt) (l := cxF ++ swF ++ bkF ++ [2438, 2565, 10000 + 747, 10000 + 731, 6, 10, 11, 12, 2702, 2704]) rfl
      have sub2 : ∀ l' : List Nat, l'.all (fun f => (cxF ++ swF ++ bkF ++ [2438, 2565, 10000 + 747, 10000 + 731, 6, 10, 11, 12, 2702, 2704]).contains f) = true → ∀ f a, l'.contains f = true → ¬ PLv W (LA tt) f a := fun l' hl f a hf => no2 f a (by rw [List.all_eq_true] at hl; exact hl f (List.contains_iff_mem.mp hf))
      have J2 : ∀ g a, [6, 10, 11, 12, 2702, 2704].contains g = true → ¬ PLv W (LA tt) g a := sub2 _ rfl
      have cl2 : CLW h2 o2 wi W dd (es'.length + 1) := cl1.keep f2 (sub2 clwF rfl) (fun z => by
        rcases z with ⟨-, z1, z2⟩ | ⟨z, -⟩
        · omega
        · exact absurd z (by decide)) (fun a j i ha => o22 _ (fun z => by have : a = 3 := z.1; omega) (fun z => by have : a = 4 := z.1; omega)) c2 (fun e b hb => by
          rw [o22 _ (fun z => by have h1 : e < es'.length + 1 := z.2.2.1; have h2 : b = 0 := z.2.2.2; omega) (fun z => by cases z.1)]; exact cl1.2.2.2 e b hb)
      have hs2 : ∀ k, k < 32 → h2.I 2702 (XA k) = nI (st k) ∧ st k < 4 ∧ h2.I 2704 (XA k) = hd k := fun k hk => by
        obtain ⟨s1, s2, s3⟩ := hs1 k hk
        exact ⟨by rw [f2.I (J2 _ _ rfl)]; exact s1, s2, by rw [f2.I (J2 _ _ rfl)]; exact s3⟩
      refine finish_231 (b := b) oo (c1.fr f2 (sub2 cxF rfl)) (bk1.fr f2 (sub2 bkF rfl)) v2 cl2 (by rw [f2.I (J2 _ _ rfl), f1.I (J1 _ _ rfl)]; exact hl) hl2 ht (by rw [f2.I (J2 _ _ rfl), f1.I (J1 _ _ rfl)]; exact hr) hR (by rw [f2.I (J2 _ _ rfl), f1.I (J1 _ _ rfl)]; exact hT) hT2 (by rw [f2.I (J2 _ _ rfl), f1.I (J1 _ _ rfl)]; exact hb) hs2 hd1 fun h' l' o' R' g1 g2 g3 g4 g5 g6 g7 g8 g9 g10 g11 g12 g13 => ?_
      refine kk h' l' o' R' ((f1.mono fun g a z => Or.inl z).trans ((f2.mono fun g a z => Or.inr (Or.inl z)).trans (g1.mono m2))) g2 g3 ?_ (fun p p1 p2 => ?_) (fun p x hx => ?_) g6 g7 g8 g9 g10 g11 g12 g13
      · unfold lfE
        rw [if_neg o3]
        exact e2.fr g1 far2 (fun e => g4 _ (fun z => by have := z.2.1; have : (4 : Nat) ≤ 3 := this; omega))
      · rw [g4 p p1, o22 p (fun z => p1 ⟨by omega, by omega, z.2.1⟩) p2, o11 p p2]
      · rw [g5 p x hx]
        by_cases cp : 1 ≤ p.1 ∧ p.1 ≤ 3 ∧ p.2.1 = wi
        · rw [g3.2 p cp.1 cp.2.1 cp.2.2] at hx; cases hx
        · have hx2 : o2 p = some x := by rw [← g4 p cp]; exact hx
          obtain ⟨t2, p', t3⟩ := tg2 p x hx2
          rw [t2]; exact tg1 p' x t3
    by_cases o0 : oc = 0
    · subst o0
      refine k_X1_finish_216 oo (fun c => absurd rfl c) (fun _ => ?_)
      exact k_X1_finish_223 oo main
    · have n0 : ¬ nI oc = 0 := fun z => o0 ((nI_eq (b := 0) (by omega) (by omega)).mp z)
      refine k_X1_finish_216 oo (fun _ => ?_) (fun c => absurd c n0)
      have e : decide (oc = 0) = false := by simp [o0]
      rw [e] at main
      exact k_X1_finish_227 oo main
end
