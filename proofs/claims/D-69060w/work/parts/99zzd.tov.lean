/-! what a transaction has left becomes the state -/
def tk1 (st : Lw) (x : Pc × Cn × Bool) : Lw := if x.2.1.1 = true ∨ 4 ≤ x.1.1 then st else match (st.findIdx? fun y => y.1 == x.1) with
  | none => st
  | some i => rmI st i
def tk2 (st : Lw) (x : Pc × Cn × Bool) : Lw := if x.1.1 < 4 ∧ x.2.1.1 = true then (match (st.findIdx? fun y => y.1 == x.1) with
  | none => st ++ [(x.1, x.2.1, false)]
  | some i => st.set i (x.1, x.2.1, false)) else st
def tkOv (st ls : Lw) : Lw := ls.foldl tk2 (ls.foldl tk1 st)
theorem tk2_len {st : Lw} {x : Pc × Cn × Bool} : st.length ≤ (tk2 st x).length := by
  unfold tk2
  split
  · split
    · rw [List.length_append]; omega
    · rw [List.length_set]; exact Nat.le_refl _
  · exact Nat.le_refl _
theorem tk2_fl {ls : Lw} : ∀ {st : Lw}, st.length ≤ (ls.foldl tk2 st).length := by
  induction ls with
  | nil => exact Nat.le_refl _
  | cons x ls ih => exact Nat.le_trans tk2_len ih
def PTo (SA LA f a : Nat) : Prop := PSt SA f a ∨ ((f = 1159 ∨ f = 1025) ∧ LA ≤ a ∧ a < LA + 32)
theorem PTo.no {SA LA : Nat} {l : List Nat} (h : l.all (fun f => !((3712 ≤ f && f ≤ 3718) || f == 1280 || (1025 :: etE).contains f)) = true) : ∀ f a, l.contains f = true → ¬ PTo SA LA f a := fun f a hf z => by
  rcases z with z | ⟨z, -⟩
  · exact PSt.no h f a hf z
  · rw [List.all_eq_true] at h
    have := h f (List.contains_iff_mem.mp hf)
    rcases z with z | z <;> (rw [z] at this; exact absurd this (by decide))
section
variable {G : Gt} {B d : Nat} {h h1 : AH} {l : List Nat} {o : Lc} {A q X SA LA t i k : Nat} {MA : Ma} {K : Outcome → AH → Prop} {st st' ls : Lw}
/-- an entry of the state takes over -/
theorem tov_179 {XX : Xt} (oo : OK e_X1_takeOver XX) {x : Pc × Cn × Bool} {l1 l2 : Value} (t0 : h1.tag A = some (0, 0)) (rq : h1.R 2 A = some q) (v : VH XX.G B h1 q l o) (et : EtR h o 0 0 SA 256 MA st) (f01 : Fr (PS1 SA i) h h1) (hi : i < 256) (hk : k < 30) (far : LA + 32 ≤ SA ∨ SA + 258 ≤ LA) (tL : h1.tag (LA + 2 + k) = some (9, 0)) (e1 : EtR1 h1 o 4 t LA k MA x) (xt : x.2.1.1 = true) (hp : PB x.1) (hc : h1.I 1025 SA = nI st'.length) (hl : st'.length ≤ 256) (hll : st.length ≤ st'.length) (hs : ∀ e, e ≠ i → e < st'.length → (st')[e]? = (st)[e]?) (gi : (st')[i]? = some (x.1, x.2.1, false)) (pl : h1.I 1152 (SA + 2 + i) = nI x.1.1 ∧ h1.J 1153 (SA + 2 + i) = x.1.2.1 ∧ h1.I 1154 (SA + 2 + i) = nI x.1.2.2) (th : h1.I 1155 (SA + 2 + i) = bI true) (gs : h1.I 1164 (SA + 2 + i) = nI 0) (hv : (o (0, 0, i, 0) = none ∧ h1.R 1159 (SA + 2 + i) = none) ∨ ∃ y, o (0, 0, i, 0) = some y ∧ h1.R 1159 (SA + 2 + i) = some y.1 ∧ fdp y.2.2.2 ≤ 40) (hd : 42 ≤ XX.d) (kk : ∀ h' l' o', Fr (fun f a => VQ f a ∨ PS1 SA i f a ∨ (f = 1159 ∧ a = LA + 2 + k)) h1 h' → VH XX.G B h' q l' o' → EtR h' o' 0 0 SA 256 MA st' → o' (4, t, k, 0) = none → (∀ p : Sl, ¬ (p.1 = 0 ∧ p.2.1 = 0 ∧ p.2.2.2 = 0) → p ≠ (4, t, k, 0) → o' p = o p) → (∀ p z, o' p = some z → (∃ r, o r = some z) ∧ h'.R 3718 z.1 = h1.R 3718 z.1) → V XX K 240 [.ref A, l1, l2, .ref (LA + 2 + k), .ref (SA + 2 + i)] [] h') : V XX K 179 [.ref A, l1, l2, .ref (LA + 2 + k), .ref (SA + 2 + i)] [] h1 := by
  obtain ⟨⟨x1, x2, x3⟩, ⟨x4, x5⟩, x6⟩ := e1
  have tE : h1.tag (SA + 2 + i) = some (9, 0) := f01.tag (et.1.1.2 i hi).2
  have vq : ∀ f a, (1025 :: 2 :: etE).contains f = true → ¬ VQ f a := VQ.no rfl
  have ne : SA + 2 + i ≠ LA + 2 + k := by omega
  have n4 : ((4, t, k, 0) : Sl) ≠ (0, 0, i, 0) := fun q => absurd (congrArg Prod.fst q) (show (4 : Nat) ≠ 0 by decide)
  have key : ∀ h2 l2' o2, Fr VQ h1 h2 → VH XX.G B h2 q l2' o2 → o2 (0, 0, i, 0) = none → (∀ p, p ≠ (0, 0, i, 0) → o2 p = o p) → (∀ p z, o2 p = some z → h2.R 3718 z.1 = h1.R 3718 z.1) → V XX K 199 [.ref A, l1, l2, .ref (LA + 2 + k), .ref (SA + 2 + i)] [] h2 := fun h2 l2' o2 f2 v2 n2 o22 tg2 => by
    have tE2 := f2.tag tE
    have tL2 := f2.tag tL
    have b1 : h2.J 1156 (LA + 2 + k) = x.2.1.2.1 := by rw [f2.J (vq _ _ rfl)]; exact x2
    have b2 : h2.J 1157 (LA + 2 + k) = x.2.1.2.2.1 := by rw [f2.J (vq _ _ rfl)]; exact x3
    have b3 : h2.R 1158 (LA + 2 + k) = h1.R 1158 (LA + 2 + k) := f2.R (vq _ _ rfl)
    have b4 : h2.R 1159 (LA + 2 + k) = h1.R 1159 (LA + 2 + k) := f2.R (vq _ _ rfl)
    refine k_X1_takeOver_199 (r2 := b1) (r5 := b2) (r7 := b3) (r9 := b4) oo ?_
    generalize hh3 : ((((h2.sJ 1156 (SA + 2 + i) x.2.1.2.1).sJ 1157 (SA + 2 + i) x.2.1.2.2.1).sR 1158 (SA + 2 + i) (h1.R 1158 (LA + 2 + k))).sR 1159 (SA + 2 + i) (h1.R 1159 (LA + 2 + k))).sR 1159 (LA + 2 + k) none = h3
    have f3 : Fq (fun f a => PS1 SA i f a ∨ (f = 1159 ∧ a = LA + 2 + k)) h2 h3 := by
      rw [← hh3]
      exact Fq.sR (Fq.sR (Fq.sR (Fq.sJ (Fq.sJ (Fq.refl h2) (Or.inl (Or.inr ⟨rfl, rfl⟩))) (Or.inl (Or.inr ⟨rfl, rfl⟩))) (Or.inl (Or.inr ⟨rfl, rfl⟩))) (Or.inl (Or.inr ⟨rfl, rfl⟩))) (Or.inr ⟨rfl, rfl⟩)
    obtain ⟨v3, tg3⟩ := v2.oth f3 (fun f a z q => by
      rcases q with q | ⟨q, -⟩
      · exact PS1.vq f a z q
      · rw [q] at z; exact vq 1159 a rfl z)
    have fh : Fr (fun f a => VQ f a ∨ PS1 SA i f a ∨ (f = 1159 ∧ a = LA + 2 + k)) h1 h3 := (f2.mono fun f a q => Or.inl q).trans (f3.1.mono fun f a q => Or.inr q)
    have f0 : Fr (fun f a => VQ f a ∨ PS1 SA i f a ∨ (f = 1159 ∧ a = LA + 2 + k)) h h3 := (f01.mono fun f a q => Or.inr (Or.inl q)).trans fh
    have nr : ∀ f a, [1024, 10000 + 342].contains f = true → ¬ (VQ f a ∨ PS1 SA i f a ∨ (f = 1159 ∧ a = LA + 2 + k)) := fun f a hf q => by
      rcases q with q | q | ⟨q, -⟩
      · exact VQ.no (l := [1024, 10000 + 342]) rfl f a hf q
      · exact PS1.no (l := [1024, 10000 + 342]) rfl f a hf q
      · rw [q] at hf; exact absurd hf (by decide)
    have np : ∀ f e, etE.contains f = true → e ≠ i → e < st'.length → ¬ (VQ f (SA + 2 + e) ∨ PS1 SA i f (SA + 2 + e) ∨ (f = 1159 ∧ SA + 2 + e = LA + 2 + k)) := fun f e hf he hl' q => by
      rcases q with q | q | ⟨-, q⟩
      · exact VQ.no (l := etE) rfl f _ hf q
      · rcases q with ⟨q, -⟩ | ⟨-, q⟩
        · rw [q] at hf; exact absurd hf (by decide)
        · omega
      · omega
    have c3 : h3.I 1025 SA = nI st'.length := by
      rw [← hh3]; simp [n_sI, z_sI, tag_sI, I_sI, J_sI, R_sI, EI_sI, EJ_sI, ER_sI, n_sJ, z_sJ, tag_sJ, I_sJ, J_sJ, R_sJ, EI_sJ, EJ_sJ, ER_sJ, n_sR, z_sR, tag_sR, I_sR, J_sR, R_sR, EI_sR, EJ_sR, ER_sR, n_sEI, z_sEI, tag_sEI, I_sEI, J_sEI, R_sEI, EI_sEI, EJ_sEI, ER_sEI, n_sEJ, z_sEJ, tag_sEJ, I_sEJ, J_sEJ, R_sEJ, EI_sEJ, EJ_sEJ, ER_sEJ, n_sER, z_sER, tag_sER, I_sER, J_sER, R_sER, EI_sER, EJ_sER, ER_sER, n_nw, z_nw, tag_nw, I_nw, J_nw, R_nw, EI_nw, EJ_nw, ER_nw]; rw [f2.I (vq _ _ rfl)]; exact hc
    have w1 : h3.I 1152 (SA + 2 + i) = nI x.1.1 := by rw [← hh3]; simp [n_sI, z_sI, tag_sI, I_sI, J_sI, R_sI, EI_sI, EJ_sI, ER_sI, n_sJ, z_sJ, tag_sJ, I_sJ, J_sJ, R_sJ, EI_sJ, EJ_sJ, ER_sJ, n_sR, z_sR, tag_sR, I_sR, J_sR, R_sR, EI_sR, EJ_sR, ER_sR, n_sEI, z_sEI, tag_sEI, I_sEI, J_sEI, R_sEI, EI_sEI, EJ_sEI, ER_sEI, n_sEJ, z_sEJ, tag_sEJ, I_sEJ, J_sEJ, R_sEJ, EI_sEJ, EJ_sEJ, ER_sEJ, n_sER, z_sER, tag_sER, I_sER, J_sER, R_sER, EI_sER, EJ_sER, ER_sER, n_nw, z_nw, tag_nw, I_nw, J_nw, R_nw, EI_nw, EJ_nw, ER_nw]; rw [f2.I (vq _ _ rfl)]; exact pl.1
    have w2 : h3.J 1153 (SA + 2 + i) = x.1.2.1 := by rw [← hh3]; simp [n_sI, z_sI, tag_sI, I_sI, J_sI, R_sI, EI_sI, EJ_sI, ER_sI, n_sJ, z_sJ, tag_sJ, I_sJ, J_sJ, R_sJ, EI_sJ, EJ_sJ, ER_sJ, n_sR, z_sR, tag_sR, I_sR, J_sR, R_sR, EI_sR, EJ_sR, ER_sR, n_sEI, z_sEI, tag_sEI, I_sEI, J_sEI, R_sEI, EI_sEI, EJ_sEI, ER_sEI, n_sEJ, z_sEJ, tag_sEJ, I_sEJ, J_sEJ, R_sEJ, EI_sEJ, EJ_sEJ, ER_sEJ, n_sER, z_sER, tag_sER, I_sER, J_sER, R_sER, EI_sER, EJ_sER, ER_sER, n_nw, z_nw, tag_nw, I_nw, J_nw, R_nw, EI_nw, EJ_nw, ER_nw]; rw [f2.J (vq _ _ rfl)]; exact pl.2.1
    have w3 : h3.I 1154 (SA + 2 + i) = nI x.1.2.2 := by rw [← hh3]; simp [n_sI, z_sI, tag_sI, I_sI, J_sI, R_sI, EI_sI, EJ_sI, ER_sI, n_sJ, z_sJ, tag_sJ, I_sJ, J_sJ, R_sJ, EI_sJ, EJ_sJ, ER_sJ, n_sR, z_sR, tag_sR, I_sR, J_sR, R_sR, EI_sR, EJ_sR, ER_sR, n_sEI, z_sEI, tag_sEI, I_sEI, J_sEI, R_sEI, EI_sEI, EJ_sEI, ER_sEI, n_sEJ, z_sEJ, tag_sEJ, I_sEJ, J_sEJ, R_sEJ, EI_sEJ, EJ_sEJ, ER_sEJ, n_sER, z_sER, tag_sER, I_sER, J_sER, R_sER, EI_sER, EJ_sER, ER_sER, n_nw, z_nw, tag_nw, I_nw, J_nw, R_nw, EI_nw, EJ_nw, ER_nw]; rw [f2.I (vq _ _ rfl)]; exact pl.2.2
    have w4 : h3.I 1155 (SA + 2 + i) = bI x.2.1.1 := by rw [← hh3]; simp [n_sI, z_sI, tag_sI, I_sI, J_sI, R_sI, EI_sI, EJ_sI, ER_sI, n_sJ, z_sJ, tag_sJ, I_sJ, J_sJ, R_sJ, EI_sJ, EJ_sJ, ER_sJ, n_sR, z_sR, tag_sR, I_sR, J_sR, R_sR, EI_sR, EJ_sR, ER_sR, n_sEI, z_sEI, tag_sEI, I_sEI, J_sEI, R_sEI, EI_sEI, EJ_sEI, ER_sEI, n_sEJ, z_sEJ, tag_sEJ, I_sEJ, J_sEJ, R_sEJ, EI_sEJ, EJ_sEJ, ER_sEJ, n_sER, z_sER, tag_sER, I_sER, J_sER, R_sER, EI_sER, EJ_sER, ER_sER, n_nw, z_nw, tag_nw, I_nw, J_nw, R_nw, EI_nw, EJ_nw, ER_nw]; rw [f2.I (vq _ _ rfl), xt]; exact th
    have w5 : h3.I 1164 (SA + 2 + i) = bI false := by rw [← hh3]; simp [n_sI, z_sI, tag_sI, I_sI, J_sI, R_sI, EI_sI, EJ_sI, ER_sI, n_sJ, z_sJ, tag_sJ, I_sJ, J_sJ, R_sJ, EI_sJ, EJ_sJ, ER_sJ, n_sR, z_sR, tag_sR, I_sR, J_sR, R_sR, EI_sR, EJ_sR, ER_sR, n_sEI, z_sEI, tag_sEI, I_sEI, J_sEI, R_sEI, EI_sEI, EJ_sEI, ER_sEI, n_sEJ, z_sEJ, tag_sEJ, I_sEJ, J_sEJ, R_sEJ, EI_sEJ, EJ_sEJ, ER_sEJ, n_sER, z_sER, tag_sER, I_sER, J_sER, R_sER, EI_sER, EJ_sER, ER_sER, n_nw, z_nw, tag_nw, I_nw, J_nw, R_nw, EI_nw, EJ_nw, ER_nw]; rw [f2.I (vq _ _ rfl)]; exact gs
    have w6 : h3.J 1156 (SA + 2 + i) = x.2.1.2.1 := by rw [← hh3]; simp [n_sI, z_sI, tag_sI, I_sI, J_sI, R_sI, EI_sI, EJ_sI, ER_sI, n_sJ, z_sJ, tag_sJ, I_sJ, J_sJ, R_sJ, EI_sJ, EJ_sJ, ER_sJ, n_sR, z_sR, tag_sR, I_sR, J_sR, R_sR, EI_sR, EJ_sR, ER_sR, n_sEI, z_sEI, tag_sEI, I_sEI, J_sEI, R_sEI, EI_sEI, EJ_sEI, ER_sEI, n_sEJ, z_sEJ, tag_sEJ, I_sEJ, J_sEJ, R_sEJ, EI_sEJ, EJ_sEJ, ER_sEJ, n_sER, z_sER, tag_sER, I_sER, J_sER, R_sER, EI_sER, EJ_sER, ER_sER, n_nw, z_nw, tag_nw, I_nw, J_nw, R_nw, EI_nw, EJ_nw, ER_nw]
    have w7 : h3.J 1157 (SA + 2 + i) = x.2.1.2.2.1 := by rw [← hh3]; simp [n_sI, z_sI, tag_sI, I_sI, J_sI, R_sI, EI_sI, EJ_sI, ER_sI, n_sJ, z_sJ, tag_sJ, I_sJ, J_sJ, R_sJ, EI_sJ, EJ_sJ, ER_sJ, n_sR, z_sR, tag_sR, I_sR, J_sR, R_sR, EI_sR, EJ_sR, ER_sR, n_sEI, z_sEI, tag_sEI, I_sEI, J_sEI, R_sEI, EI_sEI, EJ_sEI, ER_sEI, n_sEJ, z_sEJ, tag_sEJ, I_sEJ, J_sEJ, R_sEJ, EI_sEJ, EJ_sEJ, ER_sEJ, n_sER, z_sER, tag_sER, I_sER, J_sER, R_sER, EI_sER, EJ_sER, ER_sER, n_nw, z_nw, tag_nw, I_nw, J_nw, R_nw, EI_nw, EJ_nw, ER_nw]
    have w8 : h3.R 1158 (SA + 2 + i) = h1.R 1158 (LA + 2 + k) := by rw [← hh3]; simp [n_sI, z_sI, tag_sI, I_sI, J_sI, R_sI, EI_sI, EJ_sI, ER_sI, n_sJ, z_sJ, tag_sJ, I_sJ, J_sJ, R_sJ, EI_sJ, EJ_sJ, ER_sJ, n_sR, z_sR, tag_sR, I_sR, J_sR, R_sR, EI_sR, EJ_sR, ER_sR, n_sEI, z_sEI, tag_sEI, I_sEI, J_sEI, R_sEI, EI_sEI, EJ_sEI, ER_sEI, n_sEJ, z_sEJ, tag_sEJ, I_sEJ, J_sEJ, R_sEJ, EI_sEJ, EJ_sEJ, ER_sEJ, n_sER, z_sER, tag_sER, I_sER, J_sER, R_sER, EI_sER, EJ_sER, ER_sER, n_nw, z_nw, tag_nw, I_nw, J_nw, R_nw, EI_nw, EJ_nw, ER_nw]
    have w9 : h3.R 1159 (SA + 2 + i) = h1.R 1159 (LA + 2 + k) := by rw [← hh3]; simp [n_sI, z_sI, tag_sI, I_sI, J_sI, R_sI, EI_sI, EJ_sI, ER_sI, n_sJ, z_sJ, tag_sJ, I_sJ, J_sJ, R_sJ, EI_sJ, EJ_sJ, ER_sJ, n_sR, z_sR, tag_sR, I_sR, J_sR, R_sR, EI_sR, EJ_sR, ER_sR, n_sEI, z_sEI, tag_sEI, I_sEI, J_sEI, R_sEI, EI_sEI, EJ_sEI, ER_sEI, n_sEJ, z_sEJ, tag_sEJ, I_sEJ, J_sEJ, R_sEJ, EI_sEJ, EJ_sEJ, ER_sEJ, n_sER, z_sER, tag_sER, I_sER, J_sER, R_sER, EI_sER, EJ_sER, ER_sER, n_nw, z_nw, tag_nw, I_nw, J_nw, R_nw, EI_nw, EJ_nw, ER_nw]; exact fun q => absurd q ne
    have ok := o22 _ n4
    have li := get_lt gi
    have fin : ∀ o', VH XX.G B h3 q l2' o' → (o' (0, 0, i, 0) = o (4, t, k, 0)) → o' (4, t, k, 0) = none → (∀ p, p ≠ (0, 0, i, 0) → p ≠ (4, t, k, 0) → o' p = o p) → (∀ p z, o' p = some z → ∃ r, o2 r = some z) → V XX K 240 [.ref A, l1, l2, .ref (LA + 2 + k), .ref (SA + 2 + i)] [] h3 := fun o' v' e1 e2 e3 e4 => by
      refine kk h3 l2' o' fh v' (et.bld (i := i) f0 nr np c3 hl hs (fun z hz => ?_) (fun e he _ => e3 _ (fun q => he (congrArg (fun p : Sl => p.2.2.1) q)) (fun q => absurd (congrArg Prod.fst q) (show (0 : Nat) ≠ 4 by decide))) (fun e he => ?_)) e2 (fun p hp hp2 => e3 p (fun q => hp (by rw [q]; exact ⟨rfl, rfl, rfl⟩)) hp2) (fun p z hz => ?_)
      · rw [gi] at hz
        have hz : (x.1, x.2.1, false) = z := Option.some.inj hz
        subst hz
        refine ⟨⟨⟨w1, w2, w3⟩, hp⟩, ⟨w4, w6, w7⟩, ⟨w5, fun z1 z2 => by rw [w8]; exact x5 z1 z2⟩, ?_⟩
        show match x.2.1.2.2.2 with
          | some v => _
          | none => _
        rw [e1, w9]; exact x6
      · rw [e3 _ (fun z => by have : e = i := congrArg (fun p : Sl => p.2.2.1) z; omega) (fun q => absurd (congrArg Prod.fst q) (show (0 : Nat) ≠ 4 by decide))]
        exact et.2.2 e (by omega)
      · obtain ⟨r, hr⟩ := e4 p z hz
        refine ⟨⟨r, ?_⟩, by rw [tg3 r z (by simp) hr]; exact tg2 r z hr⟩
        by_cases q : r = (0, 0, i, 0)
        · rw [q, n2] at hr; cases hr
        · rw [← o22 r q]; exact hr
    cases hm' : o2 (4, t, k, 0) with
    | none => exact fin o2 v3 (by rw [n2, ← ok, hm']) hm' (fun p hp _ => o22 p hp) (fun p z hz => ⟨p, hz⟩)
    | some w =>
      refine fin _ (v3.mov hm' n2) (by rw [uO_s, ← ok, hm']) (by rw [uO_n n4, uO_s]) (fun p h1 h2 => by rw [uO_n h1, uO_n h2]; exact o22 p h1) (fun p z hz => ?_)
      by_cases q1 : p = (0, 0, i, 0)
      · rw [q1, uO_s] at hz
        exact ⟨_, by rw [hm']; exact hz⟩
      · rw [uO_n q1] at hz
        by_cases q2 : p = (4, t, k, 0)
        · rw [q2, uO_s] at hz; cases hz
        · rw [uO_n q2] at hz; exact ⟨p, hz⟩
  rcases hv with ⟨e1, e2⟩ | ⟨z, e1, e2, e3⟩
  · refine k_X1_takeOver_179 (x3 := none) (r2 := e2) oo (fun _ => ?_) (fun a ca => nomatch ca)
    exact key h1 l o (Fr.refl h1) v e1 (fun _ _ => rfl) (fun _ _ _ => rfl)
  · refine k_X1_takeOver_179 (x3 := some z.1) (r2 := e2) oo (fun c => nomatch c) (fun a ca => ?_)
    refine k_X1_takeOver_187 (x6 := z.1) oo ?_
    refine vdrop_ok v e1 (by omega) fun h2 l2 f2 n2 v2 tg2 a2 => ?_
    exact key h2 l2 _ f2 v2 uO_s (fun p hp => uO_n hp) (fun p w hw => by
      by_cases q : p = (0, 0, i, 0)
      · rw [q, uO_s] at hw; cases hw
      · rw [uO_n q] at hw
        exact tg2 p w (by simpa using q) hw)
end
