/-! what a transaction has left becomes the state: the whole -/
def PTb (A SA LA f a : Nat) : Prop := PTo SA LA f a ∨ (f = 18 ∧ a = A)
theorem PTb.no {A SA LA : Nat} {l : List Nat} (h : l.all (fun f => !((3712 ≤ f && f ≤ 3718) || f == 1280 || (1025 :: etE).contains f)) = true) (h2 : l.all (fun f => !(f == 18)) = true) : ∀ f a, l.contains f = true → ¬ PTb A SA LA f a := fun f a hf z => by
  rcases z with z | ⟨z, -⟩
  · exact PTo.no h f a hf z
  · rw [List.all_eq_true] at h2
    have := h2 f (List.contains_iff_mem.mp hf)
    rw [z] at this; exact absurd this (by decide)
section
variable {G : Gt} {B d : Nat} {h : AH} {l : List Nat} {o : Lc} {A q X SA LA t : Nat} {MA : Ma} {K : Outcome → AH → Prop} {st ls : Lw}
/-- the end of it -/
theorem tov_262 {XX : Xt} (oo : OK e_X1_takeOver XX) {S0 : Lw} {h1 : AH} {l1 : List Nat} {o1 : Lc} {v2 v3 v4 : Value} (tX : h.tag X = some (21, 0)) (rL : h.R 2705 X = some LA) (far : LA + 32 ≤ SA ∨ SA + 258 ≤ LA) (r : TO2 XX.G B h o q SA LA t MA S0 ls ls.length h1 l1 o1) (tX1 : h1.tag X = some (21, 0)) (rL1 : h1.R 2705 X = some LA) (kk : ∀ h' l' o', Fr (PTo SA LA) h h' → VH XX.G B h' q l' o' → EtR h' o' 0 0 SA 256 MA (ls.foldl tk2 S0) → EtR h' o' 4 t LA 30 MA [] → (∀ p : Sl, ¬ (p.1 = 0 ∧ p.2.1 = 0 ∧ p.2.2.2 = 0) → ¬ (p.1 = 4 ∧ p.2.1 = t ∧ p.2.2.2 = 0) → o' p = o p) → (∀ p z, o' p = some z → (∃ r, o r = some z) ∧ h'.R 3718 z.1 = h.R 3718 z.1) → STO h' SA (ls.foldl tk2 S0) → K (.returned none) h') : V XX K 262 [.ref A, .ref X, v2, v3, v4] [] h1 := by
  obtain ⟨f1, v1, e1, ep, en, on, sto, c1, c2⟩ := id r
  rw [List.take_of_length_le (Nat.le_refl _)] at e1 sto
  obtain ⟨⟨⟨s1, s2, s3⟩, s4⟩, ⟨s5, s6, s7⟩, s8⟩ := id ep
  refine k_X1_takeOver_262 oo ?_
  have f2 : Fq (fun f a => f = 1025 ∧ a = LA) h1 (h1.sI 1025 LA (nI 0)) := Fq.sI (Fq.refl h1) ⟨rfl, rfl⟩
  have c0 : (h1.sI 1025 LA (nI 0)).I 1025 LA = nI 0 := by simp [n_sI, z_sI, tag_sI, I_sI, J_sI, R_sI, EI_sI, EJ_sI, ER_sI, n_sJ, z_sJ, tag_sJ, I_sJ, J_sJ, R_sJ, EI_sJ, EJ_sJ, ER_sJ, n_sR, z_sR, tag_sR, I_sR, J_sR, R_sR, EI_sR, EJ_sR, ER_sR, n_sEI, z_sEI, tag_sEI, I_sEI, J_sEI, R_sEI, EI_sEI, EJ_sEI, ER_sEI, n_sEJ, z_sEJ, tag_sEJ, I_sEJ, J_sEJ, R_sEJ, EI_sEJ, EJ_sEJ, ER_sEJ, n_sER, z_sER, tag_sER, I_sER, J_sER, R_sER, EI_sER, EJ_sER, ER_sER, n_nw, z_nw, tag_nw, I_nw, J_nw, R_nw, EI_nw, EJ_nw, ER_nw]
  generalize h1.sI 1025 LA (nI 0) = h2 at f2 c0
  obtain ⟨v2', tg2⟩ := v1.oth f2 (fun f a y q => by rw [q.1] at y; exact VQ.no (l := [1025]) rfl _ _ rfl y)
  have n2 : ∀ f a, f ≠ 1025 → ¬ (f = 1025 ∧ a = LA) := fun f a h1 q => h1 q.1
  refine kk h2 l1 o1 (f1.trans (f2.1.mono fun f a q => Or.inr ⟨Or.inr q.1, by omega, by omega⟩)) v2' (e1.fr f2.1 (fun f a hf z1 z2 q => by have := q.2; omega) (fun _ => rfl)) ⟨⟨⟨⟨f2.1.tag s1, by rw [f2.1.R (n2 _ _ (by decide))]; exact s2, f2.1.tag s3⟩, fun e he => ⟨by rw [f2.1.ER (n2 _ _ (by decide))]; exact (s4 e he).1, f2.1.tag (s4 e he).2⟩⟩, ⟨c0, by simp, s7⟩, fun e p hp => by simp at hp⟩, fun e x hx => by simp at hx, fun e _ => on e (by omega)⟩ c1 (fun p z hz => ?_) ⟨sto.1, sto.2.1, fun e he => by rw [f2.1.I (n2 _ _ (by decide))]; exact sto.2.2 e he⟩
  obtain ⟨w1, w2⟩ := c2 p z hz
  exact ⟨w1, by rw [tg2 p z (by simp) hz]; exact w2⟩
theorem takeOver_ok {bn : Int64} {us : Nat} (t0 : h.tag A = some (0, 0)) (rq : h.R 2 A = some q) (rS : h.R 1 A = some SA) (tX : h.tag X = some (21, 0)) (rL : h.R 2705 X = some LA) (far : LA + 32 ≤ SA ∨ SA + 258 ≤ LA) (v : VH G B h q l o) (et : EtR h o 0 0 SA 256 MA st) (lf : EtR h o 4 t LA 30 MA ls) (sto : STO h SA st) (hbn : h.J 18 A = bn) (hus : h.I 2710 X = nI us) (hus2 : us < 2147483648) (hk2 : ∀ x ∈ ls, x.1.1 ≠ 2) (hv : ∀ x ∈ ls, ∀ v, x.2.1.2.2.2 = some v → (x.1.1 < 4 ∧ x.2.1.1 = true) ∧ fdp v.2.2 ≤ 40) (hl : (tkOv st ls).length ≤ 256) (hd : 44 ≤ d) (kk : ∀ h' l' o', Fr (PTb A SA LA) h h' → VH G B h' q l' o' → EtR h' o' 0 0 SA 256 MA (tkOv st ls) → EtR h' o' 4 t LA 30 MA [] → (∀ p : Sl, ¬ (p.1 = 0 ∧ p.2.1 = 0 ∧ p.2.2.2 = 0) → ¬ (p.1 = 4 ∧ p.2.1 = t ∧ p.2.2.2 = 0) → o' p = o p) → (∀ p z, o' p = some z → (∃ r, o r = some z) ∧ h'.R 3718 z.1 = h.R 3718 z.1) → STO h' SA (tkOv st ls) → h'.J 18 A = bn + lN us → K (.returned none) h') : MW G d e_X1_takeOver [.ref A, .ref X] h K := by
  refine st_X1_takeOver fun XX oo hG hD _ => ?_
  subst hG; subst hD
  refine k_X1_takeOver_0 (r2 := hbn) (r5 := hus) oo ?_
  rw [nI_64 hus2]
  have f0 : Fq (fun f a => f = 18 ∧ a = A) h (h.sJ 18 A (bn + lN us)) := Fq.sJ (Fq.refl h) ⟨rfl, rfl⟩
  have c0 : (h.sJ 18 A (bn + lN us)).J 18 A = bn + lN us := by simp [n_sI, z_sI, tag_sI, I_sI, J_sI, R_sI, EI_sI, EJ_sI, ER_sI, n_sJ, z_sJ, tag_sJ, I_sJ, J_sJ, R_sJ, EI_sJ, EJ_sJ, ER_sJ, n_sR, z_sR, tag_sR, I_sR, J_sR, R_sR, EI_sR, EJ_sR, ER_sR, n_sEI, z_sEI, tag_sEI, I_sEI, J_sEI, R_sEI, EI_sEI, EJ_sEI, ER_sEI, n_sEJ, z_sEJ, tag_sEJ, I_sEJ, J_sEJ, R_sEJ, EI_sEJ, EJ_sEJ, ER_sEJ, n_sER, z_sER, tag_sER, I_sER, J_sER, R_sER, EI_sER, EJ_sER, ER_sER, n_nw, z_nw, tag_nw, I_nw, J_nw, R_nw, EI_nw, EJ_nw, ER_nw]
  generalize h.sJ 18 A (bn + lN us) = h0 at f0 c0
  have n0 : ∀ f a, f ≠ 18 → ¬ (f = 18 ∧ a = A) := fun f a h1 q => h1 q.1
  have nl : ∀ l : List Nat, l.all (fun f => !(f == 18)) = true → ∀ f a, l.contains f = true → ¬ (f = 18 ∧ a = A) := fun l hl f a hf q => by
    rw [List.all_eq_true] at hl
    have := hl f (List.contains_iff_mem.mp hf)
    rw [q.1] at this; exact absurd this (by decide)
  obtain ⟨v0, tg0⟩ := v.oth f0 (fun f a y q => by rw [q.1] at y; exact VQ.no (l := [18]) rfl _ _ rfl y)
  have t00 := f0.1.tag t0
  have tX0 := f0.1.tag tX
  have rq0 : h0.R 2 A = some q := by rw [f0.1.R (n0 _ _ (by decide))]; exact rq
  have rS0 : h0.R 1 A = some SA := by rw [f0.1.R (n0 _ _ (by decide))]; exact rS
  have rL0 : h0.R 2705 X = some LA := by rw [f0.1.R (n0 _ _ (by decide))]; exact rL
  have et0 := et.fr f0.1 (fun f a hf _ _ => nl etF rfl f a hf) (fun _ => rfl)
  have lf0 := lf.fr f0.1 (fun f a hf _ _ => nl etF rfl f a hf) (fun _ => rfl)
  have so0 : STO h0 SA st := ⟨sto.1, sto.2.1, fun e he => by rw [f0.1.I (n0 _ _ (by decide))]; exact sto.2.2 e he⟩
  refine tov_16 (h := h0) (o := o) (ls := ls) (st := st) oo t00 rq0 rS0 tX0 rL0 far hd (fun h1 l1 o1 v2 v3 v4 f1 v1 e1 e2 c1 c2 c3 => ?_) ls.length 0 (by omega) h0 l o _ _ (Fr.refl h0) v0 et0 lf0 (fun _ _ => rfl) (fun p z hz => ⟨⟨p, hz⟩, rfl⟩) so0
  refine k_X1_takeOver_94 oo ?_
  have r1 : TO2 XX.G B h1 o1 q SA LA t MA (ls.foldl tk1 st) ls 0 h1 l1 o1 := ⟨Fr.refl h1, v1, e1, e2.1, fun e x _ hx => e2.2.1 e x hx, fun e he => e2.2.2 e (by omega), c3, fun _ _ _ => rfl, fun p z hz => ⟨⟨p, hz⟩, rfl⟩⟩
  have no1 := PSt.no (SA := SA) (l := [2, 1, 2705]) rfl
  have tX1 := f1.tag tX0
  have rL1 : h1.R 2705 X = some LA := by rw [f1.R (no1 _ _ rfl)]; exact rL0
  refine tov_96 (h := h1) (o := o1) (K0 := ls.length) (k0 := 0) oo (f1.tag t00) (by rw [f1.R (no1 _ _ rfl)]; exact rq0) (by rw [f1.R (no1 _ _ rfl)]; exact rS0) tX1 rL1 far hd (Nat.le_refl _) (fun e x _ _ hx => hk2 x (List.mem_of_getElem? hx)) hv hl (fun h2 l2 o2 v3 v4 r2 => ?_) ls.length 0 (by omega) (Nat.le_refl _) h1 l1 o1 _ _ r1
  have no2 := PTo.no (SA := SA) (LA := LA) (l := [2705]) rfl
  have tX2 := r2.1.tag tX1
  have rL2 : h2.R 2705 X = some LA := by rw [r2.1.R (no2 _ _ rfl)]; exact rL1
  obtain ⟨⟨⟨s1, s2, s3⟩, s4⟩, ⟨s5, s6, s7⟩, s8⟩ := id r2.2.2.2.1
  rw [List.length_map] at s5 s6
  refine k_X1_takeOver_96 (r5 := s5) oo (fun _ => ?_) (fun c => absurd (Int32.le_refl _) c)
  refine tov_262 oo tX1 rL1 far r2 tX2 rL2 fun h3 l3 o3 f3 v3 e3 e4 o33 tg3 st3 => ?_
  have fb : Fr (PTb A SA LA) h h3 := (f0.1.mono fun f a q => Or.inr q).trans ((f1.mono fun f a q => Or.inl (Or.inl q)).trans (f3.mono fun f a q => Or.inl q))
  refine kk h3 l3 o3 fb v3 e3 e4 (fun p h1 h2 => (o33 p h1 h2).trans (c1 p h1)) (fun p z hz => ?_) st3 ?_
  · obtain ⟨⟨r, hr⟩, w2⟩ := tg3 p z hz
    obtain ⟨⟨r', hr'⟩, w3⟩ := c2 r z hr
    exact ⟨⟨r', hr'⟩, by rw [w2, w3]; exact tg0 r' z (by simp) hr'⟩
  · rw [f3.J (PTo.no (l := [18]) rfl _ _ rfl), f1.J (PSt.no (l := [18]) rfl _ _ rfl)]; exact c0
end
