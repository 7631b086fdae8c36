/-! what a publication has left becomes the state -/
section
variable {G : Gt} {B d : Nat} {h : AH} {l : List Nat} {o : Lc} {A q X SA LA t : Nat} {MA : Ma} {K : Outcome → AH → Prop} {st ls S0 : Lw}
theorem spare_ok {sp SR NM : Nat} (t0 : h.tag A = some (0, 0)) (e1 : h.I 32 A = nI sp) (rS : h.R 31 A = some SR) (tS : h.tag SR = some (152, 8)) (hs : sp < 8) (er : h.ER 152 SR sp = some NM) (kk : K (.returned (some (.ref NM))) (h.sI 32 A (nI (sp + 1)))) : MW G d e_X1_spare [.ref A] h K := by
  refine st_X1_spare fun XX oo hG hD _ => ?_
  subst hG; subst hD
  have ix : IX ((nI sp + nI 1) - nI 1) 8 sp := by
    rw [Int32.add_sub_cancel]
    exact IX.mk hs (by omega)
  refine k_X1_spare_0 (r2 := e1) (r10 := er) oo ?_
  rw [nI_add]
  exact kk
/-- fields that matter to none of it; from here on -/
theorem TO2.re {P : Nat → Nat → Prop} {k : Nat} {h0 h' : AH} {o0 : Lc} (r : TO2 G B h0 o0 q SA LA t MA S0 ls k h l o) (f : Fq P h h') (np : ∀ f a, etF.contains f = true → ¬ P f a) (nv : ∀ f a, VQ f a → ¬ P f a) : TO2 G B h' o q SA LA t MA S0 ls k h' l o := by
  obtain ⟨f1, v1, e1, ep, en, on, sto, c1, c2⟩ := r
  obtain ⟨v2, tg⟩ := v1.oth f nv
  refine ⟨Fr.refl h', v2, e1.fr f.1 (fun f a hf _ _ => np f a hf) (fun _ => rfl), ep.fr f.1 (fun f a hf _ _ => np f a hf), fun e x he hx => ?_, on, ⟨sto.1, sto.2.1, fun e he => by rw [f.1.I (np _ _ rfl)]; exact sto.2.2 e he⟩, fun _ _ _ => rfl, fun p z hz => ⟨⟨p, hz⟩, rfl⟩⟩
  obtain ⟨⟨x1, x2, x3⟩, ⟨x4, x5⟩, x6⟩ := en e x he hx
  refine ⟨⟨by rw [f.1.I (np _ _ rfl)]; exact x1, by rw [f.1.J (np _ _ rfl)]; exact x2, by rw [f.1.J (np _ _ rfl)]; exact x3⟩, ⟨by rw [f.1.I (np _ _ rfl)]; exact x4, fun w1 w2 => by rw [f.1.R (np _ _ rfl)]; exact x5 w1 w2⟩, ?_⟩
  rw [f.1.R (np _ _ rfl)]; exact x6
def PTm (A X SA LA f a : Nat) : Prop := PTb A SA LA f a ∨ (f = 2698 ∧ a = X) ∨ (f = 32 ∧ a = A)
theorem PTm.no {A X SA LA : Nat} {l : List Nat} (h : l.all (fun f => !((3712 ≤ f && f ≤ 3718) || f == 1280 || (1025 :: etE).contains f)) = true) (h2 : l.all (fun f => !([18, 2698, 32].contains f)) = true) : ∀ f a, l.contains f = true → ¬ PTm A X SA LA f a := fun f a hf z => by
  rw [List.all_eq_true] at h2
  have := h2 f (List.contains_iff_mem.mp hf)
  rcases z with (z | ⟨z, -⟩) | ⟨z, -⟩ | ⟨z, -⟩
  · exact PTo.no h f a hf z
  · rw [z] at this; exact absurd this (by decide)
  · rw [z] at this; exact absurd this (by decide)
  · rw [z] at this; exact absurd this (by decide)
theorem takeOverM_ok {bn : Int64} {us km sp SR NM : Nat} {xm : Pc × Cn × Bool} (t0 : h.tag A = some (0, 0)) (rq : h.R 2 A = some q) (rS : h.R 1 A = some SA) (tX : h.tag X = some (21, 0)) (rL : h.R 2705 X = some LA) (far : LA + 32 ≤ SA ∨ SA + 258 ≤ LA) (v : VH G B h q l o) (et : EtR h o 0 0 SA 256 MA st) (lf : EtR h o 4 t LA 30 MA ls) (sto : STO h SA st) (hbn : h.J 18 A = bn) (hus : h.I 2710 X = nI us) (hus2 : us < 2147483648) (hxm : (ls)[km]? = some xm) (xm2 : xm.1.1 = 2) (xmt : xm.2.1.1 = true) (hk2 : ∀ (e : Nat) (x : Pc × Cn × Bool), e ≠ km → (ls)[e]? = some x → x.1.1 ≠ 2) (hsp : h.I 32 A = nI sp) (rSp : h.R 31 A = some SR) (tSp : h.tag SR = some (152, 8)) (hs8 : sp < 8) (eSp : h.ER 152 SR sp = some NM) (hv : ∀ x ∈ ls, ∀ v, x.2.1.2.2.2 = some v → (x.1.1 < 4 ∧ x.2.1.1 = true) ∧ fdp v.2.2 ≤ 40) (hl : (tkOv st ls).length ≤ 256) (hd : 44 ≤ d) (kk : ∀ h' l' o', Fr (PTm A X SA LA) h h' → VH G B h' q l' o' → EtR h' o' 0 0 SA 256 MA (tkOv st ls) → EtR h' o' 4 t LA 30 MA [] → (∀ p : Sl, ¬ (p.1 = 0 ∧ p.2.1 = 0 ∧ p.2.2.2 = 0) → ¬ (p.1 = 4 ∧ p.2.1 = t ∧ p.2.2.2 = 0) → o' p = o p) → (∀ p z, o' p = some z → (∃ r, o r = some z) ∧ h'.R 3718 z.1 = h.R 3718 z.1) → STO h' SA (tkOv st ls) → h'.J 18 A = bn + lN us → h'.R 2698 X = some NM → h'.I 32 A = nI (sp + 1) → K (.returned none) h') : MW G d e_X1_takeOver [.ref A, .ref X] h K := by
  refine st_X1_takeOver fun XX oo hG hD _ => ?_
  subst hG; subst hD
  refine k_X1_takeOver_0 (r2 := hbn) (r5 := hus) oo ?_
  rw [nI_64 hus2]
  have f0 : Fq (fun f a => f = 18 ∧ a = A) h (h.sJ 18 A (bn + lN us)) := Fq.sJ (Fq.refl h) ⟨rfl, rfl⟩
  have c0 : (h.sJ 18 A (bn + lN us)).J 18 A = bn + lN us := by simp [n_sI, z_sI, tag_sI, I_sI, J_sI, R_sI, EI_sI, EJ_sI, ER_sI, n_sJ, z_sJ, tag_sJ, I_sJ, J_sJ, R_sJ, EI_sJ, EJ_sJ, ER_sJ, n_sR, z_sR, tag_sR, I_sR, J_sR, R_sR, EI_sR, EJ_sR, ER_sR, n_sEI, z_sEI, tag_sEI, I_sEI, J_sEI, R_sEI, EI_sEI, EJ_sEI, ER_sEI, n_sEJ, z_sEJ, tag_sEJ, I_sEJ, J_sEJ, R_sEJ, EI_sEJ, EJ_sEJ, ER_sEJ, n_sER, z_sER, tag_sER, I_sER, J_sER, R_sER, EI_sER, EJ_sER, ER_sER, n_nw, z_nw, tag_nw, I_nw, J_nw, R_nw, EI_nw, EJ_nw, ER_nw]
  generalize h.sJ 18 A (bn + lN us) = h0 at f0 c0
  have n0 : ∀ f a, f ≠ 18 → ¬ (f = 18 ∧ a = A) := fun f a h1 q => h1 q.1
  have nl : ∀ l : List Nat, l.all (fun f => !(f == 18)) = true → ∀ f a, l.contains f = true → ¬ (f = 18 ∧ a = A) := fun l hl f a hf q => by
    rw [List.all_eq_true] at hl
    have := hl f (List.contains_iff_mem.mp hf)
    rw [q.1] at this; exact absurd this (by decide)
  obtain ⟨v0, tg0⟩ := v.oth f0 (fun f a y q => by rw [q.1] at y; exact VQ.no (l := [18]) rfl _ _ rfl y)
  have t00 := f0.1.tag t0
  have tX0 := f0.1.tag tX
  have rq0 : h0.R 2 A = some q := by rw [f0.1.R (n0 _ _ (by decide))]; exact rq
  have rS0 : h0.R 1 A = some SA := by rw [f0.1.R (n0 _ _ (by decide))]; exact rS
  have rL0 : h0.R 2705 X = some LA := by rw [f0.1.R (n0 _ _ (by decide))]; exact rL
  have et0 := et.fr f0.1 (fun f a hf _ _ => nl etF rfl f a hf) (fun _ => rfl)
  have lf0 := lf.fr f0.1 (fun f a hf _ _ => nl etF rfl f a hf) (fun _ => rfl)
  have so0 : STO h0 SA st := ⟨sto.1, sto.2.1, fun e he => by rw [f0.1.I (n0 _ _ (by decide))]; exact sto.2.2 e he⟩
  have kml := get_lt hxm
  have l30 : ls.length ≤ 30 := by have := lf.1.2.1.2.1; rw [List.length_map] at this; exact this
  refine tov_16 (h := h0) (o := o) (ls := ls) (st := st) oo t00 rq0 rS0 tX0 rL0 far hd (fun h1 l1 o1 v2 v3 v4 f1 v1 e1 e2 c1 c2 c3 => ?_) ls.length 0 (by omega) h0 l o _ _ (Fr.refl h0) v0 et0 lf0 (fun _ _ => rfl) (fun p z hz => ⟨⟨p, hz⟩, rfl⟩) so0
  refine k_X1_takeOver_94 oo ?_
  have r1 : TO2 XX.G B h1 o1 q SA LA t MA (ls.foldl tk1 st) ls 0 h1 l1 o1 := ⟨Fr.refl h1, v1, e1, e2.1, fun e x _ hx => e2.2.1 e x hx, fun e he => e2.2.2 e (by omega), c3, fun _ _ _ => rfl, fun p z hz => ⟨⟨p, hz⟩, rfl⟩⟩
  have no1 := PSt.no (SA := SA) (l := [2, 1, 2705, 32, 31, 10000 + 152]) rfl
  have no2 := PTo.no (SA := SA) (LA := LA) (l := [2, 1, 2705, 32, 31, 10000 + 152, 2698]) rfl
  have tX1 := f1.tag tX0
  have t01 := f1.tag t00
  have rL1 : h1.R 2705 X = some LA := by rw [f1.R (no1 _ _ rfl)]; exact rL0
  have rq1 : h1.R 2 A = some q := by rw [f1.R (no1 _ _ rfl)]; exact rq0
  have rS1 : h1.R 1 A = some SA := by rw [f1.R (no1 _ _ rfl)]; exact rS0
  have p1 : h1.I 32 A = nI sp := by rw [f1.I (no1 _ _ rfl), f0.1.I (n0 _ _ (by decide))]; exact hsp
  have p2 : h1.R 31 A = some SR := by rw [f1.R (no1 _ _ rfl), f0.1.R (n0 _ _ (by decide))]; exact rSp
  have p3 := f1.tag (f0.1.tag tSp)
  have p4 : h1.ER 152 SR sp = some NM := by rw [f1.ER (no1 _ _ rfl), f0.1.ER (n0 _ _ (by decide))]; exact eSp
  refine tov_96 (h := h1) (o := o1) (K0 := km) (k0 := 0) oo t01 rq1 rS1 tX1 rL1 far hd (by omega) (fun e x _ he hx => hk2 e x (by omega) hx) hv hl (fun h2 l2 o2 v3 v4 r2 => ?_) km 0 (by omega) (Nat.le_refl _) h1 l1 o1 _ _ r1
  refine tov_one oo t01 rq1 rS1 tX1 rL1 far hd hxm hv hl r2 (fun nn => absurd ⟨by omega, xmt⟩ nn) (fun k4 h3 l3 o3 v4 r3 tL y => ?_)
  have g3 := r3.1
  refine k_X1_takeOver_240 (r2 := y) oo (fun c => absurd (by rw [xm2]) c) (fun _ => ?_)
  have t03 := g3.tag t01
  have tX3 := g3.tag tX1
  refine k_X1_takeOver_248 oo ?_
  refine spare_ok (sp := sp) (SR := SR) (NM := NM) t03 (by rw [g3.I (no2 _ _ rfl)]; exact p1) (by rw [g3.R (no2 _ _ rfl)]; exact p2) (g3.tag p3) hs8 (by rw [g3.ER (no2 _ _ rfl)]; exact p4) ?_
  have tX3' : (h3.sI 32 A (nI (sp + 1))).tag X = some (21, 0) := tX3
  refine k_X1_takeOver_253 oo ?_
  generalize hh4 : (h3.sI 32 A (nI (sp + 1))).sR 2698 X (some NM) = h4
  have f4 : Fq (fun f a => (f = 2698 ∧ a = X) ∨ (f = 32 ∧ a = A)) h3 h4 := by
    rw [← hh4]
    exact Fq.sR (Fq.sI (Fq.refl h3) (Or.inr ⟨rfl, rfl⟩)) (Or.inl ⟨rfl, rfl⟩)
  have m4 : h4.R 2698 X = some NM := by rw [← hh4]; simp [n_sI, z_sI, tag_sI, I_sI, J_sI, R_sI, EI_sI, EJ_sI, ER_sI, n_sJ, z_sJ, tag_sJ, I_sJ, J_sJ, R_sJ, EI_sJ, EJ_sJ, ER_sJ, n_sR, z_sR, tag_sR, I_sR, J_sR, R_sR, EI_sR, EJ_sR, ER_sR, n_sEI, z_sEI, tag_sEI, I_sEI, J_sEI, R_sEI, EI_sEI, EJ_sEI, ER_sEI, n_sEJ, z_sEJ, tag_sEJ, I_sEJ, J_sEJ, R_sEJ, EI_sEJ, EJ_sEJ, ER_sEJ, n_sER, z_sER, tag_sER, I_sER, J_sER, R_sER, EI_sER, EJ_sER, ER_sER, n_nw, z_nw, tag_nw, I_nw, J_nw, R_nw, EI_nw, EJ_nw, ER_nw]
  have s4 : h4.I 32 A = nI (sp + 1) := by rw [← hh4]; simp [n_sI, z_sI, tag_sI, I_sI, J_sI, R_sI, EI_sI, EJ_sI, ER_sI, n_sJ, z_sJ, tag_sJ, I_sJ, J_sJ, R_sJ, EI_sJ, EJ_sJ, ER_sJ, n_sR, z_sR, tag_sR, I_sR, J_sR, R_sR, EI_sR, EJ_sR, ER_sR, n_sEI, z_sEI, tag_sEI, I_sEI, J_sEI, R_sEI, EI_sEI, EJ_sEI, ER_sEI, n_sEJ, z_sEJ, tag_sEJ, I_sEJ, J_sEJ, R_sEJ, EI_sEJ, EJ_sEJ, ER_sEJ, n_sER, z_sER, tag_sER, I_sER, J_sER, R_sER, EI_sER, EJ_sER, ER_sER, n_nw, z_nw, tag_nw, I_nw, J_nw, R_nw, EI_nw, EJ_nw, ER_nw]
  have n4 : ∀ l : List Nat, l.all (fun f => !([2698, 32].contains f)) = true → ∀ f a, l.contains f = true → ¬ ((f = 2698 ∧ a = X) ∨ (f = 32 ∧ a = A)) := fun l hl f a hf q => by
    rw [List.all_eq_true] at hl
    have := hl f (List.contains_iff_mem.mp hf)
    rcases q with ⟨q, -⟩ | ⟨q, -⟩ <;> (rw [q] at this; exact absurd this (by decide))
  have r4 := r3.re f4 (n4 etF rfl) (fun f a y q => by
    rcases q with ⟨q, -⟩ | ⟨q, -⟩ <;> (rw [q] at y; exact VQ.no (l := [2698, 32]) rfl _ _ rfl y))
  obtain ⟨-, v3', -, -, -, -, -, c31, c32⟩ := r3
  obtain ⟨-, tg4⟩ := v3'.oth f4 (fun f a y q => by
    rcases q with ⟨q, -⟩ | ⟨q, -⟩ <;> (rw [q] at y; exact VQ.no (l := [2698, 32]) rfl _ _ rfl y))
  have t04 := f4.1.tag t03
  have tX4 := f4.1.tag tX3
  have rL4 : h4.R 2705 X = some LA := by rw [f4.1.R (n4 [2705] rfl _ _ rfl), g3.R (no2 _ _ rfl)]; exact rL1
  have rq4 : h4.R 2 A = some q := by rw [f4.1.R (n4 [2] rfl _ _ rfl), g3.R (no2 _ _ rfl)]; exact rq1
  have rS4 : h4.R 1 A = some SA := by rw [f4.1.R (n4 [1] rfl _ _ rfl), g3.R (no2 _ _ rfl)]; exact rS1
  refine k_X1_takeOver_256 oo ?_
  rw [nI_add]
  refine tov_96 (h := h4) (o := o3) (K0 := ls.length) (k0 := km + 1) oo t04 rq4 rS4 tX4 rL4 far hd (Nat.le_refl _) (fun e x he _ hx => hk2 e x (by omega) hx) hv hl (fun h5 l5 o5 v3 v4 r5 => ?_) (ls.length - (km + 1)) (km + 1) (by omega) (Nat.le_refl _) h4 l3 o3 _ _ r4
  have tX5 := r5.1.tag tX4
  have rL5 : h5.R 2705 X = some LA := by rw [r5.1.R (no2 _ _ rfl)]; exact rL4
  obtain ⟨⟨⟨s1, s2, s3⟩, s4'⟩, ⟨s5, s6, s7⟩, s8⟩ := id r5.2.2.2.1
  rw [List.length_map] at s5 s6
  refine k_X1_takeOver_96 (r5 := s5) oo (fun _ => ?_) (fun c => absurd (Int32.le_refl _) c)
  refine tov_262 oo tX4 rL4 far r5 tX5 rL5 fun h6 l6 o6 f6 v6 e6 e7 o66 tg6 st6 => ?_
  have fb : Fr (PTm A X SA LA) h h6 := (f0.1.mono fun f a q => Or.inl (Or.inr q)).trans ((f1.mono fun f a q => Or.inl (Or.inl (Or.inl q))).trans ((g3.mono fun f a q => Or.inl (Or.inl q)).trans ((f4.1.mono fun f a q => Or.inr q).trans (f6.mono fun f a q => Or.inl (Or.inl q)))))
  refine kk h6 l6 o6 fb v6 e6 e7 (fun p h1 h2 => (o66 p h1 h2).trans ((c31 p h1 h2).trans (c1 p h1))) (fun p z hz => ?_) st6 ?_ (by rw [f6.R (no2 _ _ rfl)]; exact m4) (by rw [f6.I (no2 _ _ rfl)]; exact s4)
  · obtain ⟨⟨r, hr⟩, w2⟩ := tg6 p z hz
    obtain ⟨⟨r', hr'⟩, w3⟩ := c32 r z hr
    obtain ⟨⟨r'', hr''⟩, w4⟩ := c2 r' z hr'
    exact ⟨⟨r'', hr''⟩, by rw [w2, tg4 r z (by simp) hr, w3, w4]; exact tg0 r'' z (by simp) hr''⟩
  · rw [f6.J (PTo.no (l := [18]) rfl _ _ rfl), f4.1.J (n4 [18] rfl _ _ rfl), g3.J (PTo.no (l := [18]) rfl _ _ rfl), f1.J (PSt.no (l := [18]) rfl _ _ rfl)]; exact c0
end
