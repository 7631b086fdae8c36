/-! a worker of the component's: small steps -/
theorem VQ.no {l : List Nat} (h : l.all (fun f => !((3712 ≤ f && f ≤ 3718) || f == 1280)) = true) : ∀ f a, l.contains f = true → ¬ VQ f a := fun f a hf z => by
  rw [List.all_eq_true] at h
  have := h f (List.contains_iff_mem.mp hf)
  simp only [Bool.not_eq_true', Bool.or_eq_false_iff, Bool.and_eq_false_iff] at this
  rcases z with z | z
  · rcases this.1 with t | t
    · exact absurd z.1 (by simpa using t)
    · exact absurd z.2 (by simpa using t)
  · rw [z] at this; simp at this
theorem WkR.vq {h h' : AH} {o : Lc} {wi W : Nat} {MA : Ma} {s : Ms} (w : WkR h o wi W MA s) (f1 : Fr VQ h h') (tg : TG o [] h h') : WkR h' o wi W MA s := by
  obtain ⟨⟨w1, w2, w3, w4, w5, w6⟩, w7, w8, w9⟩ := w
  have nz := VQ.no (l := swF ++ fmF ++ enF ++ [2438, 2439, 2441]) rfl
  have sub : ∀ l' : List Nat, l'.all (fun f => (swF ++ fmF ++ enF ++ [2438, 2439, 2441]).contains f) = true → ∀ f a, l'.contains f = true → ¬ VQ f a := fun l' hl f a hf => nz f a (by rw [List.all_eq_true] at hl; exact hl f (List.contains_iff_mem.mp hf))
  exact ⟨⟨w1.fr f1 (sub swF rfl), by rw [f1.I (nz _ _ rfl)]; exact w2, w3, w4, by rw [f1.I (nz _ _ rfl)]; exact w5, by rw [f1.I (nz _ _ rfl)]; exact w6⟩, fun j hj => (w7 j hj).keep f1 (fun g a hg _ _ => sub fmF rfl g a hg) (fun _ _ _ => rfl) (fun c i x _ hx => tg _ x (by simp) hx) (fun r _ a ha => ha), w8, w9.keep f1 (fun g a hg _ _ => sub enF rfl g a hg) (fun _ _ => rfl)⟩
/-- what others hold stays -/
def OUT (wi W : Nat) (h h' : AH) (o o' : Lc) : Prop := Fr (IP W) h h' ∧ ∀ p : Sl, (p.1 = 0 ∨ 3 < p.1) ∨ p.2.1 ≠ wi → o' p = o p ∧ ∀ x, o p = some x → h'.R 3718 x.1 = h.R 3718 x.1
theorem OUT.refl {wi W : Nat} {h : AH} {o : Lc} : OUT wi W h h o o := ⟨Fr.refl h, fun p _ => ⟨rfl, fun _ _ => rfl⟩⟩
theorem OUT.trans {wi W : Nat} {h h1 h2 : AH} {o o1 o2 : Lc} (a : OUT wi W h h1 o o1) (b : OUT wi W h1 h2 o1 o2) : OUT wi W h h2 o o2 := ⟨a.1.trans b.1, fun p hp => by
  obtain ⟨a1, a2⟩ := a.2 p hp
  obtain ⟨b1, b2⟩ := b.2 p hp
  exact ⟨b1.trans a1, fun x hx => by rw [b2 x (by rw [a1]; exact hx), a2 x hx]⟩⟩
/-- a change of one slot of the worker's own -/
theorem OUT.mk1 {wi W : Nat} {h h' : AH} {o : Lc} {p : Sl} {y : Option LV} (f : Fr (IP W) h h') (hp : (1 ≤ p.1 ∧ p.1 ≤ 3) ∧ p.2.1 = wi) (tg : TG o [p] h h') : OUT wi W h h' o (uO o p y) := ⟨f, fun q hq => by
  have : q ≠ p := fun e => by
    subst e
    rcases hq with z | z
    · omega
    · exact z hp.2
  exact ⟨uO_n this, fun x hx => tg q x (by simpa using this) hx⟩⟩
theorem OUT.mk0 {wi W : Nat} {h h' : AH} {o : Lc} (f : Fr (IP W) h h') (tg : TG o [] h h') : OUT wi W h h' o o := ⟨f, fun q _ => ⟨rfl, fun x hx => tg q x (by simp) hx⟩⟩
/-- the same, but for slots where values lie aside -/
def OUW (ps : List Sl) (wi W : Nat) (h h' : AH) (o o' : Lc) : Prop := Fr (IP W) h h' ∧ ∀ p : Sl, (p.1 = 0 ∨ 3 < p.1) ∨ p.2.1 ≠ wi → p ∉ ps → o' p = o p ∧ ∀ x, o p = some x → h'.R 3718 x.1 = h.R 3718 x.1
theorem OUT.w {ps : List Sl} {wi W : Nat} {h h1 : AH} {o o1 : Lc} (a : OUT wi W h h1 o o1) : OUW ps wi W h h1 o o1 := ⟨a.1, fun p hp _ => a.2 p hp⟩
theorem OUW.mono {ps qs : List Sl} {wi W : Nat} {h h1 : AH} {o o1 : Lc} (a : OUW ps wi W h h1 o o1) (hq : ∀ p ∈ ps, p ∈ qs) : OUW qs wi W h h1 o o1 := ⟨a.1, fun p hp hn => a.2 p hp fun z => hn (hq p z)⟩
theorem OUW.trans {ps : List Sl} {wi W : Nat} {h h1 h2 : AH} {o o1 o2 : Lc} (a : OUW ps wi W h h1 o o1) (b : OUW ps wi W h1 h2 o1 o2) : OUW ps wi W h h2 o o2 := ⟨a.1.trans b.1, fun p hp hn => by
  obtain ⟨a1, a2⟩ := a.2 p hp hn
  obtain ⟨b1, b2⟩ := b.2 p hp hn
  exact ⟨b1.trans a1, fun x hx => by rw [b2 x (by rw [a1]; exact hx), a2 x hx]⟩⟩
theorem OUW.out {ps : List Sl} {wi W : Nat} {h h1 h2 : AH} {o o1 o2 : Lc} (a : OUW ps wi W h h1 o o1) (b : OUT wi W h1 h2 o1 o2) : OUW ps wi W h h2 o o2 := a.trans b.w
theorem OUT.ouw {ps : List Sl} {wi W : Nat} {h h1 h2 : AH} {o o1 o2 : Lc} (a : OUT wi W h h1 o o1) (b : OUW ps wi W h1 h2 o1 o2) : OUW ps wi W h h2 o o2 := a.w.trans b
theorem OUW.cl {ps : List Sl} {wi W : Nat} {h h1 : AH} {o o1 : Lc} (a : OUW ps wi W h h1 o o1) (h0 : ∀ p ∈ ps, o p = none ∧ o1 p = none) : OUT wi W h h1 o o1 := ⟨a.1, fun p hp => by
  by_cases c : p ∈ ps
  · obtain ⟨c1, c2⟩ := h0 p c
    exact ⟨c2.trans c1.symm, fun x hx => by rw [c1] at hx; cases hx⟩
  · exact a.2 p hp c⟩
theorem OUW.cl1 {r : Sl} {wi W : Nat} {h h1 : AH} {o o1 : Lc} (a : OUW [r] wi W h h1 o o1) (h0 : o r = none) (h2 : o1 r = none) : OUT wi W h h1 o o1 := a.cl fun p hp => by
  have : p = r := by simpa using hp
  rw [this]; exact ⟨h0, h2⟩
theorem OUW.at {ps : List Sl} {wi W : Nat} {h h1 : AH} {o o1 : Lc} (a : OUW ps wi W h h1 o o1) {p : Sl} (hp : 3 < p.1) (hn : p ∉ ps) : o1 p = o p := (a.2 p (Or.inl (Or.inr hp)) hn).1
theorem OUW.mk1 {r : Sl} {wi W : Nat} {h h' : AH} {o : Lc} {y : Option LV} (f : Fr (IP W) h h') (tg : TG o [r] h h') : OUW [r] wi W h h' o (uO o r y) := ⟨f, fun p _ hn => ⟨uO_n (by simpa using hn), fun x hx => tg p x hn hx⟩⟩
/-- the wide number at hand -/
def WDR (h : AH) (A : Nat) : Prop := ∃ WD b, h.R 27 A = some WD ∧ h.tag WD = some (18, 0) ∧ h.I 2306 WD = bI b
theorem WDR.fr {P : Nat → Nat → Prop} {h h' : AH} {A : Nat} (s : WDR h A) (f : Fr P h h') (n1 : ∀ a, ¬ P 27 a) (n2 : ∀ a, ¬ P 2306 a) : WDR h' A := by
  obtain ⟨WD, b, s1, s2, s3⟩ := s
  exact ⟨WD, b, by rw [f.R (n1 _)]; exact s1, f.tag s2, by rw [f.I (n2 _)]; exact s3⟩
theorem WDR.vq {h h' : AH} {A : Nat} (s : WDR h A) (f : Fr VQ h h') : WDR h' A := s.fr f (fun _ => VQ.no (l := [27]) rfl _ _ rfl) (fun _ => VQ.no (l := [2306]) rfl _ _ rfl)
theorem WDR.ph {h h' : AH} {A F : Nat} (s : WDR h A) (f : Fr (PH F) h h') : WDR h' A := s.fr f (fun _ z => by rcases z.1 with z | z <;> exact absurd z (by decide)) (fun _ z => by rcases z.1 with z | z <;> exact absurd z (by decide))
def OPR (G : Gt) (B : Nat) (h : AH) (A W q BA X tt : Nat) (snd : Int64) (lim SP wi : Nat) (MA : Ma) (l : List Nat) (o : Lc) (s : Ms) : Prop := CTX h A W q BA X tt snd lim SP ∧ VH G B h q l o ∧ WkR h o wi W MA s ∧ h.R 28 A = some (Fa W (s.1 - 1)) ∧ gas s ≤ lim ∧ WDR h A
theorem VQ.ip {W : Nat} : ∀ g a, VQ g a → IP W g a := fun g a h => Or.inl h
theorem cxf_ip {W : Nat} : ∀ g a, (cxF ++ [0, 19]).contains g = true → ¬ IP W g a := IP.no rfl
theorem CTX.ip {h h' : AH} {A W q BA X tt lim SP : Nat} {snd : Int64} (f : Fr (IP W) h h') (c : CTX h A W q BA X tt snd lim SP) : CTX h' A W q BA X tt snd lim SP := c.fr f (IP.no rfl)
section
variable {G : Gt} {B d : Nat} {h : AH} {l : List Nat} {o : Lc} {wi W A q BA X tt lim SP t : Nat} {snd : Int64} {MA : Ma} {s : Ms} {K : Outcome → AH → Prop}
theorem PH.f {F a : Nat} : ¬ PH F 28 a := fun z => by rcases z.1 with z | z <;> exact absurd z (by decide)
theorem cdropTop_ok {i : It} {k : List It} (H : OPR G B h A W q BA X tt snd lim SP wi MA l o s) (hs : stk s = i :: k) (hd : ∀ v, i = .inl v → fdp v.2.2 + 1 ≤ d) (hd1 : 1 ≤ d) (kk : ∀ h' l' o', OUT wi W h h' o o' → OPR G B h' A W q BA X tt snd lim SP wi MA l' o' (sK s k) → av G h l ≤ av G h' l' → Fr (fun g a => PH (Fa W (s.1 - 1)) g a ∨ VQ g a) h h' → (∀ p, p ≠ (1, wi, s.1 - 1, k.length) → o' p = o p) → K (.returned none) h') : MW G d e_X1_dropTop [.ref A] h K := by
  refine st_X1_dropTop fun XX oo hG hD _ => ?_
  subst hG; subst hD
  obtain ⟨c, v, w, hf, hg, hw⟩ := H
  obtain ⟨t, ht⟩ : ∃ t, t + 1 = s.1 := ⟨s.1 - 1, by have := w.1.2.2.1; omega⟩
  rw [show s.1 - 1 = t by omega] at hf
  have t0 := c.1.1
  have r1 := c.1.2.1
  refine k_X1_dropTop_0 oo ?_
  refine cpop_ok c w hf ht hs fun h1 x f1 x1 x2 w1 => ?_
  have t32 : t < 32 := by have := w.1.2.2.2.1; omega
  obtain ⟨v1, tg1⟩ := v.oth f1 PH.v
  have dep : fdp x.2.2.2 ≤ XX.d - 1 := by
    cases i with
    | inl vv =>
      have := hd vv rfl
      have e : lvE x = vv := x2
      rw [← e] at this
      have e2 : fdp (lvE x).2.2 = fdp x.2.2.2 := fer_dp _
      omega
    | inr r => rw [x2.2.1]; simp [fdp]
  refine k_X1_dropTop_8 oo ?_
  refine vdrop_ok v1 x1 dep fun h2 l2 f2 n2 v2 tg2 a2 => ?_
  refine k_X1_dropTop_11 oo ?_
  have fi : Fr (IP W) h h2 := (f1.1.mono (PH.ip t32)).trans (f2.mono VQ.ip)
  have tgo : TG o [(1, wi, t, k.length)] h h2 := fun p y hp hy => by rw [tg2 p y hp hy, tg1 p y (by simp) hy]
  refine kk h2 l2 _ (OUT.mk1 fi ⟨by simp, rfl⟩ tgo) ⟨c.ip fi, v2, w1.vq f2 fun p y _ hy => ?_, ?_, hg, (hw.ph f1.1).vq f2⟩ ?_ ((f1.1.mono fun g a z => Or.inl (by rw [show s.1 - 1 = t by omega]; exact z)).trans (f2.mono fun g a z => Or.inr z)) (fun p hp => uO_n (by rw [show s.1 - 1 = t by omega] at hp; exact hp))
  · by_cases e : p = (1, wi, t, k.length)
    · rw [e, uO_s] at hy; cases hy
    · rw [uO_n e] at hy
      exact tg2 p y (by simpa using e) hy
  · show h2.R 28 A = some (Fa W (s.1 - 1))
    rw [f2.R (VQ.no (l := [28]) rfl _ _ rfl), f1.1.R PH.f, show s.1 - 1 = t by omega]; exact hf
  · have : av XX.G h1 l = av XX.G h l := by unfold av; rw [f1.2.1]
    omega
theorem cpushNumber_ok {kd : Nat} {ty x y : Int64} (H : OPR G B h A W q BA X tt snd lim SP wi MA l o s) (ht' : ty.toInt32 = nI kd) (hn : (stk s).length < 64) (ha : 1 ≤ av G h l) (hd : 4 ≤ d) (kk : ∀ h' l' o', OUT wi W h h' o o' → OPR G B h' A W q BA X tt snd lim SP wi MA l' o' (mpu s (vI kd x y)) → av G h l ≤ av G h' l' + 1 → K (.returned none) h') : MW G d e_X1_pushNumber [.ref A, .long ty, .long x, .long y] h K := by
  refine st_X1_pushNumber fun XX oo hG hD _ => ?_
  subst hG; subst hD
  obtain ⟨c, v, w, hf, hg, hw⟩ := H
  obtain ⟨t, ht⟩ : ∃ t, t + 1 = s.1 := ⟨s.1 - 1, by have := w.1.2.2.1; omega⟩
  rw [show s.1 - 1 = t by omega] at hf
  have t32 : t < 32 := by have := w.1.2.2.2.1; omega
  have t0 := c.1.1
  have r1 := c.1.2.1
  have tq := v.1.1
  have hp : o (1, wi, t, (stk s).length) = none := by
    obtain ⟨-, m, es, -⟩ := w.F ht
    rw [es]; exact m.2.2.1 _ (Nat.le_refl _)
  refine k_X1_pushNumber_0 oo ?_
  refine vnumber_ok v hp ht' ha (by omega) fun h1 a l1 f1 v1 tg1 a1 => ?_
  have fi1 : Fr (IP W) h h1 := f1.mono VQ.ip
  have c1 := c.ip fi1
  have w1 := w.vq f1 tg1
  have t1 := c1.1.1
  refine k_X1_pushNumber_12 oo ?_
  have tgv := ((v1.2.2.2 _ _ uO_s).1 : RV h1 a kd (x, y) .leaf).1
  have hf1 : h1.R 28 A = some (Fa W t) := by rw [f1.R (VQ.no (l := [28]) rfl _ _ rfl)]; exact hf
  refine cpush_ok (x := (a, kd, (x, y), .leaf)) (i := vI kd x y) c1 w1 hf1 ht hn tgv rfl fun h2 f2 w2 => ?_
  refine k_X1_pushNumber_15 oo ?_
  obtain ⟨v2, tg2⟩ := v1.oth f2 PH.v
  have fi : Fr (IP W) h h2 := fi1.trans (f2.1.mono (PH.ip t32))
  refine kk h2 l1 _ (OUT.mk1 fi ⟨by simp, rfl⟩ fun p z hp2 hz => ?_) ⟨c.ip fi, v2, w2, ?_, hg, (hw.vq f1).ph f2.1⟩ ?_
  · rw [tg2 p z (by simp) (by rw [uO_n (by simpa using hp2)]; exact hz), tg1 p z (by simp) hz]
  · show h2.R 28 A = some (Fa W (s.1 - 1))
    rw [f2.1.R PH.f, show s.1 - 1 = t by omega]; exact hf1
  · have : av XX.G h2 l1 = av XX.G h1 l1 := by unfold av; rw [f2.2.1]
    omega
theorem cpushTruth_ok {b : Bool} (H : OPR G B h A W q BA X tt snd lim SP wi MA l o s) (hn : (stk s).length < 64) (ha : 1 ≤ av G h l) (hd : 5 ≤ d) (kk : ∀ h' l' o', OUT wi W h h' o o' → OPR G B h' A W q BA X tt snd lim SP wi MA l' o' (mpu s (vT b)) → av G h l ≤ av G h' l' + 1 → K (.returned none) h') : MW G d e_X1_pushTruth [.ref A, .int (bI b)] h K := by
  refine st_X1_pushTruth fun XX oo hG hD _ => ?_
  subst hG; subst hD
  have t0 := H.1.1.1
  have fin : ∀ y : Int64, y = (if b then 1 else 0) → V XX K 12 [.ref A, .int (bI b)] [.long y, .long 0, .long 1, .ref A] h := fun y hy => by
    refine k_X1_pushTruth_12 oo ?_
    refine cpushNumber_ok (kd := 1) H rfl hn ha (by omega) fun h' l' o' u1 u2 u3 => ?_
    refine k_X1_pushTruth_15 oo ?_
    refine kk h' l' o' u1 ?_ u3
    rw [hy] at u2; exact u2
  cases b with
  | false =>
    refine k_X1_pushTruth_0 oo (fun _ => ?_) (fun c => absurd rfl c)
    refine k_X1_pushTruth_11 oo ?_
    exact fin 0 rfl
  | true =>
    refine k_X1_pushTruth_0 oo (fun c => absurd (show bI true = 0 from c) (by decide)) (fun _ => ?_)
    refine k_X1_pushTruth_7 oo ?_
    exact fin 1 rfl
/-- an end: what is thrown, and told -/
def STP (K : Outcome → AH → Prop) (A SP : Nat) (h : AH) (w : Nat) (c : Int64) : Prop := ∀ h', Fq (FS [24, 25]) h h' → h'.I 24 A = nI w → h'.J 25 A = c → K (.threw SP) h'
theorem cstop_ok {w : Nat} {c : Int64} (C : CTX h A W q BA X tt snd lim SP) (kk : STP K A SP h w c) : MW G d e_X1_stop [.ref A, .int (nI w), .long c] h K := by
  refine st_X1_stop fun XX oo hG hD _ => ?_
  subst hG; subst hD
  have t0 := C.1.1
  have r1 := C.1.2.2.2.2
  refine k_X1_stop_0 oo ?_
  refine kk _ ((by refine (Fq.sJ (Fq.sI (Fq.refl h) ?_) ?_) <;> exact rfl)) ?_ ?_
  · simp [n_sI, z_sI, tag_sI, I_sI, J_sI, R_sI, EI_sI, EJ_sI, ER_sI, n_sJ, z_sJ, tag_sJ, I_sJ, J_sJ, R_sJ, EI_sJ, EJ_sJ, ER_sJ, n_sR, z_sR, tag_sR, I_sR, J_sR, R_sR, EI_sR, EJ_sR, ER_sR, n_sEI, z_sEI, tag_sEI, I_sEI, J_sEI, R_sEI, EI_sEI, EJ_sEI, ER_sEI, n_sEJ, z_sEJ, tag_sEJ, I_sEJ, J_sEJ, R_sEJ, EI_sEJ, EJ_sEJ, ER_sEJ, n_sER, z_sER, tag_sER, I_sER, J_sER, R_sER, EI_sER, EJ_sER, ER_sER, n_nw, z_nw, tag_nw, I_nw, J_nw, R_nw, EI_nw, EJ_nw, ER_nw]
  · simp [n_sI, z_sI, tag_sI, I_sI, J_sI, R_sI, EI_sI, EJ_sI, ER_sI, n_sJ, z_sJ, tag_sJ, I_sJ, J_sJ, R_sJ, EI_sJ, EJ_sJ, ER_sJ, n_sR, z_sR, tag_sR, I_sR, J_sR, R_sR, EI_sR, EJ_sR, ER_sR, n_sEI, z_sEI, tag_sEI, I_sEI, J_sEI, R_sEI, EI_sEI, EJ_sEI, ER_sEI, n_sEJ, z_sEJ, tag_sEJ, I_sEJ, J_sEJ, R_sEJ, EI_sEJ, EJ_sEJ, ER_sEJ, n_sER, z_sER, tag_sER, I_sER, J_sER, R_sER, EI_sER, EJ_sER, ER_sER, n_nw, z_nw, tag_nw, I_nw, J_nw, R_nw, EI_nw, EJ_nw, ER_nw]
theorem cneed2_ok {b : Bool} {w : Nat} (C : CTX h A W q BA X tt snd lim SP) (hw : w < 16) (hd : 1 ≤ d) (k1 : b = true → K (.returned none) h) (k2 : b = false → STP K A SP h 2 (lN w)) : MW G d e_X1_need [.ref A, .int (bI b), .int (nI w)] h K := by
  refine st_X1_need fun XX oo hG hD _ => ?_
  subst hG; subst hD
  have t0 := C.1.1
  cases b with
  | true =>
    refine k_X1_need_0 oo (fun _ => ?_) (fun c => absurd (show bI true = 0 from c) (by decide))
    refine k_X1_need_11 oo ?_
    exact k1 rfl
  | false =>
    refine k_X1_need_0 oo (fun c => absurd rfl c) (fun _ => ?_)
    refine k_X1_need_4 oo ?_
    rw [nI_l (by omega)]
    exact cstop_ok C fun h' f' e1 e2 => k2 rfl h' f' e1 e2
/-- what a step owes: nothing where the machine is stuck -/
def RZ (K : Outcome → AH → Prop) (G : Gt) (B : Nat) (h : AH) (A W q BA X tt : Nat) (snd : Int64) (lim SP wi : Nat) (MA : Ma) (o : Lc) (r : Rz) : Prop := match r with
  | none => True
  | some (.ok s') => ∀ h' l' o', OUT wi W h h' o o' → OPR G B h' A W q BA X tt snd lim SP wi MA l' o' s' → K (.returned none) h'
  | some (.error e) => ∀ h' l' o', OUT wi W h h' o o' → OPR G B h' A W q BA X tt snd lim SP wi MA l' o' e.2.2 → h'.I 24 A = nI e.1 → h'.J 25 A = e.2.1 → K (.threw SP) h'
theorem RZ.out {K : Outcome → AH → Prop} {h1 : AH} {o1 : Lc} {r : Rz} (u : OUT wi W h h1 o o1) (k : RZ K G B h A W q BA X tt snd lim SP wi MA o r) : RZ K G B h1 A W q BA X tt snd lim SP wi MA o1 r := by
  cases r with
  | none => trivial
  | some e =>
    cases e with
    | ok s' => exact fun h' l' o' u2 H => k h' l' o' (u.trans u2) H
    | error e => exact fun h' l' o' u2 H => k h' l' o' (u.trans u2) H
theorem WkR.oth {P : Nat → Nat → Prop} {h' : AH} (w : WkR h o wi W MA s) (f : Fr P h h') (np : ∀ g a, (swF ++ fmF ++ enF ++ [2438, 2439, 2441, 3718]).contains g = true → ¬ P g a) : WkR h' o wi W MA s := by
  obtain ⟨⟨w1, w2, w3, w4, w5, w6⟩, w7, w8, w9⟩ := w
  have sub : ∀ l' : List Nat, l'.all (fun f => (swF ++ fmF ++ enF ++ [2438, 2439, 2441, 3718]).contains f) = true → ∀ f a, l'.contains f = true → ¬ P f a := fun l' hl f a hf => np f a (by rw [List.all_eq_true] at hl; exact hl f (List.contains_iff_mem.mp hf))
  exact ⟨⟨w1.fr f (sub swF rfl), by rw [f.I (np _ _ rfl)]; exact w2, w3, w4, by rw [f.I (np _ _ rfl)]; exact w5, by rw [f.I (np _ _ rfl)]; exact w6⟩, fun j hj => (w7 j hj).keep f (fun g a hg _ _ => sub fmF rfl g a hg) (fun _ _ _ => rfl) (fun c i x _ hx => f.R (np _ _ rfl)) (fun r _ a ha => ha), w8, w9.keep f (fun g a hg _ _ => sub enF rfl g a hg) (fun _ _ => rfl)⟩
theorem FS.ipl {l : List Nat} (h : l.all (fun f => ipL.contains f) = true) {W : Nat} : ∀ g a, FS l g a → IP W g a := fun g a z => Or.inr (Or.inr (by
  rw [List.all_eq_true] at h
  exact h g (List.contains_iff_mem.mp z)))
theorem stp_ip {W : Nat} : ∀ g a, FS [24, 25] g a → IP W g a := FS.ipl rfl
theorem FS.vq {l : List Nat} (h : l.all (fun f => !((3712 ≤ f && f ≤ 3718) || f == 1280)) = true) : ∀ g a, VQ g a → ¬ FS l g a := fun g a z z2 => VQ.no h g a z2 z
/-- an end -/
theorem OPR.stop (H : OPR G B h A W q BA X tt snd lim SP wi MA l o s) {w : Nat} {c : Int64} (k : RZ K G B h A W q BA X tt snd lim SP wi MA o (mst w c s)) : STP K A SP h w c := fun h' f e1 e2 => by
  obtain ⟨a, v, w1, hf, hg, hw⟩ := H
  obtain ⟨v1, tg⟩ := v.oth f (FS.vq rfl)
  have fi : Fr (IP W) h h' := f.1.mono stp_ip
  exact k h' l o (OUT.mk0 fi tg) ⟨a.ip fi, v1, w1.oth f.1 (FS.no rfl), by rw [f.1.R (FS.n rfl)]; exact hf, hg, hw.fr f.1 (fun _ => FS.n rfl) (fun _ => FS.n rfl)⟩ e1 e2
theorem WkR.gs {g : Nat} {h' : AH} (w : WkR h o wi W MA s) (f : Fq (P1 2439 W) h h') (e : h'.I 2439 W = nI g) : WkR h' o wi W MA (sG s g) := by
  obtain ⟨⟨w1, w2, w3, w4, w5, w6⟩, w7, w8, w9⟩ := w
  have np : ∀ g a, g ≠ 2439 → ¬ P1 2439 W g a := fun g a h1 z => h1 z.1
  have sub : ∀ l' : List Nat, l'.all (fun f => !(f == 2439)) = true → ∀ f a, l'.contains f = true → ¬ P1 2439 W f a := fun l' hl f a hf => np f a (fun e => by
    rw [List.all_eq_true] at hl
    have := hl f (List.contains_iff_mem.mp hf)
    rw [e] at this; simp at this)
  exact ⟨⟨w1.fr f.1 (sub swF rfl), by rw [f.1.I (np _ _ (by decide))]; exact w2, w3, w4, e, by rw [f.1.I (np _ _ (by decide))]; exact w6⟩, fun j hj => (w7 j hj).keep f.1 (fun g a hg _ _ => sub fmF rfl g a hg) (fun _ _ _ => rfl) (fun c i x _ hx => f.1.R (np _ _ (by decide))) (fun r _ a ha => ha), w8, w9.keep f.1 (fun g a hg _ _ => sub enF rfl g a hg) (fun _ _ => rfl)⟩
theorem gas_ip {W : Nat} : ∀ g a, P1 2439 W g a → IP W g a := fun g a z => by
  obtain ⟨z1, z2⟩ := z
  exact Or.inr (Or.inl ⟨by rw [z1]; decide, by omega, by omega⟩)
theorem gas_vq {W : Nat} : ∀ g a, VQ g a → ¬ P1 2439 W g a := fun g a z z2 => by
  rw [z2.1] at z
  rcases z with z | z
  · exact absurd z (by decide)
  · exact absurd z (by decide)
theorem cpay_ok {n : Nat} {k : Ms → Rz} (H : OPR G B h A W q BA X tt snd lim SP wi MA l o s) (hn : n < 1000000) (hd : 1 ≤ d) (kk : ∀ h' s', OUT wi W h h' o o → OPR G B h' A W q BA X tt snd lim SP wi MA l o s' → s' = sG s (gas s + n) → av G h' l = av G h l → mpay lim n s k = k s' → K (.returned none) h') (ke : mpay lim n s k = mst 2 5 (sG s lim) → RZ K G B h A W q BA X tt snd lim SP wi MA o (mst 2 5 (sG s lim))) : MW G d e_X1_pay [.ref A, .int (nI n)] h K := by
  refine st_X1_pay fun XX oo hG hD _ => ?_
  subst hG; subst hD
  obtain ⟨c, v, w, hf, hg, hw⟩ := H
  obtain ⟨⟨c1, c2, c3, c4, c5⟩, ⟨c6, c7, c8, c9⟩, c10, c11, c12, c13⟩ := id c
  have t1 := w.1.1.1.1
  have t2 := w.1.2.2.2.2.1
  have ix : IX (nI tt) 32 tt := IX.mk (by omega) (by omega)
  have wr : ∀ g, g ≤ lim → Fq (P1 2439 W) h (h.sI 2439 W (nI g)) ∧ OPR XX.G B (h.sI 2439 W (nI g)) A W q BA X tt snd lim SP wi MA l o (sG s g) ∧ OUT wi W h (h.sI 2439 W (nI g)) o o := fun g hgl => by
    have f1 : Fq (P1 2439 W) h (h.sI 2439 W (nI g)) := (Fq.refl h).sI P1.i
    obtain ⟨v1, tg⟩ := v.oth f1 gas_vq
    have fi : Fr (IP W) h (h.sI 2439 W (nI g)) := f1.1.mono gas_ip
    exact ⟨f1, ⟨c.ip fi, v1, w.gs f1 (I_same ..), by rw [f1.1.R (fun z => absurd z.1 (by decide))]; exact hf, hgl, hw.fr f1.1 (fun _ z => absurd z.1 (by decide)) (fun _ z => absurd z.1 (by decide))⟩, OUT.mk0 fi tg⟩
  by_cases cc : gas s + n ≤ lim
  · have em : mpay lim n s k = k (sG s (gas s + n)) := by unfold mpay; rw [if_pos cc]
    refine k_X1_pay_0 (r21 := c11) (r5 := t2) oo (fun _ => ?_) (fun z => ?_)
    rotate_left
    · rw [nI_add] at z
      exact absurd ((nI_leI (by omega) (by omega)).mpr cc) z
    refine k_X1_pay_57 oo ?_
    rw [nI_add]
    obtain ⟨f1, H1, u1⟩ := wr (gas s + n) cc
    exact kk _ _ u1 H1 rfl (by unfold av; rw [f1.2.1]) em
  · have em : mpay lim n s k = mst 2 5 (sG s lim) := by unfold mpay; rw [if_neg cc]
    refine k_X1_pay_0 (r21 := c11) (r5 := t2) oo (fun z => ?_) (fun _ => ?_)
    · rw [nI_add] at z
      exact absurd ((nI_leI (by omega) (by omega)).mp z) cc
    refine k_X1_pay_27 oo ?_
    obtain ⟨f1, H1, u1⟩ := wr lim (Nat.le_refl _)
    exact cstop_ok (w := 2) (c := 5) H1.1 (H1.stop ((ke em).out u1))
end
