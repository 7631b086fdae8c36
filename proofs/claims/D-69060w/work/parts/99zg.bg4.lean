/-! a call begins: the whole -/
section
variable {G : Gt} {B d : Nat} {h : AH} {l : List Nat} {o : Lc} {wi W A q BA X tt lim SP t : Nat} {snd : Int64} {MA : Ma} {s : Ms} {K : Outcome → AH → Prop} {fs z : Nat} {fx : Option Nat} {st : Lw} {Lf : Nat → Lw} {RN : Nat → Int32}
/-- what a beginning owes -/
def BGK (K : Outcome → AH → Prop) (G : Gt) (B : Nat) (h : AH) (A W q BA X tt SP wi : Nat) (MA : Ma) (o : Lc) (fs : Nat) (st : Lw) (Lf : Nat → Lw) (RN : Nat → Int32) (Wd' : Wd) (x : TxC) : Prop := (∀ e, mbg Wd' x (vew st Lf fs tt) = .error e → RFK K G B h A W q BA X tt x.1 x.2.2.1 SP wi MA o (sco Lf RN fs tt) e) ∧ ∀ s0, mbg Wd' x (vew st Lf fs tt) = .ok s0 → ∀ h' l' o' MA', OUB wi W h h' o o' → IPR G B h' A W q BA X tt x.1 x.2.2.1 SP wi MA' l' o' s0 → MAX 0 MA MA' (plc s0) (sco Lf RN fs tt) → (∀ j, j < s0.1 → MA'.2.2.1 j = (s0.2.1 j).2.1) → h'.J 2442 W = (vew st Lf fs tt (1, x.1, 0)).2.1 → h'.J 2443 W = (vew st Lf fs tt (1, x.1, 0)).2.2.1 → K (.returned none) h'
theorem RFK.stp {x : TxC} {c : Int64} {es : List En} {F : Nat → Fm} {ak : Nat} {h1 : AH} {l1 : List Nat} {o1 : Lc} {MA1 : Ma} {sc : Pc → Option (Int32 × Int32)} (k : RFK K G B h A W q BA X tt x.1 x.2.2.1 SP wi MA o sc (c, es)) (u : OUB wi W h h1 o o1) (H : OPQ 0 fx G B h1 A W q BA X tt x.1 x.2.2.1 SP wi MA1 l1 o1 (0, F, es, ak, 0)) (mx : MAX 0 MA MA1 (es.map fun y => y.1) sc) (hv : ∀ y ∈ es, y.2.2.1.2.2.2 = none) : STP K A SP h1 3 c :=
  H.stop fun h' l' o' u2 H2 e1 e2 => k h' l' o' MA1 _ fx (u.trans u2.oub) H2 ⟨rfl, rfl, rfl⟩ ⟨fun j hj => absurd hj (Nat.not_lt_zero j), fun y hy v hv' => by
    have hy : y ∈ es := hy
    rw [hv y hy] at hv'; cases hv'⟩ mx e1 e2
theorem begin_ok {x : TxC} {Wd' : Wd} {CM TT TH TL : Nat} (c0 : CTX h A W q BA X tt x.1 x.2.2.1 SP) (v : VH G B h q l o) (id0 : IDW h o wi W) (hf : h.R 28 A = fx) (hw : WDR h A) (x1 : TXI h X TT TH TL x) (ha : AGv x.2.2.2.2.2) (hpb : h.I 2688 X = bI false) (hy : WHY h A CM MA Wd') (cn : CNY h CM) (hW : WV Wd') (hE : EVW Wd' (vew st Lf fs tt)) (wd : WRD h o A W BA tt MA fs st Lf RN) (hav : 8 ≤ av G h l) (hd : 54 ≤ d) (wt : WTB K G B h A W q BA X tt x.1 x.2.2.1 SP wi o Lf fs) (kk : BGK (tt := tt) K G B h A W q BA X SP wi MA o fs st Lf RN Wd' x) : MW G d e_X1_beginTransaction [.ref A] h K := by
  refine st_X1_beginTransaction fun XX oo hG hD _ => ?_
  subst hG; subst hD
  obtain ⟨⟨t0, rq, rW, rB, rS⟩, ⟨tB, wt', ht32, eX⟩, tX, xl, xl2, xs⟩ := id c0
  obtain ⟨⟨y1, y2, y3, y4, y5⟩, ⟨y6, y7⟩, y8, y9⟩ := id x1
  have tW := id0.1.1.1.1
  have ix : IX (nI tt) 32 tt := IX.mk (by omega) (by omega)
  refine k_X1_beginTransaction_0 (r7 := wt') (r22 := xs) oo ?_
  generalize hh1 : (h.sI 2441 W (nI 0)).sI 2439 W (nI 0) = h1
  have q1 : Fq (fun g a => (g = 2441 ∨ g = 2439) ∧ a = W) h h1 := by
    rw [← hh1]
    exact Fq.sI (Fq.sI (Fq.refl h) ⟨Or.inl rfl, rfl⟩) ⟨Or.inr rfl, rfl⟩
  have n1 : ∀ g a, g ≠ 2441 → g ≠ 2439 → ¬ ((g = 2441 ∨ g = 2439) ∧ a = W) := fun g a z1 z2 z => by
    rcases z.1 with y | y
    · exact z1 y
    · exact z2 y
  have nl : ∀ l : List Nat, l.all (fun f => !([2441, 2439].contains f)) = true → ∀ g a, l.contains g = true → ¬ ((g = 2441 ∨ g = 2439) ∧ a = W) := fun l hl g a hg z => by
    rw [List.all_eq_true] at hl
    have := hl g (List.contains_iff_mem.mp hg)
    rcases z.1 with y | y <;> (rw [y] at this; exact absurd this (by decide))
  obtain ⟨v1, tg1⟩ := v.oth q1 (fun g a z y => by
    rcases y.1 with y | y <;> (rw [y] at z; exact VQ.no (l := [2441, 2439]) rfl _ _ rfl z))
  have fi1 : Fr (IP W) h h1 := q1.1.mono fun g a z => Or.inr (Or.inl ⟨by rcases z.1 with y | y <;> (rw [y]; rfl), by rw [z.2]; omega, by rw [z.2]; omega⟩)
  have u1 : OUT wi W h h1 o o := OUT.mk0 fi1 tg1
  have H1 : OPQ 0 fx XX.G B h1 A W q BA X tt x.1 x.2.2.1 SP wi MA l o (0, fun _ => ent (0, 0) [], [], 0, 0) := by
    refine ⟨c0.ip fi1, v1, ⟨⟨id0.1.1.fr q1.1 (nl swF rfl), by rw [q1.1.I (n1 _ _ (by decide) (by decide))]; exact id0.1.2.1, Nat.le_refl _, by show (0 : Nat) ≤ 32; omega, by rw [← hh1]; simp [n_sI, z_sI, tag_sI, I_sI, J_sI, R_sI, EI_sI, EJ_sI, ER_sI, n_sJ, z_sJ, tag_sJ, I_sJ, J_sJ, R_sJ, EI_sJ, EJ_sJ, ER_sJ, n_sR, z_sR, tag_sR, I_sR, J_sR, R_sR, EI_sR, EJ_sR, ER_sR, n_sEI, z_sEI, tag_sEI, I_sEI, J_sEI, R_sEI, EI_sEI, EJ_sEI, ER_sEI, n_sEJ, z_sEJ, tag_sEJ, I_sEJ, J_sEJ, R_sEJ, EI_sEJ, EJ_sEJ, ER_sEJ, n_sER, z_sER, tag_sER, I_sER, J_sER, R_sER, EI_sER, EJ_sER, ER_sER, n_nw, z_nw, tag_nw, I_nw, J_nw, R_nw, EI_nw, EJ_nw, ER_nw]; rfl, by rw [← hh1]; simp [n_sI, z_sI, tag_sI, I_sI, J_sI, R_sI, EI_sI, EJ_sI, ER_sI, n_sJ, z_sJ, tag_sJ, I_sJ, J_sJ, R_sJ, EI_sJ, EJ_sJ, ER_sJ, n_sR, z_sR, tag_sR, I_sR, J_sR, R_sR, EI_sR, EJ_sR, ER_sR, n_sEI, z_sEI, tag_sEI, I_sEI, J_sEI, R_sEI, EI_sEI, EJ_sEI, ER_sEI, n_sEJ, z_sEJ, tag_sEJ, I_sEJ, J_sEJ, R_sEJ, EI_sEJ, EJ_sEJ, ER_sEJ, n_sER, z_sER, tag_sER, I_sER, J_sER, R_sER, EI_sER, EJ_sER, ER_sER, n_nw, z_nw, tag_nw, I_nw, J_nw, R_nw, EI_nw, EJ_nw, ER_nw]⟩, fun j hj => absurd hj (Nat.not_lt_zero j), fun j _ i => ⟨id0.2 (1, wi, j, i) (by show 1 ≤ 1; omega) (by show 1 ≤ 3; omega) rfl, id0.2 (2, wi, j, i) (by show 1 ≤ 2; omega) (by show 2 ≤ 3; omega) rfl⟩, ⟨by rw [q1.1.I (n1 _ _ (by decide) (by decide))]; exact id0.1.2.2, by show (0 : Nat) ≤ 26; omega⟩, fun e y hy' => by simp [ens] at hy', fun e b _ => id0.2 (3, wi, e, b) (by show 1 ≤ 3; omega) (by show 3 ≤ 3; omega) rfl⟩, by rw [q1.1.R (n1 _ _ (by decide) (by decide))]; exact hf, Nat.zero_le _, hw.fr q1.1 (fun a => n1 _ _ (by decide) (by decide)) (fun a => n1 _ _ (by decide) (by decide))⟩
  have cno : ∀ p : Pc, p.1 ≠ 3 → (vew st Lf fs tt p).2.2.2 = none := fun p hp => (hE.1 p).2.1 hp
  have clr1 : ∀ (s' : Ms), s'.1 = 0 → (∀ y ∈ ens s', y.2.2.1.2.2.2 = none) → CLR s' := fun s' h0 he => ⟨fun j hj => absurd hj (by omega), fun y hy' v hv' => by rw [he y hy'] at hv'; cases hv'⟩
  refine cask_q (p := (1, x.1, 0)) (cb := true) H1 (wd.out u1) ⟨by show 1 < 16; omega, by show 0 < _; omega⟩ (fun _ => by show (0 : Nat) < 26; omega) (by show (0 : Nat) ≤ 24; omega) (fun v hv' => by rw [cno _ (by show (1 : Nat) ≠ 3; decide)] at hv'; cases hv') (by omega) (fun k p hp hg h' l' o' s' MA' u' H' sm e1 e2 => wt k p hp hg h' l' o' MA' s' fx (u1.trans u').oub H' (clr1 s' sm.1 (fun y hy' => by rw [sm.2.2] at hy'; simp [ens] at hy')) e1 e2) (fun i hi => by simp [ens] at hi) (fun _ c => absurd c (by decide)) (fun _ _ hg h2 l2 o2 u2 H2 av2 => ?_)
  obtain ⟨c, hc⟩ : ∃ c, vew st Lf fs tt (1, x.1, 0) = c := ⟨_, rfl⟩
  have cv : c.2.2.2 = none := by rw [← hc]; exact cno _ (by show (1 : Nat) ≠ 3; decide)
  obtain ⟨kE, kO⟩ := kk
  rw [hc] at H2 av2 kO
  have H2 : OPQ 0 fx XX.G B h2 A W q BA X tt x.1 x.2.2.1 SP wi (maU MA 0 (sce Lf RN fs tt (1, x.1, 0))) l2 o2 (0, fun _ => ent (0, 0) [], [((1, x.1, 0), c, c, false)], 1, 0) := H2
  have av2 : av XX.G h2 l2 = av XX.G h l := by
    have : csz c = 0 := by unfold csz; rw [cv]
    rw [this] at av2
    have e : av XX.G h1 l = av XX.G h l := by unfold av; rw [q1.2.1]
    omega
  have ub2 : OUB wi W h h2 o o2 := (u1.trans u2).oub
  have mx2 : MAX 0 MA (maU MA 0 (sce Lf RN fs tt (1, x.1, 0))) [(1, x.1, 0)] (sco Lf RN fs tt) := ⟨⟨rfl, rfl⟩, fun e he => absurd he (Nat.not_lt_zero e), fun e p _ hp => by
    have e0 : e < 1 := get_lt hp
    have e0 : e = 0 := by omega
    subst e0
    cases hp
    rw [sco_n hg]
    simp [maU]⟩
  have hv2 : ∀ y ∈ [(((1, x.1, 0), c, c, false) : En)], y.2.2.1.2.2.2 = none := fun y hy' => by
    rw [List.mem_singleton] at hy'; rw [hy']; exact cv
  obtain ⟨-, ⟨b1, b2, b3⟩, -⟩ := id (H2.2.2.1.2.2.2.2.1 0 _ rfl)
  have b1 : h2.I 1155 (Ea W 0) = bI c.1 := b1
  have b2 : h2.J 1156 (Ea W 0) = c.2.1 := b2
  have b3 : h2.J 1157 (Ea W 0) = c.2.2.1 := b3
  have tE := (H2.2.2.1.1.1.2.2.2 0 (by omega)).2
  obtain ⟨⟨t02, rq2, rW2, rB2, rS2⟩, ⟨tB2, wt2, -, eX2⟩, tX2, xl2', -, xs2⟩ := id H2.1
  have tW2 := H2.2.2.1.1.1.1.1
  have x12 : TXI h2 X TT TH TL x := x1.fr ub2.1 (IPB.no rfl rfl)
  refine k_X1_beginTransaction_40 (r2 := b1) oo (fun c1 => ?_) (fun c1 => ?_)
  rotate_left
  · refine k_X1_beginTransaction_48 oo ?_
    exact cstop_ok (w := 3) (c := 1) H2.1 ((kE _ (mbg_1 hc (bI_0.mp c1))).stp ub2 H2 mx2 hv2)
  have c1 : c.1 = true := by
    cases h' : c.1 with
    | true => rfl
    | false => exact absurd (by rw [h']; rfl) c1
  refine k_X1_beginTransaction_54 (r2 := b3) (r5 := x12.1.1) oo (fun c2 => ?_) (fun c2 => ?_)
  rotate_left
  · refine k_X1_beginTransaction_66 oo ?_
    exact cstop_ok (w := 3) (c := 2) H2.1 ((kE _ (mbg_2 hc c1 c2)).stp ub2 H2 mx2 hv2)
  have xl64 : (nI x.2.2.1).toInt64 = lN x.2.2.1 := nI_64 (by omega)
  refine k_X1_beginTransaction_74 (r2 := b2) (r5 := xl2') oo (fun c3 => ?_) (fun c3 => ?_)
  rotate_left
  · rw [xl64] at c3
    refine k_X1_beginTransaction_87 oo ?_
    exact cstop_ok (w := 3) (c := 3) H2.1 ((kE _ (mbg_3 hc c1 c2 (Int64.not_le.mp c3))).stp ub2 H2 mx2 hv2)
  rw [xl64] at c3
  have hb : mb3 x c := ⟨c1, c2, Int64.not_lt.mpr c3⟩
  have pb2 : h2.I 2688 X = bI false := by rw [ub2.1.I (IPB.no (l := [2688]) rfl rfl _ _ rfl)]; exact hpb
  refine k_X1_beginTransaction_95 (r5 := b2) (r10 := b3) (r14 := pb2) oo (fun _ => ?_) (fun c => absurd rfl c)
  generalize hh3 : (h2.sJ 2442 W c.2.1).sJ 2443 W c.2.2.1 = h3
  have q3 : Fq (fun g a => (g = 2442 ∨ g = 2443) ∧ a = W) h2 h3 := by
    rw [← hh3]
    exact Fq.sJ (Fq.sJ (Fq.refl h2) ⟨Or.inl rfl, rfl⟩) ⟨Or.inr rfl, rfl⟩
  have eB : h3.J 2442 W = c.2.1 := by rw [← hh3]; simp [n_sI, z_sI, tag_sI, I_sI, J_sI, R_sI, EI_sI, EJ_sI, ER_sI, n_sJ, z_sJ, tag_sJ, I_sJ, J_sJ, R_sJ, EI_sJ, EJ_sJ, ER_sJ, n_sR, z_sR, tag_sR, I_sR, J_sR, R_sR, EI_sR, EJ_sR, ER_sR, n_sEI, z_sEI, tag_sEI, I_sEI, J_sEI, R_sEI, EI_sEI, EJ_sEI, ER_sEI, n_sEJ, z_sEJ, tag_sEJ, I_sEJ, J_sEJ, R_sEJ, EI_sEJ, EJ_sEJ, ER_sEJ, n_sER, z_sER, tag_sER, I_sER, J_sER, R_sER, EI_sER, EJ_sER, ER_sER, n_nw, z_nw, tag_nw, I_nw, J_nw, R_nw, EI_nw, EJ_nw, ER_nw]
  have eS : h3.J 2443 W = c.2.2.1 := by rw [← hh3]; simp [n_sI, z_sI, tag_sI, I_sI, J_sI, R_sI, EI_sI, EJ_sI, ER_sI, n_sJ, z_sJ, tag_sJ, I_sJ, J_sJ, R_sJ, EI_sJ, EJ_sJ, ER_sJ, n_sR, z_sR, tag_sR, I_sR, J_sR, R_sR, EI_sR, EJ_sR, ER_sR, n_sEI, z_sEI, tag_sEI, I_sEI, J_sEI, R_sEI, EI_sEI, EJ_sEI, ER_sEI, n_sEJ, z_sEJ, tag_sEJ, I_sEJ, J_sEJ, R_sEJ, EI_sEJ, EJ_sEJ, ER_sEJ, n_sER, z_sER, tag_sER, I_sER, J_sER, R_sER, EI_sER, EJ_sER, ER_sER, n_nw, z_nw, tag_nw, I_nw, J_nw, R_nw, EI_nw, EJ_nw, ER_nw]
  have n3 : ∀ l : List Nat, l.all (fun f => !([2442, 2443].contains f)) = true → ∀ g a, l.contains g = true → ¬ ((g = 2442 ∨ g = 2443) ∧ a = W) := fun l hl g a hg z => by
    rw [List.all_eq_true] at hl
    have := hl g (List.contains_iff_mem.mp hg)
    rcases z.1 with y | y <;> (rw [y] at this; exact absurd this (by decide))
  obtain ⟨v3, tg3⟩ := H2.2.1.oth q3 (fun g a z y => by
    rcases y.1 with y | y <;> (rw [y] at z; exact VQ.no (l := [2442, 2443]) rfl _ _ rfl z))
  have u3 : OUB wi W h2 h3 o2 o2 := ⟨q3.1.mono fun g a z => Or.inr z, fun p _ => ⟨rfl, fun y hy' => tg3 p y (by simp) hy'⟩⟩
  have ub3 : OUB wi W h h3 o o2 := ub2.trans u3
  have H3 : OPQ 0 fx XX.G B h3 A W q BA X tt x.1 x.2.2.1 SP wi (maU MA 0 (sce Lf RN fs tt (1, x.1, 0))) l2 o2 (0, fun _ => ent (0, 0) [], [((1, x.1, 0), c, c, false)], 1, 0) := ⟨H2.1.fr q3.1 (n3 _ rfl), v3, H2.2.2.1.oth q3.1 (n3 _ rfl), by rw [q3.1.R (n3 [28] rfl _ _ rfl)]; exact H2.2.2.2.1, H2.2.2.2.2.1, H2.2.2.2.2.2.fr q3.1 (fun a => n3 [27] rfl _ a rfl) (fun a => n3 [2306] rfl _ a rfl)⟩
  have av3 : av XX.G h3 l2 = av XX.G h l := by rw [← av2]; unfold av; rw [q3.2.1]
  have x13 : TXI h3 X TT TH TL x := x12.fr q3.1 (n3 _ rfl)
  have t03 := q3.1.tag t02
  have tX3 := q3.1.tag tX2
  refine k_X1_beginTransaction_130 (r2 := x13.1.2.1) oo ?_
  by_cases m0 : x.2.2.2.1 = 0
  · -- the coin
    have hm0 := mbg_0 (W := Wd') hc hb m0
    rw [m0]
    have hy3 := hy.oub ub3
    obtain ⟨mc, md, ml, mf⟩ := cn.fr ub3.1 (IPB.no rfl rfl)
    refine MW_mod0 t03 hy3.1 ?_
    refine k_X1_beginTransaction_139 (r2 := x13.1.2.1) oo (fun c => absurd (by rw [m0]; rfl) c) (fun _ => ?_)
    obtain ⟨⟨-, -, rW3, -, -⟩, -, -⟩ := id H3.1
    have tW3 := H3.2.2.1.1.1.1.1
    have ak3 : h3.I 2441 W = nI 1 := H3.2.2.1.1.2.2.2.2.2
    refine k_X1_beginTransaction_147 (r5 := ak3) oo ?_
    rw [nI_add]
    generalize hh4 : h3.sI 2441 W (nI (1 + 1)) = h4
    have q4 : Fq (fun g a => g = 2441 ∧ a = W) h3 h4 := by rw [← hh4]; exact Fq.sI (Fq.refl h3) ⟨rfl, rfl⟩
    have n4 : ∀ l : List Nat, l.all (fun f => !(f == 2441)) = true → ∀ g a, l.contains g = true → ¬ (g = 2441 ∧ a = W) := fun l hl g a hg z => by
      rw [List.all_eq_true] at hl
      have := hl g (List.contains_iff_mem.mp hg)
      rw [z.1] at this; exact absurd this (by decide)
    obtain ⟨v4, tg4⟩ := H3.2.1.oth q4 (fun g a z y => by rw [y.1] at z; exact VQ.no (l := [2441]) rfl _ _ rfl z)
    have u4 : OUT wi W h3 h4 o2 o2 := OUT.mk0 (q4.1.mono fun g a z => Or.inr (Or.inl ⟨by rw [z.1]; rfl, by rw [z.2]; omega, by rw [z.2]; omega⟩)) tg4
    have ub4 : OUB wi W h h4 o o2 := ub3.trans u4.oub
    have H4 : OPQ 0 fx XX.G B h4 A W q BA X tt x.1 x.2.2.1 SP wi (maU MA 0 (sce Lf RN fs tt (1, x.1, 0))) l2 o2 (0, fun _ => ent (0, 0) [], [((1, x.1, 0), c, c, false)], 1 + 1, 0) := by
      obtain ⟨a1, a2, ⟨⟨w1, w2, w3, w4, w5, w6⟩, w7, w8, w9⟩, a4, a5, a6⟩ := H3
      refine ⟨a1.fr q4.1 (n4 _ rfl), v4, ⟨⟨w1.fr q4.1 (n4 _ rfl), by rw [q4.1.I (n4 [2438] rfl _ _ rfl)]; exact w2, w3, w4, by show h4.I 2439 W = nI 0; rw [q4.1.I (n4 [2439] rfl _ _ rfl)]; exact w5, by rw [← hh4]; simp [n_sI, z_sI, tag_sI, I_sI, J_sI, R_sI, EI_sI, EJ_sI, ER_sI, n_sJ, z_sJ, tag_sJ, I_sJ, J_sJ, R_sJ, EI_sJ, EJ_sJ, ER_sJ, n_sR, z_sR, tag_sR, I_sR, J_sR, R_sR, EI_sR, EJ_sR, ER_sR, n_sEI, z_sEI, tag_sEI, I_sEI, J_sEI, R_sEI, EI_sEI, EJ_sEI, ER_sEI, n_sEJ, z_sEJ, tag_sEJ, I_sEJ, J_sEJ, R_sEJ, EI_sEJ, EJ_sEJ, ER_sEJ, n_sER, z_sER, tag_sER, I_sER, J_sER, R_sER, EI_sER, EJ_sER, ER_sER, n_nw, z_nw, tag_nw, I_nw, J_nw, R_nw, EI_nw, EJ_nw, ER_nw]⟩, fun j hj => absurd hj (Nat.not_lt_zero j), w8, w9.keep q4.1 (fun g a hg _ _ => n4 enF rfl g a hg) (fun _ _ => rfl)⟩, by rw [q4.1.R (n4 [28] rfl _ _ rfl)]; exact a4, a5, a6.fr q4.1 (fun a => n4 [27] rfl _ a rfl) (fun a => n4 [2306] rfl _ a rfl)⟩
    refine k_X1_beginTransaction_160 (l3 := some CM) oo (fun c => nomatch c) (fun a ca => ?_)
    rw [← Option.some.inj ca]
    have x14 : TXI h4 X TT TH TL x := x13.fr q4.1 (n4 _ rfl)
    have md4 : MDR h4 CM mc := md.fr q4.1 (n4 _ rfl)
    obtain ⟨⟨tM, rT⟩, sT, ty, -, mx⟩ := id md4
    obtain ⟨⟨g1, g2, g3, g4', g5, g6⟩, ⟨p1, p2, -⟩, -, -, dF⟩ := id sT
    have t04 := q4.1.tag t03
    have tX4 := q4.1.tag tX3
    refine k_X1_beginTransaction_172 (r2 := x14.1.2.2.2.1) (r8 := mx.1.2.2.2.2) oo (fun c5 => ?_) (fun c5 => ?_)
    rotate_left
    · refine k_X1_beginTransaction_186 oo ?_
      have : 6 ≤ x.2.2.2.2.1 := by
        rcases Nat.lt_or_ge x.2.2.2.2.1 6 with z | z
        · exact absurd ((nI_ltI (by omega) (by omega)).mpr (by omega)) c5
        · exact z
      rw [if_pos this] at hm0
      exact cstop_ok (w := 3) (c := 5) H4.1 ((kE _ hm0).stp ub4 H4 mx2 hv2)
    have c5 : x.2.2.2.2.1 < 6 := by rw [← ml]; exact (nI_ltI (by omega) (by omega)).mp c5
    rw [if_neg (by omega)] at hm0
    obtain ⟨d1, d2, -⟩ := dF x.2.2.2.2.1 (by omega)
    have ix6 : IX (nI x.2.2.2.2.1) 96 x.2.2.2.2.1 := IX.mk (by omega) (by omega)
    obtain ⟨um, hu⟩ : ∃ um, mc.2.2.2.2.2[x.2.2.2.2.1]? = some um := ⟨_, List.getElem?_eq_getElem (by omega)⟩
    obtain ⟨f1, f2⟩ := mf um (List.mem_of_getElem? hu)
    have fl := (mx.2.2.2.2.2.2 _ um hu).1
    refine k_X1_beginTransaction_194 (r8 := x14.1.2.2.2.1) (r17 := fl) oo (fun c6 => absurd ((bit4 (by omega) 2 (by omega)).mpr f2) c6) (fun _ => ?_)
    refine k_X1_beginTransaction_218 oo ?_
    exact cstop_ok (w := 3) (c := 6) H4.1 ((kE _ hm0).stp ub4 H4 mx2 hv2)
  -- another module
  have cw : ∀ n, vew st Lf fs tt (2, lN n, 0) = vew st Lf fs tt (2, lN n, 0) := fun _ => rfl
  have wd3 : WRD h3 o2 A W BA tt (maU MA 0 (sce Lf RN fs tt (1, x.1, 0))) fs st Lf RN := (wd.oub ub3).ma rfl
  refine cmod_q (n := x.2.2.2.1) (cb := true) H3 wd3 (by omega) y3 (by
    show List.findIdx? _ [((((1, x.1, 0), c, c, false)) : En)] = none
    rw [List.findIdx?_cons]
    rw [show ((((1, x.1, 0) : Pc) == (2, lN x.2.2.2.1, 0)) = false) from by rw [beq_eq_false_iff_ne]; intro e; exact absurd (congrArg Prod.fst e) (show (1 : Nat) ≠ 2 by decide)]
    rfl) (by show (1 : Nat) < 26; omega) (by show (1 : Nat) < 24; omega) (cno _ (by show (2 : Nat) ≠ 3; decide)) (by omega) (fun k p hp hg h' l' o' s' MA' u' H' sm e1 e2 => wt k p hp hg h' l' o' MA' s' fx (ub3.trans u'.oub) H' (clr1 s' sm.1 (fun y hy' => hv2 y (by rw [sm.2.2] at hy'; exact hy'))) e1 e2) (fun hg2 h4 l4 o4 u4 H4 av4 => ?_)
  obtain ⟨c', hc'⟩ : ∃ c', vew st Lf fs tt (2, lN x.2.2.2.1, 0) = c' := ⟨_, rfl⟩
  have cv' : c'.2.2.2 = none := by rw [← hc']; exact cno _ (by show (2 : Nat) ≠ 3; decide)
  rw [hc'] at H4
  have H4 : OPQ 0 fx XX.G B h4 A W q BA X tt x.1 x.2.2.1 SP wi (maU (maU MA 0 (sce Lf RN fs tt (1, x.1, 0))) 1 (sce Lf RN fs tt (2, lN x.2.2.2.1, 0))) l4 o4 (0, fun _ => ent (0, 0) [], [((1, x.1, 0), c, c, false), ((2, lN x.2.2.2.1, 0), c', c', false)], 2, 0) := H4
  have ub4 : OUB wi W h h4 o o4 := ub3.trans u4.oub
  have mx4 : MAX 0 MA (maU (maU MA 0 (sce Lf RN fs tt (1, x.1, 0))) 1 (sce Lf RN fs tt (2, lN x.2.2.2.1, 0))) [(1, x.1, 0), (2, lN x.2.2.2.1, 0)] (sco Lf RN fs tt) := ⟨⟨rfl, rfl⟩, fun e he => absurd he (Nat.not_lt_zero e), fun e p _ hp => by
    have e2 : e < 2 := get_lt hp
    have e01 : e = 0 ∨ e = 1 := by omega
    rcases e01 with e0 | e0
    · subst e0
      cases hp
      rw [sco_n hg]
      simp [maU]
    · subst e0
      cases hp
      rw [sco_n hg2]
      simp [maU]⟩
  have hv4 : ∀ y ∈ [(((1, x.1, 0), c, c, false) : En), ((2, lN x.2.2.2.1, 0), c', c', false)], y.2.2.1.2.2.2 = none := fun y hy' => by
    simp only [List.mem_cons, List.mem_nil_iff, or_false] at hy'
    rcases hy' with z | z
    · rw [z]; exact cv
    · rw [z]; exact cv'
  have x14 : TXI h4 X TT TH TL x := x1.fr ub4.1 (IPB.no rfl rfl)
  have t04 := ub4.1.tag t0
  have tX4 := ub4.1.tag tX
  refine k_X1_beginTransaction_139 (r2 := x14.1.2.1) oo (fun _ => ?_) (fun c => absurd ((nI_eq (b := 0) (by omega) (by omega)).mp c) m0)
  cases hm : Wd' x.2.2.2.1 with
  | none =>
    have hth : ¬ (vew st Lf fs tt (2, lN x.2.2.2.1, 0)).1 = true := fun z => by
      obtain ⟨-, m, hm'⟩ := hE.2.2.1 _ y3 z
      rw [hm] at hm'; cases hm'
    rw [if_neg hth]
    refine k_X1_beginTransaction_160 (l3 := none) oo (fun _ => ?_) (fun a ca => nomatch ca)
    refine k_X1_beginTransaction_164 oo ?_
    exact cstop_ok (w := 3) (c := 4) H4.1 ((kE _ (mbg_4 hc hb m0 hc' hm)).stp ub4 H4 mx4 hv4)
  | some m =>
    have hth : (vew st Lf fs tt (2, lN x.2.2.2.1, 0)).1 = true := hE.2.1 _ _ hm m0
    rw [if_pos hth]
    refine k_X1_beginTransaction_160 (l3 := some (MA.1 x.2.2.2.1)) oo (fun c => nomatch c) (fun a ca => ?_)
    rw [← Option.some.inj ca]
    obtain ⟨md4, mf4, -⟩ := (hy.oub ub4).2 _ _ hm
    obtain ⟨⟨tM, rT⟩, sT, ty, -, mx⟩ := id md4
    obtain ⟨⟨g1, g2, g3, g4', g5, g6⟩, ⟨p1, p2, -⟩, -, -, dF⟩ := id sT
    have f64 := mx.2.1.2.2.2.2.2
    refine k_X1_beginTransaction_172 (r2 := x14.1.2.2.2.1) (r8 := mx.1.2.2.2.2) oo (fun c5 => ?_) (fun c5 => ?_)
    rotate_left
    · refine k_X1_beginTransaction_186 oo ?_
      have hu : m.2.2.2.2.2[x.2.2.2.2.1]? = none := by
        rw [List.getElem?_eq_none_iff]
        rcases Nat.lt_or_ge x.2.2.2.2.1 m.2.2.2.2.2.length with z | z
        · exact absurd ((nI_ltI (by omega) (by omega)).mpr z) c5
        · exact z
      exact cstop_ok (w := 3) (c := 5) H4.1 ((kE _ (mbg_5 hc hb m0 hc' hm hu)).stp ub4 H4 mx4 hv4)
    have c5 := (nI_ltI (by omega) (by omega)).mp c5
    obtain ⟨u, hu⟩ : ∃ u, m.2.2.2.2.2[x.2.2.2.2.1]? = some u := ⟨_, List.getElem?_eq_getElem c5⟩
    have mb := mbg_n (W := Wd') hc hb m0 hc' hm hu
    obtain ⟨d1, d2, ⟨d3, d4, d5⟩, d6, d7, d8⟩ := dF x.2.2.2.2.1 (by omega)
    have ix6 : IX (nI x.2.2.2.2.1) 96 x.2.2.2.2.1 := IX.mk (by omega) (by omega)
    obtain ⟨fl, u2', u3', -⟩ := mx.2.2.2.2.2.2 _ u hu
    obtain ⟨u7, gu⟩ := (hW.2 _ _ hm).2.1.2.2.2.2.1 u (List.mem_of_getElem? hu)
    rw [show MA.1 x.2.2.2.1 + 1 + 140 + 4 * x.2.2.2.2.1 = MA.1 x.2.2.2.1 + 141 + 4 * x.2.2.2.2.1 by omega] at d1 d2 d3 d4 d5 fl u2' u3'
    rw [show MA.1 x.2.2.2.1 + 1 + 141 + 4 * x.2.2.2.2.1 = MA.1 x.2.2.2.1 + 142 + 4 * x.2.2.2.2.1 by omega] at d3 d6
    rw [show MA.1 x.2.2.2.1 + 141 + 4 * x.2.2.2.2.1 + 1 = MA.1 x.2.2.2.1 + 142 + 4 * x.2.2.2.2.1 by omega] at u2'
    refine k_X1_beginTransaction_194 (r8 := x14.1.2.2.2.1) (r17 := fl) oo (fun c6 => ?_) (fun c6 => ?_)
    rotate_left
    · refine k_X1_beginTransaction_218 oo ?_
      rw [if_pos ((bit4 (by omega) 2 (by omega)).mp c6)] at mb
      exact cstop_ok (w := 3) (c := 6) H4.1 ((kE _ mb).stp ub4 H4 mx4 hv4)
    rw [if_neg (fun z => c6 ((bit4 (by omega) 2 (by omega)).mpr z))] at mb
    have go7 : fts u x.2.2.2.2.2 = false → ∀ v5 v6 v7 v8, V XX K 312 [.ref A, .ref X, .ref (Ea W 0), .ref (MA.1 x.2.2.2.1), .ref (MA.1 x.2.2.2.1 + 141 + 4 * x.2.2.2.2.1), v5, v6, v7, v8] [] h4 := fun hf7 v5 v6 v7 v8 => by
      rw [if_pos hf7] at mb
      refine k_X1_beginTransaction_312 oo ?_
      exact cstop_ok (w := 3) (c := 7) H4.1 ((kE _ mb).stp ub4 H4 mx4 hv4)
    obtain ⟨pre, post, -, -, p3⟩ := id u2'
    have l8 := gu.1
    refine k_X1_beginTransaction_226 (r5 := p3) (r8 := x14.2.1.1) oo (fun c7 => ?_) (fun c7 => ?_)
    · -- other lengths
      refine k_X1_beginTransaction_245 oo ?_
      refine k_X1_beginTransaction_246 oo ?_
      have hf7 : fts u x.2.2.2.2.2 = false := by
        rw [Bool.eq_false_iff]
        intro ht
        unfold fts at ht
        rw [beq_iff_eq] at ht
        have := congrArg List.length ht
        rw [List.length_map, List.length_map] at this
        exact c7 (by rw [this])
      have p307 : ∀ v6 v7 v8, V XX K 307 [.ref A, .ref X, .ref (Ea W 0), .ref (MA.1 x.2.2.2.1), .ref (MA.1 x.2.2.2.1 + 141 + 4 * x.2.2.2.2.1), .int (nI 0), v6, v7, v8] [] h4 := fun v6 v7 v8 => by
        refine k_X1_beginTransaction_307 oo (fun c => absurd rfl c) (fun _ => ?_)
        exact go7 hf7 _ _ _ _
      refine k_X1_beginTransaction_251 (r2 := x14.2.1.1) oo (fun _ => p307 _ _ _) (fun _ => ?_)
      exact k_X1_beginTransaction_260 oo (fun _ => p307 _ _ _) (fun c => absurd rfl c)
    refine k_X1_beginTransaction_241 oo ?_
    refine k_X1_beginTransaction_246 oo ?_
    have hlen : u.2.1.length = x.2.2.2.2.2.length := (nI_eq (by omega) (by omega)).mp c7
    refine bg_251 oo tX4 x14 ha md4 hu gu hlen (by omega) (fun v5 v6 ht => ?_) (fun v5 v6 hf7 => go7 hf7 _ _ _ _) x.2.2.2.2.2.length 0 (by omega) (fun j hj => absurd hj (Nat.not_lt_zero j))
    rw [if_neg (by rw [ht]; decide)] at mb
    refine k_X1_beginTransaction_320 oo ?_
    refine bg_326 oo md4 hu gu (by omega) (fun v6 v7 hp => ?_) (fun v6 v7 hp => ?_) u.2.2.1.length 0 true (by omega) rfl
    rotate_left
    · rw [if_pos hp] at mb
      refine k_X1_beginTransaction_384 oo ?_
      exact cstop_ok (w := 3) (c := 8) H4.1 ((kE _ mb).stp ub4 H4 mx4 hv4)
    rw [if_neg (by rw [hp]; decide)] at mb
    have eB4 : h4.J 2442 W = c.2.1 := by rw [u4.1.J (IP.no (l := [2442]) rfl _ _ rfl)]; exact eB
    have eS4 : h4.J 2443 W = c.2.2.1 := by rw [u4.1.J (IP.no (l := [2443]) rfl _ _ rfl)]; exact eS
    refine bg_392 (MA := maU (maU MA 0 (sce Lf RN fs tt (1, x.1, 0))) 1 (sce Lf RN fs tt (2, lN x.2.2.2.1, 0))) (mn := x.2.2.2.1) (f := x.2.2.2.2.1) oo H4 x14 ha (by rw [av4, av3]; exact hav) (mf4 _) (by omega) fun h5 l5 o5 u5 c5' v5' w5 d5' => ?_
    refine kO _ mb h5 l5 o5 _ (ub4.trans u5.oub) ⟨c5', v5', w5, Nat.zero_le _, d5'⟩ ?_ (fun j hj => ?_) (by rw [u5.1.J (IP.no (l := [2442]) rfl _ _ rfl)]; exact eB4) (by rw [u5.1.J (IP.no (l := [2443]) rfl _ _ rfl)]; exact eS4)
    · exact mx4
    · have hj : j < 1 := hj
      have j0 : j = 0 := by omega
      subst j0
      rfl
end
