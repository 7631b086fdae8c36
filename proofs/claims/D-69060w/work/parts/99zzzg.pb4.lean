/-! a publication begins -/
/-- entries of a publication -/
def PEN (env : Pc → Cn) (e0 : En) (es : List En) : Prop := es[0]? = some e0 ∧ ∀ x ∈ es, x.2.1 = env x.1 ∧ x.2.2.1.2.2.2 = none
theorem PEN.qs {env : Pc → Cn} {e0 : En} {es : List En} {p : Pc} (s : PEN env e0 es) (hp : (env p).2.2.2 = none) : PEN env e0 (qsk env es p) := ⟨preg qsk_pre s.1, fun x hx => by
  rcases qsk_m hx with q | q
  · exact s.2 x q
  · rw [q]; exact ⟨rfl, hp⟩⟩
theorem PEN.lk {env : Pc → Cn} {e0 : En} (hp : ∀ n, (env (2, lN n, 0)).2.2.2 = none) : ∀ {ns : List Nat} {es : List En}, PEN env e0 es → PEN env e0 (lkE env ns es)
  | [], _, s => s
  | n :: ns, es, s => PEN.lk hp (ns := ns) (es := las env es n) (by
      unfold las
      split
      · exact s
      · exact s.qs (hp n))
theorem PEN.up {env : Pc → Cn} {e0 : En} {es : List En} {p : Pc} {f : Cn → Cn} (s : PEN env e0 es) (hf : ∀ c, (f c).2.2.2 = c.2.2.2) (h0 : e0.1 ≠ p) : PEN env e0 (upE p f es) := ⟨upE_g s.1 h0, fun x hx => by
  unfold upE at hx
  obtain ⟨y, y1, y2⟩ := List.mem_map.mp hx
  obtain ⟨a, b⟩ := s.2 y y1
  rw [← y2]
  split
  · exact ⟨a, by show (f y.2.2.1).2.2.2 = none; rw [hf]; exact b⟩
  · exact ⟨a, b⟩⟩
theorem mpb_pen {W : Wd} {cm : Md} {dw : Nat → Nat → Nat} {env : Pc → Cn} {lim n : Nat} {r : Except (Nat × Nat) Md} {es : List En} {e0 : En} (hp : ∀ p : Pc, p.1 ≠ 3 → (env p).2.2.2 = none) (h1 : e0.1.1 = 1) (s : PEN env e0 es) : PEN env e0 (mpb W cm dw env lim n r es).2.2.1 ∧ (mpb W cm dw env lim n r es).1 < 5 ∧ (mpb W cm dw env lim n r es).1 ≠ 3 := by
  have ne : ∀ p : Pc, p.1 ≠ 1 → e0.1 ≠ p := fun p hp e => hp (by rw [← e]; exact h1)
  have p5 : PEN env e0 (qsk env es (5, 0, 0)) := s.qs (hp _ (by show (5 : Nat) ≠ 3; decide))
  have p2 : ∀ k : Nat, PEN env e0 (qsk env (qsk env es (5, 0, 0)) (2, lN k, 0)) := fun k => p5.qs (hp _ (by show (2 : Nat) ≠ 3; decide))
  have pl : ∀ (k : Nat) (ns : List Nat), PEN env e0 (lkE env ns (qsk env (qsk env es (5, 0, 0)) (2, lN k, 0))) := fun k ns => (p2 k).lk (fun n => hp _ (by show (2 : Nat) ≠ 3; decide))
  have p4 : ∀ (k : Nat) (ns : List Nat), PEN env e0 (qsk env (lkE env ns (qsk env (qsk env es (5, 0, 0)) (2, lN k, 0))) (4, 0, 0)) := fun k ns => (pl k ns).qs (hp _ (by show (4 : Nat) ≠ 3; decide))
  have t2 : (2 : Nat) < 5 ∧ (2 : Nat) ≠ 3 := by decide
  have t4 : (4 : Nat) < 5 ∧ (4 : Nat) ≠ 3 := by decide
  have t0 : (0 : Nat) < 5 ∧ (0 : Nat) ≠ 3 := by decide
  unfold mpb
  split
  · exact ⟨s, t2⟩
  split
  · exact ⟨p5, t2⟩
  split
  · exact ⟨p5, t4⟩
  split
  · exact ⟨p5, t4⟩
  split
  · exact ⟨p2 _, t4⟩
  split
  · exact ⟨pl _ _, t4⟩
  split
  · exact ⟨pl _ _, t4⟩
  split
  · exact ⟨p4 _ _, t2⟩
  · exact ⟨(((p4 _ _).up (f := inB) (fun _ => rfl) (ne _ (show (4 : Nat) ≠ 1 by decide))).up (f := inB) (fun _ => rfl) (ne _ (show (5 : Nat) ≠ 1 by decide))).up (f := onT) (fun _ => rfl) (ne _ (show (2 : Nat) ≠ 1 by decide)), t0⟩
/-- a publication, with what the sender must have -/
def mpx (W : Wd) (cm : Md) (dw : Nat → Nat → Nat) (env : Pc → Cn) (x : TxC) (n : Nat) (rd : Except (Nat × Nat) Md) : TxR :=
  if (env (1, x.1, 0)).1 = false then (3, 1, [((1, x.1, 0), env (1, x.1, 0), env (1, x.1, 0), false)], 0, [], 0)
  else if (env (1, x.1, 0)).2.2.1 ≠ x.2.1 then (3, 2, [((1, x.1, 0), env (1, x.1, 0), env (1, x.1, 0), false)], 0, [], 0)
  else if (env (1, x.1, 0)).2.1 < lN x.2.2.1 then (3, 3, [((1, x.1, 0), env (1, x.1, 0), env (1, x.1, 0), false)], 0, [], 0)
  else mpb W cm dw env x.2.2.1 n rd [((1, x.1, 0), env (1, x.1, 0), env (1, x.1, 0), false)]
/-- what a publication owes, from its beginning -/
def PXK (K : Outcome → AH → Prop) (fx : Option Nat) (G : Gt) (B A W q BA X tt SP wi DP M : Nat) (sc : Pc → Option (Int32 × Int32)) (h0 : AH) (o0 : Lc) (MA0 : Ma) (rd : Except (Nat × Nat) Md) (dw : Nat → Nat → Nat) (x : TxC) (c : Cn) (r : TxR) : Prop := ∀ h' l' o' MA' ak F, Fr (fun f a => IPB W f a ∨ P2 DP X f a) h0 h' → (∀ p : Sl, (p.1 = 0 ∨ 3 < p.1) ∨ p.2.1 ≠ wi → o' p = o0 p ∧ ∀ y, o0 p = some y → h'.R 3718 y.1 = h0.R 3718 y.1) → OPQ 0 fx G B h' A W q BA X tt x.1 x.2.2.1 SP wi MA' l' o' (0, F, r.2.2.1, ak, r.2.2.2.1) → MAX 0 MA0 MA' (r.2.2.1.map fun x => x.1) sc → (h'.I 24 A = nI r.1 ∧ h'.J 25 A = (if r.1 = 0 then -1 else r.2.1)) → (r.1 = 4 → h'.I 2709 X = nI r.2.2.2.2.2) → (∃ dp, DPR h' M DP dp ∧ (r.1 = 0 → ∀ m, rd = .ok m → dag m dp (mdw m dw))) → (r.1 ≠ 3 → h'.J 2442 W = c.2.1 ∧ h'.J 2443 W = c.2.2.1) → K (.threw SP) h'
section
variable {G : Gt} {B d : Nat} {h : AH} {l : List Nat} {o : Lc} {wi W A q BA X tt SP DP M CM C CW : Nat} {MA : Ma} {K : Outcome → AH → Prop} {fs : Nat} {fx : Option Nat} {st : Lw} {Lf : Nat → Lw} {RN : Nat → Int32} {Wd' : Wd} {cm : Md} {DA : Nat → Nat} {dw : Nat → Nat → Nat} {ms : List Nat} {bs : List Pc} {dp0 : Nat → Nat}
theorem begin_pb {x : TxC} {n TT TH TL : Nat} {rd : Except (Nat × Nat) Md} (c0 : CTX h A W q BA X tt x.1 x.2.2.1 SP) (v : VH G B h q l o) (id0 : IDW h o wi W) (hf : h.R 28 A = fx) (hw : WDR h A) (x1 : TXI h X TT TH TL x) (hpb : h.I 2688 X = bI true) (hE : EVW Wd' (vew st Lf fs tt)) (wd : WRD h o A W BA tt MA fs st Lf RN) (hg : ∀ p, gss Lf fs tt p = none) (hms : ∀ n m', Wd' n = some m' → n ≠ 0 → n ∈ ms) (hm8 : bs.length + ms.length ≤ 25) (tp : TXP h X M n rd) (dr : DPR h M DP dp0) (hm : ∀ m, rd = .ok m → LKS h A CM M DP C CW MA Wd' cm m DA dw ∧ GDm m ∧ smB m ∧ (2, lN m.1, 0) ∈ bs ∧ (m.1 ≠ 0 → (vew st Lf fs tt (2, lN m.1, 0)).1 = false → MA.1 m.1 = M)) (hb1 : (1, x.1, 0) ∈ bs) (hb4 : (4, 0, 0) ∈ bs) (hb5 : (5, 0, 0) ∈ bs) (hd : 58 ≤ d) (kk : PXK K fx G B A W q BA X tt SP wi DP M (sco Lf RN fs tt) h o MA rd dw x (vew st Lf fs tt (1, x.1, 0)) (mpx Wd' cm dw (vew st Lf fs tt) x n rd)) : MW G d e_X1_beginTransaction [.ref A] h K := by
  refine st_X1_beginTransaction fun XX oo hG hD _ => ?_
  subst hG; subst hD
  obtain ⟨⟨t0, rq, rW, rB, rS⟩, ⟨tB, wt', ht32, eX⟩, tX, xl, xl2, xs⟩ := id c0
  have tW := id0.1.1.1.1
  have ix : IX (nI tt) 32 tt := IX.mk (by omega) (by omega)
  refine k_X1_beginTransaction_0 (r7 := wt') (r22 := xs) oo ?_
  generalize hh1 : (h.sI 2441 W (nI 0)).sI 2439 W (nI 0) = h1
  have q1 : Fq (fun g a => (g = 2441 ∨ g = 2439) ∧ a = W) h h1 := by
    rw [← hh1]
    exact Fq.sI (Fq.sI (Fq.refl h) ⟨Or.inl rfl, rfl⟩) ⟨Or.inr rfl, rfl⟩
  have n1 : ∀ g a, g ≠ 2441 → g ≠ 2439 → ¬ ((g = 2441 ∨ g = 2439) ∧ a = W) := fun g a z1 z2 z => by
    rcases z.1 with y | y
    · exact z1 y
    · exact z2 y
  have nl : ∀ l : List Nat, l.all (fun f => !([2441, 2439].contains f)) = true → ∀ g a, l.contains g = true → ¬ ((g = 2441 ∨ g = 2439) ∧ a = W) := fun l hl g a hg z => by
    rw [List.all_eq_true] at hl
    have := hl g (List.contains_iff_mem.mp hg)
    rcases z.1 with y | y <;> (rw [y] at this; exact absurd this (by decide))
  obtain ⟨v1, tg1⟩ := v.oth q1 (fun g a z y => by
    rcases y.1 with y | y <;> (rw [y] at z; exact VQ.no (l := [2441, 2439]) rfl _ _ rfl z))
  have fi1 : Fr (IP W) h h1 := q1.1.mono fun g a z => Or.inr (Or.inl ⟨by rcases z.1 with y | y <;> (rw [y]; rfl), by rw [z.2]; omega, by rw [z.2]; omega⟩)
  have u1 : OUT wi W h h1 o o := OUT.mk0 fi1 tg1
  have H1 : OPQ 0 fx XX.G B h1 A W q BA X tt x.1 x.2.2.1 SP wi MA l o (0, fun _ => ent (0, 0) [], [], 0, 0) := by
    refine ⟨c0.ip fi1, v1, ⟨⟨id0.1.1.fr q1.1 (nl swF rfl), by rw [q1.1.I (n1 _ _ (by decide) (by decide))]; exact id0.1.2.1, Nat.le_refl _, by show (0 : Nat) ≤ 32; omega, by rw [← hh1]; simp [n_sI, z_sI, tag_sI, I_sI, J_sI, R_sI, EI_sI, EJ_sI, ER_sI, n_sJ, z_sJ, tag_sJ, I_sJ, J_sJ, R_sJ, EI_sJ, EJ_sJ, ER_sJ, n_sR, z_sR, tag_sR, I_sR, J_sR, R_sR, EI_sR, EJ_sR, ER_sR, n_sEI, z_sEI, tag_sEI, I_sEI, J_sEI, R_sEI, EI_sEI, EJ_sEI, ER_sEI, n_sEJ, z_sEJ, tag_sEJ, I_sEJ, J_sEJ, R_sEJ, EI_sEJ, EJ_sEJ, ER_sEJ, n_sER, z_sER, tag_sER, I_sER, J_sER, R_sER, EI_sER, EJ_sER, ER_sER, n_nw, z_nw, tag_nw, I_nw, J_nw, R_nw, EI_nw, EJ_nw, ER_nw]; rfl, by rw [← hh1]; simp [n_sI, z_sI, tag_sI, I_sI, J_sI, R_sI, EI_sI, EJ_sI, ER_sI, n_sJ, z_sJ, tag_sJ, I_sJ, J_sJ, R_sJ, EI_sJ, EJ_sJ, ER_sJ, n_sR, z_sR, tag_sR, I_sR, J_sR, R_sR, EI_sR, EJ_sR, ER_sR, n_sEI, z_sEI, tag_sEI, I_sEI, J_sEI, R_sEI, EI_sEI, EJ_sEI, ER_sEI, n_sEJ, z_sEJ, tag_sEJ, I_sEJ, J_sEJ, R_sEJ, EI_sEJ, EJ_sEJ, ER_sEJ, n_sER, z_sER, tag_sER, I_sER, J_sER, R_sER, EI_sER, EJ_sER, ER_sER, n_nw, z_nw, tag_nw, I_nw, J_nw, R_nw, EI_nw, EJ_nw, ER_nw]⟩, fun j hj => absurd hj (Nat.not_lt_zero j), fun j _ i => ⟨id0.2 (1, wi, j, i) (by show 1 ≤ 1; omega) (by show 1 ≤ 3; omega) rfl, id0.2 (2, wi, j, i) (by show 1 ≤ 2; omega) (by show 2 ≤ 3; omega) rfl⟩, ⟨by rw [q1.1.I (n1 _ _ (by decide) (by decide))]; exact id0.1.2.2, by show (0 : Nat) ≤ 26; omega⟩, fun e y hy' => by simp [ens] at hy', fun e b _ => id0.2 (3, wi, e, b) (by show 1 ≤ 3; omega) (by show 3 ≤ 3; omega) rfl⟩, by rw [q1.1.R (n1 _ _ (by decide) (by decide))]; exact hf, Nat.zero_le _, hw.fr q1.1 (fun a => n1 _ _ (by decide) (by decide)) (fun a => n1 _ _ (by decide) (by decide))⟩
  have cno : ∀ p : Pc, p.1 ≠ 3 → (vew st Lf fs tt p).2.2.2 = none := fun p hp => (hE.1 p).2.1 hp
  refine cask_q (p := (1, x.1, 0)) (cb := true) H1 (wd.out u1) ⟨by show 1 < 16; omega, by show 0 < _; omega⟩ (fun _ => by show (0 : Nat) < 26; omega) (by show (0 : Nat) ≤ 24; omega) (fun v hv' => by rw [cno _ (by show (1 : Nat) ≠ 3; decide)] at hv'; cases hv') (by omega) (fun k p hp hg' h' l' o' s' MA' u' H' sm e1 e2 => by rw [hg p] at hg'; cases hg') (fun i hi => by simp [ens] at hi) (fun _ c => absurd c (by decide)) (fun _ _ hg' h2 l2 o2 u2 H2 av2 => ?_)
  obtain ⟨c, hc⟩ : ∃ c, vew st Lf fs tt (1, x.1, 0) = c := ⟨_, rfl⟩
  unfold mpx at kk
  rw [hc] at H2 kk
  have H2 : OPQ 0 fx XX.G B h2 A W q BA X tt x.1 x.2.2.1 SP wi (maU MA 0 (sce Lf RN fs tt (1, x.1, 0))) l2 o2 (0, fun _ => ent (0, 0) [], [((1, x.1, 0), c, c, false)], 1, 0) := H2
  have ut2 : OUT wi W h h2 o o2 := u1.trans u2
  have ub2 : OUB wi W h h2 o o2 := ut2.oub
  have mx2 : MAX 0 MA (maU MA 0 (sce Lf RN fs tt (1, x.1, 0))) [(1, x.1, 0)] (sco Lf RN fs tt) := ⟨⟨rfl, rfl⟩, fun e he => absurd he (Nat.not_lt_zero e), fun e p _ hp => by
    have e0 : e < 1 := get_lt hp
    have e0 : e = 0 := by omega
    subst e0
    cases hp
    rw [sco_n hg']
    simp [maU]⟩
  obtain ⟨-, ⟨b1, b2, b3⟩, -⟩ := id (H2.2.2.1.2.2.2.2.1 0 _ rfl)
  have b1 : h2.I 1155 (Ea W 0) = bI c.1 := b1
  have b2 : h2.J 1156 (Ea W 0) = c.2.1 := b2
  have b3 : h2.J 1157 (Ea W 0) = c.2.2.1 := b3
  have tE := (H2.2.2.1.1.1.2.2.2 0 (by omega)).2
  obtain ⟨⟨t02, rq2, rW2, rB2, rS2⟩, ⟨tB2, wt2, -, eX2⟩, tX2, xl2', -, xs2⟩ := id H2.1
  have tW2 := H2.2.2.1.1.1.1.1
  have x12 : TXI h2 X TT TH TL x := x1.fr ub2.1 (IPB.no rfl rfl)
  have rf : ∀ cc : Int64, PXK K fx XX.G B A W q BA X tt SP wi DP M (sco Lf RN fs tt) h o MA rd dw x c (3, cc, [((1, x.1, 0), c, c, false)], 0, [], 0) → STP K A SP h2 3 cc := fun cc k => H2.stop fun h' l' o' u3 H3 e1 e2 => k h' l' o' _ _ _ ((ub2.trans u3.oub).1.mono fun f a z => Or.inl z) (ub2.trans u3.oub).2 H3 mx2 ⟨e1, by rw [e2]; rfl⟩ (fun z => absurd z (show ¬ ((3 : Nat) = 4) by decide)) ⟨dp0, dr.oub (ub2.trans u3.oub), fun z => absurd z (show ¬ ((3 : Nat) = 0) by decide)⟩ (fun z => absurd rfl z)
  refine k_X1_beginTransaction_40 (r2 := b1) oo (fun c1 => ?_) (fun c1 => ?_)
  rotate_left
  · refine k_X1_beginTransaction_48 oo ?_
    rw [if_pos (bI_0.mp c1)] at kk
    exact cstop_ok (w := 3) (c := 1) H2.1 (rf _ kk)
  have c1 : c.1 = true := by
    cases h' : c.1 with
    | true => rfl
    | false => exact absurd (by rw [h']; rfl) c1
  rw [if_neg (by rw [c1]; decide)] at kk
  refine k_X1_beginTransaction_54 (r2 := b3) (r5 := x12.1.1) oo (fun c2 => ?_) (fun c2 => ?_)
  rotate_left
  · refine k_X1_beginTransaction_66 oo ?_
    rw [if_pos c2] at kk
    exact cstop_ok (w := 3) (c := 2) H2.1 (rf _ kk)
  rw [if_neg (fun z => z c2)] at kk
  have xl64 : (nI x.2.2.1).toInt64 = lN x.2.2.1 := nI_64 (by omega)
  refine k_X1_beginTransaction_74 (r2 := b2) (r5 := xl2') oo (fun c3 => ?_) (fun c3 => ?_)
  rotate_left
  · rw [xl64] at c3
    refine k_X1_beginTransaction_87 oo ?_
    rw [if_pos (Int64.not_le.mp c3)] at kk
    exact cstop_ok (w := 3) (c := 3) H2.1 (rf _ kk)
  rw [xl64] at c3
  rw [if_neg (Int64.not_lt.mpr c3)] at kk
  have pb2 : h2.I 2688 X = bI true := by rw [ub2.1.I (IPB.no (l := [2688]) rfl rfl _ _ rfl)]; exact hpb
  refine k_X1_beginTransaction_95 (r5 := b2) (r10 := b3) (r14 := pb2) oo (fun c => absurd c (by decide)) (fun _ => ?_)
  generalize hh3 : (h2.sJ 2442 W c.2.1).sJ 2443 W c.2.2.1 = h3
  have q3 : Fq (fun g a => (g = 2442 ∨ g = 2443) ∧ a = W) h2 h3 := by
    rw [← hh3]
    exact Fq.sJ (Fq.sJ (Fq.refl h2) ⟨Or.inl rfl, rfl⟩) ⟨Or.inr rfl, rfl⟩
  have eB : h3.J 2442 W = c.2.1 := by rw [← hh3]; simp [n_sI, z_sI, tag_sI, I_sI, J_sI, R_sI, EI_sI, EJ_sI, ER_sI, n_sJ, z_sJ, tag_sJ, I_sJ, J_sJ, R_sJ, EI_sJ, EJ_sJ, ER_sJ, n_sR, z_sR, tag_sR, I_sR, J_sR, R_sR, EI_sR, EJ_sR, ER_sR, n_sEI, z_sEI, tag_sEI, I_sEI, J_sEI, R_sEI, EI_sEI, EJ_sEI, ER_sEI, n_sEJ, z_sEJ, tag_sEJ, I_sEJ, J_sEJ, R_sEJ, EI_sEJ, EJ_sEJ, ER_sEJ, n_sER, z_sER, tag_sER, I_sER, J_sER, R_sER, EI_sER, EJ_sER, ER_sER, n_nw, z_nw, tag_nw, I_nw, J_nw, R_nw, EI_nw, EJ_nw, ER_nw]
  have eS : h3.J 2443 W = c.2.2.1 := by rw [← hh3]; simp [n_sI, z_sI, tag_sI, I_sI, J_sI, R_sI, EI_sI, EJ_sI, ER_sI, n_sJ, z_sJ, tag_sJ, I_sJ, J_sJ, R_sJ, EI_sJ, EJ_sJ, ER_sJ, n_sR, z_sR, tag_sR, I_sR, J_sR, R_sR, EI_sR, EJ_sR, ER_sR, n_sEI, z_sEI, tag_sEI, I_sEI, J_sEI, R_sEI, EI_sEI, EJ_sEI, ER_sEI, n_sEJ, z_sEJ, tag_sEJ, I_sEJ, J_sEJ, R_sEJ, EI_sEJ, EJ_sEJ, ER_sEJ, n_sER, z_sER, tag_sER, I_sER, J_sER, R_sER, EI_sER, EJ_sER, ER_sER, n_nw, z_nw, tag_nw, I_nw, J_nw, R_nw, EI_nw, EJ_nw, ER_nw]
  have n3 : ∀ l : List Nat, l.all (fun f => !([2442, 2443].contains f)) = true → ∀ g a, l.contains g = true → ¬ ((g = 2442 ∨ g = 2443) ∧ a = W) := fun l hl g a hg z => by
    rw [List.all_eq_true] at hl
    have := hl g (List.contains_iff_mem.mp hg)
    rcases z.1 with y | y <;> (rw [y] at this; exact absurd this (by decide))
  obtain ⟨v3, tg3⟩ := H2.2.1.oth q3 (fun g a z y => by
    rcases y.1 with y | y <;> (rw [y] at z; exact VQ.no (l := [2442, 2443]) rfl _ _ rfl z))
  have u3 : OUB wi W h2 h3 o2 o2 := ⟨q3.1.mono fun g a z => Or.inr z, fun p _ => ⟨rfl, fun y hy' => tg3 p y (by simp) hy'⟩⟩
  have ub3 : OUB wi W h h3 o o2 := ub2.trans u3
  have H3 : OPQ 0 fx XX.G B h3 A W q BA X tt x.1 x.2.2.1 SP wi (maU MA 0 (sce Lf RN fs tt (1, x.1, 0))) l2 o2 (0, fun _ => ent (0, 0) [], [((1, x.1, 0), c, c, false)], 1, 0) := ⟨H2.1.fr q3.1 (n3 _ rfl), v3, H2.2.2.1.oth q3.1 (n3 _ rfl), by rw [q3.1.R (n3 [28] rfl _ _ rfl)]; exact H2.2.2.2.1, H2.2.2.2.2.1, H2.2.2.2.2.2.fr q3.1 (fun a => n3 [27] rfl _ a rfl) (fun a => n3 [2306] rfl _ a rfl)⟩
  have t03 := q3.1.tag t02
  refine k_X1_beginTransaction_124 oo ?_
  have li : LKI (vew st Lf fs tt) ms bs [((1, x.1, 0), c, c, false)] := ⟨by simp, fun y hy => by
    rw [List.mem_singleton] at hy
    subst hy
    exact ⟨by show _ = ((1, x.1, 0), vew st Lf fs tt (1, x.1, 0), vew st Lf fs tt (1, x.1, 0), false); rw [hc], Or.inl hb1⟩⟩
  have wd3 : WRD h3 o2 A W BA tt (maU MA 0 (sce Lf RN fs tt (1, x.1, 0))) fs st Lf RN := (wd.oub ub3).ma rfl
  have lsb : ∀ {m : Md}, LKS h A CM M DP C CW MA Wd' cm m DA dw → LKS h3 A CM M DP C CW (maU MA 0 (sce Lf RN fs tt (1, x.1, 0))) Wd' cm m DA dw := fun {m} ls => by
    have a1 := ls.ul (ut2.ul (DP := DP) (X := X))
    refine LKS.ma rfl ?_
    obtain ⟨⟨a1, a2⟩, b, c, d, e⟩ := a1
    refine ⟨⟨by rw [q3.1.R (n3 [0] rfl _ _ rfl)]; exact a1, a2.fr q3.1 (n3 _ rfl)⟩, fun n m' hm' => ?_, by rw [q3.1.R (n3 [14] rfl _ _ rfl)]; exact c, d.fr q3.1 (n3 _ rfl), q3.1.tag e⟩
    obtain ⟨y1, y2, y3⟩ := b n m' hm'
    exact ⟨y1.fr q3.1 (n3 _ rfl), y2.oub u3, y3⟩
  refine publishing_ok (r := rd) (n := n) (M := M) (DP := DP) (CM := CM) (C := C) (CW := CW) (cm := cm) (DA := DA) (dw := dw) (ms := ms) (bs := bs) (dp0 := dp0) (Wd' := Wd') H3 wd3 hE hg (by omega) hms hm8 (tp.fr ub3.1 (IPB.no rfl rfl)) (dr.oub ub3) (fun m hm' => ?_) hb4 hb5 li (by omega) ?_
  · obtain ⟨ls, g1, g2, g3, g4⟩ := hm m hm'
    exact ⟨lsb ls, g1, g2, g3, fun z1 z2 => g4 z1 z2⟩
  · intro h' l' o' MA' u4 H4 mx4 e1 e2 e3
    refine kk h' l' o' MA' _ _ ((ub3.1.mono fun f a z => Or.inl z).trans (u4.1.mono fun f a z => z.imp Or.inl id)) (fun p hp => ?_) H4 ?_ e1 e2 e3 (fun _ => ⟨by rw [u4.1.J (fun z => z.elim (IP.no (l := [2442]) rfl _ _ rfl) (P2.no (l := [2442]) rfl _ _ rfl))]; exact eB, by rw [u4.1.J (fun z => z.elim (IP.no (l := [2443]) rfl _ _ rfl) (P2.no (l := [2443]) rfl _ _ rfl))]; exact eS⟩)
    · obtain ⟨y1, y2⟩ := ub3.2 p hp
      obtain ⟨y3, y4⟩ := u4.2 p hp
      exact ⟨y3.trans y1, fun y hy => by rw [y4 y (by rw [y1]; exact hy), y2 y hy]⟩
    · have pe : PEN (vew st Lf fs tt) ((1, x.1, 0), c, c, false) [((1, x.1, 0), c, c, false)] := ⟨rfl, fun y hy => by
        rw [List.mem_singleton] at hy
        subst hy
        exact ⟨hc.symm, by rw [← hc]; exact cno _ (by show (1 : Nat) ≠ 3; decide)⟩⟩
      have pm := (mpb_pen (W := Wd') (cm := cm) (dw := dw) (lim := x.2.2.1) (n := n) (r := rd) cno rfl pe).1.1
      refine mx2.tr2 mx4 (fun e he => ?_) (Nat.zero_le _)
      have e0 : e = 0 := by
        have he : e < 1 := he
        omega
      subst e0
      rw [List.getElem?_map, pm]; rfl
end
