/-! all transactions at once: a run ends -/
section
variable {c : Cy} {z : Cz} {G : Gt} {B d : Nat} {g g' : Gg} {h h1 h' : AH} {l l1 l' : List Nat} {o o1 o' : Lc} {j : Nat} {K : Outcome → AH → Prop} {fx : Option Nat} {MA1 : Ma} {s1 : Ms}
theorem TLD.txo {y : Ly} {k oc gs : Nat} {code cc : Int64} {pub : Bool} {rs : List VL} {pl : Nat} {es : List En} {P : Nat → Nat → Prop} (f : Fr P h1 h') (np : ∀ f a, [10000 + 832, 10000 + 803, 10000 + 819].contains f = true → ¬ P f a) (t : TLD h1 h' (yX y k) oc gs code pub) (hR : oc = 0 → pub = false → RSL h1 (yX y k) (y.2 7 k) (y.2 8 k) (y.2 9 k) rs) (hc0 : oc = 0 → code = -1) (hc1 : oc ≠ 0 → code = cc) (hpl : oc = 4 → h1.I 2709 (yX y k) = nI pl) : TXO h' y k pub (oc, cc, es, gs, rs, pl) := by
  obtain ⟨⟨t1, t2, t3⟩, t4, t5⟩ := t
  refine ⟨⟨t1, ?_, t3⟩, ?_, ?_⟩
  · rw [t2]
    show cdE oc code = if oc = 0 then 0 else cc
    unfold cdE
    by_cases c0 : oc = 0
    · rw [if_pos c0, hc0 c0, if_pos ⟨by decide, c0⟩]
    · rw [if_neg c0, if_neg (fun q => c0 q.2), hc1 c0]
  · show RSL h' _ _ _ _ (if oc = 0 ∧ pub = false then rs else [])
    by_cases c0 : oc = 0 ∧ pub = false
    · rw [if_pos c0] at t4 ⊢
      obtain ⟨r1, r2⟩ := hR c0.1 c0.2
      refine ⟨by rw [t4]; exact r1, fun i v hv => ?_⟩
      obtain ⟨x1, x2, x3⟩ := r2 i v hv
      exact ⟨by rw [f.EI (np _ _ rfl)]; exact x1, by rw [f.EJ (np _ _ rfl)]; exact x2, by rw [f.EJ (np _ _ rfl)]; exact x3⟩
    · rw [if_neg c0] at t4 ⊢
      exact ⟨t4, fun i v hv => by simp at hv⟩
  · rw [t5]
    show (if oc = 4 then h1.I 2709 (yX y k) else nI 0) = nI (if oc = 4 then pl else 0)
    by_cases c4 : oc = 4
    · rw [if_pos c4, if_pos c4]; exact hpl c4
    · rw [if_neg c4, if_neg c4]
/-- transactions when t has ended -/
def fTx (z : Cz) (g : Gg) (t : Nat) (v : Tg) : Nat → Tg := fun k => if k = t then v else ((if rlb (fun k => nI (xH g k)) t (zl z) (xS g) k then 0 else xS g k, xR g k, xH g k), (g.1 k).2)
/-- the state of a run that has stopped, where more was written elsewhere -/
def MIDE (E : Nat → Nat → Prop) (c : Cy) (G : Gt) (B : Nat) (g : Gg) (j : Nat) (h : AH) (o : Lc) (fx : Option Nat) (h1 : AH) (l1 : List Nat) (o1 : Lc) (MA1 : Ma) (s1 : Ms) : Prop := Fr (fun f a => PGM c.1 j (wT g j) f a ∨ E f a) h h1 ∧ (∀ p : Sl, ¬ (1 ≤ p.1 ∧ p.1 ≤ 3 ∧ p.2.1 = j) → o1 p = o p ∧ ∀ x, o p = some x → h1.R 3718 x.1 = h.R 3718 x.1) ∧ OPQ 0 fx G B h1 (yA c.1) (yW c.1 j) (yQ c.1) (yB c.1) (yX c.1 (wT g j)) (wT g j) (c.2.2.2.1 (wT g j)).1 (c.2.2.2.1 (wT g j)).2.2.1 (yP c.1) j MA1 l1 o1 s1 ∧ CLR s1
theorem GRL.finE {E : Nat → Nat → Prop} {oc : Nat} {code cc : Int64} {rs : List VL} {pl : Nat} {e0 : En} {es : List En} (nE : ∀ f a, grlF.contains f = true → ¬ E f a) (r : GRL c z G B g h l o) (iv : IVG z g) (hj : j < zn z) (h8 : zn z ≤ 8) (h32 : zl z ≤ 32) (hk : wK g j = 1) (lz : LSZ g) (hl20 : (c.2.2.2.1 (wT g j)).2.2.1 ≤ 20000) (m : MIDE E c G B g j h o fx h1 l1 o1 MA1 s1) (mm : MA1.1 = c.2.1.1) (he : ens s1 = e0 :: es) (h0 : e0.1.1 = 1) (hoc : oc < 5) (hR : oc = 0 → c.2.2.2.2 (wT g j) = false → RSL h1 (yX c.1 (wT g j)) (c.1.2 7 (wT g j)) (c.1.2 8 (wT g j)) (c.1.2 9 (wT g j)) rs) (hB : oc ≠ 3 → h1.J 2442 (yW c.1 j) = e0.2.1.2.1 ∧ h1.J 2443 (yW c.1 j) = e0.2.1.2.2.1) (hc0 : oc = 0 → code = -1) (hc1 : oc ≠ 0 → code = cc) (hpl : oc = 4 → h1.I 2709 (yX c.1 (wT g j)) = nI pl) (hF : z.2.1 (wT g j) (oc, cc, ens s1, gas s1, rs, pl)) (hN : ENN z g (wT g j) (esW g j) (wM g j) (ens s1) MA1) (hL : z.2.2.2 (wT g j) (oc, cc, ens s1, gas s1, rs, pl) = lR1 (c.2.2.2.1 (wT g j)).2.2.1 (c.2.2.2.2 (wT g j)) (oc, cc, ens s1, gas s1, rs, pl)) (hd : 74 ≤ d) (kk : ∀ h' g' l' o', GST z g j g' → GRL c z G B g' h' l' o' → Fr (fun f a => PG c.1 j (wT g j) f a ∨ E f a) h h' → Fr (PG c.1 j (wT g j)) h1 h' → K (.returned none) h') : MW G d e_X1_finish [.ref (yA c.1), .int (nI oc), .long code] h1 K := by
  obtain ⟨⟨⟨⟨a1, a2, a3, a4, a5, a6⟩, -⟩, ⟨b1, b2, b3⟩, -, -, txi⟩, ly, ⟨s1', s2, s3, s4⟩, tx, wk, et, wd, v, sup⟩ := id r
  obtain ⟨m1, m2, ⟨c0, v1, w1, -, hgl, wd1⟩, clr⟩ := m
  have dd := iv.2.2.2
  obtain ⟨-, i2, i3, -⟩ := iv.2.1 j hj
  obtain ⟨i5, i6⟩ := i2 (by omega)
  have t32 : wT g j < 32 := by omega
  obtain ⟨-, -, -, hpb⟩ := txi _ i5 i6
  obtain ⟨⟨y1, y2⟩, y3, y4, y5⟩ := tx (wT g j) t32
  have bl := bsy_l (g := g) (k := zn z)
  have bp := bsy_p (g := g) (j := j) (by omega) hj
  have sub : ∀ l' : List Nat, l'.all (fun f => grlF.contains f) = true → ∀ f a, l'.contains f = true → ¬ E f a := fun l' hl f a hf => nE f a (by rw [List.all_eq_true] at hl; exact hl f (List.contains_iff_mem.mp hf))
  have no : ∀ f a, [2703, 2702, 2704, 2688, 12, 10, 11, 6, 2432, 2433].contains f = true → ¬ (PGM c.1 j (wT g j) f a ∨ E f a) := fun f a hf y => y.elim (PGM.no (l := [2703, 2702, 2704, 2688, 12, 10, 11, 6, 2432, 2433]) rfl rfl rfl f a hf) (sub [2703, 2702, 2704, 2688, 12, 10, 11, 6, 2432, 2433] (by decide) f a hf)
  have eF : ∀ f a, etF.contains f = true → ¬ E f a := sub etF (by decide)
  have rF : ∀ f a, rdF.contains f = true → ¬ E f a := sub rdF (by decide)
  have oF : ∀ f a, [1024, 10000 + 342].contains f = true → ¬ E f a := sub _ (by decide)
  have bF : ∀ f a, bkF.contains f = true → ¬ E f a := sub bkF (by decide)
  obtain ⟨f3, f4⟩ := (ly.1 j hj).2 _ t32
  have f5 := ((ly.2.2 _ t32).2.2 _ t32).1
  have n4 : ∀ p : Sl, p.1 = 4 → ¬ (1 ≤ p.1 ∧ p.1 ≤ 3 ∧ p.2.1 = j) := fun p h4 q => by omega
  have lf1 : EtR h1 o1 4 (wT g j) (yL c.1 (wT g j)) 30 MA1 (xL g (wT g j)) := EtR.ma mm (y3.fr m1 (fun f a hf x1 x2 y => y.elim (PGM.far (l := etF) rfl hf (by omega)) (eF f a hf)) (fun e => (m2 (4, wT g j, e, 0) (n4 _ rfl)).1))
  have rd1 : RDR h1 (yD c.1 (wT g j)) (xD g (wT g j)) := y4.fr m1 (fun f a hf y => y.elim (PGM.no (l := [1024, 10000 + 342]) rfl rfl rfl f a hf) (oF f a hf)) (fun f a hf x1 x2 y => y.elim (PGM.far (l := rdF) rfl hf (by omega)) (rF f a hf))
  have en1 : EnR h1 o1 j (yW c.1 j) MA1 (e0 :: es) := by rw [← he]; exact w1.2.2.2
  have cl1 := w1.clw clr
  rw [he] at cl1
  have fd1 : ∀ x ∈ e0 :: es, ∀ v, x.2.2.1.2.2.2 = some v → fdp v.2.2 ≤ 40 := fun x hx v hv => (clr.2 x (by rw [he]; exact hx) v hv).d
  have gs1 : gas s1 ≤ 20000 := Nat.le_trans hgl hl20
  refine finish_ok (XA := yX c.1) (LA := yL c.1) (RA := yD c.1) (dd := s1.1) (g := gas s1) (last := zl z) (R := qR g) (Tl := qL g) (pub := c.2.2.2.2 (wT g j)) (wb := h1.J 2442 (yW c.1 j)) (wq := h1.J 2443 (yW c.1 j)) (st := xS g) (hd := fun k => nI (xH g k)) (b := nI (bsy g (zn z))) c0 (b1.fr m1 (fun f a hf y => y.elim (PGM.no (l := bkF) rfl rfl rfl f a hf) (bF f a hf))) v1 en1 cl1 h0 f3 f4 f5 lf1 (fun x hx v hv => (lz _ t32 x hx v hv).2) rd1 (by omega) rfl rfl w1.1.2.2.2.2.1 (by omega) (by rw [m1.I (no _ _ rfl)]; exact hpb) fd1 (by rw [m1.I (no _ _ rfl)]; exact b3) h32 i6 (by rw [m1.I (no _ _ rfl)]; exact s2) (by omega) (by rw [m1.I (no _ _ rfl)]; exact s3) (by omega) (by rw [m1.I (no _ _ rfl)]; exact s4) (fun k hk' => ⟨by rw [m1.I (no _ _ rfl)]; exact (s1' k hk').1, (s1' k hk').2, by rw [m1.I (no _ _ rfl)]; exact (tx k hk').1.2⟩) hd fun h' l' o' R' f' v' iw lf' rd' tl o2 tg2 st' er r2 r3 r4 eL et' eb => ?_
  have eLw : lfE oc (c.2.2.2.2 (wT g j)) (c.2.2.2.1 (wT g j)).2.2.1 (if oc = 3 then 0 else gas s1) (h1.J 2442 (yW c.1 j)) (h1.J 2443 (yW c.1 j)) e0 es = lR1 (c.2.2.2.1 (wT g j)).2.2.1 (c.2.2.2.2 (wT g j)) (oc, cc, ens s1, gas s1, rs, pl) := by
    unfold lR1
    simp only [he]
    by_cases c3 : oc = 3
    · unfold lfE; rw [if_pos c3, if_pos c3]
    · obtain ⟨q1, q2⟩ := hB c3
      rw [q1, q2]
  rw [eLw] at lf'
  have q' : Fr (fun f a => PG c.1 j (wT g j) f a ∨ E f a) h h' := (m1.mono fun f a y => y.imp (PGM.pg f a) id).trans (f'.mono fun f a y => Or.inl (PFn.pg f a y))
  obtain ⟨vt, hvt⟩ : ∃ vt : Tg, vt = ((2, xR g (wT g j), xH g (wT g j)), z.2.2.2 (wT g j) (oc, cc, ens s1, gas s1, rs, pl), (ens s1).mapIdx (fun e x => (x.1, MA1.2.2.2 e)), (oc, cc, ens s1, gas s1, rs, pl)) := ⟨_, rfl⟩
  have eo : ∀ i, i ≠ j → ((fTx z g (wT g j) vt, (uWk g j ((0, wT g j, wN g j, wL g j, wB g j), wM g j, wS g j)).2.1, R', min (qL g) (wT g j)) : Gg).2.1 i = g.2.1 i := fun i hi => if_neg hi
  have ej : ((fTx z g (wT g j) vt, (uWk g j ((0, wT g j, wN g j, wL g j, wB g j), wM g j, wS g j)).2.1, R', min (qL g) (wT g j)) : Gg).2.1 j = ((0, wT g j, wN g j, wL g j, wB g j), wM g j, wS g j) := if_pos rfl
  have tR : ((fTx z g (wT g j) vt, (uWk g j ((0, wT g j, wN g j, wL g j, wB g j), wM g j, wS g j)).2.1, R', min (qL g) (wT g j)) : Gg).1 (wT g j) = vt := if_pos rfl
  have tn : ∀ k', k' ≠ wT g j → ((fTx z g (wT g j) vt, (uWk g j ((0, wT g j, wN g j, wL g j, wB g j), wM g j, wS g j)).2.1, R', min (qL g) (wT g j)) : Gg).1 k' = ((if rlb (fun k => nI (xH g k)) (wT g j) (zl z) (xS g) k' then 0 else xS g k', xR g k', xH g k'), (g.1 k').2) := fun k hk' => if_neg hk'
  have g2 : qR ((fTx z g (wT g j) vt, (uWk g j ((0, wT g j, wN g j, wL g j, wB g j), wM g j, wS g j)).2.1, R', min (qL g) (wT g j)) : Gg) = R' := rfl
  have g3 : qL ((fTx z g (wT g j) vt, (uWk g j ((0, wT g j, wN g j, wL g j, wB g j), wM g j, wS g j)).2.1, R', min (qL g) (wT g j)) : Gg) = min (qL g) (wT g j) := rfl
  generalize ((fTx z g (wT g j) vt, (uWk g j ((0, wT g j, wN g j, wL g j, wB g j), wM g j, wS g j)).2.1, R', min (qL g) (wT g j)) : Gg) = g' at eo ej tR tn g2 g3
  rw [hvt] at tR
  have ek : wK g' j = 0 := by unfold wK; rw [ej]
  have bu := bsy_u hj eo
  rw [if_neg (by omega), if_pos ek] at bu
  have z1 : xS g' (wT g j) = 2 := by unfold xS; rw [tR]
  have z2 : xR g' (wT g j) = xR g (wT g j) := by rw [xR, tR]
  have z3 : xH g' (wT g j) = xH g (wT g j) := by rw [xH, tR]
  have z4 : xL g' (wT g j) = z.2.2.2 (wT g j) (oc, cc, ens s1, gas s1, rs, pl) := by rw [xL, tR]
  have z5 : xD g' (wT g j) = (ens s1).mapIdx (fun e x => (x.1, MA1.2.2.2 e)) := by rw [xD, tR]
  have z6 : xO g' (wT g j) = (oc, cc, ens s1, gas s1, rs, pl) := by rw [xO, tR]
  have o12 : ∀ p : Sl, ¬ (1 ≤ p.1 ∧ p.1 ≤ 3 ∧ p.2.1 = j) → ¬ (p.1 = 4 ∧ p.2.1 = wT g j ∧ p.2.2.2 = 0) → o' p = o p ∧ ∀ x, o p = some x → h'.R 3718 x.1 = h.R 3718 x.1 := fun p hp hp4 => by
    obtain ⟨x1, x2⟩ := m2 p hp
    have x3 := o2 p hp hp4
    exact ⟨x3.trans x1, fun x hx => by rw [tg2 p x (by rw [x3, x1]; exact hx)]; exact x2 x hx⟩
  refine kk h' g' l' o' ⟨eo, Or.inr (Or.inr (Or.inr (Or.inr (Or.inl ⟨hk, ek, ⟨(oc, cc, ens s1, gas s1, rs, pl), MA1, hF, hN, tR, fun y hy => ?_⟩, tn, by rw [g2]; exact r2, fun k q => by rw [g2]; exact r3 k q, by rw [g2]; exact r4, g3⟩))))⟩ (r.asmE nE q' v' (fun p x hp => ?_) (fun p h1 h2 => o12 p h1 (fun q => h2 ⟨q.1, q.2.1⟩)) hj t32 (fun k' _ hkt => ?_) eo (fun k' hk' => ?_) (by rw [g2]; exact er) (by rw [g3]; exact eL) (by rw [eb, bsy_m bp (by omega)]; exact congrArg nI (by omega)) ⟨⟨?_, ?_⟩, ?_, ?_, fun _ _ _ => ?_⟩ ⟨⟨iw.1.1, by rw [ek]; exact et', fun q => absurd ek q, fun q => by omega, fun q => by omega⟩, fun _ => iw, fun q => by omega⟩ (wd1.fr f' (fun a => PFn.no (l := [27]) rfl rfl _ a rfl) (fun a => PFn.no (l := [2306]) rfl rfl _ a rfl))) q' (f'.mono fun f a y => PFn.pg f a y)
  · rw [hL] at hy; exact lR1_f y hy
  · by_cases c1 : 1 ≤ p.1 ∧ p.1 ≤ 3 ∧ p.2.1 = j
    · rw [iw.2 p c1.1 c1.2.1 c1.2.2] at hp; cases hp
    · by_cases c2 : p.1 = 4 ∧ p.2.1 = wT g j ∧ p.2.2.2 = 0
      · refine Or.inr (Or.inr ⟨c2.1, by rw [c2.2.1]; exact t32, ?_, c2.2.2⟩)
        have l30 := lf'.1.2.1.2.1
        rw [List.length_map] at l30
        rcases Nat.lt_or_ge p.2.2.1 (lR1 (c.2.2.2.1 (wT g j)).2.2.1 (c.2.2.2.2 (wT g j)) (oc, cc, ens s1, gas s1, rs, pl)).length with q | q
        · omega
        · have := lf'.2.2 _ q
          obtain ⟨p1, p2, p3, p4⟩ := p
          have e1 : p1 = 4 := c2.1
          have e2 : p2 = wT g j := c2.2.1
          have e3 : p4 = 0 := c2.2.2
          subst e1; subst e2; subst e3
          rw [this] at hp; cases hp
      · exact sup p x (by rw [← (o12 p c1 c2).1]; exact hp)
  · have := tn k' hkt
    refine ⟨by rw [this], by rw [xR, this], by rw [xH, this], fun q => ?_⟩
    rw [xS, this] at q
    have q : (if rlb (fun k => nI (xH g k)) (wT g j) (zl z) (xS g) k' then 0 else xS g k') = 2 := q
    split at q
    · cases q
    · exact q
  · have e9 := st' k' hk'
    by_cases e : k' = wT g j
    · rw [if_pos e] at e9
      rw [e, z1]
      rw [e] at e9
      exact ⟨e9, by decide⟩
    · rw [if_neg e] at e9
      have e8 : xS g' k' = if rlb (fun k => nI (xH g k)) (wT g j) (zl z) (xS g) k' then 0 else xS g k' := by rw [xS, tn k' e]
      rw [e8]
      refine ⟨e9, ?_⟩
      split
      · decide
      · exact (s1' k' hk').2
  · rw [z2, f'.I (PFn.no (l := [2703]) rfl rfl _ _ rfl), m1.I (no _ _ rfl)]; exact y1
  · rw [z3, f'.I (PFn.no (l := [2704]) rfl rfl _ _ rfl), m1.I (no _ _ rfl)]; exact y2
  · rw [z4, hL]
    exact EtR.ma mm.symm lf'
  · rw [z5, he]
    exact rd'
  · rw [z6]
    exact TLD.txo f' (PFn.no rfl rfl) tl hR hc0 hc1 hpl
theorem GRL.fin {oc : Nat} {code cc : Int64} {rs : List VL} {pl : Nat} {e0 : En} {es : List En} (r : GRL c z G B g h l o) (iv : IVG z g) (hj : j < zn z) (h8 : zn z ≤ 8) (h32 : zl z ≤ 32) (hk : wK g j = 1) (lz : LSZ g) (hl20 : (c.2.2.2.1 (wT g j)).2.2.1 ≤ 20000) (m : MID c z G B g j h o fx h1 l1 o1 MA1 s1) (mm : MA1.1 = c.2.1.1) (he : ens s1 = e0 :: es) (h0 : e0.1.1 = 1) (hoc : oc < 5) (hR : oc = 0 → c.2.2.2.2 (wT g j) = false → RSL h1 (yX c.1 (wT g j)) (c.1.2 7 (wT g j)) (c.1.2 8 (wT g j)) (c.1.2 9 (wT g j)) rs) (hB : oc ≠ 3 → h1.J 2442 (yW c.1 j) = e0.2.1.2.1 ∧ h1.J 2443 (yW c.1 j) = e0.2.1.2.2.1) (hc0 : oc = 0 → code = -1) (hc1 : oc ≠ 0 → code = cc) (hpl : oc = 4 → h1.I 2709 (yX c.1 (wT g j)) = nI pl) (hF : z.2.1 (wT g j) (oc, cc, ens s1, gas s1, rs, pl)) (hN : ENN z g (wT g j) (esW g j) (wM g j) (ens s1) MA1) (hL : z.2.2.2 (wT g j) (oc, cc, ens s1, gas s1, rs, pl) = lR1 (c.2.2.2.1 (wT g j)).2.2.1 (c.2.2.2.2 (wT g j)) (oc, cc, ens s1, gas s1, rs, pl)) (hd : 74 ≤ d) (kk : ∀ h' g' l' o', GST z g j g' → GRL c z G B g' h' l' o' → Fr (PG c.1 j (wT g j)) h h' → K (.returned none) h') : MW G d e_X1_finish [.ref (yA c.1), .int (nI oc), .long code] h1 K := by
  obtain ⟨m1, m2, m3⟩ := m
  exact r.finE (E := fun _ _ => False) (fun _ _ _ y => y) iv hj h8 h32 hk lz hl20 ⟨m1.mono fun f a y => Or.inl y, m2, m3⟩ mm he h0 hoc hR hB hc0 hc1 hpl hF hN hL hd (fun h' g' l' o' x1 x2 x3 _ => kk h' g' l' o' x1 x2 (x3.mono fun f a y => y.elim id False.elim))
end
