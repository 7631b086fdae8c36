/-! all transactions at once: an instruction -/
theorem WHY.ma {h : AH} {A CM : Nat} {MA MA' : Ma} {Wd' : Wd} (e1 : MA'.1 = MA.1) (e2 : MA'.2.1 = MA.2.1) (w : WHY h A CM MA Wd') : WHY h A CM MA' Wd' := ⟨w.1, fun n m hm => by
  rw [e1, e2]; exact w.2 n m hm⟩
theorem ENN.of {z : Cz} {g : Gg} {t : Nat} {s s2 : Ms} {MA MA' : Ma} {b : Bool} (q : STQ (vew (zst z) (xL g) (zf z) t) b s s2) (mx : MAX (ens s).length MA MA' (plc s2) (sco (xL g) (xN g) (zf z) t)) : ENN z g t (ens s) MA (ens s2) MA' := fun i e' he => by
  obtain ⟨s1, a, b⟩ := q
  obtain ⟨x, x1, x2⟩ := b.2.back he
  rcases Nat.lt_or_ge i (ens s).length with q | q
  · left
    have ex : (ens s)[i]? = some x := by
      rcases a.2 with ⟨e, -⟩ | ⟨p, e, -⟩
      · rw [← e]; exact x1
      · rw [e, List.getElem?_append_left q] at x1; exact x1
    exact ⟨x, ex, x2.1, x2.2.1, mx.2.1 i q⟩
  · right
    rcases a.2 with ⟨e, -⟩ | ⟨p, e, -⟩
    · have := get_lt x1
      rw [e] at this; omega
    · have hl := get_lt x1
      rw [e, List.length_append] at hl
      have hi : i = (ens s).length := by simp at hl; omega
      rw [e, hi, List.getElem?_append_right (Nat.le_refl _), Nat.sub_self] at x1
      have x1 : (p, vew (zst z) (xL g) (zf z) t p, vew (zst z) (xL g) (zf z) t p, false) = x := Option.some.inj x1
      have ep : e'.1 = p := by rw [x2.1, ← x1]
      have m := mx.2.2 i e'.1 q (by unfold plc; rw [List.getElem?_map, he]; rfl)
      have gn : gss (xL g) (zf z) t e'.1 = none := by
        cases hg : gss (xL g) (zf z) t e'.1 with
        | none => rfl
        | some k => unfold sco at m; rw [hg] at m; cases m
      rw [sco_n gn] at m
      exact ⟨gn, by rw [x2.2.1, ← x1, ep], Option.some.inj m⟩
theorem STQ.e0 {env : Pc → Cn} {b : Bool} {s s2 : Ms} {x : En} (q : STQ env b s s2) (h : (ens s)[0]? = some x) : ∃ y, (ens s2)[0]? = some y ∧ y.1 = x.1 ∧ y.2.1 = x.2.1 := by
  obtain ⟨s1, a, b⟩ := q
  have h1 : (ens s1)[0]? = some x := by
    rcases a.2 with ⟨e, -⟩ | ⟨p, e, -⟩
    · rw [e]; exact h
    · rw [e, List.getElem?_append_left (get_lt h)]; exact h
  obtain ⟨y, y1, y2⟩ := b.2.2 0 x h1
  exact ⟨y, y1, y2.1, y2.2.1⟩
/-- calls alone -/
def ZCA (c : Cy) (z : Cz) : Prop := (∀ t r, z.2.1 t r ↔ FIN c.2.2.1 (c.2.2.2.1 t) r ∧ RTY c.2.2.1 (c.2.2.2.1 t) (-26 * ((t : Int) + 1)) r ∧ RTZ c.2.2.1 (c.2.2.2.1 t) r) ∧ (∀ t s, z.2.2.1 t s ↔ RUN c.2.2.1 (c.2.2.2.1 t) s ∧ PIq c.2.2.1 (c.2.2.2.1 t).2.2.1 (c.2.2.2.1 t).1 s ∧ (c.2.2.2.1 t).2.2.1 ≤ 20000) ∧ (∀ t r, z.2.2.2 t r = lR1 (c.2.2.2.1 t).2.2.1 false r) ∧ ∀ t, zf z ≤ t → t < zl z → c.2.2.2.2 t = false ∧ (c.2.2.2.1 t).2.2.1 ≤ 20000 ∧ AGv (c.2.2.2.1 t).2.2.2.2.2
/-- the modules' world -/
def CWD (c : Cy) (z : Cz) (D : Nat → Nat) (G : Gt) (B : Nat) : Prop := (WV c.2.2.1 ∧ DW c.2.2.1 D ∧ ∀ n m, c.2.2.1 n = some m → (mcs m).length ≤ 2048) ∧ ((∀ x ∈ zst z, x.1.1 < 4) ∧ ∀ x ∈ zst z, ∀ v, x.2.1.2.2.2 = some v → vsz v ≤ 64) ∧ (zn z ≤ 8 ∧ zl z ≤ 32) ∧ B + 325600 ≤ G.ln
section
variable {c : Cy} {z : Cz} {G : Gt} {B d : Nat} {g g' : Gg} {h h1 h' : AH} {l l1 l' : List Nat} {o o1 o' : Lc} {j : Nat} {K : Outcome → AH → Prop} {fx : Option Nat} {D : Nat → Nat}
theorem GRL.ctx (r : GRL c z G B g h l o) (iv : IVG z g) (hj : j < zn z) (h32 : zl z ≤ 32) (hl : ∀ t, zf z ≤ t → t < zl z → (c.2.2.2.1 t).2.2.1 ≤ 20000) (hk : wK g j = 1) (rW : h.R 26 (yA c.1) = some (yW c.1 j)) : CTX h (yA c.1) (yW c.1 j) (yQ c.1) (yB c.1) (yX c.1 (wT g j)) (wT g j) (c.2.2.2.1 (wT g j)).1 (c.2.2.2.1 (wT g j)).2.2.1 (yP c.1) := by
  obtain ⟨⟨⟨⟨a1, a2, a3, a4, a5, a6⟩, -⟩, ⟨b1, b2, b3⟩, -, -, txi⟩, -, -, -, wk, -⟩ := r
  obtain ⟨-, i2, -⟩ := iv.2.1 j hj
  obtain ⟨i5, i6⟩ := i2 (by omega)
  obtain ⟨x1, x2, x3, x4⟩ := txi _ i5 i6
  obtain ⟨y1, y2, -⟩ := b1.2.2 (wT g j) (by omega)
  exact ⟨⟨a1, a2, rW, a3, a4⟩, ⟨b1.1, (wk j hj).1.2.2.1 (by omega), by omega, y1⟩, y2, x2, hl _ i5 i6, x3⟩
theorem OUX.mid {X RT RH RL : Nat} (u : OUX j (yW c.1 j) X RT RH RL h h1 o o1) (e1 : X = yX c.1 (wT g j)) (e2 : RT = c.1.2 7 (wT g j)) (e3 : RH = c.1.2 8 (wT g j)) (e4 : RL = c.1.2 9 (wT g j)) : Fr (PGM c.1 j (wT g j)) h h1 ∧ ∀ p : Sl, ¬ (1 ≤ p.1 ∧ p.1 ≤ 3 ∧ p.2.1 = j) → o1 p = o p ∧ ∀ x, o p = some x → h1.R 3718 x.1 = h.R 3718 x.1 := by
  subst e1; subst e2; subst e3; subst e4
  refine ⟨u.1.mono fun f a q => ?_, fun p hp => u.2 p (by omega)⟩
  rcases q with q | q
  · exact Or.inl (Or.inl q)
  · exact Or.inr (Or.inl q)
theorem n32_l {k : Nat} (h : k < 2147483648) : (lN k).toInt32 = nI k := uI (by rw [um_32, un_l (by omega)]; omega)
theorem GRL.ins (r : GRL c z G B g h l o) (iv : IVG z g) (lz : LSZ g) (zc : ZCA c z) (cw : CWD c z D G B) (hE : ∀ t, zf z ≤ t → t < zl z → EVW c.2.2.1 (vew (zst z) (xL g) (zf z) t) ∧ EVL (-26 * (t : Int)) (vew (zst z) (xL g) (zf z) t)) (hj : j < zn z) (hk : wK g j = 1) (hb : wB g j = true) (rW : h.R 26 (yA c.1) = some (yW c.1 j)) (hd : 76 ≤ d) (kk : ∀ h' g' l' o', GST z g j g' → GRL c z G B g' h' l' o' → Fr (PG c.1 j (wT g j)) h h' → K (.returned none) h') : MW G d e_X1_go [.ref (yA c.1)] h K := by
  obtain ⟨⟨hW, hD, hcl⟩, ⟨hst, hsz⟩, ⟨h8, h32⟩, hG⟩ := cw
  obtain ⟨zF, zP, zL, zpb⟩ := zc
  obtain ⟨⟨⟨⟨a1, a2, a3, a4, a5, a6⟩, -⟩, ⟨b1, b2, b3⟩, ⟨hy, cny, dgr⟩, txs, txi⟩, ly, ⟨s1', sR, sT, sB⟩, tx, wk, et, wd, v, sup⟩ := id r
  obtain ⟨i1, i2, i3, -⟩ := iv.2.1 j hj
  obtain ⟨i5, i6⟩ := i2 (by omega)
  obtain ⟨i7, i8⟩ := i3 hk
  obtain ⟨i9, i10⟩ := i8 hb
  obtain ⟨run, pi, -⟩ := (zP _ _).mp i9
  obtain ⟨z1, z2, z3⟩ := zpb _ i5 i6
  have t32 : wT g j < 32 := by omega
  obtain ⟨⟨k1, k2, k3, k4, k5⟩, -, k6⟩ := wk j hj
  obtain ⟨w, ⟨m1, m2⟩, hat, x0, x1, x2, x3⟩ := k6 hk hb
  have cx := r.ctx iv hj h32 (fun t h1 h2 => (zpb t h1 h2).2.1) hk rW
  obtain ⟨hE, hL⟩ := hE _ i5 i6
  have ot := r.ot (j := j) iv h8 lz hsz (fun t s hs => by
    obtain ⟨-, q1, q2⟩ := (zP t s).mp hs
    exact q1.sz q2) hG
  have eW : esW g j = ens (wS g j) := by unfold esW; rw [if_pos hb]
  have stp := pi.step hW hD hE z2
  have noM : ∀ l : List Nat, l.all (fun f => !((3712 ≤ f && f ≤ 3718) || f == 1280 || (ipM ++ ipL).contains f)) = true → ∀ f a, l.contains f = true → ¬ IP (yW c.1 j) f a := fun l hl => IP.no hl
  refine go_ok (bg := true) (SP := yP c.1) (W := yW c.1 j) a1 rW k1.1.1 (by rw [k5 hk, hb]) (by omega) (fun _ K1 hk1 hk2 => ?_) (fun q => by cases q)
  refine inst_mw (D := D) (CM := yC c.1) (st := zst z) (Lf := xL g) (RN := xN g) (fs := zf z) (RT := c.1.2 7 (wT g j)) (RH := c.1.2 8 (wT g j)) (RL := c.1.2 9 (wT g j)) (Wd' := c.2.2.1) ⟨cx, v, w, pi.2.1, wd⟩ hat (hy.ma m1 m2) hcl hW hD hE pi (fun h2 f2 => dgr.fr f2 (IP.no rfl)) ((r.wrd hj i5 hst).ma m1) (txs _ t32) ot (by omega) (fun k p hp hg h' l' o' MA' s' fx u H2 cl e1 e2 => ?_) (fun s2 hm h' l' o' MA' u H2 mx hat' => ?_) (fun e hm h' l' o' MA' s' fx cd u H2 es cl mx r0 r1 e1 e2 => ?_)
  · -- it has to wait
    obtain ⟨q1, q2⟩ := u.mid (c := c) (g := g) rfl rfl rfl rfl
    refine hk2 h' ⟨q1.tag a6, q1.tag a1, fun _ K2 hK2 => ?_, fun ne => absurd e1 ne⟩
    obtain ⟨kb, -, -⟩ : k < wT g j ∧ zf z ≤ k ∧ True := by
      unfold gss at hg
      cases hb' : bfr (xL g) p (zf z) (wT g j) with
      | none => rw [hb'] at hg; cases hg
      | some k' =>
        obtain ⟨x1, x2, -⟩ := bfr_b hb'
        rw [hb'] at hg
        simp only at hg
        split at hg
        · split at hg
          · rw [← Option.some.inj hg]; exact ⟨x1, x2, trivial⟩
          · cases hg
        · cases hg
    rw [e2, n32_l (by omega)]
    exact r.hld iv hj h8 h32 hk ⟨q1, q2, H2, cl⟩ hg (by omega) (fun h3 g3 l3 o3 x y w => hK2 h3 (kk h3 g3 l3 o3 x y w))
  · -- it goes on
    rw [hm] at stp
    obtain ⟨⟨p1, p2, p3⟩, p4⟩ := stp
    have run2 := run.step hm p3 (fun env' ha => by rw [p4 env' (by rw [hm] at ha; exact ha), hm])
    have eo : ∀ i, i ≠ j → (uWk g j ((1, wT g j, wN g j, wL g j, true), MA', s2)).2.1 i = g.2.1 i := fun i hi => if_neg hi
    have ej : (uWk g j ((1, wT g j, wN g j, wL g j, true), MA', s2)).2.1 j = ((1, wT g j, wN g j, wL g j, true), MA', s2) := if_pos rfl
    have g1 : (uWk g j ((1, wT g j, wN g j, wL g j, true), MA', s2)).1 = g.1 := rfl
    have g2 : qR (uWk g j ((1, wT g j, wN g j, wL g j, true), MA', s2)) = qR g := rfl
    have g3 : qL (uWk g j ((1, wT g j, wN g j, wL g j, true), MA', s2)) = qL g := rfl
    generalize uWk g j ((1, wT g j, wN g j, wL g j, true), MA', s2) = g' at eo ej g1 g2 g3
    have ek : wK g' j = 1 := by unfold wK; rw [ej]
    have et' : wT g' j = wT g j := by rw [wT, ej]
    have eB : wB g' j = true := by rw [wB, ej]
    have eM : wM g' j = MA' := by rw [wM, ej]
    have eS : wS g' j = s2 := by rw [wS, ej]
    have bu := bsy_u hj eo
    rw [if_neg (by omega), ek, if_neg (by decide)] at bu
    have q0 : Fr (PG0 c.1 j) h h' := u.1.mono fun f a q => by
      rcases q with q | ⟨q, q2⟩ | q
      · exact Or.inl q
      · refine Or.inr (Or.inl ⟨?_, q2⟩)
        have : ∀ f ∈ ipM, pgW.contains f = true := by decide
        exact this f (List.contains_iff_mem.mp q)
      · refine Or.inr (Or.inr ?_)
        rw [List.contains_iff_mem] at q ⊢
        exact List.mem_append_left _ q
    have jI := IP.no (W := yW c.1 j) (l := [10, 11, 12, 2702, 2432, 2433, 2436, 2442, 2443]) rfl
    obtain ⟨c2, v2, w2, -, wd2⟩ := H2
    have sup2 : SUP (zn z) o' := fun p x hp => by
      by_cases c1 : 1 ≤ p.1 ∧ p.1 ≤ 3 ∧ p.2.1 = j
      · exact Or.inr (Or.inl ⟨c1.1, c1.2.1, by rw [c1.2.2]; exact hj⟩)
      · exact sup p x (by rw [← (u.2 p (by omega)).1]; exact hp)
    have en : ENN z g (wT g j) (esW g j) (wM g j) (ens s2) MA' := by rw [eW]; exact ENN.of p3 mx
    refine hk1 h' (kk h' g' l' o' ⟨eo, Or.inr (Or.inr (Or.inr (Or.inl ⟨hk, g1, ⟨g2, g3⟩, ⟨ek, et', eB⟩, by rw [eS]; exact (zP _ _).mpr ⟨run2, p1, z2⟩, by rw [eS, eM]; exact en, fun _ => by rw [eS]; exact p2⟩)))⟩ (r.asm0 q0 v2 sup2 (fun p hp => u.2 p (by omega)) hj (fun k _ => ⟨by rw [g1], by unfold xR; rw [g1], by unfold xH; rw [g1], fun z => by unfold xS at z ⊢; rw [← g1]; exact z⟩) eo (fun k hk' => ?_) (by rw [g2, u.1.I (jI _ _ rfl)]; exact sR) (by rw [g3, u.1.I (jI _ _ rfl)]; exact sT) (by rw [u.1.I (jI _ _ rfl), sB]; exact congrArg nI (by omega)) ⟨⟨w2.1.1, by rw [ek, u.1.I (jI _ _ rfl), ← hk]; exact k2, fun _ => by rw [et', u.1.I (jI _ _ rfl)]; exact k3 (by omega), fun q => by omega, fun _ => by rw [eB, u.1.I (jI _ _ rfl), k5 hk, hb]⟩, fun q => absurd ⟨ek, eB⟩ q, fun _ _ => ?_⟩ wd2) (q0.mono PG0.g))
    · have : xS g' k = xS g k := by unfold xS; rw [g1]
      rw [this, u.1.I (jI _ _ rfl)]
      exact s1' k hk'
    · rw [eM, eS]
      refine ⟨w2, ⟨mx.1.1.trans m1, mx.1.2.trans m2⟩, hat', ?_⟩
      obtain ⟨y, hy', -, q3⟩ := p3.e0 x1
      exact ⟨y, hy', by rw [u.1.J (jI _ _ rfl), q3]; exact x2, by rw [u.1.J (jI _ _ rfl), q3]; exact x3⟩
  · -- it ends
    rw [hm] at stp
    obtain ⟨⟨p1, p2, b, p3⟩, p4⟩ := stp
    obtain ⟨q1, q2⟩ := u.mid (c := c) (g := g) rfl rfl rfl rfl
    have e3 := (RTY.end (x := c.2.2.2.1 (wT g j)) hW hD hE hL (by omega) z2 pi hm)
    have o3 : e.1 < 4 := e3.1.1
    refine hk2 h' ⟨q1.tag a6, q1.tag a1, fun q => ?_, fun _ K2 hK2 => ?_⟩
    · rw [e1] at q
      have := (nI_eq (by omega) (by omega)).mp q
      omega
    rw [e1, e2]
    obtain ⟨x0', es', he, h0⟩ := e3.2.1
    have he : ens e.2.2 = x0' :: es' := he
    have fin := run.fin hm p3 (fun env' ha => by rw [p4 env' (by rw [hm] at ha; exact ha), hm])
    have en : ENN z g (wT g j) (esW g j) (wM g j) (ens s') MA' := by
      rw [eW, es.1]
      exact ENN.of p3 (by unfold plc at mx ⊢; rw [← es.1]; exact mx)
    have rr : ((e.1, e.2.1, ens s', gas s', (if e.1 = 0 then rsv e.2.2 else []), 0) : TxR) = (e.1, e.2.1, ens e.2.2, gas e.2.2, (if e.1 = 0 then rsv e.2.2 else []), 0) := by rw [es.1, es.2]
    refine r.fin (rs := if e.1 = 0 then rsv e.2.2 else []) (cc := e.2.1) (pl := 0) (e0 := x0') (es := es') iv hj h8 h32 hk lz z2 ⟨q1, q2, H2, cl⟩ (mx.1.1.trans m1) (by rw [es.1]; exact he) (by rw [h0]) (by omega) (fun q _ => by rw [if_pos q]; exact (r0 q).1) (fun _ => ?_) (fun q => (r0 q).2) (fun q => r1 q) (fun q => by omega) (by rw [rr]; exact (zF _ _).mpr ⟨fin, by rw [show (-26 : Int) * ((wT g j : Int) + 1) = -26 * (wT g j : Int) - 26 by omega]; exact e3, RTZ.end hW hD hE z2 pi hm⟩) en (by rw [zL, z1]) (by omega) (fun h3 g3 l3 o3 x y w => hK2 h3 (kk h3 g3 l3 o3 x y w))
    obtain ⟨y, hy', -, q3⟩ := p3.e0 x1
    rw [he] at hy'
    have hy' : x0' = y := Option.some.inj hy'
    have jX : ∀ f, [2442, 2443].contains f = true → ¬ IPX (yW c.1 j) (yX c.1 (wT g j)) (c.1.2 7 (wT g j)) (c.1.2 8 (wT g j)) (c.1.2 9 (wT g j)) f (yW c.1 j) := fun f hf q => by
      rcases q with q | ⟨q, -⟩
      · exact IP.no (l := [2442, 2443]) rfl f _ hf q
      · have : ∀ f ∈ [2442, 2443], resF.contains f = false := by decide
        rw [this f (List.contains_iff_mem.mp hf)] at q; cases q
    exact ⟨by rw [u.1.J (jX _ rfl), hy', q3]; exact x2, by rw [u.1.J (jX _ rfl), hy', q3]; exact x3⟩
end
