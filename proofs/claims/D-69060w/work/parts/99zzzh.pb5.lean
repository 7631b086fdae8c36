/-! a publication among all transactions: its beginning -/
def lksF : List Nat := [0, 14, 131] ++ mdlF ++ scF
theorem LKS.fr {P : Nat → Nat → Prop} {DP CM A M C CW : Nat} {h h' : AH} {MA : Ma} {Wd' : Wd} {cm m : Md} {DA : Nat → Nat} {dw : Nat → Nat → Nat} (u : Fr P h h') (np : ∀ f a, lksF.contains f = true → ¬ P f a) (nd : ∀ a, a ≠ DP → ¬ P (10000 + 192) a) (s : LKS h A CM M DP C CW MA Wd' cm m DA dw) : LKS h' A CM M DP C CW MA Wd' cm m DA dw := by
  have sub : ∀ l' : List Nat, l'.all (fun f => lksF.contains f) = true → ∀ f a, l'.contains f = true → ¬ P f a := fun l' hl f a hf => np f a (by rw [List.all_eq_true] at hl; exact hl f (List.contains_iff_mem.mp hf))
  obtain ⟨⟨a1, a2⟩, b, c, d, e⟩ := s
  refine ⟨⟨by rw [u.R (np _ _ rfl)]; exact a1, a2.fr u (sub mdlF (by decide))⟩, fun n m' hm => ?_, by rw [u.R (np _ _ rfl)]; exact c, d.fr u (sub scF (by decide)), u.tag e⟩
  obtain ⟨y1, y2, y3, y4⟩ := b n m' hm
  exact ⟨y1.fr u (sub mdlF (by decide)), y2.ou u (np _ _ rfl) (nd _ y3), y3, y4⟩
theorem mpx_pen {W : Wd} {cm : Md} {dw : Nat → Nat → Nat} {env : Pc → Cn} {x : TxC} {n : Nat} {rd : Except (Nat × Nat) Md} (hp : ∀ p : Pc, p.1 ≠ 3 → (env p).2.2.2 = none) : PEN env ((1, x.1, 0), env (1, x.1, 0), env (1, x.1, 0), false) (mpx W cm dw env x n rd).2.2.1 ∧ (mpx W cm dw env x n rd).1 < 5 := by
  have s : PEN env ((1, x.1, 0), env (1, x.1, 0), env (1, x.1, 0), false) [((1, x.1, 0), env (1, x.1, 0), env (1, x.1, 0), false)] := ⟨rfl, fun y hy => by
    rw [List.mem_singleton] at hy
    subst hy
    exact ⟨rfl, hp _ (by show (1 : Nat) ≠ 3; decide)⟩⟩
  have t3 : (3 : Nat) < 5 := by decide
  unfold mpx
  split
  · exact ⟨s, t3⟩
  split
  · exact ⟨s, t3⟩
  split
  · exact ⟨s, t3⟩
  · exact ⟨(mpb_pen hp rfl s).1, (mpb_pen hp rfl s).2.1⟩
/-- what a publication writes elsewhere -/
def EPb (DP f a : Nat) : Prop := PDp DP f a ∨ FS ccF f a
theorem EPb.no {DP : Nat} {l : List Nat} (h2 : l.all (fun f => !(f == 10000 + 192 || f == 2709 || ccF.contains f)) = true) : ∀ f a, l.contains f = true → ¬ EPb DP f a := fun f a hf z => P2.no (DP := DP) (X := 0) h2 f a hf (z.imp id Or.inr)
theorem EPb.gr {DP : Nat} : ∀ f a, grlF.contains f = true → ¬ EPb DP f a := fun f a hf z => by
  have h : grlF.all (fun f => !(f == 10000 + 192 || ccF.contains f)) = true := rfl
  rw [List.all_eq_true] at h
  have := h f (List.contains_iff_mem.mp hf)
  rw [Bool.not_eq_true', Bool.or_eq_false_iff] at this
  rcases z with ⟨z, -⟩ | z
  · rw [z] at this; exact absurd this.1 (by decide)
  · unfold FS at z; rw [this.2] at z; cases z
/-- one publication: (new module, its depths, checker, checker's exception, size), what was read, the coin's module, where depths lie, depths -/
abbrev Pv : Type := (Nat × Nat × Nat × Nat × Nat) × Except (Nat × Nat) Md × Md × (Nat → Nat) × (Nat → Nat → Nat)
/-- its result -/
def pvr (c : Cy) (z : Cz) (p : Pv) : TxR := mpx c.2.2.1 p.2.2.1 p.2.2.2.2 (vsw (zst z)) (c.2.2.2.1 (zf z)) p.1.2.2.2.2 p.2.1
/-- a publication alone -/
def ZCP (c : Cy) (z : Cz) (p : Pv) : Prop := (∀ t r, z.2.1 t r ↔ r = pvr c z p ∧ r.2.2.1.length ≤ 26) ∧ (∀ t s, ¬ z.2.2.1 t s) ∧ (∀ t r, z.2.2.2 t r = lR1 (c.2.2.2.1 (zf z)).2.2.1 true r) ∧ zl z = zf z + 1 ∧ c.2.2.2.2 (zf z) = true ∧ (c.2.2.2.1 (zf z)).2.2.1 ≤ 20000
/-- what must hold of it -/
def PUQ (c : Cy) (z : Cz) (p : Pv) (ms : List Nat) (bs : List Pc) : Prop := ((∀ n m', c.2.2.1 n = some m' → n ≠ 0 → n ∈ ms) ∧ bs.length + ms.length ≤ 25) ∧ (∀ m, p.2.1 = .ok m → GDm m ∧ smB m ∧ (2, lN m.1, 0) ∈ bs ∧ (m.1 ≠ 0 → (vsw (zst z) (2, lN m.1, 0)).1 = false → c.2.1.1 m.1 = p.1.1)) ∧ (1, (c.2.2.2.1 (zf z)).1, 0) ∈ bs ∧ (4, 0, 0) ∈ bs ∧ (5, 0, 0) ∈ bs
/-- how it lies in the heap -/
def PUB (c : Cy) (z : Cz) (p : Pv) (h : AH) : Prop := TXP h (yX c.1 (zf z)) p.1.1 p.1.2.2.2.2 p.2.1 ∧ (∃ dp, DPR h p.1.1 p.1.2.1 dp) ∧ ∀ m, p.2.1 = .ok m → LKS h (yA c.1) (yC c.1) p.1.1 p.1.2.1 p.1.2.2.1 p.1.2.2.2.1 c.2.1 c.2.2.1 p.2.2.1 m p.2.2.2.1 p.2.2.2.2
def pubF : List Nat := lksF ++ [2698, 130, 2699, 2700]
theorem PUB.fr {P : Nat → Nat → Prop} {c : Cy} {z : Cz} {p : Pv} {h h' : AH} (u : Fr P h h') (np : ∀ f a, pubF.contains f = true → ¬ P f a) (nd : ∀ a, ¬ P (10000 + 192) a) (s : PUB c z p h) : PUB c z p h' := by
  have sub : ∀ l' : List Nat, l'.all (fun f => pubF.contains f) = true → ∀ f a, l'.contains f = true → ¬ P f a := fun l' hl f a hf => np f a (by rw [List.all_eq_true] at hl; exact hl f (List.contains_iff_mem.mp hf))
  obtain ⟨a, ⟨dp, b⟩, e⟩ := s
  exact ⟨a.fr u (sub _ (by decide)), ⟨dp, b.ou u (np _ _ rfl) (nd _)⟩, fun m hm => (e m hm).fr u (sub lksF (by decide)) (fun a _ => nd a)⟩
/-- where only this publication's depths are written -/
theorem PUB.fe {P : Nat → Nat → Prop} {c : Cy} {z : Cz} {p : Pv} {h h' : AH} (u : Fr P h h') (np : ∀ f a, pubF.contains f = true → ¬ P f a) (nd : ∀ a, a ≠ p.1.2.1 → ¬ P (10000 + 192) a) (hd : ∃ dp, DPR h' p.1.1 p.1.2.1 dp) (s : PUB c z p h) : PUB c z p h' := by
  have sub : ∀ l' : List Nat, l'.all (fun f => pubF.contains f) = true → ∀ f a, l'.contains f = true → ¬ P f a := fun l' hl f a hf => np f a (by rw [List.all_eq_true] at hl; exact hl f (List.contains_iff_mem.mp hf))
  obtain ⟨a, -, e⟩ := s
  exact ⟨a.fr u (sub _ (by decide)), hd, fun m hm => (e m hm).fr u (sub lksF (by decide)) nd⟩
section
variable {c : Cy} {z : Cz} {G : Gt} {B d : Nat} {g g' : Gg} {h h1 h' : AH} {l l1 l' : List Nat} {o o1 o' : Lc} {j : Nat} {K : Outcome → AH → Prop} {p : Pv} {ms : List Nat} {bs : List Pc}
theorem GRL.bgp (r : GRL c z G B g h l o) (iv : IVG z g) (lz : LSZ g) (zp : ZCP c z p) (hst : ∀ x ∈ zst z, x.1.1 < 4) (h8 : zn z ≤ 8) (h32 : zl z ≤ 32) (hE : EVW c.2.2.1 (vsw (zst z))) (pq : PUQ c z p ms bs) (pb : PUB c z p h) (hj : j < zn z) (hk : wK g j = 1) (hb : wB g j = false) (rW : h.R 26 (yA c.1) = some (yW c.1 j)) (hd : 76 ≤ d) (kk : ∀ h' g' l' o', GST z g j g' → GRL c z G B g' h' l' o' → Fr (fun f a => PG c.1 j (wT g j) f a ∨ EPb p.1.2.1 f a) h h' → (∃ dp, DPR h' p.1.1 p.1.2.1 dp ∧ ((pvr c z p).1 = 0 → ∀ m, p.2.1 = .ok m → dag m dp (mdw m p.2.2.2.2))) → K (.returned none) h') : MW G d e_X1_go [.ref (yA c.1)] h K := by
  obtain ⟨zF, zP, zL, zl1, zpb, zlim⟩ := zp
  obtain ⟨⟨hms, hm8⟩, hmm, hb1, hb4, hb5⟩ := pq
  obtain ⟨⟨⟨⟨a1, a2, a3, a4, a5, a6⟩, -⟩, ⟨b1, b2, b3⟩, ⟨hy, cny, dgr⟩, txs, txi⟩, ly, ⟨s1', sR, sT, sB⟩, tx, wk, et, wd, v, sup⟩ := id r
  obtain ⟨i1, i2, i3, -⟩ := iv.2.1 j hj
  obtain ⟨i5, i6⟩ := i2 (by omega)
  have eT : wT g j = zf z := by omega
  have t32 : wT g j < 32 := by omega
  obtain ⟨⟨k1, k2, k3, k4, k5⟩, k6, -⟩ := wk j hj
  have iw := k6 (fun q => by rw [hb] at q; cases q.2)
  have cx := r.ctx iv hj h32 (fun t h1 h2 => by rw [show t = zf z by omega]; exact zlim) hk rW
  have ev : vew (zst z) (xL g) (zf z) (wT g j) = vsw (zst z) := by rw [eT, vew_0]
  have gn : ∀ q, gss (xL g) (zf z) (wT g j) q = none := fun q => by rw [eT]; unfold gss; rw [bfr_f]
  have eW : esW g j = [] := by unfold esW; rw [hb]; rfl
  obtain ⟨x1, x2, x3, x4⟩ := txi _ i5 i6
  have x4 : h.I 2688 (yX c.1 (wT g j)) = bI true := by rw [x4, eT, zpb]
  refine go_ok (bg := false) (SP := yP c.1) (W := yW c.1 j) a1 rW k1.1.1 (by rw [k5 hk, hb]) (by omega) (fun q => by cases q) (fun _ K1 hk1 hk2 => ?_)
  have q0 : Fq (fun f a => f = 2436 ∧ a = yW c.1 j) h (h.sI 2436 (yW c.1 j) (nI 1)) := Fq.sI (Fq.refl h) ⟨rfl, rfl⟩
  generalize h.sI 2436 (yW c.1 j) (nI 1) = h0 at q0 ⊢
  have n0 : ∀ l : List Nat, l.all (fun f => !(f == 2436)) = true → ∀ f a, l.contains f = true → ¬ (f = 2436 ∧ a = yW c.1 j) := fun l hl f a hf q => by
    rw [List.all_eq_true] at hl
    have := hl f (List.contains_iff_mem.mp hf)
    rw [q.1] at this; exact absurd this (by decide)
  obtain ⟨v0, tg0⟩ := v.oth q0 (fun f a y q => by rw [q.1] at y; exact VQ.no (l := [2436]) rfl _ _ rfl y)
  have iw0 : IDW h0 o j (yW c.1 j) := iw.far q0.1 (n0 _ rfl) (fun f a hf _ _ => n0 (fmF ++ enF ++ [2438, 2439, 2441]) rfl f a hf) (fun _ _ _ _ => rfl)
  have wr0 : WRD h0 o (yA c.1) (yW c.1 j) (yB c.1) (wT g j) c.2.1 (zf z) (zst z) (xL g) (xN g) := (r.wrd hj i5 hst).fr q0.1 (n0 _ rfl) (fun f a hf _ => n0 etF rfl f a hf) (fun _ _ => rfl)
  obtain ⟨tp0, ⟨dp0, dr0⟩, ls0⟩ := pb.fr q0.1 (n0 _ (by decide)) (fun a => n0 [10000 + 192] (by decide) _ a (by decide))
  rw [← eT] at tp0 hb1
  have cno : ∀ q : Pc, q.1 ≠ 3 → (vsw (zst z) q).2.2.2 = none := fun q hq => (hE.1 q).2.1 hq
  refine begin_pb (x := c.2.2.2.1 (wT g j)) (rd := p.2.1) (n := p.1.2.2.2.2) (M := p.1.1) (DP := p.1.2.1) (C := p.1.2.2.1) (CW := p.1.2.2.2.1) (cm := p.2.2.1) (DA := p.2.2.2.1) (dw := p.2.2.2.2) (ms := ms) (bs := bs) (dp0 := dp0) (Wd' := c.2.2.1) (CM := yC c.1) (MA := c.2.1) (st := zst z) (Lf := xL g) (RN := xN g) (fs := zf z) (cx.fr q0.1 (n0 _ rfl)) v0 iw0 rfl (wd.fr q0.1 (fun a => n0 [27] rfl _ a rfl) (fun a => n0 [2306] rfl _ a rfl)) (x1.fr q0.1 (n0 _ rfl)) (by rw [q0.1.I (n0 [2688] rfl _ _ rfl)]; exact x4) (by rw [ev]; exact hE) wr0 gn hms hm8 tp0 dr0 (fun m hm => ?_) hb1 hb4 hb5 (by omega) ?_
  · obtain ⟨y1, y2, y3, y4⟩ := hmm m hm
    exact ⟨ls0 m hm, y1, y2, y3, by rw [ev]; exact y4⟩
  rw [ev]
  have er : mpx c.2.2.1 p.2.2.1 p.2.2.2.2 (vsw (zst z)) (c.2.2.2.1 (wT g j)) p.1.2.2.2.2 p.2.1 = pvr c z p := by unfold pvr; rw [eT]
  rw [er]
  obtain ⟨pn, p5⟩ := mpx_pen (W := c.2.2.1) (cm := p.2.2.1) (dw := p.2.2.2.2) (x := c.2.2.2.1 (wT g j)) (n := p.1.2.2.2.2) (rd := p.2.1) cno
  rw [er] at pn p5
  intro h' l' o' MA' ak F fr0 ho H' mx e1 e2 e3 e4
  have q1 : Fr (fun f a => PGM c.1 j (wT g j) f a ∨ EPb p.1.2.1 f a) h h' := (q0.1.mono fun f a q => Or.inl (Or.inr (Or.inr (Or.inl q)))).trans (fr0.mono fun f a q => by
    rcases q with q | q | q | q
    · exact Or.inl (Or.inl q)
    · exact Or.inr (Or.inl q)
    · exact Or.inl (Or.inr (Or.inr (Or.inr q)))
    · exact Or.inr (Or.inr q))
  have q2 : ∀ s : Sl, ¬ (1 ≤ s.1 ∧ s.1 ≤ 3 ∧ s.2.1 = j) → o' s = o s ∧ ∀ x, o s = some x → h'.R 3718 x.1 = h.R 3718 x.1 := fun s hs => by
    obtain ⟨y1, y2⟩ := ho s (by omega)
    exact ⟨y1, fun x hx => by rw [y2 x hx]; exact tg0 s x (by simp) hx⟩
  refine hk2 h' ⟨q1.tag a6, q1.tag a1, fun q => ?_, fun _ K2 hK2 => ?_⟩
  · rw [e1.1] at q
    exact absurd ((nI_eq (by omega) (by omega)).mp q) (by omega)
  rw [e1.1, e1.2]
  obtain ⟨es', he⟩ : ∃ es', (pvr c z p).2.2.1 = ((1, (c.2.2.2.1 (wT g j)).1, 0), vsw (zst z) (1, (c.2.2.2.1 (wT g j)).1, 0), vsw (zst z) (1, (c.2.2.2.1 (wT g j)).1, 0), false) :: es' := by
    have h1 := pn.1
    cases hh : (pvr c z p).2.2.1 with
    | nil => rw [hh] at h1; simp at h1
    | cons a b =>
      rw [hh, List.getElem?_cons_zero] at h1
      exact ⟨b, by rw [Option.some.inj h1]⟩
  have l26 : (pvr c z p).2.2.1.length ≤ 26 := H'.2.2.1.2.2.2.1.2
  refine r.finE (E := EPb p.1.2.1) (oc := (pvr c z p).1) (cc := (pvr c z p).2.1) (rs := (pvr c z p).2.2.2.2.1) (pl := (pvr c z p).2.2.2.2.2) (e0 := ((1, (c.2.2.2.1 (wT g j)).1, 0), vsw (zst z) (1, (c.2.2.2.1 (wT g j)).1, 0), vsw (zst z) (1, (c.2.2.2.1 (wT g j)).1, 0), false)) (es := es') EPb.gr iv hj h8 h32 hk lz (by rw [eT]; exact zlim) ⟨q1, q2, H', fun i hi => absurd hi (Nat.not_lt_zero i), fun y hy u hu => by rw [(pn.2 y hy).2] at hu; cases hu⟩ mx.1.1 he rfl p5 (fun _ q => by rw [eT, zpb] at q; cases q) e4 (fun q => if_pos q) (fun q => if_neg q) e2 ((zF _ _).mpr ⟨rfl, l26⟩) ?_ (by rw [zL, eT, zpb]) (by omega) (fun h3 g3 l3 o3 y1 y2 y3 y4 => ?_)
  · rw [eW]
    exact ENN.new (fun e' he' => by rw [ev]; exact (pn.2 e' he').1) mx _
  · obtain ⟨dp, e3, e5⟩ := e3
    refine hK2 h3 (kk h3 g3 l3 o3 y1 y2 y3 ⟨dp, e3.ou y4 (PG.no (l := [131]) rfl rfl _ _ rfl) (PG.no (l := [10000 + 192]) (by decide) (by decide) _ _ (by decide)), e5⟩)
end
