/-! a publication alone: together -/
theorem lR1_nv {env : Pc → Cn} {e0 : En} {lim : Nat} {pub : Bool} {r : TxR} (s : PEN env e0 r.2.2.1) : ∀ y ∈ lR1 lim pub r, y.2.1.2.2.2 = none := fun y hy => by
  unfold lR1 at hy
  split at hy
  · simp at hy
  · rename_i a es he
    unfold lfE at hy
    split at hy
    · simp at hy
    · rcases List.mem_cons.mp hy with e | e
      · rw [e]
        exact (s.2 a (by rw [he]; exact List.mem_cons_self ..)).2
      · unfold lfl at e
        obtain ⟨x, x1, x2⟩ := List.mem_map.mp e
        rw [← x2]
        exact (s.2 x (by rw [he]; exact List.mem_cons_of_mem _ (List.mem_filter.mp x1).1)).2
/-- what stays, at a publication -/
def PIV (c : Cy) (z : Cz) (p : Pv) (g : Gg) (h : AH) : Prop := LSZ g ∧ PUB c z p h ∧ (xS g (zf z) = 2 → (pvr c z p).1 = 0 → ∃ dp, DPR h p.1.1 p.1.2.1 dp ∧ ∀ m, p.2.1 = .ok m → dag m dp (mdw m p.2.2.2.2))
/-- what a publication comes to -/
def TGP (c : Cy) (z : Cz) (p : Pv) (g : Gg) (h : AH) : Prop := xO g (zf z) = pvr c z p ∧ xL g (zf z) = lR1 (c.2.2.2.1 (zf z)).2.2.1 true (pvr c z p) ∧ TXO h c.1 (zf z) true (pvr c z p) ∧ PUB c z p h ∧ ((pvr c z p).1 = 0 → ∃ dp, DPR h p.1.1 p.1.2.1 dp ∧ ∀ m, p.2.1 = .ok m → dag m dp (mdw m p.2.2.2.2))
section
variable {c : Cy} {z : Cz} {G : Gt} {B d : Nat} {g g' : Gg} {h h1 h' : AH} {l l1 l' : List Nat} {o o1 o' : Lc} {j : Nat} {K : Outcome → AH → Prop} {p : Pv} {ms : List Nat} {bs : List Pc}
theorem GST.xs2 (s : GST z g j g') (hk : wK g j ≠ 1) {t : Nat} (h : xS g' t = 2) : xS g t = 2 := by
  obtain ⟨-, s | s | s | s | s | s | s | s | s⟩ := s
  · unfold xS at h ⊢; rw [← s.2.1]; exact h
  · unfold xS at h ⊢; rw [← s.2.1]; exact h
  · obtain ⟨-, ⟨R, -, -, -, -, -, -, r1, r2⟩, -⟩ := s
    by_cases e : t = R
    · rw [e, xS, r1] at h; exact absurd h (show ¬ ((1 : Nat) = 2) by decide)
    · unfold xS at h ⊢; rw [← r2 t e]; exact h
  · exact absurd s.1 hk
  · exact absurd s.1 hk
  · exact absurd s.1 hk
  · unfold xS at h ⊢; rw [← s.2.2.2.1]; exact h
  · unfold xS at h ⊢; rw [← s.2.2.2.1]; exact h
  · obtain ⟨-, -, -, -, s5, s6, -⟩ := s
    by_cases e : t = wT g j
    · rw [e, xS, s5] at h; exact absurd h (show ¬ ((0 : Nat) = 2) by decide)
    · unfold xS at h ⊢; rw [← s6 t e]; exact h
theorem LSZ.pub (zp : ZCP c z p) (hE : EVW c.2.2.1 (vsw (zst z))) (lz : LSZ g) (s : GST z g j g') : LSZ g' := fun k hk => by
  rcases s.xl k with e | ⟨-, -, r, e1, e2⟩ | e
  · rw [e]; exact lz k hk
  · rw [e2, zp.2.2.1]
    obtain ⟨q, -⟩ := (zp.1 k r).mp e1
    intro x hx v hv
    rw [q] at hx
    have := lR1_nv (mpx_pen (W := c.2.2.1) (cm := p.2.2.1) (dw := p.2.2.2.2) (x := c.2.2.2.1 (zf z)) (n := p.1.2.2.2.2) (rd := p.2.1) (fun q hq => (hE.1 q).2.1 hq)).1 x hx
    rw [this] at hv; cases hv
  · rw [e]
    intro x hx v hv
    obtain ⟨y, y1, y2⟩ := List.mem_map.mp hx
    rw [← y2] at hv
    exact lz k hk y y1 v hv
theorem PIV.fr {P : Nat → Nat → Prop} (u : Fr P h h') (np : ∀ f a, pubF.contains f = true → ¬ P f a) (nd : ∀ a, ¬ P (10000 + 192) a) (lz : LSZ g') (hs : xS g' (zf z) = 2 → xS g (zf z) = 2) (i : PIV c z p g h) : PIV c z p g' h' := ⟨lz, i.2.1.fr u np nd, fun q1 q2 => by
  obtain ⟨dp, a, b⟩ := i.2.2 (hs q1) q2
  exact ⟨dp, a.ou u (np _ _ rfl) (nd _), b⟩⟩
/-- any step's writing, at a publication -/
def PGP (c : Cy) (z : Cz) (DP f a : Nat) : Prop := PGU c z f a ∨ EPb DP f a
theorem GRL.stpp (r : GRL c z G B g h l o) (iv : IVG z g) (i2 : PIV c z p g h) (zp : ZCP c z p) (hst : ∀ x ∈ zst z, x.1.1 < 4) (h8 : zn z ≤ 8) (h32 : zl z ≤ 32) (hE : EVW c.2.2.1 (vsw (zst z))) (pq : PUQ c z p ms bs) (hb : ∀ k, zf z ≤ k → k < zl z → xR g k < 2147483648) (hj : j < zn z) (hd : 77 ≤ d) (kk : ∀ h' g' l' o', GST z g j g' → GRL c z G B g' h' l' o' → PIV c z p g' h' → Fr (PGP c z p.1.2.1) h h' → K (.returned none) h') : MW G d e_X1_step [.ref (yA c.1), .ref (yW c.1 j)] h K := by
  have a1 := r.1.1.1.1
  obtain ⟨⟨k1, k2, -⟩, -⟩ := r.2.2.2.2.1 j hj
  have kb := (iv.2.1 j hj).1
  have q1 : Fq (fun f a => f = 26 ∧ a = yA c.1) h (h.sR 26 (yA c.1) (some (yW c.1 j))) := Fq.sR (Fq.refl h) ⟨rfl, rfl⟩
  have rW : (h.sR 26 (yA c.1) (some (yW c.1 j))).R 26 (yA c.1) = some (yW c.1 j) := by simp [n_sI, z_sI, tag_sI, I_sI, J_sI, R_sI, EI_sI, EJ_sI, ER_sI, n_sJ, z_sJ, tag_sJ, I_sJ, J_sJ, R_sJ, EI_sJ, EJ_sJ, ER_sJ, n_sR, z_sR, tag_sR, I_sR, J_sR, R_sR, EI_sR, EJ_sR, ER_sR, n_sEI, z_sEI, tag_sEI, I_sEI, J_sEI, R_sEI, EI_sEI, EJ_sEI, ER_sEI, n_sEJ, z_sEJ, tag_sEJ, I_sEJ, J_sEJ, R_sEJ, EI_sEJ, EJ_sEJ, ER_sEJ, n_sER, z_sER, tag_sER, I_sER, J_sER, R_sER, EI_sER, EJ_sER, ER_sER, n_nw, z_nw, tag_nw, I_nw, J_nw, R_nw, EI_nw, EJ_nw, ER_nw]
  have r1 : GRL c z G B g (h.sR 26 (yA c.1) (some (yW c.1 j))) l o := r.frm q1 (fun f a hf q => by rw [q.1] at hf; exact absurd hf (by decide)) (fun f a y q => by rw [q.1] at y; exact VQ.no (l := [26]) rfl _ _ rfl y)
  have qU : Fr (PGP c z p.1.2.1) h (h.sR 26 (yA c.1) (some (yW c.1 j))) := q1.1.mono fun f a q => Or.inl (Or.inr (Or.inr q.1))
  have i2' : PIV c z p g (h.sR 26 (yA c.1) (some (yW c.1 j))) := i2.fr q1.1 (fun f a hf q => by rw [q.1] at hf; exact absurd hf (by decide)) (fun a q => absurd q.1 (by decide)) i2.1 id
  have npg : ∀ t f a, pubF.contains f = true → ¬ PG c.1 j t f a := fun t => PG.no (by decide) (by decide)
  have ndg : ∀ t a, ¬ PG c.1 j t (10000 + 192) a := fun t a => PG.no (l := [10000 + 192]) (by decide) (by decide) _ _ (by decide)
  refine step_ok (tk := wK g j) a1 k1.1.1 k2 kb (by omega) (fun q K1 hK => ?_) (fun q K1 hK => ?_) (fun q K1 hK => ?_)
  · exact r1.take iv hj h8 h32 q rW (fun h' g' s r' f => hK h' (kk h' g' l o s r' (i2'.fr (f.mono (PG0.g (t := 0))) (npg 0) (ndg 0) (i2.1.pub zp hE s) (fun y => s.xs2 (by omega) y)) (qU.trans (f.mono fun f a q => Or.inl (Or.inr (Or.inl ⟨j, hj, q⟩))))))
  · cases hwb : wB g j with
    | true => exact absurd (((iv.2.1 j hj).2.2.1 q).2 hwb).1 (zp.2.1 _ _)
    | false =>
      refine r1.bgp iv i2.1 zp hst h8 h32 hE pq i2'.2.1 hj q hwb rW (by omega) (fun h' g' l' o' s r' f dd => ?_)
      obtain ⟨dp, d1, d2⟩ := dd
      refine hK h' (kk h' g' l' o' s r' ⟨i2.1.pub zp hE s, i2'.2.1.fe f (fun f a hf y => y.elim (npg _ f a hf) (EPb.no (by decide) f a hf)) (fun a ha y => y.elim (ndg _ a) (fun y => y.elim (fun y => ha y.2) (FS.n (by decide)))) ⟨dp, d1⟩, fun _ y2 => ⟨dp, d1, d2 y2⟩⟩ (qU.trans (f.mono fun f a q' => q'.imp (fun q' => Or.inl ⟨j, _, hj, (iv.2.1 j hj).2.1 (by omega), q'⟩) id)))
  · exact r1.look iv hj h8 h32 hst hb q rW (by omega) (fun h' g' s r' f => hK h' (kk h' g' l o s r' (i2'.fr f (npg _) (ndg _) (i2.1.pub zp hE s) (fun y => s.xs2 (by omega) y)) (qU.trans (f.mono fun f a q' => Or.inl (Or.inl ⟨j, _, hj, (iv.2.1 j hj).2.1 (by omega), q'⟩)))))
theorem tog_pub {VA nv wn u tn : Nat} {wv : Nat → Nat} (r : GRM c z G B (zf z) g h l o) (zp : ZCP c z p) (hst : ∀ x ∈ zst z, x.1.1 < 4) (h8 : zn z ≤ 8) (h32 : zl z ≤ 32) (hE : EVW c.2.2.1 (vsw (zst z))) (pq : PUQ c z p ms bs) (pb : PUB c z p h) (hn : 0 < zn z) (hd : 78 ≤ d) (wf : WVF h (yA c.1) VA nv wn wv) (hu : h.I 29 (yA c.1) = nI u ∧ u < 150000) (htn : h.I 30 (yA c.1) = nI tn ∧ tn < zn z) (kk : ∀ h' g' l' o', GRL c z G B g' h' l' o' → XLO z g' → TGP c z p g' h' → Fr (fun f a => PTg (PGP c z p.1.2.1) c.1 f a ∨ [2703, 1025, 2702, 10, 11, 12].contains f = true) h h' → (∀ j, j < zn z → wK g' j = 0) → (∃ u tn, h'.I 29 (yA c.1) = nI u ∧ u < 150000 ∧ h'.I 30 (yA c.1) = nI tn ∧ tn < zn z) → K (.returned none) h') : MW G d e_X1_together [.ref (yA c.1)] h K := by
  have zl1 := zp.2.2.2.1
  have hPm : (zl z - zf z) * (5 * 167424) + 5 * 167424 ≤ 32 * (5 * 167424) + 5 * 167424 := Nat.add_le_add_right (Nat.mul_le_mul_right _ (by omega)) _
  have hw : wn ≤ 100000 := by have := wf.2.2.1; omega
  have n1 : (20002 + 28 * 33) * 8 + 8 ≤ 167424 := by decide
  have n3 : 1 + (100000 + (32 * (5 * 167424) + 5 * 167424)) < 2147483648 := by decide
  have n2 : 1 + (wn + (32 * (5 * 167424) + 5 * 167424)) ≤ 1 + (100000 + (32 * (5 * 167424) + 5 * 167424)) := Nat.add_le_add_left (Nat.add_le_add_right hw _) _
  refine together_ok (I2 := fun g h => PIV c z p g h ∧ XLO z g) (PU := PGP c z p.1.2.1) (S := 167424) (Pm := 32 * (5 * 167424) + 5 * 167424) (RB := 1 + (100000 + (32 * (5 * 167424) + 5 * 167424))) r (fun t r hr => ((zp.1 t r).mp hr).2) (fun t s hs => absurd hs (zp.2.1 t s)) h8 hn h32 (by omega) n1 hPm n3 n2 (by omega) (fun f a hf y => y.elim (PGU.no (l := [9, 8, 10000 + 97, 29, 30]) rfl rfl f a hf) (EPb.no (l := [9, 8, 10000 + 97, 29, 30]) (by decide) f a hf)) wf hu htn (fun g h l o j K r iv i2 xb hj k => r.stpp iv i2.1 zp hst h8 h32 hE pq xb hj (by omega) (fun h' g' l' o' s r' i3 f => k h' g' l' o' s r' ⟨i3, i2.2.step iv hj s⟩ f)) (fun g h h' q i2 => ⟨i2.1.fr q (fun f a hf y => ?_) (fun a y => ?_) i2.1.1 id, i2.2⟩) (fun g h' hg hs q => ⟨⟨fun k hk => by rw [hg k hk]; exact fun x hx => by simp at hx, pb.fr q (fun f a hf y => ?_) (fun a y => absurd y (by decide)), fun y => by have := hs (zf z) (Nat.le_refl _) (by omega); omega⟩, fun k hk _ => hg k hk⟩) (fun h' g' l' o' x1 x2 x3 x4 x5 x6 x7 x8 => kk h' g' l' o' x1 x3.2 ?_ x6 x7 x8)
  · rcases y with y | y <;> (rw [y] at hf; exact absurd hf (by decide))
  · rcases y with y | y <;> exact absurd y (by decide)
  · have t : ∀ f ∈ pubF, [2703, 1025, 2702, 10, 11, 12].contains f = false := by decide
    rw [t f (List.contains_iff_mem.mp hf)] at y; cases y
  · obtain ⟨a, b, e⟩ := x2.res h32 x5 x4 (Nat.le_refl (zf z)) (by omega)
    obtain ⟨a1, -⟩ := (zp.1 _ _).mp a
    have p2 := (x4 (zf z) (Nat.le_refl _) (by omega)).1
    have tx := (x1.2.2.2.1 (zf z) (by omega)).2.2.2 (Nat.le_refl _) (by omega) p2
    rw [zp.2.2.2.2.1, a1] at tx
    exact ⟨a1, by rw [b, zp.2.2.1, a1], tx, x3.1.2.1, x3.1.2.2 p2⟩
end
