/-! all transactions at once: a step of any worker's; the loop -/
section
variable {c : Cy} {z : Cz} {G : Gt} {B d : Nat} {g g' : Gg} {h h1 h' : AH} {l l1 l' : List Nat} {o o1 o' : Lc} {j : Nat} {K : Outcome → AH → Prop} {D : Nat → Nat}
theorem GRL.frm {P : Nat → Nat → Prop} (r : GRL c z G B g h l o) (q : Fq P h h') (np : ∀ f a, grlF.contains f = true → ¬ P f a) (nv : ∀ f a, VQ f a → ¬ P f a) : GRL c z G B g h' l o := by
  obtain ⟨r1, r2, ⟨r3, r4, r5, r6⟩, r7, r8, r9, r10, r11, r12⟩ := r
  obtain ⟨v', tg⟩ := r11.oth q nv
  have sub : ∀ l' : List Nat, l'.all (fun f => grlF.contains f) = true → ∀ f a, l'.contains f = true → ¬ P f a := fun l' hl f a hf => np f a (by rw [List.all_eq_true] at hl; exact hl f (List.contains_iff_mem.mp hf))
  have s1 : ∀ f a, gshF.contains f = true → ¬ P f a := sub gshF (by decide)
  have s2 : ∀ f a, swF.contains f = true → ¬ P f a := sub swF (by decide)
  have s3 : ∀ f a, pgW.contains f = true → ¬ P f a := sub pgW (by decide)
  have s4 : ∀ f a, etF.contains f = true → ¬ P f a := sub etF (by decide)
  have s5 : ∀ f a, (etF ++ rdF).contains f = true → ¬ P f a := sub (etF ++ rdF) (by decide)
  have s6 : ∀ f a, (txF ++ resF).contains f = true → ¬ P f a := sub (txF ++ resF) (by decide)
  refine ⟨r1.fr q.1 s1, r2, ⟨fun k hk => by rw [q.1.I (np _ _ rfl)]; exact r3 k hk, by rw [q.1.I (np _ _ rfl)]; exact r4, by rw [q.1.I (np _ _ rfl)]; exact r5, by rw [q.1.I (np _ _ rfl)]; exact r6⟩, fun k hk => (r7 k hk).fr q.1 (fun f hf => sub [2703, 2704] rfl f _ hf) (fun f a hf _ => s5 f a hf) (sub _ rfl) (fun f hf a _ => s6 f a hf) (fun _ => rfl) ⟨rfl, rfl, rfl, fun q => q⟩, fun i hi => (r8 i hi).fr q.1 s2 (fun f a hf _ _ => s3 f a hf) (fun p _ _ _ => ⟨rfl, fun x hx => tg p x (by simp) hx⟩) rfl, r9.fr q.1 (fun f a hf _ _ => s4 f a hf) (fun _ => rfl), r10.fr q.1 (fun a => np _ a rfl) (fun a => np _ a rfl), v', r12⟩
/-- any step's writing -/
def PGU (c : Cy) (z : Cz) (f a : Nat) : Prop := (∃ j t, j < zn z ∧ (zf z ≤ t ∧ t < zl z) ∧ PG c.1 j t f a) ∨ (∃ j, j < zn z ∧ PG0 c.1 j f a) ∨ f = 26
theorem PGU.no {c : Cy} {z : Cz} {l : List Nat} (h : l.all (fun f => !((3712 ≤ f && f ≤ 3718) || f == 1280 || pgL.contains f)) = true) (h2 : l.all (fun f => !((pgW ++ pgT ++ pgX).contains f)) = true) : ∀ f a, l.contains f = true → ¬ PGU c z f a := fun f a hf q => by
  rcases q with ⟨j, t, -, -, q⟩ | ⟨j, -, q⟩ | q
  · exact PG.no h h2 f a hf q
  · exact PG.no (t := 0) h h2 f a hf (PG0.g f a q)
  · rw [List.all_eq_true] at h
    have := h f (List.contains_iff_mem.mp hf)
    rw [q] at this; exact absurd this (by decide)
/-- what calls leave is well typed -/
def LWI (c : Cy) (z : Cz) (g : Gg) : Prop := (∀ k, zf z ≤ k → k < zl z → LWV c.2.2.1 (-26 * ((k : Int) + 1)) (xL g k)) ∧ LSZ g
theorem GST.xl (s : GST z g j g') (k : Nat) : xL g' k = xL g k ∨ (k = wT g j ∧ wK g j = 1 ∧ ∃ r, z.2.1 k r ∧ xL g' k = z.2.2.2 k r) ∨ xL g' k = (xL g k).map fun x => (x.1, x.2.1, true) := by
  obtain ⟨ho, s | s | s | s | s | s | s | s | s⟩ := s
  · left; unfold xL; rw [s.2.1]
  · left; unfold xL; rw [s.2.1]
  · obtain ⟨-, ⟨R, -, -, -, -, -, -, r1, r2⟩, -⟩ := s
    left
    by_cases e : k = R
    · unfold xL; rw [e, r1]
    · unfold xL; rw [r2 k e]
  · left; unfold xL; rw [s.2.1]
  · obtain ⟨s1, s2, ⟨r, MA', q1, -, s5, -⟩, s3, -⟩ := s
    by_cases e : k = wT g j
    · right; left
      refine ⟨e, s1, r, by rw [e]; exact q1, ?_⟩
      rw [xL, e, s5]
    · left; unfold xL; rw [s3 k e]
  · obtain ⟨s1, s2, ⟨q, p, -, s5⟩, s3, -⟩ := s
    left
    by_cases e : k = wT g j
    · unfold xL; rw [e, s5]
    · unfold xL; rw [s3 k e]
  · left; unfold xL; rw [s.2.2.2.1]
  · left; unfold xL; rw [s.2.2.2.1]
  · obtain ⟨s1, s2, -, -, s5, s6, -⟩ := s
    by_cases e : k = wT g j
    · right; right
      rw [xL, e, s5]
    · left; unfold xL; rw [s6 k e]
/-- nothing is left by those that are not done now -/
def XLO (z : Cz) (g : Gg) : Prop := ∀ k, k < 32 → ¬ (zf z ≤ k ∧ k < zl z) → xL g k = []
theorem XLO.step (iv : IVG z g) (hj : j < zn z) (w : XLO z g) (s : GST z g j g') : XLO z g' := fun k hk hn => by
  rcases s.xl k with e | ⟨e, e2, -⟩ | e
  · rw [e]; exact w k hk hn
  · exact absurd (by rw [e]; exact (iv.2.1 j hj).2.1 (by omega)) hn
  · rw [e, w k hk hn]; rfl
theorem LWV.sz {W : Wd} {lo : Int} {ls : Lw} (hW : WV W) (hD : DW W D) (h : LWV W lo ls) : ∀ x ∈ ls, ∀ v, x.2.1.2.2.2 = some v → vsz v ≤ 64 ∧ fdp v.2.2 ≤ 40 := fun x hx v hv => by
  obtain ⟨a, -, -, b⟩ := h x hx
  rw [ctf (b v hv)] at a
  by_cases k3 : x.1.1 = 3
  · obtain ⟨-, -, -, q⟩ := a.2.2 k3
    obtain ⟨q1, q2⟩ := q v hv
    have : fsz v.2.2 ≤ 200000 := by
      have : vsz v = 1 + fsz v.2.2 := rfl
      omega
    exact ⟨q2, (q1.vw hW hD this).d⟩
  · rw [a.2.1 k3] at hv; cases hv
theorem LWI.step (zc : ZCA c z) (cw : CWD c z D G B) (iv : IVG z g) (hj : j < zn z) (w : LWI c z g) (s : GST z g j g') : LWI c z g' := by
  obtain ⟨⟨hW, hD, hcl⟩, -⟩ := cw
  have key : ∀ k, ∀ lo, LWV c.2.2.1 lo (xL g k) → LWV c.2.2.1 lo ((xL g k).map fun x => (x.1, x.2.1, true)) := fun k lo h x hx => by
    obtain ⟨y, y1, y2⟩ := List.mem_map.mp hx
    rw [← y2]; exact h y y1
  refine ⟨fun k k1 k2 => ?_, fun k hk => ?_⟩
  · rcases s.xl k with e | ⟨-, -, r, e1, e2⟩ | e
    · rw [e]; exact w.1 k k1 k2
    · rw [e2, zc.2.2.1]
      exact ((zc.1 k r).mp e1).2.1.2.2.2
    · rw [e]; exact key k _ (w.1 k k1 k2)
  · rcases s.xl k with e | ⟨-, -, r, e1, e2⟩ | e
    · rw [e]; exact w.2 k hk
    · rw [e2, zc.2.2.1]
      exact ((zc.1 k r).mp e1).2.1.2.2.2.sz hW hD
    · rw [e]
      intro x hx v hv
      obtain ⟨y, y1, y2⟩ := List.mem_map.mp hx
      rw [← y2] at hv
      exact w.2 k hk y y1 v hv
/-- the state as it is -/
def vsw (st : Lw) (p : Pc) : Cn := acf st (-1) p (lfc st p)
theorem vew_0 {st : Lw} {Lf : Nat → Lw} {fs : Nat} : vew st Lf fs fs = vsw st := funext fun p => by unfold vew vsw; rw [bfr_f]
theorem LWI.ev (w : LWI c z g) (h32 : zl z ≤ 32) (e0 : EVW c.2.2.1 (vsw (zst z)) ∧ EVL 0 (vsw (zst z))) : ∀ t, zf z ≤ t → t < zl z → EVW c.2.2.1 (vew (zst z) (xL g) (zf z) t) ∧ EVL (-26 * (t : Int)) (vew (zst z) (xL g) (zf z) t) := fun t t1 t2 => by
  refine EVW.mk (by rw [vew_0]; exact e0.1) (by rw [vew_0]; exact ⟨Int.le_trans (by omega) e0.2.1, e0.2.2⟩) (by omega) (fun k k1 k2 => (w.1 k k1 (by omega)).mono (by omega))
/-- a step of worker j's, where calls are done -/
theorem GRL.stp (r : GRL c z G B g h l o) (iv : IVG z g) (w : LWI c z g) (zc : ZCA c z) (cw : CWD c z D G B) (e0 : EVW c.2.2.1 (vsw (zst z)) ∧ EVL 0 (vsw (zst z))) (hb : ∀ k, zf z ≤ k → k < zl z → xR g k < 2147483648) (hj : j < zn z) (hd : 77 ≤ d) (kk : ∀ h' g' l' o', GST z g j g' → GRL c z G B g' h' l' o' → Fr (PGU c z) h h' → K (.returned none) h') : MW G d e_X1_step [.ref (yA c.1), .ref (yW c.1 j)] h K := by
  have a1 := r.1.1.1.1
  obtain ⟨⟨k1, k2, -⟩, -⟩ := r.2.2.2.2.1 j hj
  have kb := (iv.2.1 j hj).1
  have h32 := cw.2.2.1.2
  have h8 := cw.2.2.1.1
  have q1 : Fq (fun f a => f = 26 ∧ a = yA c.1) h (h.sR 26 (yA c.1) (some (yW c.1 j))) := Fq.sR (Fq.refl h) ⟨rfl, rfl⟩
  have rW : (h.sR 26 (yA c.1) (some (yW c.1 j))).R 26 (yA c.1) = some (yW c.1 j) := by simp [n_sI, z_sI, tag_sI, I_sI, J_sI, R_sI, EI_sI, EJ_sI, ER_sI, n_sJ, z_sJ, tag_sJ, I_sJ, J_sJ, R_sJ, EI_sJ, EJ_sJ, ER_sJ, n_sR, z_sR, tag_sR, I_sR, J_sR, R_sR, EI_sR, EJ_sR, ER_sR, n_sEI, z_sEI, tag_sEI, I_sEI, J_sEI, R_sEI, EI_sEI, EJ_sEI, ER_sEI, n_sEJ, z_sEJ, tag_sEJ, I_sEJ, J_sEJ, R_sEJ, EI_sEJ, EJ_sEJ, ER_sEJ, n_sER, z_sER, tag_sER, I_sER, J_sER, R_sER, EI_sER, EJ_sER, ER_sER, n_nw, z_nw, tag_nw, I_nw, J_nw, R_nw, EI_nw, EJ_nw, ER_nw]
  have r1 : GRL c z G B g (h.sR 26 (yA c.1) (some (yW c.1 j))) l o := r.frm q1 (fun f a hf q => by rw [q.1] at hf; exact absurd hf (by decide)) (fun f a y q => by rw [q.1] at y; exact VQ.no (l := [26]) rfl _ _ rfl y)
  have qU : Fr (PGU c z) h (h.sR 26 (yA c.1) (some (yW c.1 j))) := q1.1.mono fun f a q => Or.inr (Or.inr q.1)
  refine step_ok (tk := wK g j) a1 k1.1.1 k2 kb (by omega) (fun q K1 hK => ?_) (fun q K1 hK => ?_) (fun q K1 hK => ?_)
  · exact r1.take iv hj h8 h32 q rW (fun h' g' s r' f => hK h' (kk h' g' l o s r' (qU.trans (f.mono fun f a q => Or.inr (Or.inl ⟨j, hj, q⟩)))))
  · cases hwb : wB g j with
    | true => exact r1.ins iv w.2 zc cw (w.ev h32 e0) hj q hwb rW (by omega) (fun h' g' l' o' s r' f => hK h' (kk h' g' l' o' s r' (qU.trans (f.mono fun f a q' => Or.inl ⟨j, _, hj, (iv.2.1 j hj).2.1 (by omega), q'⟩))))
    | false => exact r1.bgn iv w.2 zc cw (w.ev h32 e0) hj q hwb rW (by omega) (fun h' g' l' o' s r' f => hK h' (kk h' g' l' o' s r' (qU.trans (f.mono fun f a q' => Or.inl ⟨j, _, hj, (iv.2.1 j hj).2.1 (by omega), q'⟩))))
  · exact r1.look iv hj h8 h32 cw.2.1.1 hb q rW (by omega) (fun h' g' s r' f => hK h' (kk h' g' l o s r' (qU.trans (f.mono fun f a q' => Or.inl ⟨j, _, hj, (iv.2.1 j hj).2.1 (by omega), q'⟩))))
end
