/-! calls together: what they come to -/
/-- the results of calls that were done together are those of calls one behind the other -/
def TGC (c : Cy) (z : Cz) (g : Gg) (h : AH) : Prop := (∀ t, zf z ≤ t → t < zl z → MTX c.2.2.1 (c.2.2.2.1 t) (vsw (ssq (zst z) (xL g) (zf z) (t - zf z))) (xO g t) ∧ (RTY c.2.2.1 (c.2.2.2.1 t) (-26 * ((t : Int) + 1)) (xO g t) ∧ RTZ c.2.2.1 (c.2.2.2.1 t) (xO g t)) ∧ xL g t = lR1 (c.2.2.2.1 t).2.2.1 false (xO g t) ∧ TXO h c.1 t false (xO g t)) ∧ ∀ i, zf z + i ≤ zl z → STW (ssq (zst z) (xL g) (zf z) i) ∧ (ssq (zst z) (xL g) (zf z) i).length ≤ 256
section
variable {c : Cy} {z : Cz} {G : Gt} {B d : Nat} {K : Outcome → AH → Prop} {D : Nat → Nat}
theorem IVG.tgc {g : Gg} {h : AH} {l : List Nat} {o : Lc} (r : GRL c z G B g h l o) (iv : IVG z g) (zc : ZCA c z) (h32 : zl z ≤ 32) (hb : ∀ k, zf z ≤ k → k < zl z → xR g k < 2147483648) (p : PRE z g (zl z)) (w : STW (zst z)) (h256 : (zst z).length ≤ 256) : TGC c z g h := by
  obtain ⟨zF, zP, zL, zpb⟩ := zc
  have sq := ssq_ok (W := c.2.2.1) (xx := c.2.2.2.1) (st := zst z) (Lf := xL g) (fs := zf z) (last := zl z) (rr := xO g) w h256 (fun t t1 t2 => by
    obtain ⟨a, b, e⟩ := iv.res h32 hb p t1 t2
    obtain ⟨a1, a2, a3⟩ := (zF t _).mp a
    obtain ⟨e0, es, q1, -⟩ := a2.2.1
    exact ⟨a2.1.1, ⟨e0, es, q1⟩, a3, by rw [b, zL], e⟩)
  refine ⟨fun t t1 t2 => ?_, fun i hi => ⟨(sq i hi).1, (sq i hi).2.1⟩⟩
  obtain ⟨a, b, e⟩ := iv.res h32 hb p t1 t2
  obtain ⟨a1, a2, a3⟩ := (zF t _).mp a
  have s := (sq (t - zf z) (by omega)).2.2
  rw [show zf z + (t - zf z) = t by omega] at s
  have m : MTX c.2.2.1 (c.2.2.2.1 t) (vew (zst z) (xL g) (zf z) t) (xO g t) := a1 _ e
  have tx := (r.2.2.2.1 t (by omega)).2.2.2 t1 t2 (p t t1 t2).1
  rw [(zpb t t1 t2).1] at tx
  exact ⟨m.cg s, ⟨a2, a3⟩, by rw [b, zL], tx⟩
theorem tog_calls {g : Gg} {h : AH} {l : List Nat} {o : Lc} {VA nv wn u tn : Nat} {wv : Nat → Nat} (r : GRM c z G B (zf z) g h l o) (zc : ZCA c z) (cw : CWD c z D G B) (e0 : EVW c.2.2.1 (vsw (zst z)) ∧ EVL 0 (vsw (zst z))) (hn : 0 < zn z) (hfl : zf z ≤ zl z) (w : STW (zst z)) (h256 : (zst z).length ≤ 256) (hd : 78 ≤ d) (wf : WVF h (yA c.1) VA nv wn wv) (hu : h.I 29 (yA c.1) = nI u ∧ u < 150000) (htn : h.I 30 (yA c.1) = nI tn ∧ tn < zn z) (kk : ∀ h' g' l' o', GRL c z G B g' h' l' o' → LWI c z g' ∧ XLO z g' → TGC c z g' h' → Fr (fun f a => PTg (PGU c z) c.1 f a ∨ [2703, 1025, 2702, 10, 11, 12].contains f = true) h h' → (∀ j, j < zn z → wK g' j = 0) → (∃ u tn, h'.I 29 (yA c.1) = nI u ∧ u < 150000 ∧ h'.I 30 (yA c.1) = nI tn ∧ tn < zn z) → K (.returned none) h') : MW G d e_X1_together [.ref (yA c.1)] h K := by
  have h8 := cw.2.2.1.1
  have h32 := cw.2.2.1.2
  have hPm : (zl z - zf z) * (5 * 167424) + 5 * 167424 ≤ 32 * (5 * 167424) + 5 * 167424 := Nat.add_le_add_right (Nat.mul_le_mul_right _ (by omega)) _
  have hw : wn ≤ 100000 := by have := wf.2.2.1; omega
  have n1 : (20002 + 28 * 33) * 8 + 8 ≤ 167424 := by decide
  have n3 : 1 + (100000 + (32 * (5 * 167424) + 5 * 167424)) < 2147483648 := by decide
  have n2 : 1 + (wn + (32 * (5 * 167424) + 5 * 167424)) ≤ 1 + (100000 + (32 * (5 * 167424) + 5 * 167424)) := Nat.add_le_add_left (Nat.add_le_add_right hw _) _
  refine together_ok (I2 := fun g _ => LWI c z g ∧ XLO z g) (PU := PGU c z) (S := 167424) (Pm := 32 * (5 * 167424) + 5 * 167424) (RB := 1 + (100000 + (32 * (5 * 167424) + 5 * 167424))) r (fun t r hr => ?_) (fun t s hs => ?_) h8 hn h32 hfl n1 hPm n3 n2 (by omega) (PGU.no rfl rfl) wf hu htn (fun g h l o j K r iv i2 xb hj k => r.stp iv i2.1 zc cw e0 xb hj (by omega) (fun h' g' l' o' s r' f => k h' g' l' o' s r' ⟨i2.1.step zc cw iv hj s, i2.2.step iv hj s⟩ f)) (fun _ _ _ _ i2 => i2) (fun g _ hg _ _ => ⟨⟨fun k k1 k2 => ?_, fun k hk => ?_⟩, fun k hk _ => hg k hk⟩) (fun h' g' l' o' x1 x2 x3 x4 x5 x6 x7 x8 => kk h' g' l' o' x1 x3 (x2.tgc x1 zc h32 x5 x4 w h256) x6 x7 x8)
  · have := ((zc.1 t r).mp hr).2.1.1.2.2.1
    omega
  · obtain ⟨-, q1, q2⟩ := (zc.2.1 t s).mp hs
    exact Nat.le_trans q1.2.1 q2
  · rw [hg k (by omega)]
    exact fun x hx => by simp at hx
  · rw [hg k hk]
    exact fun x hx => by simp at hx
end
