/-! execute: one block -/
theorem bnS_c {bn : Int64} {rr rr' : Nat → TxR} {f : Nat} : ∀ {i : Nat}, (∀ k, k < i → rr' (f + k) = rr (f + k)) → bnS bn rr' f i = bnS bn rr f i
  | 0, _ => rfl
  | i + 1, h => by
    show bnS bn rr' f i + _ = bnS bn rr f i + _
    rw [bnS_c (fun k hk => h k (by omega)), h i (by omega)]
theorem bnS_a {bn : Int64} {rr : Nat → TxR} {f a : Nat} : ∀ {i : Nat}, bnS bn rr f (a + i) = bnS (bnS bn rr f a) rr (f + a) i
  | 0 => rfl
  | i + 1 => by
    show bnS bn rr f (a + i) + _ = bnS (bnS bn rr f a) rr (f + a) i + _
    rw [bnS_a, Nat.add_assoc]
    rfl
theorem dnc_c {rr rr' : Nat → TxR} {f : Nat} : ∀ {i : Nat}, (∀ k, k < i → rr' (f + k) = rr (f + k)) → dnc rr' f i = dnc rr f i
  | 0, _ => rfl
  | i + 1, h => by
    show dnc rr' f i + _ = dnc rr f i + _
    rw [dnc_c (fun k hk => h k (by omega)), h i (by omega)]
theorem dnc_a {rr : Nat → TxR} {f a : Nat} : ∀ {i : Nat}, dnc rr f (a + i) = dnc rr f a + dnc rr (f + a) i
  | 0 => rfl
  | i + 1 => by
    show dnc rr f (a + i) + _ = dnc rr f a + (dnc rr (f + a) i + _)
    rw [dnc_a, Nat.add_assoc, Nat.add_assoc]
    rfl
/-- results of others, and who was done, stay -/
def OTR (y : Ly) (lo hi : Nat) (h h' : AH) : Prop := ∀ k, k < 32 → ¬ (lo ≤ k ∧ k < hi) → (∀ b r, TXO h y k b r → TXO h' y k b r) ∧ h'.I 2701 (yX y k) = h.I 2701 (yX y k)
section
variable {n B : Nat} {cm : Md} {y : Ly} {X : Nat → TxC} {pb : Nat → Bool} {BT : Nat → By} {f ct : Nat} {s : Qs} {bn : Int64} {K : Outcome → AH → Prop}
theorem exe_c {XX : Xt} (oo : OK e_X1_execute XX) {la dn VA nv wn u tn : Nat} {wv : Nat → Nat} {h : AH} {v2 : Value} (e : EXV n XX.G B cm y X pb BT f ct s bn h) (e1 : h.I 5 (yA y) = nI f) (e2 : h.I 6 (yA y) = nI la) (hfl : f < la) (hla : la ≤ ct) (hct : ct ≤ 32) (hdn : dn ≤ 1000) (hpb : ∀ k, f ≤ k → k < la → pb k = false) (tq : TQF X pb BT ct) (hn : 0 < n) (hn8 : n ≤ 8) (hB : B + 325600 ≤ XX.G.ln) (wf : WVF h (yA y) VA nv wn wv) (hu : h.I 29 (yA y) = nI u ∧ u < 150000) (htn : h.I 30 (yA y) = nI tn ∧ tn < n) (hd : 79 ≤ XX.d)
    (kk : ∀ h' (rr : Nat → TxR) (ss : Nat → Qs), ss 0 = s → (∀ i, f + i < la → qst cm (ss i) (X (f + i)) none (rr (f + i)) (ss (i + 1))) → EXV n XX.G B cm y X pb BT la ct (ss (la - f)) (bnS bn rr f (la - f)) h' → RES h' y pb rr f la → OTR y f la h h' → Fr (fun f _ => exeF f = true) h h' → (∃ u tn, h'.I 29 (yA y) = nI u ∧ u < 150000 ∧ h'.I 30 (yA y) = nI tn ∧ tn < n) → V XX K 164 [.ref (yA y), .int (nI (dn + dnc rr f (la - f))), .int (nI la)] [] h') : V XX K 101 [.ref (yA y), .int (nI dn), v2] [] h := by
  obtain ⟨MA, mw, dx, ms, g, l, o, ⟨r, hL⟩, ⟨⟨sti, k1s⟩, mst, wok⟩, x4, x5, x6, x7⟩ := e
  refine exe_calls (c := (y, MA, s.1, X, pb)) (D := DDi s.1 s.2.1) oo r hL e1 e2 hfl (by omega) hdn (fun k k1 k2 => ⟨hpb k k1 k2, (tq k (by omega)).1, (tq k (by omega)).2.1 (hpb k k1 k2)⟩) wok.dw hn hn8 hB sti wf hu htn x7 hd (fun h' l' o' g' rr sq q0 qi qS m' xl' b' fr mo ut => ?_)
  have fr2 : Fr (PEX (PGP (y, MA, s.1, X, pb) (zca (y, MA, s.1, X, pb) s.2.2.1 f la n) 0) y f la) h h' := fr.mono fun f a z => by
    rcases z with ((z | z) | z) | z
    · exact Or.inl (Or.inl (Or.inl (Or.inl z)))
    · exact Or.inl (Or.inl (Or.inr z))
    · exact Or.inl (Or.inr z)
    · exact Or.inr z
  have frx : Fr (fun f _ => exeF f = true) h h' := fr2.mono fun f a z => PEX.ex (c := (y, MA, s.1, X, pb)) z
  have mst' : ∀ i, f + i ≤ la → MST s.1 (sq i) ms := fun i => by
    induction i with
    | zero => intro _; rw [q0]; exact mst
    | succ i ih =>
      intro hi
      obtain ⟨-, a2, -, -, -, a3, a4⟩ := qi i (by omega)
      rw [a2]
      exact (ih (by omega)).tk (qS i (by omega)).1.1 a3 (fun x hx => (a4 x hx).1)
  have k1s' : ∀ i, f + i ≤ la → K1s (sq i) := fun i => by
    induction i with
    | zero => intro _; rw [q0]; exact k1s
    | succ i ih =>
      intro hi
      obtain ⟨-, a2, -, -, -, a3, a4⟩ := qi i (by omega)
      rw [a2]
      exact (ih (by omega)).tk (qS i (by omega)).1.1 a3 (fun x hx => (a4 x hx).2)
  have ly := m'.1.2
  have nd : ∀ a, ¬ PEX (PGU (y, MA, s.1, X, pb) (zca (y, MA, s.1, X, pb) s.2.2.1 f la n)) y f la (10000 + 192) a := fun a z => by
    rcases z with ((z | ⟨z, -⟩) | z) | z
    · exact PGU.no (l := [10000 + 192]) (by decide) (by decide) _ _ (by decide) z
    · rcases z with z | z <;> exact absurd z (by decide)
    · exact absurd z (by decide)
    · exact PXE.no (l := [10000 + 192]) (by decide) (by decide) _ _ (by decide) z
  have np : ∀ f' a, mwdF.contains f' = true → ¬ PEX (PGU (y, MA, s.1, X, pb) (zca (y, MA, s.1, X, pb) s.2.2.1 f la n)) y f la f' a := fun f' a hf z => by
    refine exN (l := mwdF) (by decide) hf (PEX.ex (c := (y, MA, s.1, X, pb)) (z := zca (y, MA, s.1, X, pb) s.2.2.1 f la n) (DP := 0) (lo := f) (hi := la) (a := a) ?_)
    rcases z with ((z | z) | z) | z
    · exact Or.inl (Or.inl (Or.inl (Or.inl z)))
    · exact Or.inl (Or.inl (Or.inr z))
    · exact Or.inl (Or.inr z)
    · exact Or.inr z
  refine kk h' rr (fun i => (s.1, s.2.1, sq i, s.2.2.2)) (by show (s.1, s.2.1, sq 0, s.2.2.2) = s; rw [q0]) (fun i hi => ⟨(qi i hi).1, ?_⟩) ⟨MA, mw, dx, ms, g', l', o', ⟨m', xl'⟩, ⟨⟨qS (la - f) (by omega), k1s' (la - f) (by omega)⟩, mst' (la - f) (by omega), wok⟩, x4, x5, x6.fr fr np nd (fun k _ => mo.1 _) mo.2 (by omega), b'⟩ (fun k k1 k2 => ?_) (fun k k1 k2 => ⟨fun b r t => t.fr fr2 (PEX.tx (c := (y, MA, s.1, X, pb)) (z := zca (y, MA, s.1, X, pb) s.2.2.1 f la n) ly (by show la ≤ 32; omega) k1 k2), ?_⟩) frx ut
  · show (s.1, s.2.1, sq (i + 1), s.2.2.2) = (s.1, s.2.1, tkOv (sq i) _, s.2.2.2)
    rw [(qi i hi).2.1]
  · obtain ⟨-, -, a3, a4, -⟩ := qi (k - f) (by omega)
    rw [show f + (k - f) = k by omega] at a3 a4
    rw [hpb k k1 k2]
    exact ⟨a3, a4⟩
  · rw [fr2.I (PEX.dn (c := (y, MA, s.1, X, pb)) (z := zca (y, MA, s.1, X, pb) s.2.2.1 f la n) ly k1 (by omega) k2 _ rfl)]
theorem exe_p {XX : Xt} (oo : OK e_X1_execute XX) {dn VA nv wn u tn : Nat} {wv : Nat → Nat} {h : AH} {v2 : Value} (e : EXV n XX.G B cm y X pb BT f ct s bn h) (e1 : h.I 5 (yA y) = nI f) (e2 : h.I 6 (yA y) = nI (f + 1)) (hfl : f < ct) (hct : ct ≤ 32) (hdn : dn ≤ 1000) (hpb : pb f = true) (tq : TQF X pb BT ct) (hn : 0 < n) (hn8 : n ≤ 8) (wf : WVF h (yA y) VA nv wn wv) (hu : h.I 29 (yA y) = nI u ∧ u < 150000) (htn : h.I 30 (yA y) = nI tn ∧ tn < n) (hd : 79 ≤ XX.d)
    (kk : ∀ h' (r : TxR) (s' : Qs), qst cm s (X f) (some (BT f)) r s' → EXV n XX.G B cm y X pb BT (f + 1) ct s' (bn + lN (if r.1 = 3 then 0 else r.2.2.2.1)) h' → TXO h' y f true r → h'.I 2701 (yX y f) = nI 1 → OTR y f (f + 1) h h' → Fr (fun f _ => exeF f = true) h h' → (∃ u tn, h'.I 29 (yA y) = nI u ∧ u < 150000 ∧ h'.I 30 (yA y) = nI tn ∧ tn < n) → V XX K 164 [.ref (yA y), .int (nI (dn + if r.1 = 0 then 1 else 0)), .int (nI (f + 1))] [] h') : V XX K 101 [.ref (yA y), .int (nI dn), v2] [] h := by
  obtain ⟨MA0, mw, dx, ms, g, l, o, ⟨r0, hL⟩, ⟨⟨sti, k1s⟩, mst, wok⟩, x4, x5, x60, x7⟩ := e
  have hf : f < 32 := by omega
  have tqf := tq f hfl
  have hb := tqf.2.2 hpb
  have w0 := wok.2.1
  obtain ⟨MA, r, x6, ha⟩ : ∃ MA, CML (y, MA, s.1, X, pb) n XX.G B s.2.2.1 g h l o ∧ MWD h (y, MA, s.1, X, pb) mw s.2.2.2 BT f ct dx ∧ ∀ m, rdi (BT f).1 (BT f).2 = .ok m → m.1 ≠ 0 → s.1 m.1 = none → MA.1 m.1 = mw.1 (mw.2.1 f) ∧ ∀ k, MA.2.1 (m.1, k) = mw.1 (mw.2.1 f) + 141 + 4 * k := by
    by_cases cc : ∃ m, rdi (BT f).1 (BT f).2 = .ok m ∧ m.1 ≠ 0 ∧ s.1 m.1 = none
    · obtain ⟨m, m1, m2, m3⟩ := cc
      refine ⟨mau MA0 m.1 (mw.1 (mw.2.1 f)), r0.ma (c := (y, MA0, s.1, X, pb)) hL mst m3, x60.ma (c := (y, MA0, s.1, X, pb)) m2 m3, fun m' h1 _ _ => ?_⟩
      have e : m = m' := by rw [m1] at h1; injection h1
      subst e
      exact ⟨if_pos rfl, fun k => if_pos rfl⟩
    · exact ⟨MA0, r0, x60, fun m h1 h2 h3 => absurd ⟨m, h1, h2, h3⟩ cc⟩
  obtain ⟨bs, pq⟩ := MWD.puq (c := (y, MA, s.1, X, pb)) (n := n) (cm := cm) (dx := dx) (mw := mw) (BT := BT) (f := f) sti mst (by have := x6.2.1.2.2.2.2; omega) hb (fun m h1 h2 h3 => (ha m h1 h2 h3).1)
  have pbb := x6.pub (st := s.2.2.1) r.1.1 wok x5 hf hfl hpb
  have er : ∀ env x nn rd, mpx s.1 cm dx env x nn rd = mpx s.1 cm s.2.1 env x nn rd := fun env x nn rd => mpx_dw x5 w0
  have erp : rp (y, MA, s.1, X, pb) s.2.2.1 f (pvf (y, MA, s.1, X, pb) mw BT cm dx f) = mpx s.1 cm s.2.1 (vsw s.2.2.1) (X f) (BT f).1 (rdi (BT f).1 (BT f).2) := er _ _ _ _
  obtain ⟨z1, z2, z3, z4, z5⟩ := x6.2.1
  refine exe_pub (c := (y, MA, s.1, X, pb)) (p := pvf (y, MA, s.1, X, pb) mw BT cm dx f) (NM := mw.1 (32 + mw.2.2.2.1)) oo r hL e1 e2 hf hdn ⟨hpb, tqf.1⟩ hn hn8 sti pq pbb wf hu htn x7 ⟨z1, z2, z3⟩ (fun c0 => ?_) hd (fun h' l' o' g' m' xl' tx' dn' b' fr ut mo lk dq => ?_)
  · rw [erp] at c0
    obtain ⟨m, -, -, -, ⟨b5, -⟩, -⟩ := mpx_0 c0
    rw [vsw_o (show 4 ≤ 5 by decide)] at b5
    have b5 : lN (mdn s.2.2.1) < (8 : Int64) := b5
    rw [mst.len sti.1.1, ← x4] at b5
    have s8 : mw.2.2.2.1 < 8 := by
      rw [Int64.lt_iff_toInt_lt, lN_toI (by omega)] at b5
      have : (8 : Int64).toInt = 8 := by decide
      omega
    exact ⟨s8, z4 _ s8⟩
  · rw [erp] at m' tx' b' mo dq ⊢
    have ly := m'.1.2
    have frx : Fr (fun f _ => exeF f = true) h h' := fr.mono fun f a z => PEX.ex (c := (y, MA, s.1, X, pb)) z
    have np : ∀ f' a, mwdF.contains f' = true → ¬ PEX (PGP (y, MA, s.1, X, pb) (zpu (y, MA, s.1, X, pb) s.2.2.1 f n (pvf (y, MA, s.1, X, pb) mw BT cm dx f)) (mw.1 (mw.2.1 f) + 526)) y f (f + 1) f' a := fun f' a hf z => exN (l := mwdF) (by decide) hf (PEX.ex (c := (y, MA, s.1, X, pb)) z)
    have nd : ∀ a, a ≠ mw.1 (mw.2.1 f) + 526 → ¬ PEX (PGP (y, MA, s.1, X, pb) (zpu (y, MA, s.1, X, pb) s.2.2.1 f n (pvf (y, MA, s.1, X, pb) mw BT cm dx f)) (mw.1 (mw.2.1 f) + 526)) y f (f + 1) (10000 + 192) a := fun a ha z => by
      rcases z with (((z | z) | ⟨z, -⟩) | z) | z
      · exact PGU.no (l := [10000 + 192]) (by decide) (by decide) _ _ (by decide) z
      · rcases z with ⟨-, z⟩ | z
        · exact ha z
        · exact FS.n (by decide) z
      · rcases z with z | z <;> exact absurd z (by decide)
      · exact absurd z (by decide)
      · exact PXE.no (l := [10000 + 192]) (by decide) (by decide) _ _ (by decide) z
    have em : ∀ k, k < 32 → k ≠ f → h'.R 2698 (yX y k) = h.R 2698 (yX y k) := fun k k1 k2 => by
      rw [fr.R (PEX.dn (c := (y, MA, s.1, X, pb)) ly k1 (by omega) (fun q => by omega) _ rfl)]
    have otr : OTR y f (f + 1) h h' := fun k k1 k2 => ⟨fun b r t => t.fr fr (PEX.tx (c := (y, MA, s.1, X, pb)) (z := zpu (y, MA, s.1, X, pb) s.2.2.1 f n (pvf (y, MA, s.1, X, pb) mw BT cm dx f)) ly (by show f + 1 ≤ 32; omega) k1 k2), by rw [fr.I (PEX.dn (c := (y, MA, s.1, X, pb)) ly k1 (by omega) k2 _ rfl)]⟩
    obtain ⟨dp, dq1, dq2⟩ := dq
    by_cases c0 : (mpx s.1 cm s.2.1 (vsw s.2.2.1) (X f) (BT f).1 (rdi (BT f).1 (BT f).2)).1 = 0
    · obtain ⟨m, hr, ⟨s1, -, m0, mt⟩, ⟨vl, va⟩, ⟨b5, -⟩, -⟩ := mpx_0 c0
      have hmn : s.1 m.1 = none := by
        cases hw : s.1 m.1 with
        | none => rfl
        | some m'' => rw [sti.2.1.2.1 m.1 m'' hw m0] at mt; cases mt
      have gd := hb.gd hr
      rw [if_pos c0] at mo
      rw [vsw_o (show 4 ≤ 5 by decide)] at b5
      have b5 : lN (mdn s.2.2.1) < (8 : Int64) := b5
      rw [mst.len sti.1.1, ← x4] at b5
      have s8 : mw.2.2.2.1 < 8 := by
        rw [Int64.lt_iff_toInt_lt, lN_toI (by omega)] at b5
        have : (8 : Int64).toInt = 8 := by decide
        omega
      obtain ⟨ma1, ma2⟩ := ha m hr m0 hmn
      have tf := (x6.2.2.1.1 f hf).1
      have hM : mw.1 (mw.2.1 f) ≠ yC y := fun q => by
        rw [x6.2.2.1.2.1] at q
        have := x6.1.2 (mw.2.1 f) 40 (by omega) (by omega) (by omega)
        omega
      obtain ⟨m2, hr2, w', l', hp'⟩ := pub_st sti.1.1 sti.1.2 sti.2.1 c0
      have e2 : m = m2 := by rw [hr] at hr2; injection hr2
      subst e2
      have evw := sti.2.1.pub (m := m) (fun n m' hm => by
        by_cases n0 : n = 0
        · omega
        · exact mst.2.2.1 n ((mst.2.1 n).mpr ⟨n0, m', hm⟩)) gd.2.2.2.1.1 m0 hmn s1.1 l' hp'
      have lnv := lR1_nv (lim := (X f).2.2.1) (pub := true) (mpx_pen (W := s.1) (cm := cm) (dw := s.2.1) (env := vsw s.2.2.1) (x := X f) (n := (BT f).1) (rd := rdi (BT f).1 (BT f).2) (fun q hq => (sti.2.1.1 q).2.1 hq)).1
      obtain ⟨m3, -, ndp, memp⟩ := mpx_ls c0 ((sti.2.1.1 (1, (X f).1, 0)).2.1 (by show (1 : Nat) ≠ 3; decide))
      have k1p : ∀ x ∈ lR1 (X f).2.2.1 true (mpx s.1 cm s.2.1 (vsw s.2.2.1) (X f) (BT f).1 (rdi (BT f).1 (BT f).2)), 1 ≤ x.1.1 := fun x hx => by
        obtain ⟨p, cc, b⟩ := x
        obtain ⟨-, z⟩ := (memp p cc b).mp hx
        show 1 ≤ p.1
        unfold pbL at z
        by_cases c1 : p = (1, (X f).1, 0)
        · rw [c1]; exact Nat.le_refl 1
        · rw [if_neg c1] at z
          by_cases c2 : pbs m3.1 p = true
          · unfold pbs at c2
            simp only [Bool.or_eq_true, beq_iff_eq] at c2
            rcases c2 with (q | q) | q
            · rw [q]; show 1 ≤ 4; omega
            · rw [q]; show 1 ≤ 5; omega
            · rw [q]; show 1 ≤ 2; omega
          · rw [if_neg c2] at z; cases z
      refine kk h' _ (wup s.1 m, dwu m s.2.1, tkOv s.2.2.1 (lR1 (X f).2.2.1 true (mpx s.1 cm s.2.1 (vsw s.2.2.1) (X f) (BT f).1 (rdi (BT f).1 (BT f).2))), fun n => if n = m.1 then BT f else s.2.2.2 n) ⟨rfl, rfl, ?_⟩ ⟨MA, _, _, m.1 :: ms, g', _, o', ⟨m'.up (c := (y, MA, s.1, X, pb)) (lk m hr).1.2 ma1 ma2 hM gd, xl'⟩, ⟨⟨⟨⟨w', l'⟩, evw, tkO_sz sti.2.2 (fun x hx v hv => by rw [lnv x hx] at hv; cases hv)⟩, k1s.tk sti.1.1 ndp k1p⟩, mst.pub sti.1.1 w' gd.2.2.2.1.1 m0 hmn hp', wok.up hmn gd (rdi_acy hr) vl va⟩, ?_, x5.up hmn (mdw_dw x5 w0 vl) (dq2 c0 m hr), MWD.p1 (c := (y, MA, s.1, X, pb)) fr np nd dq1 hf hfl hpb em mo.1 mo.2 s8 hr m0 hmn ma1 x6, b'⟩ tx' dn' otr frx ut
      · rw [if_pos c0]
        exact ⟨m, hr, rfl, rfl, rfl⟩
      · show mw.2.2.2.1 + 1 = (m.1 :: ms).length
        rw [List.length_cons, x4]
    · rw [if_neg c0] at mo
      obtain ⟨⟨p1, p2⟩, p3⟩ := pub_no sti c0
      refine kk h' _ (s.1, s.2.1, tkOv s.2.2.1 (lR1 (X f).2.2.1 true (mpx s.1 cm s.2.1 (vsw s.2.2.1) (X f) (BT f).1 (rdi (BT f).1 (BT f).2))), s.2.2.2) ⟨rfl, rfl, ?_⟩ ⟨MA, mw, dx, ms, g', _, o', ⟨m', xl'⟩, ⟨⟨p3, k1s.tk sti.1.1 p2 (fun x hx => by rw [p1 x hx]; exact Nat.le_refl 1)⟩, mst.tk sti.1.1 p2 (fun x hx => by rw [p1 x hx]; decide), wok⟩, x4, x5, MWD.p0 (c := (y, MA, s.1, X, pb)) fr np nd ⟨dp, dq1⟩ hf (fun k k1 => ?_) (by rw [mo.2]; exact z1.symm) x6, b'⟩ tx' dn' otr frx ut
      · rw [if_neg c0]
        exact ⟨rfl, rfl, rfl⟩
      · by_cases ek : k = f
        · rw [ek]
          exact mo.1.trans (x6.2.2.1.1 f hf).2.1.symm
        · exact em k k1 ek
end
