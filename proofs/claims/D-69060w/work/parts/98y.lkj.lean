/-! the twin's looker: coming, all locals -/
def cks (b : Nat → Bool) : Nat → Nat → Except Nat Unit
  | 0, _ => .ok ()
  | k + 1, i => eb (nee (b i) 9) fun _ => cks b k (i + 1)
theorem cks_s (b : Nat → Bool) : ∀ k i, cks (fun i => b (i + 1)) k i = cks b k (i + 1)
  | 0, _ => rfl
  | k + 1, i => by
    show eb (nee (b (i + 1)) 9) (fun _ => cks (fun i => b (i + 1)) k (i + 1)) = eb (nee (b (i + 1)) 9) fun _ => cks b k (i + 1 + 1)
    rw [cks_s b k (i + 1)]
theorem cks_t : ∀ k i, cks (fun _ => true) k i = .ok ()
  | 0, _ => rfl
  | k + 1, i => cks_t k (i + 1)
theorem cBack_k {m : Md} : ∀ {lt : List Ty} {a l : Ls}, a.length = lt.length → l.length = lt.length → cBack m lt a l = cks (fun i => bk1 m (tgt lt i) (lgt a i) (lgt l i)) lt.length 0
  | [], a, b, ha, hb => by
    have : a = [] := List.length_eq_zero_iff.mp ha
    subst this; rfl
  | t :: lt, [], b, ha, hb => by simp at ha
  | t :: lt, x :: a, [], ha, hb => by simp at hb
  | t :: lt, x :: a, y :: b, ha, hb => by
    have ih := cBack_k (m := m) (lt := lt) (a := a) (l := b) (by simpa using ha) (by simpa using hb)
    show eb (nee (bk1 m t x y) 9) (fun _ => cBack m lt a b) = eb (nee (bk1 m t x y) 9) fun _ => cks _ lt.length (0 + 1)
    rw [ih, ← cks_s]; rfl
theorem cJoin_k {m : Md} : ∀ {lt : List Ty} {a l : Ls}, a.length = lt.length → l.length = lt.length → eb (cJoin m lt a l) (fun _ => .ok ()) = cks (fun i => ((lgt a i).isSome == (lgt l i).isSome) || hsA m (tgt lt i) 2) lt.length 0
  | [], a, b, ha, hb => by
    have : a = [] := List.length_eq_zero_iff.mp ha
    subst this; rfl
  | t :: lt, [], b, ha, hb => by simp at ha
  | t :: lt, x :: a, [], ha, hb => by simp at hb
  | t :: lt, x :: a, y :: b, ha, hb => by
    have ih := cJoin_k (m := m) (lt := lt) (a := a) (l := b) (by simpa using ha) (by simpa using hb)
    show eb (eb (nee ((x.isSome == y.isSome) || hsA m t 2) 9) fun _ => eb (cJoin m lt a b) fun r => .ok (jn1 x y :: r)) (fun _ => .ok ()) = eb (nee ((x.isSome == y.isSome) || hsA m t 2) 9) fun _ => cks _ lt.length (0 + 1)
    rw [← cks_s]
    have e : cks (fun i => ((lgt (x :: a) (i + 1)).isSome == (lgt (y :: b) (i + 1)).isSome) || hsA m (tgt (t :: lt) (i + 1)) 2) lt.length 0 = eb (cJoin m lt a b) (fun _ => .ok ()) := ih.symm
    rw [e]
    cases nee ((x.isSome == y.isSome) || hsA m t 2) 9 with
    | error w => rfl
    | ok _ => cases cJoin m lt a b <;> rfl
theorem TMh.put {h h' : AH} {O N j : Nat} {lt : List Ty} {tb : Tb} {r : Ls} (ht : TMh h O N lt tb) (hj : j < N) (h40 : lt.length ≤ 40) (hc : ∀ q, h'.EI 1730 (O + 2) q = if q = j then nI 1 else h.EI 1730 (O + 2) q) (out : ∀ q, (q < 40 * j ∨ 40 * j + lt.length ≤ q) → SCe h h' O q) (row : ∀ k, k < lt.length → TCe h' O (40 * j + k) (lgt r k)) (hl : LSo lt r) : TMh h' O N lt (tb.set j (some r)) := by
  refine ⟨by simp [ht.1], fun i hi => ?_⟩
  rw [tat_set (by rw [ht.1]; exact hj), hc]
  by_cases c : i = j
  · rw [if_pos c, if_pos c]
    refine ⟨rfl, fun l e => ?_⟩
    cases e
    subst c
    exact ⟨fun k hk => row k (by rw [hl.1] at hk; exact hk), hl⟩
  · rw [if_neg c, if_neg c]
    refine ⟨(ht.2 i hi).1, fun l e => ?_⟩
    obtain ⟨z1, z2⟩ := (ht.2 i hi).2 l e
    refine ⟨fun k hk => (z1 k hk).eq (out _ ?_), z2⟩
    have := z2.1
    omega
def cmF : List Nat := [3090, 10000 + 1730, 10000 + 1762, 10000 + 1779, 10000 + 1794]
theorem lcom_ok {G : Gt} {d : Nat} {h : AH} {K : Outcome → AH → Prop} {O U n f i j N : Nat} {B : Nat → Nat} {m : Md} {u : Ux} {x : Ts} {tb : Tb} (hs : LC h O U n B m f u) (hu : gU m u) (h4 : ab4 m) (hr : TGd h O m (lty u) x) (ht : TMh h O N (lty u) tb) (hN : N ≤ 1024) (hj : j < N) (hi : i < N) (hcm : j ≤ i → (tat tb j).isSome = true) (hd : 5 ≤ d)
    (kk : ∀ h', Fq (FS cmF) h h' → EQ (cCome m (lty u) i j x.2.2 tb) (fun tb' => TGd h' O m (lty u) x ∧ TMh h' O N (lty u) tb') (TBd h' O) → K (.returned none) h') : MW G d e_X25_come [.ref O, .int (nI i), .int (nI j)] h K := by
  refine st_X25_come fun X o hG hD _ => ?_
  subst hG; subst hD
  obtain ⟨s0, ⟨a1, a2, a3, a4, a5, a6⟩, ⟨b1, b2, b3, b4, b5, b6⟩, ⟨c1, c2, c3, c4, c5, c6⟩, d1, d2, d3, d4, d5, d6⟩ := id hs.1.1
  have hn := hu.n
  have hlt : (lty u).length = nlo u := lty_len u
  have ixj : IX (nI j) 1025 j := IX.mk (by omega) (by omega)
  obtain ⟨t1, t2, t3, t4⟩ := id hr
  have hll : x.2.2.length = nlo u := by rw [t3.2.2.1, lty_len]
  generalize hh0 : h.sEI 1730 (O + 2) j (nI 1) = h0
  have f0 : Fq (FS [10000 + 1730]) h h0 := by subst hh0; exact (Fq.refl h).sEI rfl
  have ec0 : ∀ q, h0.EI 1730 (O + 2) q = if q = j then nI 1 else h.EI 1730 (O + 2) q := fun q => by
    by_cases c : q = j
    · subst c; subst hh0; simp [n_sI, z_sI, tag_sI, I_sI, J_sI, R_sI, EI_sI, EJ_sI, ER_sI, n_sJ, z_sJ, tag_sJ, I_sJ, J_sJ, R_sJ, EI_sJ, EJ_sJ, ER_sJ, n_sR, z_sR, tag_sR, I_sR, J_sR, R_sR, EI_sR, EJ_sR, ER_sR, n_sEI, z_sEI, tag_sEI, I_sEI, J_sEI, R_sEI, EI_sEI, EJ_sEI, ER_sEI, n_sEJ, z_sEJ, tag_sEJ, I_sEJ, J_sEJ, R_sEJ, EI_sEJ, EJ_sEJ, ER_sEJ, n_sER, z_sER, tag_sER, I_sER, J_sER, R_sER, EI_sER, EJ_sER, ER_sER, n_nw, z_nw, tag_nw, I_nw, J_nw, R_nw, EI_nw, EJ_nw, ER_nw]
    · subst hh0; simp [n_sI, z_sI, tag_sI, I_sI, J_sI, R_sI, EI_sI, EJ_sI, ER_sI, n_sJ, z_sJ, tag_sJ, I_sJ, J_sJ, R_sJ, EI_sJ, EJ_sJ, ER_sJ, n_sR, z_sR, tag_sR, I_sR, J_sR, R_sR, EI_sR, EJ_sR, ER_sR, n_sEI, z_sEI, tag_sEI, I_sEI, J_sEI, R_sEI, EI_sEI, EJ_sEI, ER_sEI, n_sEJ, z_sEJ, tag_sEJ, I_sEJ, J_sEJ, R_sEJ, EI_sEJ, EJ_sEJ, ER_sEJ, n_sER, z_sER, tag_sER, I_sER, J_sER, R_sER, EI_sER, EJ_sER, ER_sER, n_nw, z_nw, tag_nw, I_nw, J_nw, R_nw, EI_nw, EJ_nw, ER_nw, c]
  have l0 : LC h0 O U n B m f u := hs.fr f0.1 (FS.no rfl)
  have g0 : TGd h0 O m (lty u) x := (show TRs h O m (lty u) (.ok x) from hr).st f0 rfl
  -- the loop
  have go : ∀ (first : Bool) (b : Nat → Bool) (val : Nat → Option Og), (∀ i1 hx v5, i1 < nlo u → Fq (FS meF) h0 hx → TGd hx O m (lty u) x → SCe h0 hx O (40 * j + i1) → (∀ h', Fq (FS meF) hx h' → (∀ q, q ≠ 40 * j + i1 → SCe hx h' O q) → EQ (nee (b i1) 9) (fun _ => TGd h' O m (lty u) x ∧ TCe h' O (40 * j + i1) (val i1)) (TBd h' O) → V X K 168 [.ref O, .int (nI i), .int (nI j), .int (bI first), .int (nI i1), .int (nI (40 * j + i1))] [] h') → V X K 54 [.ref O, .int (nI i), .int (nI j), .int (bI first), .int (nI i1), v5] [] hx) →
      (∀ h', Fq (FS meF) h0 h' → (∀ q, (q < 40 * j ∨ 40 * j + nlo u ≤ q) → SCe h0 h' O q) → EQ (cks b (nlo u) 0) (fun _ => TGd h' O m (lty u) x ∧ ∀ k, k < nlo u → TCe h' O (40 * j + k) (val k)) (TBd h' O) → K (.returned none) h') → V X K 38 [.ref O, .int (nI i), .int (nI j), .int (bI first), .int (nI 0), nov] [] h0 := by
    intro first b val step done
    have loop : ∀ k i1 hx v5, k + i1 = nlo u → Fq (FS meF) h0 hx → TGd hx O m (lty u) x → (∀ q, (q < 40 * j ∨ 40 * j + i1 ≤ q) → SCe h0 hx O q) → (∀ k, k < i1 → TCe hx O (40 * j + k) (val k)) → (∀ h', Fq (FS meF) h0 h' → (∀ q, (q < 40 * j ∨ 40 * j + nlo u ≤ q) → SCe h0 h' O q) → EQ (cks b k i1) (fun _ => TGd h' O m (lty u) x ∧ ∀ k, k < nlo u → TCe h' O (40 * j + k) (val k)) (TBd h' O) → K (.returned none) h') → V X K 38 [.ref O, .int (nI i), .int (nI j), .int (bI first), .int (nI i1), v5] [] hx := by
      intro k
      induction k with
      | zero =>
        intro i1 hx v5 hi1 fx gx ox cx done
        have lx : LC hx O U n B m f u := l0.fr fx.1 (FS.no rfl)
        have y0 := lx.1.1.1
        have y1 := lx.2.1.2.2.1
        refine k_X25_come_38 (r2 := y1) o (fun _ => ?_) (fun c => absurd ((nI_leI (by omega) (by omega)).mpr (by omega)) c)
        refine k_X25_come_174 o ?_
        exact done hx fx (fun q hq => ox q (by omega)) ⟨gx, fun k hk => cx k (by omega)⟩
      | succ k ih =>
        intro i1 hx v5 hi1 fx gx ox cx done
        have lx : LC hx O U n B m f u := l0.fr fx.1 (FS.no rfl)
        have y0 := lx.1.1.1
        have y1 := lx.2.1.2.2.1
        have y2 := gx.1
        refine k_X25_come_38 (r2 := y1) o (fun c => absurd ((nI_leI (by omega) (by omega)).mp c) (by omega)) (fun _ => ?_)
        refine k_X25_come_47 o (fun c => absurd rfl c) (fun _ => ?_)
        refine step i1 hx v5 (by omega) fx gx (ox _ (by omega)) fun h' f' o' e' => ?_
        have F' := fx.trans f'
        have out' : ∀ q, (q < 40 * j ∨ 40 * j + (i1 + 1) ≤ q) → SCe h0 h' O q := fun q hq => (ox q (by omega)).trans (o' q (by omega))
        refine k_X25_come_168 o ?_
        rw [nI_add]
        have done : ∀ h', Fq (FS meF) h0 h' → (∀ q, (q < 40 * j ∨ 40 * j + nlo u ≤ q) → SCe h0 h' O q) → EQ (eb (nee (b i1) 9) fun _ => cks b k (i1 + 1)) (fun _ => TGd h' O m (lty u) x ∧ ∀ k, k < nlo u → TCe h' O (40 * j + k) (val k)) (TBd h' O) → K (.returned none) h' := done
        cases hb : b i1 with
        | true =>
          rw [hb] at e' done
          obtain ⟨g', c'⟩ : TGd h' O m (lty u) x ∧ TCe h' O (40 * j + i1) (val i1) := e'
          refine ih (i1 + 1) h' _ (by omega) F' g' out' (fun q hq => ?_) done
          by_cases c : q = i1
          · subst c; exact c'
          · exact (cx q (by omega)).eq (o' _ (by omega))
        | false =>
          rw [hb] at e' done
          have e' : TBd h' O 9 := e'
          have l' : LC h' O U n B m f u := l0.fr F'.1 (FS.no rfl)
          have y3 := l'.1.1.1
          have y4 := l'.2.1.2.2.1
          have y5 := e'.1
          have fin : V X K 174 [.ref O, .int (nI i), .int (nI j), .int (bI first), .int (nI (i1 + 1)), .int (nI (40 * j + i1))] [] h' := by
            refine k_X25_come_174 o ?_
            exact done h' F' (fun q hq => out' q (by omega)) e'
          refine k_X25_come_38 o (fun _ => fin) (fun _ => ?_)
          exact k_X25_come_47 o (fun _ => fin) (fun c => absurd c (nI_nz (v := 9) (by decide)))
    exact loop (nlo u) 0 h0 nov (by omega) (Fq.refl h0) g0 (fun q _ => ⟨rfl, rfl, rfl⟩) (fun k hk => by omega) done
  have s00 := l0.1.1
  -- a start
  have str : ∀ first : Bool, V X K 38 [.ref O, .int (nI i), .int (nI j), .int (bI first), .int (nI 0), nov] [] h0 → V X K 27 [.ref O, .int (nI i), .int (nI j), nov, nov, nov] [.int (bI first)] h := fun first k => by
    refine k_X25_come_27 o ?_
    rw [hh0]; exact k
  have F0 : ∀ h', Fq (FS meF) h0 h' → Fq (FS cmF) h h' := fun h' f' => (f0.mono (FS.mono rfl)).trans (f'.mono (FS.mono rfl))
  have S0 : ∀ q, SCe h h0 O q := fun q => SCe.fr f0.1 (fun _ => FS.n rfl) (fun _ => FS.n rfl) (fun _ => FS.n rfl)
  have C0 : ∀ h', Fq (FS meF) h0 h' → ∀ q, h'.EI 1730 (O + 2) q = if q = j then nI 1 else h.EI 1730 (O + 2) q := fun h' f' q => by rw [f'.1.EI (FS.n rfl)]; exact ec0 q
  have IXp : ∀ k, k < nlo u → IX (nI (40 * j + k)) 41000 (40 * j + k) := fun k hk => IX.mk (by omega) (by omega)
  unfold cCome at kk
  refine k_X25_come_0 o (fun _ => ?_) (fun c => absurd t1 c)
  by_cases c : j ≤ i
  · -- back
    rw [if_pos c] at kk
    have hc := hcm c
    refine k_X25_come_8 o (fun _ => ?_) (fun z => absurd ((nI_leI (by omega) (by omega)).mpr c) z)
    cases hta : tat tb j with
    | none => rw [hta] at hc; cases hc
    | some a =>
      rw [hta] at kk
      obtain ⟨r1, r2⟩ := (ht.2 j hj).2 a hta
      rw [show (some a).getD [] = a from rfl, cBack_k r2.1 (by omega), hlt] at kk
      refine k_X25_come_26 o ?_
      refine str false ?_
      refine go false (fun q => bk1 m (tgt (lty u) q) (lgt a q) (lgt x.2.2 q)) (fun q => lgt a q) (fun i1 hx v5 hi1 fx gx ox k1 => ?_) (fun h' f' o' e' => ?_)
      · have lx : LC hx O U n B m f u := l0.fr fx.1 (FS.no rfl)
        have y0 := lx.1.1.1
        refine k_X25_come_54 o (fun _ => ?_) (fun c => absurd rfl c)
        rw [nI_mul, nI_add]
        refine k_X25_come_144 o (fun _ => ?_) (fun z => absurd ((nI_leI (by omega) (by omega)).mpr c) z)
        refine k_X25_come_160 o ?_
        have ca : TCe hx O (40 * j + i1) (lgt a i1) := (r1 i1 (by have := r2.1; omega)).eq ((S0 _).trans ox)
        refine lbac_ok lx hu h4 gx hi1 (by omega) ca (fun g hg => ?_) (by omega) fun h' f' e' => ?_
        · have : a[i1]? = some (some g) := by
            unfold lgt at hg
            cases hh : a[i1]? with
            | none => rw [hh] at hg; cases hg
            | some z => rw [hh] at hg; exact congrArg some hg
          exact (r2.2 i1 g this).1
        · refine k1 h' (f'.mono (FS.mono rfl)) (fun q _ => SCe.fr f'.1 (fun _ => FS.n rfl) (fun _ => FS.n rfl) (fun _ => FS.n rfl)) ?_
          exact e'.mono (fun _ _ z => ⟨z, ca.eq (SCe.fr f'.1 (fun _ => FS.n rfl) (fun _ => FS.n rfl) (fun _ => FS.n rfl))⟩) (fun _ z => z)
      · refine kk h' (F0 h' f') (EQ_eb.mpr (e'.mono (fun _ _ z => ⟨z.1, ?_⟩) (fun _ z => z)))
        have : TMh h' O N (lty u) (tb.set j (some a)) := ht.put hj (by omega) (C0 h' f') (fun q hq => (S0 q).trans (o' q (by omega))) (fun k hk => z.2 k (by omega)) r2
        have e : tb.set j (some a) = tb := by
          have hj' : j < tb.length := by rw [ht.1]; exact hj
          have : tb[j] = some a := by
            unfold tat at hta
            rw [List.getElem?_eq_getElem hj'] at hta
            exact hta
          rw [← this]; exact List.set_getElem_self hj'
        rw [e] at this; exact this
  · rw [if_neg c] at kk
    refine k_X25_come_8 o (fun z => absurd ((nI_leI (by omega) (by omega)).mp z) c) (fun _ => ?_)
    have hcj := (ht.2 j hj).1
    cases hta : tat tb j with
    | none =>
      rw [hta] at kk hcj
      refine k_X25_come_13 o (fun c => absurd rfl c) (fun _ => ?_)
      refine k_X25_come_22 o ?_
      refine str true ?_
      refine go true (fun _ => true) (fun q => lgt x.2.2 q) (fun i1 hx v5 hi1 fx gx ox k1 => ?_) (fun h' f' o' e' => ?_)
      · have lx : LC hx O U n B m f u := l0.fr fx.1 (FS.no rfl)
        obtain ⟨s0, ⟨a1, a2, a3, a4, a5, a6⟩, ⟨b1, b2, b3, b4, b5, b6⟩, ⟨c1, c2, c3, c4, c5, c6⟩, d1, d2, d3, d4, d5, d6⟩ := id lx.1.1
        have ixi : IX (nI i1) 40 i1 := IX.mk (by omega) (by omega)
        have ixp := IXp i1 hi1
        obtain ⟨y1, y2, y3, y4⟩ := id gx
        have y5 := y3.1 i1 (by omega)
        refine k_X25_come_54 o (fun c => absurd (show bI true = 0 from c) (by decide)) (fun _ => ?_)
        rw [nI_mul, nI_add]
        have fin : ∀ h5, Fq (FS [10000 + 1762, 10000 + 1779, 10000 + 1794]) hx h5 → (∀ q, q ≠ 40 * j + i1 → SCe hx h5 O q) → TCe h5 O (40 * j + i1) (lgt x.2.2 i1) → V X K 168 [.ref O, .int (nI i), .int (nI j), .int (bI true), .int (nI i1), .int (nI (40 * j + i1))] [] h5 := fun h5 f5 s5 t5 =>
          k1 h5 (f5.mono (FS.mono rfl)) s5 ⟨(show TRs hx O m (lty u) (.ok x) from gx).st f5 rfl, t5⟩
        cases hb : lgt x.2.2 i1 with
        | none =>
          rw [hb] at y5 fin
          refine k_X25_come_67 o (fun _ => ?_) (fun c => absurd rfl c)
          generalize hh2 : hx.sEI 1762 (O + 4) (40 * j + i1) (bI (none : Option Og).isSome) = h2
          have m1 : h2.tag O = some (24, 0) := by subst hh2; simp [n_sI, z_sI, tag_sI, I_sI, J_sI, R_sI, EI_sI, EJ_sI, ER_sI, n_sJ, z_sJ, tag_sJ, I_sJ, J_sJ, R_sJ, EI_sJ, EJ_sJ, ER_sJ, n_sR, z_sR, tag_sR, I_sR, J_sR, R_sR, EI_sR, EJ_sR, ER_sR, n_sEI, z_sEI, tag_sEI, I_sEI, J_sEI, R_sEI, EI_sEI, EJ_sEI, ER_sEI, n_sEJ, z_sEJ, tag_sEJ, I_sEJ, J_sEJ, R_sEJ, EI_sEJ, EJ_sEJ, ER_sEJ, n_sER, z_sER, tag_sER, I_sER, J_sER, R_sER, EI_sER, EJ_sER, ER_sER, n_nw, z_nw, tag_nw, I_nw, J_nw, R_nw, EI_nw, EJ_nw, ER_nw, s0]
          have m2 : h2.tag (O + 5) = some (1779, 41000) := by subst hh2; simp [n_sI, z_sI, tag_sI, I_sI, J_sI, R_sI, EI_sI, EJ_sI, ER_sI, n_sJ, z_sJ, tag_sJ, I_sJ, J_sJ, R_sJ, EI_sJ, EJ_sJ, ER_sJ, n_sR, z_sR, tag_sR, I_sR, J_sR, R_sR, EI_sR, EJ_sR, ER_sR, n_sEI, z_sEI, tag_sEI, I_sEI, J_sEI, R_sEI, EI_sEI, EJ_sEI, ER_sEI, n_sEJ, z_sEJ, tag_sEJ, I_sEJ, J_sEJ, R_sEJ, EI_sEJ, EJ_sEJ, ER_sEJ, n_sER, z_sER, tag_sER, I_sER, J_sER, R_sER, EI_sER, EJ_sER, ER_sER, n_nw, z_nw, tag_nw, I_nw, J_nw, R_nw, EI_nw, EJ_nw, ER_nw, c5]
          have m3 : h2.R 3082 O = some (O + 6) := by subst hh2; simp [n_sI, z_sI, tag_sI, I_sI, J_sI, R_sI, EI_sI, EJ_sI, ER_sI, n_sJ, z_sJ, tag_sJ, I_sJ, J_sJ, R_sJ, EI_sJ, EJ_sJ, ER_sJ, n_sR, z_sR, tag_sR, I_sR, J_sR, R_sR, EI_sR, EJ_sR, ER_sR, n_sEI, z_sEI, tag_sEI, I_sEI, J_sEI, R_sEI, EI_sEI, EJ_sEI, ER_sEI, n_sEJ, z_sEJ, tag_sEJ, I_sEJ, J_sEJ, R_sEJ, EI_sEJ, EJ_sEJ, ER_sEJ, n_sER, z_sER, tag_sER, I_sER, J_sER, R_sER, EI_sER, EJ_sER, ER_sER, n_nw, z_nw, tag_nw, I_nw, J_nw, R_nw, EI_nw, EJ_nw, ER_nw, a6]
          have m4 : h2.R 3087 O = some (O + 10) := by subst hh2; simp [n_sI, z_sI, tag_sI, I_sI, J_sI, R_sI, EI_sI, EJ_sI, ER_sI, n_sJ, z_sJ, tag_sJ, I_sJ, J_sJ, R_sJ, EI_sJ, EJ_sJ, ER_sJ, n_sR, z_sR, tag_sR, I_sR, J_sR, R_sR, EI_sR, EJ_sR, ER_sR, n_sEI, z_sEI, tag_sEI, I_sEI, J_sEI, R_sEI, EI_sEI, EJ_sEI, ER_sEI, n_sEJ, z_sEJ, tag_sEJ, I_sEJ, J_sEJ, R_sEJ, EI_sEJ, EJ_sEJ, ER_sEJ, n_sER, z_sER, tag_sER, I_sER, J_sER, R_sER, EI_sER, EJ_sER, ER_sER, n_nw, z_nw, tag_nw, I_nw, J_nw, R_nw, EI_nw, EJ_nw, ER_nw, b4]
          have m5 : h2.tag (O + 10) = some (1858, 40) := by subst hh2; simp [n_sI, z_sI, tag_sI, I_sI, J_sI, R_sI, EI_sI, EJ_sI, ER_sI, n_sJ, z_sJ, tag_sJ, I_sJ, J_sJ, R_sJ, EI_sJ, EJ_sJ, ER_sJ, n_sR, z_sR, tag_sR, I_sR, J_sR, R_sR, EI_sR, EJ_sR, ER_sR, n_sEI, z_sEI, tag_sEI, I_sEI, J_sEI, R_sEI, EI_sEI, EJ_sEI, ER_sEI, n_sEJ, z_sEJ, tag_sEJ, I_sEJ, J_sEJ, R_sEJ, EI_sEJ, EJ_sEJ, ER_sEJ, n_sER, z_sER, tag_sER, I_sER, J_sER, R_sER, EI_sER, EJ_sER, ER_sER, n_nw, z_nw, tag_nw, I_nw, J_nw, R_nw, EI_nw, EJ_nw, ER_nw, d4]
          have m6 : h2.EI 1858 (O + 10) i1 = bI (none : Option Og).isSome := by subst hh2; simp [n_sI, z_sI, tag_sI, I_sI, J_sI, R_sI, EI_sI, EJ_sI, ER_sI, n_sJ, z_sJ, tag_sJ, I_sJ, J_sJ, R_sJ, EI_sJ, EJ_sJ, ER_sJ, n_sR, z_sR, tag_sR, I_sR, J_sR, R_sR, EI_sR, EJ_sR, ER_sR, n_sEI, z_sEI, tag_sEI, I_sEI, J_sEI, R_sEI, EI_sEI, EJ_sEI, ER_sEI, n_sEJ, z_sEJ, tag_sEJ, I_sEJ, J_sEJ, R_sEJ, EI_sEJ, EJ_sEJ, ER_sEJ, n_sER, z_sER, tag_sER, I_sER, J_sER, R_sER, EI_sER, EJ_sER, ER_sER, n_nw, z_nw, tag_nw, I_nw, J_nw, R_nw, EI_nw, EJ_nw, ER_nw, y5]
          refine k_X25_come_107 o ?_
          refine k_X25_come_108 o (fun _ => ?_) (fun c => absurd rfl c)
          have m7 : (h2.sEJ 1779 (O + 5) (40 * j + i1) 0).tag (O + 6) = some (1794, 41000) := by subst hh2; simp [n_sI, z_sI, tag_sI, I_sI, J_sI, R_sI, EI_sI, EJ_sI, ER_sI, n_sJ, z_sJ, tag_sJ, I_sJ, J_sJ, R_sJ, EI_sJ, EJ_sJ, ER_sJ, n_sR, z_sR, tag_sR, I_sR, J_sR, R_sR, EI_sR, EJ_sR, ER_sR, n_sEI, z_sEI, tag_sEI, I_sEI, J_sEI, R_sEI, EI_sEI, EJ_sEI, ER_sEI, n_sEJ, z_sEJ, tag_sEJ, I_sEJ, J_sEJ, R_sEJ, EI_sEJ, EJ_sEJ, ER_sEJ, n_sER, z_sER, tag_sER, I_sER, J_sER, R_sER, EI_sER, EJ_sER, ER_sER, n_nw, z_nw, tag_nw, I_nw, J_nw, R_nw, EI_nw, EJ_nw, ER_nw, c6]
          refine k_X25_come_139 o ?_
          refine k_X25_come_140 o ?_
          refine fin _ ?_ (fun q hq => ?_) ⟨?_, ?_, fun og hg => by cases hg⟩
          · subst hh2; exact (by refine (Fq.sEI (Fq.sEJ (Fq.sEI (Fq.refl hx) ?_) ?_) ?_) <;> exact rfl)
          · subst hh2; exact ⟨by simp [n_sI, z_sI, tag_sI, I_sI, J_sI, R_sI, EI_sI, EJ_sI, ER_sI, n_sJ, z_sJ, tag_sJ, I_sJ, J_sJ, R_sJ, EI_sJ, EJ_sJ, ER_sJ, n_sR, z_sR, tag_sR, I_sR, J_sR, R_sR, EI_sR, EJ_sR, ER_sR, n_sEI, z_sEI, tag_sEI, I_sEI, J_sEI, R_sEI, EI_sEI, EJ_sEI, ER_sEI, n_sEJ, z_sEJ, tag_sEJ, I_sEJ, J_sEJ, R_sEJ, EI_sEJ, EJ_sEJ, ER_sEJ, n_sER, z_sER, tag_sER, I_sER, J_sER, R_sER, EI_sER, EJ_sER, ER_sER, n_nw, z_nw, tag_nw, I_nw, J_nw, R_nw, EI_nw, EJ_nw, ER_nw, hq], by simp [n_sI, z_sI, tag_sI, I_sI, J_sI, R_sI, EI_sI, EJ_sI, ER_sI, n_sJ, z_sJ, tag_sJ, I_sJ, J_sJ, R_sJ, EI_sJ, EJ_sJ, ER_sJ, n_sR, z_sR, tag_sR, I_sR, J_sR, R_sR, EI_sR, EJ_sR, ER_sR, n_sEI, z_sEI, tag_sEI, I_sEI, J_sEI, R_sEI, EI_sEI, EJ_sEI, ER_sEI, n_sEJ, z_sEJ, tag_sEJ, I_sEJ, J_sEJ, R_sEJ, EI_sEJ, EJ_sEJ, ER_sEJ, n_sER, z_sER, tag_sER, I_sER, J_sER, R_sER, EI_sER, EJ_sER, ER_sER, n_nw, z_nw, tag_nw, I_nw, J_nw, R_nw, EI_nw, EJ_nw, ER_nw, hq], by simp [n_sI, z_sI, tag_sI, I_sI, J_sI, R_sI, EI_sI, EJ_sI, ER_sI, n_sJ, z_sJ, tag_sJ, I_sJ, J_sJ, R_sJ, EI_sJ, EJ_sJ, ER_sJ, n_sR, z_sR, tag_sR, I_sR, J_sR, R_sR, EI_sR, EJ_sR, ER_sR, n_sEI, z_sEI, tag_sEI, I_sEI, J_sEI, R_sEI, EI_sEI, EJ_sEI, ER_sEI, n_sEJ, z_sEJ, tag_sEJ, I_sEJ, J_sEJ, R_sEJ, EI_sEJ, EJ_sEJ, ER_sEJ, n_sER, z_sER, tag_sER, I_sER, J_sER, R_sER, EI_sER, EJ_sER, ER_sER, n_nw, z_nw, tag_nw, I_nw, J_nw, R_nw, EI_nw, EJ_nw, ER_nw, hq]⟩
          · subst hh2; simp [n_sI, z_sI, tag_sI, I_sI, J_sI, R_sI, EI_sI, EJ_sI, ER_sI, n_sJ, z_sJ, tag_sJ, I_sJ, J_sJ, R_sJ, EI_sJ, EJ_sJ, ER_sJ, n_sR, z_sR, tag_sR, I_sR, J_sR, R_sR, EI_sR, EJ_sR, ER_sR, n_sEI, z_sEI, tag_sEI, I_sEI, J_sEI, R_sEI, EI_sEI, EJ_sEI, ER_sEI, n_sEJ, z_sEJ, tag_sEJ, I_sEJ, J_sEJ, R_sEJ, EI_sEJ, EJ_sEJ, ER_sEJ, n_sER, z_sER, tag_sER, I_sER, J_sER, R_sER, EI_sER, EJ_sER, ER_sER, n_nw, z_nw, tag_nw, I_nw, J_nw, R_nw, EI_nw, EJ_nw, ER_nw]
          · subst hh2; simp [n_sI, z_sI, tag_sI, I_sI, J_sI, R_sI, EI_sI, EJ_sI, ER_sI, n_sJ, z_sJ, tag_sJ, I_sJ, J_sJ, R_sJ, EI_sJ, EJ_sJ, ER_sJ, n_sR, z_sR, tag_sR, I_sR, J_sR, R_sR, EI_sR, EJ_sR, ER_sR, n_sEI, z_sEI, tag_sEI, I_sEI, J_sEI, R_sEI, EI_sEI, EJ_sEI, ER_sEI, n_sEJ, z_sEJ, tag_sEJ, I_sEJ, J_sEJ, R_sEJ, EI_sEJ, EJ_sEJ, ER_sEJ, n_sER, z_sER, tag_sER, I_sER, J_sER, R_sER, EI_sER, EJ_sER, ER_sER, n_nw, z_nw, tag_nw, I_nw, J_nw, R_nw, EI_nw, EJ_nw, ER_nw]; rfl
        | some g =>
          obtain ⟨z1, z2, z3, z4⟩ := lgt_at y3 hb
          rw [hb] at y5 fin
          refine k_X25_come_67 o (fun c => absurd (show bI true = 0 from c) (by decide)) (fun _ => ?_)
          generalize hh2 : hx.sEI 1762 (O + 4) (40 * j + i1) (bI (some g : Option Og).isSome) = h2
          have m1 : h2.tag O = some (24, 0) := by subst hh2; simp [n_sI, z_sI, tag_sI, I_sI, J_sI, R_sI, EI_sI, EJ_sI, ER_sI, n_sJ, z_sJ, tag_sJ, I_sJ, J_sJ, R_sJ, EI_sJ, EJ_sJ, ER_sJ, n_sR, z_sR, tag_sR, I_sR, J_sR, R_sR, EI_sR, EJ_sR, ER_sR, n_sEI, z_sEI, tag_sEI, I_sEI, J_sEI, R_sEI, EI_sEI, EJ_sEI, ER_sEI, n_sEJ, z_sEJ, tag_sEJ, I_sEJ, J_sEJ, R_sEJ, EI_sEJ, EJ_sEJ, ER_sEJ, n_sER, z_sER, tag_sER, I_sER, J_sER, R_sER, EI_sER, EJ_sER, ER_sER, n_nw, z_nw, tag_nw, I_nw, J_nw, R_nw, EI_nw, EJ_nw, ER_nw, s0]
          have m2 : h2.tag (O + 5) = some (1779, 41000) := by subst hh2; simp [n_sI, z_sI, tag_sI, I_sI, J_sI, R_sI, EI_sI, EJ_sI, ER_sI, n_sJ, z_sJ, tag_sJ, I_sJ, J_sJ, R_sJ, EI_sJ, EJ_sJ, ER_sJ, n_sR, z_sR, tag_sR, I_sR, J_sR, R_sR, EI_sR, EJ_sR, ER_sR, n_sEI, z_sEI, tag_sEI, I_sEI, J_sEI, R_sEI, EI_sEI, EJ_sEI, ER_sEI, n_sEJ, z_sEJ, tag_sEJ, I_sEJ, J_sEJ, R_sEJ, EI_sEJ, EJ_sEJ, ER_sEJ, n_sER, z_sER, tag_sER, I_sER, J_sER, R_sER, EI_sER, EJ_sER, ER_sER, n_nw, z_nw, tag_nw, I_nw, J_nw, R_nw, EI_nw, EJ_nw, ER_nw, c5]
          have m3 : h2.R 3082 O = some (O + 6) := by subst hh2; simp [n_sI, z_sI, tag_sI, I_sI, J_sI, R_sI, EI_sI, EJ_sI, ER_sI, n_sJ, z_sJ, tag_sJ, I_sJ, J_sJ, R_sJ, EI_sJ, EJ_sJ, ER_sJ, n_sR, z_sR, tag_sR, I_sR, J_sR, R_sR, EI_sR, EJ_sR, ER_sR, n_sEI, z_sEI, tag_sEI, I_sEI, J_sEI, R_sEI, EI_sEI, EJ_sEI, ER_sEI, n_sEJ, z_sEJ, tag_sEJ, I_sEJ, J_sEJ, R_sEJ, EI_sEJ, EJ_sEJ, ER_sEJ, n_sER, z_sER, tag_sER, I_sER, J_sER, R_sER, EI_sER, EJ_sER, ER_sER, n_nw, z_nw, tag_nw, I_nw, J_nw, R_nw, EI_nw, EJ_nw, ER_nw, a6]
          have m4 : h2.R 3087 O = some (O + 10) := by subst hh2; simp [n_sI, z_sI, tag_sI, I_sI, J_sI, R_sI, EI_sI, EJ_sI, ER_sI, n_sJ, z_sJ, tag_sJ, I_sJ, J_sJ, R_sJ, EI_sJ, EJ_sJ, ER_sJ, n_sR, z_sR, tag_sR, I_sR, J_sR, R_sR, EI_sR, EJ_sR, ER_sR, n_sEI, z_sEI, tag_sEI, I_sEI, J_sEI, R_sEI, EI_sEI, EJ_sEI, ER_sEI, n_sEJ, z_sEJ, tag_sEJ, I_sEJ, J_sEJ, R_sEJ, EI_sEJ, EJ_sEJ, ER_sEJ, n_sER, z_sER, tag_sER, I_sER, J_sER, R_sER, EI_sER, EJ_sER, ER_sER, n_nw, z_nw, tag_nw, I_nw, J_nw, R_nw, EI_nw, EJ_nw, ER_nw, b4]
          have m5 : h2.tag (O + 10) = some (1858, 40) := by subst hh2; simp [n_sI, z_sI, tag_sI, I_sI, J_sI, R_sI, EI_sI, EJ_sI, ER_sI, n_sJ, z_sJ, tag_sJ, I_sJ, J_sJ, R_sJ, EI_sJ, EJ_sJ, ER_sJ, n_sR, z_sR, tag_sR, I_sR, J_sR, R_sR, EI_sR, EJ_sR, ER_sR, n_sEI, z_sEI, tag_sEI, I_sEI, J_sEI, R_sEI, EI_sEI, EJ_sEI, ER_sEI, n_sEJ, z_sEJ, tag_sEJ, I_sEJ, J_sEJ, R_sEJ, EI_sEJ, EJ_sEJ, ER_sEJ, n_sER, z_sER, tag_sER, I_sER, J_sER, R_sER, EI_sER, EJ_sER, ER_sER, n_nw, z_nw, tag_nw, I_nw, J_nw, R_nw, EI_nw, EJ_nw, ER_nw, d4]
          have m6 : h2.EI 1858 (O + 10) i1 = bI (some g : Option Og).isSome := by subst hh2; simp [n_sI, z_sI, tag_sI, I_sI, J_sI, R_sI, EI_sI, EJ_sI, ER_sI, n_sJ, z_sJ, tag_sJ, I_sJ, J_sJ, R_sJ, EI_sJ, EJ_sJ, ER_sJ, n_sR, z_sR, tag_sR, I_sR, J_sR, R_sR, EI_sR, EJ_sR, ER_sR, n_sEI, z_sEI, tag_sEI, I_sEI, J_sEI, R_sEI, EI_sEI, EJ_sEI, ER_sEI, n_sEJ, z_sEJ, tag_sEJ, I_sEJ, J_sEJ, R_sEJ, EI_sEJ, EJ_sEJ, ER_sEJ, n_sER, z_sER, tag_sER, I_sER, J_sER, R_sER, EI_sER, EJ_sER, ER_sER, n_nw, z_nw, tag_nw, I_nw, J_nw, R_nw, EI_nw, EJ_nw, ER_nw, y5]
          have m8 : h2.R 3088 O = some (O + 11) := by subst hh2; simp [n_sI, z_sI, tag_sI, I_sI, J_sI, R_sI, EI_sI, EJ_sI, ER_sI, n_sJ, z_sJ, tag_sJ, I_sJ, J_sJ, R_sJ, EI_sJ, EJ_sJ, ER_sJ, n_sR, z_sR, tag_sR, I_sR, J_sR, R_sR, EI_sR, EJ_sR, ER_sR, n_sEI, z_sEI, tag_sEI, I_sEI, J_sEI, R_sEI, EI_sEI, EJ_sEI, ER_sEI, n_sEJ, z_sEJ, tag_sEJ, I_sEJ, J_sEJ, R_sEJ, EI_sEJ, EJ_sEJ, ER_sEJ, n_sER, z_sER, tag_sER, I_sER, J_sER, R_sER, EI_sER, EJ_sER, ER_sER, n_nw, z_nw, tag_nw, I_nw, J_nw, R_nw, EI_nw, EJ_nw, ER_nw, b5]
          have m9 : h2.tag (O + 11) = some (1875, 40) := by subst hh2; simp [n_sI, z_sI, tag_sI, I_sI, J_sI, R_sI, EI_sI, EJ_sI, ER_sI, n_sJ, z_sJ, tag_sJ, I_sJ, J_sJ, R_sJ, EI_sJ, EJ_sJ, ER_sJ, n_sR, z_sR, tag_sR, I_sR, J_sR, R_sR, EI_sR, EJ_sR, ER_sR, n_sEI, z_sEI, tag_sEI, I_sEI, J_sEI, R_sEI, EI_sEI, EJ_sEI, ER_sEI, n_sEJ, z_sEJ, tag_sEJ, I_sEJ, J_sEJ, R_sEJ, EI_sEJ, EJ_sEJ, ER_sEJ, n_sER, z_sER, tag_sER, I_sER, J_sER, R_sER, EI_sER, EJ_sER, ER_sER, n_nw, z_nw, tag_nw, I_nw, J_nw, R_nw, EI_nw, EJ_nw, ER_nw, d5]
          have m10 : h2.EJ 1875 (O + 11) i1 = lN g.1 := by subst hh2; simp [n_sI, z_sI, tag_sI, I_sI, J_sI, R_sI, EI_sI, EJ_sI, ER_sI, n_sJ, z_sJ, tag_sJ, I_sJ, J_sJ, R_sJ, EI_sJ, EJ_sJ, ER_sJ, n_sR, z_sR, tag_sR, I_sR, J_sR, R_sR, EI_sR, EJ_sR, ER_sR, n_sEI, z_sEI, tag_sEI, I_sEI, J_sEI, R_sEI, EI_sEI, EJ_sEI, ER_sEI, n_sEJ, z_sEJ, tag_sEJ, I_sEJ, J_sEJ, R_sEJ, EI_sEJ, EJ_sEJ, ER_sEJ, n_sER, z_sER, tag_sER, I_sER, J_sER, R_sER, EI_sER, EJ_sER, ER_sER, n_nw, z_nw, tag_nw, I_nw, J_nw, R_nw, EI_nw, EJ_nw, ER_nw, z1]
          refine k_X25_come_97 o ?_
          refine k_X25_come_108 o (fun c => absurd (show bI true = 0 from c) (by decide)) (fun _ => ?_)
          generalize hh3 : h2.sEJ 1779 (O + 5) (40 * j + i1) (lN g.1) = h3
          have n1 : h3.tag O = some (24, 0) := by subst hh3; simp [n_sI, z_sI, tag_sI, I_sI, J_sI, R_sI, EI_sI, EJ_sI, ER_sI, n_sJ, z_sJ, tag_sJ, I_sJ, J_sJ, R_sJ, EI_sJ, EJ_sJ, ER_sJ, n_sR, z_sR, tag_sR, I_sR, J_sR, R_sR, EI_sR, EJ_sR, ER_sR, n_sEI, z_sEI, tag_sEI, I_sEI, J_sEI, R_sEI, EI_sEI, EJ_sEI, ER_sEI, n_sEJ, z_sEJ, tag_sEJ, I_sEJ, J_sEJ, R_sEJ, EI_sEJ, EJ_sEJ, ER_sEJ, n_sER, z_sER, tag_sER, I_sER, J_sER, R_sER, EI_sER, EJ_sER, ER_sER, n_nw, z_nw, tag_nw, I_nw, J_nw, R_nw, EI_nw, EJ_nw, ER_nw, m1]
          have n2 : h3.tag (O + 6) = some (1794, 41000) := by subst hh3; subst hh2; simp [n_sI, z_sI, tag_sI, I_sI, J_sI, R_sI, EI_sI, EJ_sI, ER_sI, n_sJ, z_sJ, tag_sJ, I_sJ, J_sJ, R_sJ, EI_sJ, EJ_sJ, ER_sJ, n_sR, z_sR, tag_sR, I_sR, J_sR, R_sR, EI_sR, EJ_sR, ER_sR, n_sEI, z_sEI, tag_sEI, I_sEI, J_sEI, R_sEI, EI_sEI, EJ_sEI, ER_sEI, n_sEJ, z_sEJ, tag_sEJ, I_sEJ, J_sEJ, R_sEJ, EI_sEJ, EJ_sEJ, ER_sEJ, n_sER, z_sER, tag_sER, I_sER, J_sER, R_sER, EI_sER, EJ_sER, ER_sER, n_nw, z_nw, tag_nw, I_nw, J_nw, R_nw, EI_nw, EJ_nw, ER_nw, c6]
          have n4 : h3.R 3089 O = some (O + 12) := by subst hh3; subst hh2; simp [n_sI, z_sI, tag_sI, I_sI, J_sI, R_sI, EI_sI, EJ_sI, ER_sI, n_sJ, z_sJ, tag_sJ, I_sJ, J_sJ, R_sJ, EI_sJ, EJ_sJ, ER_sJ, n_sR, z_sR, tag_sR, I_sR, J_sR, R_sR, EI_sR, EJ_sR, ER_sR, n_sEI, z_sEI, tag_sEI, I_sEI, J_sEI, R_sEI, EI_sEI, EJ_sEI, ER_sEI, n_sEJ, z_sEJ, tag_sEJ, I_sEJ, J_sEJ, R_sEJ, EI_sEJ, EJ_sEJ, ER_sEJ, n_sER, z_sER, tag_sER, I_sER, J_sER, R_sER, EI_sER, EJ_sER, ER_sER, n_nw, z_nw, tag_nw, I_nw, J_nw, R_nw, EI_nw, EJ_nw, ER_nw, b6]
          have n5 : h3.tag (O + 12) = some (1890, 40) := by subst hh3; subst hh2; simp [n_sI, z_sI, tag_sI, I_sI, J_sI, R_sI, EI_sI, EJ_sI, ER_sI, n_sJ, z_sJ, tag_sJ, I_sJ, J_sJ, R_sJ, EI_sJ, EJ_sJ, ER_sJ, n_sR, z_sR, tag_sR, I_sR, J_sR, R_sR, EI_sR, EJ_sR, ER_sR, n_sEI, z_sEI, tag_sEI, I_sEI, J_sEI, R_sEI, EI_sEI, EJ_sEI, ER_sEI, n_sEJ, z_sEJ, tag_sEJ, I_sEJ, J_sEJ, R_sEJ, EI_sEJ, EJ_sEJ, ER_sEJ, n_sER, z_sER, tag_sER, I_sER, J_sER, R_sER, EI_sER, EJ_sER, ER_sER, n_nw, z_nw, tag_nw, I_nw, J_nw, R_nw, EI_nw, EJ_nw, ER_nw, d6]
          have n7 : h3.EI 1890 (O + 12) i1 = bI g.2 := by subst hh3; subst hh2; simp [n_sI, z_sI, tag_sI, I_sI, J_sI, R_sI, EI_sI, EJ_sI, ER_sI, n_sJ, z_sJ, tag_sJ, I_sJ, J_sJ, R_sJ, EI_sJ, EJ_sJ, ER_sJ, n_sR, z_sR, tag_sR, I_sR, J_sR, R_sR, EI_sR, EJ_sR, ER_sR, n_sEI, z_sEI, tag_sEI, I_sEI, J_sEI, R_sEI, EI_sEI, EJ_sEI, ER_sEI, n_sEJ, z_sEJ, tag_sEJ, I_sEJ, J_sEJ, R_sEJ, EI_sEJ, EJ_sEJ, ER_sEJ, n_sER, z_sER, tag_sER, I_sER, J_sER, R_sER, EI_sER, EJ_sER, ER_sER, n_nw, z_nw, tag_nw, I_nw, J_nw, R_nw, EI_nw, EJ_nw, ER_nw, z2]
          have wr : ∀ e : Bool, e = g.2 → V X K 140 [.ref O, .int (nI i), .int (nI j), .int (bI true), .int (nI i1), .int (nI (40 * j + i1))] [.int (bI e), .int (nI (40 * j + i1)), .ref (O + 6)] h3 := fun e he => by
            refine k_X25_come_140 o ?_
            refine fin _ ?_ (fun q hq => ?_) ⟨?_, ?_, fun og hg => ?_⟩
            · subst hh3; subst hh2; exact (by refine (Fq.sEI (Fq.sEJ (Fq.sEI (Fq.refl hx) ?_) ?_) ?_) <;> exact rfl)
            · subst hh3; subst hh2; exact ⟨by simp [n_sI, z_sI, tag_sI, I_sI, J_sI, R_sI, EI_sI, EJ_sI, ER_sI, n_sJ, z_sJ, tag_sJ, I_sJ, J_sJ, R_sJ, EI_sJ, EJ_sJ, ER_sJ, n_sR, z_sR, tag_sR, I_sR, J_sR, R_sR, EI_sR, EJ_sR, ER_sR, n_sEI, z_sEI, tag_sEI, I_sEI, J_sEI, R_sEI, EI_sEI, EJ_sEI, ER_sEI, n_sEJ, z_sEJ, tag_sEJ, I_sEJ, J_sEJ, R_sEJ, EI_sEJ, EJ_sEJ, ER_sEJ, n_sER, z_sER, tag_sER, I_sER, J_sER, R_sER, EI_sER, EJ_sER, ER_sER, n_nw, z_nw, tag_nw, I_nw, J_nw, R_nw, EI_nw, EJ_nw, ER_nw, hq], by simp [n_sI, z_sI, tag_sI, I_sI, J_sI, R_sI, EI_sI, EJ_sI, ER_sI, n_sJ, z_sJ, tag_sJ, I_sJ, J_sJ, R_sJ, EI_sJ, EJ_sJ, ER_sJ, n_sR, z_sR, tag_sR, I_sR, J_sR, R_sR, EI_sR, EJ_sR, ER_sR, n_sEI, z_sEI, tag_sEI, I_sEI, J_sEI, R_sEI, EI_sEI, EJ_sEI, ER_sEI, n_sEJ, z_sEJ, tag_sEJ, I_sEJ, J_sEJ, R_sEJ, EI_sEJ, EJ_sEJ, ER_sEJ, n_sER, z_sER, tag_sER, I_sER, J_sER, R_sER, EI_sER, EJ_sER, ER_sER, n_nw, z_nw, tag_nw, I_nw, J_nw, R_nw, EI_nw, EJ_nw, ER_nw, hq], by simp [n_sI, z_sI, tag_sI, I_sI, J_sI, R_sI, EI_sI, EJ_sI, ER_sI, n_sJ, z_sJ, tag_sJ, I_sJ, J_sJ, R_sJ, EI_sJ, EJ_sJ, ER_sJ, n_sR, z_sR, tag_sR, I_sR, J_sR, R_sR, EI_sR, EJ_sR, ER_sR, n_sEI, z_sEI, tag_sEI, I_sEI, J_sEI, R_sEI, EI_sEI, EJ_sEI, ER_sEI, n_sEJ, z_sEJ, tag_sEJ, I_sEJ, J_sEJ, R_sEJ, EI_sEJ, EJ_sEJ, ER_sEJ, n_sER, z_sER, tag_sER, I_sER, J_sER, R_sER, EI_sER, EJ_sER, ER_sER, n_nw, z_nw, tag_nw, I_nw, J_nw, R_nw, EI_nw, EJ_nw, ER_nw, hq]⟩
            · subst hh3; subst hh2; simp [n_sI, z_sI, tag_sI, I_sI, J_sI, R_sI, EI_sI, EJ_sI, ER_sI, n_sJ, z_sJ, tag_sJ, I_sJ, J_sJ, R_sJ, EI_sJ, EJ_sJ, ER_sJ, n_sR, z_sR, tag_sR, I_sR, J_sR, R_sR, EI_sR, EJ_sR, ER_sR, n_sEI, z_sEI, tag_sEI, I_sEI, J_sEI, R_sEI, EI_sEI, EJ_sEI, ER_sEI, n_sEJ, z_sEJ, tag_sEJ, I_sEJ, J_sEJ, R_sEJ, EI_sEJ, EJ_sEJ, ER_sEJ, n_sER, z_sER, tag_sER, I_sER, J_sER, R_sER, EI_sER, EJ_sER, ER_sER, n_nw, z_nw, tag_nw, I_nw, J_nw, R_nw, EI_nw, EJ_nw, ER_nw]
            · subst he; subst hh3; subst hh2; simp [n_sI, z_sI, tag_sI, I_sI, J_sI, R_sI, EI_sI, EJ_sI, ER_sI, n_sJ, z_sJ, tag_sJ, I_sJ, J_sJ, R_sJ, EI_sJ, EJ_sJ, ER_sJ, n_sR, z_sR, tag_sR, I_sR, J_sR, R_sR, EI_sR, EJ_sR, ER_sR, n_sEI, z_sEI, tag_sEI, I_sEI, J_sEI, R_sEI, EI_sEI, EJ_sEI, ER_sEI, n_sEJ, z_sEJ, tag_sEJ, I_sEJ, J_sEJ, R_sEJ, EI_sEJ, EJ_sEJ, ER_sEJ, n_sER, z_sER, tag_sER, I_sER, J_sER, R_sER, EI_sER, EJ_sER, ER_sER, n_nw, z_nw, tag_nw, I_nw, J_nw, R_nw, EI_nw, EJ_nw, ER_nw]; rfl
            · cases hg
              subst hh3; subst hh2; simp [n_sI, z_sI, tag_sI, I_sI, J_sI, R_sI, EI_sI, EJ_sI, ER_sI, n_sJ, z_sJ, tag_sJ, I_sJ, J_sJ, R_sJ, EI_sJ, EJ_sJ, ER_sJ, n_sR, z_sR, tag_sR, I_sR, J_sR, R_sR, EI_sR, EJ_sR, ER_sR, n_sEI, z_sEI, tag_sEI, I_sEI, J_sEI, R_sEI, EI_sEI, EJ_sEI, ER_sEI, n_sEJ, z_sEJ, tag_sEJ, I_sEJ, J_sEJ, R_sEJ, EI_sEJ, EJ_sEJ, ER_sEJ, n_sER, z_sER, tag_sER, I_sER, J_sER, R_sER, EI_sER, EJ_sER, ER_sER, n_nw, z_nw, tag_nw, I_nw, J_nw, R_nw, EI_nw, EJ_nw, ER_nw]
          cases hg3 : g.2 with
          | true =>
            rw [hg3] at n7
            refine k_X25_come_125 o (fun c => absurd (show bI true = 0 from c) (by decide)) (fun _ => ?_)
            refine k_X25_come_135 o ?_
            exact wr true hg3.symm
          | false =>
            rw [hg3] at n7
            refine k_X25_come_125 o (fun _ => ?_) (fun c => absurd rfl c)
            refine k_X25_come_139 o ?_
            exact wr false hg3.symm
      · rw [cks_t] at e'
        obtain ⟨e1, e2⟩ := EQ_k.mp e'
        exact kk h' (F0 h' f') ⟨e1, ht.put hj (by omega) (C0 h' f') (fun q hq => (S0 q).trans (o' q (by omega))) (fun k hk => e2 k (by omega)) t3.2.2⟩
    | some a =>
      rw [hta] at kk hcj
      obtain ⟨r1, r2⟩ := (ht.2 j hj).2 a hta
      have hjk := cJoin_k (m := m) (lt := lty u) (a := a) (l := x.2.2) r2.1 (by omega)
      rw [hlt] at hjk
      refine k_X25_come_13 o (fun _ => ?_) (fun c => absurd (show bI true = 0 from c) (by decide))
      refine k_X25_come_26 o ?_
      refine str false ?_
      refine go false (fun q => ((lgt a q).isSome == (lgt x.2.2 q).isSome) || hsA m (tgt (lty u) q) 2) (fun q => jn1 (lgt a q) (lgt x.2.2 q)) (fun i1 hx v5 hi1 fx gx ox k1 => ?_) (fun h' f' o' e' => ?_)
      · have lx : LC hx O U n B m f u := l0.fr fx.1 (FS.no rfl)
        have y0 := lx.1.1.1
        refine k_X25_come_54 o (fun _ => ?_) (fun c => absurd rfl c)
        rw [nI_mul, nI_add]
        refine k_X25_come_144 o (fun z => absurd ((nI_leI (by omega) (by omega)).mp z) c) (fun _ => ?_)
        refine k_X25_come_149 o ?_
        have ca : TCe hx O (40 * j + i1) (lgt a i1) := (r1 i1 (by have := r2.1; omega)).eq ((S0 _).trans ox)
        refine lmee_ok lx hu h4 gx hi1 (by omega) ca (by omega) fun h' f' o' e' => ?_
        refine k_X25_come_157 o ?_
        exact k1 h' f' o' e'
      · refine kk h' (F0 h' f') ?_
        show EQ (eb (cJoin m (lty u) a x.2.2) fun r => .ok (tb.set j (some r))) _ _
        rw [← hjk] at e'
        cases hcj : cJoin m (lty u) a x.2.2 with
        | error w => rw [hcj] at e'; exact e'
        | ok r =>
          rw [hcj] at e'
          obtain ⟨e1, e2⟩ : _ ∧ _ := e'
          obtain ⟨q1, q2⟩ := cJoin_len r2.1 t3.2.2.1 hcj
          refine ⟨e1, ht.put hj (by omega) (C0 h' f') (fun q hq => (S0 q).trans (o' q (by omega))) (fun k hk => ?_) (LSo.jn r2 t3.2.2 q1 q2)⟩
          rw [q2 k]; exact e2 k (by omega)
