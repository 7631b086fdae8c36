/-! functions of the coin's module that ask for accounts -/
def PEb (W e g a : Nat) : Prop := (g = 1155 ∨ g = 1156 ∨ g = 1163) ∧ a = Ea W e
theorem PEb.e {W e : Nat} : ∀ g a, PEb W e g a → PE1 W e g a := fun g a z => ⟨by rcases z.1 with q | q | q <;> (rw [q]; rfl), z.2⟩
section
variable {G : Gt} {B d : Nat} {h : AH} {l : List Nat} {o : Lc} {wi W A q BA X tt lim SP t : Nat} {snd : Int64} {MA : Ma} {s : Ms} {K : Outcome → AH → Prop} {fs : Nat} {st : Lw} {Lf : Nat → Lw} {RN : Nat → Int32}
/-- an account is written -/
theorem OPR.acc {h' : AH} {e : Nat} {x : En} {th : Bool} {bal : Int64} (H : OPR G B h A W q BA X tt snd lim SP wi MA l o s) (hx : (ens s)[e]? = some x) (h2 : x.1.1 ≠ 2) (f : Fq (PEb W e) h h') (e1 : h'.I 1155 (Ea W e) = bI th) (e2 : h'.J 1156 (Ea W e) = bal) (e3 : h'.I 1163 (Ea W e) = nI 1) : OUT wi W h h' o o ∧ OPR G B h' A W q BA X tt snd lim SP wi MA l o (sEn s e (cEn (th, bal, x.2.2.1.2.2) true)) ∧ av G h' l = av G h l := by
  obtain ⟨⟨⟨a1, a2, a3, a4⟩, ⟨b1, b2, b3⟩, ⟨g1, g2⟩, ⟨c1, c2, c3⟩, d1⟩, -, -⟩ := H.en hx
  have f1 := f.mono PEb.e
  obtain ⟨v1, tg1⟩ := H.2.1.oth f1 PE1.vq
  have np : ∀ g, g ≠ 1155 → g ≠ 1156 → g ≠ 1163 → ∀ a, ¬ PEb W e g a := fun g n1 n2 n3 a z => by
    rcases z.1 with q | q | q
    · exact n1 q
    · exact n2 q
    · exact n3 q
  obtain ⟨u, H5⟩ := H.enc0 (x' := cEn (th, bal, x.2.2.1.2.2) true x) hx (f1.1.mono fun g a z => Or.inr z) v1 (fun _ _ => rfl) tg1 (fun j hj r hr a ha => ha) (by
    refine ⟨⟨by rw [f.1.I (np _ (by decide) (by decide) (by decide) _)]; exact a1, by rw [f.1.J (np _ (by decide) (by decide) (by decide) _)]; exact a2, by rw [f.1.I (np _ (by decide) (by decide) (by decide) _)]; exact a3, a4⟩, ⟨e1, e2, by rw [f.1.J (np _ (by decide) (by decide) (by decide) _)]; exact b3⟩, ⟨by rw [f.1.I (np _ (by decide) (by decide) (by decide) _)]; exact g1, by rw [e3]; simp [cEn]; rfl⟩, ⟨by rw [f.1.I (np _ (by decide) (by decide) (by decide) _)]; exact c1, by rw [f.1.I (np _ (by decide) (by decide) (by decide) _)]; exact c2, fun q1 _ => absurd q1 h2⟩, ?_⟩
    rw [f.1.R (np _ (by decide) (by decide) (by decide) _)]
    exact d1)
  refine ⟨u, ?_, by unfold av; rw [f.2.1]⟩
  rw [sEn_at hx]; exact H5
def coK0 (lim : Nat) (v : VL) (k : List It) (e : Nat) (s : Ms) : Rz := mpay lim 5 s fun s => (match (ens s)[e]? with
  | some x => if v.2.1.2 < 0 ∨ x.2.2.1.2.1 < v.2.1.2 then mst 1 1 s else mgo (sEn (sK s (vC v.2.1.2 :: k)) e (cEn (x.2.2.1.1, x.2.2.1.2.1 - v.2.1.2, x.2.2.1.2.2) true))
  | none => none)
def coK1 (lim : Nat) (y : Int64) (k : List It) (e : Nat) (s : Ms) : Rz := mpay lim 5 s fun s => (match (ens s)[e]? with
  | some x => mgo (sEn (sK s k) e (cEn (true, x.2.2.1.2.1 + y, x.2.2.1.2.2) true))
  | none => none)
def coK5 (lim : Nat) (k : List It) (e : Nat) (s : Ms) : Rz := mpay lim 5 s fun s => (match (ens s)[e]? with
  | some x => mgo (sK s (vI 3 0 x.2.2.1.2.1 :: k))
  | none => none)
theorem coK0_pl {v : VL} {k : List It} {e : Nat} : rzP (fun s2 => plc s2 = plc s) (coK0 lim v k e s) := by
  refine rzP.pay (fun _ => rfl) ?_
  split
  · split
    · rfl
    · exact plc_en fun _ => rfl
  · trivial
theorem coK1_pl {y : Int64} {k : List It} {e : Nat} : rzP (fun s2 => plc s2 = plc s) (coK1 lim y k e s) := by
  refine rzP.pay (fun _ => rfl) ?_
  split
  · exact plc_en fun _ => rfl
  · trivial
theorem coK5_pl {k : List It} {e : Nat} : rzP (fun s2 => plc s2 = plc s) (coK5 lim k e s) := by
  refine rzP.pay (fun _ => rfl) ?_
  split
  · rfl
  · trivial
theorem sEn_K {e : Nat} {f : En → En} {k : List It} : sEn (sK s k) e f = sK (sEn s e f) k := by
  unfold sEn
  show (match (ens s)[e]? with | some x => _ | none => _) = _
  cases (ens s)[e]? <;> rfl
theorem sEn_stk {e : Nat} {f : En → En} : stk (sEn s e f) = stk s := by
  unfold sEn
  cases (ens s)[e]? <;> rfl
theorem sEn_1 {e : Nat} {f : En → En} : (sEn s e f).1 = s.1 ∧ gas (sEn s e f) = gas s := by
  unfold sEn
  cases (ens s)[e]? <;> exact ⟨rfl, rfl⟩
theorem coin_0 {XX : Xt} (oo : OK e_X1_ofCoin XX) {v : VL} {e : Nat} {x : En} {k : List It} {l3 l4 l5 l6 l7 l8 l9 : Value} (H : OPR XX.G B h A W q BA X tt snd lim SP wi MA l o s) (hs : stk s = .inl v :: k) (hx : (ens s)[e]? = some x) (h1 : x.1.1 = 1) (hv : fdp v.2.2 ≤ 40) (hav : lim + 8 ≤ av XX.G h l + gas s) (hd : 60 ≤ XX.d) (kk : RZ K XX.G B h A W q BA X tt snd lim SP wi MA o (coK0 lim v k e s)) : V XX K 71 [.ref A, .int (nI 0), .ref (Ea W e), l3, l4, l5, l6, l7, l8, l9] [] h := by
  have t0 := H.1.1.1
  refine k_X1_ofCoin_71 oo ?_
  unfold coK0 at kk
  refine cpay_ok (n := 5) (k := fun s => (match (ens s)[e]? with
  | some x => if v.2.1.2 < 0 ∨ x.2.2.1.2.1 < v.2.1.2 then mst 1 1 s else mgo (sEn (sK s (vC v.2.1.2 :: k)) e (cEn (x.2.2.1.1, x.2.2.1.2.1 - v.2.1.2, x.2.2.1.2.2) true))
  | none => none)) H (by omega) (by omega) (fun h1 s1 u1 H1 es1 av1 em => ?_) (fun em => by rw [em] at kk; exact kk)
  rw [em] at kk
  have hs1 : stk s1 = .inl v :: k := by rw [es1]; exact hs
  have hx1 : (ens s1)[e]? = some x := by rw [es1]; exact hx
  have hg2 : gas s1 = gas s + 5 := by rw [es1]; rfl
  have hg1 : gas s1 ≤ lim := H1.2.2.2.2.1
  have e11 : s1.1 = s.1 := by rw [es1]; rfl
  simp only [hx1] at kk
  refine k_X1_ofCoin_76 oo ?_
  show V XX K 112 _ _ _
  have t1 := H1.1.1.1
  obtain ⟨t, ht⟩ : ∃ t, t + 1 = s1.1 := ⟨s1.1 - 1, by have := H1.2.2.1.1.2.2.1; omega⟩
  have hf1 : h1.R 28 A = some (Fa W t) := by rw [H1.2.2.2.1, show s1.1 - 1 = t by omega]
  obtain ⟨⟨-, ⟨b1, b2, b3⟩, -⟩, tE, -⟩ := H1.en hx1
  refine k_X1_ofCoin_112 oo ?_
  refine ctop_ok (b := 0) (t := t) H1.1 H1.2.2.1 hf1 ht (by rw [hs1]; rfl) fun z z1 z2 => ?_
  have ez : lvE z = v := z2
  have rz := (H1.2.1.2.2.2 _ _ z1).1
  have tz := rz.1
  have lz : h1.J 3714 z.1 = v.2.1.2 := by rw [← ez]; exact rz.2.2.2.1
  have stopc : v.2.1.2 < 0 ∨ x.2.2.1.2.1 < v.2.1.2 → V XX K 139 [.ref A, .int (nI 0), .ref (Ea W e), .ref z.1, l4, l5, l6, l7, l8, l9] [] h1 := fun cc => by
    rw [if_pos cc] at kk
    refine k_X1_ofCoin_139 oo ?_
    exact cstop_ok (w := 1) H1.1 (H1.stop (RZ.out u1 kk))
  by_cases c1 : v.2.1.2 < 0
  · exact k_X1_ofCoin_117 (r2 := lz) oo (fun _ => stopc (Or.inl c1)) (fun c => absurd c1 c)
  · refine k_X1_ofCoin_117 (r2 := lz) oo (fun c => absurd c c1) (fun _ => ?_)
    by_cases c2 : v.2.1.2 ≤ x.2.2.1.2.1
    · refine k_X1_ofCoin_127 (r2 := lz) (r5 := b2) oo (fun _ => ?_) (fun c => absurd c2 c)
      rw [if_neg (fun z => z.elim c1 (fun z => absurd z (Int64.not_lt.mpr c2)))] at kk
      refine k_X1_ofCoin_145 (r2 := b2) (r5 := lz) (r8 := lz) oo ?_
      obtain ⟨u2, H2, av2⟩ := H1.acc (h' := (h1.sJ 1156 (Ea W e) (x.2.2.1.2.1 - v.2.1.2)).sI 1163 (Ea W e) (nI 1)) (th := x.2.2.1.1) (bal := x.2.2.1.2.1 - v.2.1.2) hx1 (by omega) (by refine Fq.sI (Fq.sJ (Fq.refl h1) ?_) ?_; exact ⟨Or.inr (Or.inl rfl), rfl⟩; exact ⟨Or.inr (Or.inr rfl), rfl⟩) (by simp [n_sI, z_sI, tag_sI, I_sI, J_sI, R_sI, EI_sI, EJ_sI, ER_sI, n_sJ, z_sJ, tag_sJ, I_sJ, J_sJ, R_sJ, EI_sJ, EJ_sJ, ER_sJ, n_sR, z_sR, tag_sR, I_sR, J_sR, R_sR, EI_sR, EJ_sR, ER_sR, n_sEI, z_sEI, tag_sEI, I_sEI, J_sEI, R_sEI, EI_sEI, EJ_sEI, ER_sEI, n_sEJ, z_sEJ, tag_sEJ, I_sEJ, J_sEJ, R_sEJ, EI_sEJ, EJ_sEJ, ER_sEJ, n_sER, z_sER, tag_sER, I_sER, J_sER, R_sER, EI_sER, EJ_sER, ER_sER, n_nw, z_nw, tag_nw, I_nw, J_nw, R_nw, EI_nw, EJ_nw, ER_nw]; exact b1) (by simp [n_sI, z_sI, tag_sI, I_sI, J_sI, R_sI, EI_sI, EJ_sI, ER_sI, n_sJ, z_sJ, tag_sJ, I_sJ, J_sJ, R_sJ, EI_sJ, EJ_sJ, ER_sJ, n_sR, z_sR, tag_sR, I_sR, J_sR, R_sR, EI_sR, EJ_sR, ER_sR, n_sEI, z_sEI, tag_sEI, I_sEI, J_sEI, R_sEI, EI_sEI, EJ_sEI, ER_sEI, n_sEJ, z_sEJ, tag_sEJ, I_sEJ, J_sEJ, R_sEJ, EI_sEJ, EJ_sEJ, ER_sEJ, n_sER, z_sER, tag_sER, I_sER, J_sER, R_sER, EI_sER, EJ_sER, ER_sER, n_nw, z_nw, tag_nw, I_nw, J_nw, R_nw, EI_nw, EJ_nw, ER_nw]) (by simp [n_sI, z_sI, tag_sI, I_sI, J_sI, R_sI, EI_sI, EJ_sI, ER_sI, n_sJ, z_sJ, tag_sJ, I_sJ, J_sJ, R_sJ, EI_sJ, EJ_sJ, ER_sJ, n_sR, z_sR, tag_sR, I_sR, J_sR, R_sR, EI_sR, EJ_sR, ER_sR, n_sEI, z_sEI, tag_sEI, I_sEI, J_sEI, R_sEI, EI_sEI, EJ_sEI, ER_sEI, n_sEJ, z_sEJ, tag_sEJ, I_sEJ, J_sEJ, R_sEJ, EI_sEJ, EJ_sEJ, ER_sEJ, n_sER, z_sER, tag_sER, I_sER, J_sER, R_sER, EI_sER, EJ_sER, ER_sER, n_nw, z_nw, tag_nw, I_nw, J_nw, R_nw, EI_nw, EJ_nw, ER_nw])
      refine ccoinOf_ok H2 (by rw [sEn_stk]; exact hs1) hv (by rw [av2]; omega) (by omega) fun h3 l3' o3 u3 H3 => ?_
      refine k_X1_ofCoin_171 oo ?_
      refine k_X1_ofCoin_378 oo ?_
      rw [← sEn_K] at H3
      exact kk h3 l3' o3 ((u1.trans u2).trans u3) H3
    · exact k_X1_ofCoin_127 (r2 := lz) (r5 := b2) oo (fun c => absurd c c2) (fun _ => stopc (Or.inr (Int64.not_le.mp c2)))
theorem coin_1 {XX : Xt} (oo : OK e_X1_ofCoin XX) {a : VL} {y : Int64} {e : Nat} {x : En} {k : List It} {l3 l4 l5 l6 l7 l8 l9 : Value} (H : OPR XX.G B h A W q BA X tt snd lim SP wi MA l o s) (hs : stk s = vC y :: .inl a :: k) (hx : (ens s)[e]? = some x) (h1 : x.1.1 = 1) (hv : fdp a.2.2 ≤ 40) (hd : 60 ≤ XX.d) (kk : RZ K XX.G B h A W q BA X tt snd lim SP wi MA o (coK1 lim y k e s)) : V XX K 71 [.ref A, .int (nI 1), .ref (Ea W e), l3, l4, l5, l6, l7, l8, l9] [] h := by
  have t0 := H.1.1.1
  refine k_X1_ofCoin_71 oo ?_
  unfold coK1 at kk
  refine cpay_ok (n := 5) (k := fun s => (match (ens s)[e]? with
  | some x => mgo (sEn (sK s k) e (cEn (true, x.2.2.1.2.1 + y, x.2.2.1.2.2) true))
  | none => none)) H (by omega) (by omega) (fun h1 s1 u1 H1 es1 av1 em => ?_) (fun em => by rw [em] at kk; exact kk)
  rw [em] at kk
  have hs1 : stk s1 = vC y :: .inl a :: k := by rw [es1]; exact hs
  have hx1 : (ens s1)[e]? = some x := by rw [es1]; exact hx
  simp only [hx1] at kk
  refine k_X1_ofCoin_76 oo ?_
  show V XX K 174 _ _ _
  have t1 := H1.1.1.1
  obtain ⟨t, ht⟩ : ∃ t, t + 1 = s1.1 := ⟨s1.1 - 1, by have := H1.2.2.1.1.2.2.1; omega⟩
  have hf1 : h1.R 28 A = some (Fa W t) := by rw [H1.2.2.2.1, show s1.1 - 1 = t by omega]
  obtain ⟨⟨-, ⟨b1, b2, b3⟩, -⟩, tE, -⟩ := H1.en hx1
  refine k_X1_ofCoin_174 (r2 := b2) oo ?_
  refine ctop_ok (b := 0) (t := t) H1.1 H1.2.2.1 hf1 ht (by rw [hs1]; rfl) fun z z1 z2 => ?_
  have ez : lvE z = vCv y := z2
  have rz := (H1.2.1.2.2.2 _ _ z1).1
  have tz := rz.1
  obtain ⟨y0, -, f1, -, -, f4, f5⟩ := rz.first (w0 := (3, (0, y), .leaf)) (by rw [ez]; rfl)
  refine k_X1_ofCoin_184 (x6 := y) (r5 := f5) oo ?_
  obtain ⟨u2, H2, av2⟩ := H1.acc (h' := ((h1.sJ 1156 (Ea W e) (x.2.2.1.2.1 + y)).sI 1155 (Ea W e) (nI 1)).sI 1163 (Ea W e) (nI 1)) (th := true) (bal := x.2.2.1.2.1 + y) hx1 (by omega) (by refine Fq.sI (Fq.sI (Fq.sJ (Fq.refl h1) ?_) ?_) ?_; exact ⟨Or.inr (Or.inl rfl), rfl⟩; exact ⟨Or.inl rfl, rfl⟩; exact ⟨Or.inr (Or.inr rfl), rfl⟩) (by simp [n_sI, z_sI, tag_sI, I_sI, J_sI, R_sI, EI_sI, EJ_sI, ER_sI, n_sJ, z_sJ, tag_sJ, I_sJ, J_sJ, R_sJ, EI_sJ, EJ_sJ, ER_sJ, n_sR, z_sR, tag_sR, I_sR, J_sR, R_sR, EI_sR, EJ_sR, ER_sR, n_sEI, z_sEI, tag_sEI, I_sEI, J_sEI, R_sEI, EI_sEI, EJ_sEI, ER_sEI, n_sEJ, z_sEJ, tag_sEJ, I_sEJ, J_sEJ, R_sEJ, EI_sEJ, EJ_sEJ, ER_sEJ, n_sER, z_sER, tag_sER, I_sER, J_sER, R_sER, EI_sER, EJ_sER, ER_sER, n_nw, z_nw, tag_nw, I_nw, J_nw, R_nw, EI_nw, EJ_nw, ER_nw]; rfl) (by simp [n_sI, z_sI, tag_sI, I_sI, J_sI, R_sI, EI_sI, EJ_sI, ER_sI, n_sJ, z_sJ, tag_sJ, I_sJ, J_sJ, R_sJ, EI_sJ, EJ_sJ, ER_sJ, n_sR, z_sR, tag_sR, I_sR, J_sR, R_sR, EI_sR, EJ_sR, ER_sR, n_sEI, z_sEI, tag_sEI, I_sEI, J_sEI, R_sEI, EI_sEI, EJ_sEI, ER_sEI, n_sEJ, z_sEJ, tag_sEJ, I_sEJ, J_sEJ, R_sEJ, EI_sEJ, EJ_sEJ, ER_sEJ, n_sER, z_sER, tag_sER, I_sER, J_sER, R_sER, EI_sER, EJ_sER, ER_sER, n_nw, z_nw, tag_nw, I_nw, J_nw, R_nw, EI_nw, EJ_nw, ER_nw]) (by simp [n_sI, z_sI, tag_sI, I_sI, J_sI, R_sI, EI_sI, EJ_sI, ER_sI, n_sJ, z_sJ, tag_sJ, I_sJ, J_sJ, R_sJ, EI_sJ, EJ_sJ, ER_sJ, n_sR, z_sR, tag_sR, I_sR, J_sR, R_sR, EI_sR, EJ_sR, ER_sR, n_sEI, z_sEI, tag_sEI, I_sEI, J_sEI, R_sEI, EI_sEI, EJ_sEI, ER_sEI, n_sEJ, z_sEJ, tag_sEJ, I_sEJ, J_sEJ, R_sEJ, EI_sEJ, EJ_sEJ, ER_sEJ, n_sER, z_sER, tag_sER, I_sER, J_sER, R_sER, EI_sER, EJ_sER, ER_sER, n_nw, z_nw, tag_nw, I_nw, J_nw, R_nw, EI_nw, EJ_nw, ER_nw])
  refine cdropTop_ok H2 (by rw [sEn_stk]; exact hs1) (fun v hv => by
    have : v = vCv y := (Sum.inl.inj hv).symm
    rw [this]
    have : fdp (vCv y).2.2 ≤ 2 := by simp [vCv, fof, fdp]
    omega) (by omega) fun h3 l3' o3 u3 H3 av3 _ _ => ?_
  have t3 := H3.1.1.1
  refine k_X1_ofCoin_208 oo ?_
  refine cdropTop_ok H3 stk_K (fun v hv' => by cases hv'; omega) (by omega) fun h4 l4' o4 u4 H4 av4 _ _ => ?_
  refine k_X1_ofCoin_212 oo ?_
  refine k_X1_ofCoin_378 oo ?_
  rw [stkK, ← sEn_K] at H4
  exact kk h4 l4' o4 (((u1.trans u2).trans u3).trans u4) H4
theorem coin_5 {XX : Xt} (oo : OK e_X1_ofCoin XX) {a : VL} {e : Nat} {x : En} {k : List It} {l3 l4 l5 l6 l7 l8 l9 : Value} (H : OPR XX.G B h A W q BA X tt snd lim SP wi MA l o s) (hs : stk s = .inl a :: k) (hx : (ens s)[e]? = some x) (ha : a.2.1.1 = 0 ∧ a.2.2 = .leaf) (hd : 60 ≤ XX.d) (kk : RZ K XX.G B h A W q BA X tt snd lim SP wi MA o (coK5 lim k e s)) : V XX K 71 [.ref A, .int (nI 5), .ref (Ea W e), l3, l4, l5, l6, l7, l8, l9] [] h := by
  have t0 := H.1.1.1
  refine k_X1_ofCoin_71 oo ?_
  unfold coK5 at kk
  refine cpay_ok (n := 5) (k := fun s => (match (ens s)[e]? with
  | some x => mgo (sK s (vI 3 0 x.2.2.1.2.1 :: k))
  | none => none)) H (by omega) (by omega) (fun h1 s1 u1 H1 es1 av1 em => ?_) (fun em => by rw [em] at kk; exact kk)
  rw [em] at kk
  have hs1 : stk s1 = .inl a :: k := by rw [es1]; exact hs
  have hx1 : (ens s1)[e]? = some x := by rw [es1]; exact hx
  simp only [hx1] at kk
  refine k_X1_ofCoin_76 oo ?_
  show V XX K 356 _ _ _
  have t1 := H1.1.1.1
  obtain ⟨t, ht⟩ : ∃ t, t + 1 = s1.1 := ⟨s1.1 - 1, by have := H1.2.2.1.1.2.2.1; omega⟩
  have hf1 : h1.R 28 A = some (Fa W t) := by rw [H1.2.2.2.1, show s1.1 - 1 = t by omega]
  obtain ⟨⟨-, ⟨b1, b2, b3⟩, -⟩, tE, -⟩ := H1.en hx1
  refine k_X1_ofCoin_356 oo ?_
  refine ctop_ok (b := 0) (t := t) H1.1 H1.2.2.1 hf1 ht (by rw [hs1]; rfl) fun z z1 z2 => ?_
  have ez : lvE z = a := z2
  have rz := (H1.2.1.2.2.2 _ _ z1).1
  have tz := rz.1
  have hz : h1.J 3713 z.1 = 0 := by rw [← ha.1, ← ez]; exact rz.2.2.1
  rw [hs1] at z1
  refine k_X1_ofCoin_361 (r3 := b2) oo ?_
  refine k_X1_ofCoin_378 oo ?_
  obtain ⟨o2, u2, H2, av2⟩ := H1.num (kd := 3) (n := (0, x.2.2.1.2.1)) (h' := (h1.sI 3712 z.1 (nI 3)).sJ 3714 z.1 x.2.2.1.2.1) ht hs1 z1 (by refine Fq.sJ (Fq.sI (Fq.refl h1) ?_) ?_; exact ⟨Or.inl rfl, rfl⟩; exact ⟨Or.inr (Or.inr rfl), rfl⟩) (by simp [n_sI, z_sI, tag_sI, I_sI, J_sI, R_sI, EI_sI, EJ_sI, ER_sI, n_sJ, z_sJ, tag_sJ, I_sJ, J_sJ, R_sJ, EI_sJ, EJ_sJ, ER_sJ, n_sR, z_sR, tag_sR, I_sR, J_sR, R_sR, EI_sR, EJ_sR, ER_sR, n_sEI, z_sEI, tag_sEI, I_sEI, J_sEI, R_sEI, EI_sEI, EJ_sEI, ER_sEI, n_sEJ, z_sEJ, tag_sEJ, I_sEJ, J_sEJ, R_sEJ, EI_sEJ, EJ_sEJ, ER_sEJ, n_sER, z_sER, tag_sER, I_sER, J_sER, R_sER, EI_sER, EJ_sER, ER_sER, n_nw, z_nw, tag_nw, I_nw, J_nw, R_nw, EI_nw, EJ_nw, ER_nw]) (by simp [n_sI, z_sI, tag_sI, I_sI, J_sI, R_sI, EI_sI, EJ_sI, ER_sI, n_sJ, z_sJ, tag_sJ, I_sJ, J_sJ, R_sJ, EI_sJ, EJ_sJ, ER_sJ, n_sR, z_sR, tag_sR, I_sR, J_sR, R_sR, EI_sR, EJ_sR, ER_sR, n_sEI, z_sEI, tag_sEI, I_sEI, J_sEI, R_sEI, EI_sEI, EJ_sEI, ER_sEI, n_sEJ, z_sEJ, tag_sEJ, I_sEJ, J_sEJ, R_sEJ, EI_sEJ, EJ_sEJ, ER_sEJ, n_sER, z_sER, tag_sER, I_sER, J_sER, R_sER, EI_sER, EJ_sER, ER_sER, n_nw, z_nw, tag_nw, I_nw, J_nw, R_nw, EI_nw, EJ_nw, ER_nw]; exact hz) (by simp [n_sI, z_sI, tag_sI, I_sI, J_sI, R_sI, EI_sI, EJ_sI, ER_sI, n_sJ, z_sJ, tag_sJ, I_sJ, J_sJ, R_sJ, EI_sJ, EJ_sJ, ER_sJ, n_sR, z_sR, tag_sR, I_sR, J_sR, R_sR, EI_sR, EJ_sR, ER_sR, n_sEI, z_sEI, tag_sEI, I_sEI, J_sEI, R_sEI, EI_sEI, EJ_sEI, ER_sEI, n_sEJ, z_sEJ, tag_sEJ, I_sEJ, J_sEJ, R_sEJ, EI_sEJ, EJ_sEJ, ER_sEJ, n_sER, z_sER, tag_sER, I_sER, J_sER, R_sER, EI_sER, EJ_sER, ER_sER, n_nw, z_nw, tag_nw, I_nw, J_nw, R_nw, EI_nw, EJ_nw, ER_nw])
  rw [ha.2] at H2
  exact kk _ _ o2 (u1.trans u2) H2
end
