/-! functions -/
def bn (B : Nat → Nat) : Nat → Nat → Nat → Nat
  | v, _, 0 => v
  | v, p, k + 1 => bn B (256 * v + B p) (p + 1) k
theorem rdN_ok {n : Nat} {B : Nat → Nat} : ∀ {k v p a q : Nat}, rdN n B k v p = .ok (a, q) → a = bn B v p k ∧ q = p + k ∧ (p ≤ n → q ≤ n)
  | 0, v, p, a, q, h => by cases h; exact ⟨rfl, rfl, fun h => h⟩
  | k + 1, v, p, a, q, h => by
    obtain ⟨b, p1, h1, h2⟩ := bd_ok h
    obtain ⟨rfl, rfl, e3⟩ := rdB_ok h1
    obtain ⟨e1, e2, e4⟩ := rdN_ok h2
    exact ⟨e1, by omega, fun _ => e4 (by omega)⟩
theorem bn_lt {B : Nat → Nat} (hB : ∀ i, B i < 256) : ∀ {k v p : Nat}, bn B v p k < (v + 1) * 256 ^ k
  | 0, v, p => by simp [bn]
  | k + 1, v, p => by
    have h1 := bn_lt hB (k := k) (v := 256 * v + B p) (p := p + 1)
    have h2 := hB p
    have h3 : (256 * v + B p + 1) * 256 ^ k ≤ (256 * (v + 1)) * 256 ^ k := Nat.mul_le_mul_right _ (by omega)
    rw [Nat.pow_succ, ← Nat.mul_assoc, Nat.mul_right_comm, Nat.mul_comm (v + 1) 256]
    exact Nat.lt_of_lt_of_le h1 h3
theorem rdN2_lt {n : Nat} {B : Nat → Nat} (hB : ∀ i, B i < 256) {p a q : Nat} (h : rdN n B 2 0 p = .ok (a, q)) : a < 65536 := by
  rw [(rdN_ok h).1]
  have := bn_lt hB (k := 2) (v := 0) (p := p)
  omega
def SP (h : AH) (s : Nat) (ts l : TL) : Prop := ∃ pre post, ts = pre ++ l ++ post ∧ h.I 512 s = nI pre.length ∧ h.I 513 s = nI l.length
theorem SP.fr {P : Nat → Nat → Prop} {h h' : AH} {s : Nat} {ts l : TL} (q : Fr P h h') (n1 : ¬ P 512 s) (n2 : ¬ P 513 s) (x : SP h s ts l) : SP h' s ts l := by
  obtain ⟨a, b, e1, e2, e3⟩ := x
  exact ⟨a, b, e1, by rw [q.I n1]; exact e2, by rw [q.I n2]; exact e3⟩
theorem SP.app {h : AH} {s : Nat} {ts l : TL} (x : SP h s ts l) (u : TL) : SP h s (ts ++ u) l := by
  obtain ⟨a, b, e1, e2, e3⟩ := x
  exact ⟨a, b ++ u, by rw [e1]; simp, e2, e3⟩
theorem SP.mk {h : AH} {s : Nat} {ts l : TL} (e2 : h.I 512 s = nI ts.length) (e3 : h.I 513 s = nI l.length) : SP h s (ts ++ l) l := ⟨ts, [], by simp, e2, e3⟩
def CP (h : AH) (F : Nat) (cs l : List Ix) : Prop := ∃ pre post, cs = pre ++ l ++ post ∧ h.I 900 F = nI pre.length ∧ h.I 901 F = nI l.length
theorem CP.fr {P : Nat → Nat → Prop} {h h' : AH} {s : Nat} {ts l : List Ix} (q : Fr P h h') (n1 : ¬ P 900 s) (n2 : ¬ P 901 s) (x : CP h s ts l) : CP h' s ts l := by
  obtain ⟨a, b, e1, e2, e3⟩ := x
  exact ⟨a, b, e1, by rw [q.I n1]; exact e2, by rw [q.I n2]; exact e3⟩
theorem CP.app {h : AH} {s : Nat} {ts l : List Ix} (x : CP h s ts l) (u : List Ix) : CP h s (ts ++ u) l := by
  obtain ⟨a, b, e1, e2, e3⟩ := x
  exact ⟨a, b ++ u, by rw [e1]; simp, e2, e3⟩
def ut (u : Ux) : TL := u.2.1 ++ u.2.2.1 ++ u.2.2.2.1
def ui (u : Ux) : List Ix := u.2.2.2.2
/-- a function in its cells F to F + 3 -/
def UX (h : AH) (F : Nat) (ts : TL) (cs : List Ix) (u : Ux) : Prop := h.I 896 F = nI u.1 ∧ SP h (F + 1) ts u.2.1 ∧ SP h (F + 2) ts u.2.2.1 ∧ SP h (F + 3) ts u.2.2.2.1 ∧ CP h F cs (ui u)
theorem UX.fr {P : Nat → Nat → Prop} {h h' : AH} {F : Nat} {ts : TL} {cs : List Ix} {u : Ux} (q : Fr P h h') (np : ∀ f a, tbF.contains f = true → F ≤ a → a < F + 4 → ¬ P f a) (x : UX h F ts cs u) : UX h' F ts cs u := by
  obtain ⟨x1, x2, x3, x4, x5⟩ := x
  exact ⟨by rw [q.I (np _ _ rfl (by omega) (by omega))]; exact x1, x2.fr q (np _ _ rfl (by omega) (by omega)) (np _ _ rfl (by omega) (by omega)), x3.fr q (np _ _ rfl (by omega) (by omega)) (np _ _ rfl (by omega) (by omega)), x4.fr q (np _ _ rfl (by omega) (by omega)) (np _ _ rfl (by omega) (by omega)), x5.fr q (np _ _ rfl (by omega) (by omega)) (np _ _ rfl (by omega) (by omega))⟩
theorem UX.app {h : AH} {F : Nat} {ts : TL} {cs : List Ix} {u : Ux} (x : UX h F ts cs u) (ts' : TL) (cs' : List Ix) : UX h F (ts ++ ts') (cs ++ cs') u := ⟨x.1, x.2.1.app _, x.2.2.1.app _, x.2.2.2.1.app _, x.2.2.2.2.app _⟩
/-- one cell of the tables changes -/
theorem RS.tb {l : List Nat} {h h' : AH} {R W Q T n : Nat} {B : Nat → Nat} {p : Nat} {ts : TL} {cs : List Ix} (s : RS h R W Q T n B p ts cs) (q : Fq (FS l) h h') (np : (stF ++ srF ++ tcF ++ [1411, 1409, 10000 + 353]).all (fun f => !l.contains f) = true) (na : l.contains 1410 = false) : RS h' R W Q T n B p ts cs := s.ch q.1 (FS.no np) (Nat.le_refl _) s.2.2.2.1 (by rw [q.1.I (FS.n na)]; exact s.2.2.1)
theorem AQ.tb {T lo hi f a : Nat} (h : tbF.contains f = true) (h1 : lo ≤ a) (h2 : a < hi) : AQ T lo hi f a := Or.inr (Or.inr ⟨h, h1, h2⟩)
theorem rfunc_ok {G : Gt} {d : Nat} {h : AH} {K : Outcome → AH → Prop} {R W Q T n p F : Nat} {B : Nat → Nat} {ts : TL} {cs : List Ix} (hs : RS h R W Q T n B p ts cs) (hF : h.tag F = some (7, 0)) (hL : h.R 897 F = some (F + 1) ∧ h.R 898 F = some (F + 2) ∧ h.R 899 F = some (F + 3)) (hS : h.tag (F + 1) = some (4, 0) ∧ h.tag (F + 2) = some (4, 0) ∧ h.tag (F + 3) = some (4, 0)) (h1 : T + 12 ≤ F) (h2 : F + 4 ≤ T + 524) (hd : 6 ≤ d)
    (kk : PQ (rdU n B p) (fun u p' => ∀ h', Fq (AQ T F (F + 4)) h h' → RS h' R W Q T n B p' (ts ++ ut u) (cs ++ ui u) → UX h' F (ts ++ ut u) (cs ++ ui u) u → K (.returned none) h') (TE K R W T h)) : MW G d e_X12_functionOf [.ref R, .ref F] h K := by
  refine st_X12_functionOf fun X o hG hD hf => ?_
  subst hG; subst hD
  obtain ⟨⟨s1, s2, s3⟩, s4, s5, s6, ⟨s7, s8⟩, s9, s10⟩ := id hs
  have t0 := s1.1
  have rq : ∀ {h1 : AH}, Fq (AQ T F (F + 4)) h h1 → Fq (RQ T) h h1 := fun f => f.mono (AQ.rq (by omega) (by omega))
  have sh : ∀ {h1 : AH}, Fq (AQ T F (F + 4)) h h1 → h1.tag F = some (7, 0) ∧ (h1.R 897 F = some (F + 1) ∧ h1.R 898 F = some (F + 2) ∧ h1.R 899 F = some (F + 3)) ∧ (h1.tag (F + 1) = some (4, 0) ∧ h1.tag (F + 2) = some (4, 0) ∧ h1.tag (F + 3) = some (4, 0)) := fun f =>
    ⟨f.1.tag hF, ⟨by rw [f.1.R (AQ.no rfl)]; exact hL.1, by rw [f.1.R (AQ.no rfl)]; exact hL.2.1, by rw [f.1.R (AQ.no rfl)]; exact hL.2.2⟩, f.1.tag hS.1, f.1.tag hS.2.1, f.1.tag hS.2.2⟩
  refine k_X12_functionOf_0 o ?_
  refine rbounded_ok (lo := 0) (hi := 7) (T := T) s1 s4 s5 s6 (by omega) (by omega) (by omega) ((PQ_bd.mp kk).mono (fun fl p1 _ k1 e1 e2 e3 e4 ha fa aa => ?_) (fun w q t => t))
  -- flags
  have ra := hs.at fa aa (by omega) e2
  have fa' : Fq (AQ T F (F + 4)) h ha := fa.mono at_aq
  obtain ⟨z1, ⟨z2, z3, z4⟩, z5, z6, z7⟩ := sh fa'
  have y1 := ra.1.1.1
  refine k_X12_functionOf_8 o ?_
  have fb : Fq (FS [896]) ha (ha.sI 896 F (nI fl)) := (Fq.refl ha).sI rfl
  have fb' : Fq (AQ T F (F + 4)) h (ha.sI 896 F (nI fl)) := fa'.sI (AQ.tb rfl (by omega) (by omega))
  have rb := ra.tb fb rfl rfl
  have gf : (ha.sI 896 F (nI fl)).I 896 F = nI fl := I_same ..
  generalize ha.sI 896 F (nI fl) = hb at *
  obtain ⟨z1, ⟨z2, z3, z4⟩, z5, z6, z7⟩ := sh fb'
  refine rlist_ok (hi := 8) rb z5 (by omega) (by omega) (by omega) (by omega) ((PQ_bd.mp k1).mono (fun tk p2 _ k2 hc fc rc c1 c2 => ?_) (fun w q t => TE.fq (rq fb') t))
  have fc' : Fq (AQ T F (F + 4)) h hc := fb'.trans (fc.mono (AQ.mono (by omega) (by omega)))
  obtain ⟨z1, ⟨z2, z3, z4⟩, z5, z6, z7⟩ := sh fc'
  have y1 := rc.1.1.1
  have spc : SP hc (F + 1) (ts ++ tk) tk := SP.mk c1 c2
  have gfc : hc.I 896 F = nI fl := by rw [fc.1.I (AQ.out rfl (by omega))]; exact gf
  refine k_X12_functionOf_21 o ?_
  refine rlist_ok (hi := 8) rc z6 (by omega) (by omega) (by omega) (by omega) ((PQ_bd.mp k2).mono (fun gv p3 _ k3 hd' fd rd d1 d2 => ?_) (fun w q t => TE.fq (rq fc') t))
  have fd' : Fq (AQ T F (F + 4)) h hd' := fc'.trans (fd.mono (AQ.mono (by omega) (by omega)))
  obtain ⟨z1, ⟨z2, z3, z4⟩, z5, z6, z7⟩ := sh fd'
  have y1 := rd.1.1.1
  have spd := (spc.fr fd.1 (AQ.out rfl (by omega)) (AQ.out rfl (by omega))).app gv
  have spd2 : SP hd' (F + 2) (ts ++ tk ++ gv) gv := SP.mk d1 d2
  have gfd : hd'.I 896 F = nI fl := by rw [fd.1.I (AQ.out rfl (by omega))]; exact gfc
  refine k_X12_functionOf_31 o ?_
  refine rlist_ok (hi := 32) rd z7 (by omega) (by omega) (by omega) (by omega) ((PQ_bd.mp k3).mono (fun lc p4 _ k4 he fe re e1' e2' => ?_) (fun w q t => TE.fq (rq fd') t))
  have fe' : Fq (AQ T F (F + 4)) h he := fd'.trans (fe.mono (AQ.mono (by omega) (by omega)))
  have spe := (spd.fr fe.1 (AQ.out rfl (by omega)) (AQ.out rfl (by omega))).app lc
  have spe2 := (spd2.fr fe.1 (AQ.out rfl (by omega)) (AQ.out rfl (by omega))).app lc
  have spe3 : SP he (F + 3) (ts ++ tk ++ gv ++ lc) lc := SP.mk e1' e2'
  have gfe : he.I 896 F = nI fl := by rw [fe.1.I (AQ.out rfl (by omega))]; exact gfd
  obtain ⟨⟨x1, x2, x3⟩, x4, x5, x6, ⟨x7, x8⟩, x9, x10⟩ := id re
  have y1 := x1.1
  refine k_X12_functionOf_41 o ?_
  refine rshort_ok (T := T) x1 x4 x5 x6 (by omega) ((PQ_bd.mp k4).mono (fun k p5 ek k5 e5 e6 hg fg ag => ?_) (fun w q t => TE.fq (rq fe') t))
  have hk := rdN2_lt x4.2.2.1 ek
  have rg := re.at fg ag e5 e6
  have fg' : Fq (AQ T F (F + 4)) h hg := fe'.trans (fg.mono at_aq)
  obtain ⟨z1, ⟨z2, z3, z4⟩, z5, z6, z7⟩ := sh fg'
  have k6 := PQ_bd.mp k5
  have fm : Fq (FS [901]) hg (hg.sI 901 F (nI k)) := (Fq.refl hg).sI rfl
  have fm' : Fq (AQ T F (F + 4)) h (hg.sI 901 F (nI k)) := fg'.sI (AQ.tb rfl (by omega) (by omega))
  have rm := rg.tb fm rfl rfl
  have gc : (hg.sI 901 F (nI k)).I 901 F = nI k := I_same ..
  have gfm : (hg.sI 901 F (nI k)).I 896 F = nI fl := by rw [I_sI, if_neg (by omega), fg.1.I (FS.n rfl)]; exact gfe
  have m1 := (spe.fr fg.1 (FS.n rfl) (FS.n rfl)).fr fm.1 (FS.n rfl) (FS.n rfl)
  have m2 := (spe2.fr fg.1 (FS.n rfl) (FS.n rfl)).fr fm.1 (FS.n rfl) (FS.n rfl)
  have m3 := (spe3.fr fg.1 (FS.n rfl) (FS.n rfl)).fr fm.1 (FS.n rfl) (FS.n rfl)
  have vm1 : V X K 51 [.ref R, .ref F, .int (nI p4), nov] [.int (nI k), .ref F] hg := by
    have step : (nI k < nI 1 → V X K 98 [.ref R, .ref F, .int (nI p4), nov] [.ref R] (hg.sI 901 F (nI k))) → (¬ nI k < nI 1 → V X K 63 [.ref R, .ref F, .int (nI p4), nov] [.ref R] (hg.sI 901 F (nI k))) → V X K 51 [.ref R, .ref F, .int (nI p4), nov] [.int (nI k), .ref F] hg := fun a b => by
      refine k_X12_functionOf_51 o (fun c => ?_) (fun c => ?_)
      · exact a c
      · exact b c
    generalize hg.sI 901 F (nI k) = hm at *
    obtain ⟨w1, ⟨w2, w3, w4⟩, w5, w6, w7⟩ := sh fm'
    obtain ⟨⟨x1, x2, x3⟩, x4, x5, x6, ⟨x7, x8⟩, x9, x10⟩ := id rm
    have y1 := x1.1
    have y2 := x3.1.1
    have y3 := x3.1.2.2.2.2.2
    have y4 := x3.2.2.1.1
    have y5 := x9.1
    have bad : ¬ (1 ≤ k ∧ k ≤ 1024) → V X K 98 [.ref R, .ref F, .int (nI p4), nov] [.ref R] hm := fun c => by
      rw [decide_eq_false c] at k6
      refine k_X12_functionOf_98 o ?_
      refine k_X12_functionOf_99 o ?_
      exact rneed_ok (b := false) (p := 0) x1 (by omega) (TE.fq (rq fm') (PQ_nf.mp k6))
    refine step (fun c => ?_) (fun c => ?_)
    · exact bad fun z => absurd ((nI_ltI (by omega) (by omega)).mp c) (by omega)
    refine k_X12_functionOf_63 o (fun c2 => ?_) (fun c2 => ?_)
    · exact bad fun z => absurd ((nI_ltI (by omega) (by omega)).mp c2) (by omega)
    have q1 : 1 ≤ k := by
      rcases Nat.lt_or_ge k 1 with z | z
      · exact absurd ((nI_ltI (by omega) (by omega)).mpr z) c
      · exact z
    have q2 : k ≤ 1024 := by
      rcases Nat.lt_or_ge 1024 k with z | z
      · exact absurd ((nI_ltI (by omega) (by omega)).mpr z) c2
      · exact z
    have hn := s4.2.1
    rw [decide_eq_true ⟨q1, q2⟩] at k6
    have k7 := PQ_bd.mp (PQ_nt.mp k6)
    refine k_X12_functionOf_73 o (fun c3 => ?_) (fun c3 => ?_)
    · rw [nI_add] at c3
      exact absurd ((nI_ltI (by omega) (by omega)).mp c3) (by omega)
    refine k_X12_functionOf_94 o ?_
    refine k_X12_functionOf_99 o ?_
    refine rneed_ok (b := true) (p := 0) (T := T) x1 (by omega) ?_
    refine k_X12_functionOf_104 o ?_
    have fn : Fq (FS [900]) hm (hm.sI 900 F (nI cs.length)) := (Fq.refl hm).sI rfl
    have fn' : Fq (AQ T F (F + 4)) h (hm.sI 900 F (nI cs.length)) := fm'.sI (AQ.tb rfl (by omega) (by omega))
    have rn := rm.tb fn rfl rfl
    have gn : (hm.sI 900 F (nI cs.length)).I 900 F = nI cs.length := I_same ..
    have gcn : (hm.sI 900 F (nI cs.length)).I 901 F = nI k := by rw [I_sI, if_neg (by omega)]; exact gc
    have gfn : (hm.sI 900 F (nI cs.length)).I 896 F = nI fl := by rw [I_sI, if_neg (by omega)]; exact gfm
    have n1 := m1.fr fn.1 (FS.n rfl) (FS.n rfl)
    have n2 := m2.fr fn.1 (FS.n rfl) (FS.n rfl)
    have n3 := m3.fr fn.1 (FS.n rfl) (FS.n rfl)
    generalize hm.sI 900 F (nI cs.length) = hn' at *
    have loop : ∀ m j q acc hx, m + j = k → Fq (AQ T 0 0) hn' hx → RS hx R W Q T n B q (ts ++ tk ++ gv ++ lc) (cs ++ acc) → acc.length = j → PQ (rep (rdI n B) m q) (fun l p' => PQ (.ok ((fl, tk, gv, lc, acc ++ l), p') : Pz Ux) (fun u p' => ∀ h', Fq (AQ T F (F + 4)) h h' → RS h' R W Q T n B p' (ts ++ ut u) (cs ++ ui u) → UX h' F (ts ++ ut u) (cs ++ ui u) u → K (.returned none) h') (TE K R W T h)) (TE K R W T h) → V X K 120 [.ref R, .ref F, .int (nI p4), .int (nI j)] [] hx := by
      intro m
      induction m with
      | zero =>
        intro j q acc hx hj fx rx la kx
        have fx' : Fq (AQ T F (F + 4)) h hx := fn'.trans (fx.mono (AQ.mono (by omega) (by omega)))
        obtain ⟨w1, -⟩ := sh fx'
        have gx : hx.I 901 F = nI k := by rw [fx.1.I (AQ.out rfl (by omega))]; exact gcn
        refine k_X12_functionOf_120 o (fun c5 => ?_) (fun c5 => ?_)
        rotate_left
        · exact absurd ((nI_leI (by omega) (by omega)).mpr (by omega)) c5
        have e0 : ts ++ ut (fl, tk, gv, lc, acc ++ []) = ts ++ tk ++ gv ++ lc := by simp [ut]
        have e1 : cs ++ ui (fl, tk, gv, lc, acc ++ []) = cs ++ acc := by simp [ui]
        have ke : ∀ h', Fq (AQ T F (F + 4)) h h' → RS h' R W Q T n B q (ts ++ ut (fl, tk, gv, lc, acc ++ [])) (cs ++ ui (fl, tk, gv, lc, acc ++ [])) → UX h' F (ts ++ ut (fl, tk, gv, lc, acc ++ [])) (cs ++ ui (fl, tk, gv, lc, acc ++ [])) (fl, tk, gv, lc, acc ++ []) → K (.returned none) h' := kx
        rw [e0, e1] at ke
        refine k_X12_functionOf_138 o ?_
        refine ke hx fx' rx ⟨by rw [fx.1.I (AQ.out rfl (by omega))]; exact gfn, n1.fr fx.1 (AQ.out rfl (by omega)) (AQ.out rfl (by omega)), n2.fr fx.1 (AQ.out rfl (by omega)) (AQ.out rfl (by omega)), n3.fr fx.1 (AQ.out rfl (by omega)) (AQ.out rfl (by omega)), cs, [], by simp [ui], by rw [fx.1.I (AQ.out rfl (by omega))]; exact gn, ?_⟩
        rw [gx]; simp [ui]; congr 1; omega
      | succ m ih =>
        intro j q acc hx hj fx rx la kx
        have fx' : Fq (AQ T F (F + 4)) h hx := fn'.trans (fx.mono (AQ.mono (by omega) (by omega)))
        obtain ⟨w1, -⟩ := sh fx'
        have gx : hx.I 901 F = nI k := by rw [fx.1.I (AQ.out rfl (by omega))]; exact gcn
        have y1 := rx.1.1.1
        refine k_X12_functionOf_120 o (fun c5 => ?_) (fun c5 => ?_)
        · exact absurd ((nI_leI (by omega) (by omega)).mp c5) (by omega)
        refine k_X12_functionOf_128 o ?_
        refine rinstr_ok rx (by omega) ((rep_s (C := fun l p' => PQ (.ok ((fl, tk, gv, lc, l), p') : Pz Ux) (fun u p' => ∀ h', Fq (AQ T F (F + 4)) h h' → RS h' R W Q T n B p' (ts ++ ut u) (cs ++ ui u) → UX h' F (ts ++ ut u) (cs ++ ui u) u → K (.returned none) h') (TE K R W T h)) kx).mono (fun x q2 _ ky hy fy ry => ?_) (fun w q t => TE.fq (rq fx') t))
        refine k_X12_functionOf_132 o ?_
        rw [nI_add]
        exact ih (j + 1) q2 (acc ++ [x]) hy (by omega) (fx.trans fy) (by rw [← List.append_assoc]; exact ry) (by simp [la]) ky
    refine loop k 0 p5 [] hn' (by omega) (Fq.refl hn') (by rw [List.append_nil]; exact rn) rfl ?_
    exact k7
  exact vm1
