/-! the root: one place is planted, whole -/
theorem nb_8 {v : Int64} : ∀ {n : Nat} {y : Int32}, y ∈ nb v n → i8 y = y
  | 0, y, h => by simp [nb] at h
  | n + 1, y, h => by
    rcases List.mem_cons.mp (show y ∈ i8 _ :: nb v n from h) with e | e
    · rw [e]; exact i8_i8 _
    · exact nb_8 e
theorem hdB_8 {k : Nat} {x : Int64 × Int64} {n : Nat} {y : Int32} (h : y ∈ hdB k x n) : i8 y = y := by
  unfold hdB at h
  rcases List.mem_append.mp h with h | h
  · split at h
    · exact nb_8 h
    · simp at h
  · rcases List.mem_append.mp h with h | h
    · split at h
      · exact nb_8 h
      · simp at h
    · split at h
      · exact nb_8 h
      · simp at h
theorem fwB_8 : ∀ {c : Fo} {y : Int32}, y ∈ fwB c → i8 y = y
  | .leaf, y, h => by simp [fwB] at h
  | .inner k x _ c r, y, h => by
    have h : y ∈ hdB k x (fln c) ++ (fwB c ++ fwB r) := h
    rcases List.mem_append.mp h with h | h
    · exact hdB_8 h
    · rcases List.mem_append.mp h with h | h
      · exact fwB_8 h
      · exact fwB_8 h
theorem vwB_8 {v : VL} {y : Int32} (h : y ∈ vwB v) : i8 y = y := by
  rcases List.mem_append.mp (show y ∈ hdB v.1 v.2.1 (fln v.2.2) ++ fwB v.2.2 from h) with h | h
  · exact hdB_8 h
  · exact fwB_8 h
section
variable {B : Nat} {h : AH} {K : Outcome → AH → Prop} {A T SH EA : Nat} {sh : List Int32} {Wb : Nat → By} {x : Pc × Cn × Bool}
/-- the digest's numbers -/
theorem num4 {X : Xt} {D : Nat} {bs : List Int32} (sd : SDg h D) (w : ∀ j, j < 8 → h.EI 576 (D + 3) j = dig bs j) {i : Nat} (hi : i < 4) {K : Outcome → AH → Prop} (kk : K (.returned (some (.long (digq bs i)))) h) : MW X.G (X.d - 1) e_X16_number [.ref D, .int (nI i)] h K := dnumber_ok sd w hi kk
theorem pl_set {XX : Xt} (o : OK e_X1_plant XX) {o' : Option PT} {k : F4} {bs : List Int32} {v3 v4 v5 : Value} (t0 : h.tag A = some (0, 0)) (rT : h.R 19 A = some T) (hs : SHt h T) (tt : TT h T o') (hk : r4 h (T + 20) 0 = k) (hn : (elo o').length < 400) (w : ∀ j, j < 8 → h.EI 576 (T + 1 + 3) j = dig bs j) (hd : 7 ≤ XX.d) (kk : ∀ h' t', Fq (FS thF) h h' → TT h' T (some t') → (els t').Perm ((k, q4 bs) :: (elo o').filter fun e => decide (e.1 ≠ k)) → K (.returned none) h') : V XX K 250 [.ref A, .ref EA, .ref (T + 1), v3, v4, v5] [] h := by
  obtain ⟨⟨e1, e2, -⟩, -, sd, -⟩ := id hs
  have tD := sd.1.1
  refine k_X1_plant_250 (r2 := rT) o ?_
  refine num4 sd w (by decide) ?_
  refine k_X1_plant_259 o ?_
  refine num4 sd w (by decide) ?_
  refine k_X1_plant_264 o ?_
  refine num4 sd w (by decide) ?_
  refine k_X1_plant_269 o ?_
  refine num4 sd w (by decide) ?_
  refine k_X1_plant_274 o ?_
  refine hset_ok (v := q4 bs) hs tt hk hn (by omega) (fun h1 t' r q1 t1 p1 => ?_)
  refine k_X1_plant_277 o ?_
  exact kk h1 t' q1 t1 p1
theorem pl_key {XX : Xt} (o : OK e_X1_plant XX) {o' : Option PT} {v2 v3 v4 v5 : Value} (t0 : h.tag A = some (0, 0)) (rT : h.R 19 A = some T) (hs : SHt h T) (hc : CR XX.G h) (en : ENP h EA Wb x) (tt : TT h T o') (hd : 7 ≤ XX.d) (kk : ∀ h' v3, Fq (FS (dgF ++ thF)) h h' → TT h' T o' → r4 h' (T + 20) 0 = q4 (keyQ x.1) → V XX K 128 [.ref A, .ref EA, .ref (T + 1), v3, v4, v5] [] h') : V XX K 0 [.ref A, .ref EA, v2, v3, v4, v5] [] h := by
  obtain ⟨⟨e1, e2, -⟩, -, sd, -⟩ := id hs
  have tD := sd.1.1
  have e1' := e1
  obtain ⟨⟨n1, n2, n3, n4⟩, -, ⟨k1, k4⟩, -⟩ := id en
  have fe : ∀ {h1}, Fq (FS dgF) h h1 → (h1.tag EA = some (9, 0) ∧ h1.I 1152 EA = nI x.1.1 ∧ h1.J 1153 EA = x.1.2.1 ∧ h1.I 1154 EA = nI x.1.2.2) ∧ h1.tag (T + 1) = some (15, 0) ∧ CR XX.G h1 := fun q => ⟨⟨q.1.tag n1, by rw [q.1.I (FS.n rfl)]; exact n2, by rw [q.1.J (FS.n rfl)]; exact n3, by rw [q.1.I (FS.n rfl)]; exact n4⟩, q.1.tag tD, hc.fr q.1 (FS.n rfl)⟩
  have ek : ∀ j, j < 4 → (nI x.1.1 = nI j ↔ x.1.1 = j) := fun j hj => nI_eq (by omega) (by omega)
  have lk : (keyQ x.1).length ≤ 12 := by
    unfold keyQ
    rw [List.length_append, List.length_append, List.length_append]
    have : ((if x.1.1 = 2 then [] else nb x.1.2.1 8) : List Int32).length ≤ 8 := by split <;> simp [nb_len]
    have : ((if x.1.1 = 1 then [] else [i8 ((if x.1.1 = 2 then x.1.2.1.toInt32 else nI x.1.2.2 >>> (nI 8 &&& 31)) >>> (nI 8 &&& 31)), i8 (if x.1.1 = 2 then x.1.2.1.toInt32 else nI x.1.2.2 >>> (nI 8 &&& 31))]) : List Int32).length ≤ 2 := by split <;> simp
    have : ((if x.1.1 = 3 then [i8 (nI x.1.2.2)] else []) : List Int32).length ≤ 1 := by split <;> simp
    simp only [List.length_cons, List.length_nil]
    omega
  have s97 : ∀ h1 v3, Fq (FS dgF) h h1 → DG h1 (T + 1) (keyQ x.1) → V XX K 97 [.ref A, .ref EA, .ref (T + 1), v3, v4, v5] [] h1 := fun h1 v3 q1 g1 => by
    obtain ⟨-, td1, hc1⟩ := fe q1
    refine k_X1_plant_97 o ?_
    refine dend_ok g1 hc1 (by omega) (by omega) (fun h2 q2 s2 w2 => ?_)
    have q12 := q1.trans q2
    have t02 := q12.1.tag t0
    have rT2 : h2.R 19 A = some T := by rw [q12.1.R (FS.n rfl)]; exact rT
    have td2 := s2.1.1
    have hs2 : SHt h2 T := hs.fr q12.1 (FS.no (by decide))
    refine k_X1_plant_101 (r2 := rT2) o ?_
    refine num4 s2 w2 (by decide) ?_
    refine k_X1_plant_110 o ?_
    refine num4 s2 w2 (by decide) ?_
    refine k_X1_plant_115 o ?_
    refine num4 s2 w2 (by decide) ?_
    refine k_X1_plant_120 o ?_
    refine num4 s2 w2 (by decide) ?_
    have tT2 := hs2.1.1
    refine k_X1_plant_125 o ?_
    refine key_ok (q := q4 (keyQ x.1)) hs2 (by omega) (fun h3 q3 r3 => ?_)
    refine kk h3 v3 ((q12.mono fun f a z => ?_).trans (q3.mono fun f a z => ?_)) ((tt.fr q12.1 (fun f a hf _ => FS.no (m := ttF) (by decide) f a hf) (fun a _ => FS.n rfl)).fr q3.1 (fun f a _ hne z => hne z.1) (fun a ha z => by have := z.2; omega)) r3
    · unfold FS at z ⊢
      rw [List.contains_iff_mem] at z ⊢
      exact List.mem_append_left _ z
    · rw [z.1]; unfold FS; decide
  have s81 : ∀ h1 bs v3, Fq (FS dgF) h h1 → DG h1 (T + 1) bs → bs ++ (if x.1.1 = 3 then [i8 (nI x.1.2.2)] else []) = keyQ x.1 → V XX K 81 [.ref A, .ref EA, .ref (T + 1), v3, v4, v5] [] h1 := fun h1 bs v3 q1 g1 es => by
    obtain ⟨⟨m1, m2, m3, m4⟩, td1, hc1⟩ := fe q1
    have lb : bs.length ≤ 12 := by have := congrArg List.length es; rw [List.length_append] at this; omega
    by_cases k3 : x.1.1 = 3
    · rw [if_pos k3] at es
      refine k_X1_plant_81 (r2 := m2) o (fun q => absurd ((ek 3 (by omega)).mpr k3) q) (fun _ => ?_)
      refine k_X1_plant_89 (r2 := m4) o ?_
      refine dadd_ok g1 hc1 (by omega) (by omega) (fun h2 q2 g2 => ?_)
      exact s97 h2 _ (q1.trans q2) (by rw [← es]; exact g2)
    · rw [if_neg k3, List.append_nil] at es
      refine k_X1_plant_81 (r2 := m2) o (fun _ => ?_) (fun q => absurd ((ek 3 (by omega)).mp q) k3)
      exact s97 h1 _ q1 (by rw [← es]; exact g1)
  have s59 : ∀ h1 bs v3, Fq (FS dgF) h h1 → DG h1 (T + 1) bs → bs ++ ((if x.1.1 = 1 then [] else [i8 ((if x.1.1 = 2 then x.1.2.1.toInt32 else nI x.1.2.2 >>> (nI 8 &&& 31)) >>> (nI 8 &&& 31)), i8 (if x.1.1 = 2 then x.1.2.1.toInt32 else nI x.1.2.2 >>> (nI 8 &&& 31))]) ++ if x.1.1 = 3 then [i8 (nI x.1.2.2)] else []) = keyQ x.1 → V XX K 59 [.ref A, .ref EA, .ref (T + 1), v3, v4, v5] [.int (if x.1.1 = 2 then x.1.2.1.toInt32 else nI x.1.2.2 >>> (nI 8 &&& 31))] h1 := fun h1 bs v3 q1 g1 es => by
    obtain ⟨⟨m1, m2, m3, m4⟩, td1, hc1⟩ := fe q1
    have lb : bs.length ≤ 12 := by have := congrArg List.length es; rw [List.length_append] at this; omega
    by_cases k1' : x.1.1 = 1
    · refine k_X1_plant_59 (r2 := m2) o (fun _ => ?_) (fun q => absurd ((ek 1 (by omega)).mpr k1') q)
      rw [if_pos k1', List.nil_append] at es
      exact s81 h1 bs _ q1 g1 es
    · refine k_X1_plant_59 (r2 := m2) o (fun q => absurd ((ek 1 (by omega)).mp q) k1') (fun _ => ?_)
      rw [if_neg k1'] at es
      refine k_X1_plant_68 o ?_
      refine dadd_ok g1 hc1 (by omega) (by omega) (fun h2 q2 g2 => ?_)
      have q12 := q1.trans q2
      obtain ⟨-, td2, hc2⟩ := fe q12
      refine k_X1_plant_76 o ?_
      refine dadd_ok g2 hc2 (by rw [List.length_append]; simp only [List.length_cons, List.length_nil]; omega) (by omega) (fun h3 q3 g3 => ?_)
      refine s81 h3 _ _ (q12.trans q3) g3 ?_
      rw [← es]
      simp only [List.append_assoc, List.cons_append, List.nil_append]
  have s36 : ∀ h1 bs, Fq (FS dgF) h h1 → DG h1 (T + 1) bs → bs ++ ((if x.1.1 = 1 then [] else [i8 ((if x.1.1 = 2 then x.1.2.1.toInt32 else nI x.1.2.2 >>> (nI 8 &&& 31)) >>> (nI 8 &&& 31)), i8 (if x.1.1 = 2 then x.1.2.1.toInt32 else nI x.1.2.2 >>> (nI 8 &&& 31))]) ++ if x.1.1 = 3 then [i8 (nI x.1.2.2)] else []) = keyQ x.1 → V XX K 36 [.ref A, .ref EA, .ref (T + 1), v3, v4, v5] [] h1 := fun h1 bs q1 g1 es => by
    obtain ⟨⟨m1, m2, m3, m4⟩, td1, hc1⟩ := fe q1
    have := s59 h1 bs v3 q1 g1 es
    by_cases k2 : x.1.1 = 2
    · rw [if_pos k2] at this
      refine k_X1_plant_36 (r2 := m2) o (fun q => absurd ((ek 2 (by omega)).mpr k2) q) (fun _ => ?_)
      exact k_X1_plant_44 (r2 := m3) o this
    · rw [if_neg k2] at this
      refine k_X1_plant_36 (r2 := m2) o (fun _ => ?_) (fun q => absurd ((ek 2 (by omega)).mp q) k2)
      exact k_X1_plant_52 (r2 := m4) o this
  refine k_X1_plant_0 o ?_
  refine dbegin_ok sd (fun h1 q1 g1 => ?_)
  obtain ⟨⟨m1, m2, m3, m4⟩, td1, hc1⟩ := fe q1
  refine k_X1_plant_12 (r2 := m2) o ?_
  refine dadd_ok g1 hc1 (by decide) (by omega) (fun h2 q2 g2 => ?_)
  have q12 := q1.trans q2
  obtain ⟨⟨p1, p2, p3, p4⟩, td2, hc2⟩ := fe q12
  by_cases k2 : x.1.1 = 2
  · refine k_X1_plant_20 (r2 := p2) o (fun _ => ?_) (fun q => absurd ((ek 2 (by omega)).mpr k2) q)
    refine s36 h2 _ q12 g2 ?_
    unfold keyQ
    rw [if_pos k2, if_pos k2]
    rfl
  · refine k_X1_plant_20 (r2 := p2) o (fun q => absurd ((ek 2 (by omega)).mp q) k2) (fun _ => ?_)
    refine k_X1_plant_28 (r2 := p3) o ?_
    refine daddLong_ok g2 hc2 (by simp) (by omega) (fun h3 q3 g3 => ?_)
    refine s36 h3 _ (q12.trans q3) g3 ?_
    unfold keyQ
    rw [if_neg k2, if_neg k2]
    simp only [List.append_assoc, List.nil_append]
theorem plant_ok {G : Gt} {d : Nat} {o' : Option PT} (t0 : h.tag A = some (0, 0)) (rT : h.R 19 A = some T) (hs : SHt h T) (hc : CR G h) (en : ENP h EA Wb x) (tt : TT h T o') (sw : SHW h A SH sh) (hsh : sh.length ≤ 1008) (hn : (elo o').length < 400) (hd : 46 ≤ d) (kk : ∀ h' t', Fq (FS plF) h h' → SHW h' A SH sh → TT h' T (some t') → (els t').Perm (entQ Wb x :: (elo o').filter fun e => decide (e.1 ≠ (entQ Wb x).1)) → K (.returned none) h') : MW G d e_X1_plant [.ref A, .ref EA] h K := by
  refine st_X1_plant fun XX o hG hD _ => ?_
  subst hG; subst hD
  have ek : ∀ j, j < 4 → (nI x.1.1 = nI j ↔ x.1.1 = j) := fun j hj => nI_eq (by have := en.2.2.1; omega) (by omega)
  refine pl_key o t0 rT hs hc en tt (by omega) (fun h1 v3 q1 tt1 hk1 => ?_)
  have t01 := q1.1.tag t0
  have rT1 : h1.R 19 A = some T := by rw [q1.1.R (FS.n rfl)]; exact rT
  have hs1 : SHt h1 T := hs.fr q1.1 (FS.no (by decide))
  have hc1 : CR XX.G h1 := hc.fr q1.1 (FS.n rfl)
  have en1 : ENP h1 EA Wb x := en.fr q1.1 (FS.no (by decide)) (fun f a f1 f2 z => by
    have : ∀ f ∈ dgF ++ thF, ¬ (3712 ≤ f ∧ f ≤ 3718) := by decide
    exact this f (List.contains_iff_mem.mp z) ⟨f1, f2⟩)
  have sw1 : SHW h1 A SH sh := sw.fr q1.1 (FS.no (by decide))
  obtain ⟨⟨n1, n2, n3, n4⟩, ⟨n5, n6⟩, ⟨k1, k4⟩, m2, m3⟩ := id en1
  obtain ⟨⟨e1, e2, -⟩, -, sd, -⟩ := id hs1
  have tD := sd.1.1
  have mono1 : ∀ f a, FS (dgF ++ thF) f a → FS plF f a := fun f a z => by
    unfold FS at z ⊢
    rw [List.contains_iff_mem] at z ⊢
    exact List.mem_append_left _ z
  -- the end: what was digested is set
  have fin : ∀ h2 bs v4 v5, Fq (FS (dgF ++ shF)) h1 h2 → SHW h2 A SH sh → (∀ j, j < 8 → h2.EI 576 (T + 1 + 3) j = dig bs j) → bs = valQ Wb x → V XX K 250 [.ref A, .ref EA, .ref (T + 1), v3, v4, v5] [] h2 := fun h2 bs v4 v5 q2 sw2 w2 eb => by
    refine pl_set (k := q4 (keyQ x.1)) o (q2.1.tag t01) (by rw [q2.1.R (FS.n rfl)]; exact rT1) (hs1.fr q2.1 (FS.no (by decide))) (tt1.fr q2.1 (fun f a hf _ => FS.no (m := ttF) (by decide) f a hf) (fun a _ => FS.n rfl)) (by rw [r4_fr q2.1 (FS.n rfl)]; exact hk1) hn w2 (by omega) (fun h3 t' q3 t3 p3 => ?_)
    refine kk h3 t' ((q1.mono mono1).trans ((q2.mono fun f a z => ?_).trans (q3.mono fun f a z => plF.t z))) (sw2.fr q3.1 (FS.no (by decide))) t3 (by rw [eb] at p3; exact p3)
    unfold FS at z ⊢
    rw [List.contains_iff_mem] at z ⊢
    rcases List.mem_append.mp z with z | z
    · exact List.mem_append_left _ (List.mem_append_left _ z)
    · exact List.mem_append_right _ z
  have dgm : ∀ f a, FS dgF f a → FS (dgF ++ shF) f a := fun f a z => by
    unfold FS at z ⊢
    rw [List.contains_iff_mem] at z ⊢
    exact List.mem_append_left _ z
  have shm : ∀ f a, FS shF f a → FS (dgF ++ shF) f a := fun f a z => by
    unfold FS at z ⊢
    rw [List.contains_iff_mem] at z ⊢
    exact List.mem_append_right _ z
  by_cases k2 : x.1.1 = 2
  · obtain ⟨M, d1, ⟨d2, d3, d4⟩, d5⟩ := m2 k2
    have d6 := d5.1
    refine k_X1_plant_128 (r2 := n2) o (fun q => absurd ((ek 2 (by omega)).mpr k2) q) (fun _ => ?_)
    refine k_X1_plant_136 (r2 := d1) (r7 := d1) (r10 := d6) o ?_
    refine digB_ok t01 rT1 hs1 hc1 d4 d5 (by omega) (fun h2 q2 s2 w2 => ?_)
    refine k_X1_plant_154 o ?_
    exact fin h2 _ _ _ (q2.mono dgm) (sw1.fr q2.1 (FS.no (by decide))) w2 (by unfold valQ; rw [if_pos k2])
  · refine k_X1_plant_128 (r2 := n2) o (fun _ => ?_) (fun q => absurd ((ek 2 (by omega)).mp q) k2)
    by_cases k1' : x.1.1 = 1
    · refine k_X1_plant_157 (r2 := n2) o (fun q => absurd ((ek 1 (by omega)).mpr k1') q) (fun _ => ?_)
      refine k_X1_plant_165 o ?_
      refine dbegin_ok sd (fun h2 q2 g2 => ?_)
      have tD2 := q2.1.tag tD
      have tE2 := q2.1.tag n1
      have b2 : h2.J 1156 EA = x.2.1.2.1 := by rw [q2.1.J (FS.n rfl)]; exact n5
      refine k_X1_plant_169 (r2 := b2) o ?_
      refine daddLong_ok g2 (hc1.fr q2.1 (FS.n rfl)) (by decide) (by omega) (fun h3 q3 g3 => ?_)
      have q23 := q2.trans q3
      have tD3 := q23.1.tag tD
      have tE3 := q23.1.tag n1
      have b3 : h3.J 1157 EA = x.2.1.2.2.1 := by rw [q23.1.J (FS.n rfl)]; exact n6
      refine k_X1_plant_177 (r2 := b3) o ?_
      refine daddLong_ok g3 (hc1.fr q23.1 (FS.n rfl)) (by rw [List.length_append, nb_len]; decide) (by omega) (fun h4 q4' g4 => ?_)
      have q24 := q23.trans q4'
      have tD4 := q24.1.tag tD
      refine k_X1_plant_185 o ?_
      refine dend_ok g4 (hc1.fr q24.1 (FS.n rfl)) (by rw [List.length_append, List.length_append, nb_len, nb_len]; decide) (by omega) (fun h5 q5 s5 w5 => ?_)
      refine k_X1_plant_189 o ?_
      exact fin h5 _ _ _ ((q24.trans q5).mono dgm) (sw1.fr (q24.trans q5).1 (FS.no (by decide))) w5 (by unfold valQ; rw [if_neg k2, if_pos k1', List.nil_append])
    · have k3 : x.1.1 = 3 := by omega
      obtain ⟨w, w1, w2, w3, w4, w5, w6, w7⟩ := m3 k3
      have ss := sw1.2.1
      refine k_X1_plant_157 (r2 := n2) o (fun _ => ?_) (fun q => absurd ((ek 1 (by omega)).mp q) k1')
      refine k_X1_plant_192 (r2 := ss) (r5 := w1) o ?_
      refine write_ok t01 sw1 w2 w4 w5 (by omega) (by show sh.length + (vwB (lvE w)).length ≤ 2048; omega) (fun h2 q2 sw2 => ?_)
      have sw2 : SHW h2 A SH (sh ++ vwB (lvE w)) := sw2
      have tD2 := q2.1.tag tD
      refine k_X1_plant_206 o ?_
      refine dbegin_ok (sd.fs q2.1 (by decide)) (fun h3 q3 g3 => ?_)
      refine k_X1_plant_210 o ?_
      have loop : ∀ m k h4, m + k = (vwB (lvE w)).length → Fq (FS dgF) h3 h4 → DG h4 (T + 1) ((vwB (lvE w)).take k) → V XX K 214 [.ref A, .ref EA, .ref (T + 1), v3, .int (nI sh.length), .int (nI (sh.length + k))] [] h4 := by
        intro m
        induction m with
        | zero =>
          intro k h4 hk q4' g4
          have ekk : k = (vwB (lvE w)).length := by omega
          subst ekk
          have q24 : Fq (FS (dgF ++ shF)) h1 h4 := (q2.mono shm).trans ((q3.trans q4').mono dgm)
          have t04 := q24.1.tag t01
          have tD4 := q24.1.tag tD
          have sw4 : SHW h4 A SH (sh ++ vwB (lvE w)) := (sw2.fr q3.1 (FS.no (by decide))).fr q4'.1 (FS.no (by decide))
          have s4 := sw4.2.1
          rw [List.length_append] at s4
          refine k_X1_plant_214 (r2 := s4) o (fun _ => ?_) (fun q => absurd (Int32.le_refl _) q)
          refine k_X1_plant_240 o ?_
          rw [List.take_length] at g4
          refine dend_ok g4 (hc1.fr q24.1 (FS.n rfl)) (by omega) (by omega) (fun h5 q5 s5 w5 => ?_)
          have q25 := q24.trans (q5.mono dgm)
          have t05 := q25.1.tag t01
          have sw5 : SHW h5 A SH (sh ++ vwB (lvE w)) := sw4.fr q5.1 (FS.no (by decide))
          refine k_X1_plant_244 o ?_
          have q6 : Fq (FS shF) h5 (h5.sI 22 A (nI sh.length)) := Fq.sI (Fq.refl h5) (fsr rfl)
          have sw6 : SHW (h5.sI 22 A (nI sh.length)) A SH sh := by
            obtain ⟨⟨z1, z2⟩, z3, z4, z5⟩ := sw5
            refine ⟨⟨by rw [q6.1.R (FS.n rfl)]; exact z1, q6.1.tag z2⟩, by simp [n_sI, z_sI, tag_sI, I_sI, J_sI, R_sI, EI_sI, EJ_sI, ER_sI, n_sJ, z_sJ, tag_sJ, I_sJ, J_sJ, R_sJ, EI_sJ, EJ_sJ, ER_sJ, n_sR, z_sR, tag_sR, I_sR, J_sR, R_sR, EI_sR, EJ_sR, ER_sR, n_sEI, z_sEI, tag_sEI, I_sEI, J_sEI, R_sEI, EI_sEI, EJ_sEI, ER_sEI, n_sEJ, z_sEJ, tag_sEJ, I_sEJ, J_sEJ, R_sEJ, EI_sEJ, EJ_sEJ, ER_sEJ, n_sER, z_sER, tag_sER, I_sER, J_sER, R_sER, EI_sER, EJ_sER, ER_sER, n_nw, z_nw, tag_nw, I_nw, J_nw, R_nw, EI_nw, EJ_nw, ER_nw], by omega, fun i y hy => ?_⟩
            have := z5 i y (by rw [List.getElem?_append_left (List.getElem?_eq_some_iff.mp hy).1]; exact hy)
            simpa [n_sI, z_sI, tag_sI, I_sI, J_sI, R_sI, EI_sI, EJ_sI, ER_sI, n_sJ, z_sJ, tag_sJ, I_sJ, J_sJ, R_sJ, EI_sJ, EJ_sJ, ER_sJ, n_sR, z_sR, tag_sR, I_sR, J_sR, R_sR, EI_sR, EJ_sR, ER_sR, n_sEI, z_sEI, tag_sEI, I_sEI, J_sEI, R_sEI, EI_sEI, EJ_sEI, ER_sEI, n_sEJ, z_sEJ, tag_sEJ, I_sEJ, J_sEJ, R_sEJ, EI_sEJ, EJ_sEJ, ER_sEJ, n_sER, z_sER, tag_sER, I_sER, J_sER, R_sER, EI_sER, EJ_sER, ER_sER, n_nw, z_nw, tag_nw, I_nw, J_nw, R_nw, EI_nw, EJ_nw, ER_nw] using this
          refine fin _ (vwB (lvE w)) _ _ (q25.trans (q6.mono shm)) sw6 (fun j hj => ?_) (by unfold valQ; rw [if_neg k2, if_neg k1', w3])
          rw [q6.1.EI (FS.n rfl)]; exact w5 j hj
        | succ m ih =>
          intro k h4 hk q4' g4
          have q24 : Fq (FS (dgF ++ shF)) h1 h4 := (q2.mono shm).trans ((q3.trans q4').mono dgm)
          have t04 := q24.1.tag t01
          have tD4 := q24.1.tag tD
          have sw4 : SHW h4 A SH (sh ++ vwB (lvE w)) := (sw2.fr q3.1 (FS.no (by decide))).fr q4'.1 (FS.no (by decide))
          obtain ⟨⟨z1, z2⟩, s4, z4, z5⟩ := sw4
          rw [List.length_append] at s4
          refine k_X1_plant_214 (r2 := s4) o (fun q => absurd ((nI_leI (by omega) (by omega)).mp q) (by omega)) (fun _ => ?_)
          obtain ⟨y, hy⟩ : ∃ y, (vwB (lvE w))[k]? = some y := ⟨_, List.getElem?_eq_getElem (by omega)⟩
          have ey := z5 (sh.length + k) y (by rw [List.getElem?_append_right (by omega), Nat.add_sub_cancel_left]; exact hy)
          have ix : IX (nI (sh.length + k)) 2048 (sh.length + k) := IX.mk (by omega) (by omega)
          refine k_X1_plant_223 (r8 := ey) o ?_
          refine dadd_ok g4 (hc1.fr q24.1 (FS.n rfl)) (by rw [List.length_take]; omega) (by omega) (fun h5 q5 g5 => ?_)
          refine k_X1_plant_234 o ?_
          rw [nI_add, Nat.add_assoc]
          refine ih (k + 1) h5 (by omega) (q4'.trans q5) ?_
          rw [List.take_succ, hy]
          have : i8 y = y := vwB_8 (List.mem_of_getElem? hy)
          rw [this] at g5
          exact g5
      exact loop (vwB (lvE w)).length 0 h3 (by omega) (Fq.refl h3) (by rw [List.take_zero]; exact g3)
end
