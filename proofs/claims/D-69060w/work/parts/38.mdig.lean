/-! the twin's digest: the same words, in longs -/
def em (x : Int32) : Int64 := lN (um x)
theorem un_em (x : Int32) : un (em x) = um x := un_l (by have := um_lt x; omega)
theorem em_xor (x y : Int32) : em (x ^^^ y) = em x ^^^ em y := un_inj (by rw [un_xor, un_em, un_em, un_em, um_xor])
theorem em_and (x y : Int32) : em (x &&& y) = em x &&& em y := un_inj (by rw [un_and, un_em, un_em, un_em, um_and])
def cg (x : Int64) (y : Int32) : Prop := un x % 4294967296 = um y
theorem cg_em (x : Int32) : cg (em x) x := by unfold cg; rw [un_em]; exact Nat.mod_eq_of_lt (um_lt x)
theorem cg.add {x x' : Int64} {y y' : Int32} (h : cg x y) (h' : cg x' y') : cg (x + x') (y + y') := by
  unfold cg at *; rw [un_add, um_add]; omega
theorem cg.mask {x : Int64} {y : Int32} (h : cg x y) : x &&& (4294967295 : Int64) = em y := un_inj (by rw [un_and, un_em, show un (4294967295 : Int64) = 2 ^ 32 - 1 from rfl, and_m]; exact h)
theorem um_not (x : Int32) : um (x ^^^ (-1)) = 4294967295 - um x := by
  have e : (x ^^^ (-1 : Int32)).toBitVec = ~~~ x.toBitVec := by
    rw [Int32.toBitVec_xor]
    show x.toBitVec ^^^ BitVec.allOnes 32 = _
    rw [BitVec.xor_allOnes]
  unfold um
  rw [e, BitVec.toNat_not]
theorem em_not (x : Int32) : (4294967295 : Int64) - em x = em (x ^^^ (-1)) := un_inj (by
  have := um_lt x
  rw [un_sub, un_em, un_em, um_not, show un (4294967295 : Int64) = 4294967295 from rfl]; omega)
theorem em_sr (x : Int32) {n : Nat} (h : n < 32) : em x >>> ((nI n).toInt64 &&& 63) = em (sr x n) := un_inj (by
  have := um_lt x
  rw [un_shr _ (by omega) (by rw [un_em]; omega), un_em, un_em]
  unfold sr; rw [um_ushr _ h])
theorem um_rr (x : Int32) {n : Nat} (h0 : 0 < n) (h : n < 32) : um (rr x n) = (um x >>> n) ||| ((um x <<< (32 - n)) % 4294967296) := by
  unfold rr
  have e : (-(nI n)) &&& 31 = nI (32 - n) &&& 31 := by
    have : ∀ k : Fin 32, 0 < k.val → (-(nI k.val)) &&& (31 : Int32) = nI (32 - k.val) &&& 31 := by decide +kernel
    exact this ⟨n, h⟩ h0
  rw [um_or, e, um_shl _ (by omega)]
  unfold sr; rw [um_ushr _ h]
theorem turned_ok {G : Gt} {d : Nat} {h : AH} {K : Outcome → AH → Prop} {x : Int32} {n : Nat} (h0 : 0 < n) (hn : n < 32) (kk : K (.returned (some (.long (em (rr x n))))) h) : MW G d e_X27_turned [.long (em x), .int (nI n)] h K := by
  refine st_X27_turned fun X o hG hD hf => ?_
  have e : ((em x >>> ((nI n).toInt64 &&& 63)) ||| (em x <<< ((nI 32 - nI n).toInt64 &&& 63))) &&& (4294967295 : Int64) = em (rr x n) := un_inj (by
    have := um_lt x
    rw [nI_sub (by omega), un_and, un_or, un_shr _ (by omega) (by rw [un_em]; omega), un_shl _ (by omega), un_em, un_em, show un (4294967295 : Int64) = 2 ^ 32 - 1 from rfl, and_m, um_rr x h0 hn, Nat.or_mod_two_pow]
    have l : um x >>> n % 2 ^ 32 = um x >>> n := Nat.mod_eq_of_lt (by rw [Nat.shiftRight_eq_div_pow]; exact Nat.lt_of_le_of_lt (Nat.div_le_self ..) this)
    rw [l, show (18446744073709551616 : Nat) = 2 ^ 32 * 2 ^ 32 from rfl, Nat.mod_mul_right_mod])
  refine k_X27_turned_0 o ?_
  rw [e]; exact kk
theorem mb_w {b0 b1 b2 b3 : Int32} : um (((((b0 &&& nI 255) <<< (nI 24 &&& 31)) ||| ((b1 &&& nI 255) <<< (nI 16 &&& 31))) ||| ((b2 &&& nI 255) <<< (nI 8 &&& 31))) ||| (b3 &&& nI 255)) = ((um b0 % 256 * 256 + um b1 % 256) * 256 + um b2 % 256) * 256 + um b3 % 256 := by
  have m : ∀ b : Int32, um (b &&& nI 255) = um b % 256 := fun b => by rw [um_and, um_n (by omega), show (255 : Nat) = 2 ^ 8 - 1 from rfl, and_m]
  rw [um_or, um_or, um_or, um_shl _ (by omega), um_shl _ (by omega), um_shl _ (by omega), m, m, m, m]
  have l0 : um b0 % 256 < 256 := Nat.mod_lt _ (by omega)
  have l1 : um b1 % 256 < 256 := Nat.mod_lt _ (by omega)
  have l2 : um b2 % 256 < 256 := Nat.mod_lt _ (by omega)
  have l3 : um b3 % 256 < 256 := Nat.mod_lt _ (by omega)
  generalize um b0 % 256 = x0 at *
  generalize um b1 % 256 = x1 at *
  generalize um b2 % 256 = x2 at *
  generalize um b3 % 256 = x3 at *
  simp only [Nat.shiftLeft_eq]
  rw [Nat.mod_eq_of_lt (by omega), Nat.mod_eq_of_lt (by omega), Nat.mod_eq_of_lt (by omega), or_add (by omega)]
  rw [show x0 * 2 ^ 24 + x1 * 2 ^ 16 = (x0 * 256 + x1) * 2 ^ 16 by omega, or_add (by omega)]
  rw [show (x0 * 256 + x1) * 2 ^ 16 + x2 * 2 ^ 8 = ((x0 * 256 + x1) * 256 + x2) * 2 ^ 8 by omega, or_add (by omega)]
def mdF : List Nat := [10000 + 1953, 10000 + 1971, 10000 + 1987, 3329]
def SMd (h : AH) (D : Nat) : Prop := (h.tag D = some (26, 0) ∧ h.R 3328 D = some (D + 1) ∧ h.R 3330 D = some (D + 2) ∧ h.R 3331 D = some (D + 3)) ∧ h.tag (D + 1) = some (1953, 4096) ∧ h.tag (D + 2) = some (1971, 8) ∧ h.tag (D + 3) = some (1987, 64)
theorem SMd.fr {P : Nat → Nat → Prop} {h h' : AH} {D : Nat} (q : Fr P h h') (np : ∀ f, f = 3328 ∨ f = 3330 ∨ f = 3331 → ¬ P f D) (s : SMd h D) : SMd h' D := by
  obtain ⟨⟨e1, e2, e3, e4⟩, e6, e7, e8⟩ := s
  exact ⟨⟨q.tag e1, by rw [q.R (np _ (by omega))]; exact e2, by rw [q.R (np _ (by omega))]; exact e3, by rw [q.R (np _ (by omega))]; exact e4⟩, q.tag e6, q.tag e7, q.tag e8⟩
theorem SMd.fs {l : List Nat} {h h' : AH} {D : Nat} (q : Fr (FS l) h h') (np : [3328, 3330, 3331].all (fun f => !l.contains f) = true) (s : SMd h D) : SMd h' D := by
  refine s.fr q fun f hf => FS.n ?_
  rw [List.all_eq_true] at np
  have := np f (by simp only [List.mem_cons, List.not_mem_nil, or_false]; exact hf)
  simpa using this
def CT (G : Gt) (h : AH) : Prop := h.tag (G.ad 14) = some (4099, 64) ∧ ∀ t, t < 64 → h.EJ 4099 (G.ad 14) t = em (RC t)
theorem CT.fr {G : Gt} {P : Nat → Nat → Prop} {h h' : AH} (q : Fr P h h') (np : ¬ P 14099 (G.ad 14)) (s : CT G h) : CT G h' := ⟨q.tag s.1, fun t ht => by rw [q.EJ np]; exact s.2 t ht⟩
theorem tblock_ok {G : Gt} {d : Nat} {h : AH} {K : Outcome → AH → Prop} {D n : Nat} {v : Nat → Int32} (hs : SMd h D) (hc : CT G h) (hn : n + 64 ≤ 4096) (hw : ∀ j, j < 8 → h.EJ 1971 (D + 2) j = em (v j)) (hd : 1 ≤ d)
    (kk : ∀ h', Fq (FS [10000 + 1971, 10000 + 1987]) h h' → (∀ j, j < 8 → h'.EJ 1971 (D + 2) j = em (cmp (fun j => h.EI 1953 (D + 1) (n + j)) v j)) → K (.returned none) h') : MW G d e_X27_block [.ref D, .int (nI n)] h K := by
  refine st_X27_block fun X o hG hD hf => ?_
  subst hG; subst hD
  generalize hb : (fun j => h.EI 1953 (D + 1) (n + j)) = b at *
  have hbj : ∀ j, h.EI 1953 (D + 1) (n + j) = b j := fun j => by rw [← hb]
  have loop3 : ∀ m t v19 v20 v21 v22 h1, m + t = 64 → Fq (FS [10000 + 1987]) h h1 → (∀ j, j < 64 → h1.EJ 1987 (D + 3) j = em (sch b j)) →
      V X K 243 [.ref D, .int (nI n), .long (em (rnds b v t 0)), nov, .long (em (rnds b v t 1)), nov, .long (em (rnds b v t 2)), nov, .long (em (rnds b v t 3)), nov, .long (em (rnds b v t 4)), nov, .long (em (rnds b v t 5)), nov, .long (em (rnds b v t 6)), nov, .long (em (rnds b v t 7)), nov, .int (nI t), v19, v20, v21, v22] [] h1 := by
    intro m
    induction m with
    | zero =>
      intro t v19 v20 v21 v22 h1 ht f1 g1
      have : t = 64 := by omega
      subst this
      obtain ⟨⟨e1, e2, e3, e4⟩, e6, e7, e8⟩ := hs.fs f1.1 rfl
      have w1 : ∀ j, j < 8 → h1.EJ 1971 (D + 2) j = em (v j) := fun j hj => by rw [f1.1.EJ (FS.n rfl)]; exact hw j hj
      have x0 : ∀ k, k < 8 → IX (nI k) 8 k := fun k hk => IX.mk hk (by omega)
      have y0 := x0 0 (by omega)
      have y1 := x0 1 (by omega)
      have y2 := x0 2 (by omega)
      have y3 := x0 3 (by omega)
      have y4 := x0 4 (by omega)
      have y5 := x0 5 (by omega)
      have y6 := x0 6 (by omega)
      have y7 := x0 7 (by omega)
      have cm : ∀ j, (em (v j) + em (rnds b v 64 j)) &&& (4294967295 : Int64) = em (cmp b v j) := fun j => ((cg_em _).add (cg_em _)).mask
      refine k_X27_block_243 o (fun c => ?_) (fun c => ?_)
      rotate_left
      · exact absurd (by decide) c
      refine k_X27_block_396 o ?_
      refine k_X27_block_490 o ?_
      refine (kk _ (by refine (Fq.sEJ (Fq.sEJ (Fq.sEJ (Fq.sEJ (Fq.sEJ (Fq.sEJ (Fq.sEJ (Fq.sEJ (f1.mono (FS.mono rfl)) ?_) ?_) ?_) ?_) ?_) ?_) ?_) ?_) <;> exact rfl) fun j hj => ?_)
      have : j = 0 ∨ j = 1 ∨ j = 2 ∨ j = 3 ∨ j = 4 ∨ j = 5 ∨ j = 6 ∨ j = 7 := by omega
      rcases this with q | q | q | q | q | q | q | q <;> subst q <;> simp [EJ_sEJ, w1, cm]
    | succ m ih =>
      intro t v19 v20 v21 v22 h1 ht f1 g1
      obtain ⟨⟨e1, e2, e3, e4⟩, e6, e7, e8⟩ := hs.fs f1.1 rfl
      obtain ⟨c1, c2⟩ := hc.fr f1.1 (FS.n rfl)
      have c3 := c2 t (by omega)
      have g2 := g1 t (by omega)
      have it : IX (nI t) 64 t := IX.mk (by omega) (by omega)
      generalize hu : rnds b v t = u at *
      refine k_X27_block_243 o (fun c => ?_) (fun c => ?_)
      · exact absurd ((nI_leI (by omega) (by omega)).mp c) (by omega)
      refine k_X27_block_250 o ?_
      refine turned_ok (by omega) (by omega) ?_
      refine k_X27_block_259 o ?_
      refine turned_ok (by omega) (by omega) ?_
      refine k_X27_block_266 o ?_
      refine turned_ok (by omega) (by omega) ?_
      refine k_X27_block_274 o ?_
      refine turned_ok (by omega) (by omega) ?_
      refine k_X27_block_314 o ?_
      refine turned_ok (by omega) (by omega) ?_
      refine k_X27_block_320 o ?_
      refine turned_ok (by omega) (by omega) ?_
      refine k_X27_block_327 o ?_
      have hx : cg ((((em (u 7) + ((em (rr (u 4) 6) ^^^ em (rr (u 4) 11)) ^^^ em (rr (u 4) 25))) + ((em (u 4) &&& em (u 5)) ^^^ (((4294967295 : Int64) - em (u 4)) &&& em (u 6)))) + em (RC t)) + em (sch b t)) (rX (RC t) (sch b t) u) := by
        rw [em_not]
        simp only [← em_xor, ← em_and]
        exact ((((cg_em _).add (cg_em _)).add (cg_em _)).add (cg_em _)).add (cg_em _)
      have hy : cg (((em (rr (u 0) 2) ^^^ em (rr (u 0) 13)) ^^^ em (rr (u 0) 22)) + (((em (u 0) &&& em (u 1)) ^^^ (em (u 0) &&& em (u 2))) ^^^ (em (u 1) &&& em (u 2)))) (rY u) := by
        simp only [← em_xor, ← em_and]
        exact (cg_em _).add (cg_em _)
      rw [(hx.add hy).mask, ((cg_em _).add hx).mask, nI_add]
      have I := ih (t + 1)
      have r0 : rnds b v (t + 1) = rnd (RC t) (sch b t) u := by rw [← hu]; rfl
      rw [r0] at I
      exact I _ _ _ _ h1 (by omega) f1 g1
  have loop2 : ∀ m t v3 v4 v5 v6 v7 v8 v9 v10 h1, m + t = 64 → 16 ≤ t → Fq (FS [10000 + 1987]) h h1 → (∀ j, j < t → h1.EJ 1987 (D + 3) j = em (sch b j)) → V X K 66 [.ref D, .int (nI n), .int (nI t), v3, v4, v5, v6, v7, v8, v9, v10, nov, nov, nov, nov, nov, nov, nov, nov, nov, nov, nov, nov] [] h1 := by
    intro m
    induction m with
    | zero =>
      intro t v3 v4 v5 v6 v7 v8 v9 v10 h1 ht h16 f1 g1
      have : t = 64 := by omega
      subst this
      obtain ⟨⟨e1, e2, e3, e4⟩, e6, e7, e8⟩ := hs.fs f1.1 rfl
      have w1 : ∀ j, j < 8 → h1.EJ 1971 (D + 2) j = em (v j) := fun j hj => by rw [f1.1.EJ (FS.n rfl)]; exact hw j hj
      have x0 : ∀ k, k < 8 → IX (nI k) 8 k := fun k hk => IX.mk hk (by omega)
      have y0 := x0 0 (by omega)
      have y1 := x0 1 (by omega)
      have y2 := x0 2 (by omega)
      have y3 := x0 3 (by omega)
      have y4 := x0 4 (by omega)
      have y5 := x0 5 (by omega)
      have y6 := x0 6 (by omega)
      have y7 := x0 7 (by omega)
      have z0 := w1 0 (by omega)
      have z1 := w1 1 (by omega)
      have z2 := w1 2 (by omega)
      have z3 := w1 3 (by omega)
      have z4 := w1 4 (by omega)
      have z5 := w1 5 (by omega)
      have z6 := w1 6 (by omega)
      have z7 := w1 7 (by omega)
      refine k_X27_block_66 o (fun c => ?_) (fun c => ?_)
      rotate_left
      · exact absurd (by decide) c
      refine k_X27_block_175 o ?_
      exact loop3 64 0 _ _ _ _ h1 rfl f1 g1
    | succ m ih =>
      intro t v3 v4 v5 v6 v7 v8 v9 v10 h1 ht h16 f1 g1
      obtain ⟨⟨e1, e2, e3, e4⟩, e6, e7, e8⟩ := hs.fs f1.1 rfl
      have i1 : IX (nI t - nI 15) 64 (t - 15) := by rw [nI_sub (by omega)]; exact IX.mk (by omega) (by omega)
      have i2 : IX (nI t - nI 2) 64 (t - 2) := by rw [nI_sub (by omega)]; exact IX.mk (by omega) (by omega)
      have i3 : IX (nI t - nI 16) 64 (t - 16) := by rw [nI_sub (by omega)]; exact IX.mk (by omega) (by omega)
      have i4 : IX (nI t - nI 7) 64 (t - 7) := by rw [nI_sub (by omega)]; exact IX.mk (by omega) (by omega)
      have i5 : IX (nI t) 64 t := IX.mk (by omega) (by omega)
      have x1 := g1 (t - 15) (by omega)
      have x2 := g1 (t - 2) (by omega)
      have x3 := g1 (t - 16) (by omega)
      have x4 := g1 (t - 7) (by omega)
      refine k_X27_block_66 o (fun c => ?_) (fun c => ?_)
      · exact absurd ((nI_leI (by omega) (by omega)).mp c) (by omega)
      refine k_X27_block_72 o ?_
      refine turned_ok (by omega) (by omega) ?_
      refine k_X27_block_98 o ?_
      refine turned_ok (by omega) (by omega) ?_
      refine k_X27_block_104 o ?_
      refine turned_ok (by omega) (by omega) ?_
      refine k_X27_block_118 o ?_
      refine turned_ok (by omega) (by omega) ?_
      refine k_X27_block_125 o ?_
      rw [nI_add]
      refine ih (t + 1) _ _ _ _ _ _ _ _ _ (by omega) (by omega) (f1.sEJ rfl) fun j hj => ?_
      rw [EJ_sEJ]
      split
      · next q =>
        rw [q.2.2, sch_ge h16, em_sr _ (by omega), em_sr _ (by omega)]
        simp only [← em_xor]
        exact ((((cg_em _).add (cg_em _)).add (cg_em _)).add (cg_em _)).mask
      · next q => exact g1 j (by have : j ≠ t := fun z => q ⟨rfl, rfl, z⟩; omega)
  have loop1 : ∀ m t v3 v4 v5 h1, m + t = 16 → Fq (FS [10000 + 1987]) h h1 → (∀ j, j < t → h1.EJ 1987 (D + 3) j = em (sch b j)) → V X K 2 [.ref D, .int (nI n), .int (nI t), v3, v4, v5, nov, nov, nov, nov, nov, nov, nov, nov, nov, nov, nov, nov, nov, nov, nov, nov, nov] [] h1 := by
    intro m
    induction m with
    | zero =>
      intro t v3 v4 v5 h1 ht f1 g1
      have : t = 16 := by omega
      subst this
      refine k_X27_block_2 o (fun c => ?_) (fun c => ?_)
      · refine k_X27_block_63 o ?_
        exact loop2 48 16 _ _ _ _ _ _ _ _ h1 rfl (by omega) f1 g1
      · exact absurd (by decide) c
    | succ m ih =>
      intro t v3 v4 v5 h1 ht f1 g1
      obtain ⟨⟨e1, e2, e3, e4⟩, e6, e7, e8⟩ := hs.fs f1.1 rfl
      have i5 : IX (nI t) 64 t := IX.mk (by omega) (by omega)
      have m4 : ∀ k, k < 4 → IX (nI n + nI 4 * nI t + nI k) 4096 (n + (4 * t + k)) := fun k hk => by rw [nI_mul, nI_add, nI_add, Nat.add_assoc]; exact IX.mk (by omega) (by omega)
      have bj : ∀ k, k < 4 → h1.EI 1953 (D + 1) (n + (4 * t + k)) = b (4 * t + k) := fun k hk => by rw [f1.1.EI (FS.n rfl)]; exact hbj _
      have st : ∀ (w : Nat) (x : Int32), w < 16777216 → (256 : Int64) * lN w + (x &&& nI 255).toInt64 = lN (w * 256 + um x % 256) := fun w x hw => un_inj (by
        have hm : um (x &&& nI 255) = um x % 256 := by rw [um_and, um_n (by omega), show (255 : Nat) = 2 ^ 8 - 1 from rfl, and_m]
        rw [un_add, un_mul, un_64 _ (by rw [hm]; omega), hm, un_l (by omega), un_l (by omega), show un (256 : Int64) = 256 from rfl]; omega)
      have q0 := m4 0 (by omega)
      have q1 := m4 1 (by omega)
      have q2 := m4 2 (by omega)
      have q3 := m4 3 (by omega)
      have p0 := bj 0 (by omega)
      have p1 := bj 1 (by omega)
      have p2 := bj 2 (by omega)
      have p3 := bj 3 (by omega)
      refine k_X27_block_2 o (fun c => ?_) (fun c => ?_)
      · exact absurd ((nI_leI (by omega) (by omega)).mp c) (by omega)
      refine k_X27_block_8 o ?_
      show V X K 13 [.ref D, .int (nI n), .int (nI t), .long (lN 0), nov, .int (nI 0), nov, nov, nov, nov, nov, nov, nov, nov, nov, nov, nov, nov, nov, nov, nov, nov, nov] [] h1
      refine k_X27_block_13 o (fun c => ?_) (fun c => ?_)
      · exact absurd c (by decide)
      refine k_X27_block_19 o ?_
      rw [st _ _ (by omega), nI_add]
      refine k_X27_block_13 o (fun c => ?_) (fun c => ?_)
      · exact absurd c (by decide)
      refine k_X27_block_19 o ?_
      rw [st _ _ (by omega), nI_add]
      refine k_X27_block_13 o (fun c => ?_) (fun c => ?_)
      · exact absurd c (by decide)
      refine k_X27_block_19 o ?_
      rw [st _ _ (by omega), nI_add]
      refine k_X27_block_13 o (fun c => ?_) (fun c => ?_)
      · exact absurd c (by decide)
      refine k_X27_block_19 o ?_
      rw [st _ _ (by omega), nI_add]
      refine k_X27_block_13 o (fun c => ?_) (fun c => ?_)
      rotate_left
      · exact absurd (by decide) c
      refine k_X27_block_50 o ?_
      rw [nI_add]
      refine ih (t + 1) _ _ _ _ (by omega) (f1.sEJ rfl) fun j hj => ?_
      rw [EJ_sEJ]
      split
      · next q =>
        rw [q.2.2, sch_lt (by omega)]
        unfold em wd4
        rw [mb_w]; simp
      · next q => exact g1 j (by have : j ≠ t := fun z => q ⟨rfl, rfl, z⟩; omega)
  refine k_X27_block_0 o ?_
  exact loop1 16 0 _ _ _ h rfl (Fq.refl h) fun j hj => by omega
