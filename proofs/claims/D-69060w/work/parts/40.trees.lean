/-! the twin's trees: rows of kinds, numbers, first parts and next ones -/
def tFl : List Nat := [10000 + 1633, 10000 + 1651, 10000 + 1667, 10000 + 1680, 10000 + 1696, 2949]
def ST (h : AH) (T : Nat) : Prop := (h.tag T = some (23, 0) ∧ h.R 2944 T = some (T + 1) ∧ h.R 2945 T = some (T + 2) ∧ h.R 2946 T = some (T + 3) ∧ h.R 2947 T = some (T + 4) ∧ h.R 2948 T = some (T + 5)) ∧
  h.tag (T + 1) = some (1633, 24576) ∧ h.tag (T + 2) = some (1651, 24576) ∧ h.tag (T + 3) = some (1667, 24576) ∧ h.tag (T + 4) = some (1680, 24576) ∧ h.tag (T + 5) = some (1696, 24576)
theorem ST.fr {P : Nat → Nat → Prop} {h h' : AH} {T : Nat} (q : Fr P h h') (np : ∀ f, f = 2944 ∨ f = 2945 ∨ f = 2946 ∨ f = 2947 ∨ f = 2948 → ¬ P f T) (s : ST h T) : ST h' T := by
  obtain ⟨⟨e1, e2, e3, e4, e5, e6⟩, e7, e8, e9, e10, e11⟩ := s
  exact ⟨⟨q.tag e1, by rw [q.R (np _ (by omega))]; exact e2, by rw [q.R (np _ (by omega))]; exact e3, by rw [q.R (np _ (by omega))]; exact e4, by rw [q.R (np _ (by omega))]; exact e5, by rw [q.R (np _ (by omega))]; exact e6⟩, q.tag e7, q.tag e8, q.tag e9, q.tag e10, q.tag e11⟩
theorem ST.fs {l : List Nat} {h h' : AH} {T : Nat} (q : Fr (FS l) h h') (np : [2944, 2945, 2946, 2947, 2948].all (fun f => !l.contains f) = true) (s : ST h T) : ST h' T := by
  refine s.fr q fun f hf => FS.n ?_
  rw [List.all_eq_true] at np
  have := np f (by simp only [List.mem_cons, List.not_mem_nil, or_false]; exact hf)
  simpa using this
/-- what nodes may have changed -/
def TU (T : Nat) (O : Nat → Prop) (h h' : AH) : Prop := Fq (FS tFl) h h' ∧ ∀ j, ¬ O j → h'.EI 1633 (T + 1) j = h.EI 1633 (T + 1) j ∧ h'.EJ 1651 (T + 2) j = h.EJ 1651 (T + 2) j ∧ h'.EJ 1667 (T + 3) j = h.EJ 1667 (T + 3) j ∧ h'.EI 1680 (T + 4) j = h.EI 1680 (T + 4) j ∧ h'.EI 1696 (T + 5) j = h.EI 1696 (T + 5) j
theorem TU.refl {T : Nat} {O : Nat → Prop} (h : AH) : TU T O h h := ⟨Fq.refl h, fun _ _ => ⟨rfl, rfl, rfl, rfl, rfl⟩⟩
theorem TU.trans {T : Nat} {O : Nat → Prop} {h h1 h2 : AH} (p : TU T O h h1) (q : TU T O h1 h2) : TU T O h h2 := ⟨p.1.trans q.1, fun j hj => by
  obtain ⟨a1, a2, a3, a4, a5⟩ := p.2 j hj
  obtain ⟨b1, b2, b3, b4, b5⟩ := q.2 j hj
  exact ⟨b1.trans a1, b2.trans a2, b3.trans a3, b4.trans a4, b5.trans a5⟩⟩
theorem TU.mono {T : Nat} {O O' : Nat → Prop} {h h' : AH} (p : TU T O h h') (m : ∀ j, O j → O' j) : TU T O' h h' := ⟨p.1, fun j hj => p.2 j fun z => hj (m j z)⟩
theorem TU.nx {T : Nat} {O : Nat → Prop} {h h' : AH} (p : TU T O h h') {j : Nat} {v : Int32} (hj : O j) : TU T O h (h'.sEI 1696 (T + 5) j v) := ⟨p.1.sEI rfl, fun i hi => by
  have : i ≠ j := fun e => hi (e ▸ hj)
  simp [n_sI, z_sI, tag_sI, I_sI, J_sI, R_sI, EI_sI, EJ_sI, ER_sI, n_sJ, z_sJ, tag_sJ, I_sJ, J_sJ, R_sJ, EI_sJ, EJ_sJ, ER_sJ, n_sR, z_sR, tag_sR, I_sR, J_sR, R_sR, EI_sR, EJ_sR, ER_sR, n_sEI, z_sEI, tag_sEI, I_sEI, J_sEI, R_sEI, EI_sEI, EJ_sEI, ER_sEI, n_sEJ, z_sEJ, tag_sEJ, I_sEJ, J_sEJ, R_sEJ, EI_sEJ, EJ_sEJ, ER_sEJ, n_sER, z_sER, tag_sER, I_sER, J_sER, R_sER, EI_sER, EJ_sER, ER_sER, n_nw, z_nw, tag_nw, I_nw, J_nw, R_nw, EI_nw, EJ_nw, ER_nw, this]; exact p.2 i hi⟩
theorem TU.fi {T : Nat} {O : Nat → Prop} {h h' : AH} (p : TU T O h h') {j : Nat} {v : Int32} (hj : O j) : TU T O h (h'.sEI 1680 (T + 4) j v) := ⟨p.1.sEI rfl, fun i hi => by
  have : i ≠ j := fun e => hi (e ▸ hj)
  simp [n_sI, z_sI, tag_sI, I_sI, J_sI, R_sI, EI_sI, EJ_sI, ER_sI, n_sJ, z_sJ, tag_sJ, I_sJ, J_sJ, R_sJ, EI_sJ, EJ_sJ, ER_sJ, n_sR, z_sR, tag_sR, I_sR, J_sR, R_sR, EI_sR, EJ_sR, ER_sR, n_sEI, z_sEI, tag_sEI, I_sEI, J_sEI, R_sEI, EI_sEI, EJ_sEI, ER_sEI, n_sEJ, z_sEJ, tag_sEJ, I_sEJ, J_sEJ, R_sEJ, EI_sEJ, EJ_sEJ, ER_sEJ, n_sER, z_sER, tag_sER, I_sER, J_sER, R_sER, EI_sER, EJ_sER, ER_sER, n_nw, z_nw, tag_nw, I_nw, J_nw, R_nw, EI_nw, EJ_nw, ER_nw, this]; exact p.2 i hi⟩
theorem TU.kd {T : Nat} {O : Nat → Prop} {h h' : AH} (p : TU T O h h') {j : Nat} {v : Int32} (hj : O j) : TU T O h (h'.sEI 1633 (T + 1) j v) := ⟨p.1.sEI rfl, fun i hi => by
  have : i ≠ j := fun e => hi (e ▸ hj)
  simp [n_sI, z_sI, tag_sI, I_sI, J_sI, R_sI, EI_sI, EJ_sI, ER_sI, n_sJ, z_sJ, tag_sJ, I_sJ, J_sJ, R_sJ, EI_sJ, EJ_sJ, ER_sJ, n_sR, z_sR, tag_sR, I_sR, J_sR, R_sR, EI_sR, EJ_sR, ER_sR, n_sEI, z_sEI, tag_sEI, I_sEI, J_sEI, R_sEI, EI_sEI, EJ_sEI, ER_sEI, n_sEJ, z_sEJ, tag_sEJ, I_sEJ, J_sEJ, R_sEJ, EI_sEJ, EJ_sEJ, ER_sEJ, n_sER, z_sER, tag_sER, I_sER, J_sER, R_sER, EI_sER, EJ_sER, ER_sER, n_nw, z_nw, tag_nw, I_nw, J_nw, R_nw, EI_nw, EJ_nw, ER_nw, this]; exact p.2 i hi⟩
theorem TU.hi {T : Nat} {O : Nat → Prop} {h h' : AH} (p : TU T O h h') {j : Nat} {v : Int64} (hj : O j) : TU T O h (h'.sEJ 1651 (T + 2) j v) := ⟨p.1.sEJ rfl, fun i hi => by
  have : i ≠ j := fun e => hi (e ▸ hj)
  simp [n_sI, z_sI, tag_sI, I_sI, J_sI, R_sI, EI_sI, EJ_sI, ER_sI, n_sJ, z_sJ, tag_sJ, I_sJ, J_sJ, R_sJ, EI_sJ, EJ_sJ, ER_sJ, n_sR, z_sR, tag_sR, I_sR, J_sR, R_sR, EI_sR, EJ_sR, ER_sR, n_sEI, z_sEI, tag_sEI, I_sEI, J_sEI, R_sEI, EI_sEI, EJ_sEI, ER_sEI, n_sEJ, z_sEJ, tag_sEJ, I_sEJ, J_sEJ, R_sEJ, EI_sEJ, EJ_sEJ, ER_sEJ, n_sER, z_sER, tag_sER, I_sER, J_sER, R_sER, EI_sER, EJ_sER, ER_sER, n_nw, z_nw, tag_nw, I_nw, J_nw, R_nw, EI_nw, EJ_nw, ER_nw, this]; exact p.2 i hi⟩
theorem TU.lo {T : Nat} {O : Nat → Prop} {h h' : AH} (p : TU T O h h') {j : Nat} {v : Int64} (hj : O j) : TU T O h (h'.sEJ 1667 (T + 3) j v) := ⟨p.1.sEJ rfl, fun i hi => by
  have : i ≠ j := fun e => hi (e ▸ hj)
  simp [n_sI, z_sI, tag_sI, I_sI, J_sI, R_sI, EI_sI, EJ_sI, ER_sI, n_sJ, z_sJ, tag_sJ, I_sJ, J_sJ, R_sJ, EI_sJ, EJ_sJ, ER_sJ, n_sR, z_sR, tag_sR, I_sR, J_sR, R_sR, EI_sR, EJ_sR, ER_sR, n_sEI, z_sEI, tag_sEI, I_sEI, J_sEI, R_sEI, EI_sEI, EJ_sEI, ER_sEI, n_sEJ, z_sEJ, tag_sEJ, I_sEJ, J_sEJ, R_sEJ, EI_sEJ, EJ_sEJ, ER_sEJ, n_sER, z_sER, tag_sER, I_sER, J_sER, R_sER, EI_sER, EJ_sER, ER_sER, n_nw, z_nw, tag_nw, I_nw, J_nw, R_nw, EI_nw, EJ_nw, ER_nw, this]; exact p.2 i hi⟩
theorem TU.sz {T : Nat} {O : Nat → Prop} {h h' : AH} (p : TU T O h h') {v : Int32} : TU T O h (h'.sI 2949 T v) := ⟨p.1.sI rfl, fun i hi => p.2 i hi⟩
def TF (h : AH) (T : Nat) : LF → Int32 → Prop
  | .leaf, p => p = -1
  | .inner k x _ c r, p => (p = nI x.1 ∧ x.1 < 24576) ∧ h.EI 1633 (T + 1) x.1 = nI k ∧ h.EJ 1651 (T + 2) x.1 = x.2.1 ∧ h.EJ 1667 (T + 3) x.1 = x.2.2 ∧ TF h T c (h.EI 1680 (T + 4) x.1) ∧ TF h T r (h.EI 1696 (T + 5) x.1)
def TW (h : AH) (T a k : Nat) (x : Int64 × Int64) (c : LF) : Prop := a < 24576 ∧ h.EI 1633 (T + 1) a = nI k ∧ h.EJ 1651 (T + 2) a = x.1 ∧ h.EJ 1667 (T + 3) a = x.2 ∧ TF h T c (h.EI 1680 (T + 4) a)
theorem TF.tu {T : Nat} {O : Nat → Prop} {h h' : AH} (q : TU T O h h') : ∀ {g : LF} {p : Int32}, TF h T g p → (∀ a ∈ fad g, ¬ O a) → TF h' T g p
  | .leaf, _, r, _ => r
  | .inner k x _ c r, p, ⟨e1, e2, e3, e4, e5, e6⟩, hp => by
    obtain ⟨a1, a2, a3, a4, a5⟩ := q.2 x.1 (hp _ (by simp [fad]))
    exact ⟨e1, a1.trans e2, a2.trans e3, a3.trans e4, by rw [a4]; exact TF.tu q e5 fun a m => hp a (by simp [fad, m]), by rw [a5]; exact TF.tu q e6 fun a m => hp a (by simp [fad, m])⟩
theorem TW.tu {T : Nat} {O : Nat → Prop} {h h' : AH} {a k : Nat} {x : Int64 × Int64} {c : LF} (q : TU T O h h') (r : TW h T a k x c) (hp : ∀ b ∈ a :: fad c, ¬ O b) : TW h' T a k x c := by
  obtain ⟨e1, e2, e3, e4, e5⟩ := r
  obtain ⟨a1, a2, a3, a4, a5⟩ := q.2 a (hp _ (by simp))
  exact ⟨e1, a1.trans e2, a2.trans e3, a3.trans e4, by rw [a4]; exact TF.tu q e5 fun a m => hp a (by simp [m])⟩
theorem TF.lt {h : AH} {T : Nat} : ∀ {g : LF} {p : Int32}, TF h T g p → ∀ a ∈ fad g, a < 24576
  | .leaf, _, _ => fun a m => by cases m
  | .inner k x _ c r, p, ⟨e1, e2, e3, e4, e5, e6⟩ => fun a m => by
    rcases List.mem_cons.mp m with e | m
    · subst e; exact e1.2
    · rcases List.mem_append.mp m with m | m
      · exact TF.lt e5 a m
      · exact TF.lt e6 a m
theorem nI_m1 {a : Nat} (h : a < 24576) : nI a ≠ (-1 : Int32) := fun e => by
  have := congrArg um e
  rw [um_n (by omega), show um (-1 : Int32) = 4294967295 from rfl] at this; omega
theorem i8_n {k : Nat} (h : k < 128) : i8 (nI k) = nI k := by
  have : ∀ k : Fin 128, i8 (nI k.val) = nI k.val := by decide +kernel
  exact this ⟨k, h⟩
theorem tmake_ok {G : Gt} {d : Nat} {h : AH} {K : Outcome → AH → Prop} {T n kd : Nat} {x : Int64 × Int64} (hs : ST h T) (hz : h.I 2949 T = nI n) (hn : n < 24576) (hk : kd < 128)
    (kk : ∀ h', TU T (fun j => j = n) h h' → h'.I 2949 T = nI (n + 1) → TW h' T n kd x .leaf → h'.EI 1696 (T + 5) n = -1 → K (.returned (some (.int (nI n)))) h') : MW G d e_X24_make [.ref T, .int (nI kd), .long x.1, .long x.2] h K := by
  refine st_X24_make fun X o hG hD hf => ?_
  obtain ⟨⟨e1, e2, e3, e4, e5, e6⟩, e7, e8, e9, e10, e11⟩ := id hs
  have ix : IX (nI n) 24576 n := IX.mk hn (by omega)
  have ee : ((nI kd).toInt8.toInt32).toInt8.toInt32 = nI kd := by rw [show ((nI kd).toInt8.toInt32).toInt8.toInt32 = i8 (nI kd) from i8_i8 _, i8_n hk]
  refine k_X24_make_0 o ?_
  refine k_X24_make_50 o ?_
  rw [ee, nI_add]
  refine kk _ (by refine (TU.nx (TU.fi (TU.lo (TU.hi (TU.kd (TU.sz (TU.refl h)) ?_) ?_) ?_) ?_) ?_) <;> exact rfl) (by simp [n_sI, z_sI, tag_sI, I_sI, J_sI, R_sI, EI_sI, EJ_sI, ER_sI, n_sJ, z_sJ, tag_sJ, I_sJ, J_sJ, R_sJ, EI_sJ, EJ_sJ, ER_sJ, n_sR, z_sR, tag_sR, I_sR, J_sR, R_sR, EI_sR, EJ_sR, ER_sR, n_sEI, z_sEI, tag_sEI, I_sEI, J_sEI, R_sEI, EI_sEI, EJ_sEI, ER_sEI, n_sEJ, z_sEJ, tag_sEJ, I_sEJ, J_sEJ, R_sEJ, EI_sEJ, EJ_sEJ, ER_sEJ, n_sER, z_sER, tag_sER, I_sER, J_sER, R_sER, EI_sER, EJ_sER, ER_sER, n_nw, z_nw, tag_nw, I_nw, J_nw, R_nw, EI_nw, EJ_nw, ER_nw]) ⟨hn, by simp [n_sI, z_sI, tag_sI, I_sI, J_sI, R_sI, EI_sI, EJ_sI, ER_sI, n_sJ, z_sJ, tag_sJ, I_sJ, J_sJ, R_sJ, EI_sJ, EJ_sJ, ER_sJ, n_sR, z_sR, tag_sR, I_sR, J_sR, R_sR, EI_sR, EJ_sR, ER_sR, n_sEI, z_sEI, tag_sEI, I_sEI, J_sEI, R_sEI, EI_sEI, EJ_sEI, ER_sEI, n_sEJ, z_sEJ, tag_sEJ, I_sEJ, J_sEJ, R_sEJ, EI_sEJ, EJ_sEJ, ER_sEJ, n_sER, z_sER, tag_sER, I_sER, J_sER, R_sER, EI_sER, EJ_sER, ER_sER, n_nw, z_nw, tag_nw, I_nw, J_nw, R_nw, EI_nw, EJ_nw, ER_nw], by simp [n_sI, z_sI, tag_sI, I_sI, J_sI, R_sI, EI_sI, EJ_sI, ER_sI, n_sJ, z_sJ, tag_sJ, I_sJ, J_sJ, R_sJ, EI_sJ, EJ_sJ, ER_sJ, n_sR, z_sR, tag_sR, I_sR, J_sR, R_sR, EI_sR, EJ_sR, ER_sR, n_sEI, z_sEI, tag_sEI, I_sEI, J_sEI, R_sEI, EI_sEI, EJ_sEI, ER_sEI, n_sEJ, z_sEJ, tag_sEJ, I_sEJ, J_sEJ, R_sEJ, EI_sEJ, EJ_sEJ, ER_sEJ, n_sER, z_sER, tag_sER, I_sER, J_sER, R_sER, EI_sER, EJ_sER, ER_sER, n_nw, z_nw, tag_nw, I_nw, J_nw, R_nw, EI_nw, EJ_nw, ER_nw], by simp [n_sI, z_sI, tag_sI, I_sI, J_sI, R_sI, EI_sI, EJ_sI, ER_sI, n_sJ, z_sJ, tag_sJ, I_sJ, J_sJ, R_sJ, EI_sJ, EJ_sJ, ER_sJ, n_sR, z_sR, tag_sR, I_sR, J_sR, R_sR, EI_sR, EJ_sR, ER_sR, n_sEI, z_sEI, tag_sEI, I_sEI, J_sEI, R_sEI, EI_sEI, EJ_sEI, ER_sEI, n_sEJ, z_sEJ, tag_sEJ, I_sEJ, J_sEJ, R_sEJ, EI_sEJ, EJ_sEJ, ER_sEJ, n_sER, z_sER, tag_sER, I_sER, J_sER, R_sER, EI_sER, EJ_sER, ER_sER, n_nw, z_nw, tag_nw, I_nw, J_nw, R_nw, EI_nw, EJ_nw, ER_nw], by simp [n_sI, z_sI, tag_sI, I_sI, J_sI, R_sI, EI_sI, EJ_sI, ER_sI, n_sJ, z_sJ, tag_sJ, I_sJ, J_sJ, R_sJ, EI_sJ, EJ_sJ, ER_sJ, n_sR, z_sR, tag_sR, I_sR, J_sR, R_sR, EI_sR, EJ_sR, ER_sR, n_sEI, z_sEI, tag_sEI, I_sEI, J_sEI, R_sEI, EI_sEI, EJ_sEI, ER_sEI, n_sEJ, z_sEJ, tag_sEJ, I_sEJ, J_sEJ, R_sEJ, EI_sEJ, EJ_sEJ, ER_sEJ, n_sER, z_sER, tag_sER, I_sER, J_sER, R_sER, EI_sER, EJ_sER, ER_sER, n_nw, z_nw, tag_nw, I_nw, J_nw, R_nw, EI_nw, EJ_nw, ER_nw, TF]⟩ (by simp [n_sI, z_sI, tag_sI, I_sI, J_sI, R_sI, EI_sI, EJ_sI, ER_sI, n_sJ, z_sJ, tag_sJ, I_sJ, J_sJ, R_sJ, EI_sJ, EJ_sJ, ER_sJ, n_sR, z_sR, tag_sR, I_sR, J_sR, R_sR, EI_sR, EJ_sR, ER_sR, n_sEI, z_sEI, tag_sEI, I_sEI, J_sEI, R_sEI, EI_sEI, EJ_sEI, ER_sEI, n_sEJ, z_sEJ, tag_sEJ, I_sEJ, J_sEJ, R_sEJ, EI_sEJ, EJ_sEJ, ER_sEJ, n_sER, z_sER, tag_sER, I_sER, J_sER, R_sER, EI_sER, EJ_sER, ER_sER, n_nw, z_nw, tag_nw, I_nw, J_nw, R_nw, EI_nw, EJ_nw, ER_nw])
theorem tcount_ok {G : Gt} {d : Nat} {h : AH} {K : Outcome → AH → Prop} {T a k : Nat} {x : Int64 × Int64} {c : LF} (hs : ST h T) (hv : TW h T a k x c) (kk : K (.returned (some (.int (nI (fln c))))) h) : MW G d e_X24_count [.ref T, .int (nI a)] h K := by
  refine st_X24_count fun X o hG hD hf => ?_
  obtain ⟨⟨e1, e2, e3, e4, e5, e6⟩, e7, e8, e9, e10, e11⟩ := id hs
  obtain ⟨v1, v2, v3, v4, v5⟩ := hv
  have ix : IX (nI a) 24576 a := IX.mk v1 (by omega)
  have loop : ∀ (g : LF) (n : Nat) (p : Int32), TF h T g p → n + fln g = fln c → V X K 9 [.ref T, .int (nI a), .int (nI n), .int p] [] h := by
    intro g
    induction g with
    | leaf =>
      intro n p hg hn
      cases hg
      refine k_X24_count_9 o (fun qq => ?_) (fun qq => ?_)
      · rw [show n = fln c by simpa [fln] using hn]
        refine k_X24_count_27 o ?_
        refine (kk)
      · exact absurd rfl qq
    | inner k' x' u c' r ihc ihr =>
      intro n p hg hn
      obtain ⟨⟨rfl, p2⟩, p3, p4, p5, p6, p7⟩ := hg
      have ix : IX (nI x'.1) 24576 x'.1 := IX.mk p2 (by omega)
      refine k_X24_count_9 o (fun qq => ?_) (fun qq => ?_)
      · exact absurd qq (nI_m1 p2)
      refine k_X24_count_14 o ?_
      rw [nI_add]
      exact ihr (n + 1) _ p7 (by simp only [fln] at hn; omega)
  refine k_X24_count_0 o ?_
  exact loop c 0 _ v5 (by omega)
def fatI (c : LF) (k : Int64) : Int32 := if k < 0 then -1 else match fat c (un k) with
  | some y => nI y
  | none => -1
theorem tpart_ok {G : Gt} {d : Nat} {h : AH} {K : Outcome → AH → Prop} {T a kd : Nat} {k : Int64} {x : Int64 × Int64} {c : LF} (hs : ST h T) (hv : TW h T a kd x c) (kk : K (.returned (some (.int (fatI c k)))) h) : MW G d e_X24_part [.ref T, .int (nI a), .long k] h K := by
  refine st_X24_part fun X o hG hD hf => ?_
  obtain ⟨⟨e1, e2, e3, e4, e5, e6⟩, e7, e8, e9, e10, e11⟩ := id hs
  obtain ⟨v1, v2, v3, v4, v5⟩ := hv
  have ix : IX (nI a) 24576 a := IX.mk v1 (by omega)
  unfold fatI at kk
  refine k_X24_part_0 o (fun qq => ?_) (fun qq => ?_)
  rotate_left
  · rw [if_pos (Int64.not_le.mp qq)] at kk
    refine k_X24_part_6 o ?_
    refine (kk)
  rw [if_neg (Int64.not_lt.mpr qq)] at kk
  have hk : un k < 9223372036854775808 := by
    rcases Nat.lt_or_ge (un k) 9223372036854775808 with q | q
    · exact q
    · exact absurd (un_neg.mpr q) (Int64.not_lt.mpr qq)
  have loop : ∀ (g : LF) (n m : Nat) (p : Int32), TF h T g p → n + m = un k → fat g m = fat c (un k) → V X K 19 [.ref T, .int (nI a), .long k, nov, .int p, .long (lN n), nov] [] h := by
    intro g
    induction g with
    | leaf =>
      intro n m p hg hn hf
      cases hg
      have kk : K (.returned (some (.int ((-1))))) h := by rw [← hf] at kk; exact kk
      refine k_X24_part_19 o (fun c2 => ?_) (fun c2 => ?_)
      · refine k_X24_part_50 o ?_
        refine (kk)
      refine k_X24_part_26 o (fun c3 => ?_) (fun c3 => ?_)
      · refine k_X24_part_50 o ?_
        refine (kk)
      · exact absurd rfl c3
    | inner k' x' u c' r ihc ihr =>
      intro n m p hg hn hf
      obtain ⟨⟨rfl, p2⟩, p3, p4, p5, p6, p7⟩ := hg
      have ix : IX (nI x'.1) 24576 x'.1 := IX.mk p2 (by omega)
      have cmpn : k ≤ lN n ↔ un k ≤ n := by
        rw [← Int64.not_lt, un_ltI (by rw [un_l (by omega)]; omega) hk, un_l (by omega)]; omega
      refine k_X24_part_19 o (fun c2 => ?_) (fun c2 => ?_)
      · have : m = 0 := by have := cmpn.mp c2; omega
        subst this
        rw [← hf] at kk
        refine k_X24_part_50 o ?_
        refine (kk)
      have : m ≠ 0 := fun q => c2 (cmpn.mpr (by omega))
      obtain ⟨m', rfl⟩ : ∃ m', m = m' + 1 := ⟨m - 1, by omega⟩
      refine k_X24_part_26 o (fun c3 => ?_) (fun c3 => ?_)
      · exact absurd c3 (nI_m1 p2)
      refine k_X24_part_32 o ?_
      have e : lN n + (1 : Int64) = lN (n + 1) := un_inj (by rw [un_add, un_l (by omega), un_l (by omega), show un (1 : Int64) = 1 from rfl]; omega)
      rw [e]
      exact ihr (n + 1) m' _ p7 (by omega) hf
  refine k_X24_part_8 o ?_
  exact loop c 0 (un k) _ v5 (by omega) rfl
theorem TF.snoc {h : AH} {T : Nat} {g : LF} {p' : Int32} {z : Nat} (hg : TF h T g p') (hz : z ∉ fad g) : ∀ {b : LF} {p : Int32}, TF h T b p → flst b none = some z → (fad b).Nodup → TF (h.sEI 1696 (T + 5) z p') T (fap b g) p
  | .leaf, p, _, e, _ => nomatch e
  | .inner k x _ c .leaf, p, ⟨e1, e2, e3, e4, e5, e6⟩, e, hn => by
    cases e
    have hc : x.1 ∉ fad c := by simp only [fad, List.nodup_cons, List.mem_append] at hn; grind
    have f : TU T (fun j => j = x.1) h (h.sEI 1696 (T + 5) x.1 p') := (TU.refl h).nx rfl
    refine ⟨e1, by simp [n_sI, z_sI, tag_sI, I_sI, J_sI, R_sI, EI_sI, EJ_sI, ER_sI, n_sJ, z_sJ, tag_sJ, I_sJ, J_sJ, R_sJ, EI_sJ, EJ_sJ, ER_sJ, n_sR, z_sR, tag_sR, I_sR, J_sR, R_sR, EI_sR, EJ_sR, ER_sR, n_sEI, z_sEI, tag_sEI, I_sEI, J_sEI, R_sEI, EI_sEI, EJ_sEI, ER_sEI, n_sEJ, z_sEJ, tag_sEJ, I_sEJ, J_sEJ, R_sEJ, EI_sEJ, EJ_sEJ, ER_sEJ, n_sER, z_sER, tag_sER, I_sER, J_sER, R_sER, EI_sER, EJ_sER, ER_sER, n_nw, z_nw, tag_nw, I_nw, J_nw, R_nw, EI_nw, EJ_nw, ER_nw]; exact e2, e3, e4, ?_, ?_⟩
    · have : (h.sEI 1696 (T + 5) x.1 p').EI 1680 (T + 4) x.1 = h.EI 1680 (T + 4) x.1 := by simp [n_sI, z_sI, tag_sI, I_sI, J_sI, R_sI, EI_sI, EJ_sI, ER_sI, n_sJ, z_sJ, tag_sJ, I_sJ, J_sJ, R_sJ, EI_sJ, EJ_sJ, ER_sJ, n_sR, z_sR, tag_sR, I_sR, J_sR, R_sR, EI_sR, EJ_sR, ER_sR, n_sEI, z_sEI, tag_sEI, I_sEI, J_sEI, R_sEI, EI_sEI, EJ_sEI, ER_sEI, n_sEJ, z_sEJ, tag_sEJ, I_sEJ, J_sEJ, R_sEJ, EI_sEJ, EJ_sEJ, ER_sEJ, n_sER, z_sER, tag_sER, I_sER, J_sER, R_sER, EI_sER, EJ_sER, ER_sER, n_nw, z_nw, tag_nw, I_nw, J_nw, R_nw, EI_nw, EJ_nw, ER_nw]
      rw [this]; exact TF.tu f e5 fun a ha q => hc (q ▸ ha)
    · rw [EI_same]; exact TF.tu f hg fun a ha q => hz (q ▸ ha)
  | .inner k x _ c (.inner k2 x2 u2 c2 r2), p, ⟨e1, e2, e3, e4, e5, e6⟩, e, hn => by
    have hn2 : (fad (.inner k2 x2 u2 c2 r2)).Nodup := by simp only [fad, List.nodup_cons, List.nodup_append, List.mem_append] at hn ⊢; grind
    have hin : z ∈ fad (.inner k2 x2 u2 c2 r2) := by
      rcases flst_in (b := .inner k2 x2 u2 c2 r2) (d := none) (z := z) e with q | q
      · exact q
      · cases q
    have hzx : ¬ (x.1 = z) := fun q => by subst q; rw [fad] at hn; exact (List.nodup_cons.mp hn).1 (List.mem_append_right _ hin)
    have hc : z ∉ fad c := fun q => by rw [fad] at hn; exact (List.nodup_append.mp (List.nodup_cons.mp hn).2).2.2 z q z hin rfl
    have f : TU T (fun j => j = z) h (h.sEI 1696 (T + 5) z p') := (TU.refl h).nx rfl
    obtain ⟨a1, a2, a3, a4, a5⟩ := f.2 x.1 hzx
    refine ⟨e1, a1.trans e2, a2.trans e3, a3.trans e4, by rw [a4]; exact TF.tu f e5 fun a ha q => hc (q ▸ ha), ?_⟩
    rw [a5]
    exact TF.snoc hg hz (b := .inner k2 x2 u2 c2 r2) e6 e hn2
theorem tadd2_ok {G : Gt} {d : Nat} {h : AH} {K : Outcome → AH → Prop} {T a b kd kb : Nat} {x y : Int64 × Int64} {c cb : LF} (hs : ST h T) (hv : TW h T a kd x c) (hw : TW h T b kb y cb) (hn : (a :: (fad c ++ b :: fad cb)).Nodup)
    (kk : ∀ h', TU T (fun j => j = a ∨ j = b ∨ j ∈ fad c) h h' → h'.I 2949 T = h.I 2949 T → TW h' T a kd x (fap c (.inner kb (b, y) () cb .leaf)) → K (.returned none) h') : MW G d e_X24_add [.ref T, .int (nI a), .int (nI b)] h K := by
  refine st_X24_add fun X o hG hD hf => ?_
  have va := hv.1
  have vb := hw.1
  have ixa : IX (nI a) 24576 a := IX.mk va (by omega)
  have ixb : IX (nI b) 24576 b := IX.mk vb (by omega)
  generalize hh : h.sEI 1696 (T + 5) b (-1) = h1
  have f1 : TU T (fun j => j = b) h h1 := by rw [← hh]; exact (TU.refl h).nx rfl
  simp only [List.nodup_cons, List.nodup_append, List.mem_append, List.mem_cons] at hn
  have hs1 := hs.fs f1.1.1 rfl
  obtain ⟨⟨e1, e2, e3, e4, e5, e6⟩, e7, e8, e9, e10, e11⟩ := id hs
  obtain ⟨⟨i1, i2, i3, i4, i5, i6⟩, i7, i8, i9, i10, i11⟩ := id hs1
  have v1 := hv.tu f1 (by simp only [List.mem_cons]; grind)
  have w1 : TF h1 T (.inner kb (b, y) () cb .leaf) (nI b) := by
    obtain ⟨u1, u2, u3, u4, u5⟩ := hw
    refine ⟨⟨rfl, vb⟩, ?_, ?_, ?_, ?_, ?_⟩
    · rw [← hh]; simp [n_sI, z_sI, tag_sI, I_sI, J_sI, R_sI, EI_sI, EJ_sI, ER_sI, n_sJ, z_sJ, tag_sJ, I_sJ, J_sJ, R_sJ, EI_sJ, EJ_sJ, ER_sJ, n_sR, z_sR, tag_sR, I_sR, J_sR, R_sR, EI_sR, EJ_sR, ER_sR, n_sEI, z_sEI, tag_sEI, I_sEI, J_sEI, R_sEI, EI_sEI, EJ_sEI, ER_sEI, n_sEJ, z_sEJ, tag_sEJ, I_sEJ, J_sEJ, R_sEJ, EI_sEJ, EJ_sEJ, ER_sEJ, n_sER, z_sER, tag_sER, I_sER, J_sER, R_sER, EI_sER, EJ_sER, ER_sER, n_nw, z_nw, tag_nw, I_nw, J_nw, R_nw, EI_nw, EJ_nw, ER_nw]; exact u2
    · rw [← hh]; exact u3
    · rw [← hh]; exact u4
    · have : h1.EI 1680 (T + 4) b = h.EI 1680 (T + 4) b := by rw [← hh]; simp [n_sI, z_sI, tag_sI, I_sI, J_sI, R_sI, EI_sI, EJ_sI, ER_sI, n_sJ, z_sJ, tag_sJ, I_sJ, J_sJ, R_sJ, EI_sJ, EJ_sJ, ER_sJ, n_sR, z_sR, tag_sR, I_sR, J_sR, R_sR, EI_sR, EJ_sR, ER_sR, n_sEI, z_sEI, tag_sEI, I_sEI, J_sEI, R_sEI, EI_sEI, EJ_sEI, ER_sEI, n_sEJ, z_sEJ, tag_sEJ, I_sEJ, J_sEJ, R_sEJ, EI_sEJ, EJ_sEJ, ER_sEJ, n_sER, z_sER, tag_sER, I_sER, J_sER, R_sER, EI_sER, EJ_sER, ER_sER, n_nw, z_nw, tag_nw, I_nw, J_nw, R_nw, EI_nw, EJ_nw, ER_nw]
      show TF h1 T cb (h1.EI 1680 (T + 4) b)
      rw [this]; exact TF.tu f1 u5 fun j hj q => by subst q; grind
    · show h1.EI 1696 (T + 5) b = -1
      rw [← hh]; simp [n_sI, z_sI, tag_sI, I_sI, J_sI, R_sI, EI_sI, EJ_sI, ER_sI, n_sJ, z_sJ, tag_sJ, I_sJ, J_sJ, R_sJ, EI_sJ, EJ_sJ, ER_sJ, n_sR, z_sR, tag_sR, I_sR, J_sR, R_sR, EI_sR, EJ_sR, ER_sR, n_sEI, z_sEI, tag_sEI, I_sEI, J_sEI, R_sEI, EI_sEI, EJ_sEI, ER_sEI, n_sEJ, z_sEJ, tag_sEJ, I_sEJ, J_sEJ, R_sEJ, EI_sEJ, EJ_sEJ, ER_sEJ, n_sER, z_sER, tag_sER, I_sER, J_sER, R_sER, EI_sER, EJ_sER, ER_sER, n_nw, z_nw, tag_nw, I_nw, J_nw, R_nw, EI_nw, EJ_nw, ER_nw]
  have sz1 : h1.I 2949 T = h.I 2949 T := by rw [← hh]; rfl
  obtain ⟨-, k2, k3, k4, k5⟩ := v1
  have xf : h.EI 1680 (T + 4) a = h1.EI 1680 (T + 4) a := by rw [← hh]; simp [n_sI, z_sI, tag_sI, I_sI, J_sI, R_sI, EI_sI, EJ_sI, ER_sI, n_sJ, z_sJ, tag_sJ, I_sJ, J_sJ, R_sJ, EI_sJ, EJ_sJ, ER_sJ, n_sR, z_sR, tag_sR, I_sR, J_sR, R_sR, EI_sR, EJ_sR, ER_sR, n_sEI, z_sEI, tag_sEI, I_sEI, J_sEI, R_sEI, EI_sEI, EJ_sEI, ER_sEI, n_sEJ, z_sEJ, tag_sEJ, I_sEJ, J_sEJ, R_sEJ, EI_sEJ, EJ_sEJ, ER_sEJ, n_sER, z_sER, tag_sER, I_sER, J_sER, R_sER, EI_sER, EJ_sER, ER_sER, n_nw, z_nw, tag_nw, I_nw, J_nw, R_nw, EI_nw, EJ_nw, ER_nw]
  have hcc : c = .leaf ∨ c ≠ .leaf := by cases c <;> simp
  rcases hcc with hcl | hcl
  · subst hcl
    have k5' : h1.EI 1680 (T + 4) a = -1 := k5
    refine k_X24_add_0 o (fun qq => ?_) (fun qq => ?_)
    · exact absurd k5' qq
    rw [hh]
    refine k_X24_add_17 o ?_
    refine (kk _ ((f1.mono fun j q => Or.inr (Or.inl q)).fi (Or.inl rfl)) sz1 ⟨va, by simp [n_sI, z_sI, tag_sI, I_sI, J_sI, R_sI, EI_sI, EJ_sI, ER_sI, n_sJ, z_sJ, tag_sJ, I_sJ, J_sJ, R_sJ, EI_sJ, EJ_sJ, ER_sJ, n_sR, z_sR, tag_sR, I_sR, J_sR, R_sR, EI_sR, EJ_sR, ER_sR, n_sEI, z_sEI, tag_sEI, I_sEI, J_sEI, R_sEI, EI_sEI, EJ_sEI, ER_sEI, n_sEJ, z_sEJ, tag_sEJ, I_sEJ, J_sEJ, R_sEJ, EI_sEJ, EJ_sEJ, ER_sEJ, n_sER, z_sER, tag_sER, I_sER, J_sER, R_sER, EI_sER, EJ_sER, ER_sER, n_nw, z_nw, tag_nw, I_nw, J_nw, R_nw, EI_nw, EJ_nw, ER_nw]; exact k2, k3, k4, ?_⟩)
    have f2 : TU T (fun j => j = a) h1 (h1.sEI 1680 (T + 4) a (nI b)) := (TU.refl h1).fi rfl
    rw [EI_same]
    exact TF.tu f2 w1 fun j hj q => by rw [show j = a from q] at hj; simp only [fap, fad, List.append_nil, List.mem_cons] at hj; exact hn.1 (Or.inr hj)
  · obtain ⟨z, hz⟩ := flst_some (d := none) hcl
    have hzc : z ∈ fad c := by
      rcases flst_in hz with q | q
      · exact q
      · cases q
    have hne : h1.EI 1680 (T + 4) a ≠ -1 := by
      cases c with
      | leaf => exact absurd rfl hcl
      | inner k0 x0 u0 c0 r0 => obtain ⟨⟨q1, q2⟩, -⟩ := k5; rw [q1]; exact nI_m1 q2
    have loop : ∀ (g : LF) (p : Int32), g ≠ .leaf → TF h1 T g p → flst g none = some z → V X K 32 [.ref T, .int (nI a), .int (nI b), .int p] [] h1 := by
      intro g
      induction g with
      | leaf => intro p hg; exact absurd rfl hg
      | inner k' x' u c' r ihc ihr =>
        intro p _ hg hl
        obtain ⟨⟨rfl, p2⟩, p3, p4, p5, p6, p7⟩ := hg
        have ix : IX (nI x'.1) 24576 x'.1 := IX.mk p2 (by omega)
        cases r with
        | leaf =>
          have hx : x'.1 = z := by cases hl; rfl
          have p7' : h1.EI 1696 (T + 5) x'.1 = -1 := p7
          refine k_X24_add_32 o (fun qq => ?_) (fun qq => ?_)
          · refine k_X24_add_52 o ?_
            refine (kk _ ((f1.mono fun j q => Or.inr (Or.inl q)).nx (by rw [hx]; exact Or.inr (Or.inr hzc))) sz1 ⟨va, by simp [n_sI, z_sI, tag_sI, I_sI, J_sI, R_sI, EI_sI, EJ_sI, ER_sI, n_sJ, z_sJ, tag_sJ, I_sJ, J_sJ, R_sJ, EI_sJ, EJ_sJ, ER_sJ, n_sR, z_sR, tag_sR, I_sR, J_sR, R_sR, EI_sR, EJ_sR, ER_sR, n_sEI, z_sEI, tag_sEI, I_sEI, J_sEI, R_sEI, EI_sEI, EJ_sEI, ER_sEI, n_sEJ, z_sEJ, tag_sEJ, I_sEJ, J_sEJ, R_sEJ, EI_sEJ, EJ_sEJ, ER_sEJ, n_sER, z_sER, tag_sER, I_sER, J_sER, R_sER, EI_sER, EJ_sER, ER_sER, n_nw, z_nw, tag_nw, I_nw, J_nw, R_nw, EI_nw, EJ_nw, ER_nw]; exact k2, k3, k4, ?_⟩)
            have : (h1.sEI 1696 (T + 5) x'.1 (nI b)).EI 1680 (T + 4) a = h1.EI 1680 (T + 4) a := by simp [n_sI, z_sI, tag_sI, I_sI, J_sI, R_sI, EI_sI, EJ_sI, ER_sI, n_sJ, z_sJ, tag_sJ, I_sJ, J_sJ, R_sJ, EI_sJ, EJ_sJ, ER_sJ, n_sR, z_sR, tag_sR, I_sR, J_sR, R_sR, EI_sR, EJ_sR, ER_sR, n_sEI, z_sEI, tag_sEI, I_sEI, J_sEI, R_sEI, EI_sEI, EJ_sEI, ER_sEI, n_sEJ, z_sEJ, tag_sEJ, I_sEJ, J_sEJ, R_sEJ, EI_sEJ, EJ_sEJ, ER_sEJ, n_sER, z_sER, tag_sER, I_sER, J_sER, R_sER, EI_sER, EJ_sER, ER_sER, n_nw, z_nw, tag_nw, I_nw, J_nw, R_nw, EI_nw, EJ_nw, ER_nw]
            rw [this, hx]
            refine TF.snoc w1 ?_ k5 hz (by grind)
            simp only [fad, List.mem_cons, List.append_nil]
            grind
          · exact absurd rfl qq
        | inner k2' x2 u2 c2 r2 =>
          have p7' := p7
          obtain ⟨⟨q1, q2⟩, -⟩ := p7'
          refine k_X24_add_32 o (fun qq => ?_) (fun qq => ?_)
          · exact absurd qq (nI_m1 q2)
          refine k_X24_add_42 o ?_
          exact ihr _ (by simp) (by rw [← q1]; exact p7) hl
    refine k_X24_add_0 o (fun qq => ?_) (fun qq => ?_)
    rotate_left
    · exact absurd qq hne
    rw [hh]
    refine k_X24_add_25 o ?_
    exact loop c _ hcl k5 hz
