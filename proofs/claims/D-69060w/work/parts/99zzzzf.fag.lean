/-! the ledger's face: calls and their arguments -/
section
variable {n B : Nat} {G : Gt} {cm : Md} {y : Ly} {lx : Lx} {a : Ab} {h h' : AH} {d : Nat} {K : Outcome → AH → Prop} {P : Nat → Nat → Prop}
def lmt (l : Int32) : Bool := decide (10 ≤ um l ∧ um l ≤ 20000)
theorem isLimit_ok {l : Int32} (kk : K (.returned (some (.int (bI (lmt l))))) h) : MW G d e_X1_isLimit [.int l] h K := by
  refine st_X1_isLimit fun X o hG hD _ => ?_
  generalize hm : um l = M at *
  have em : l = nI M := by rw [← hm, nI_um]
  have M32 : M < 4294967296 := by rw [← hm]; exact um_lt _
  by_cases c0 : l < 0
  · have := um_neg.mp c0
    have e : lmt l = false := decide_eq_false (by omega)
    rw [e] at kk
    refine k_X1_isLimit_0 o (fun _ => ?_) (fun q => absurd (Int32.lt_of_lt_of_le c0 (by decide)) q)
    refine k_X1_isLimit_17 o ?_
    exact k_X1_isLimit_18 o kk
  · have M31 : M < 2147483648 := by have : ¬ _ := fun q => c0 (um_neg.mpr q); omega
    by_cases c1 : 10 ≤ M
    · refine k_X1_isLimit_0 o (fun q => absurd ((nI_ltI (b := 10) (by omega) (by omega)).mp (by rw [← em]; exact q)) (by omega)) (fun _ => ?_)
      by_cases c2 : M ≤ 20000
      · have e : lmt l = true := decide_eq_true (by omega)
        rw [e] at kk
        refine k_X1_isLimit_6 o (fun q => absurd ((nI_ltI (a := 20000) (by omega) (by omega)).mp (by rw [← em]; exact q)) (by omega)) (fun _ => ?_)
        refine k_X1_isLimit_13 o ?_
        exact k_X1_isLimit_18 o kk
      · have e : lmt l = false := decide_eq_false (by omega)
        rw [e] at kk
        refine k_X1_isLimit_6 o (fun _ => ?_) (fun q => absurd ((nI_ltI (a := 20000) (b := M) (by omega) (by omega)).mpr (by omega)) (by rw [← em]; exact q))
        refine k_X1_isLimit_17 o ?_
        exact k_X1_isLimit_18 o kk
    · have e : lmt l = false := decide_eq_false (by omega)
      rw [e] at kk
      refine k_X1_isLimit_0 o (fun _ => ?_) (fun q => absurd ((nI_ltI (a := M) (b := 10) (by omega) (by omega)).mpr (by omega)) (by rw [← em]; exact q))
      refine k_X1_isLimit_17 o ?_
      exact k_X1_isLimit_18 o kk
/-- what a new transaction writes -/
def txwF : List Nat := [2688, 2689, 2690, 2691, 2697, 2714, 2701]
def PNT (A X f a : Nat) : Prop := (f = 4 ∧ a = A) ∨ (txwF.contains f = true ∧ a = X)
theorem ltx_ok {ct : Nat} {snd sq : Int64} {lim b : Int32} (t0 : h.tag (yA y) = some (0, 0)) (rB : h.R 3 (yA y) = some (yB y)) (bk : BLK h (yB y) (yX y) (yL y) (yD y)) (hc : h.I 4 (yA y) = nI ct) (hct : ct < 32) (hb : b = 0 ∨ b = 1) (kk : ∀ h', Fq (PNT (yA y) (yX y ct)) h h' → h'.I 4 (yA y) = nI (ct + 1) → (h'.I 2688 (yX y ct) = b ∧ h'.J 2689 (yX y ct) = snd ∧ h'.J 2690 (yX y ct) = sq ∧ h'.I 2691 (yX y ct) = lim ∧ h'.I 2697 (yX y ct) = nI 0 ∧ h'.I 2701 (yX y ct) = nI 0) → K (.returned (some (.ref (yX y ct)))) h') : MW G d e_X1_transaction [.ref (yA y), .long snd, .long sq, .int lim, .int b] h K := by
  refine st_X1_transaction fun X o hG hD _ => ?_
  have tB := bk.1
  obtain ⟨eX, tX, -⟩ := bk.2.2 ct hct
  have ix : IX (nI ct) 32 ct := IX.mk hct (by omega)
  refine k_X1_transaction_0 (r4 := hc) (r12 := hc) (z15 := hb) o ?_
  rw [nI_add]
  have q : Fq (PNT (yA y) (yX y ct)) h (((((h.sI 4 (yA y) (nI (ct + 1))).sI 2688 (yX y ct) b).sJ 2689 (yX y ct) snd).sJ 2690 (yX y ct) sq).sI 2691 (yX y ct) lim) := Fq.sI (Fq.sJ (Fq.sJ (Fq.sI (Fq.sI (Fq.refl h) (Or.inl ⟨rfl, rfl⟩)) (Or.inr ⟨rfl, rfl⟩)) (Or.inr ⟨rfl, rfl⟩)) (Or.inr ⟨rfl, rfl⟩)) (Or.inr ⟨rfl, rfl⟩)
  have tX' := q.1.tag tX
  refine k_X1_transaction_47 o ?_
  refine kk _ (Fq.sI (Fq.sI (Fq.sI q (Or.inr ⟨rfl, rfl⟩)) (Or.inr ⟨rfl, rfl⟩)) (Or.inr ⟨rfl, rfl⟩)) (by simp [n_sI, z_sI, tag_sI, I_sI, J_sI, R_sI, EI_sI, EJ_sI, ER_sI, n_sJ, z_sJ, tag_sJ, I_sJ, J_sJ, R_sJ, EI_sJ, EJ_sJ, ER_sJ, n_sR, z_sR, tag_sR, I_sR, J_sR, R_sR, EI_sR, EJ_sR, ER_sR, n_sEI, z_sEI, tag_sEI, I_sEI, J_sEI, R_sEI, EI_sEI, EJ_sEI, ER_sEI, n_sEJ, z_sEJ, tag_sEJ, I_sEJ, J_sEJ, R_sEJ, EI_sEJ, EJ_sEJ, ER_sEJ, n_sER, z_sER, tag_sER, I_sER, J_sER, R_sER, EI_sER, EJ_sER, ER_sER, n_nw, z_nw, tag_nw, I_nw, J_nw, R_nw, EI_nw, EJ_nw, ER_nw]) ⟨by simp [n_sI, z_sI, tag_sI, I_sI, J_sI, R_sI, EI_sI, EJ_sI, ER_sI, n_sJ, z_sJ, tag_sJ, I_sJ, J_sJ, R_sJ, EI_sJ, EJ_sJ, ER_sJ, n_sR, z_sR, tag_sR, I_sR, J_sR, R_sR, EI_sR, EJ_sR, ER_sR, n_sEI, z_sEI, tag_sEI, I_sEI, J_sEI, R_sEI, EI_sEI, EJ_sEI, ER_sEI, n_sEJ, z_sEJ, tag_sEJ, I_sEJ, J_sEJ, R_sEJ, EI_sEJ, EJ_sEJ, ER_sEJ, n_sER, z_sER, tag_sER, I_sER, J_sER, R_sER, EI_sER, EJ_sER, ER_sER, n_nw, z_nw, tag_nw, I_nw, J_nw, R_nw, EI_nw, EJ_nw, ER_nw], by simp [n_sI, z_sI, tag_sI, I_sI, J_sI, R_sI, EI_sI, EJ_sI, ER_sI, n_sJ, z_sJ, tag_sJ, I_sJ, J_sJ, R_sJ, EI_sJ, EJ_sJ, ER_sJ, n_sR, z_sR, tag_sR, I_sR, J_sR, R_sR, EI_sR, EJ_sR, ER_sR, n_sEI, z_sEI, tag_sEI, I_sEI, J_sEI, R_sEI, EI_sEI, EJ_sEI, ER_sEI, n_sEJ, z_sEJ, tag_sEJ, I_sEJ, J_sEJ, R_sEJ, EI_sEJ, EJ_sEJ, ER_sEJ, n_sER, z_sER, tag_sER, I_sER, J_sER, R_sER, EI_sER, EJ_sER, ER_sER, n_nw, z_nw, tag_nw, I_nw, J_nw, R_nw, EI_nw, EJ_nw, ER_nw], by simp [n_sI, z_sI, tag_sI, I_sI, J_sI, R_sI, EI_sI, EJ_sI, ER_sI, n_sJ, z_sJ, tag_sJ, I_sJ, J_sJ, R_sJ, EI_sJ, EJ_sJ, ER_sJ, n_sR, z_sR, tag_sR, I_sR, J_sR, R_sR, EI_sR, EJ_sR, ER_sR, n_sEI, z_sEI, tag_sEI, I_sEI, J_sEI, R_sEI, EI_sEI, EJ_sEI, ER_sEI, n_sEJ, z_sEJ, tag_sEJ, I_sEJ, J_sEJ, R_sEJ, EI_sEJ, EJ_sEJ, ER_sEJ, n_sER, z_sER, tag_sER, I_sER, J_sER, R_sER, EI_sER, EJ_sER, ER_sER, n_nw, z_nw, tag_nw, I_nw, J_nw, R_nw, EI_nw, EJ_nw, ER_nw], by simp [n_sI, z_sI, tag_sI, I_sI, J_sI, R_sI, EI_sI, EJ_sI, ER_sI, n_sJ, z_sJ, tag_sJ, I_sJ, J_sJ, R_sJ, EI_sJ, EJ_sJ, ER_sJ, n_sR, z_sR, tag_sR, I_sR, J_sR, R_sR, EI_sR, EJ_sR, ER_sR, n_sEI, z_sEI, tag_sEI, I_sEI, J_sEI, R_sEI, EI_sEI, EJ_sEI, ER_sEI, n_sEJ, z_sEJ, tag_sEJ, I_sEJ, J_sEJ, R_sEJ, EI_sEJ, EJ_sEJ, ER_sEJ, n_sER, z_sER, tag_sER, I_sER, J_sER, R_sER, EI_sER, EJ_sER, ER_sER, n_nw, z_nw, tag_nw, I_nw, J_nw, R_nw, EI_nw, EJ_nw, ER_nw], by simp [n_sI, z_sI, tag_sI, I_sI, J_sI, R_sI, EI_sI, EJ_sI, ER_sI, n_sJ, z_sJ, tag_sJ, I_sJ, J_sJ, R_sJ, EI_sJ, EJ_sJ, ER_sJ, n_sR, z_sR, tag_sR, I_sR, J_sR, R_sR, EI_sR, EJ_sR, ER_sR, n_sEI, z_sEI, tag_sEI, I_sEI, J_sEI, R_sEI, EI_sEI, EJ_sEI, ER_sEI, n_sEJ, z_sEJ, tag_sEJ, I_sEJ, J_sEJ, R_sEJ, EI_sEJ, EJ_sEJ, ER_sEJ, n_sER, z_sER, tag_sER, I_sER, J_sER, R_sER, EI_sER, EJ_sER, ER_sER, n_nw, z_nw, tag_nw, I_nw, J_nw, R_nw, EI_nw, EJ_nw, ER_nw], by simp [n_sI, z_sI, tag_sI, I_sI, J_sI, R_sI, EI_sI, EJ_sI, ER_sI, n_sJ, z_sJ, tag_sJ, I_sJ, J_sJ, R_sJ, EI_sJ, EJ_sJ, ER_sJ, n_sR, z_sR, tag_sR, I_sR, J_sR, R_sR, EI_sR, EJ_sR, ER_sR, n_sEI, z_sEI, tag_sEI, I_sEI, J_sEI, R_sEI, EI_sEI, EJ_sEI, ER_sEI, n_sEJ, z_sEJ, tag_sEJ, I_sEJ, J_sEJ, R_sEJ, EI_sEJ, EJ_sEJ, ER_sEJ, n_sER, z_sER, tag_sER, I_sER, J_sER, R_sER, EI_sER, EJ_sER, ER_sER, n_nw, z_nw, tag_nw, I_nw, J_nw, R_nw, EI_nw, EJ_nw, ER_nw]⟩
theorem RCm.ly (r : RCm n G B cm y lx a h) : LYD y n := r.1.1.choose_spec.choose_spec.choose_spec.choose_spec.choose_spec.choose_spec.choose_spec.1.1.1.2
theorem RCm.md (r : RCm n G B cm y lx a h) {k : Nat} (hk : k < 32) : ∃ M0, h.R 2698 (yX y k) = some M0 ∧ ((h.tag M0 = some (1, 0) ∧ h.R 128 M0 = some (M0 + 1)) ∧ h.R 129 M0 = some (M0 + 525) ∧ h.tag (M0 + 525) = some (177, 2048)) ∧ STb h (M0 + 1) := by
  obtain ⟨MA, mw, dx, ms, g, l, o, -, -, -, -, ⟨⟨a1, -⟩, b, ⟨c1, -⟩, -⟩, -⟩ := r.1.1
  obtain ⟨t1, t2, -⟩ := c1 k hk
  have b5 := b.2.2.2.2
  obtain ⟨x1, x2, -⟩ := a1 (mw.2.1 k) (by omega)
  exact ⟨_, t2, x1, x2⟩
/-- a call is there -/
def abC (a : Ab) (x : TxC) : Ab := (a.1, a.2.1, (a.2.2.1.1, a.2.2.1.2 + 1), (fup a.2.2.2.1.1 a.2.2.1.2 x, fup a.2.2.2.1.2.1 a.2.2.1.2 false, a.2.2.2.1.2.2), a.2.2.2.2)
def lclF : List Nat := 4 :: txwF ++ [2692, 2693]
theorem fup_id {α : Type} {F : Nat → α} {k : Nat} : fup F k (F k) = F := funext fun i => by
  unfold fup
  split
  · rename_i e; rw [e]
  · rfl
theorem lcall_ok {snd sq : Int64} {lim mo fn : Int32} (r : RCm n G B cm y lx a h) (hd : 2 ≤ d) (k1 : ¬ (lmt lim = true ∧ um mo < 65536 ∧ um fn < 64) → K (.returned (some (.int (-1)))) h) (k2 : lmt lim = true ∧ um mo < 65536 ∧ um fn < 64 → a.2.2.1.2 = 32 → K (.returned (some (.int (-3)))) h) (kk : lmt lim = true ∧ um mo < 65536 ∧ um fn < 64 → a.2.2.1.2 < 32 → ∀ h', RCm n G B cm y lx (abC a (snd, sq, um lim, um mo, um fn, [])) h' → Fq (FS lclF) h h' → K (.returned (some (.int (nI a.2.2.1.2)))) h') : MW G d e_X1_call_2 [.ref (yA y), .long snd, .long sq, .int lim, .int mo, .int fn] h K := by
  refine st_X1_call_2 fun X o hG hD _ => ?_
  subst hG; subst hD
  have t0 := r.t0
  obtain ⟨rB, bk, ts, ti⟩ := r.bk
  have ly := r.ly
  obtain ⟨⟨r1, ⟨r2, r3, r4, r4'⟩, r5⟩, ⟨r6, r7, ⟨wv, r8⟩, r9, r9'⟩, ⟨r10, r11⟩, ⟨r12, r13, r14, r15⟩, r16, r17⟩ := id r
  refine k_X1_call_2_0 o ?_
  refine isLimit_ok ?_
  cases hl : lmt lim with
  | false =>
    refine k_X1_call_2_5 o (fun _ => k_X1_call_2_33 o (k1 (by rw [hl]; simp))) (fun q => absurd rfl q)
  | true =>
    refine k_X1_call_2_5 o (fun q => absurd q (by decide)) (fun _ => ?_)
    by_cases cm0 : mo < 0
    · exact k_X1_call_2_8 o (fun _ => k_X1_call_2_33 o (k1 (by have := um_neg.mp cm0; omega))) (fun q => absurd cm0 q)
    have m31 : um mo < 2147483648 := by have : ¬ _ := fun q => cm0 (um_neg.mpr q); omega
    have em : ∀ k, k < 2147483648 → (nI k < mo ↔ k < um mo) := fun k hk => by
      have := nI_ltI (a := k) (b := um mo) (by omega) (by omega)
      rw [nI_um] at this; exact this
    refine k_X1_call_2_8 o (fun q => absurd q cm0) (fun _ => ?_)
    by_cases cm1 : um mo < 65536
    · refine k_X1_call_2_13 o (fun q => absurd ((em 65535 (by omega)).mp q) (by omega)) (fun _ => ?_)
      by_cases cf0 : fn < 0
      · exact k_X1_call_2_21 o (fun _ => k_X1_call_2_33 o (k1 (by have := um_neg.mp cf0; omega))) (fun q => absurd cf0 q)
      have f31 : um fn < 2147483648 := by have : ¬ _ := fun q => cf0 (um_neg.mpr q); omega
      have ef : fn < nI 64 ↔ um fn < 64 := by
        have := nI_ltI (a := um fn) (b := 64) (by omega) (by omega)
        rw [nI_um] at this; exact this
      refine k_X1_call_2_21 o (fun q => absurd q cf0) (fun _ => ?_)
      by_cases cf1 : um fn < 64
      · refine k_X1_call_2_26 o (fun _ => ?_) (fun q => absurd (ef.mpr cf1) q)
        by_cases c32 : a.2.2.1.2 = 32
        · exact k_X1_call_2_35 (r2 := r3) o (fun q => absurd (by rw [c32]) q) (fun _ => k_X1_call_2_44 o (k2 ⟨hl, cm1, cf1⟩ c32))
        have ct : a.2.2.1.2 < 32 := by omega
        refine k_X1_call_2_35 (r2 := r3) o (fun _ => ?_) (fun q => absurd ((nI_eq (b := 32) (by omega) (by omega)).mp q) c32)
        refine k_X1_call_2_47 o ?_
        refine ltx_ok t0 rB bk r3 ct (Or.inl rfl) (fun h1 q1 c1 ⟨p1, p2, p3, p4, p5, p6⟩ => ?_)
        have tX := (bk.2.2 _ ct).2.1
        have tX1 := q1.1.tag tX
        have t01 := q1.1.tag t0
        refine k_X1_call_2_56 (r3 := c1) o ?_
        rw [show nI (a.2.2.1.2 + 1) - nI 1 = nI a.2.2.1.2 from nI_sub (by omega)]
        have q2 : Fq (fun f a' => PNT (yA y) (yX y a.2.2.1.2) f a' ∨ ((f = 2692 ∨ f = 2693) ∧ a' = yX y a.2.2.1.2)) h ((h1.sI 2692 (yX y a.2.2.1.2) mo).sI 2693 (yX y a.2.2.1.2) fn) := Fq.sI (Fq.sI (q1.mono fun f a' z => Or.inl z) (Or.inr ⟨Or.inl rfl, rfl⟩)) (Or.inr ⟨Or.inr rfl, rfl⟩)
        have g1 : ((h1.sI 2692 (yX y a.2.2.1.2) mo).sI 2693 (yX y a.2.2.1.2) fn).I 2692 (yX y a.2.2.1.2) = mo := by simp [n_sI, z_sI, tag_sI, I_sI, J_sI, R_sI, EI_sI, EJ_sI, ER_sI, n_sJ, z_sJ, tag_sJ, I_sJ, J_sJ, R_sJ, EI_sJ, EJ_sJ, ER_sJ, n_sR, z_sR, tag_sR, I_sR, J_sR, R_sR, EI_sR, EJ_sR, ER_sR, n_sEI, z_sEI, tag_sEI, I_sEI, J_sEI, R_sEI, EI_sEI, EJ_sEI, ER_sEI, n_sEJ, z_sEJ, tag_sEJ, I_sEJ, J_sEJ, R_sEJ, EI_sEJ, EJ_sEJ, ER_sEJ, n_sER, z_sER, tag_sER, I_sER, J_sER, R_sER, EI_sER, EJ_sER, ER_sER, n_nw, z_nw, tag_nw, I_nw, J_nw, R_nw, EI_nw, EJ_nw, ER_nw]
        have g2 : ((h1.sI 2692 (yX y a.2.2.1.2) mo).sI 2693 (yX y a.2.2.1.2) fn).I 2693 (yX y a.2.2.1.2) = fn := by simp [n_sI, z_sI, tag_sI, I_sI, J_sI, R_sI, EI_sI, EJ_sI, ER_sI, n_sJ, z_sJ, tag_sJ, I_sJ, J_sJ, R_sJ, EI_sJ, EJ_sJ, ER_sJ, n_sR, z_sR, tag_sR, I_sR, J_sR, R_sR, EI_sR, EJ_sR, ER_sR, n_sEI, z_sEI, tag_sEI, I_sEI, J_sEI, R_sEI, EI_sEI, EJ_sEI, ER_sEI, n_sEJ, z_sEJ, tag_sEJ, I_sEJ, J_sEJ, R_sEJ, EI_sEJ, EJ_sEJ, ER_sEJ, n_sER, z_sER, tag_sER, I_sER, J_sER, R_sER, EI_sER, EJ_sER, ER_sER, n_nw, z_nw, tag_nw, I_nw, J_nw, R_nw, EI_nw, EJ_nw, ER_nw]
        have g3 : ((h1.sI 2692 (yX y a.2.2.1.2) mo).sI 2693 (yX y a.2.2.1.2) fn).I 4 (yA y) = nI (a.2.2.1.2 + 1) := by simpa [n_sI, z_sI, tag_sI, I_sI, J_sI, R_sI, EI_sI, EJ_sI, ER_sI, n_sJ, z_sJ, tag_sJ, I_sJ, J_sJ, R_sJ, EI_sJ, EJ_sJ, ER_sJ, n_sR, z_sR, tag_sR, I_sR, J_sR, R_sR, EI_sR, EJ_sR, ER_sR, n_sEI, z_sEI, tag_sEI, I_sEI, J_sEI, R_sEI, EI_sEI, EJ_sEI, ER_sEI, n_sEJ, z_sEJ, tag_sEJ, I_sEJ, J_sEJ, R_sEJ, EI_sEJ, EJ_sEJ, ER_sEJ, n_sER, z_sER, tag_sER, I_sER, J_sER, R_sER, EI_sER, EJ_sER, ER_sER, n_nw, z_nw, tag_nw, I_nw, J_nw, R_nw, EI_nw, EJ_nw, ER_nw] using c1
        have g4 : (((h1.sI 2692 (yX y a.2.2.1.2) mo).sI 2693 (yX y a.2.2.1.2) fn).I 2688 (yX y a.2.2.1.2) = nI 0 ∧ ((h1.sI 2692 (yX y a.2.2.1.2) mo).sI 2693 (yX y a.2.2.1.2) fn).J 2689 (yX y a.2.2.1.2) = snd ∧ ((h1.sI 2692 (yX y a.2.2.1.2) mo).sI 2693 (yX y a.2.2.1.2) fn).J 2690 (yX y a.2.2.1.2) = sq ∧ ((h1.sI 2692 (yX y a.2.2.1.2) mo).sI 2693 (yX y a.2.2.1.2) fn).I 2691 (yX y a.2.2.1.2) = lim ∧ ((h1.sI 2692 (yX y a.2.2.1.2) mo).sI 2693 (yX y a.2.2.1.2) fn).I 2697 (yX y a.2.2.1.2) = nI 0 ∧ ((h1.sI 2692 (yX y a.2.2.1.2) mo).sI 2693 (yX y a.2.2.1.2) fn).I 2701 (yX y a.2.2.1.2) = nI 0) := ⟨by simpa [n_sI, z_sI, tag_sI, I_sI, J_sI, R_sI, EI_sI, EJ_sI, ER_sI, n_sJ, z_sJ, tag_sJ, I_sJ, J_sJ, R_sJ, EI_sJ, EJ_sJ, ER_sJ, n_sR, z_sR, tag_sR, I_sR, J_sR, R_sR, EI_sR, EJ_sR, ER_sR, n_sEI, z_sEI, tag_sEI, I_sEI, J_sEI, R_sEI, EI_sEI, EJ_sEI, ER_sEI, n_sEJ, z_sEJ, tag_sEJ, I_sEJ, J_sEJ, R_sEJ, EI_sEJ, EJ_sEJ, ER_sEJ, n_sER, z_sER, tag_sER, I_sER, J_sER, R_sER, EI_sER, EJ_sER, ER_sER, n_nw, z_nw, tag_nw, I_nw, J_nw, R_nw, EI_nw, EJ_nw, ER_nw] using p1, by simpa [n_sI, z_sI, tag_sI, I_sI, J_sI, R_sI, EI_sI, EJ_sI, ER_sI, n_sJ, z_sJ, tag_sJ, I_sJ, J_sJ, R_sJ, EI_sJ, EJ_sJ, ER_sJ, n_sR, z_sR, tag_sR, I_sR, J_sR, R_sR, EI_sR, EJ_sR, ER_sR, n_sEI, z_sEI, tag_sEI, I_sEI, J_sEI, R_sEI, EI_sEI, EJ_sEI, ER_sEI, n_sEJ, z_sEJ, tag_sEJ, I_sEJ, J_sEJ, R_sEJ, EI_sEJ, EJ_sEJ, ER_sEJ, n_sER, z_sER, tag_sER, I_sER, J_sER, R_sER, EI_sER, EJ_sER, ER_sER, n_nw, z_nw, tag_nw, I_nw, J_nw, R_nw, EI_nw, EJ_nw, ER_nw] using p2, by simpa [n_sI, z_sI, tag_sI, I_sI, J_sI, R_sI, EI_sI, EJ_sI, ER_sI, n_sJ, z_sJ, tag_sJ, I_sJ, J_sJ, R_sJ, EI_sJ, EJ_sJ, ER_sJ, n_sR, z_sR, tag_sR, I_sR, J_sR, R_sR, EI_sR, EJ_sR, ER_sR, n_sEI, z_sEI, tag_sEI, I_sEI, J_sEI, R_sEI, EI_sEI, EJ_sEI, ER_sEI, n_sEJ, z_sEJ, tag_sEJ, I_sEJ, J_sEJ, R_sEJ, EI_sEJ, EJ_sEJ, ER_sEJ, n_sER, z_sER, tag_sER, I_sER, J_sER, R_sER, EI_sER, EJ_sER, ER_sER, n_nw, z_nw, tag_nw, I_nw, J_nw, R_nw, EI_nw, EJ_nw, ER_nw] using p3, by simpa [n_sI, z_sI, tag_sI, I_sI, J_sI, R_sI, EI_sI, EJ_sI, ER_sI, n_sJ, z_sJ, tag_sJ, I_sJ, J_sJ, R_sJ, EI_sJ, EJ_sJ, ER_sJ, n_sR, z_sR, tag_sR, I_sR, J_sR, R_sR, EI_sR, EJ_sR, ER_sR, n_sEI, z_sEI, tag_sEI, I_sEI, J_sEI, R_sEI, EI_sEI, EJ_sEI, ER_sEI, n_sEJ, z_sEJ, tag_sEJ, I_sEJ, J_sEJ, R_sEJ, EI_sEJ, EJ_sEJ, ER_sEJ, n_sER, z_sER, tag_sER, I_sER, J_sER, R_sER, EI_sER, EJ_sER, ER_sER, n_nw, z_nw, tag_nw, I_nw, J_nw, R_nw, EI_nw, EJ_nw, ER_nw] using p4, by simpa [n_sI, z_sI, tag_sI, I_sI, J_sI, R_sI, EI_sI, EJ_sI, ER_sI, n_sJ, z_sJ, tag_sJ, I_sJ, J_sJ, R_sJ, EI_sJ, EJ_sJ, ER_sJ, n_sR, z_sR, tag_sR, I_sR, J_sR, R_sR, EI_sR, EJ_sR, ER_sR, n_sEI, z_sEI, tag_sEI, I_sEI, J_sEI, R_sEI, EI_sEI, EJ_sEI, ER_sEI, n_sEJ, z_sEJ, tag_sEJ, I_sEJ, J_sEJ, R_sEJ, EI_sEJ, EJ_sEJ, ER_sEJ, n_sER, z_sER, tag_sER, I_sER, J_sER, R_sER, EI_sER, EJ_sER, ER_sER, n_nw, z_nw, tag_nw, I_nw, J_nw, R_nw, EI_nw, EJ_nw, ER_nw] using p5, by simpa [n_sI, z_sI, tag_sI, I_sI, J_sI, R_sI, EI_sI, EJ_sI, ER_sI, n_sJ, z_sJ, tag_sJ, I_sJ, J_sJ, R_sJ, EI_sJ, EJ_sJ, ER_sJ, n_sR, z_sR, tag_sR, I_sR, J_sR, R_sR, EI_sR, EJ_sR, ER_sR, n_sEI, z_sEI, tag_sEI, I_sEI, J_sEI, R_sEI, EI_sEI, EJ_sEI, ER_sEI, n_sEJ, z_sEJ, tag_sEJ, I_sEJ, J_sEJ, R_sEJ, EI_sEJ, EJ_sEJ, ER_sEJ, n_sER, z_sER, tag_sER, I_sER, J_sER, R_sER, EI_sER, EJ_sER, ER_sER, n_nw, z_nw, tag_nw, I_nw, J_nw, R_nw, EI_nw, EJ_nw, ER_nw] using p6⟩
        generalize (h1.sI 2692 (yX y a.2.2.1.2) mo).sI 2693 (yX y a.2.2.1.2) fn = h2 at q2 g1 g2 g3 g4
        obtain ⟨g4, g5, g6, g7, g8, g9⟩ := g4
        -- which fields, and where
        have nf : ∀ l : List Nat, l.all (fun f => !(lclF.contains f)) = true → ∀ f a', l.contains f = true → ¬ (PNT (yA y) (yX y a.2.2.1.2) f a' ∨ ((f = 2692 ∨ f = 2693) ∧ a' = yX y a.2.2.1.2)) := fun l hl f a' hf z => by
          rw [List.all_eq_true] at hl
          have := hl f (List.contains_iff_mem.mp hf)
          rw [Bool.not_eq_true', Bool.eq_false_iff] at this
          apply this
          rw [List.contains_iff_mem]
          rcases z with (z | z) | z
          · rw [z.1]; decide
          · exact List.mem_cons_of_mem _ (List.mem_append_left _ (List.contains_iff_mem.mp z.1))
          · rcases z.1 with z | z <;> (rw [z]; decide)
        have na : ∀ f a', f ≠ 4 → a' ≠ yX y a.2.2.1.2 → ¬ (PNT (yA y) (yX y a.2.2.1.2) f a' ∨ ((f = 2692 ∨ f = 2693) ∧ a' = yX y a.2.2.1.2)) := fun f a' hf ha z => by
          rcases z with (z | z) | z
          · exact hf z.1
          · exact ha z.2
          · exact ha z.2
        have nX : ∀ k, k < 32 → k ≠ a.2.2.1.2 → yX y k ≠ yX y a.2.2.1.2 := fun k hk hne => (r16 k _ hk ct hne).1
        obtain ⟨M0, hM, -⟩ := r.md ct
        have lim2 : um lim ≤ 20000 := (of_decide_eq_true hl).2
        have ex := EXV.tx (ct' := a.2.2.1.2 + 1) (x := (snd, sq, um lim, um mo, um fn, [])) (b := false) (bt := a.2.2.2.1.2.2.1 a.2.2.1.2) ct r1 q2 (fun f a' hv z => by
          have : ∀ f ∈ lclF, ¬ ((3712 ≤ f ∧ f ≤ 3718) ∨ f = 1280) := by decide
          exact nf [f] (by
            simp only [List.all_cons, List.all_nil, Bool.and_true, Bool.not_eq_true']
            rw [Bool.eq_false_iff]
            exact fun q => this f (List.contains_iff_mem.mp q) hv) f a' (by simp) z) (nf exvB (by decide +kernel)) (fun k hk hne f hf => na f (yX y k) (fun q => by rw [q] at hf; exact absurd hf (by decide)) (nX k hk hne)) (fun k hk hne => ⟨nf [10000 + 752] (by decide) (10000 + 752) (y.2 4 k) (by decide), nf [10000 + 771] (by decide) (10000 + 771) (y.2 5 k) (by decide), nf [10000 + 787] (by decide) (10000 + 787) (y.2 6 k) (by decide)⟩) hM (fun f a' hf z => absurd z (nf mdxF (by decide) f a' hf)) ⟨?_, by rw [g7]; exact (nI_um _).symm, g5, g4⟩ (fun _ _ q => by cases q) (fun k _ k2 k3 => by omega)
        · rw [fup_id] at ex
          refine kk ⟨hl, cm1, cf1⟩ ct h2 ⟨⟨ex, ⟨by rw [q2.1.I (nf [5] (by decide) _ _ rfl)]; exact r2, g3, by show a.2.2.1.1 ≤ a.2.2.1.2 + 1; omega, ct⟩, fun k hk => ?_⟩, ⟨by rw [q2.1.J (nf [17] (by decide) _ _ rfl)]; exact r6, r7.fr q2.1 (nf _ (by decide)), ⟨wv, r8.fr q2.1 (nf _ (by decide))⟩, r9.fr q2.1 (nf _ (by decide)), r9'⟩, ⟨fun k k1 k2 => ?_, fun k k1 k2 => ?_⟩, ⟨by rw [q2.1.R (nf [13] (by decide) _ _ rfl)]; exact r12, r13.fr q2.1 (nf _ (by decide)), q2.1.tag r14, r15.fr q2.1 (nf [14096] (by decide) _ _ rfl)⟩, r16, r17⟩ (q2.mono fun f a' z => ?_)
          · show (fup a.2.2.2.1.1 a.2.2.1.2 (snd, sq, um lim, um mo, um fn, []) k).2.2.1 ≤ 20000 ∧ (fup a.2.2.2.1.2.1 a.2.2.1.2 false k = false → AGv (fup a.2.2.2.1.1 a.2.2.1.2 (snd, sq, um lim, um mo, um fn, []) k).2.2.2.2.2) ∧ (fup a.2.2.2.1.2.1 a.2.2.1.2 false k = true → BGd (a.2.2.2.1.2.2.1 k))
            by_cases ek : k = a.2.2.1.2
            · subst ek
              rw [fup_s, fup_s]
              exact ⟨lim2, fun _ => ⟨Nat.zero_le _, fun a ha => by simp at ha⟩, fun q => by cases q⟩
            · rw [fup_n ek, fup_n ek]
              have hk : k < a.2.2.1.2 + 1 := hk
              exact r5 k (by omega)
          · have k2 : k < a.2.2.1.1 := k2
            obtain ⟨x1, x2⟩ := r10 k k1 k2
            have hne : k ≠ a.2.2.1.2 := by omega
            have := ((ly.2.2 k (by omega)).2.2 _ ct).2 hne
            show TXO h2 y k (fup a.2.2.2.1.2.1 a.2.2.1.2 false k) _ ∧ _
            rw [fup_n hne]
            refine ⟨x1.fr q2.1 (fun f hf a' ha => na f a' (fun q => by rw [q] at hf; exact absurd hf (by decide)) (fun q => ?_)), by rw [q2.1.I (na 2701 (yX y k) (by decide) (nX k (by omega) hne))]; exact x2⟩
            rcases ha with e | e | e | e <;> exact this.2.2 _ 1 (by decide) (by decide) (e.symm.trans q)
          · by_cases ek : k = a.2.2.1.2
            · rw [ek]; exact g9
            · have k2 : k < a.2.2.1.2 + 1 := k2
              rw [q2.1.I (na 2701 (yX y k) (by decide) (nX k (by omega) ek))]
              exact r11 k k1 (by omega)
          · show lclF.contains f = true
            rw [List.contains_iff_mem]
            rcases z with (z | z) | z
            · rw [z.1]; decide
            · exact List.mem_cons_of_mem _ (List.mem_append_left _ (List.contains_iff_mem.mp z.1))
            · rcases z.1 with z | z <;> (rw [z]; decide)
        · obtain ⟨⟨-, -⟩, ⟨-, -⟩, ⟨⟨z1, z2⟩, ⟨z3, z4⟩, z5, z6⟩, -⟩ := (ti _ ct).1
          exact ⟨⟨g6, by rw [g1]; exact (nI_um _).symm, cm1, by rw [g2]; exact (nI_um _).symm, cf1⟩, ⟨g8, Nat.zero_le _⟩, ⟨⟨by rw [q2.1.R (nf [2694] (by decide) _ _ rfl)]; exact z1, q2.1.tag z2⟩, ⟨by rw [q2.1.R (nf [2695] (by decide) _ _ rfl)]; exact z3, q2.1.tag z4⟩, by rw [q2.1.R (nf [2696] (by decide) _ _ rfl)]; exact z5, q2.1.tag z6⟩, fun i a' ha => by simp at ha⟩
      · refine k_X1_call_2_26 o (fun q => absurd (ef.mp q) cf1) (fun _ => ?_)
        exact k_X1_call_2_33 o (k1 (fun q => cf1 q.2.2))
    · refine k_X1_call_2_13 o (fun _ => ?_) (fun q => absurd ((em 65535 (by omega)).mpr (by omega)) q)
      exact k_X1_call_2_33 o (k1 (fun q => cm1 q.2.1))
end
