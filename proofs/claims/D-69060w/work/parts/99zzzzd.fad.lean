/-! the ledger's face: begin, weave, unweave, bytes, tape -/
section
variable {n B : Nat} {G : Gt} {cm : Md} {y : Ly} {lx : Lx} {a : Ab} {h h' : AH} {d : Nat} {K : Outcome → AH → Prop} {P : Nat → Nat → Prop}
theorem EXV.z {X : Nat → TxC} {pb : Nat → Bool} {BT : Nat → By} {f ct f' ct' : Nat} {s : Qs} {bn : Int64} (hc : ct' ≤ f') (e : EXV n G B cm y X pb BT f ct s bn h) : EXV n G B cm y X pb BT f' ct' s bn h := by
  obtain ⟨MA, mw, dx, ms, g, l, o, e1, e3, e4, e5, ⟨a1, a2, a3, a4, -, a6⟩, e7⟩ := e
  exact ⟨MA, mw, dx, ms, g, l, o, e1, e3, e4, e5, ⟨a1, a2, a3, a4, fun k k1 k2 k3 _ => by omega, a6⟩, e7⟩
theorem fsr {l : List Nat} {f a : Nat} (h : l.contains f = true) : FS l f a := h
/-- only these fields -/
theorem nol {l : List Nat} {l2 : List Nat} (hl : l.all (fun f => !(l2.contains f)) = true) : ∀ f a, l.contains f = true → ¬ FS l2 f a := fun f a hf q => by
  rw [List.all_eq_true] at hl
  have := hl f (List.contains_iff_mem.mp hf)
  rw [show l2.contains f = true from q] at this; cases this
theorem nov_l {l2 : List Nat} (hl : l2.all (fun f => !((3712 ≤ f && f ≤ 3718) || f == 1280)) = true) : ∀ f a, VQ f a → ¬ FS l2 f a := fun f a hv q => VQ.no hl f a q hv
/-- where nothing of it is written -/
theorem RCm.fr {l2 : List Nat} (q : Fq (FS l2) h h') (np : (exvF ++ rcxF).all (fun f => !(l2.contains f)) = true) (nv : l2.all (fun f => !((3712 ≤ f && f ≤ 3718) || f == 1280)) = true) (r : RCm n G B cm y lx a h) : RCm n G B cm y lx a h' := by
  have np' := nol np
  have sub : ∀ l' : List Nat, l'.all (fun f => (exvF ++ rcxF).contains f) = true → ∀ f a, l'.contains f = true → ¬ FS l2 f a := fun l' hl f a hf => np' f a (by rw [List.all_eq_true] at hl; exact hl f (List.contains_iff_mem.mp hf))
  obtain ⟨⟨r1, ⟨r2, r3, r4⟩, r5⟩, ⟨r6, r7, ⟨wv, r8⟩, r9, r9'⟩, ⟨r10, r11⟩, ⟨r12, r13, r14, r15⟩, r16⟩ := r
  refine ⟨⟨r1.fr q (fun f a hf => np' f a (by rw [List.contains_iff_mem] at hf ⊢; exact List.mem_append_left _ hf)) (nov_l nv) (Nat.le_refl _), ⟨by rw [q.1.I (sub [5] (by decide) _ _ rfl)]; exact r2, by rw [q.1.I (sub [4] (by decide) _ _ rfl)]; exact r3, r4⟩, r5⟩, ⟨by rw [q.1.J (sub [17] (by decide) _ _ rfl)]; exact r6, r7.fr q.1 (sub _ (by decide)), ⟨wv, r8.fr q.1 (sub _ (by decide))⟩, r9.fr q.1 (sub _ (by decide)), r9'⟩, ⟨fun k k1 k2 => ?_, fun k k1 k2 => ?_⟩, ⟨by rw [q.1.R (sub [13] (by decide) _ _ rfl)]; exact r12, r13.fr q.1 (sub _ (by decide)), q.1.tag r14, r15.fr q.1 (sub [14096] (by decide) _ _ rfl)⟩, r16⟩
  · obtain ⟨x1, x2⟩ := r10 k k1 k2
    exact ⟨x1.fr q.1 (fun f hf a _ => sub (txF ++ resF) (by decide) f a hf), by rw [q.1.I (sub [2701] (by decide) _ _ rfl)]; exact x2⟩
  · rw [q.1.I (sub [2701] (by decide) _ _ rfl)]; exact r11 k k1 k2
theorem lbg_ok (r : RCm n G B cm y lx a h) (kk : ∀ h', RCm n G B cm y lx (a.1, a.2.1, (0, 0), a.2.2.2) h' → Fq (FS [4, 5]) h h' → K (.returned (some (.int (nI a.2.2.1.2)))) h') : MW G d e_X1_begin [.ref (yA y)] h K := by
  refine st_X1_begin fun X o hG hD _ => ?_
  have t0 := r.t0
  obtain ⟨⟨r1, ⟨r2, r3, r4⟩, r5⟩, ⟨r6, r7, ⟨wv, r8⟩, r9, r9'⟩, ⟨r10, r11⟩, ⟨r12, r13, r14, r15⟩, r16⟩ := r
  have q : Fq (FS [4, 5]) h ((h.sI 4 (yA y) (nI 0)).sI 5 (yA y) (nI 0)) := Fq.sI (Fq.sI (Fq.refl h) (fsr rfl)) (fsr rfl)
  have e1 : ((h.sI 4 (yA y) (nI 0)).sI 5 (yA y) (nI 0)).I 5 (yA y) = nI 0 := by simp [n_sI, z_sI, tag_sI, I_sI, J_sI, R_sI, EI_sI, EJ_sI, ER_sI, n_sJ, z_sJ, tag_sJ, I_sJ, J_sJ, R_sJ, EI_sJ, EJ_sJ, ER_sJ, n_sR, z_sR, tag_sR, I_sR, J_sR, R_sR, EI_sR, EJ_sR, ER_sR, n_sEI, z_sEI, tag_sEI, I_sEI, J_sEI, R_sEI, EI_sEI, EJ_sEI, ER_sEI, n_sEJ, z_sEJ, tag_sEJ, I_sEJ, J_sEJ, R_sEJ, EI_sEJ, EJ_sEJ, ER_sEJ, n_sER, z_sER, tag_sER, I_sER, J_sER, R_sER, EI_sER, EJ_sER, ER_sER, n_nw, z_nw, tag_nw, I_nw, J_nw, R_nw, EI_nw, EJ_nw, ER_nw]
  have e2 : ((h.sI 4 (yA y) (nI 0)).sI 5 (yA y) (nI 0)).I 4 (yA y) = nI 0 := by simp [n_sI, z_sI, tag_sI, I_sI, J_sI, R_sI, EI_sI, EJ_sI, ER_sI, n_sJ, z_sJ, tag_sJ, I_sJ, J_sJ, R_sJ, EI_sJ, EJ_sJ, ER_sJ, n_sR, z_sR, tag_sR, I_sR, J_sR, R_sR, EI_sR, EJ_sR, ER_sR, n_sEI, z_sEI, tag_sEI, I_sEI, J_sEI, R_sEI, EI_sEI, EJ_sEI, ER_sEI, n_sEJ, z_sEJ, tag_sEJ, I_sEJ, J_sEJ, R_sEJ, EI_sEJ, EJ_sEJ, ER_sEJ, n_sER, z_sER, tag_sER, I_sER, J_sER, R_sER, EI_sER, EJ_sER, ER_sER, n_nw, z_nw, tag_nw, I_nw, J_nw, R_nw, EI_nw, EJ_nw, ER_nw]
  refine k_X1_begin_0 (r2 := r3) o ?_
  refine kk _ ⟨⟨(r1.fr q (nol (by decide)) (nov_l (by decide)) (Nat.le_refl _)).z (Nat.le_refl _), ⟨e1, e2, Nat.le_refl _, Nat.zero_le _⟩, fun k hk => absurd hk (Nat.not_lt_zero _)⟩, ⟨by rw [q.1.J (nol (l := [17]) (by decide) _ _ rfl)]; exact r6, r7.fr q.1 (nol (by decide)), ⟨wv, r8.fr q.1 (nol (by decide))⟩, r9.fr q.1 (nol (by decide)), r9'⟩, ⟨fun k _ k2 => absurd k2 (Nat.not_lt_zero _), fun k _ k2 => absurd k2 (Nat.not_lt_zero _)⟩, ⟨by rw [q.1.R (nol (l := [13]) (by decide) _ _ rfl)]; exact r12, r13.fr q.1 (nol (by decide)), q.1.tag r14, r15.fr q.1 (nol (l := [14096]) (by decide) _ _ rfl)⟩, r16⟩ q
theorem unweave_ok (r : RCm n G B cm y lx a h) (kk : ∀ h', RCm n G B cm y lx (a.1, a.2.1, a.2.2.1, a.2.2.2.1, 0, a.2.2.2.2.2) h' → Fq (FS [9]) h h' → K (.returned (some (.int (nI a.2.2.2.2.1)))) h') : MW G d e_X1_unweave [.ref (yA y)] h K := by
  refine st_X1_unweave fun X o hG hD _ => ?_
  have t0 := r.t0
  obtain ⟨⟨r1, ⟨r2, r3, r4⟩, r5⟩, ⟨r6, r7, ⟨wv, r8⟩, r9, r9'⟩, ⟨r10, r11⟩, ⟨r12, r13, r14, r15⟩, r16⟩ := r
  have q : Fq (FS [9]) h (h.sI 9 (yA y) (nI 0)) := Fq.sI (Fq.refl h) (fsr rfl)
  have e1 : (h.sI 9 (yA y) (nI 0)).I 9 (yA y) = nI 0 := by simp [n_sI, z_sI, tag_sI, I_sI, J_sI, R_sI, EI_sI, EJ_sI, ER_sI, n_sJ, z_sJ, tag_sJ, I_sJ, J_sJ, R_sJ, EI_sJ, EJ_sJ, ER_sJ, n_sR, z_sR, tag_sR, I_sR, J_sR, R_sR, EI_sR, EJ_sR, ER_sR, n_sEI, z_sEI, tag_sEI, I_sEI, J_sEI, R_sEI, EI_sEI, EJ_sEI, ER_sEI, n_sEJ, z_sEJ, tag_sEJ, I_sEJ, J_sEJ, R_sEJ, EI_sEJ, EJ_sEJ, ER_sEJ, n_sER, z_sER, tag_sER, I_sER, J_sER, R_sER, EI_sER, EJ_sER, ER_sER, n_nw, z_nw, tag_nw, I_nw, J_nw, R_nw, EI_nw, EJ_nw, ER_nw]
  refine k_X1_unweave_0 (r2 := r8.1) o ?_
  obtain ⟨w1, ⟨w2, w3⟩, w4, w5⟩ := r8
  refine kk _ ⟨⟨r1.fr q (nol (by decide)) (nov_l (by decide)) (Nat.le_refl _), ⟨by rw [q.1.I (nol (l := [5]) (by decide) _ _ rfl)]; exact r2, by rw [q.1.I (nol (l := [4]) (by decide) _ _ rfl)]; exact r3, r4⟩, r5⟩, ⟨by rw [q.1.J (nol (l := [17]) (by decide) _ _ rfl)]; exact r6, r7.fr q.1 (nol (by decide)), ⟨wv, e1, ⟨by rw [q.1.R (nol (l := [8]) (by decide) _ _ rfl)]; exact w2, q.1.tag w3⟩, ⟨Nat.zero_le _, w4.2⟩, fun i hi => absurd hi (Nat.not_lt_zero _)⟩, r9.fr q.1 (nol (by decide)), r9'⟩, ⟨fun k k1 k2 => ?_, fun k k1 k2 => ?_⟩, ⟨by rw [q.1.R (nol (l := [13]) (by decide) _ _ rfl)]; exact r12, r13.fr q.1 (nol (by decide)), q.1.tag r14, r15.fr q.1 (nol (l := [14096]) (by decide) _ _ rfl)⟩, r16⟩ q
  · obtain ⟨x1, x2⟩ := r10 k k1 k2
    exact ⟨x1.fr q.1 (fun f hf a _ => nol (l := txF ++ resF) (by decide) f a hf), by rw [q.1.I (nol (l := [2701]) (by decide) _ _ rfl)]; exact x2⟩
  · rw [q.1.I (nol (l := [2701]) (by decide) _ _ rfl)]; exact r11 k k1 k2
/-- a byte of the weave -/
theorem wv_15 (v : Int64) (s : Int64) : ∃ k, k < 2147483648 ∧ i8 ((v >>> s) &&& 15).toInt32 = nI k := by
  have e : ((v >>> s) &&& (15 : Int64)) = lN (un (v >>> s) % 16) := un_inj (by rw [un_and, un_l (by omega), show un (15 : Int64) = 2 ^ 4 - 1 from rfl, Nat.and_two_pow_sub_one_eq_mod])
  refine ⟨un (v >>> s) % 16, by omega, ?_⟩
  rw [e, n32_l (by omega), i8_n (by omega)]
theorem weave_ok {v : Int64} (r : RCm n G B cm y lx a h) (k1 : 4080 < a.2.2.2.2.1 → K (.returned (some (.int (-3)))) h) (kk : a.2.2.2.2.1 ≤ 4080 → ∀ h', RCm n G B cm y lx (a.1, a.2.1, a.2.2.1, a.2.2.2.1, a.2.2.2.2.1 + 16, a.2.2.2.2.2) h' → Fq (FS [9, 10000 + 97]) h h' → K (.returned (some (.int (nI (a.2.2.2.2.1 + 16))))) h') : MW G d e_X1_weave [.ref (yA y), .long v] h K := by
  refine st_X1_weave fun X o hG hD _ => ?_
  have t0 := r.t0
  obtain ⟨⟨r1, ⟨r2, r3, r4⟩, r5⟩, ⟨r6, r7, ⟨wv, r8⟩, r9, r9'⟩, ⟨r10, r11⟩, ⟨r12, r13, r14, r15⟩, r16⟩ := id r
  obtain ⟨w1, ⟨w2, w3⟩, ⟨w4, w5⟩, w6⟩ := r8
  by_cases c : a.2.2.2.2.1 ≤ 4080
  · refine k_X1_weave_0 (r2 := w1) o (fun _ => ?_) (fun q => absurd (by rw [nI_add]; exact (nI_leI (by omega) (by omega)).mpr (by omega)) q)
    refine k_X1_weave_16 o ?_
    have loop : ∀ m h1 wv1, m ≤ 16 → Fq (FS [9, 10000 + 97]) h h1 → WVF h1 (yA y) lx.2.1 4096 (a.2.2.2.2.1 + (16 - m)) wv1 → V X K 19 [.ref (yA y), .long v, nov, .int (nI (4 * m) + (-4))] [] h1 := by
      intro m
      induction m with
      | zero =>
        intro h1 wv1 hm q wf
        have t1 := q.1.tag t0
        refine k_X1_weave_19 o (fun _ => ?_) (fun z => absurd (by decide) z)
        have wo := wf.1
        refine k_X1_weave_57 (r2 := wo) o ?_
        refine kk c h1 ⟨⟨r1.fr q (nol (by decide)) (nov_l (by decide)) (Nat.le_refl _), ⟨by rw [q.1.I (nol (l := [5]) (by decide) _ _ rfl)]; exact r2, by rw [q.1.I (nol (l := [4]) (by decide) _ _ rfl)]; exact r3, r4⟩, r5⟩, ⟨by rw [q.1.J (nol (l := [17]) (by decide) _ _ rfl)]; exact r6, r7.fr q.1 (nol (by decide)), ⟨wv1, wf⟩, r9.fr q.1 (nol (by decide)), r9'⟩, ⟨fun k k1 k2 => ?_, fun k k1 k2 => ?_⟩, ⟨by rw [q.1.R (nol (l := [13]) (by decide) _ _ rfl)]; exact r12, r13.fr q.1 (nol (by decide)), q.1.tag r14, r15.fr q.1 (nol (l := [14096]) (by decide) _ _ rfl)⟩, r16⟩ q
        · obtain ⟨x1, x2⟩ := r10 k k1 k2
          exact ⟨x1.fr q.1 (fun f hf a _ => nol (l := txF ++ resF) (by decide) f a hf), by rw [q.1.I (nol (l := [2701]) (by decide) _ _ rfl)]; exact x2⟩
        · rw [q.1.I (nol (l := [2701]) (by decide) _ _ rfl)]; exact r11 k k1 k2
      | succ m ih =>
        intro h1 wv1 hm q wf
        have t1 := q.1.tag t0
        obtain ⟨v1, ⟨v2, v3⟩, ⟨v4, v5⟩, v6⟩ := wf
        have en : nI (4 * (m + 1)) + (-4) = nI (4 * m) := by
          rw [show 4 * (m + 1) = 4 * m + 4 by omega, ← nI_add, Int32.add_assoc]; show nI (4 * m) + 0 = _; rw [Int32.add_zero]
        rw [en]
        refine k_X1_weave_19 o (fun z => absurd z (nI_nn (by omega))) (fun _ => ?_)
        have ix : IX (nI (a.2.2.2.2.1 + (16 - (m + 1)))) 4096 (a.2.2.2.2.1 + (16 - (m + 1))) := IX.mk (by omega) (by omega)
        refine k_X1_weave_23 (r4 := v1) (r10 := v1) o ?_
        obtain ⟨b, b1, b2⟩ := wv_15 v ((nI (4 * m)).toInt64 &&& 63)
        have eb : ((((v >>> ((nI (4 * m)).toInt64 &&& 63)) &&& 15).toInt32).toInt8.toInt32).toInt8.toInt32 = nI b := by
          rw [← b2]; exact i8_i8 _
        rw [eb, nI_add]
        refine ih _ (fun i => if i = a.2.2.2.2.1 + (16 - (m + 1)) then b else wv1 i) (by omega) (Fq.sI (Fq.sEI q (fsr rfl)) (fsr rfl)) ⟨?_, ⟨by simpa [n_sI, z_sI, tag_sI, I_sI, J_sI, R_sI, EI_sI, EJ_sI, ER_sI, n_sJ, z_sJ, tag_sJ, I_sJ, J_sJ, R_sJ, EI_sJ, EJ_sJ, ER_sJ, n_sR, z_sR, tag_sR, I_sR, J_sR, R_sR, EI_sR, EJ_sR, ER_sR, n_sEI, z_sEI, tag_sEI, I_sEI, J_sEI, R_sEI, EI_sEI, EJ_sEI, ER_sEI, n_sEJ, z_sEJ, tag_sEJ, I_sEJ, J_sEJ, R_sEJ, EI_sEJ, EJ_sEJ, ER_sEJ, n_sER, z_sER, tag_sER, I_sER, J_sER, R_sER, EI_sER, EJ_sER, ER_sER, n_nw, z_nw, tag_nw, I_nw, J_nw, R_nw, EI_nw, EJ_nw, ER_nw] using v2, by simpa [n_sI, z_sI, tag_sI, I_sI, J_sI, R_sI, EI_sI, EJ_sI, ER_sI, n_sJ, z_sJ, tag_sJ, I_sJ, J_sJ, R_sJ, EI_sJ, EJ_sJ, ER_sJ, n_sR, z_sR, tag_sR, I_sR, J_sR, R_sR, EI_sR, EJ_sR, ER_sR, n_sEI, z_sEI, tag_sEI, I_sEI, J_sEI, R_sEI, EI_sEI, EJ_sEI, ER_sEI, n_sEJ, z_sEJ, tag_sEJ, I_sEJ, J_sEJ, R_sEJ, EI_sEJ, EJ_sEJ, ER_sEJ, n_sER, z_sER, tag_sER, I_sER, J_sER, R_sER, EI_sER, EJ_sER, ER_sER, n_nw, z_nw, tag_nw, I_nw, J_nw, R_nw, EI_nw, EJ_nw, ER_nw] using v3⟩, ⟨by omega, v5⟩, fun i hi => ?_⟩
        · rw [show a.2.2.2.2.1 + (16 - m) = a.2.2.2.2.1 + (16 - (m + 1)) + 1 by omega]
          simp [n_sI, z_sI, tag_sI, I_sI, J_sI, R_sI, EI_sI, EJ_sI, ER_sI, n_sJ, z_sJ, tag_sJ, I_sJ, J_sJ, R_sJ, EI_sJ, EJ_sJ, ER_sJ, n_sR, z_sR, tag_sR, I_sR, J_sR, R_sR, EI_sR, EJ_sR, ER_sR, n_sEI, z_sEI, tag_sEI, I_sEI, J_sEI, R_sEI, EI_sEI, EJ_sEI, ER_sEI, n_sEJ, z_sEJ, tag_sEJ, I_sEJ, J_sEJ, R_sEJ, EI_sEJ, EJ_sEJ, ER_sEJ, n_sER, z_sER, tag_sER, I_sER, J_sER, R_sER, EI_sER, EJ_sER, ER_sER, n_nw, z_nw, tag_nw, I_nw, J_nw, R_nw, EI_nw, EJ_nw, ER_nw]
        · dsimp only
          by_cases ei : i = a.2.2.2.2.1 + (16 - (m + 1))
          · rw [if_pos ei, ei]
            exact ⟨by simp [n_sI, z_sI, tag_sI, I_sI, J_sI, R_sI, EI_sI, EJ_sI, ER_sI, n_sJ, z_sJ, tag_sJ, I_sJ, J_sJ, R_sJ, EI_sJ, EJ_sJ, ER_sJ, n_sR, z_sR, tag_sR, I_sR, J_sR, R_sR, EI_sR, EJ_sR, ER_sR, n_sEI, z_sEI, tag_sEI, I_sEI, J_sEI, R_sEI, EI_sEI, EJ_sEI, ER_sEI, n_sEJ, z_sEJ, tag_sEJ, I_sEJ, J_sEJ, R_sEJ, EI_sEJ, EJ_sEJ, ER_sEJ, n_sER, z_sER, tag_sER, I_sER, J_sER, R_sER, EI_sER, EJ_sER, ER_sER, n_nw, z_nw, tag_nw, I_nw, J_nw, R_nw, EI_nw, EJ_nw, ER_nw], b1⟩
          · rw [if_neg ei]
            obtain ⟨z1, z2⟩ := v6 i (by omega)
            exact ⟨by rw [EI_sI, EI_sEI, if_neg (fun q => ei q.2.2)]; exact z1, z2⟩
    have := loop 16 h wv (Nat.le_refl _) (Fq.refl h) ⟨w1, ⟨w2, w3⟩, ⟨w4, w5⟩, w6⟩
    exact this
  · refine k_X1_weave_0 (r2 := w1) o (fun q => absurd ((nI_leI (a := a.2.2.2.2.1 + 16) (b := 4096) (by omega) (by omega)).mp (by rw [← nI_add]; exact q)) (by omega)) (fun _ => ?_)
    exact k_X1_weave_13 o (k1 (by omega))
/-- bytes that are shown -/
def bofF (a : Ab) (i : Nat) : Int32 := match a.2.2.2.2.2.2[i]? with
  | some b => b &&& nI 255
  | none => -1
theorem byteOf_ok {i : Int32} (r : RCm n G B cm y lx a h) (kk : K (.returned (some (.int (bofF a (um i))))) h) : MW G d e_X1_byteOf [.ref (yA y), .int i] h K := by
  refine st_X1_byteOf fun X o hG hD _ => ?_
  have t0 := r.t0
  obtain ⟨-, ⟨-, -, -, ⟨⟨s1, s2⟩, s3, s4, s5⟩, -⟩, -⟩ := id r
  by_cases c0 : i < 0
  · have : a.2.2.2.2.2.2[um i]? = none := List.getElem?_eq_none_iff.mpr (by have := um_neg.mp c0; omega)
    unfold bofF at kk
    rw [this] at kk
    refine k_X1_byteOf_0 o (fun _ => ?_) (fun q => absurd c0 q)
    refine k_X1_byteOf_25 o ?_
    exact k_X1_byteOf_26 o kk
  · have i31 : um i < 2147483648 := by have : ¬ _ := fun q => c0 (um_neg.mpr q); omega
    have e : (nI a.2.2.2.2.2.2.length ≤ i) ↔ a.2.2.2.2.2.2.length ≤ um i := by
      have := nI_leI (a := a.2.2.2.2.2.2.length) (b := um i) (by omega) (by omega)
      rw [nI_um] at this
      exact this
    refine k_X1_byteOf_0 o (fun q => absurd q c0) (fun _ => ?_)
    refine k_X1_byteOf_4 (r2 := s3) o (fun q => ?_) (fun q => ?_)
    · have : a.2.2.2.2.2.2[um i]? = none := List.getElem?_eq_none_iff.mpr (e.mp q)
      unfold bofF at kk
      rw [this] at kk
      refine k_X1_byteOf_25 o ?_
      exact k_X1_byteOf_26 o kk
    · have il : um i < a.2.2.2.2.2.2.length := by have : ¬ _ := fun z => q (e.mpr z); omega
      obtain ⟨b, hb⟩ : ∃ b, a.2.2.2.2.2.2[um i]? = some b := ⟨_, List.getElem?_eq_getElem il⟩
      have ix : IX i 2048 (um i) := by
        have := IX.mk (k := um i) (len := 2048) (by omega) (by omega)
        rw [nI_um] at this
        exact this
      unfold bofF at kk
      rw [hb] at kk
      have := s5 _ b hb
      refine k_X1_byteOf_12 (r8 := this) o ?_
      exact k_X1_byteOf_26 o kk
theorem nb_get {v : Int64} : ∀ (M m : Nat), m + 1 ≤ M → (nb v M)[M - (m + 1)]? = some (i8 ((v >>> ((nI (8 * m)).toInt64 &&& 63)).toInt32)) := fun M => by
  induction M with
  | zero => intro m hm; omega
  | succ M ih =>
    intro m hm
    by_cases e : m = M
    · subst e
      rw [Nat.sub_self]; rfl
    · have := ih m (by omega)
      rw [show M + 1 - (m + 1) = (M - (m + 1)) + 1 by omega]
      exact this
theorem type_ok {v : Int64} {m : Int32} (r : RCm n G B cm y lx a h) (k1 : ¬ (1 ≤ um m ∧ um m ≤ 8) → K (.returned (some (.int (-1)))) h) (k2 : 1 ≤ um m ∧ um m ≤ 8 → 2048 < a.1.length + um m → K (.returned (some (.int (-3)))) h) (kk : 1 ≤ um m ∧ um m ≤ 8 → a.1.length + um m ≤ 2048 → ∀ h', RCm n G B cm y lx (a.1 ++ nb v (um m), a.2) h' → Fq (FS [16, 10000 + 113]) h h' → K (.returned (some (.int (nI (a.1.length + um m))))) h') : MW G d e_X1_type [.ref (yA y), .long v, .int m] h K := by
  refine st_X1_type fun X o hG hD _ => ?_
  have t0 := r.t0
  obtain ⟨⟨r1, ⟨r2, r3, r4⟩, r5⟩, ⟨r6, r7, ⟨wv, r8⟩, r9, r9'⟩, ⟨r10, r11⟩, ⟨r12, r13, r14, r15⟩, r16⟩ := id r
  obtain ⟨⟨w1, w2⟩, w3, w4, w5⟩ := r7
  generalize hm : um m = M at *
  have em : m = nI M := by rw [← hm, nI_um]
  subst em
  have M32 : M < 4294967296 := by rw [← hm]; exact um_lt _
  by_cases c0 : nI M < 0
  · have := um_neg.mp c0
    rw [hm] at this
    refine k_X1_type_0 o (fun _ => k_X1_type_11 o (k1 (by omega))) (fun q => ?_)
    exact absurd (Int32.lt_of_lt_of_le c0 (by decide)) q
  have M31 : M < 2147483648 := by
    have : ¬ _ := fun q => c0 (um_neg.mpr q)
    rw [hm] at this
    omega
  by_cases c1 : 1 ≤ M
  · refine k_X1_type_0 o (fun q => absurd ((nI_ltI (b := 1) (by omega) (by omega)).mp q) (by omega)) (fun _ => ?_)
    by_cases c8 : M ≤ 8
    · refine k_X1_type_5 o (fun _ => ?_) (fun q => absurd ((nI_leI (by omega) (by omega)).mpr c8) q)
      by_cases ct : a.1.length + M ≤ 2048
      · refine k_X1_type_13 (r2 := w3) o (fun _ => ?_) (fun q => absurd (by rw [nI_add]; exact (nI_leI (by omega) (by omega)).mpr ct) q)
        refine k_X1_type_28 o ?_
        have loop : ∀ m h1, m ≤ M → Fq (FS [16, 10000 + 113]) h h1 → h1.I 16 (yA y) = nI (a.1.length + (M - m)) → (∀ i x, (a.1 ++ nb v M)[i]? = some x → i < a.1.length + (M - m) → h1.EI 113 lx.1 i = x) → V X K 33 [.ref (yA y), .long v, nov, .int (nI M), .int (nI m - nI 1)] [] h1 := by
          intro m
          induction m with
          | zero =>
            intro h1 hm q q2 q3
            have t1 := q.1.tag t0
            refine k_X1_type_33 o (fun _ => ?_) (fun z => absurd (by decide) z)
            refine k_X1_type_72 (r2 := q2) o ?_
            refine kk ⟨c1, c8⟩ ct h1 ⟨⟨r1.fr q (nol (by decide)) (nov_l (by decide)) (Nat.le_refl _), ⟨by rw [q.1.I (nol (l := [5]) (by decide) _ _ rfl)]; exact r2, by rw [q.1.I (nol (l := [4]) (by decide) _ _ rfl)]; exact r3, r4⟩, r5⟩, ⟨by rw [q.1.J (nol (l := [17]) (by decide) _ _ rfl)]; exact r6, ⟨⟨by rw [q.1.R (nol (l := [15]) (by decide) _ _ rfl)]; exact w1, q.1.tag w2⟩, by rw [q2, List.length_append, nb_len]; rfl, by rw [List.length_append, nb_len]; exact ct, fun i x hx => q3 i x hx (by have := (List.getElem?_eq_some_iff.mp hx).1; rw [List.length_append, nb_len] at this; exact this)⟩, ⟨wv, r8.fr q.1 (nol (by decide))⟩, r9.fr q.1 (nol (by decide)), r9'⟩, ⟨fun k k1 k2 => ?_, fun k k1 k2 => ?_⟩, ⟨by rw [q.1.R (nol (l := [13]) (by decide) _ _ rfl)]; exact r12, r13.fr q.1 (nol (by decide)), q.1.tag r14, r15.fr q.1 (nol (l := [14096]) (by decide) _ _ rfl)⟩, r16⟩ q
            · obtain ⟨x1, x2⟩ := r10 k k1 k2
              exact ⟨x1.fr q.1 (fun f hf a _ => nol (l := txF ++ resF) (by decide) f a hf), by rw [q.1.I (nol (l := [2701]) (by decide) _ _ rfl)]; exact x2⟩
            · rw [q.1.I (nol (l := [2701]) (by decide) _ _ rfl)]; exact r11 k k1 k2
          | succ m ih =>
            intro h1 hm q q2 q3
            have t1 := q.1.tag t0
            have en : nI (m + 1) - nI 1 = nI m := nI_sub (a := m + 1) (b := 1) (by omega)
            have ej : nI m + (-1) = nI m - nI 1 := by rw [Int32.sub_eq_add_neg]; rfl
            rw [en]
            have rt : h1.R 15 (yA y) = some lx.1 := by rw [q.1.R (nol (l := [15]) (by decide) _ _ rfl)]; exact w1
            have tt := q.1.tag w2
            refine k_X1_type_33 o (fun z => absurd z (nI_nn (by omega))) (fun _ => ?_)
            have ix : IX (nI (a.1.length + (M - (m + 1)))) 2048 (a.1.length + (M - (m + 1))) := IX.mk (by omega) (by omega)
            refine k_X1_type_38 (r4 := q2) (r10 := q2) o ?_
            have eb : (((v >>> ((nI 8 * nI m).toInt64 &&& 63)).toInt32).toInt8.toInt32).toInt8.toInt32 = i8 ((v >>> ((nI (8 * m)).toInt64 &&& 63)).toInt32) := by
              rw [nI_mul]; exact i8_i8 _
            rw [eb, nI_add, ej]
            refine ih _ (by omega) (Fq.sI (Fq.sEI q (fsr rfl)) (fsr rfl)) ?_ (fun i x hx hi => ?_)
            · rw [show a.1.length + (M - m) = a.1.length + (M - (m + 1)) + 1 by omega]
              simp [n_sI, z_sI, tag_sI, I_sI, J_sI, R_sI, EI_sI, EJ_sI, ER_sI, n_sJ, z_sJ, tag_sJ, I_sJ, J_sJ, R_sJ, EI_sJ, EJ_sJ, ER_sJ, n_sR, z_sR, tag_sR, I_sR, J_sR, R_sR, EI_sR, EJ_sR, ER_sR, n_sEI, z_sEI, tag_sEI, I_sEI, J_sEI, R_sEI, EI_sEI, EJ_sEI, ER_sEI, n_sEJ, z_sEJ, tag_sEJ, I_sEJ, J_sEJ, R_sEJ, EI_sEJ, EJ_sEJ, ER_sEJ, n_sER, z_sER, tag_sER, I_sER, J_sER, R_sER, EI_sER, EJ_sER, ER_sER, n_nw, z_nw, tag_nw, I_nw, J_nw, R_nw, EI_nw, EJ_nw, ER_nw]
            · by_cases ei : i = a.1.length + (M - (m + 1))
              · subst ei
                rw [List.getElem?_append_right (by omega), Nat.add_sub_cancel_left, nb_get M m hm] at hx
                rw [← Option.some.inj hx]
                simp [n_sI, z_sI, tag_sI, I_sI, J_sI, R_sI, EI_sI, EJ_sI, ER_sI, n_sJ, z_sJ, tag_sJ, I_sJ, J_sJ, R_sJ, EI_sJ, EJ_sJ, ER_sJ, n_sR, z_sR, tag_sR, I_sR, J_sR, R_sR, EI_sR, EJ_sR, ER_sR, n_sEI, z_sEI, tag_sEI, I_sEI, J_sEI, R_sEI, EI_sEI, EJ_sEI, ER_sEI, n_sEJ, z_sEJ, tag_sEJ, I_sEJ, J_sEJ, R_sEJ, EI_sEJ, EJ_sEJ, ER_sEJ, n_sER, z_sER, tag_sER, I_sER, J_sER, R_sER, EI_sER, EJ_sER, ER_sER, n_nw, z_nw, tag_nw, I_nw, J_nw, R_nw, EI_nw, EJ_nw, ER_nw]
              · have := q3 i x hx (by omega)
                simpa [n_sI, z_sI, tag_sI, I_sI, J_sI, R_sI, EI_sI, EJ_sI, ER_sI, n_sJ, z_sJ, tag_sJ, I_sJ, J_sJ, R_sJ, EI_sJ, EJ_sJ, ER_sJ, n_sR, z_sR, tag_sR, I_sR, J_sR, R_sR, EI_sR, EJ_sR, ER_sR, n_sEI, z_sEI, tag_sEI, I_sEI, J_sEI, R_sEI, EI_sEI, EJ_sEI, ER_sEI, n_sEJ, z_sEJ, tag_sEJ, I_sEJ, J_sEJ, R_sEJ, EI_sEJ, EJ_sEJ, ER_sEJ, n_sER, z_sER, tag_sER, I_sER, J_sER, R_sER, EI_sER, EJ_sER, ER_sER, n_nw, z_nw, tag_nw, I_nw, J_nw, R_nw, EI_nw, EJ_nw, ER_nw, ei] using this
        have := loop M h (Nat.le_refl _) (Fq.refl h) (by rw [Nat.sub_self]; exact w3) (fun i x hx hi => by
          rw [Nat.sub_self] at hi
          rw [List.getElem?_append_left hi] at hx
          exact w5 i x hx)
        exact this
      · refine k_X1_type_13 (r2 := w3) o (fun q => absurd ((nI_leI (a := a.1.length + M) (b := 2048) (by omega) (by omega)).mp (by rw [← nI_add]; exact q)) (by omega)) (fun _ => ?_)
        exact k_X1_type_25 o (k2 ⟨c1, c8⟩ (by omega))
    · refine k_X1_type_5 o (fun q => absurd ((nI_leI (b := 8) (by omega) (by omega)).mp q) c8) (fun _ => ?_)
      exact k_X1_type_11 o (k1 (by omega))
  · refine k_X1_type_0 o (fun _ => k_X1_type_11 o (k1 (by omega))) (fun q => absurd ((nI_ltI (b := 1) (by omega) (by omega)).mpr (by omega)) q)
end
