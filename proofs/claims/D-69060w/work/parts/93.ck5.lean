/-! the component's checker: locals and references -/
theorem bit_enc {k : Nat} (hk : k < 63) : (1 : Int64) <<< ((nI k).toInt64 &&& 63) = enc (2 ^ k, false) := un_inj (by
  rw [un_shl _ (by omega), show un (1 : Int64) = 1 from rfl, Nat.one_shiftLeft, Nat.mod_eq_of_lt (show 2 ^ k < 2 ^ 64 from Nat.pow_lt_pow_right (by omega) (by omega)), un_enc (show 2 ^ k < 2 ^ 63 from Nat.pow_lt_pow_right (by omega) hk)]
  unfold ogn; simp)
theorem pw63 {k : Nat} (hk : k < 63) : 2 ^ k < 9223372036854775808 := show 2 ^ k < 2 ^ 63 from Nat.pow_lt_pow_right (by omega) hk
theorem enc_mod {o : Og} (h : o.1 < 9223372036854775808) : un (enc o) % 9223372036854775808 = o.1 := by rw [un_enc h, ogn_m h]
theorem lgt_set {l : Ls} {k : Nat} {v : Option Og} (hk : k < l.length) (j : Nat) : lgt (l.set k v) j = if j = k then v else lgt l j := by
  unfold lgt
  rw [List.getElem?_set]
  by_cases c : k = j
  · subst c; rw [if_pos rfl, if_pos hk, if_pos rfl]; rfl
  · rw [if_neg c, if_neg (fun z => c z.symm)]
theorem BT.clr {x : Int64} {f : Nat → Bool} (hx : BT x f) {k : Nat} (hk : k < 64) : BT (x &&& (((1 : Int64) <<< ((nI k).toInt64 &&& 63)) ^^^ (-1))) (fun j => f j && !decide (j = k)) := fun j => by
  have hb := BT.pw hk j
  rw [un_and, un_xor, Nat.testBit_and, Nat.testBit_xor, hx j, hb, show un (-1 : Int64) = 2 ^ 64 - 1 from rfl, Nat.testBit_two_pow_sub_one]
  by_cases c : j < 64
  · show (f j && (decide (j = k) ^^ decide (j < 64))) = (f j && !decide (j = k))
    rw [decide_eq_true c]; cases decide (j = k) <;> rfl
  · have : f j = false := by
      rw [← hx j]
      exact Nat.testBit_lt_two_pow (Nat.lt_of_lt_of_le (un_lt x) (show 2 ^ 64 ≤ 2 ^ j from Nat.pow_le_pow_right (by omega) (by omega)))
    show (f j && _) = (f j && _)
    rw [this]; rfl
theorem LSh.put {h h' : AH} {C k : Nat} {lt : List Ty} {l : Ls} {og : Og} (s : LSh h C lt l) (hk : k < l.length) (hk64 : k < 64) (ho : og.1 < 9223372036854775808 ∧ (isRf (tgt lt k) = false → og = (0, false))) (e1 : h'.J 1543 C = (h.J 1543 C ||| (1 : Int64) <<< ((nI k).toInt64 &&& 63))) (e2 : h'.EJ 419 (C + 7) k = enc og) (e3 : ∀ j, j ≠ k → h'.EJ 419 (C + 7) j = h.EJ 419 (C + 7) j) : LSh h' C lt (l.set k (some og)) := by
  refine ⟨?_, fun j o hj => ?_, by simp [s.2.2.1], fun j o hj => ?_⟩
  · rw [e1]
    refine (s.1.or (BT.pw hk64)).cg fun j => ?_
    rw [lgt_set hk]
    by_cases c : j = k
    · rw [if_pos c, decide_eq_true c]; simp
    · rw [if_neg c, decide_eq_false c]; simp
  · rw [List.getElem?_set] at hj
    by_cases c : k = j
    · subst c
      rw [if_pos rfl, if_pos hk] at hj
      cases hj; exact e2
    · rw [if_neg c] at hj
      rw [e3 j (fun z => c z.symm)]; exact s.2.1 j o hj
  · rw [List.getElem?_set] at hj
    by_cases c : k = j
    · subst c
      rw [if_pos rfl, if_pos hk] at hj
      cases hj; exact ho
    · rw [if_neg c] at hj
      exact s.2.2.2 j o hj
theorem LSh.clr {h h' : AH} {C k : Nat} {lt : List Ty} {l : Ls} (s : LSh h C lt l) (hk : k < l.length) (hk64 : k < 64) (e1 : h'.J 1543 C = (h.J 1543 C &&& (((1 : Int64) <<< ((nI k).toInt64 &&& 63)) ^^^ (-1)))) (e3 : ∀ j, h'.EJ 419 (C + 7) j = h.EJ 419 (C + 7) j) : LSh h' C lt (l.set k none) := by
  refine ⟨?_, fun j o hj => ?_, by simp [s.2.2.1], fun j o hj => ?_⟩
  · rw [e1]
    refine (s.1.clr hk64).cg fun j => ?_
    rw [lgt_set hk]
    by_cases c : j = k
    · rw [if_pos c, decide_eq_true c]; simp
    · rw [if_neg c, decide_eq_false c]; simp
  · rw [List.getElem?_set] at hj
    by_cases c : k = j
    · subst c
      rw [if_pos rfl, if_pos hk] at hj
      cases hj
    · rw [if_neg c] at hj
      rw [e3 j]; exact s.2.1 j o hj
  · rw [List.getElem?_set] at hj
    by_cases c : k = j
    · subst c
      rw [if_pos rfl, if_pos hk] at hj
      cases hj
    · rw [if_neg c] at hj
      exact s.2.2.2 j o hj
/-- the state that an operation leaves -/
def CN (K : Outcome → AH → Prop) (C : Nat) (m : Md) (lt : List Ty) (h : AH) (c : Cs) : Prop := ∀ h', Fq (FS opF) h h' → SKh h' C m c.1 → LSh h' C lt c.2 → K (.returned none) h'
def ptF : List Nat := [1542, 10000 + 387, 10000 + 403]
theorem tk_mem {m : Md} {h : AH} {C : Nat} {s : Sk} (hk : SKh h C m s) {r : (Ty × Og) × Sk} (er : tk s = .ok r) : tOK m r.1.1 ∧ r.1.2.1 < 9223372036854775808 ∧ (isRf r.1.1 = false → r.1.2 = (0, false)) := by
  cases s with
  | nil => cases er
  | cons x s => cases er; exact hk.2.2.2 x (by simp)
theorem tkT_mem {m : Md} {h : AH} {C : Nat} {s : Sk} {t : Ty} (hk : SKh h C m s) {r : (Ty × Og) × Sk} (er : tkT t s = .ok r) : r.1.1 = t ∧ r.1.2.1 < 9223372036854775808 ∧ (isRf t = false → r.1.2 = (0, false)) := by
  obtain ⟨r', e1, e2⟩ := eb_ok er
  obtain ⟨_, e3, e4⟩ := eb_ok e2
  cases e4
  unfold nee at e3
  split at e3
  · next e =>
    have e : r.1.1 = t := by simpa using e
    have := tk_mem hk e1
    exact ⟨e, this.2.1, fun z => this.2.2 (by rw [e]; exact z)⟩
  · cases e3
theorem tkR_mem {m : Md} {h : AH} {C : Nat} {s : Sk} {t : Ty} {w : Bool} (hk : SKh h C m s) {r : (Ty × Og) × Sk} (er : tkR t w s = .ok r) : isRf r.1.1 = true ∧ r.1.1.tail = t ∧ tOK m r.1.1 ∧ r.1.2.1 < 9223372036854775808 := by
  obtain ⟨r', e1, e2⟩ := eb_ok er
  obtain ⟨_, e3, e4⟩ := eb_ok e2
  obtain ⟨_, e5, e6⟩ := eb_ok e4
  cases e6
  unfold nee at e3
  split at e3
  · next e =>
    simp at e
    have := tk_mem hk e1
    exact ⟨e.1, e.2, this.1, this.2.1⟩
  · cases e3
theorem cuse_ok {G : Gt} {d : Nat} {h : AH} {K : Outcome → AH → Prop} {C W T F k op : Nat} {m : Md} {u : Ux} {s : Sk} {l : Ls} (hs : CTb h C W T F m u) (hu : gU m u) (h4 : ab4 m) (hk : SKh h C m s) (hl : LSh h C (lty u) l) (hkn : k < nlo u) (hop : 11 ≤ op ∧ op ≤ 15) (hd : 8 ≤ d) (kk : EQ (cLoc m (lty u) op k (s, l)) (CN K C m (lty u) h) (CE K C W h)) : MW G d e_X13_useLocal [.ref C, .int (nI op), .int (nI k)] h K := by
  refine st_X13_useLocal fun X o hG hD _ => ?_
  subst hG; subst hD
  have t0 := hs.1.1.1
  have hn := hu.n
  have hgt := hu.lt hkn
  have tvt := hgt.ok.tv.1
  have hll : k < l.length := by rw [hl.2.2.1, lty_len]; exact hkn
  have hb := bit_enc (k := k) (by omega)
  have hbm : un ((1 : Int64) <<< ((nI k).toInt64 &&& 63)) % 9223372036854775808 = 2 ^ k := by rw [hb, enc_mod (pw63 (by omega))]
  have ixk : IX (nI k) 40 k := IX.mk (by omega) (by omega)
  unfold cLoc at kk
  refine k_X13_useLocal_0 o ?_
  refine cloc_ok hs hu hkn (by omega) ?_
  refine k_X13_useLocal_5 o ?_
  refine isReference_ok tvt (by omega) ?_
  generalize hrf : isRf (tgt (lty u) k) = rf at *
  -- not borrowed
  by_cases c13 : op = 13
  · subst c13
    rw [if_pos rfl] at kk
    have kk := EQ_eb.mp kk
    refine k_X13_useLocal_10 o (fun c => absurd rfl c) (fun _ => ?_)
    refine k_X13_useLocal_23 o ?_
    refine ctakeT_ok hs.1 hk tvt (by omega) (kk.mono (fun r er k2 h1 f1 tn1 sk1 => ?_) (fun w t => t))
    have hs1 : CTb h1 C W T F m u := hs.fr f1.1 (FS.no rfl)
    have hl1 : LSh h1 C (lty u) l := hl.fr f1 rfl
    have u0 := hs1.1.1.1
    have mem := tkT_mem hk er
    have k3 := EQ_eb.mp k2
    -- behind the ability
    have tail : EQ (eb (nee (rf || !liv (lty u) r.2 l (2 ^ k) 0) 6) fun _ => .ok (r.2, l.set k (some r.1.2))) (CN K C m (lty u) h) (CE K C W h) → V X K 42 [.ref C, .int (nI 13), .int (nI k), .long (lN (tyc (tgt (lty u) k))), nov, .int (bI rf), .long ((1 : Int64) <<< ((nI k).toInt64 &&& 63)), nov] [] h1 := fun k4 => by
      have k4 := EQ_eb.mp k4
      have key : ∀ b, (rf || !liv (lty u) r.2 l (2 ^ k) 0) = b → V X K 63 [.ref C, .int (nI 13), .int (nI k), .long (lN (tyc (tgt (lty u) k))), nov, .int (bI rf), .long ((1 : Int64) <<< ((nI k).toInt64 &&& 63)), nov] [.int (bI b), .ref C] h1 := fun b hb' => by
        rw [hb'] at k4
        refine k_X13_useLocal_63 o ?_
        refine cneed_ok hs1.1 (by omega) (k4.mono (fun _ _ k5 => ?_) (fun w t => CE.fq f1 t rfl))
        have r2 := tn1.2
        have r3 := hs1.1.2.1.2.2.1
        have r4 := hs1.1.2.2.2.2.2.2.2.1
        show V X K 68 [.ref C, .int (nI 13), .int (nI k), .long (lN (tyc (tgt (lty u) k))), nov, .int (bI rf), .long ((1 : Int64) <<< ((nI k).toInt64 &&& 63)), nov] [] h1
        refine k_X13_useLocal_68 o ?_
        have f2 : Fq (FS opF) h1 ((h1.sJ 1543 C (h1.J 1543 C ||| (1 : Int64) <<< ((nI k).toInt64 &&& 63))).sEJ 419 (C + 7) k (enc r.1.2)) := (by refine (Fq.sEJ (Fq.sJ (Fq.refl h1) ?_) ?_) <;> exact rfl)
        refine k5 _ ((f1.mono (FS.mono rfl)).trans f2) ?_ ?_
        · refine SKh.fr (l := [1543, 10000 + 419]) ?_ rfl sk1
          exact (by refine (Fq.sEJ (Fq.sJ (Fq.refl h1) ?_) ?_) <;> exact rfl)
        · refine hl1.put hll (by omega) ⟨mem.2.1, fun z => mem.2.2 (by rw [hrf] at z ⊢; exact z)⟩ ?_ ?_ fun j hj => ?_
          · simp [n_sI, z_sI, tag_sI, I_sI, J_sI, R_sI, EI_sI, EJ_sI, ER_sI, n_sJ, z_sJ, tag_sJ, I_sJ, J_sJ, R_sJ, EI_sJ, EJ_sJ, ER_sJ, n_sR, z_sR, tag_sR, I_sR, J_sR, R_sR, EI_sR, EJ_sR, ER_sR, n_sEI, z_sEI, tag_sEI, I_sEI, J_sEI, R_sEI, EI_sEI, EJ_sEI, ER_sEI, n_sEJ, z_sEJ, tag_sEJ, I_sEJ, J_sEJ, R_sEJ, EI_sEJ, EJ_sEJ, ER_sEJ, n_sER, z_sER, tag_sER, I_sER, J_sER, R_sER, EI_sER, EJ_sER, ER_sER, n_nw, z_nw, tag_nw, I_nw, J_nw, R_nw, EI_nw, EJ_nw, ER_nw]
          · simp [n_sI, z_sI, tag_sI, I_sI, J_sI, R_sI, EI_sI, EJ_sI, ER_sI, n_sJ, z_sJ, tag_sJ, I_sJ, J_sJ, R_sJ, EI_sJ, EJ_sJ, ER_sJ, n_sR, z_sR, tag_sR, I_sR, J_sR, R_sR, EI_sR, EJ_sR, ER_sR, n_sEI, z_sEI, tag_sEI, I_sEI, J_sEI, R_sEI, EI_sEI, EJ_sEI, ER_sEI, n_sEJ, z_sEJ, tag_sEJ, I_sEJ, J_sEJ, R_sEJ, EI_sEJ, EJ_sEJ, ER_sEJ, n_sER, z_sER, tag_sER, I_sER, J_sER, R_sER, EI_sER, EJ_sER, ER_sER, n_nw, z_nw, tag_nw, I_nw, J_nw, R_nw, EI_nw, EJ_nw, ER_nw]
          · simp [n_sI, z_sI, tag_sI, I_sI, J_sI, R_sI, EI_sI, EJ_sI, ER_sI, n_sJ, z_sJ, tag_sJ, I_sJ, J_sJ, R_sJ, EI_sJ, EJ_sJ, ER_sJ, n_sR, z_sR, tag_sR, I_sR, J_sR, R_sR, EI_sR, EJ_sR, ER_sR, n_sEI, z_sEI, tag_sEI, I_sEI, J_sEI, R_sEI, EI_sEI, EJ_sEI, ER_sEI, n_sEJ, z_sEJ, tag_sEJ, I_sEJ, J_sEJ, R_sEJ, EI_sEJ, EJ_sEJ, ER_sEJ, n_sER, z_sER, tag_sER, I_sER, J_sER, R_sER, EI_sER, EJ_sER, ER_sER, n_nw, z_nw, tag_nw, I_nw, J_nw, R_nw, EI_nw, EJ_nw, ER_nw, hj]
      cases rf with
      | true =>
        refine k_X13_useLocal_42 o (fun _ => ?_) (fun c => absurd (show bI true = 0 from c) (by decide))
        refine k_X13_useLocal_58 o ?_
        exact key true rfl
      | false =>
        refine k_X13_useLocal_42 o (fun c => absurd rfl c) (fun _ => ?_)
        refine k_X13_useLocal_48 o ?_
        refine cliv_ok hs1 hu sk1 hl1 hbm (by omega) (by omega) ?_
        cases hh : liv (lty u) r.2 l (2 ^ k) 0 with
        | true =>
          refine k_X13_useLocal_55 o (fun _ => ?_) (fun c => absurd (show bI true = 0 from c) (by decide))
          refine k_X13_useLocal_62 o ?_
          exact key false (by rw [hh]; rfl)
        | false =>
          refine k_X13_useLocal_55 o (fun c => absurd rfl c) (fun _ => ?_)
          refine k_X13_useLocal_58 o ?_
          exact key true (by rw [hh]; rfl)
    show V X K 28 [.ref C, .int (nI 13), .int (nI k), .long (lN (tyc (tgt (lty u) k))), nov, .int (bI rf), .long ((1 : Int64) <<< ((nI k).toInt64 &&& 63)), nov] [] h1
    refine k_X13_useLocal_28 o ?_
    refine cith_ok hs1.1 hl1 (by omega) ?_
    cases hth : lgt l k with
    | none =>
      have k3 : EQ (nee ((lgt l k).isNone || hsA m (tgt (lty u) k) 2) 4) (fun _ => EQ (eb (nee (rf || !liv (lty u) r.2 l (2 ^ k) 0) 6) fun _ => .ok (r.2, l.set k (some r.1.2))) (CN K C m (lty u) h) (CE K C W h)) (CE K C W h) := k3
      rw [hth] at k3
      refine k_X13_useLocal_33 o (fun _ => ?_) (fun c => absurd rfl c)
      exact tail k3
    | some og =>
      have k3 : EQ (nee ((lgt l k).isNone || hsA m (tgt (lty u) k) 2) 4) (fun _ => EQ (eb (nee (rf || !liv (lty u) r.2 l (2 ^ k) 0) 6) fun _ => .ok (r.2, l.set k (some r.1.2))) (CN K C m (lty u) h) (CE K C W h)) (CE K C W h) := k3
      rw [hth] at k3
      refine k_X13_useLocal_33 o (fun c => absurd (show bI true = 0 from c) (by decide)) (fun _ => ?_)
      refine k_X13_useLocal_36 o ?_
      exact cnab_ok hs1 h4 hgt.ok (by omega) (by omega) (EQ.mono (r := nee (hsA m (tgt (lty u) k) 2) 4) k3 (fun _ _ k4 => tail k4) (fun w t => CE.fq f1 t rfl))
  rw [if_neg c13] at kk
  refine k_X13_useLocal_10 o (fun _ => ?_) (fun c => absurd ((nI_eq (by omega) (by omega)).mp c) c13)
  refine k_X13_useLocal_90 o ?_
  refine cith_ok hs.1 hl (by omega) ?_
  refine k_X13_useLocal_96 o ?_
  have kk : EQ (match lgt l k with
    | none => .error 5
    | some og =>
      if op = 11 then eb (nee (hsA m (tgt (lty u) k) 1) 4) fun _ => eb (nee (rf || !liv (lty u) s l (2 ^ k) 1) 6) fun _ => eb (pt (tgt (lty u) k) (ogr (tgt (lty u) k) og) s) fun s => .ok (s, l)
      else if op = 12 then eb (nee (rf || !liv (lty u) s l (2 ^ k) 0) 6) fun _ => eb (pt (tgt (lty u) k) (ogr (tgt (lty u) k) og) s) fun s => .ok (s, l.set k none)
      else eb (nee (!rf) 3) fun _ => eb (nee (!liv (lty u) s l (2 ^ k) (if op = 14 then 1 else 0)) 6) fun _ => eb (pt ((if op = 14 then 8 else 9) :: tgt (lty u) k) (2 ^ k, false) s) fun s => .ok (s, l) : Except Nat Cs) (CN K C m (lty u) h) (CE K C W h) := kk
  cases hth : lgt l k with
  | none =>
    rw [hth] at kk
    exact cneed_ok (b := false) hs.1 (by omega) kk
  | some og =>
    rw [hth] at kk
    have hlk : l[k]? = some (some og) := by
      unfold lgt at hth
      cases hh : l[k]? with
      | none => rw [hh] at hth; cases hth
      | some v => rw [hh] at hth; exact congrArg some hth
    obtain ⟨q1, q2⟩ := hl.2.2.2 k og hlk
    have eor := hl.2.1 k og hlk
    have r3 := hs.1.2.1.2.2.1
    have r4 := hs.1.2.2.2.2.2.2.2.1
    have hog : (ogr (tgt (lty u) k) og).1 < 9223372036854775808 ∧ (isRf (tgt (lty u) k) = false → ogr (tgt (lty u) k) og = (0, false)) := by
      unfold ogr
      cases hh : isRf (tgt (lty u) k) with
      | true => exact ⟨q1, fun z => by cases z⟩
      | false => exact ⟨show (0 : Nat) < 9223372036854775808 by decide, fun _ => rfl⟩
    refine cneed_ok (b := true) hs.1 (by omega) ?_
    show V X K 100 [.ref C, .int (nI op), .int (nI k), .long (lN (tyc (tgt (lty u) k))), nov, .int (bI rf), .long ((1 : Int64) <<< ((nI k).toInt64 &&& 63)), nov] [] h
    by_cases c11 : op = 11
    · subst c11
      have kk := EQ_eb.mp (show EQ (eb (nee (hsA m (tgt (lty u) k) 1) 4) fun _ => eb (nee (rf || !liv (lty u) s l (2 ^ k) 1) 6) fun _ => eb (pt (tgt (lty u) k) (ogr (tgt (lty u) k) og) s) fun s => .ok (s, l)) (CN K C m (lty u) h) (CE K C W h) from kk)
      refine k_X13_useLocal_100 o (fun c => absurd rfl c) (fun _ => ?_)
      refine k_X13_useLocal_106 o ?_
      refine cnab_ok hs h4 hgt.ok (by omega) (by omega) (kk.mono (fun _ _ k2 => ?_) (fun w t => t))
      have k2 := EQ_eb.mp k2
      have fin : ∀ (x : Int64), x = enc (ogr (tgt (lty u) k) og) → EQ (pt (tgt (lty u) k) (ogr (tgt (lty u) k) og) s) (fun s' => CN K C m (lty u) h (s', l)) (CE K C W h) → V X K 155 [.ref C, .int (nI 11), .int (nI k), .long (lN (tyc (tgt (lty u) k))), nov, .int (bI rf), .long ((1 : Int64) <<< ((nI k).toInt64 &&& 63)), nov] [.long x, .long (lN (tyc (tgt (lty u) k))), .ref C] h := fun x hx k => by
        subst hx
        refine k_X13_useLocal_155 o ?_
        refine cput_ok hs.1 hk hgt.ok hog (by omega) (k.mono (fun s' _ k5 h' f' sk' => ?_) (fun w t => t))
        refine k_X13_useLocal_158 o ?_
        refine k_X13_useLocal_300 o ?_
        exact k5 h' (f'.mono (FS.mono rfl)) sk' (hl.fr f' rfl)
      have key : ∀ b, (rf || !liv (lty u) s l (2 ^ k) 1) = b → V X K 133 [.ref C, .int (nI 11), .int (nI k), .long (lN (tyc (tgt (lty u) k))), nov, .int (bI rf), .long ((1 : Int64) <<< ((nI k).toInt64 &&& 63)), nov] [.int (bI b), .ref C] h := fun b hb' => by
        rw [hb'] at k2
        refine k_X13_useLocal_133 o ?_
        refine cneed_ok hs.1 (by omega) (k2.mono (fun _ _ k5 => ?_) (fun w t => t))
        have k5 := EQ_eb.mp k5
        cases rf with
        | true =>
          refine k_X13_useLocal_138 o (fun c => absurd (show bI true = 0 from c) (by decide)) (fun _ => ?_)
          refine k_X13_useLocal_145 o ?_
          exact fin _ (by unfold ogr; rw [hrf]; rfl) k5
        | false =>
          refine k_X13_useLocal_138 o (fun _ => ?_) (fun c => absurd rfl c)
          refine k_X13_useLocal_154 o ?_
          exact fin _ (by unfold ogr; rw [hrf, if_neg (by decide)]; exact enc_0.symm) k5
      show V X K 112 [.ref C, .int (nI 11), .int (nI k), .long (lN (tyc (tgt (lty u) k))), nov, .int (bI rf), .long ((1 : Int64) <<< ((nI k).toInt64 &&& 63)), nov] [] h
      cases hrr : rf with
      | true =>
        rw [hrr] at key
        refine k_X13_useLocal_112 o (fun _ => ?_) (fun c => absurd (show bI true = 0 from c) (by decide))
        refine k_X13_useLocal_128 o ?_
        exact key true rfl
      | false =>
        rw [hrr] at key
        refine k_X13_useLocal_112 o (fun c => absurd rfl c) (fun _ => ?_)
        refine k_X13_useLocal_118 o ?_
        refine cliv_ok hs hu hk hl hbm (by omega) (by omega) ?_
        cases hh : liv (lty u) s l (2 ^ k) 1 with
        | true =>
          refine k_X13_useLocal_125 o (fun _ => ?_) (fun c => absurd (show bI true = 0 from c) (by decide))
          refine k_X13_useLocal_132 o ?_
          exact key false (by rw [hh]; rfl)
        | false =>
          refine k_X13_useLocal_125 o (fun c => absurd rfl c) (fun _ => ?_)
          refine k_X13_useLocal_128 o ?_
          exact key true (by rw [hh]; rfl)
    have kk := show EQ (if op = 11 then eb (nee (hsA m (tgt (lty u) k) 1) 4) fun _ => eb (nee (rf || !liv (lty u) s l (2 ^ k) 1) 6) fun _ => eb (pt (tgt (lty u) k) (ogr (tgt (lty u) k) og) s) fun s => .ok (s, l)
      else if op = 12 then eb (nee (rf || !liv (lty u) s l (2 ^ k) 0) 6) fun _ => eb (pt (tgt (lty u) k) (ogr (tgt (lty u) k) og) s) fun s => .ok (s, l.set k none)
      else eb (nee (!rf) 3) fun _ => eb (nee (!liv (lty u) s l (2 ^ k) (if op = 14 then 1 else 0)) 6) fun _ => eb (pt ((if op = 14 then 8 else 9) :: tgt (lty u) k) (2 ^ k, false) s) fun s => .ok (s, l) : Except Nat Cs) (CN K C m (lty u) h) (CE K C W h) from kk
    rw [if_neg c11] at kk
    refine k_X13_useLocal_100 o (fun _ => ?_) (fun c => absurd ((nI_eq (by omega) (by omega)).mp c) c11)
    by_cases c12 : op = 12
    · subst c12
      rw [if_pos rfl] at kk
      have k2 := EQ_eb.mp kk
      refine k_X13_useLocal_161 o (fun c => absurd rfl c) (fun _ => ?_)
      have key : ∀ b, (rf || !liv (lty u) s l (2 ^ k) 0) = b → V X K 188 [.ref C, .int (nI 12), .int (nI k), .long (lN (tyc (tgt (lty u) k))), nov, .int (bI rf), .long ((1 : Int64) <<< ((nI k).toInt64 &&& 63)), nov] [.int (bI b), .ref C] h := fun b hb' => by
        rw [hb'] at k2
        refine k_X13_useLocal_188 o ?_
        refine cneed_ok hs.1 (by omega) (k2.mono (fun _ _ k5 => ?_) (fun w t => t))
        have k5 := EQ_eb.mp k5
        have f1 : Fq (FS [1543]) h (h.sJ 1543 C (h.J 1543 C &&& (((1 : Int64) <<< ((nI k).toInt64 &&& 63)) ^^^ (-1)))) := (by refine (Fq.sJ (Fq.refl h) ?_) <;> exact rfl)
        have l1 : LSh (h.sJ 1543 C (h.J 1543 C &&& (((1 : Int64) <<< ((nI k).toInt64 &&& 63)) ^^^ (-1)))) C (lty u) (l.set k none) := hl.clr hll (by omega) (by simp [n_sI, z_sI, tag_sI, I_sI, J_sI, R_sI, EI_sI, EJ_sI, ER_sI, n_sJ, z_sJ, tag_sJ, I_sJ, J_sJ, R_sJ, EI_sJ, EJ_sJ, ER_sJ, n_sR, z_sR, tag_sR, I_sR, J_sR, R_sR, EI_sR, EJ_sR, ER_sR, n_sEI, z_sEI, tag_sEI, I_sEI, J_sEI, R_sEI, EI_sEI, EJ_sEI, ER_sEI, n_sEJ, z_sEJ, tag_sEJ, I_sEJ, J_sEJ, R_sEJ, EI_sEJ, EJ_sEJ, ER_sEJ, n_sER, z_sER, tag_sER, I_sER, J_sER, R_sER, EI_sER, EJ_sER, ER_sER, n_nw, z_nw, tag_nw, I_nw, J_nw, R_nw, EI_nw, EJ_nw, ER_nw]) (fun j => by simp [n_sI, z_sI, tag_sI, I_sI, J_sI, R_sI, EI_sI, EJ_sI, ER_sI, n_sJ, z_sJ, tag_sJ, I_sJ, J_sJ, R_sJ, EI_sJ, EJ_sJ, ER_sJ, n_sR, z_sR, tag_sR, I_sR, J_sR, R_sR, EI_sR, EJ_sR, ER_sR, n_sEI, z_sEI, tag_sEI, I_sEI, J_sEI, R_sEI, EI_sEI, EJ_sEI, ER_sEI, n_sEJ, z_sEJ, tag_sEJ, I_sEJ, J_sEJ, R_sEJ, EI_sEJ, EJ_sEJ, ER_sEJ, n_sER, z_sER, tag_sER, I_sER, J_sER, R_sER, EI_sER, EJ_sER, ER_sER, n_nw, z_nw, tag_nw, I_nw, J_nw, R_nw, EI_nw, EJ_nw, ER_nw])
        have eor1 : (h.sJ 1543 C (h.J 1543 C &&& (((1 : Int64) <<< ((nI k).toInt64 &&& 63)) ^^^ (-1)))).EJ 419 (C + 7) k = enc og := by simpa [n_sI, z_sI, tag_sI, I_sI, J_sI, R_sI, EI_sI, EJ_sI, ER_sI, n_sJ, z_sJ, tag_sJ, I_sJ, J_sJ, R_sJ, EI_sJ, EJ_sJ, ER_sJ, n_sR, z_sR, tag_sR, I_sR, J_sR, R_sR, EI_sR, EJ_sR, ER_sR, n_sEI, z_sEI, tag_sEI, I_sEI, J_sEI, R_sEI, EI_sEI, EJ_sEI, ER_sEI, n_sEJ, z_sEJ, tag_sEJ, I_sEJ, J_sEJ, R_sEJ, EI_sEJ, EJ_sEJ, ER_sEJ, n_sER, z_sER, tag_sER, I_sER, J_sER, R_sER, EI_sER, EJ_sER, ER_sER, n_nw, z_nw, tag_nw, I_nw, J_nw, R_nw, EI_nw, EJ_nw, ER_nw] using eor
        show V X K 193 [.ref C, .int (nI 12), .int (nI k), .long (lN (tyc (tgt (lty u) k))), nov, .int (bI rf), .long ((1 : Int64) <<< ((nI k).toInt64 &&& 63)), nov] [] h
        have fin : ∀ (x : Int64) h1, h1 = h.sJ 1543 C (h.J 1543 C &&& (((1 : Int64) <<< ((nI k).toInt64 &&& 63)) ^^^ (-1))) → x = enc (ogr (tgt (lty u) k) og) → V X K 225 [.ref C, .int (nI 12), .int (nI k), .long (lN (tyc (tgt (lty u) k))), nov, .int (bI rf), .long ((1 : Int64) <<< ((nI k).toInt64 &&& 63)), nov] [.long x, .long (lN (tyc (tgt (lty u) k))), .ref C] h1 := fun x h1 e1 hx => by
          subst hx
          rw [← e1] at f1 l1
          have hs1 : CTb h1 C W T F m u := hs.fr f1.1 (FS.no rfl)
          have sk1 := hk.fr f1 rfl
          have v0 := hs1.1.1.1
          refine k_X13_useLocal_225 o ?_
          refine cput_ok hs1.1 sk1 hgt.ok hog (by omega) (k5.mono (fun s' _ k6 h' f' sk' => ?_) (fun w t => CE.fq f1 t rfl))
          refine k_X13_useLocal_228 o ?_
          refine k_X13_useLocal_300 o ?_
          exact k6 h' ((f1.mono (FS.mono rfl)).trans (f'.mono (FS.mono rfl))) sk' (l1.fr f' rfl)
        cases hrr : rf with
        | true =>
          rw [hrr] at fin
          refine k_X13_useLocal_193 o (fun c => absurd (show bI true = 0 from c) (by decide)) (fun _ => ?_)
          have hs1 : CTb (h.sJ 1543 C (h.J 1543 C &&& (((1 : Int64) <<< ((nI k).toInt64 &&& 63)) ^^^ (-1)))) C W T F m u := hs.fr f1.1 (FS.no rfl)
          have v0 := hs1.1.1.1
          have v1 := hs1.1.2.1.2.2.1
          have v2 := hs1.1.2.2.2.2.2.2.2.1
          refine k_X13_useLocal_215 o ?_
          exact fin _ _ rfl (by unfold ogr; rw [hrf, hrr]; rfl)
        | false =>
          rw [hrr] at fin
          refine k_X13_useLocal_193 o (fun _ => ?_) (fun c => absurd rfl c)
          refine k_X13_useLocal_224 o ?_
          exact fin _ _ rfl (by unfold ogr; rw [hrf, hrr, if_neg (by decide)]; exact enc_0.symm)
      cases hrr : rf with
      | true =>
        rw [hrr] at key
        refine k_X13_useLocal_167 o (fun _ => ?_) (fun c => absurd (show bI true = 0 from c) (by decide))
        refine k_X13_useLocal_183 o ?_
        exact key true rfl
      | false =>
        rw [hrr] at key
        refine k_X13_useLocal_167 o (fun c => absurd rfl c) (fun _ => ?_)
        refine k_X13_useLocal_173 o ?_
        refine cliv_ok hs hu hk hl hbm (by omega) (by omega) ?_
        cases hh : liv (lty u) s l (2 ^ k) 0 with
        | true =>
          refine k_X13_useLocal_180 o (fun _ => ?_) (fun c => absurd (show bI true = 0 from c) (by decide))
          refine k_X13_useLocal_187 o ?_
          exact key false (by rw [hh]; rfl)
        | false =>
          refine k_X13_useLocal_180 o (fun c => absurd rfl c) (fun _ => ?_)
          refine k_X13_useLocal_183 o ?_
          exact key true (by rw [hh]; rfl)
    rw [if_neg c12] at kk
    refine k_X13_useLocal_161 o (fun _ => ?_) (fun c => absurd ((nI_eq (by omega) (by omega)).mp c) c12)
    have k2 := EQ_eb.mp kk
    have key : ∀ b, (!rf) = b → V X K 242 [.ref C, .int (nI op), .int (nI k), .long (lN (tyc (tgt (lty u) k))), nov, .int (bI rf), .long ((1 : Int64) <<< ((nI k).toInt64 &&& 63)), nov] [.int (bI b), .ref C] h := fun b hb' => by
      rw [hb'] at k2
      refine k_X13_useLocal_242 o ?_
      refine cneed_ok hs.1 (by omega) (k2.mono (fun _ eb' k3 => ?_) (fun w t => t))
      have hrr : rf = false := by
        cases b with
        | false => cases eb'
        | true => simpa using hb'
      have hft : fT m (tgt (lty u) k) := hgt.f (by rw [hrf]; exact hrr)
      have k3 := EQ_eb.mp k3
      obtain ⟨hb0, hr0, hne⟩ : ∃ b r, tgt (lty u) k = b :: r := by obtain ⟨b, r, e, -⟩ := tvt.2.2; exact ⟨b, r, e⟩
      have hlen7 : hr0.length ≤ 6 := by have := hft.ok.tv.2; rw [hne] at this; simp at this; omega
      have wh : ∀ w' , (if op = 14 then 1 else 0) = w' → w' ≤ 2 → V X K 261 [.ref C, .int (nI op), .int (nI k), .long (lN (tyc (tgt (lty u) k))), nov, .int (bI rf), .long ((1 : Int64) <<< ((nI k).toInt64 &&& 63)), nov] [.int (nI w'), .long ((1 : Int64) <<< ((nI k).toInt64 &&& 63)), .ref C, .ref C] h := fun w' ew hw' => by
        rw [ew] at k3
        have fin : ∀ c', (if op = 14 then 8 else 9) = c' → (c' = 8 ∨ c' = 9) → EQ (eb (pt ((if op = 14 then 8 else 9) :: tgt (lty u) k) (2 ^ k, false) s) fun s => .ok (s, l)) (CN K C m (lty u) h) (CE K C W h) → V X K 291 [.ref C, .int (nI op), .int (nI k), .long (lN (tyc (tgt (lty u) k))), nov, .int (bI rf), .long ((1 : Int64) <<< ((nI k).toInt64 &&& 63)), nov] [.int (nI c'), .ref C] h := fun c' ec hc' k5 => by
          rw [ec] at k5
          have k5 := EQ_eb.mp k5
          refine k_X13_useLocal_291 o ?_
          rw [hne]
          rw [hne] at tvt
          refine with_ok tvt hlen7 (by omega) (by omega) ?_
          rw [← hne]
          refine k_X13_useLocal_295 o ?_
          rw [hb]
          refine cput_ok hs.1 hk (hft.ref hc') ⟨pw63 (by omega), fun z => ?_⟩ (by omega) (k5.mono (fun s' _ k6 h' f' sk' => ?_) (fun w t => t))
          · simp [isRf] at z; omega
          refine k_X13_useLocal_300 o ?_
          exact k6 h' (f'.mono (FS.mono rfl)) sk' (hl.fr f' rfl)
        have key2 : ∀ b, (!liv (lty u) s l (2 ^ k) w') = b → V X K 272 [.ref C, .int (nI op), .int (nI k), .long (lN (tyc (tgt (lty u) k))), nov, .int (bI rf), .long ((1 : Int64) <<< ((nI k).toInt64 &&& 63)), nov] [.int (bI b), .ref C] h := fun b hb' => by
          rw [hb'] at k3
          refine k_X13_useLocal_272 o ?_
          refine cneed_ok hs.1 (by omega) (k3.mono (fun _ _ k5 => ?_) (fun w t => t))
          show V X K 277 [.ref C, .int (nI op), .int (nI k), .long (lN (tyc (tgt (lty u) k))), nov, .int (bI rf), .long ((1 : Int64) <<< ((nI k).toInt64 &&& 63)), nov] [] h
          refine k_X13_useLocal_277 o (fun c => ?_) (fun c => ?_)
          · have c : ¬ op = 14 := fun z => c (by rw [z])
            refine k_X13_useLocal_289 o ?_
            exact fin 9 (by rw [if_neg c]) (Or.inr rfl) k5
          · have c : op = 14 := (nI_eq (by omega) (by omega)).mp c
            refine k_X13_useLocal_284 o ?_
            exact fin 8 (by rw [if_pos c]) (Or.inl rfl) k5
        refine k_X13_useLocal_261 o ?_
        refine cliv_ok hs hu hk hl hbm hw' (by omega) ?_
        cases hh : liv (lty u) s l (2 ^ k) w' with
        | true =>
          refine k_X13_useLocal_264 o (fun _ => ?_) (fun c => absurd (show bI true = 0 from c) (by decide))
          refine k_X13_useLocal_271 o ?_
          exact key2 false (by rw [hh]; rfl)
        | false =>
          refine k_X13_useLocal_264 o (fun c => absurd rfl c) (fun _ => ?_)
          refine k_X13_useLocal_267 o ?_
          exact key2 true (by rw [hh]; rfl)
      show V X K 246 [.ref C, .int (nI op), .int (nI k), .long (lN (tyc (tgt (lty u) k))), nov, .int (bI rf), .long ((1 : Int64) <<< ((nI k).toInt64 &&& 63)), nov] [] h
      refine k_X13_useLocal_246 o (fun c => ?_) (fun c => ?_)
      · have c : ¬ op = 14 := fun z => c (by rw [z])
        refine k_X13_useLocal_260 o ?_
        exact wh 0 (by rw [if_neg c]) (by omega)
      · have c : op = 14 := (nI_eq (by omega) (by omega)).mp c
        refine k_X13_useLocal_256 o ?_
        exact wh 1 (by rw [if_pos c]) (by omega)
    cases hrr : rf with
    | true =>
      rw [hrr] at key
      refine k_X13_useLocal_231 o (fun _ => ?_) (fun c => absurd (show bI true = 0 from c) (by decide))
      refine k_X13_useLocal_241 o ?_
      exact key false rfl
    | false =>
      rw [hrr] at key
      refine k_X13_useLocal_231 o (fun c => absurd rfl c) (fun _ => ?_)
      refine k_X13_useLocal_237 o ?_
      exact key true rfl
