/-! the component's checker: from the beginning on -/
theorem ls0_len (u : Ux) : (ls0 u).length = nlo u := by simp [ls0]
theorem ls0_at {u : Ux} {k : Nat} (hk : k < nlo u) : (ls0 u)[k]? = some (if k < u.2.1.length then some (if isRf (tgt (lty u) k) then 2 ^ (40 + k) else 0, false) else none) := by
  unfold ls0
  rw [List.getElem?_map, List.getElem?_range hk]; rfl
theorem ls0_lg (u : Ux) (k : Nat) : (lgt (ls0 u) k).isSome = decide (k < u.2.1.length) := by
  unfold lgt
  by_cases c : k < nlo u
  · rw [ls0_at c]
    by_cases c2 : k < u.2.1.length
    · rw [if_pos c2, decide_eq_true c2]; rfl
    · rw [if_neg c2, decide_eq_false c2]; rfl
  · rw [List.getElem?_eq_none (by rw [ls0_len]; omega), decide_eq_false (by unfold nlo at c; omega)]; rfl
theorem ls0_o {m : Md} {u : Ux} (hu : gU m u) : LSo (lty u) (ls0 u) := by
  refine ⟨by rw [ls0_len, lty_len], fun k og hk => ?_⟩
  have hk' := get_lt hk
  rw [ls0_len] at hk'
  rw [ls0_at hk'] at hk
  have hn := hu.n
  by_cases c : k < u.2.1.length
  · rw [if_pos c] at hk
    cases hk
    have h8 := hu.1
    cases hr : isRf (tgt (lty u) k) with
    | true => exact ⟨show 2 ^ (40 + k) < 9223372036854775808 from pw63 (by omega), fun z => by cases z⟩
    | false => exact ⟨show (0 : Nat) < 9223372036854775808 by decide, fun _ => rfl⟩
  · rw [if_neg c] at hk; cases hk
def bgF : List Nat := [1542, 1543, 1539, 10000 + 419, 10000 + 466, 10000 + 482, 10000 + 499, 10000 + 515]
theorem pw_m1 {k : Nat} (hk : k < 63) : BT ((1 : Int64) <<< ((nI k).toInt64 &&& 63) - 1) (fun j => decide (j < k)) := fun j => by
  have hp : 2 ^ k < 2 ^ 63 := Nat.pow_lt_pow_right (by omega) hk
  have h1 : 1 ≤ 2 ^ k := Nat.one_le_two_pow
  have e : un ((1 : Int64) <<< ((nI k).toInt64 &&& 63) - 1) = 2 ^ k - 1 := by
    rw [un_sub, un_shl _ (by omega), show un (1 : Int64) = 1 from rfl, Nat.one_shiftLeft, Nat.mod_eq_of_lt (show 2 ^ k < 2 ^ 64 from Nat.pow_lt_pow_right (by omega) (by omega))]
    have : (2 : Nat) ^ 63 = 9223372036854775808 := rfl
    omega
  rw [e, Nat.testBit_two_pow_sub_one]
theorem cbeg_ok {G : Gt} {d : Nat} {h : AH} {K : Outcome → AH → Prop} {C W T F n : Nat} {m : Md} {u : Ux} (hs : CTb h C W T F m u) (hu : gU m u) (hn : n ≤ 1024) (hn1 : 1 ≤ n) (hnu : n = (ui u).length) (hcs : (mcs m).length ≤ 2048) (gx : ∀ x ∈ ui u, gX m u x) (hd : 6 ≤ d)
    (kk : ∀ h', Fq (FS bgF) h h' → SKh h' C m [] → TBh h' C n (lty u) (tb0 u) → LDh h' C u → K (.returned none) h') : MW G d e_X13_begin [.ref C] h K := by
  refine st_X13_begin fun X o hG hD _ => ?_
  subst hG; subst hD
  have hn40 := hu.n
  have h8 := hu.1
  have hcz : ∀ {hx : AH}, Fq (FS bgF) h hx → CTb hx C W T F m u := fun fx => hs.fr fx.1 (FS.no rfl)
  have cnt : ∀ {hx : AH}, CTb hx C W T F m u → hx.I 901 F = nI n := fun sx => by obtain ⟨a, b, z1, z2, z3⟩ := sx.2.2.2.2.2.2.2.2; rw [z3, hnu]
  -- origins, and the first state
  have ph3 : ∀ h1, Fq (FS bgF) h h1 → (∀ i, i < n → h1.EI 482 (C + 2) i = nI 0) → LDh h1 C u → ∀ v2, V X K 116 [.ref C, .int (nI n), v2] [] h1 := fun h1 f1 cm1 ld1 v2' => by
    have hs1 := hcz f1
    have v0 := hs1.1.1.1
    have v1 := hs1.2.1.2
    have v2 := hs1.2.2.2.1.1
    have v3 := hs1.2.2.2.1.2.1
    have v4 := hs1.2.2.2.1.2.2.2.2.1
    have v5 : h1.I 513 (F + 1) = nI u.2.1.length := by obtain ⟨a, b, z1, z2, z3⟩ := hs1.2.2.2.2.2.1; exact z3
    refine k_X13_begin_116 o ?_
    have f2 : Fq (FS bgF) h ((h1.sI 1542 C (nI 0)).sJ 1543 C ((1 : Int64) <<< ((nI u.2.1.length).toInt64 &&& 63) - 1)) := (f1.sI (f := 1542) (a := C) rfl).sJ (f := 1543) (a := C) rfl
    have e1 : ((h1.sI 1542 C (nI 0)).sJ 1543 C ((1 : Int64) <<< ((nI u.2.1.length).toInt64 &&& 63) - 1)).I 1542 C = nI 0 := by simp [n_sI, z_sI, tag_sI, I_sI, J_sI, R_sI, EI_sI, EJ_sI, ER_sI, n_sJ, z_sJ, tag_sJ, I_sJ, J_sJ, R_sJ, EI_sJ, EJ_sJ, ER_sJ, n_sR, z_sR, tag_sR, I_sR, J_sR, R_sR, EI_sR, EJ_sR, ER_sR, n_sEI, z_sEI, tag_sEI, I_sEI, J_sEI, R_sEI, EI_sEI, EJ_sEI, ER_sEI, n_sEJ, z_sEJ, tag_sEJ, I_sEJ, J_sEJ, R_sEJ, EI_sEJ, EJ_sEJ, ER_sEJ, n_sER, z_sER, tag_sER, I_sER, J_sER, R_sER, EI_sER, EJ_sER, ER_sER, n_nw, z_nw, tag_nw, I_nw, J_nw, R_nw, EI_nw, EJ_nw, ER_nw]
    have e2 : ((h1.sI 1542 C (nI 0)).sJ 1543 C ((1 : Int64) <<< ((nI u.2.1.length).toInt64 &&& 63) - 1)).J 1543 C = (1 : Int64) <<< ((nI u.2.1.length).toInt64 &&& 63) - 1 := by simp [n_sI, z_sI, tag_sI, I_sI, J_sI, R_sI, EI_sI, EJ_sI, ER_sI, n_sJ, z_sJ, tag_sJ, I_sJ, J_sJ, R_sJ, EI_sJ, EJ_sJ, ER_sJ, n_sR, z_sR, tag_sR, I_sR, J_sR, R_sR, EI_sR, EJ_sR, ER_sR, n_sEI, z_sEI, tag_sEI, I_sEI, J_sEI, R_sEI, EI_sEI, EJ_sEI, ER_sEI, n_sEJ, z_sEJ, tag_sEJ, I_sEJ, J_sEJ, R_sEJ, EI_sEJ, EJ_sEJ, ER_sEJ, n_sER, z_sER, tag_sER, I_sER, J_sER, R_sER, EI_sER, EJ_sER, ER_sER, n_nw, z_nw, tag_nw, I_nw, J_nw, R_nw, EI_nw, EJ_nw, ER_nw]
    have e3 : ∀ i, i < n → ((h1.sI 1542 C (nI 0)).sJ 1543 C ((1 : Int64) <<< ((nI u.2.1.length).toInt64 &&& 63) - 1)).EI 482 (C + 2) i = nI 0 := fun i hi => by have := cm1 i hi; simpa [n_sI, z_sI, tag_sI, I_sI, J_sI, R_sI, EI_sI, EJ_sI, ER_sI, n_sJ, z_sJ, tag_sJ, I_sJ, J_sJ, R_sJ, EI_sJ, EJ_sJ, ER_sJ, n_sR, z_sR, tag_sR, I_sR, J_sR, R_sR, EI_sR, EJ_sR, ER_sR, n_sEI, z_sEI, tag_sEI, I_sEI, J_sEI, R_sEI, EI_sEI, EJ_sEI, ER_sEI, n_sEJ, z_sEJ, tag_sEJ, I_sEJ, J_sEJ, R_sEJ, EI_sEJ, EJ_sEJ, ER_sEJ, n_sER, z_sER, tag_sER, I_sER, J_sER, R_sER, EI_sER, EJ_sER, ER_sER, n_nw, z_nw, tag_nw, I_nw, J_nw, R_nw, EI_nw, EJ_nw, ER_nw] using this
    have e4 : LDh ((h1.sI 1542 C (nI 0)).sJ 1543 C ((1 : Int64) <<< ((nI u.2.1.length).toInt64 &&& 63) - 1)) C u := fun i hi => by have := ld1 i hi; simpa [n_sI, z_sI, tag_sI, I_sI, J_sI, R_sI, EI_sI, EJ_sI, ER_sI, n_sJ, z_sJ, tag_sJ, I_sJ, J_sJ, R_sJ, EI_sJ, EJ_sJ, ER_sJ, n_sR, z_sR, tag_sR, I_sR, J_sR, R_sR, EI_sR, EJ_sR, ER_sR, n_sEI, z_sEI, tag_sEI, I_sEI, J_sEI, R_sEI, EI_sEI, EJ_sEI, ER_sEI, n_sEJ, z_sEJ, tag_sEJ, I_sEJ, J_sEJ, R_sEJ, EI_sEJ, EJ_sEJ, ER_sEJ, n_sER, z_sER, tag_sER, I_sER, J_sER, R_sER, EI_sER, EJ_sER, ER_sER, n_nw, z_nw, tag_nw, I_nw, J_nw, R_nw, EI_nw, EJ_nw, ER_nw] using this
    generalize (h1.sI 1542 C (nI 0)).sJ 1543 C ((1 : Int64) <<< ((nI u.2.1.length).toInt64 &&& 63) - 1) = h2 at *
    have loop : ∀ k q hx, k + q = nlo u → Fq (FS bgF) h hx → Fq (FS [10000 + 419]) h2 hx → (∀ z og, z < q → (ls0 u)[z]? = some (some og) → hx.EJ 419 (C + 7) z = enc og) → V X K 141 [.ref C, .int (nI q), v2'] [] hx := by
      intro k
      induction k with
      | zero =>
        intro q hx hq fx gx2 ox
        have hsx := hcz fx
        have w0 := hsx.1.1.1
        have w1 := hsx.2.1.2
        have w2 := hsx.2.2.2.1.1
        refine k_X13_begin_141 o ?_
        refine clct_ok hsx ?_
        refine k_X13_begin_149 o (fun _ => ?_) (fun c => absurd ((nI_leI (by omega) (by omega)).mpr (by omega)) c)
        refine k_X13_begin_199 o ?_
        have f3 : Fq (FS [1539]) hx (hx.sI 1539 C (-1)) := (Fq.refl hx).sI rfl
        have F3 : Fq (FS bgF) h (hx.sI 1539 C (-1)) := fx.sI rfl
        generalize hx.sI 1539 C (-1) = h3 at *
        have hs3 := hcz F3
        have lz : LSh h3 C (lty u) (ls0 u) := by
          refine ⟨?_, fun z og hz => ?_, ls0_o hu⟩
          · rw [f3.1.J (FS.n rfl), gx2.1.J (FS.n rfl), e2]
            exact (pw_m1 (by omega)).cg fun j => (ls0_lg u j).symm
          · rw [f3.1.EJ (FS.n rfl)]
            have := get_lt hz
            rw [ls0_len] at this
            exact ox z og (by omega) hz
        have tz : TBh h3 C n (lty u) (List.replicate n none) := by
          refine ⟨by simp, fun j hj => ?_⟩
          have et : tat (List.replicate n none) j = none := by unfold tat; rw [List.getElem?_replicate, if_pos hj]; rfl
          rw [et]
          refine ⟨?_, fun l hl => by cases hl⟩
          rw [f3.1.EI (FS.n rfl), gx2.1.EI (FS.n rfl), e3 j hj]; rfl
        refine cfst_ok hs3 hu lz tz hn (by omega) (by omega) fun h' f' t' => ?_
        refine k_X13_begin_209 o ?_
        refine kk h' (F3.trans (f'.mono (FS.mono rfl))) ⟨?_, trivial, by simp, fun x hx => by cases hx⟩ ?_ fun i hi => ?_
        · rw [f'.1.I (FS.n rfl), f3.1.I (FS.n rfl), gx2.1.I (FS.n rfl), e1]; rfl
        · have et : (List.replicate n none).set 0 (some (ls0 u)) = tb0 u := by
            unfold tb0
            obtain ⟨n', rfl⟩ : ∃ n', n = n' + 1 := ⟨n - 1, by omega⟩
            rw [List.replicate_succ, ← hnu]; rfl
          rw [← et]; exact t'
        · rw [f'.1.EI (FS.n rfl), f3.1.EI (FS.n rfl), gx2.1.EI (FS.n rfl)]; exact e4 i hi
      | succ k ih =>
        intro q hx hq fx gx2 ox
        have hsx := hcz fx
        have w0 := hsx.1.1.1
        have w1 := hsx.2.1.2
        have w2 := hsx.2.2.2.1.1
        have w3 := hsx.2.2.2.1.2.1
        have w4 := hsx.2.2.2.1.2.2.2.2.1
        have w5 : hx.I 513 (F + 1) = nI u.2.1.length := by obtain ⟨a, b, z1, z2, z3⟩ := hsx.2.2.2.2.2.1; exact z3
        have w6 := hsx.1.2.1.2.2.1
        have w7 := hsx.1.2.2.2.2.2.2.2.1
        have ixq : IX (nI q) 40 q := IX.mk (by omega) (by omega)
        have tt : 64 ≤ 419 ∧ 419 < 4096 ∧ 419 % 16 = 3 := by decide
        have hq' : q < nlo u := by omega
        have nxt : ∀ z : Int64, (∀ og, (ls0 u)[q]? = some (some og) → z = enc og) → V X K 192 [.ref C, .int (nI q), v2'] [.long z, .int (nI q), .ref (C + 7)] hx := fun z hz => by
          refine k_X13_begin_192 (T1 := 419) o ?_
          rw [nI_add]
          refine ih (q + 1) (hx.sEJ 419 (C + 7) q z) (by omega) (fx.sEJ rfl) (gx2.sEJ rfl) fun y og hy hyo => ?_
          by_cases c : y = q
          · subst c
            rw [← hz og hyo]; simp [n_sI, z_sI, tag_sI, I_sI, J_sI, R_sI, EI_sI, EJ_sI, ER_sI, n_sJ, z_sJ, tag_sJ, I_sJ, J_sJ, R_sJ, EI_sJ, EJ_sJ, ER_sJ, n_sR, z_sR, tag_sR, I_sR, J_sR, R_sR, EI_sR, EJ_sR, ER_sR, n_sEI, z_sEI, tag_sEI, I_sEI, J_sEI, R_sEI, EI_sEI, EJ_sEI, ER_sEI, n_sEJ, z_sEJ, tag_sEJ, I_sEJ, J_sEJ, R_sEJ, EI_sEJ, EJ_sEJ, ER_sEJ, n_sER, z_sER, tag_sER, I_sER, J_sER, R_sER, EI_sER, EJ_sER, ER_sER, n_nw, z_nw, tag_nw, I_nw, J_nw, R_nw, EI_nw, EJ_nw, ER_nw]
          · have := ox y og (by omega) hyo
            simpa [n_sI, z_sI, tag_sI, I_sI, J_sI, R_sI, EI_sI, EJ_sI, ER_sI, n_sJ, z_sJ, tag_sJ, I_sJ, J_sJ, R_sJ, EI_sJ, EJ_sJ, ER_sJ, n_sR, z_sR, tag_sR, I_sR, J_sR, R_sR, EI_sR, EJ_sR, ER_sR, n_sEI, z_sEI, tag_sEI, I_sEI, J_sEI, R_sEI, EI_sEI, EJ_sEI, ER_sEI, n_sEJ, z_sEJ, tag_sEJ, I_sEJ, J_sEJ, R_sEJ, EI_sEJ, EJ_sEJ, ER_sEJ, n_sER, z_sER, tag_sER, I_sER, J_sER, R_sER, EI_sER, EJ_sER, ER_sER, n_nw, z_nw, tag_nw, I_nw, J_nw, R_nw, EI_nw, EJ_nw, ER_nw, c] using this
        refine k_X13_begin_141 o ?_
        refine clct_ok hsx ?_
        refine k_X13_begin_149 o (fun c => absurd ((nI_leI (by omega) (by omega)).mp c) (by omega)) (fun _ => ?_)
        refine k_X13_begin_152 o (fun c => ?_) (fun c => ?_)
        · have c := (nI_leI (by omega) (by omega)).mp c
          refine k_X13_begin_191 o ?_
          refine nxt _ fun og hog => ?_
          rw [ls0_at hq', if_neg (by omega)] at hog; cases hog
        · have c : q < u.2.1.length := Nat.not_le.mp fun z => c ((nI_leI (by omega) (by omega)).mpr z)
          refine k_X13_begin_171 o ?_
          refine cloc_ok hsx hu hq' (by omega) ?_
          refine k_X13_begin_176 o ?_
          refine isReference_ok (hu.lt hq').ok.tv.1 (by omega) ?_
          cases hr : isRf (tgt (lty u) q) with
          | false =>
            refine k_X13_begin_179 o (fun _ => ?_) (fun c => absurd rfl c)
            refine k_X13_begin_191 o ?_
            refine nxt _ fun og hog => ?_
            rw [ls0_at hq', if_pos c, hr, if_neg (by decide)] at hog; cases hog; exact enc_0.symm
          | true =>
            refine k_X13_begin_179 o (fun c => absurd (show bI true = 0 from c) (by decide)) (fun _ => ?_)
            refine k_X13_begin_182 o ?_
            rw [nI_add]
            refine nxt _ fun og hog => ?_
            rw [ls0_at hq', if_pos c, hr] at hog; cases hog
            exact bit_enc (by omega)
    exact loop (nlo u) 0 h2 (by omega) f2 (Fq.refl h2) (fun z og hz => by omega)
  -- where branches lead
  have ph2 : ∀ k i hx, k + i = n → Fq (FS bgF) h hx → (∀ q, q < n → hx.EI 482 (C + 2) q = nI 0) → (∀ q, q < n → hx.EI 466 (C + 10) q = bI (((ui u).take i).any fun x => decide (2 ≤ x.1 ∧ x.1 ≤ 4) && x.2.1 == q)) → ∀ v2, V X K 38 [.ref C, .int (nI i), v2] [] hx := by
    intro k
    induction k with
    | zero =>
      intro i hx hi fx cx lx v2
      have hsx := hcz fx
      have w0 := hsx.1.1.1
      have w1 := hsx.2.1.2
      have w2 := hsx.2.2.2.1.1
      have w3 := cnt hsx
      refine k_X13_begin_38 o (fun _ => ?_) (fun c => ?_)
      rotate_left
      · exact absurd ((nI_leI (by omega) (by omega)).mpr (by omega)) c
      have hin : i = n := by omega
      subst hin
      rw [List.take_of_length_le (by omega)] at lx
      exact ph3 hx fx cx (fun q hq => lx q (by omega)) v2
    | succ k ih =>
      intro i hx hi fx cx lx v2
      have hsx := hcz fx
      obtain ⟨s1, ⟨s2, s3⟩, ⟨s4, s5, s6, s7⟩, ⟨s8, s9, s10, s11, s12, s13, s14⟩, ⟨s15, s16, s17, s18, ⟨pre, post, y1, y2, y3⟩⟩⟩ := id hsx
      have w0 := s1.1.1
      have w3 := cnt hsx
      obtain ⟨⟨g1, g2, g3, g4', g5, g6⟩, -, ⟨q1, q2, q3, q4, q5, q6, q7, q8, q9⟩, -⟩ := id s4
      have w10 := s1.2.1.2.2.2.2.2.1
      have w11 := s1.2.2.2.2.2.2.2.2.2.2
      have hil : i < (ui u).length := by omega
      have hxi : (ui u)[i]? = some (ui u)[i] := List.getElem?_eq_getElem hil
      have hgx := gx _ (List.getElem_mem hil)
      have etk : (ui u).take (i + 1) = (ui u).take i ++ [(ui u)[i]] := by rw [List.take_succ, hxi]; rfl
      generalize (ui u)[i] = x at hxi hgx etk
      have hcx : (mcs m)[pre.length + i]? = some x := by
        rw [y1, List.append_assoc, List.getElem?_append_right (by omega), Nat.add_sub_cancel_left, List.getElem?_append_left hil]; exact hxi
      have hlt' := get_lt hcx
      obtain ⟨z1, z2, z3, z4⟩ := s6.2 _ x hcx
      have ho := hgx.2.1
      have ixc : IX (nI pre.length + nI i) 2048 (pre.length + i) := by rw [nI_add]; exact IX.mk (by omega) (by omega)
      have nxt : ∀ hy v2, Fq (FS bgF) h hy → (∀ q, q < n → hy.EI 482 (C + 2) q = nI 0) → (∀ q, q < n → hy.EI 466 (C + 10) q = bI ((((ui u).take i).any fun x => decide (2 ≤ x.1 ∧ x.1 ≤ 4) && x.2.1 == q) || (decide (2 ≤ x.1 ∧ x.1 ≤ 4) && x.2.1 == q))) → V X K 110 [.ref C, .int (nI i), v2] [] hy := fun hy v2 fy cy ly => by
        refine k_X13_begin_110 o ?_
        rw [nI_add]
        refine ih (i + 1) hy (by omega) fy cy (fun q hq => ?_) v2
        rw [ly q hq, etk, List.any_append]; simp
      refine k_X13_begin_38 o (fun c => ?_) (fun _ => ?_)
      · exact absurd ((nI_leI (by omega) (by omega)).mp c) (by omega)
      refine k_X13_begin_49 o (fun c => ?_) (fun c => ?_)
      · have c := (nI_ltI (by omega) (by omega)).mp c
        refine nxt hx _ fx cx fun q hq => ?_
        rw [lx q hq, decide_eq_false (show ¬ (2 ≤ x.1 ∧ x.1 ≤ 4) by omega)]; simp
      · have c : 2 ≤ x.1 := Nat.not_lt.mp fun z => c ((nI_ltI (by omega) (by omega)).mpr z)
        refine k_X13_begin_75 o (fun c2 => ?_) (fun c2 => ?_)
        · have c2 := (nI_ltI (by omega) (by omega)).mp c2
          refine nxt hx _ fx cx fun q hq => ?_
          rw [lx q hq, decide_eq_false (show ¬ (2 ≤ x.1 ∧ x.1 ≤ 4) by omega)]; simp
        · have c2 : x.1 ≤ 4 := Nat.not_lt.mp fun z => c2 ((nI_ltI (by omega) (by omega)).mpr z)
          have hb := hgx.br ⟨c, c2⟩
          have ixt : IX ((lN x.2.1).toInt32) 1024 x.2.1 := by rw [lN_32]; exact IX.mk (by omega) (by omega)
          refine k_X13_begin_91 o ?_
          refine nxt (hx.sEI 466 (C + 10) x.2.1 (nI 1)) _ (fx.sEI rfl) (fun q hq => by have := cx q hq; simpa [n_sI, z_sI, tag_sI, I_sI, J_sI, R_sI, EI_sI, EJ_sI, ER_sI, n_sJ, z_sJ, tag_sJ, I_sJ, J_sJ, R_sJ, EI_sJ, EJ_sJ, ER_sJ, n_sR, z_sR, tag_sR, I_sR, J_sR, R_sR, EI_sR, EJ_sR, ER_sR, n_sEI, z_sEI, tag_sEI, I_sEI, J_sEI, R_sEI, EI_sEI, EJ_sEI, ER_sEI, n_sEJ, z_sEJ, tag_sEJ, I_sEJ, J_sEJ, R_sEJ, EI_sEJ, EJ_sEJ, ER_sEJ, n_sER, z_sER, tag_sER, I_sER, J_sER, R_sER, EI_sER, EJ_sER, ER_sER, n_nw, z_nw, tag_nw, I_nw, J_nw, R_nw, EI_nw, EJ_nw, ER_nw] using this) fun q hq => ?_
          rw [decide_eq_true (show 2 ≤ x.1 ∧ x.1 ≤ 4 from ⟨c, c2⟩), Bool.true_and]
          by_cases cq : q = x.2.1
          · subst cq
            have : (x.2.1 == x.2.1) = true := by simp
            rw [this, Bool.or_true]; simp [n_sI, z_sI, tag_sI, I_sI, J_sI, R_sI, EI_sI, EJ_sI, ER_sI, n_sJ, z_sJ, tag_sJ, I_sJ, J_sJ, R_sJ, EI_sJ, EJ_sJ, ER_sJ, n_sR, z_sR, tag_sR, I_sR, J_sR, R_sR, EI_sR, EJ_sR, ER_sR, n_sEI, z_sEI, tag_sEI, I_sEI, J_sEI, R_sEI, EI_sEI, EJ_sEI, ER_sEI, n_sEJ, z_sEJ, tag_sEJ, I_sEJ, J_sEJ, R_sEJ, EI_sEJ, EJ_sEJ, ER_sEJ, n_sER, z_sER, tag_sER, I_sER, J_sER, R_sER, EI_sER, EJ_sER, ER_sER, n_nw, z_nw, tag_nw, I_nw, J_nw, R_nw, EI_nw, EJ_nw, ER_nw]; rfl
          · have e : (x.2.1 == q) = false := by simp; omega
            rw [e, Bool.or_false, ← lx q hq]; simp [n_sI, z_sI, tag_sI, I_sI, J_sI, R_sI, EI_sI, EJ_sI, ER_sI, n_sJ, z_sJ, tag_sJ, I_sJ, J_sJ, R_sJ, EI_sJ, EJ_sJ, ER_sJ, n_sR, z_sR, tag_sR, I_sR, J_sR, R_sR, EI_sR, EJ_sR, ER_sR, n_sEI, z_sEI, tag_sEI, I_sEI, J_sEI, R_sEI, EI_sEI, EJ_sEI, ER_sEI, n_sEJ, z_sEJ, tag_sEJ, I_sEJ, J_sEJ, R_sEJ, EI_sEJ, EJ_sEJ, ER_sEJ, n_sER, z_sER, tag_sER, I_sER, J_sER, R_sER, EI_sER, EJ_sER, ER_sER, n_nw, z_nw, tag_nw, I_nw, J_nw, R_nw, EI_nw, EJ_nw, ER_nw, cq]
  -- none at first
  have ph1 : ∀ k i hx, k + i = n → Fq (FS bgF) h hx → (∀ q, q < i → hx.EI 482 (C + 2) q = nI 0 ∧ hx.EI 466 (C + 10) q = nI 0) → ∀ v2, V X K 2 [.ref C, .int (nI i), v2] [] hx := by
    intro k
    induction k with
    | zero =>
      intro i hx hi fx cx v2
      have hsx := hcz fx
      have w0 := hsx.1.1.1
      have w1 := hsx.2.1.2
      have w2 := hsx.2.2.2.1.1
      have w3 := cnt hsx
      refine k_X13_begin_2 o (fun _ => ?_) (fun c => ?_)
      rotate_left
      · exact absurd ((nI_leI (by omega) (by omega)).mpr (by omega)) c
      refine k_X13_begin_36 o ?_
      exact ph2 n 0 hx (by omega) fx (fun q hq => (cx q (by omega)).1) (fun q hq => (cx q (by omega)).2) v2
    | succ k ih =>
      intro i hx hi fx cx v2
      have hsx := hcz fx
      obtain ⟨⟨a1, a2, a3, a4, a5, a6⟩, ⟨b1, b2, b3, b4, b5, b6, b7⟩, c1, c2, c3, c4, c5, c6, c7, c8, c9⟩ := id hsx.1
      have w1 := hsx.2.1.2
      have w2 := hsx.2.2.2.1.1
      have w3 := cnt hsx
      have ixi : IX (nI i) 1024 i := IX.mk (by omega) (by omega)
      refine k_X13_begin_2 o (fun c => ?_) (fun _ => ?_)
      · exact absurd ((nI_leI (by omega) (by omega)).mp c) (by omega)
      refine k_X13_begin_13 o ?_
      rw [nI_add]
      refine ih (i + 1) ((hx.sEI 482 (C + 2) i (nI 0)).sEI 466 (C + 10) i (nI 0)) (by omega) ((fx.sEI (t := 482) (a := C + 2) rfl).sEI (t := 466) (a := C + 10) rfl) (fun q hq => ?_) v2
      by_cases c : q = i
      · subst c; exact ⟨by simp [n_sI, z_sI, tag_sI, I_sI, J_sI, R_sI, EI_sI, EJ_sI, ER_sI, n_sJ, z_sJ, tag_sJ, I_sJ, J_sJ, R_sJ, EI_sJ, EJ_sJ, ER_sJ, n_sR, z_sR, tag_sR, I_sR, J_sR, R_sR, EI_sR, EJ_sR, ER_sR, n_sEI, z_sEI, tag_sEI, I_sEI, J_sEI, R_sEI, EI_sEI, EJ_sEI, ER_sEI, n_sEJ, z_sEJ, tag_sEJ, I_sEJ, J_sEJ, R_sEJ, EI_sEJ, EJ_sEJ, ER_sEJ, n_sER, z_sER, tag_sER, I_sER, J_sER, R_sER, EI_sER, EJ_sER, ER_sER, n_nw, z_nw, tag_nw, I_nw, J_nw, R_nw, EI_nw, EJ_nw, ER_nw], by simp [n_sI, z_sI, tag_sI, I_sI, J_sI, R_sI, EI_sI, EJ_sI, ER_sI, n_sJ, z_sJ, tag_sJ, I_sJ, J_sJ, R_sJ, EI_sJ, EJ_sJ, ER_sJ, n_sR, z_sR, tag_sR, I_sR, J_sR, R_sR, EI_sR, EJ_sR, ER_sR, n_sEI, z_sEI, tag_sEI, I_sEI, J_sEI, R_sEI, EI_sEI, EJ_sEI, ER_sEI, n_sEJ, z_sEJ, tag_sEJ, I_sEJ, J_sEJ, R_sEJ, EI_sEJ, EJ_sEJ, ER_sEJ, n_sER, z_sER, tag_sER, I_sER, J_sER, R_sER, EI_sER, EJ_sER, ER_sER, n_nw, z_nw, tag_nw, I_nw, J_nw, R_nw, EI_nw, EJ_nw, ER_nw]⟩
      · obtain ⟨z1, z2⟩ := cx q (by omega)
        exact ⟨by simpa [n_sI, z_sI, tag_sI, I_sI, J_sI, R_sI, EI_sI, EJ_sI, ER_sI, n_sJ, z_sJ, tag_sJ, I_sJ, J_sJ, R_sJ, EI_sJ, EJ_sJ, ER_sJ, n_sR, z_sR, tag_sR, I_sR, J_sR, R_sR, EI_sR, EJ_sR, ER_sR, n_sEI, z_sEI, tag_sEI, I_sEI, J_sEI, R_sEI, EI_sEI, EJ_sEI, ER_sEI, n_sEJ, z_sEJ, tag_sEJ, I_sEJ, J_sEJ, R_sEJ, EI_sEJ, EJ_sEJ, ER_sEJ, n_sER, z_sER, tag_sER, I_sER, J_sER, R_sER, EI_sER, EJ_sER, ER_sER, n_nw, z_nw, tag_nw, I_nw, J_nw, R_nw, EI_nw, EJ_nw, ER_nw, c] using z1, by simpa [n_sI, z_sI, tag_sI, I_sI, J_sI, R_sI, EI_sI, EJ_sI, ER_sI, n_sJ, z_sJ, tag_sJ, I_sJ, J_sJ, R_sJ, EI_sJ, EJ_sJ, ER_sJ, n_sR, z_sR, tag_sR, I_sR, J_sR, R_sR, EI_sR, EJ_sR, ER_sR, n_sEI, z_sEI, tag_sEI, I_sEI, J_sEI, R_sEI, EI_sEI, EJ_sEI, ER_sEI, n_sEJ, z_sEJ, tag_sEJ, I_sEJ, J_sEJ, R_sEJ, EI_sEJ, EJ_sEJ, ER_sEJ, n_sER, z_sER, tag_sER, I_sER, J_sER, R_sER, EI_sER, EJ_sER, ER_sER, n_nw, z_nw, tag_nw, I_nw, J_nw, R_nw, EI_nw, EJ_nw, ER_nw, c] using z2⟩
  refine k_X13_begin_0 o ?_
  exact ph1 n 0 h (by omega) (Fq.refl h) (fun q hq => by omega) _
