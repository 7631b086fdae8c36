/-! the twin's machine: coin functions -/
section
variable {G : Gt} {d : Nat} {h h' : AH} {o o' : Lc} {tx ax UX at' : Nat → Nat} {A n n' lim : Nat} {snd : Int64} {s : Ms} {K : Outcome → AH → Prop} {t : Tst} {env : Pc → Cn}
theorem tcoin_0 (k : TK h A tx UX at' o n s) (t5 : T5 o) (cx : TCX h A snd lim) (h1 : 1 ≤ s.1) (hN : n + 1 ≤ gas s + 64 * (ens s).length + 8) (hg : gas s ≤ lim) (h0 : ∃ x0, (ens s)[0]? = some x0 ∧ x0.1 = (1, snd, 0) ∧ un x0.2.2.1.2.1 < 9223372036854775808) (hne : oCoi snd env lim 0 s ≠ none) (hd : 60 ≤ d) (kk : RZT K h A tx UX at' (oCoi snd env lim 0 s)) : MW G d e_X23_coin [.ref A, .int (nI 0)] h K := by
  refine st_X23_coin fun X oo hG hD _ => ?_
  subst hG; subst hD
  have t0 := k.t0
  have l2 := cx.2.2
  have le24 := k.2.2.1.2.1
  obtain ⟨-, -, e3, -⟩ := k.hgt h1
  obtain ⟨x0, x1, x2, x3⟩ := h0
  have hm : ∀ f, mask env true (1, snd, 0) s f = f 0 s := fun f => by
    have : ((ens s).findIdx? fun e => e.1 == (1, snd, 0)) = some 0 := by
      rw [List.findIdx?_eq_some_iff_getElem]
      have l0 := get_lt x1
      refine ⟨l0, ?_, fun j hj => absurd hj (by omega)⟩
      have : (ens s)[0] = x0 := by rw [List.getElem?_eq_getElem l0] at x1; exact Option.some.inj x1
      rw [this, x2]; simp
    unfold mask
    rw [this]
  unfold oCoi at kk hne
  rw [if_pos rfl] at kk hne
  cases hs : stk s with
  | nil => rw [hs] at hne; exact absurd rfl hne
  | cons x t' =>
    rw [hs] at kk hne e3
    have e3 : t'.length + 1 ≤ 64 := e3
    cases x with
    | inr r => exact absurd rfl hne
    | inl v =>
      simp only at kk hne
      obtain ⟨hmv, he⟩ := mre_n hne
      rw [he, hm] at kk
      have v3 : v.1 = 3 := by simpa using hmv
      refine k_X23_coin_0 oo (fun q => absurd rfl q) (fun _ => ?_)
      refine k_X23_coin_4 oo ?_
      refine tktl_ok (sl := 0) k h1 hs (t5 0 0 0) v3 (by omega) (fun h2 yv q2 hyv k2 => ?_)
      have t02 := k2.t0
      have cx2 := cx.fs q2 (by decide)
      refine k_X23_coin_8 oo ?_
      unfold mpay at kk
      refine spend_ok t02 k2.2.1.1 k2.2.1.2.1 cx2.2.1 ⟨by show gas s + _ < _; omega, by omega⟩ (by omega) (fun hle h3 q3 g3 => ?_) (fun hlt h3 q3 y3 => ?_)
      rotate_left
      · have hlt : lim < gas s + 5 := hlt
        rw [if_neg (by omega)] at kk
        refine k_X23_coin_14 oo (fun q => absurd rfl q) (fun _ => ?_)
        refine k_X23_coin_17 oo ?_
        exact kk h3 ((twq q2 (by decide)).trans (twq q3 (by decide))) y3
      have hle : gas s + 5 ≤ lim := hle
      rw [if_pos hle] at kk
      have x1' : (ens (sG s (gas s + 5)))[0]? = some x0 := x1
      simp only [x1'] at kk
      have k3 := (k2.gas q3 g3).cl
      have t03 := k3.t0
      have q03 : Fq (FS twF) h h3 := (twq q2 (by decide)).trans (twq q3 (by decide))
      have hx3 : (ens (sG (sK s t') (gas (sK s t') + 5)))[0]? = some x0 := x1
      obtain ⟨⟨a1, a2, a3, a4⟩, a5, a6, a7⟩ := id (k3.2.2.2.2.1 0 x0 hx3)
      have b0 := a6 (by rw [x2])
      obtain ⟨w1, w2⟩ := k3.1.1.at 11 rfl
      have ix0 : IX (nI 0) 24 0 := IX.mk (by omega) (by omega)
      refine k_X23_coin_14 oo (fun _ => ?_) (fun q => absurd q (by decide))
      refine k_X23_coin_18 (r2 := w1) (r8 := b0) oo ?_
      refine tbel_ok ?_
      have eq : (un x0.2.2.1.2.1 < un v.2.1.2) ↔ (v.2.1.2 < 0 ∨ x0.2.2.1.2.1 < v.2.1.2) := by
        rw [un_neg]
        by_cases c : 9223372036854775808 ≤ un v.2.1.2
        · exact ⟨fun _ => Or.inl c, fun _ => by omega⟩
        · rw [un_ltI x3 (by omega)]
          exact ⟨fun z => Or.inr z, fun z => z.resolve_left c⟩
      by_cases c : un x0.2.2.1.2.1 < un v.2.1.2
      · rw [if_pos (eq.mp c)] at kk
        rw [decide_eq_true c]
        refine k_X23_coin_28 oo (fun q => absurd q (by decide)) (fun _ => ?_)
        refine k_X23_coin_31 oo ?_
        refine tkend_ok k3 (fun h4 q4 y4 => ?_)
        refine k_X23_coin_37 oo ?_
        exact kk h4 (q03.trans q4) y4
      · rw [if_neg (fun z => c (eq.mpr z))] at kk
        rw [decide_eq_false c]
        refine k_X23_coin_28 oo (fun _ => ?_) (fun q => absurd rfl q)
        refine k_X23_coin_38 (r2 := w1) (r8 := b0) oo ?_
        have q4 : Fq (FS enuF) h3 (h3.sEJ 1075 (tx 12) 0 (x0.2.2.1.2.1 - v.2.1.2)) := Fq.sEJ (Fq.refl h3) (fsr rfl)
        have k4 := TK.enr (x' := cEn (x0.2.2.1.1, x0.2.2.1.2.1 - v.2.1.2, x0.2.2.1.2.2) true x0) k3 hx3 q4 (fun f a p hp => ⟨by simp [n_sI, z_sI, tag_sI, I_sI, J_sI, R_sI, EI_sI, EJ_sI, ER_sI, n_sJ, z_sJ, tag_sJ, I_sJ, J_sJ, R_sJ, EI_sJ, EJ_sJ, ER_sJ, n_sR, z_sR, tag_sR, I_sR, J_sR, R_sR, EI_sR, EJ_sR, ER_sR, n_sEI, z_sEI, tag_sEI, I_sEI, J_sEI, R_sEI, EI_sEI, EJ_sEI, ER_sEI, n_sEJ, z_sEJ, tag_sEJ, I_sEJ, J_sEJ, R_sEJ, EI_sEJ, EJ_sEJ, ER_sEJ, n_sER, z_sER, tag_sER, I_sER, J_sER, R_sER, EI_sER, EJ_sER, ER_sER, n_nw, z_nw, tag_nw, I_nw, J_nw, R_nw, EI_nw, EJ_nw, ER_nw], by simp [n_sI, z_sI, tag_sI, I_sI, J_sI, R_sI, EI_sI, EJ_sI, ER_sI, n_sJ, z_sJ, tag_sJ, I_sJ, J_sJ, R_sJ, EI_sJ, EJ_sJ, ER_sJ, n_sR, z_sR, tag_sR, I_sR, J_sR, R_sR, EI_sR, EJ_sR, ER_sR, n_sEI, z_sEI, tag_sEI, I_sEI, J_sEI, R_sEI, EI_sEI, EJ_sEI, ER_sEI, n_sEJ, z_sEJ, tag_sEJ, I_sEJ, J_sEJ, R_sEJ, EI_sEJ, EJ_sEJ, ER_sEJ, n_sER, z_sER, tag_sER, I_sER, J_sER, R_sER, EI_sER, EJ_sER, ER_sER, n_nw, z_nw, tag_nw, I_nw, J_nw, R_nw, EI_nw, EJ_nw, ER_nw, hp]⟩) _ k3.1.2 (fun _ _ _ => rfl) (fun _ _ _ ha => ha) ⟨⟨by rw [q4.1.EI (FS.n (by decide))]; exact a1, by rw [q4.1.EJ (FS.n (by decide))]; exact a2, by rw [q4.1.EI (FS.n (by decide))]; exact a3, a4⟩, fun z => by
          have := a5 z
          refine Eq.trans ?_ this
          simp [n_sI, z_sI, tag_sI, I_sI, J_sI, R_sI, EI_sI, EJ_sI, ER_sI, n_sJ, z_sJ, tag_sJ, I_sJ, J_sJ, R_sJ, EI_sJ, EJ_sJ, ER_sJ, n_sR, z_sR, tag_sR, I_sR, J_sR, R_sR, EI_sR, EJ_sR, ER_sR, n_sEI, z_sEI, tag_sEI, I_sEI, J_sEI, R_sEI, EI_sEI, EJ_sEI, ER_sEI, n_sEJ, z_sEJ, tag_sEJ, I_sEJ, J_sEJ, R_sEJ, EI_sEJ, EJ_sEJ, ER_sEJ, n_sER, z_sER, tag_sER, I_sER, J_sER, R_sER, EI_sER, EJ_sER, ER_sER, n_nw, z_nw, tag_nw, I_nw, J_nw, R_nw, EI_nw, EJ_nw, ER_nw], fun _ => by simp [n_sI, z_sI, tag_sI, I_sI, J_sI, R_sI, EI_sI, EJ_sI, ER_sI, n_sJ, z_sJ, tag_sJ, I_sJ, J_sJ, R_sJ, EI_sJ, EJ_sJ, ER_sJ, n_sR, z_sR, tag_sR, I_sR, J_sR, R_sR, EI_sR, EJ_sR, ER_sR, n_sEI, z_sEI, tag_sEI, I_sEI, J_sEI, R_sEI, EI_sEI, EJ_sEI, ER_sEI, n_sEJ, z_sEJ, tag_sEJ, I_sEJ, J_sEJ, R_sEJ, EI_sEJ, EJ_sEJ, ER_sEJ, n_sER, z_sER, tag_sER, I_sER, J_sER, R_sER, EI_sER, EJ_sER, ER_sER, n_nw, z_nw, tag_nw, I_nw, J_nw, R_nw, EI_nw, EJ_nw, ER_nw]; rfl, by
          show match x0.2.2.1.2.2.2 with
            | some v => _
            | none => _
          cases hc : x0.2.2.1.2.2.2 with
          | none => rw [hc] at a7; exact ⟨a7.1, by rw [← a7.2]; simp [n_sI, z_sI, tag_sI, I_sI, J_sI, R_sI, EI_sI, EJ_sI, ER_sI, n_sJ, z_sJ, tag_sJ, I_sJ, J_sJ, R_sJ, EI_sJ, EJ_sJ, ER_sJ, n_sR, z_sR, tag_sR, I_sR, J_sR, R_sR, EI_sR, EJ_sR, ER_sR, n_sEI, z_sEI, tag_sEI, I_sEI, J_sEI, R_sEI, EI_sEI, EJ_sEI, ER_sEI, n_sEJ, z_sEJ, tag_sEJ, I_sEJ, J_sEJ, R_sEJ, EI_sEJ, EJ_sEJ, ER_sEJ, n_sER, z_sER, tag_sER, I_sER, J_sER, R_sER, EI_sER, EJ_sER, ER_sER, n_nw, z_nw, tag_nw, I_nw, J_nw, R_nw, EI_nw, EJ_nw, ER_nw]⟩
          | some v' => rw [hc] at a7; obtain ⟨y, y1, y2, y3⟩ := a7; exact ⟨y, y1, by rw [← y2]; simp [n_sI, z_sI, tag_sI, I_sI, J_sI, R_sI, EI_sI, EJ_sI, ER_sI, n_sJ, z_sJ, tag_sJ, I_sJ, J_sJ, R_sJ, EI_sJ, EJ_sJ, ER_sJ, n_sR, z_sR, tag_sR, I_sR, J_sR, R_sR, EI_sR, EJ_sR, ER_sR, n_sEI, z_sEI, tag_sEI, I_sEI, J_sEI, R_sEI, EI_sEI, EJ_sEI, ER_sEI, n_sEJ, z_sEJ, tag_sEJ, I_sEJ, J_sEJ, R_sEJ, EI_sEJ, EJ_sEJ, ER_sEJ, n_sER, z_sER, tag_sER, I_sER, J_sER, R_sER, EI_sER, EJ_sER, ER_sER, n_nw, z_nw, tag_nw, I_nw, J_nw, R_nw, EI_nw, EJ_nw, ER_nw], y3⟩⟩
        refine tkcoin_ok k4 T5.clr h1 (by show (stk (sK s t')).length < 64; rw [stk_K]; omega) (by omega) (by omega) (fun h5 o5 q5 k5 t55 => ?_)
        refine k_X23_coin_53 oo ?_
        refine k_X23_coin_406 oo ?_
        have es : mpu (sE (sG (sK s t') (gas (sK s t') + 5)) ((ens (sG (sK s t') (gas (sK s t') + 5))).set 0 (cEn (x0.2.2.1.1, x0.2.2.1.2.1 - v.2.1.2, x0.2.2.1.2.2) true x0))) (vC v.2.1.2) = sEn (sK (sG s (gas s + 5)) (vC v.2.1.2 :: t')) 0 (cEn (x0.2.2.1.1, x0.2.2.1.2.1 - v.2.1.2, x0.2.2.1.2.2) true) := by
          rw [sEn_s (s := sK (sG s (gas s + 5)) (vC v.2.1.2 :: t')) x1]
          show sE (sG (mpu (sK s t') (vC v.2.1.2)) (gas s + 5)) _ = _
          rw [mpu_K]; rfl
        rw [es] at k5
        refine kk h5 o5 _ (q03.trans ((twq q4 (by decide)).trans q5)) k5 t55 ?_
        rw [← es]
        show n + 2 ≤ (gas s + 5) + 64 * ((ens s).set 0 _).length + 8
        rw [List.length_set]; omega
theorem tcoin_1 (k : TK h A tx UX at' o n s) (t5 : T5 o) (cx : TCX h A snd lim) (sv : TSV h A ax t) (te : TEV env t) (h1 : 1 ≤ s.1) (hN : n + 1 ≤ gas s + 64 * (ens s).length + 8) (hg : gas s ≤ lim) (hcv : ∀ c a t, stk s = .inl c :: .inl a :: t → CNV c) (hne : oCoi snd env lim 1 s ≠ none) (hd : 60 ≤ d) (kk : RZT K h A tx UX at' (oCoi snd env lim 1 s)) : MW G d e_X23_coin [.ref A, .int (nI 1)] h K := by
  refine st_X23_coin fun X oo hG hD _ => ?_
  subst hG; subst hD
  have t0 := k.t0
  have l2 := cx.2.2
  have le24 := k.2.2.1.2.1
  obtain ⟨-, -, e3, -⟩ := k.hgt h1
  unfold oCoi at kk hne
  rw [if_neg (by omega), if_pos rfl] at kk hne
  cases hs : stk s with
  | nil => rw [hs] at hne; exact absurd rfl hne
  | cons x t' =>
    rw [hs] at kk hne e3
    cases x with
    | inr r => exact absurd rfl hne
    | inl c =>
      cases t' with
      | nil => exact absurd rfl hne
      | cons x t' =>
        have e3 : t'.length + 1 + 1 ≤ 64 := e3
        cases x with
        | inr r => exact absurd rfl hne
        | inl a =>
          simp only at kk hne
          obtain ⟨hmv, he⟩ := mre_n hne
          rw [he] at kk hne
          have a5 : a.1 = 5 := by simpa using hmv
          cases hc : cvl c with
          | none => rw [hc] at hne; exact absurd rfl hne
          | some y =>
            rw [hc] at kk hne
            simp only at kk hne
            have cv := hcv c a t' hs
            have c6 : c.1 = 6 := by
              unfold cvl at hc
              by_cases z : c.1 = 6
              · exact z
              · rw [if_neg z] at hc; cases hc
            refine k_X23_coin_0 oo (fun _ => ?_) (fun q => absurd q (by decide))
            refine k_X23_coin_56 oo (fun q => absurd rfl q) (fun _ => ?_)
            refine k_X23_coin_61 oo ?_
            have tk := tktk_ok (G := X.G) (d := X.d - 1) (sl := 0) (K := kin (V X K 67) K [.ref A, .int (nI 1), nov, nov, nov, nov, nov] []) k h1 hs (t5 0 0 0) (by omega) (by omega) (fun h2 yc q2 hyc k2 => ?_)
            · rw [c6] at tk; exact tk
            have t02 := k2.t0
            refine k_X23_coin_67 oo ?_
            have tk := tktk_ok (G := X.G) (d := X.d - 1) (sl := 1) (v := a) (t := t') (K := kin (V X K 73) K [.ref A, .int (nI 1), .int (nI yc.1), nov, nov, nov, nov] []) k2 h1 stk_K (by rw [uO_n (by decide), uO_n (by intro e; cases e)]; exact t5 0 1 0) (by omega) (by omega) (fun h3 ya q3 hya k3 => ?_)
            · rw [a5] at tk; exact tk
            rw [sK_K] at k3
            have t03 := k3.t0
            obtain ⟨ixa, -, -, ra, -, yal⟩ := k3.rd (p := (5, 0, 1, 0)) uO_s
            have ea : ya.2.1 = a.1 := by rw [← hya]; rfl
            have ea2 : ya.2.2.1 = a.2.1 := by rw [← hya]; rfl
            rw [tn_6 (by omega), ea2] at ra
            have rT := k3.1.1.1.2
            obtain ⟨⟨s1, s2, s3, s4, s5, s6⟩, s7, s8, s9, s10, s11⟩ := id k3.1.2.1.1
            refine kco73 oo ?_ (by omega) t03
            refine goes_ok t03 k3.2.1.1 ?_
            refine k_X23_coin_78 oo (fun q => absurd q (by decide)) (fun _ => ?_)
            refine k_X23_coin_81 (r2 := rT) (r5 := s4) (r11 := ra) oo ?_
            -- only the coin stays aside
            have k3d := k3.asd (o' := uO (uO (uO (uO (uO o (1, 0, 0, bsf s.2.1 (s.1 - 1) + (.inl a :: t' : List It).length) none) (5, 0, 0, 0) (some yc)) (1, 0, 0, bsf (sK s (.inl a :: t')).2.1 ((sK s (.inl a :: t')).1 - 1) + t'.length) none) (5, 0, 1, 0) (some ya)) (5, 0, 1, 0) none) (Fq.refl h3) k3.1.2.del (fun p p5 => uO_n (fun e => p5 (by rw [e])))
            have cx3 := (cx.fs q2 (by decide)).fs q3 (by decide)
            have sv3 := (sv.fs q2 (by decide)).fs q3 (by decide)
            have q03 : Fq (FS twF) h h3 := (twq q2 (by decide)).trans (twq q3 (by decide))
            refine tmask_ok (s := s) k3d (fun j hj => ?_) sv3 te (by omega) (by omega) (fun _ => rfl) (by omega) (by omega) (fun h4 o4 n4 s1' e x em q4 k4 c4 hx hxp hxm hs1 hnn => ?_) (fun em h4 q4 x4 => ?_)
            · by_cases e : j = 1
              · rw [e, uO_s]
              · rw [uO_n (fun z => e (congrArg (fun p : Sl => p.2.2.1) z)), uO_n (fun z => e (congrArg (fun p : Sl => p.2.2.1) z)), uO_n (by intro e; cases e), uO_n (fun z => by have : j = 0 := congrArg (fun p : Sl => p.2.2.1) z; omega), uO_n (by intro e; cases e)]
                exact t5 0 j 0
            rotate_left
            · rw [em] at kk
              refine k_X23_coin_96 oo ?_
              refine k_X23_coin_100 oo (fun _ => ?_) (fun q => absurd (by decide) q)
              refine k_X23_coin_115 oo ?_
              exact kk h4 (q03.trans q4) x4
            rw [em] at kk hne
            obtain ⟨n1, n2, n3'⟩ := hs1
            obtain ⟨m1, m2, m3⟩ := hnn
            have t04 := k4.t0
            have cx4 := cx3.fs q4 (by decide)
            have gs4 : h4.I 2842 A = nI (gas s) := by have := k4.2.1.2.1; rw [← n3']; exact this
            have l24' : (ens s1').length ≤ 24 := k4.2.2.1.2.1
            have nb1 : n4 ≤ gas s + 64 * (ens s1').length + 7 := by
              have : 64 * ((ens s1').length - (ens s).length) + 64 * (ens s).length = 64 * (ens s1').length := by rw [← Nat.mul_add]; congr 1; omega
              omega
            refine k_X23_coin_96 oo ?_
            refine k_X23_coin_100 oo (fun q => absurd q (fun z => by rw [um_neg, um_n (by omega)] at z; omega)) (fun _ => ?_)
            refine k_X23_coin_107 oo ?_
            unfold mpay at kk
            rw [n3'] at kk
            refine spend_ok t04 k4.2.1.1 gs4 cx4.2.1 ⟨by omega, by omega⟩ (by omega) (fun hle h5 q5 g5 => ?_) (fun hlt h5 q5 x5 => ?_)
            rotate_left
            · rw [if_neg (by omega)] at kk
              refine k_X23_coin_112 oo (fun q => absurd rfl q) (fun _ => ?_)
              refine k_X23_coin_115 oo ?_
              exact kk h5 (q03.trans (q4.trans (twq q5 (by decide)))) x5
            rw [if_pos hle] at kk
            have hx' : (ens (sG s1' (gas s + 5)))[e]? = some x := hx
            simp only [hx'] at kk
            have k5 := k4.gas q5 g5
            have t05 := k5.t0
            have hx5 : (ens (sG (sK s1' t') (gas s + 5)))[e]? = some x := hx
            obtain ⟨⟨a1, a2, a3, a4⟩, a5', a6, a7⟩ := id (k5.2.2.2.2.1 e x hx5)
            have b0 := a6 (by rw [hxp])
            obtain ⟨w1, w2⟩ := k5.1.1.at 11 rfl
            obtain ⟨w3, w4⟩ := k5.1.1.at 13 rfl
            have ixe : IX (nI e) 24 e := IX.mk m3 (by omega)
            have oc : o4 (5, 0, 0, 0) = some yc := by
              rw [c4, uO_n (by decide), uO_n (by decide), uO_n (by intro e; cases e), uO_s]
            obtain ⟨ixc, -, -, -, tvc, ycl⟩ := k5.rd oc
            obtain ⟨-, bb, f1, f2, f3⟩ := cn_rd tvc hyc hc cv
            have rT5 := k5.1.1.1.2
            obtain ⟨⟨z1, z2, z3, z4, z5, z6⟩, z7, z8, z9, z10, z11⟩ := id k5.1.2.1.1
            have ixb : IX (nI bb) 24576 bb := IX.mk f2 (by omega)
            refine k_X23_coin_112 oo (fun _ => ?_) (fun q => absurd q (by decide))
            refine k_X23_coin_116 (r2 := w1) (r8 := b0) (r10 := rT5) (r13 := z4) (r15 := rT5) (r18 := z5) (r24 := f1) (r30 := f3) (r34 := w3) oo ?_
            refine k_X23_coin_406 oo ?_
            have k5c := k5.cl
            have tk5 := k5c.2.2.2.2.1 e x hx5
            obtain ⟨⟨a1, a2, a3, a4⟩, a5', a6, a7⟩ := id tk5
            have q6 : Fq (FS enuF) h5 ((h5.sEJ 1075 (tx 12) e (x.2.2.1.2.1 + y)).sEI 1106 (tx 14) e (nI 1)) := Fq.sEI (Fq.sEJ (Fq.refl h5) (fsr rfl)) (fsr rfl)
            have k6 := TK.enr (x' := cEn (true, x.2.2.1.2.1 + y, x.2.2.1.2.2) true x) k5c hx5 q6 (fun f a p hp => ⟨by simp [n_sI, z_sI, tag_sI, I_sI, J_sI, R_sI, EI_sI, EJ_sI, ER_sI, n_sJ, z_sJ, tag_sJ, I_sJ, J_sJ, R_sJ, EI_sJ, EJ_sJ, ER_sJ, n_sR, z_sR, tag_sR, I_sR, J_sR, R_sR, EI_sR, EJ_sR, ER_sR, n_sEI, z_sEI, tag_sEI, I_sEI, J_sEI, R_sEI, EI_sEI, EJ_sEI, ER_sEI, n_sEJ, z_sEJ, tag_sEJ, I_sEJ, J_sEJ, R_sEJ, EI_sEJ, EJ_sEJ, ER_sEJ, n_sER, z_sER, tag_sER, I_sER, J_sER, R_sER, EI_sER, EJ_sER, ER_sER, n_nw, z_nw, tag_nw, I_nw, J_nw, R_nw, EI_nw, EJ_nw, ER_nw, hp], by simp [n_sI, z_sI, tag_sI, I_sI, J_sI, R_sI, EI_sI, EJ_sI, ER_sI, n_sJ, z_sJ, tag_sJ, I_sJ, J_sJ, R_sJ, EI_sJ, EJ_sJ, ER_sJ, n_sR, z_sR, tag_sR, I_sR, J_sR, R_sR, EI_sR, EJ_sR, ER_sR, n_sEI, z_sEI, tag_sEI, I_sEI, J_sEI, R_sEI, EI_sEI, EJ_sEI, ER_sEI, n_sEJ, z_sEJ, tag_sEJ, I_sEJ, J_sEJ, R_sEJ, EI_sEJ, EJ_sEJ, ER_sEJ, n_sER, z_sER, tag_sER, I_sER, J_sER, R_sER, EI_sER, EJ_sER, ER_sER, n_nw, z_nw, tag_nw, I_nw, J_nw, R_nw, EI_nw, EJ_nw, ER_nw, hp]⟩) _ k5c.1.2 (fun _ _ _ => rfl) (fun _ _ _ ha => ha) ⟨⟨by rw [q6.1.EI (FS.n (by decide))]; exact a1, by rw [q6.1.EJ (FS.n (by decide))]; exact a2, by rw [q6.1.EI (FS.n (by decide))]; exact a3, a4⟩, fun z => by simp [n_sI, z_sI, tag_sI, I_sI, J_sI, R_sI, EI_sI, EJ_sI, ER_sI, n_sJ, z_sJ, tag_sJ, I_sJ, J_sJ, R_sJ, EI_sJ, EJ_sJ, ER_sJ, n_sR, z_sR, tag_sR, I_sR, J_sR, R_sR, EI_sR, EJ_sR, ER_sR, n_sEI, z_sEI, tag_sEI, I_sEI, J_sEI, R_sEI, EI_sEI, EJ_sEI, ER_sEI, n_sEJ, z_sEJ, tag_sEJ, I_sEJ, J_sEJ, R_sEJ, EI_sEJ, EJ_sEJ, ER_sEJ, n_sER, z_sER, tag_sER, I_sER, J_sER, R_sER, EI_sER, EJ_sER, ER_sER, n_nw, z_nw, tag_nw, I_nw, J_nw, R_nw, EI_nw, EJ_nw, ER_nw]; rfl, fun _ => by simp [n_sI, z_sI, tag_sI, I_sI, J_sI, R_sI, EI_sI, EJ_sI, ER_sI, n_sJ, z_sJ, tag_sJ, I_sJ, J_sJ, R_sJ, EI_sJ, EJ_sJ, ER_sJ, n_sR, z_sR, tag_sR, I_sR, J_sR, R_sR, EI_sR, EJ_sR, ER_sR, n_sEI, z_sEI, tag_sEI, I_sEI, J_sEI, R_sEI, EI_sEI, EJ_sEI, ER_sEI, n_sEJ, z_sEJ, tag_sEJ, I_sEJ, J_sEJ, R_sEJ, EI_sEJ, EJ_sEJ, ER_sEJ, n_sER, z_sER, tag_sER, I_sER, J_sER, R_sER, EI_sER, EJ_sER, ER_sER, n_nw, z_nw, tag_nw, I_nw, J_nw, R_nw, EI_nw, EJ_nw, ER_nw]; rfl, by
              show match x.2.2.1.2.2.2 with
                | some v => _
                | none => _
              cases hc : x.2.2.1.2.2.2 with
              | none => rw [hc] at a7; exact ⟨a7.1, by rw [← a7.2]; simp [n_sI, z_sI, tag_sI, I_sI, J_sI, R_sI, EI_sI, EJ_sI, ER_sI, n_sJ, z_sJ, tag_sJ, I_sJ, J_sJ, R_sJ, EI_sJ, EJ_sJ, ER_sJ, n_sR, z_sR, tag_sR, I_sR, J_sR, R_sR, EI_sR, EJ_sR, ER_sR, n_sEI, z_sEI, tag_sEI, I_sEI, J_sEI, R_sEI, EI_sEI, EJ_sEI, ER_sEI, n_sEJ, z_sEJ, tag_sEJ, I_sEJ, J_sEJ, R_sEJ, EI_sEJ, EJ_sEJ, ER_sEJ, n_sER, z_sER, tag_sER, I_sER, J_sER, R_sER, EI_sER, EJ_sER, ER_sER, n_nw, z_nw, tag_nw, I_nw, J_nw, R_nw, EI_nw, EJ_nw, ER_nw]⟩
              | some v' => rw [hc] at a7; obtain ⟨y, y1, y2, y3⟩ := a7; exact ⟨y, y1, by rw [← y2]; simp [n_sI, z_sI, tag_sI, I_sI, J_sI, R_sI, EI_sI, EJ_sI, ER_sI, n_sJ, z_sJ, tag_sJ, I_sJ, J_sJ, R_sJ, EI_sJ, EJ_sJ, ER_sJ, n_sR, z_sR, tag_sR, I_sR, J_sR, R_sR, EI_sR, EJ_sR, ER_sR, n_sEI, z_sEI, tag_sEI, I_sEI, J_sEI, R_sEI, EI_sEI, EJ_sEI, ER_sEI, n_sEJ, z_sEJ, tag_sEJ, I_sEJ, J_sEJ, R_sEJ, EI_sEJ, EJ_sEJ, ER_sEJ, n_sER, z_sER, tag_sER, I_sER, J_sER, R_sER, EI_sER, EJ_sER, ER_sER, n_nw, z_nw, tag_nw, I_nw, J_nw, R_nw, EI_nw, EJ_nw, ER_nw], y3⟩⟩
            have es : sE (sG (sK s1' t') (gas s + 5)) ((ens (sG (sK s1' t') (gas s + 5))).set e (cEn (true, x.2.2.1.2.1 + y, x.2.2.1.2.2) true x)) = sEn (sK (sG s1' (gas s + 5)) t') e (cEn (true, x.2.2.1.2.1 + y, x.2.2.1.2.2) true) := by
              rw [sEn_s (s := sK (sG s1' (gas s + 5)) t') hx]; rfl
            rw [es] at k6
            refine kk _ _ n4 (q03.trans (q4.trans ((twq q5 (by decide)).trans (twq q6 (by decide))))) k6 T5.clr ?_
            rw [← es]
            show n4 ≤ (gas s + 5) + 64 * ((ens s1').set e _).length + 8
            rw [List.length_set]; omega
theorem tcoin_5 (k : TK h A tx UX at' o n s) (t5 : T5 o) (cx : TCX h A snd lim) (sv : TSV h A ax t) (te : TEV env t) (h1 : 1 ≤ s.1) (hN : n + 1 ≤ gas s + 64 * (ens s).length + 8) (hg : gas s ≤ lim) (hne : oCoi snd env lim 5 s ≠ none) (hd : 60 ≤ d) (kk : RZT K h A tx UX at' (oCoi snd env lim 5 s)) : MW G d e_X23_coin [.ref A, .int (nI 5)] h K := by
  refine st_X23_coin fun X oo hG hD _ => ?_
  subst hG; subst hD
  have t0 := k.t0
  have l2 := cx.2.2
  have le24 := k.2.2.1.2.1
  obtain ⟨-, -, e3, -⟩ := k.hgt h1
  unfold oCoi at kk hne
  rw [if_neg (by omega), if_neg (by omega), if_neg (by omega), if_neg (by omega), if_neg (by omega), if_pos rfl] at kk hne
  cases hs : stk s with
  | nil => rw [hs] at hne; exact absurd rfl hne
  | cons x t' =>
    rw [hs] at kk hne e3
    have e3 : t'.length + 1 ≤ 64 := e3
    cases x with
    | inr r => exact absurd rfl hne
    | inl a =>
      simp only at kk hne
      obtain ⟨hmv, he⟩ := mre_n hne
      rw [he] at kk hne
      have a5 : a.1 = 5 := by simpa using hmv
      refine k_X23_coin_0 oo (fun _ => ?_) (fun q => absurd q (by decide))
      refine k_X23_coin_56 oo (fun _ => ?_) (fun q => absurd q (by decide))
      refine k_X23_coin_154 oo (fun _ => ?_) (fun q => absurd q (by decide))
      refine k_X23_coin_199 oo (fun _ => ?_) (fun q => absurd q (by decide))
      refine k_X23_coin_268 oo (fun _ => ?_) (fun q => absurd q (by decide))
      refine k_X23_coin_349 oo ?_
      have tk := tktk_ok (G := X.G) (d := X.d - 1) (sl := 0) (K := kin (V X K 354) K [.ref A, .int (nI 5), nov, nov, nov, nov, nov] []) k h1 hs (t5 0 0 0) (by omega) (by omega) (fun h3 ya q3 hya k3 => ?_)
      · rw [a5] at tk; exact tk
      have t03 := k3.t0
      obtain ⟨ixa, -, -, ra, -, yal⟩ := k3.rd (p := (5, 0, 0, 0)) uO_s
      have ea : ya.2.1 = a.1 := by rw [← hya]; rfl
      have ea2 : ya.2.2.1 = a.2.1 := by rw [← hya]; rfl
      rw [tn_6 (by omega), ea2] at ra
      have rT := k3.1.1.1.2
      obtain ⟨⟨s1, s2, s3, s4, s5, s6⟩, s7, s8, s9, s10, s11⟩ := id k3.1.2.1.1
      refine k_X23_coin_354 oo ?_
      refine goes_ok t03 k3.2.1.1 ?_
      refine k_X23_coin_359 oo (fun q => absurd q (by decide)) (fun _ => ?_)
      refine k_X23_coin_362 (r2 := rT) (r5 := s4) (r11 := ra) oo ?_
      have cx3 := cx.fs q3 (by decide)
      have sv3 := sv.fs q3 (by decide)
      have q03 : Fq (FS twF) h h3 := twq q3 (by decide)
      refine tmask_ok (s := s) k3.cl (fun j hj => T5.clr 0 j 0) sv3 te (by omega) (by omega) (fun _ => rfl) (by omega) (by omega) (fun h4 o4 n4 s1' e x em q4 k4 c4 hx hxp hxm hs1 hnn => ?_) (fun em h4 q4 x4 => ?_)
      rotate_left
      · rw [em] at kk
        refine k_X23_coin_377 oo ?_
        refine k_X23_coin_381 oo (fun _ => ?_) (fun q => absurd (by decide) q)
        refine k_X23_coin_406 oo ?_
        exact kk h4 (q03.trans q4) x4
      rw [em] at kk hne
      obtain ⟨n1, n2, n3'⟩ := hs1
      obtain ⟨m1, m2, m3⟩ := hnn
      have t04 := k4.t0
      have cx4 := cx3.fs q4 (by decide)
      have gs4 : h4.I 2842 A = nI (gas s) := by have := k4.2.1.2.1; rw [← n3']; exact this
      have l24' : (ens s1').length ≤ 24 := k4.2.2.1.2.1
      have nb1 : n4 ≤ gas s + 64 * (ens s1').length + 7 := by
        have : 64 * ((ens s1').length - (ens s).length) + 64 * (ens s).length = 64 * (ens s1').length := by rw [← Nat.mul_add]; congr 1; omega
        omega
      refine k_X23_coin_377 oo ?_
      refine k_X23_coin_381 oo (fun q => absurd q (fun z => by rw [um_neg, um_n (by omega)] at z; omega)) (fun _ => ?_)
      refine k_X23_coin_386 oo ?_
      unfold mpay at kk
      rw [n3'] at kk
      refine spend_ok t04 k4.2.1.1 gs4 cx4.2.1 ⟨by omega, by omega⟩ (by omega) (fun hle h5 q5 g5 => ?_) (fun hlt h5 q5 x5 => ?_)
      rotate_left
      · rw [if_neg (by omega)] at kk
        refine k_X23_coin_391 oo (fun _ => ?_) (fun q => absurd rfl q)
        refine k_X23_coin_406 oo ?_
        exact kk h5 (q03.trans (q4.trans (twq q5 (by decide)))) x5
      rw [if_pos hle] at kk
      have hx' : (ens (sG s1' (gas s + 5)))[e]? = some x := hx
      simp only [hx'] at kk
      have k5 := (k4.gas q5 g5).cl
      have t05 := k5.t0
      have hx5 : (ens (sG (sK s1' t') (gas s + 5)))[e]? = some x := hx
      obtain ⟨⟨a1, a2, a3, a4⟩, a5', a6, a7⟩ := id (k5.2.2.2.2.1 e x hx5)
      have b0 := a6 (by rw [hxp])
      obtain ⟨w1, w2⟩ := k5.1.1.at 11 rfl
      have ixe : IX (nI e) 24 e := IX.mk m3 (by omega)
      refine k_X23_coin_391 oo (fun q => absurd q (by decide)) (fun _ => ?_)
      refine k_X23_coin_394 (r2 := w1) (r8 := b0) oo ?_
      refine tkmk_ok k5 T5.clr (by show 1 ≤ s1'.1; omega) (by show (stk (sK s1' t')).length < 64; rw [stk_K]; omega) (by omega) (by omega) (by omega) (fun h6 o6 q6 k6 t6 => ?_)
      refine k_X23_coin_406 oo ?_
      have es : mpu (sG (sK s1' t') (gas s + 5)) (vI 3 0 x.2.2.1.2.1) = sK (sG s1' (gas s + 5)) (vI 3 0 x.2.2.1.2.1 :: t') := by
        show sG (mpu (sK s1' t') _) _ = _
        rw [mpu_K]; rfl
      rw [es] at k6
      exact kk h6 o6 _ (q03.trans (q4.trans ((twq q5 (by decide)).trans q6))) k6 t6 (show n4 + 1 ≤ (gas s + 5) + 64 * (ens s1').length + 8 by omega)
theorem tcoin_2 (k : TK h A tx UX at' o n s) (t5 : T5 o) (cx : TCX h A snd lim) (h1 : 1 ≤ s.1) (hN : n + 1 ≤ gas s + 64 * (ens s).length + 8) (hg : gas s ≤ lim) (hcv : ∀ r t v, stk s = .inr r :: t → drf s r = some v → CNV v) (hne : oCoi snd env lim 2 s ≠ none) (hd : 60 ≤ d) (kk : RZT K h A tx UX at' (oCoi snd env lim 2 s)) : MW G d e_X23_coin [.ref A, .int (nI 2)] h K := by
  refine st_X23_coin fun X oo hG hD _ => ?_
  subst hG; subst hD
  have t0 := k.t0
  have l2 := cx.2.2
  have le24 := k.2.2.1.2.1
  obtain ⟨-, -, e3, -⟩ := k.hgt h1
  unfold oCoi at kk hne
  rw [if_neg (by omega), if_neg (by omega), if_pos rfl] at kk hne
  cases hs : stk s with
  | nil => rw [hs] at hne; exact absurd rfl hne
  | cons x t' =>
    rw [hs] at kk hne e3
    have e3 : t'.length + 1 ≤ 64 := e3
    cases x with
    | inl v => exact absurd rfl hne
    | inr r =>
      simp only at kk hne
      cases hv : drf s r with
      | none => rw [hv] at hne; exact absurd rfl hne
      | some v =>
        rw [hv] at kk hne
        simp only at kk hne
        cases hc : cvl v with
        | none => rw [hc] at hne; exact absurd rfl hne
        | some y =>
          rw [hc] at kk
          simp only at kk
          have cv := hcv r t' v hs hv
          refine k_X23_coin_0 oo (fun _ => ?_) (fun q => absurd q (by decide))
          refine k_X23_coin_56 oo (fun _ => ?_) (fun q => absurd q (by decide))
          refine k_X23_coin_154 oo (fun q => absurd rfl q) (fun _ => ?_)
          refine k_X23_coin_159 oo ?_
          refine tktr_ok k h1 hs (by omega) (fun h2 a q2 ha k2 tk => ?_)
          have t02 := k2.t0
          have hv2 : drf (sK s t') r = some v := by rw [← hv]; exact drf_K
          obtain ⟨z, w, hz, hw, ew, wa, rz⟩ := k2.ref ha hv2
          subst wa
          have cx2 := cx.fs q2 (by decide)
          refine k_X23_coin_164 oo ?_
          unfold mpay at kk
          refine spend_ok t02 k2.2.1.1 k2.2.1.2.1 cx2.2.1 ⟨by show gas s + _ < _; omega, by omega⟩ (by omega) (fun hle h3 q3 g3 => ?_) (fun hlt h3 q3 y3 => ?_)
          rotate_left
          · have hlt : lim < gas s + 5 := hlt
            rw [if_neg (by omega)] at kk
            refine k_X23_coin_170 oo (fun _ => ?_) (fun q => absurd rfl q)
            refine k_X23_coin_196 oo ?_
            refine k_X23_coin_406 oo ?_
            exact kk h3 ((twq q2 (by decide)).trans (twq q3 (by decide))) y3
          have hle : gas s + 5 ≤ lim := hle
          rw [if_pos hle] at kk
          have k3 := k2.gas q3 g3
          have t03 := k3.t0
          have rT := k3.1.1.1.2
          obtain ⟨⟨⟨⟨s1, s2, s3, s4, s5, s6⟩, s7, s8, s9, s10, s11⟩, sz, n24⟩, -, v5⟩ := id k3.1.2
          obtain ⟨g1, g2, -⟩ := v5 _ z hz
          have tv := TVL.sub g1 hw
          have wl := g2 w.1 (adr_in hw _ (adr_1 w))
          have ixw : IX (nI w.1) 24576 w.1 := IX.mk (by omega) (by omega)
          obtain ⟨-, bb, f1, f2, f3⟩ := cn_rd tv ew hc cv
          have ixb : IX (nI bb) 24576 bb := IX.mk f2 (by omega)
          refine k_X23_coin_170 oo (fun q => absurd q (by decide)) (fun _ => ?_)
          refine k_X23_coin_173 (r2 := rT) (r5 := s4) (r7 := rT) (r10 := s5) (r16 := f1) (r22 := f3) oo ?_
          refine tkmk_ok k3 t5 h1 (by show (stk (sK s t')).length < 64; rw [stk_K]; omega) (by omega) (by omega) (by omega) (fun h4 o4 q4 k4 t4 => ?_)
          refine k_X23_coin_196 oo ?_
          refine k_X23_coin_406 oo ?_
          have es : mpu (sG (sK s t') (gas (sK s t') + 5)) (vI 3 0 y) = sK (sG s (gas s + 5)) (vI 3 0 y :: t') := by
            show sG (mpu (sK s t') _) _ = _
            rw [mpu_K]; rfl
          rw [es] at k4
          exact kk h4 o4 _ ((twq q2 (by decide)).trans ((twq q3 (by decide)).trans q4)) k4 t4 (show n + 1 ≤ (gas s + 5) + 64 * (ens s).length + 8 by omega)
theorem tcoin_3 (k : TK h A tx UX at' o n s) (t5 : T5 o) (cx : TCX h A snd lim) (h1 : 1 ≤ s.1) (hN : n + 1 ≤ gas s + 64 * (ens s).length + 8) (hg : gas s ≤ lim) (hcv : ∀ b a t, stk s = .inl b :: .inl a :: t → CNV a ∧ CNV b) (hne : oCoi snd env lim 3 s ≠ none) (hd : 60 ≤ d) (kk : RZT K h A tx UX at' (oCoi snd env lim 3 s)) : MW G d e_X23_coin [.ref A, .int (nI 3)] h K := by
  refine st_X23_coin fun X oo hG hD _ => ?_
  subst hG; subst hD
  have t0 := k.t0
  have l2 := cx.2.2
  have le24 := k.2.2.1.2.1
  obtain ⟨-, -, e3, -⟩ := k.hgt h1
  unfold oCoi at kk hne
  rw [if_neg (by omega), if_neg (by omega), if_neg (by omega), if_pos rfl] at kk hne
  cases hs : stk s with
  | nil => rw [hs] at hne; exact absurd rfl hne
  | cons x t' =>
    rw [hs] at kk hne e3
    cases x with
    | inr r => exact absurd rfl hne
    | inl b =>
      cases t' with
      | nil => exact absurd rfl hne
      | cons x t' =>
        have e3 : t'.length + 1 + 1 ≤ 64 := e3
        cases x with
        | inr r => exact absurd rfl hne
        | inl a =>
          simp only at kk hne
          cases ha : cvl a with
          | none => rw [ha] at hne; exact absurd rfl hne
          | some xa =>
            cases hb : cvl b with
            | none => rw [ha, hb] at hne; exact absurd rfl hne
            | some xb =>
              rw [ha, hb] at kk
              simp only at kk
              obtain ⟨cva, cvb⟩ := hcv b a t' hs
              have six : ∀ {c : VL} {y : Int64}, cvl c = some y → c.1 = 6 := fun {c y} hc => by
                unfold cvl at hc
                by_cases z : c.1 = 6
                · exact z
                · rw [if_neg z] at hc; cases hc
              have a6 := six ha
              have b6 := six hb
              refine k_X23_coin_0 oo (fun _ => ?_) (fun q => absurd q (by decide))
              refine k_X23_coin_56 oo (fun _ => ?_) (fun q => absurd q (by decide))
              refine k_X23_coin_154 oo (fun _ => ?_) (fun q => absurd q (by decide))
              refine k_X23_coin_199 oo (fun q => absurd rfl q) (fun _ => ?_)
              refine k_X23_coin_204 oo ?_
              have tk := tktk_ok (G := X.G) (d := X.d - 1) (sl := 0) (K := kin (V X K 210) K [.ref A, .int (nI 3), nov, nov, nov, nov, nov] []) k h1 hs (t5 0 0 0) (by omega) (by omega) (fun h2 yb q2 hyb k2 => ?_)
              · rw [b6] at tk; exact tk
              have t02 := k2.t0
              refine k_X23_coin_210 oo ?_
              have tk := tktk_ok (G := X.G) (d := X.d - 1) (sl := 1) (v := a) (t := t') (K := kin (V X K 217) K [.ref A, .int (nI 3), .int (nI yb.1), nov, nov, nov, nov] []) k2 h1 stk_K (by rw [uO_n (by decide), uO_n (by intro e; cases e)]; exact t5 0 1 0) (by omega) (by omega) (fun h3 ya q3 hya k3 => ?_)
              · rw [a6] at tk; exact tk
              rw [sK_K] at k3
              have t03 := k3.t0
              have cx3 := (cx.fs q2 (by decide)).fs q3 (by decide)
              have q03 : Fq (FS twF) h h3 := (twq q2 (by decide)).trans (twq q3 (by decide))
              refine kco217 oo ?_ (by omega) t03
              unfold mpay at kk
              refine spend_ok t03 k3.2.1.1 k3.2.1.2.1 cx3.2.1 ⟨by show gas s + _ < _; omega, by omega⟩ (by omega) (fun hle h4 q4 g4 => ?_) (fun hlt h4 q4 y4 => ?_)
              rotate_left
              · have hlt : lim < gas s + 5 := hlt
                rw [if_neg (by omega)] at kk
                refine k_X23_coin_223 oo (fun _ => ?_) (fun q => absurd rfl q)
                refine k_X23_coin_265 oo ?_
                refine k_X23_coin_406 oo ?_
                exact kk h4 (q03.trans (twq q4 (by decide))) y4
              have hle : gas s + 5 ≤ lim := hle
              rw [if_pos hle] at kk
              have k4 := k3.gas q4 g4
              have t04 := k4.t0
              have rT := k4.1.1.1.2
              obtain ⟨⟨s1, s2, s3, s4, s5, s6⟩, s7, s8, s9, s10, s11⟩ := id k4.1.2.1.1
              obtain ⟨ixa, -, -, -, tva, yal⟩ := k4.rd (p := (5, 0, 1, 0)) uO_s
              obtain ⟨ixb, -, -, -, tvb, ybl⟩ := k4.rd (p := (5, 0, 0, 0)) (by rw [uO_n (by decide), uO_n (by intro e; cases e), uO_s])
              obtain ⟨-, ba, f1, f2, f3⟩ := cn_rd tva hya ha cva
              obtain ⟨-, bb, f4, f5, f6⟩ := cn_rd tvb hyb hb cvb
              have ixba : IX (nI ba) 24576 ba := IX.mk f2 (by omega)
              have ixbb : IX (nI bb) 24576 bb := IX.mk f5 (by omega)
              refine k_X23_coin_223 oo (fun q => absurd q (by decide)) (fun _ => ?_)
              refine k_X23_coin_226 (r2 := rT) (r5 := s4) (r7 := rT) (r10 := s5) (r16 := f1) (r22 := f3) (r24 := rT) (r27 := s4) (r29 := rT) (r32 := s5) (r38 := f4) (r44 := f6) oo ?_
              refine tkcoin_ok k4.cl T5.clr h1 (by show (stk (sK s t')).length < 64; rw [stk_K]; omega) (by omega) (by omega) (fun h5 o5 q5 k5 t55 => ?_)
              refine k_X23_coin_265 oo ?_
              refine k_X23_coin_406 oo ?_
              have es : mpu (sG (sK s t') (gas (sK s t') + 5)) (vC (xa + xb)) = sK (sG s (gas s + 5)) (vC (xa + xb) :: t') := by
                show sG (mpu (sK s t') _) _ = _
                rw [mpu_K]; rfl
              rw [es] at k5
              exact kk h5 o5 _ (q03.trans ((twq q4 (by decide)).trans q5)) k5 t55 (show n + 2 ≤ (gas s + 5) + 64 * (ens s).length + 8 by omega)
theorem tcoin_4 (k : TK h A tx UX at' o n s) (t5 : T5 o) (cx : TCX h A snd lim) (h1 : 1 ≤ s.1) (hN : n + 1 ≤ gas s + 64 * (ens s).length + 8) (hg : gas s ≤ lim) (hcv : ∀ v c t, stk s = .inl v :: .inl c :: t → CNV c) (hne : oCoi snd env lim 4 s ≠ none) (hd : 60 ≤ d) (kk : RZT K h A tx UX at' (oCoi snd env lim 4 s)) : MW G d e_X23_coin [.ref A, .int (nI 4)] h K := by
  refine st_X23_coin fun X oo hG hD _ => ?_
  subst hG; subst hD
  have t0 := k.t0
  have l2 := cx.2.2
  have le24 := k.2.2.1.2.1
  obtain ⟨-, -, e3, -⟩ := k.hgt h1
  unfold oCoi at kk hne
  rw [if_neg (by omega), if_neg (by omega), if_neg (by omega), if_neg (by omega), if_pos rfl] at kk hne
  cases hs : stk s with
  | nil => rw [hs] at hne; exact absurd rfl hne
  | cons x t' =>
    rw [hs] at kk hne e3
    cases x with
    | inr r => exact absurd rfl hne
    | inl v =>
      cases t' with
      | nil => exact absurd rfl hne
      | cons x t' =>
        have e3 : t'.length + 1 + 1 ≤ 64 := e3
        cases x with
        | inr r => exact absurd rfl hne
        | inl c =>
          simp only at kk hne
          obtain ⟨hmv, he⟩ := mre_n hne
          rw [he] at kk hne
          have v3 : v.1 = 3 := by simpa using hmv
          cases hc : cvl c with
          | none => rw [hc] at hne; exact absurd rfl hne
          | some xc =>
            rw [hc] at kk
            simp only at kk
            have cv := hcv v c t' hs
            have c6 : c.1 = 6 := by
              unfold cvl at hc
              by_cases z : c.1 = 6
              · exact z
              · rw [if_neg z] at hc; cases hc
            refine k_X23_coin_0 oo (fun _ => ?_) (fun q => absurd q (by decide))
            refine k_X23_coin_56 oo (fun _ => ?_) (fun q => absurd q (by decide))
            refine k_X23_coin_154 oo (fun _ => ?_) (fun q => absurd q (by decide))
            refine k_X23_coin_199 oo (fun _ => ?_) (fun q => absurd q (by decide))
            refine k_X23_coin_268 oo (fun q => absurd rfl q) (fun _ => ?_)
            refine k_X23_coin_273 oo ?_
            refine tktl_ok (sl := 0) k h1 hs (t5 0 0 0) v3 (by omega) (fun h2 yv q2 hyv k2 => ?_)
            have t02 := k2.t0
            refine k_X23_coin_277 oo ?_
            have tk := tktk_ok (G := X.G) (d := X.d - 1) (sl := 1) (v := c) (t := t') (K := kin (V X K 284) K [.ref A, .int (nI 4), .long v.2.1.2, nov, nov, nov, nov] []) k2 h1 stk_K (by rw [uO_n (by decide), uO_n (by intro e; cases e)]; exact t5 0 1 0) (by omega) (by omega) (fun h3 yc q3 hyc k3 => ?_)
            · rw [c6] at tk; exact tk
            rw [sK_K] at k3
            have t03 := k3.t0
            have cx3 := (cx.fs q2 (by decide)).fs q3 (by decide)
            have q03 : Fq (FS twF) h h3 := (twq q2 (by decide)).trans (twq q3 (by decide))
            refine k_X23_coin_284 oo ?_
            unfold mpay at kk
            refine spend_ok t03 k3.2.1.1 k3.2.1.2.1 cx3.2.1 ⟨by show gas s + _ < _; omega, by omega⟩ (by omega) (fun hle h4 q4 g4 => ?_) (fun hlt h4 q4 y4 => ?_)
            rotate_left
            · have hlt : lim < gas s + 5 := hlt
              rw [if_neg (by omega)] at kk
              refine k_X23_coin_291 oo (fun q => absurd rfl q) (fun _ => ?_)
              refine k_X23_coin_294 oo ?_
              exact kk h4 (q03.trans (twq q4 (by decide))) y4
            have hle : gas s + 5 ≤ lim := hle
            rw [if_pos hle] at kk
            have k4 := k3.gas q4 g4
            have t04 := k4.t0
            have rT := k4.1.1.1.2
            obtain ⟨⟨s1, s2, s3, s4, s5, s6⟩, s7, s8, s9, s10, s11⟩ := id k4.1.2.1.1
            obtain ⟨ixc, -, -, -, tvc, ycl⟩ := k4.rd (p := (5, 0, 1, 0)) uO_s
            obtain ⟨-, bb, f1, f2, f3⟩ := cn_rd tvc hyc hc cv
            have ixb : IX (nI bb) 24576 bb := IX.mk f2 (by omega)
            refine k_X23_coin_291 oo (fun _ => ?_) (fun q => absurd q (by decide))
            refine k_X23_coin_295 (r2 := rT) (r5 := s4) (r7 := rT) (r10 := s5) (r16 := f1) (r22 := f3) oo ?_
            refine tbel_ok ?_
            by_cases cc : un xc < un v.2.1.2
            · simp only [if_pos cc] at kk
              rw [decide_eq_true cc]
              refine k_X23_coin_321 oo (fun q => absurd q (by decide)) (fun _ => ?_)
              refine k_X23_coin_324 oo ?_
              refine tkend_ok k4 (fun h5 q5 y5 => ?_)
              refine k_X23_coin_332 oo ?_
              exact kk h5 (q03.trans ((twq q4 (by decide)).trans q5)) y5
            · simp only [if_neg cc] at kk
              rw [decide_eq_false cc]
              refine k_X23_coin_321 oo (fun _ => ?_) (fun q => absurd rfl q)
              refine k_X23_coin_333 oo ?_
              refine tkcoin_ok k4.cl T5.clr h1 (by show (stk (sK s t')).length < 64; rw [stk_K]; omega) (by omega) (by omega) (fun h5 o5 q5 k5 t55 => ?_)
              have t05 := k5.t0
              refine k_X23_coin_341 oo ?_
              have es : mpu (sG (sK s t') (gas (sK s t') + 5)) (vC (xc - v.2.1.2)) = sK (sG s (gas s + 5)) (vC (xc - v.2.1.2) :: t') := by
                show sG (mpu (sK s t') _) _ = _
                rw [mpu_K]; rfl
              rw [es] at k5
              refine tkcoin_ok k5 t55 h1 (by rw [stk_K]; show t'.length + 1 < 64; omega) (by omega) (by omega) (fun h6 o6 q6 k6 t6 => ?_)
              refine k_X23_coin_346 oo ?_
              refine k_X23_coin_406 oo ?_
              rw [mpu_K] at k6
              exact kk h6 o6 _ (q03.trans ((twq q4 (by decide)).trans (q5.trans q6))) k6 t6 (show n + 2 + 2 ≤ (gas s + 5) + 64 * (ens s).length + 8 by omega)
end
