/-! the twin's machine: vectors -/
theorem kov50 {X : Xt} (o : OK e_X23_onVector X) {K : Outcome → AH → Prop} {h : AH} {s0 x3 l2 : Int32} {l0 : Nat} {l1 l3 l4 l5 l6 l7 l8 l9 l10 : Value} (H : V X K 59 [.ref l0, l1, .int l2, .int s0, .int (x3 - l2), l5, l6, l7, l8, l9, l10] [] h) (t1 : h.tag l0 = some (22, 0)) (r2 : h.I 2861 l0 = x3) : V X K 50 [.ref l0, l1, .int l2, l3, l4, l5, l6, l7, l8, l9, l10] [.int s0] h :=
  have hs : gb cX23_onVector 50 = some 62 ∧ gb cX23_onVector 51 = some 42 ∧ gb cX23_onVector 52 = some 180 ∧ gb cX23_onVector 53 = some 1 ∧ gb cX23_onVector 54 = some 56 ∧ gb cX23_onVector 55 = some 28 ∧ gb cX23_onVector 56 = some 100 ∧ gb cX23_onVector 57 = some 54 ∧ gb cX23_onVector 58 = some 4 ∧ True := sg_of (l := [62, 42, 180, 1, 56, 28, 100, 54, 4]) (by decide +kernel)
  v_isn (L2 := [.ref l0, l1, .int l2, .int s0, l4, l5, l6, l7, l8, l9, l10]) o (dc_62 hs.1) rfl rfl (v_aln o (dc_42 hs.2.1) rfl rfl (v_gI (x := x3) o (dc_180 ⟨hs.2.2.1, hs.2.2.2.1, hs.2.2.2.2.1⟩) fd_2861 (lk_X23_312 _ rfl) t1 r2 (v_iln o (dc_28 hs.2.2.2.2.2.1) rfl (v_isub o (dc_100 hs.2.2.2.2.2.2.1) (v_isp (j := 3) (y := s0) (L2 := [.ref l0, l1, .int l2, .int s0, .int (x3 - l2), l5, l6, l7, l8, l9, l10]) o (dc_54 ⟨hs.2.2.2.2.2.2.2.1, hs.2.2.2.2.2.2.2.2.1⟩) rfl ⟨rfl, rfl⟩ rfl H)))))
theorem kov83 {X : Xt} (o : OK e_X23_onVector X) {K : Outcome → AH → Prop} {h : AH} {l4 l3 : Int32} {l0 l1 l2 l5 l6 l7 l8 l9 l10 : Value} (H : V X K 59 [l0, l1, l2, .int l3, .int (l4 + (nI 1)), l5, l6, l7, l8, l9, l10] [] h) : V X K 83 [l0, l1, l2, .int l3, .int l4, l5, l6, l7, l8, l9, l10] [] h :=
  have hs : gb cX23_onVector 83 = some 132 ∧ gb cX23_onVector 84 = some 4 ∧ gb cX23_onVector 85 = some 1 ∧ gb cX23_onVector 86 = some 167 ∧ gb cX23_onVector 87 = some 255 ∧ gb cX23_onVector 88 = some 229 ∧ True := sg_of (l := [132, 4, 1, 167, 255, 229]) (by decide +kernel)
  v_incp (j := 3) (y := l3) (L2 := [l0, l1, l2, .int l3, .int (l4 + (nI 1)), l5, l6, l7, l8, l9, l10]) o (dc_132 ⟨hs.1, hs.2.1, hs.2.2.1⟩) kn_1 rfl ⟨rfl, rfl⟩ rfl (v_go (t := 59) o (dc_167 ⟨hs.2.2.2.1, hs.2.2.2.2.1, hs.2.2.2.2.2.1⟩) rfl H)
section
variable {G : Gt} {d : Nat} {h h' : AH} {o o' : Lc} {tx UX at' : Nat → Nat} {A n n' lim : Nat} {snd : Int64} {s : Ms} {K : Outcome → AH → Prop}
theorem tv52_ok {b : Nat} (k : TK h A tx UX at' o n s) (t5 : T5 o) (cx : TCX h A snd lim) (h1 : 1 ≤ s.1) (hN : n + 1 ≤ gas s + 64 * (ens s).length + 8) (hg : gas s ≤ lim) (hb : b < 256) (hroom : ∀ k vs, tkV b (stk s) = some (vs, k) → k.length < 64) (h52 : (tkV b (stk s)).isSome = true) (hd : 10 ≤ d) (kk : RZT K h A tx UX at' (oVec lim 52 b s)) : MW G d e_X23_onVector [.ref A, .int (nI 52), .int (nI b)] h K := by
  refine st_X23_onVector fun X oo hG hD _ => ?_
  subst hG; subst hD
  have t0 := k.t0
  have l2 := cx.2.2
  have le24 := k.2.2.1.2.1
  unfold oVec at kk
  rw [if_pos rfl] at kk
  cases hv : tkV b (stk s) with
  | none => rw [hv] at h52; cases h52
  | some p =>
    obtain ⟨l, t⟩ := p
    have hr := hroom t l hv
    obtain ⟨es, el⟩ := tkV_e hv
    obtain ⟨e1, e2, e3, e4⟩ := k.hgt h1
    rw [es] at e1 e3 e4
    rw [List.length_append, List.length_map] at e1 e3
    obtain ⟨⟨k1, k2⟩, ⟨k3, k4, k5, k6, k7⟩, ⟨k8, k8', k8''⟩, k9, k10, k11, k12, k13⟩ := id k
    obtain ⟨r5, r6⟩ := k1.at 4 rfl
    obtain ⟨⟨b1, -⟩, -⟩ := k9 (s.1 - 1) (by omega)
    have is : nI s.1 - nI 1 = nI (s.1 - 1) := nI_sub (by omega)
    have ix1 : IX (nI s.1 - nI 1) 32 (s.1 - 1) := by rw [is]; exact IX.mk (by omega) (by omega)
    have ed : nI (bsf s.2.1 s.1) - nI (bsf s.2.1 (s.1 - 1)) = nI (l.length + t.length) := by
      rw [nI_sub (by omega)]; congr 1; omega
    refine k_X23_onVector_0 oo (fun q => absurd rfl q) (fun _ => ?_)
    refine k_X23_onVector_6 (r2 := k6) (r4 := r5) (r6 := k5) (b10 := ix1) (r12 := b1) oo (fun _ => ?_) (fun q => absurd (by rw [ed]; exact (nI_leI (by omega) (by omega)).mpr (by omega)) q)
    refine k_X23_onVector_30 oo ?_
    unfold mpay at kk
    refine spend_ok t0 k3 k4 cx.2.1 ⟨by omega, by omega⟩ (by omega) (fun hle h2 q2 g2 => ?_) (fun hlt h2 q2 x2 => ?_)
    rotate_left
    · rw [if_neg (by omega)] at kk
      refine k_X23_onVector_35 oo (fun q => absurd rfl q) (fun _ => ?_)
      refine k_X23_onVector_38 oo ?_
      exact kk h2 (twq q2 (by decide)) x2
    rw [if_pos hle] at kk
    have hv2 : tkV b (stk (sG s (gas s + b))) = some (l, t) := hv
    simp only [hv2] at kk
    have kg := k.gas q2 g2
    obtain ⟨-, -, -, f4⟩ := kg.hgt h1
    have f4 : TKS h2 o tx (bsf s.2.1 (s.1 - 1)) (stk s) := f4
    rw [es] at f4
    obtain ⟨ys, y1, y2⟩ := f4.gat
    have yl : ys.length = l.length := by
      have := congrArg List.length y1
      rw [List.length_map, List.length_reverse] at this; exact this
    have t02 := kg.t0
    have rT := kg.1.1.1.2
    have tT := kg.1.2.1.1.1.1
    obtain ⟨r1, r2⟩ := kg.1.1.at 0 rfl
    have k6' : h2.I 2861 A = nI (bsf s.2.1 s.1) := kg.2.1.2.2.2.1
    refine k_X23_onVector_35 oo (fun _ => ?_) (fun q => absurd q (by decide))
    refine k_X23_onVector_39 (r2 := rT) oo ?_
    have mk := thmake_ok (G := X.G) (d := X.d - 1) (K := kin (V X K 50) K [.ref A, .int (nI 52), .int (nI b), nov, nov, nov, nov, nov, nov, nov, nov] []) (p := (5, 0, 0, 0)) (kd := 7) (x := (0, 0)) kg.1.2 (t5 0 0 0) (by omega) (by omega) (fun h3 q3 th3 => ?_)
    · exact mk
    have p0 : bsf s.2.1 s.1 - b = bsf s.2.1 (s.1 - 1) + t.length := by omega
    have sub : nI (bsf s.2.1 s.1) - nI b = nI (bsf s.2.1 (s.1 - 1) + t.length) := by
      rw [nI_sub (by omega), p0]
    have h50 : h3.I 2861 A = nI (bsf s.2.1 s.1) := by rw [q3.1.I (FS.n rfl)]; exact k6'
    have t03 := q3.1.tag t02
    refine kov50 oo ?_ t03 h50
    rw [sub]
    have loop : ∀ c i h3 o3, i + c = ys.length → GTH h2 h3 o o3 tx n 7 (0, 0) (bsf s.2.1 (s.1 - 1) + t.length) ys i → V X K 59 [.ref A, .int (nI 52), .int (nI b), .int (nI n), .int (nI (bsf s.2.1 (s.1 - 1) + t.length + i)), nov, nov, nov, nov, nov, nov] [] h3 := by
      intro c
      induction c with
      | zero =>
        intro i h3 o3 hi g
        have t03 := g.1.1.tag t02
        have hh : h3.I 2861 A = nI (bsf s.2.1 s.1) := by rw [g.1.1.I (FS.n rfl)]; exact k6'
        refine k_X23_onVector_59 (r2 := hh) oo (fun _ => ?_) (fun q => absurd ((nI_leI (by omega) (by omega)).mpr (by omega)) q)
        refine k_X23_onVector_89 (r2 := hh) oo ?_
        rw [sub]
        have hi : i = ys.length := by omega
        subst hi
        obtain ⟨k4', g4, g5⟩ := gth_end (s := sG s (gas s + b)) kg h1 es y1 g (h2 := h3.sI 2861 A (nI (bsf s.2.1 (s.1 - 1) + t.length))) (Fq.sI (Fq.refl h3) (fsr rfl)) (by simp [n_sI, z_sI, tag_sI, I_sI, J_sI, R_sI, EI_sI, EJ_sI, ER_sI, n_sJ, z_sJ, tag_sJ, I_sJ, J_sJ, R_sJ, EI_sJ, EJ_sJ, ER_sJ, n_sR, z_sR, tag_sR, I_sR, J_sR, R_sR, EI_sR, EJ_sR, ER_sR, n_sEI, z_sEI, tag_sEI, I_sEI, J_sEI, R_sEI, EI_sEI, EJ_sEI, ER_sEI, n_sEJ, z_sEJ, tag_sEJ, I_sEJ, J_sEJ, R_sEJ, EI_sEJ, EJ_sEJ, ER_sEJ, n_sER, z_sER, tag_sER, I_sER, J_sER, R_sER, EI_sER, EJ_sER, ER_sER, n_nw, z_nw, tag_nw, I_nw, J_nw, R_nw, EI_nw, EJ_nw, ER_nw]; rfl)
        refine tkpv_ok (y := (n, 7, (0, 0), lof ys)) (sl := 0) k4' h1 (by rw [stk_K]; exact hr) g4 (by omega) (fun h5 q5 k5 => ?_)
        refine k_X23_onVector_105 oo ?_
        rw [g5, mpu_K] at k5
        refine kk h5 _ _ ((twq q2 (by decide)).trans ((twq g.1 (by decide)).trans ((Fq.sI (Fq.refl h3) (fsr (by decide))).trans (twq q5 (by decide))))) k5 (T5.gth g) (show n + 1 ≤ (gas s + b) + 64 * (ens s).length + 8 by omega)
      | succ c ih =>
        intro i h3 o3 hi g
        have t03 := g.1.1.tag t02
        have hh : h3.I 2861 A = nI (bsf s.2.1 s.1) := by rw [g.1.1.I (FS.n rfl)]; exact k6'
        have rT3 : h3.R 2831 A = some (tx 0) := by rw [g.1.1.R (FS.n rfl)]; exact rT
        have rS3 : h3.R 2859 A = some (tx 1) := by rw [g.1.1.R (FS.n rfl)]; exact r1
        have tS3 := g.1.1.tag r2
        have tT3 := g.1.1.tag tT
        obtain ⟨y, hy⟩ : ∃ y, ys[i]? = some y := ⟨_, List.getElem?_eq_getElem (by omega)⟩
        obtain ⟨o1, o2⟩ := y2 i y hy
        have ix : IX (nI (bsf s.2.1 (s.1 - 1) + t.length + i)) 2200 (bsf s.2.1 (s.1 - 1) + t.length + i) := IX.mk (by omega) (by omega)
        have rr : h3.EI 1216 (tx 1) (bsf s.2.1 (s.1 - 1) + t.length + i) = nI y.1 := by rw [g.1.1.EI (FS.n (by decide))]; exact o2
        refine k_X23_onVector_59 (r2 := hh) oo (fun q => absurd ((nI_leI (by omega) (by omega)).mp q) (by omega)) (fun _ => ?_)
        refine k_X23_onVector_68 (r2 := rT3) (r4 := rS3) (r10 := rr) oo ?_
        refine gth_ok g hy o1 (fun h4 o4 g4 => ?_)
        refine kov83 oo ?_
        rw [nI_add]
        exact ih (i + 1) h4 o4 (by omega) g4
    exact loop ys.length 0 h3 _ (by omega) (gth_0 t5 q3 th3)
/-- a vector that is referred to, behind what was taken -/
theorem tv218 {X : Xt} (oo : OK e_X23_onVector X) {y : LV} {l1 l2 l3 l4 l5 l6 l7 l9 l10 w : Value} {r : Rx} {z : LV} (k : TK h A tx UX at' o n s) (hz : o (rsl' 0 r.1) = some z) (hy : lva z r.2 = some y) (h7 : y.2.1 = 7) (hd : 1 ≤ X.d) (H : V X K 218 [.ref A, l1, l2, l3, l4, l5, l6, l7, .int (nI y.1), l9, l10] [] h) : V X K 182 [.ref A, l1, l2, l3, l4, l5, l6, l7, w, l9, l10] [.int (nI y.1)] h := by
  have t0 := k.t0
  have rT := k.1.1.1.2
  obtain ⟨⟨⟨⟨s1, s2, s3, s4, s5, s6⟩, s7, s8, s9, s10, s11⟩, sz, n24⟩, -, v5⟩ := id k.1.2
  obtain ⟨g1, g2, -⟩ := v5 _ z hz
  have tv := TVL.sub g1 hy
  have yl := g2 y.1 (adr_in hy _ (adr_1 y))
  have ix : IX (nI y.1) 24576 y.1 := IX.mk (by omega) (by omega)
  have ky : h.EI 1633 (tx 0 + 1) y.1 = nI 7 := by rw [← h7]; exact tv.2.1
  refine k_X23_onVector_182 oo ?_
  refine goes_ok t0 k.2.1.1 ?_
  refine k_X23_onVector_188 oo (fun q => absurd q (by decide)) (fun _ => ?_)
  refine k_X23_onVector_191 (r2 := rT) (r5 := s2) (r11 := ky) oo (fun _ => ?_) (fun q => absurd rfl q)
  refine k_X23_onVector_210 oo ?_
  refine goes_ok t0 k.2.1.1 ?_
  exact k_X23_onVector_214 oo (fun _ => H) (fun q => absurd q (by decide))
/-- a part by a number that came from outside -/
theorem fatI_e {c : LF} {i : Int64} (hc : fln c < 65536) : (un i < fln c → ∃ y, (llo c)[un i]? = some y ∧ fatI (tnF c) i = nI y.1) ∧ (fln c ≤ un i → fatI (tnF c) i = -1) := by
  refine ⟨fun hlt => ?_, fun hge => ?_⟩
  · obtain ⟨y, hy⟩ : ∃ y, (llo c)[un i]? = some y := ⟨_, List.getElem?_eq_getElem (by rw [llo_len]; exact hlt)⟩
    refine ⟨y, hy, ?_⟩
    unfold fatI
    by_cases c0 : i < 0
    · exfalso
      rw [un_neg] at c0
      omega
    · rw [if_neg c0, fat_tn, fat_llo hy]
  · unfold fatI
    by_cases c0 : i < 0
    · rw [if_pos c0]
    · rw [if_neg c0, fat_tn]
      cases hf : fat c (un i) with
      | none => rfl
      | some z => exact absurd (fat_lt hf) (by omega)
theorem tv53_ok {op b : Nat} (k : TK h A tx UX at' o n s) (t5 : T5 o) (cx : TCX h A snd lim) (h1 : 1 ≤ s.1) (hN : n + 1 ≤ gas s + 64 * (ens s).length + 8) (hg : gas s ≤ lim) (hop : 53 ≤ op ∧ op < 59) (vw : ∀ v, (Sum.inl v : It) ∈ stk s → VW v) (vr : ∀ r, (Sum.inr r : It) ∈ stk s → ∀ v, drf s r = some v → VW v) (hne : oVec lim op b s ≠ none) (hd : 10 ≤ d) (kk : RZT K h A tx UX at' (oVec lim op b s)) : MW G d e_X23_onVector [.ref A, .int (nI op), .int (nI b)] h K := by
  refine st_X23_onVector fun X oo hG hD _ => ?_
  subst hG; subst hD
  have t0 := k.t0
  have l2 := cx.2.2
  have le24 := k.2.2.1.2.1
  have ev : ∀ j, j < 100 → (nI op = nI j ↔ op = j) := fun j hj => nI_eq (by omega) (by omega)
  have no : ∀ j, j < 100 → op ≠ j → nI op = nI j → False := fun j hj h1 h2 => h1 ((ev j hj).mp h2)
  obtain ⟨-, -, e3, -⟩ := k.hgt h1
  unfold oVec at kk hne
  rw [if_neg (by omega), if_neg (by omega)] at kk hne
  refine k_X23_onVector_0 oo (fun _ => ?_) (fun q => (no 52 (by omega) (by omega) q).elim)
  refine k_X23_onVector_106 oo (fun _ => ?_) (fun q => (no 59 (by omega) (by omega) q).elim)
  have e423 : ∀ h' L, L.length = 11 → K (.returned none) h' → V X K 423 L [] h' := fun h' L hL hk => by
    match L, hL with
    | [v0, v1, v2, v3, v4, v5, v6, v7, v8, v9, v10], _ => exact k_X23_onVector_423 oo hk
  -- without numbers
  have to175 : op ≠ 58 → op ≠ 54 → op ≠ 55 → op ≠ 56 → V X K 175 [.ref A, .int (nI op), .int (nI b), .long 0, nov, .long 0, nov, nov, nov, nov, nov] [.int (nI 0)] h → V X K 117 [.ref A, .int (nI op), .int (nI b), nov, nov, nov, nov, nov, nov, nov, nov] [] h := fun a1 a2 a3 a4 H => by
    refine k_X23_onVector_117 oo (fun q => (no 58 (by omega) a1 q).elim) (fun _ => ?_)
    refine k_X23_onVector_123 oo (fun q => (no 54 (by omega) a2 q).elim) (fun _ => ?_)
    refine k_X23_onVector_129 oo (fun _ => ?_) (fun q => (no 55 (by omega) a3 q).elim)
    refine k_X23_onVector_142 oo ?_
    refine k_X23_onVector_143 oo (fun _ => ?_) (fun q => (no 58 (by omega) a1 q).elim)
    refine k_X23_onVector_157 oo ?_
    refine k_X23_onVector_158 oo (fun _ => ?_) (fun q => (no 56 (by omega) a4 q).elim)
    exact k_X23_onVector_174 oo H
  by_cases c53 : op = 53
  · rw [if_pos c53] at kk hne
    cases hs : stk s with
    | nil => rw [hs] at hne; exact absurd rfl hne
    | cons x t =>
      rw [hs] at kk hne e3
      have e3 : t.length + 1 ≤ 64 := e3
      cases x with
      | inl v => exact absurd rfl hne
      | inr r =>
        simp only at kk hne
        cases hv : drf s r with
        | none => rw [hv] at hne; exact absurd rfl hne
        | some v =>
          rw [hv] at kk hne
          simp only at kk hne
          obtain ⟨hm, he⟩ := mre_n hne
          rw [he] at kk
          have v7 : v.1 = 7 := by simpa using hm
          have vwv := vr r (by rw [hs]; simp) v hv
          have f256 := vwv.1.2.2.1
          refine to175 (by omega) (by omega) (by omega) (by omega) ?_
          refine k_X23_onVector_175 oo ?_
          refine tktr_ok k h1 hs (by omega) (fun h2 a q2 ha k2 tk => ?_)
          have hv2 : drf (sK s t) r = some v := by rw [← hv]; exact drf_K
          obtain ⟨z, y, hz, hy, ey, ya, rz⟩ := k2.ref ha hv2
          subst ya
          refine tv218 oo k2 hz hy (by rw [← v7, ← ey]; rfl) (by omega) ?_
          have t02 := k2.t0
          have rT := k2.1.1.1.2
          have sT := k2.1.2.1.1
          have tT := sT.1.1
          have tv := TVL.sub (k2.1.2.2.2 _ z hz).1 hy
          have efl : fln (tnF y.2.2.2) = fln v.2.2 := by
            have : fer y.2.2.2 = v.2.2 := by rw [← ey]; rfl
            rw [fln_tn, ← this, fer_ln]
          refine k_X23_onVector_218 oo (fun q => absurd ((ev 53 (by omega)).mpr c53) q) (fun _ => ?_)
          refine k_X23_onVector_224 (r2 := rT) oo ?_
          refine tcount_ok sT tv ?_
          refine k_X23_onVector_236 oo ?_
          rw [efl, nI_64 (by omega)]
          refine tkmk_ok k2 t5 h1 (by rw [stk_K]; omega) (by omega) (by omega) (by omega) (fun h3 o3 q3 k3 t3 => ?_)
          refine k_X23_onVector_240 oo ?_
          refine e423 _ _ rfl ?_
          rw [mpu_K] at k3
          exact kk h3 o3 _ ((twq q2 (by decide)).trans q3) k3 t3 hN
  rw [if_neg c53] at kk hne
  by_cases c54 : op = 54 ∨ op = 55
  · rw [if_pos c54] at kk hne
    cases hs : stk s with
    | nil => rw [hs] at hne; exact absurd rfl hne
    | cons x t =>
      rw [hs] at kk hne e3
      cases x with
      | inr r => exact absurd rfl hne
      | inl iv =>
        cases t with
        | nil => exact absurd rfl hne
        | cons x t =>
          have e3 : t.length + 1 + 1 ≤ 64 := e3
          cases x with
          | inl v => exact absurd rfl hne
          | inr r =>
            simp only at kk hne
            cases hv : drf s r with
            | none => rw [hv] at hne; exact absurd rfl hne
            | some v =>
              rw [hv] at kk hne
              simp only at kk hne
              obtain ⟨hm, he⟩ := mre_n hne
              rw [he] at kk
              simp only [Bool.and_eq_true, beq_iff_eq] at hm
              obtain ⟨i3, v7⟩ := hm
              have vwv := vr r (by rw [hs]; simp) v hv
              have f256 := vwv.1.2.2.1
              have go135 : V X K 135 [.ref A, .int (nI op), .int (nI b), nov, nov, nov, nov, nov, nov, nov, nov] [] h := by
                refine k_X23_onVector_135 oo ?_
                refine tktl_ok (sl := 0) k h1 hs (t5 0 0 0) i3 (by omega) (fun h2 yi q2 hyi k2 => ?_)
                have t02 := k2.t0
                refine k_X23_onVector_139 oo ?_
                refine k_X23_onVector_143 oo (fun _ => ?_) (fun q => (no 58 (by omega) (by omega) q).elim)
                refine k_X23_onVector_157 oo ?_
                refine k_X23_onVector_158 oo (fun _ => ?_) (fun q => (no 56 (by omega) (by omega) q).elim)
                refine k_X23_onVector_174 oo ?_
                have k2c := k2.cl
                refine k_X23_onVector_175 oo ?_
                refine tktr_ok k2c h1 stk_K (by omega) (fun h3 a q3 ha k3 tk => ?_)
                rw [sK_K] at k3
                have hv2 : drf (sK s t) r = some v := by rw [← hv]; exact drf_K
                obtain ⟨z, y, hz, hy, ey, ya, rz⟩ := k3.ref ha hv2
                subst ya
                refine tv218 oo k3 hz hy (by rw [← v7, ← ey]; rfl) (by omega) ?_
                have t03 := k3.t0
                have rT := k3.1.1.1.2
                have sT := k3.1.2.1.1
                have tT := sT.1.1
                have tv := TVL.sub (k3.1.2.2.2 _ z hz).1 hy
                have ef : fer y.2.2.2 = v.2.2 := by rw [← ey]; rfl
                have efl : fln y.2.2.2 = fln v.2.2 := by rw [← ef, fer_ln]
                refine k_X23_onVector_218 oo (fun _ => ?_) (fun q => (no 53 (by omega) c53 q).elim)
                refine k_X23_onVector_243 oo (fun _ => ?_) (fun q => (no 56 (by omega) (by omega) q).elim)
                refine k_X23_onVector_289 oo (fun _ => ?_) (fun q => (no 57 (by omega) (by omega) q).elim)
                refine k_X23_onVector_337 (r2 := rT) oo ?_
                refine tpart_ok sT tv ?_
                obtain ⟨fa, fb⟩ := fatI_e (c := y.2.2.2) (i := iv.2.1.2) (by omega)
                refine k_X23_onVector_347 oo (fun _ => ?_) (fun q => (no 58 (by omega) (by omega) q).elim)
                refine k_X23_onVector_369 oo ?_
                unfold mnd at kk
                by_cases c : un iv.2.1.2 < fln v.2.2
                · rw [if_pos (decide_eq_true c)] at kk
                  obtain ⟨y1, hl, ee⟩ := fa (by omega)
                  rw [ee]
                  have hra : rad (clr (uO (uO o (1, 0, 0, bsf s.2.1 (s.1 - 1) + (.inr r :: t : List It).length) none) (5, 0, 0, 0) (some yi))) 0 (r.1, r.2 ++ [un iv.2.1.2]) = some y1.1 := by
                    unfold rad
                    show (match clr (uO (uO o (1, 0, 0, bsf s.2.1 (s.1 - 1) + (.inr r :: t : List It).length) none) (5, 0, 0, 0) (some yi)) (rsl' 0 r.1) with | some z => (lva z (r.2 ++ [un iv.2.1.2])).map fun y => y.1 | none => none) = some y1.1
                    rw [hz]
                    show (lva z (r.2 ++ [un iv.2.1.2])).map (fun y => y.1) = some y1.1
                    rw [lva_ap (w := z) hy]
                    show ((match (llo y.2.2.2)[un iv.2.1.2]? with | some w => lva w [] | none => none) : Option LV).map (fun y => y.1) = some y1.1
                    rw [hl]; rfl
                  have y1l := (rad_lt k3.1.2 hra).1
                  have n24 := k3.1.2.1.2.2
                  refine k_X23_onVector_371 oo (fun q => absurd q (nI_m1 (by omega))) (fun _ => ?_)
                  refine k_X23_onVector_379 oo (fun _ => ?_) (fun q => absurd q (nI_m1 (by omega)))
                  refine k_X23_onVector_396 oo (fun _ => ?_) (fun q => (no 58 (by omega) (by omega) q).elim)
                  refine k_X23_onVector_416 oo ?_
                  refine tkpr_ok k3 h1 (by rw [stk_K]; omega) hra (by omega) (fun h4 q4 k4 => ?_)
                  refine e423 _ _ rfl ?_
                  rw [mpu_K] at k4
                  exact kk h4 _ n ((twq q2 (by decide)).trans ((twq q3 (by decide)).trans (twq q4 (by decide)))) k4 T5.clr (show n ≤ gas s + 64 * (ens s).length + 8 by omega)
                · rw [if_neg (by simpa using c)] at kk
                  rw [fb (by omega)]
                  refine k_X23_onVector_371 oo (fun _ => ?_) (fun q => absurd rfl q)
                  refine k_X23_onVector_385 oo ?_
                  refine tkend_ok k3 (fun h4 q4 x4 => ?_)
                  refine k_X23_onVector_393 oo ?_
                  refine e423 _ _ rfl ?_
                  exact kk h4 ((twq q2 (by decide)).trans ((twq q3 (by decide)).trans q4)) x4
              refine k_X23_onVector_117 oo (fun q => (no 58 (by omega) (by omega) q).elim) (fun _ => ?_)
              by_cases d4 : op = 54
              · refine k_X23_onVector_123 oo (fun _ => go135) (fun q => absurd ((ev 54 (by omega)).mpr d4) q)
              · refine k_X23_onVector_123 oo (fun q => (no 54 (by omega) d4 q).elim) (fun _ => ?_)
                exact k_X23_onVector_129 oo (fun q => absurd ((ev 55 (by omega)).mpr (by omega)) q) (fun _ => go135)
  rw [if_neg c54] at kk hne
  by_cases c56 : op = 56
  · rw [if_pos c56] at kk hne
    cases hs : stk s with
    | nil => rw [hs] at hne; exact absurd rfl hne
    | cons x t =>
      rw [hs] at kk hne e3
      cases x with
      | inr r => exact absurd rfl hne
      | inl w =>
        cases t with
        | nil => exact absurd rfl hne
        | cons x t =>
          have e3 : t.length + 1 + 1 ≤ 64 := e3
          cases x with
          | inl v => exact absurd rfl hne
          | inr r =>
            simp only at kk hne
            cases hv : drf s r with
            | none => rw [hv] at hne; exact absurd rfl hne
            | some v =>
              rw [hv] at kk hne
              simp only at kk hne
              obtain ⟨hm, he⟩ := mre_n hne
              rw [he] at kk
              have v7 : v.1 = 7 := by simpa using hm
              have vwv := vr r (by rw [hs]; simp) v hv
              have f256 := vwv.1.2.2.1
              refine k_X23_onVector_117 oo (fun q => (no 58 (by omega) (by omega) q).elim) (fun _ => ?_)
              refine k_X23_onVector_123 oo (fun q => (no 54 (by omega) (by omega) q).elim) (fun _ => ?_)
              refine k_X23_onVector_129 oo (fun _ => ?_) (fun q => (no 55 (by omega) (by omega) q).elim)
              refine k_X23_onVector_142 oo ?_
              refine k_X23_onVector_143 oo (fun _ => ?_) (fun q => (no 58 (by omega) (by omega) q).elim)
              refine k_X23_onVector_157 oo ?_
              refine k_X23_onVector_158 oo (fun q => absurd ((ev 56 (by omega)).mpr c56) q) (fun _ => ?_)
              refine k_X23_onVector_166 oo ?_
              refine tktv_ok (sl := 0) k h1 hs (t5 0 0 0) (by omega) (fun h2 yw q2 hyw k2 _ => ?_)
              have t02 := k2.t0
              refine k_X23_onVector_171 oo ?_
              refine k_X23_onVector_175 oo ?_
              refine tktr_ok k2 h1 stk_K (by omega) (fun h3 a q3 ha k3 tk => ?_)
              rw [sK_K] at k3
              have hv2 : drf (sK s t) r = some v := by rw [← hv]; exact drf_K
              obtain ⟨z, y, hz, hy, ey, ya, rz⟩ := k3.ref ha hv2
              subst ya
              refine tv218 oo k3 hz hy (by rw [← v7, ← ey]; rfl) (by omega) ?_
              have t03 := k3.t0
              have rT := k3.1.1.1.2
              have sT := k3.1.2.1.1
              have tT := sT.1.1
              have tv := TVL.sub (k3.1.2.2.2 _ z hz).1 hy
              have ef : fer y.2.2.2 = v.2.2 := by rw [← ey]; rfl
              have efl : fln (tnF y.2.2.2) = fln v.2.2 := by rw [fln_tn, ← ef, fer_ln]
              refine k_X23_onVector_218 oo (fun _ => ?_) (fun q => (no 53 (by omega) c53 q).elim)
              refine k_X23_onVector_243 oo (fun q => absurd ((ev 56 (by omega)).mpr c56) q) (fun _ => ?_)
              refine k_X23_onVector_249 (r2 := rT) oo ?_
              refine tcount_ok sT tv ?_
              rw [efl]
              unfold mnd at kk
              by_cases c : fln v.2.2 < 256
              · rw [if_pos (decide_eq_true c)] at kk
                refine k_X23_onVector_258 oo (fun _ => ?_) (fun q => absurd ((nI_eq (by omega) (by omega)).mp q) (by omega))
                refine k_X23_onVector_275 (r2 := rT) oo ?_
                refine thadd_ok (p := rsl' 0 r.1) (r := (5, 0, 0, 0)) (pa := r.2) (w := yw) k3.1.2 hz hy uO_s (fun e => rsl_5 (by rw [e])) (fun h4 q4 th4 => ?_)
                refine k_X23_onVector_286 oo ?_
                refine e423 _ _ rfl ?_
                have k4 := k3.wr0 (y' := (y.1, y.2.1, y.2.2.1, lof (llo y.2.2.2 ++ [yw]))) q4 th4 hz hy rfl rz uO_s (fun p p5 pr => by rw [uO_n pr, uO_n (fun e => p5 (by rw [e]))]) (fun qq hq a ha => by
                  have := rad_a (w := yw) hz hy ha
                  rw [← this]
                  refine rad_k (fun c i j hc => ?_) qq
                  by_cases c2 : ((c, 0, i, j) : Sl) = rsl' 0 r.1
                  · rw [c2, uO_s, uO_s]
                  · rw [uO_n c2, uO_n c2, uO_n (fun e => by have : c = 5 := congrArg (fun p : Sl => p.1) e; omega)])
                have ew : lvE ((y.1, y.2.1, y.2.2.1, lof (llo y.2.2.2 ++ [yw])) : LV) = (v.1, v.2.1, fof (flo v.2.2 ++ [w])) := by
                  rw [← ey, ← hyw]
                  show (y.2.1, y.2.2.1, fer (lof (llo y.2.2.2 ++ [yw]))) = (y.2.1, y.2.2.1, fof (flo (fer y.2.2.2) ++ [lvE yw]))
                  rw [fer_lof, List.map_append, flo_fer]; rfl
                rw [ew] at k4
                refine kk h4 _ n ((twq q2 (by decide)).trans ((twq q3 (by decide)).trans (twq q4 (by decide)))) k4 (fun a b c => ?_) ?_
                · rw [uO_n (fun e => rsl_5 (by rw [← e]))]
                  by_cases e : ((5, a, b, c) : Sl) = (5, 0, 0, 0)
                  · rw [e, uO_s]
                  · rw [uO_n e, uO_n e, uO_n (by intro e; cases e)]; exact t5 a b c
                · unfold NB
                  have := wrf_n (s := sK s t) (r := r) (w := (v.1, v.2.1, fof (flo v.2.2 ++ [w])))
                  rw [this.1, this.2.1]
                  show n ≤ gas s + 64 * (ens s).length + 8
                  omega
              · rw [if_neg (by simpa using c)] at kk
                refine k_X23_onVector_258 oo (fun q => absurd ((nI_eq (a := fln v.2.2) (b := 256) (by omega) (by omega)).mpr (by omega)) q) (fun _ => ?_)
                refine k_X23_onVector_264 oo ?_
                refine tkend_ok k3 (fun h4 q4 x4 => ?_)
                refine k_X23_onVector_272 oo ?_
                refine e423 _ _ rfl ?_
                exact kk h4 ((twq q2 (by decide)).trans ((twq q3 (by decide)).trans q4)) x4
  rw [if_neg c56] at kk hne
  by_cases c57 : op = 57
  · rw [if_pos c57] at kk hne
    cases hs : stk s with
    | nil => rw [hs] at hne; exact absurd rfl hne
    | cons x t =>
      rw [hs] at kk hne e3
      have e3 : t.length + 1 ≤ 64 := e3
      cases x with
      | inl v => exact absurd rfl hne
      | inr r =>
        simp only at kk hne
        cases hv : drf s r with
        | none => rw [hv] at hne; exact absurd rfl hne
        | some v =>
          rw [hv] at kk hne
          simp only at kk hne
          obtain ⟨hm, he⟩ := mre_n hne
          rw [he] at kk hne
          have v7 : v.1 = 7 := by simpa using hm
          refine to175 (by omega) (by omega) (by omega) (by omega) ?_
          refine k_X23_onVector_175 oo ?_
          refine tktr_ok k h1 hs (by omega) (fun h2 a q2 ha k2 tk => ?_)
          have hv2 : drf (sK s t) r = some v := by rw [← hv]; exact drf_K
          obtain ⟨z, y, hz, hy, ey, ya, rz⟩ := k2.ref ha hv2
          subst ya
          refine tv218 oo k2 hz hy (by rw [← v7, ← ey]; rfl) (by omega) ?_
          have t02 := k2.t0
          have rT := k2.1.1.1.2
          obtain ⟨⟨s1, s2, s3, s4, s5, s6⟩, s7, s8, s9, s10, s11⟩ := id k2.1.2.1.1
          obtain ⟨g1, g2, -⟩ := k2.1.2.2.2 _ z hz
          have tv := TVL.sub g1 hy
          have yl := g2 y.1 (adr_in hy _ (adr_1 y))
          have n24 := k2.1.2.1.2.2
          have ix : IX (nI y.1) 24576 y.1 := IX.mk (by omega) (by omega)
          have ef : flo v.2.2 = (llo y.2.2.2).map lvE := by rw [← flo_fer, ← ey]; rfl
          refine k_X23_onVector_218 oo (fun _ => ?_) (fun q => (no 53 (by omega) c53 q).elim)
          refine k_X23_onVector_243 oo (fun _ => ?_) (fun q => (no 56 (by omega) c56 q).elim)
          refine k_X23_onVector_289 oo (fun q => absurd ((ev 57 (by omega)).mpr c57) q) (fun _ => ?_)
          rw [ef] at kk hne
          cases hl : (llo y.2.2.2).getLast? with
          | none =>
            have e0 : llo y.2.2.2 = [] := List.getLast?_eq_none_iff.mp hl
            rw [e0] at kk
            have el : y.2.2.2 = .leaf := by rw [← lof_llo y.2.2.2, e0]; rfl
            have ff : h2.EI 1680 (tx 0 + 4) y.1 = -1 := by
              have := tv.2.2.2.2
              rw [el] at this; exact this
            refine k_X23_onVector_295 (r2 := rT) (r5 := s5) (r11 := ff) oo (fun q => absurd rfl q) (fun _ => ?_)
            refine k_X23_onVector_309 oo ?_
            refine tkend_ok k2 (fun h4 q4 x4 => ?_)
            refine k_X23_onVector_317 oo ?_
            refine e423 _ _ rfl ?_
            exact kk h4 ((twq q2 (by decide)).trans q4) x4
          | some yl' =>
            have el : llo y.2.2.2 = (llo y.2.2.2).dropLast ++ [yl'] := by
              obtain ⟨l0, e0⟩ := List.getLast?_eq_some_iff.mp hl
              rw [e0, List.dropLast_concat]
            rw [List.getLast?_map, hl] at kk hne
            simp only [Option.map_some] at kk hne
            obtain ⟨hnl, he2⟩ := mre_n hne
            rw [he2] at kk
            have ff : h2.EI 1680 (tx 0 + 4) y.1 ≠ -1 := by
              have := tv.2.2.2.2
              cases hc : y.2.2.2 with
              | leaf => rw [hc] at hl; cases hl
              | inner k0 x0 u0 c0 r0 =>
                rw [hc] at this
                obtain ⟨⟨p1, p2⟩, -⟩ := this
                rw [p1]; exact nI_m1 p2
            refine k_X23_onVector_295 (r2 := rT) (r5 := s5) (r11 := rfl) oo (fun _ => ?_) (fun q => absurd q ff)
            refine k_X23_onVector_320 (r2 := rT) oo ?_
            refine thlast_ok (p := rsl' 0 r.1) (r := (5, 0, 0, 0)) (pa := r.2) (c0 := (llo y.2.2.2).dropLast) (w := yl') k2.1.2 hz hy el (t5 0 0 0) (fun h4 q4 th4 => ?_)
            have k4 := k2.wr (y' := (y.1, y.2.1, y.2.2.1, lof (llo y.2.2.2).dropLast)) q4 th4 hz hy rfl rz (by rw [uO_n (fun e => rsl_5 (by rw [e])), uO_s]) (fun p p5 pr => by rw [uO_n (fun e => p5 (by rw [e])), uO_n pr]) hnl
            have ew : lvE ((y.1, y.2.1, y.2.2.1, lof (llo y.2.2.2).dropLast) : LV) = (v.1, v.2.1, fof ((llo y.2.2.2).map lvE).dropLast) := by
              rw [← ey]
              show (y.2.1, y.2.2.1, fer (lof (llo y.2.2.2).dropLast)) = (y.2.1, y.2.2.1, fof ((llo y.2.2.2).map lvE).dropLast)
              rw [fer_lof, List.map_dropLast]
            rw [ew] at k4
            have t04 := k4.t0
            refine k_X23_onVector_330 oo ?_
            have w1 := wrf_n (s := sK s t) (r := r) (w := (v.1, v.2.1, fof ((llo y.2.2.2).map lvE).dropLast))
            refine tkpv_ok (y := yl') (sl := 0) k4 (by rw [w1.2.2]; exact h1) (by rw [wrf_stk hv2, stk_K]; omega) uO_s (by omega) (fun h5 q5 k5 => ?_)
            refine k_X23_onVector_334 oo ?_
            refine e423 _ _ rfl ?_
            refine kk h5 _ n ((twq q2 (by decide)).trans ((twq q4 (by decide)).trans (twq q5 (by decide)))) k5 (fun a b c => ?_) ?_
            · rw [uO_n (by intro e; cases e)]
              by_cases e : ((5, a, b, c) : Sl) = (5, 0, 0, 0)
              · rw [e, uO_s]
              · rw [uO_n e, uO_n e, uO_n (fun e => rsl_5 (by rw [← e]))]; exact t5 a b c
            · show n ≤ gas (wrf (sK s t) r _) + 64 * (ens (wrf (sK s t) r _)).length + 8
              rw [w1.1, w1.2.1]
              show n ≤ gas s + 64 * (ens s).length + 8
              omega
  rw [if_neg c57] at kk hne
  have c58 : op = 58 := by omega
  cases hs : stk s with
  | nil => rw [hs] at hne; exact absurd rfl hne
  | cons x t =>
    rw [hs] at kk hne e3
    cases x with
    | inr r => exact absurd rfl hne
    | inl av =>
      cases t with
      | nil => exact absurd rfl hne
      | cons x t =>
        cases x with
        | inr r => exact absurd rfl hne
        | inl bv =>
          cases t with
          | nil => exact absurd rfl hne
          | cons x t =>
            have e3 : t.length + 1 + 1 + 1 ≤ 64 := e3
            cases x with
            | inl v => exact absurd rfl hne
            | inr r =>
              simp only at kk hne
              cases hv : drf s r with
              | none => rw [hv] at hne; exact absurd rfl hne
              | some v =>
                rw [hv] at kk hne
                simp only at kk hne
                obtain ⟨hm, he⟩ := mre_n hne
                rw [he] at kk hne
                simp only [Bool.and_eq_true, beq_iff_eq] at hm
                obtain ⟨a3, b3, v7⟩ := hm
                have vwv := vr r (by rw [hs]; simp) v hv
                have f256 := vwv.1.2.2.1
                refine k_X23_onVector_117 oo (fun _ => ?_) (fun q => absurd ((ev 58 (by omega)).mpr c58) q)
                refine k_X23_onVector_135 oo ?_
                refine tktl_ok (sl := 0) k h1 hs (t5 0 0 0) a3 (by omega) (fun h2 yi q2 hyi k2 => ?_)
                have t02 := k2.t0
                refine k_X23_onVector_139 oo ?_
                refine k_X23_onVector_143 oo (fun q => absurd ((ev 58 (by omega)).mpr c58) q) (fun _ => ?_)
                have k2c := k2.cl
                refine k_X23_onVector_150 oo ?_
                refine tktl_ok (sl := 0) k2c h1 stk_K (T5.clr 0 0 0) b3 (by omega) (fun h3 yj q3 hyj k3 => ?_)
                rw [sK_K] at k3
                have t03 := k3.t0
                refine k_X23_onVector_154 oo ?_
                refine k_X23_onVector_158 oo (fun _ => ?_) (fun q => (no 56 (by omega) c56 q).elim)
                refine k_X23_onVector_174 oo ?_
                have k3c := k3.cl
                refine k_X23_onVector_175 oo ?_
                refine tktr_ok k3c h1 stk_K (by omega) (fun h4 a q4 ha k4 tk => ?_)
                rw [sK_K] at k4
                have hv2 : drf (sK s t) r = some v := by rw [← hv]; exact drf_K
                obtain ⟨z, y, hz, hy, ey, ya, rz⟩ := k4.ref ha hv2
                subst ya
                refine tv218 oo k4 hz hy (by rw [← v7, ← ey]; rfl) (by omega) ?_
                have t04 := k4.t0
                have rT := k4.1.1.1.2
                have sT := k4.1.2.1.1
                have tT := sT.1.1
                have tv := TVL.sub (k4.1.2.2.2 _ z hz).1 hy
                have ef : fer y.2.2.2 = v.2.2 := by rw [← ey]; rfl
                have efl : fln y.2.2.2 = fln v.2.2 := by rw [← ef, fer_ln]
                have q04 : Fq (FS twF) h h4 := (twq q2 (by decide)).trans ((twq q3 (by decide)).trans (twq q4 (by decide)))
                refine k_X23_onVector_218 oo (fun _ => ?_) (fun q => (no 53 (by omega) c53 q).elim)
                refine k_X23_onVector_243 oo (fun _ => ?_) (fun q => (no 56 (by omega) c56 q).elim)
                refine k_X23_onVector_289 oo (fun _ => ?_) (fun q => (no 57 (by omega) c57 q).elim)
                refine k_X23_onVector_337 (r2 := rT) oo ?_
                refine tpart_ok sT tv ?_
                obtain ⟨fa, fb⟩ := fatI_e (c := y.2.2.2) (i := av.2.1.2) (by omega)
                obtain ⟨ga, gb'⟩ := fatI_e (c := y.2.2.2) (i := bv.2.1.2) (by omega)
                refine k_X23_onVector_347 oo (fun q => absurd ((ev 58 (by omega)).mpr c58) q) (fun _ => ?_)
                refine k_X23_onVector_355 (r2 := rT) oo ?_
                refine tpart_ok sT tv ?_
                refine k_X23_onVector_366 oo ?_
                have end385 : ∀ L, L.length = 11 → L[0]? = some (.ref A) → (¬ (un av.2.1.2 < fln v.2.2 ∧ un bv.2.1.2 < fln v.2.2)) → V X K 385 L [] h4 := fun L hL h0 hc => by
                  match L, hL with
                  | [v0, v1, v2, v3, v4, v5, v6, v7, v8, v9, v10], _ =>
                    have h0 : v0 = .ref A := Option.some.inj h0
                    subst h0
                    unfold mnd at kk
                    rw [if_neg (by simpa using hc)] at kk
                    refine k_X23_onVector_385 oo ?_
                    refine tkend_ok k4 (fun h5 q5 x5 => ?_)
                    refine k_X23_onVector_393 oo ?_
                    refine e423 _ _ rfl ?_
                    exact kk h5 (q04.trans q5) x5
                by_cases ca : un av.2.1.2 < fln v.2.2
                · obtain ⟨ya, hla, eea⟩ := fa (by omega)
                  have yal : ya.1 < 24576 := (TF.at tv.2.2.2.2 hla).1
                  rw [eea]
                  refine k_X23_onVector_371 oo (fun q => absurd q (nI_m1 yal)) (fun _ => ?_)
                  by_cases cb : un bv.2.1.2 < fln v.2.2
                  · obtain ⟨yb, hlb, eeb⟩ := ga (by omega)
                    have ybl : yb.1 < 24576 := (TF.at tv.2.2.2.2 hlb).1
                    rw [eeb]
                    unfold mnd at kk hne
                    rw [if_pos (decide_eq_true ⟨ca, cb⟩)] at kk hne
                    obtain ⟨hnl, he2⟩ := mre_n hne
                    rw [he2] at kk
                    have fa' : (flo v.2.2)[un av.2.1.2]? = some (lvE ya) := by rw [← ef, flo_fer, List.getElem?_map, hla]; rfl
                    have fb' : (flo v.2.2)[un bv.2.1.2]? = some (lvE yb) := by rw [← ef, flo_fer, List.getElem?_map, hlb]; rfl
                    refine k_X23_onVector_379 oo (fun _ => ?_) (fun q => absurd q (nI_m1 ybl))
                    refine k_X23_onVector_396 oo (fun q => absurd ((ev 58 (by omega)).mpr c58) q) (fun _ => ?_)
                    refine k_X23_onVector_402 (r2 := rT) oo ?_
                    have fin : ∀ h5 o5, Fq (FS tFl) h4 h5 → TK h5 A tx UX at' o5 n (wrf (sK s t) r (v.1, v.2.1, fof (lsw (flo v.2.2) (un av.2.1.2) (un bv.2.1.2)))) → T5 o5 → K (.returned none) h5 := fun h5 o5 q5 k5 t55 => by
                      refine kk h5 o5 n (q04.trans (twq q5 (by decide))) k5 t55 ?_
                      unfold NB
                      have := wrf_n (s := sK s t) (r := r) (w := (v.1, v.2.1, fof (lsw (flo v.2.2) (un av.2.1.2) (un bv.2.1.2))))
                      rw [this.1, this.2.1]
                      show n ≤ gas s + 64 * (ens s).length + 8
                      omega
                    by_cases ceq : un av.2.1.2 = un bv.2.1.2
                    · have eyy : yb = ya := by rw [← ceq, hla] at hlb; exact (Option.some.inj hlb).symm
                      subst eyy
                      have hpa : lva z (r.2 ++ [un av.2.1.2]) = some yb := by
                        rw [lva_ap (w := z) hy]
                        show ((match (llo y.2.2.2)[un av.2.1.2]? with | some w => lva w [] | none => none) : Option LV) = some yb
                        rw [hla]; rfl
                      refine thswp1_ok (p := rsl' 0 r.1) k4.1.2 hz hpa (by omega) (fun h5 q5 th5 => ?_)
                      refine k_X23_onVector_413 oo ?_
                      refine e423 _ _ rfl ?_
                      have el2 : lsw (flo v.2.2) (un av.2.1.2) (un bv.2.1.2) = flo v.2.2 := by
                        rw [← ceq]
                        unfold lsw
                        rw [fa']
                        show ((flo v.2.2).set _ (lvE yb)).set _ (lvE yb) = _
                        refine List.ext_getElem? fun j => ?_
                        by_cases e : j = un av.2.1.2
                        · subst e
                          rw [List.getElem?_set_self (by rw [List.length_set]; exact get_lt fa'), fa']
                        · rw [List.getElem?_set_ne (fun e' => e e'.symm), List.getElem?_set_ne (fun e' => e e'.symm)]
                      have k5 := k4.wr (y' := y) q5 th5 hz hy rfl rz (by rw [lvw_self hy]; exact hz) (fun _ _ _ => rfl) hnl
                      have evv : lvE y = (v.1, v.2.1, fof (lsw (flo v.2.2) (un av.2.1.2) (un bv.2.1.2))) := by
                        rw [el2, fof_flo]; exact ey
                      rw [evv] at k5
                      exact fin h5 _ q5 k5 T5.clr
                    · refine thswap_ok (p := rsl' 0 r.1) k4.1.2 hz hy hla hlb ceq (by omega) (fun h5 q5 th5 => ?_)
                      refine k_X23_onVector_413 oo ?_
                      refine e423 _ _ rfl ?_
                      have k5 := k4.wr (y' := (y.1, y.2.1, y.2.2.1, lof (((llo y.2.2.2).set (un av.2.1.2) (ya.1, yb.2)).set (un bv.2.1.2) (yb.1, ya.2)))) q5 th5 hz hy rfl rz uO_s (fun p _ pr => uO_n pr) hnl
                      have ew : lvE (y.1, y.2.1, y.2.2.1, lof (((llo y.2.2.2).set (un av.2.1.2) (ya.1, yb.2)).set (un bv.2.1.2) (yb.1, ya.2))) = (v.1, v.2.1, fof (lsw (flo v.2.2) (un av.2.1.2) (un bv.2.1.2))) := by
                        unfold lsw
                        rw [fa', fb', ← ey]
                        show ((y.2.1, y.2.2.1, fer (lof _)) : VL) = (y.2.1, y.2.2.1, fof (((flo (lvE y).2.2).set _ (lvE yb)).set _ (lvE ya)))
                        rw [fer_lof, List.map_set, List.map_set, show flo (lvE y).2.2 = (llo y.2.2.2).map lvE from flo_fer _]
                        rfl
                      rw [ew] at k5
                      refine fin h5 _ q5 k5 (fun a b c => ?_)
                      rw [uO_n (fun e => rsl_5 (by rw [← e]))]
                      exact T5.clr a b c
                  · rw [gb' (by omega)]
                    refine k_X23_onVector_379 oo (fun q => absurd rfl q) (fun _ => ?_)
                    exact end385 _ rfl rfl (fun hh => cb hh.2)
                · rw [fb (by omega)]
                  refine k_X23_onVector_371 oo (fun _ => ?_) (fun q => absurd rfl q)
                  exact end385 _ rfl rfl (fun hh => ca hh.1)
end
