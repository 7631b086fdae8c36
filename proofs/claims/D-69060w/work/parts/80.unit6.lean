/-! a module, gone over: from the beginning on -/
theorem op4 {X : Xt} (o : OK e_X29_overAll X) {K : Outcome → AH → Prop} {U n p : Nat} {B : Nat → Nat} {h hx : AH} {v1 v2 v3 : Value} (hs : SU h U n B) (hd : 6 ≤ X.d) (fx : Fq (UQ uAG U) h hx) (ax : hx.I 3586 U = nI p) (hp : p ≤ n) (gx : hx.I 3587 U = 0) (lx : hx.I 3594 U = nI 0) {num : Nat} {ss : List Sx} {fs : List Fx} {cs : List Cx} (x1 : US1 hx U n B ss) (x2 : US2 hx U n B ss fs) (x3 : US3 hx U n B cs) (kx : PQ (pr4 n B num ss fs cs p) (EK K U n B h) (UE K uAG U h (.returned none))) : V X K 385 [.ref U, v1, v2, v3] [] hx := by
  have sx := hs.uq fx rfl
  have hn := hs.2.2.1
  have s0 := hs.1.1
  have u' := sx.1.1
  have kx := PQ_bd.mp (PQ_bd.mp kx)
  refine k_X29_overAll_385 o ?_
  refine ugood_ok u' gx ?_
  refine k_X29_overAll_390 o (fun c => absurd c (by decide)) (fun _ => ?_)
  refine k_X29_overAll_393 o ?_
  refine ucount_ok sx ax hp gx (by omega) (by omega) (by omega) (kx.mono (fun kn p1 e k1 hp1 hkn h1 f1 a1 => ?_) (fun w q t h' f' e1 e2 e3 => ?_))
  rotate_left
  · have xe := UEx.mk t fx rfl f' e1 e2 e3
    have u1 := xe.1.1.tag s0
    refine k_X29_overAll_400 o ?_
    refine k_X29_overAll_404 o ?_
    exact ob385' o s0 hd (xe.st rfl (by decide) (by decide)) (I_same ..)
  obtain ⟨-, rfl, hpn, -⟩ := rdC_ok e
  refine k_X29_overAll_400 o ?_
  have F1 := fx.trans (f1.mono (UQ.mono (l' := uAG) rfl))
  have u1 := F1.1.tag s0
  refine k_X29_overAll_404 o ?_
  have f2 : Fq (UQ [3586, 3592] U) hx (h1.sI 3592 U (nI kn)) := (f1.mono (UQ.mono rfl)).sI ⟨rfl, by omega, by omega⟩
  have n2 : (h1.sI 3592 U (nI kn)).I 3592 U = nI kn := I_same ..
  have a2 : (h1.sI 3592 U (nI kn)).I 3586 U = nI (p + 1) := by simpa [n_sI, z_sI, tag_sI, I_sI, J_sI, R_sI, EI_sI, EJ_sI, ER_sI, n_sJ, z_sJ, tag_sJ, I_sJ, J_sJ, R_sJ, EI_sJ, EJ_sJ, ER_sJ, n_sR, z_sR, tag_sR, I_sR, J_sR, R_sR, EI_sR, EJ_sR, ER_sR, n_sEI, z_sEI, tag_sEI, I_sEI, J_sEI, R_sEI, EI_sEI, EJ_sEI, ER_sEI, n_sEJ, z_sEJ, tag_sEJ, I_sEJ, J_sEJ, R_sEJ, EI_sEJ, EJ_sEJ, ER_sEJ, n_sER, z_sER, tag_sER, I_sER, J_sER, R_sER, EI_sER, EJ_sER, ER_sER, n_nw, z_nw, tag_nw, I_nw, J_nw, R_nw, EI_nw, EJ_nw, ER_nw] using a1
  generalize h1.sI 3592 U (nI kn) = h2 at *
  have loop : ∀ k j q acc hy v2 v3, k + j = kn → acc.length = j → q ≤ n → Fq (UQ [3586, 3592, 10000 + 2176] U) hx hy → hy.I 3592 U = nI kn → hy.I 3586 U = nI q → PA hy 2176 (U + 4) 0 (rdT n B false) acc → PQ (rep (rdT n B false) k q) (fun l p' => PQ (pr5 n B num ss fs cs (acc ++ l) p') (EK K U n B h) (UE K uAG U h (.returned none))) (UE K uAG U h (.returned none)) → V X K 409 [.ref U, .int (nI j), v2, v3] [] hy := by
    intro k
    induction k with
    | zero =>
      intro j q acc hy v2 v3 hj hacc hq fy ny ay sy ky
      have Fy := fx.trans (fy.mono (UQ.mono (l' := uAG) rfl))
      have u3 := Fy.1.tag s0
      refine k_X29_overAll_409 o (fun _ => ?_) (fun c => ?_)
      rotate_left
      · exact absurd ((nI_leI (by omega) (by omega)).mpr (by omega)) c
      have gy : hy.I 3587 U = 0 := by rw [fy.1.I (UQ.n rfl)]; exact gx
      have ly : hy.I 3594 U = nI 0 := by rw [fy.1.I (UQ.n rfl)]; exact lx
      have ky : PQ (pr5 n B num ss fs cs (acc ++ []) q) (EK K U n B h) (UE K uAG U h (.returned none)) := ky
      rw [List.append_nil] at ky
      exact op5 o hs hd Fy ay hq gy ly (x1.uq fy rfl rfl) (x2.uq fy rfl rfl) (x3.uq fy rfl rfl) ⟨by rw [ny, hacc]; congr 1; omega, by omega, sy⟩ ky
    | succ k ih =>
      intro j q acc hy v2 v3 hj hacc hq fy ny ay sy ky
      have Fy := fx.trans (fy.mono (UQ.mono (l' := uAG) rfl))
      have s3 := hs.uq Fy rfl
      obtain ⟨⟨u3, ⟨z1, z2, z3, z4, z5, z6, z7, z8⟩, y1, y2, y3, y4, y5, y6, y7, y8⟩, -⟩ := id s3
      have gy : hy.I 3587 U = 0 := by rw [fy.1.I (UQ.n rfl)]; exact gx
      have ky := PQ_bd.mp ky
      have ixj : IX (nI j) 32 j := IX.mk (by omega) (by omega)
      refine k_X29_overAll_409 o (fun c => ?_) (fun _ => ?_)
      · exact absurd ((nI_leI (by omega) (by omega)).mp c) (by omega)
      refine k_X29_overAll_417 o ?_
      refine ugood_ok u3 gy ?_
      refine k_X29_overAll_421 o (fun c => absurd c (by decide)) (fun _ => ?_)
      refine k_X29_overAll_424 o ?_
      have fz : Fq (UQ [3586, 3592, 10000 + 2176] U) hx (hy.sEI 2176 (U + 4) j (nI q)) := fy.sEI ⟨rfl, by omega, by omega⟩
      have nz : (hy.sEI 2176 (U + 4) j (nI q)).I 3592 U = nI kn := by simpa [n_sI, z_sI, tag_sI, I_sI, J_sI, R_sI, EI_sI, EJ_sI, ER_sI, n_sJ, z_sJ, tag_sJ, I_sJ, J_sJ, R_sJ, EI_sJ, EJ_sJ, ER_sJ, n_sR, z_sR, tag_sR, I_sR, J_sR, R_sR, EI_sR, EJ_sR, ER_sR, n_sEI, z_sEI, tag_sEI, I_sEI, J_sEI, R_sEI, EI_sEI, EJ_sEI, ER_sEI, n_sEJ, z_sEJ, tag_sEJ, I_sEJ, J_sEJ, R_sEJ, EI_sEJ, EJ_sEJ, ER_sEJ, n_sER, z_sER, tag_sER, I_sER, J_sER, R_sER, EI_sER, EJ_sER, ER_sER, n_nw, z_nw, tag_nw, I_nw, J_nw, R_nw, EI_nw, EJ_nw, ER_nw] using ny
      have az : (hy.sEI 2176 (U + 4) j (nI q)).I 3586 U = nI q := by simpa [n_sI, z_sI, tag_sI, I_sI, J_sI, R_sI, EI_sI, EJ_sI, ER_sI, n_sJ, z_sJ, tag_sJ, I_sJ, J_sJ, R_sJ, EI_sJ, EJ_sJ, ER_sJ, n_sR, z_sR, tag_sR, I_sR, J_sR, R_sR, EI_sR, EJ_sR, ER_sR, n_sEI, z_sEI, tag_sEI, I_sEI, J_sEI, R_sEI, EI_sEI, EJ_sEI, ER_sEI, n_sEJ, z_sEJ, tag_sEJ, I_sEJ, J_sEJ, R_sEJ, EI_sEJ, EJ_sEJ, ER_sEJ, n_sER, z_sER, tag_sER, I_sER, J_sER, R_sER, EI_sER, EJ_sER, ER_sER, n_nw, z_nw, tag_nw, I_nw, J_nw, R_nw, EI_nw, EJ_nw, ER_nw] using ay
      have pz : (hy.sEI 2176 (U + 4) j (nI q)).EI 2176 (U + 4) j = nI q := by simp [n_sI, z_sI, tag_sI, I_sI, J_sI, R_sI, EI_sI, EJ_sI, ER_sI, n_sJ, z_sJ, tag_sJ, I_sJ, J_sJ, R_sJ, EI_sJ, EJ_sJ, ER_sJ, n_sR, z_sR, tag_sR, I_sR, J_sR, R_sR, EI_sR, EJ_sR, ER_sR, n_sEI, z_sEI, tag_sEI, I_sEI, J_sEI, R_sEI, EI_sEI, EJ_sEI, ER_sEI, n_sEJ, z_sEJ, tag_sEJ, I_sEJ, J_sEJ, R_sEJ, EI_sEJ, EJ_sEJ, ER_sEJ, n_sER, z_sER, tag_sER, I_sER, J_sER, R_sER, EI_sER, EJ_sER, ER_sER, n_nw, z_nw, tag_nw, I_nw, J_nw, R_nw, EI_nw, EJ_nw, ER_nw]
      have sz : PA (hy.sEI 2176 (U + 4) j (nI q)) 2176 (U + 4) 0 (rdT n B false) acc := sy.eq fun i hi => by
        have : i ≠ j := by omega
        simp [n_sI, z_sI, tag_sI, I_sI, J_sI, R_sI, EI_sI, EJ_sI, ER_sI, n_sJ, z_sJ, tag_sJ, I_sJ, J_sJ, R_sJ, EI_sJ, EJ_sJ, ER_sJ, n_sR, z_sR, tag_sR, I_sR, J_sR, R_sR, EI_sR, EJ_sR, ER_sR, n_sEI, z_sEI, tag_sEI, I_sEI, J_sEI, R_sEI, EI_sEI, EJ_sEI, ER_sEI, n_sEJ, z_sEJ, tag_sEJ, I_sEJ, J_sEJ, R_sEJ, EI_sEJ, EJ_sEJ, ER_sEJ, n_sER, z_sER, tag_sER, I_sER, J_sER, R_sER, EI_sER, EJ_sER, ER_sER, n_nw, z_nw, tag_nw, I_nw, J_nw, R_nw, EI_nw, EJ_nw, ER_nw, this]
      generalize hy.sEI 2176 (U + 4) j (nI q) = hz at *
      have Fz := fx.trans (fz.mono (UQ.mono (l' := uAG) rfl))
      have s4 := hs.uq Fz rfl
      have gz : hz.I 3587 U = 0 := by rw [fz.1.I (UQ.n rfl)]; exact gx
      have b439 : ∀ h' v2 v3, UEx K U h h' → V X K 439 [.ref U, .int (nI j), v2, v3] [] h' := fun h' v2 v3 xe => by
        have u4 := xe.1.1.tag s0
        refine k_X29_overAll_439 o ?_
        refine k_X29_overAll_409 o (fun _ => ?_) (fun _ => ?_)
        · exact ob445 o s0 hd xe
        · refine k_X29_overAll_417 o ?_
          refine ubad_ok u4 xe.g ?_
          refine k_X29_overAll_421 o (fun _ => ?_) (fun c => absurd rfl c)
          exact ob445 o s0 hd xe
      refine uovT_ok (r := false) s4 az hq gz (by omega) (ky.mono (fun x p2 eu k2 b1 b2 h4 f4 a4 => ?_) (fun w q t h' f' e1 e2 e3 => b439 h' _ _ (UEx.mk t Fz rfl f' e1 e2 e3)))
      show V X K 439 [.ref U, .int (nI j), v2, v3] [] h4
      refine k_X29_overAll_439 o ?_
      rw [nI_add]
      refine ih (j + 1) p2 (acc ++ [x]) h4 _ _ (by omega) (by simp; omega) b2 (fz.trans (f4.mono (UQ.mono rfl))) (by rw [f4.1.I (UQ.n rfl)]; exact nz) a4 ?_ ?_
      · refine PA.snoc (PA.eq sz fun i hi => f4.1.EI (UQ.n rfl) i) (p := q) ?_ (by omega) eu
        rw [Nat.zero_add, hacc, f4.1.EI (UQ.n rfl)]; exact pz
      · have k9 : PQ (bd (rep (rdT n B false) k p2) fun l p2 => .ok (x :: l, p2)) (fun l p' => PQ (pr5 n B num ss fs cs (acc ++ l) p') (EK K U n B h) (UE K uAG U h (.returned none))) (UE K uAG U h (.returned none)) := k2
        refine (PQ_bd.mp k9).mono (fun l p' _ z => ?_) (fun _ _ z => z)
        have z : PQ (pr5 n B num ss fs cs (acc ++ (x :: l)) p') (EK K U n B h) (UE K uAG U h (.returned none)) := z
        rw [List.append_assoc]; exact z
  exact loop kn 0 (p + 1) [] h2 _ _ (by omega) rfl hp1 (f2.mono (UQ.mono rfl)) n2 a2 PA.nil k1
theorem bd_k {α β : Type} {a : α} {p : Nat} {f : α → Nat → Pz β} : bd (.ok (a, p)) f = f a p := rfl
theorem n3_if {α : Type} {n : Nat} {B : Nat → Nat} {q : Nat} {f : Nat → Nat → Nat → Pz α} (hq : q ≤ n) : (q + 3 ≤ n → (bd (rdN n B 2 0 q) fun m p1 => bd (rdB n B p1) fun k p2 => f m k p2) = f (bn B 0 q 2) (B (q + 2)) (q + 3)) ∧ (n < q + 3 → (bd (rdN n B 2 0 q) fun m p1 => bd (rdB n B p1) fun k p2 => f m k p2) = .error (2, n)) := by
  have h2 := rdN_if (n := n) (B := B) 2 (v := 0) hq
  constructor
  · intro c
    obtain ⟨v, ev⟩ := h2.1 (by omega)
    have hv := (rdN_ok ev).1
    rw [ev, hv]
    show (bd (rdB n B (q + 2)) fun k p2 => f (bn B 0 q 2) k p2) = _
    unfold rdB
    rw [if_pos (by omega)]
    rfl
  · intro c
    by_cases c2 : q + 2 ≤ n
    · obtain ⟨v, ev⟩ := h2.1 c2
      rw [ev]
      show (bd (rdB n B (q + 2)) fun k p2 => f v k p2) = _
      unfold rdB
      rw [if_neg (by omega)]
      rfl
    · rw [h2.2 (by omega)]
      rfl
theorem op3 {X : Xt} (o : OK e_X29_overAll X) {K : Outcome → AH → Prop} {U n p : Nat} {B : Nat → Nat} {h hx : AH} {v1 v2 v3 : Value} (hs : SU h U n B) (hd : 6 ≤ X.d) (fx : Fq (UQ uAG U) h hx) (ax : hx.I 3586 U = nI p) (hp : p ≤ n) (gx : hx.I 3587 U = 0) (lx : hx.I 3594 U = nI 0) {num : Nat} {ss : List Sx} {fs : List Fx} (x1 : US1 hx U n B ss) (x2 : US2 hx U n B ss fs) (kx : PQ (pr3 n B num ss fs p) (EK K U n B h) (UE K uAG U h (.returned none))) : V X K 281 [.ref U, v1, v2, v3] [] hx := by
  have sx := hs.uq fx rfl
  have hn := hs.2.2.1
  have s0 := hs.1.1
  have u' := sx.1.1
  have kx := PQ_bd.mp (PQ_bd.mp kx)
  refine k_X29_overAll_281 o ?_
  refine ugood_ok u' gx ?_
  refine k_X29_overAll_286 o (fun c => absurd c (by decide)) (fun _ => ?_)
  refine k_X29_overAll_289 o ?_
  refine ucount_ok sx ax hp gx (by omega) (by omega) (by omega) (kx.mono (fun kn p1 e k1 hp1 hkn h1 f1 a1 => ?_) (fun w q t h' f' e1 e2 e3 => ?_))
  rotate_left
  · have xe := UEx.mk t fx rfl f' e1 e2 e3
    have u1 := xe.1.1.tag s0
    refine k_X29_overAll_296 o ?_
    refine k_X29_overAll_300 o ?_
    exact ob281' o s0 hd (xe.st rfl (by decide) (by decide)) (I_same ..)
  obtain ⟨-, rfl, hpn, -⟩ := rdC_ok e
  refine k_X29_overAll_296 o ?_
  have F1 := fx.trans (f1.mono (UQ.mono (l' := uAG) rfl))
  have u1 := F1.1.tag s0
  refine k_X29_overAll_300 o ?_
  have f2 : Fq (UQ [3586, 3591] U) hx (h1.sI 3591 U (nI kn)) := (f1.mono (UQ.mono rfl)).sI ⟨rfl, by omega, by omega⟩
  have n2 : (h1.sI 3591 U (nI kn)).I 3591 U = nI kn := I_same ..
  have a2 : (h1.sI 3591 U (nI kn)).I 3586 U = nI (p + 1) := by simpa [n_sI, z_sI, tag_sI, I_sI, J_sI, R_sI, EI_sI, EJ_sI, ER_sI, n_sJ, z_sJ, tag_sJ, I_sJ, J_sJ, R_sJ, EI_sJ, EJ_sJ, ER_sJ, n_sR, z_sR, tag_sR, I_sR, J_sR, R_sR, EI_sR, EJ_sR, ER_sR, n_sEI, z_sEI, tag_sEI, I_sEI, J_sEI, R_sEI, EI_sEI, EJ_sEI, ER_sEI, n_sEJ, z_sEJ, tag_sEJ, I_sEJ, J_sEJ, R_sEJ, EI_sEJ, EJ_sEJ, ER_sEJ, n_sER, z_sER, tag_sER, I_sER, J_sER, R_sER, EI_sER, EJ_sER, ER_sER, n_nw, z_nw, tag_nw, I_nw, J_nw, R_nw, EI_nw, EJ_nw, ER_nw] using a1
  generalize h1.sI 3591 U (nI kn) = h2 at *
  have loop : ∀ k j q acc hy v2 v3, k + j = kn → acc.length = j → q ≤ n → Fq (UQ [3586, 3591, 10000 + 2160] U) hx hy → hy.I 3591 U = nI kn → hy.I 3586 U = nI q → PA hy 2160 (U + 3) 0 (rdCa n B) acc → PQ (rep (rdCa n B) k q) (fun l p' => PQ (pr4 n B num ss fs (acc ++ l) p') (EK K U n B h) (UE K uAG U h (.returned none))) (UE K uAG U h (.returned none)) → V X K 305 [.ref U, .int (nI j), v2, v3] [] hy := by
    intro k
    induction k with
    | zero =>
      intro j q acc hy v2 v3 hj hacc hq fy ny ay sy ky
      have Fy := fx.trans (fy.mono (UQ.mono (l' := uAG) rfl))
      have u3 := Fy.1.tag s0
      refine k_X29_overAll_305 o (fun _ => ?_) (fun c => ?_)
      rotate_left
      · exact absurd ((nI_leI (by omega) (by omega)).mpr (by omega)) c
      have gy : hy.I 3587 U = 0 := by rw [fy.1.I (UQ.n rfl)]; exact gx
      have ly : hy.I 3594 U = nI 0 := by rw [fy.1.I (UQ.n rfl)]; exact lx
      have ky : PQ (pr4 n B num ss fs (acc ++ []) q) (EK K U n B h) (UE K uAG U h (.returned none)) := ky
      rw [List.append_nil] at ky
      exact op4 o hs hd Fy ay hq gy ly (x1.uq fy rfl rfl) (x2.uq fy rfl rfl) ⟨by rw [ny, hacc]; congr 1; omega, by omega, sy⟩ ky
    | succ k ih =>
      intro j q acc hy v2 v3 hj hacc hq fy ny ay sy ky
      have Fy := fx.trans (fy.mono (UQ.mono (l' := uAG) rfl))
      have s3 := hs.uq Fy rfl
      obtain ⟨⟨u3, ⟨z1, z2, z3, z4, z5, z6, z7, z8⟩, y1, y2, y3, y4, y5, y6, y7, y8⟩, -⟩ := id s3
      have gy : hy.I 3587 U = 0 := by rw [fy.1.I (UQ.n rfl)]; exact gx
      have ky := PQ_bd.mp ky
      have ixj : IX (nI j) 32 j := IX.mk (by omega) (by omega)
      refine k_X29_overAll_305 o (fun c => ?_) (fun _ => ?_)
      · exact absurd ((nI_leI (by omega) (by omega)).mp c) (by omega)
      refine k_X29_overAll_313 o ?_
      refine ugood_ok u3 gy ?_
      refine k_X29_overAll_317 o (fun c => absurd c (by decide)) (fun _ => ?_)
      refine k_X29_overAll_320 o ?_
      have fz : Fq (UQ [3586, 3591, 10000 + 2160] U) hx (hy.sEI 2160 (U + 3) j (nI q)) := fy.sEI ⟨rfl, by omega, by omega⟩
      have nz : (hy.sEI 2160 (U + 3) j (nI q)).I 3591 U = nI kn := by simpa [n_sI, z_sI, tag_sI, I_sI, J_sI, R_sI, EI_sI, EJ_sI, ER_sI, n_sJ, z_sJ, tag_sJ, I_sJ, J_sJ, R_sJ, EI_sJ, EJ_sJ, ER_sJ, n_sR, z_sR, tag_sR, I_sR, J_sR, R_sR, EI_sR, EJ_sR, ER_sR, n_sEI, z_sEI, tag_sEI, I_sEI, J_sEI, R_sEI, EI_sEI, EJ_sEI, ER_sEI, n_sEJ, z_sEJ, tag_sEJ, I_sEJ, J_sEJ, R_sEJ, EI_sEJ, EJ_sEJ, ER_sEJ, n_sER, z_sER, tag_sER, I_sER, J_sER, R_sER, EI_sER, EJ_sER, ER_sER, n_nw, z_nw, tag_nw, I_nw, J_nw, R_nw, EI_nw, EJ_nw, ER_nw] using ny
      have az : (hy.sEI 2160 (U + 3) j (nI q)).I 3586 U = nI q := by simpa [n_sI, z_sI, tag_sI, I_sI, J_sI, R_sI, EI_sI, EJ_sI, ER_sI, n_sJ, z_sJ, tag_sJ, I_sJ, J_sJ, R_sJ, EI_sJ, EJ_sJ, ER_sJ, n_sR, z_sR, tag_sR, I_sR, J_sR, R_sR, EI_sR, EJ_sR, ER_sR, n_sEI, z_sEI, tag_sEI, I_sEI, J_sEI, R_sEI, EI_sEI, EJ_sEI, ER_sEI, n_sEJ, z_sEJ, tag_sEJ, I_sEJ, J_sEJ, R_sEJ, EI_sEJ, EJ_sEJ, ER_sEJ, n_sER, z_sER, tag_sER, I_sER, J_sER, R_sER, EI_sER, EJ_sER, ER_sER, n_nw, z_nw, tag_nw, I_nw, J_nw, R_nw, EI_nw, EJ_nw, ER_nw] using ay
      have pz : (hy.sEI 2160 (U + 3) j (nI q)).EI 2160 (U + 3) j = nI q := by simp [n_sI, z_sI, tag_sI, I_sI, J_sI, R_sI, EI_sI, EJ_sI, ER_sI, n_sJ, z_sJ, tag_sJ, I_sJ, J_sJ, R_sJ, EI_sJ, EJ_sJ, ER_sJ, n_sR, z_sR, tag_sR, I_sR, J_sR, R_sR, EI_sR, EJ_sR, ER_sR, n_sEI, z_sEI, tag_sEI, I_sEI, J_sEI, R_sEI, EI_sEI, EJ_sEI, ER_sEI, n_sEJ, z_sEJ, tag_sEJ, I_sEJ, J_sEJ, R_sEJ, EI_sEJ, EJ_sEJ, ER_sEJ, n_sER, z_sER, tag_sER, I_sER, J_sER, R_sER, EI_sER, EJ_sER, ER_sER, n_nw, z_nw, tag_nw, I_nw, J_nw, R_nw, EI_nw, EJ_nw, ER_nw]
      have sz : PA (hy.sEI 2160 (U + 3) j (nI q)) 2160 (U + 3) 0 (rdCa n B) acc := sy.eq fun i hi => by
        have : i ≠ j := by omega
        simp [n_sI, z_sI, tag_sI, I_sI, J_sI, R_sI, EI_sI, EJ_sI, ER_sI, n_sJ, z_sJ, tag_sJ, I_sJ, J_sJ, R_sJ, EI_sJ, EJ_sJ, ER_sJ, n_sR, z_sR, tag_sR, I_sR, J_sR, R_sR, EI_sR, EJ_sR, ER_sR, n_sEI, z_sEI, tag_sEI, I_sEI, J_sEI, R_sEI, EI_sEI, EJ_sEI, ER_sEI, n_sEJ, z_sEJ, tag_sEJ, I_sEJ, J_sEJ, R_sEJ, EI_sEJ, EJ_sEJ, ER_sEJ, n_sER, z_sER, tag_sER, I_sER, J_sER, R_sER, EI_sER, EJ_sER, ER_sER, n_nw, z_nw, tag_nw, I_nw, J_nw, R_nw, EI_nw, EJ_nw, ER_nw, this]
      generalize hy.sEI 2160 (U + 3) j (nI q) = hz at *
      have Fz := fx.trans (fz.mono (UQ.mono (l' := uAG) rfl))
      have s4 := hs.uq Fz rfl
      have gz : hz.I 3587 U = 0 := by rw [fz.1.I (UQ.n rfl)]; exact gx
      have b379 : ∀ h' v2 v3, UEx K U h h' → V X K 379 [.ref U, .int (nI j), v2, v3] [] h' := fun h' v2 v3 xe => by
        have u4 := xe.1.1.tag s0
        refine k_X29_overAll_379 o ?_
        refine k_X29_overAll_305 o (fun _ => ?_) (fun _ => ?_)
        · exact ob385 o s0 hd xe
        · refine k_X29_overAll_313 o ?_
          refine ubad_ok u4 xe.g ?_
          refine k_X29_overAll_317 o (fun _ => ?_) (fun c => absurd rfl c)
          exact ob385 o s0 hd xe
      have b365 : ∀ h' v2 v3, UEx K U h h' → V X K 365 [.ref U, .int (nI j), v2, v3] [] h' := fun h' v2 v3 xe => by
        have u4 := xe.1.1.tag s0
        refine k_X29_overAll_365 o ?_
        refine ubad_ok u4 xe.g ?_
        refine k_X29_overAll_369 o (fun _ => ?_) (fun c => absurd rfl c)
        exact b379 h' _ _ xe
      have b351 : ∀ h' v2 v3, UEx K U h h' → V X K 351 [.ref U, .int (nI j), v2, v3] [] h' := fun h' v2 v3 xe => by
        have u4 := xe.1.1.tag s0
        refine k_X29_overAll_351 o ?_
        refine ubad_ok u4 xe.g ?_
        refine k_X29_overAll_355 o (fun _ => ?_) (fun c => absurd rfl c)
        exact b365 h' _ _ xe
      have un3 : ∀ (f : Nat → Nat → Nat → Pz Cx), rdCa n B q = bd (rdN n B 2 0 q) (fun m p1 => bd (rdB n B p1) fun k p2 => f m k p2) → (q + 3 ≤ n → rdCa n B q = f (bn B 0 q 2) (B (q + 2)) (q + 3)) ∧ (n < q + 3 → rdCa n B q = .error (2, n)) := fun f e => by
        have := n3_if (n := n) (B := B) (f := f) hq
        exact ⟨fun c => e.trans (this.1 c), fun c => e.trans (this.2 c)⟩
      have un3 := un3 _ rfl
      refine uover_ok s4 az hq gz (by omega) (by omega) (fun c h4 f4 a4 => ?_) (fun c h' f' e1 e2 e3 => ?_)
      rotate_left
      · rw [un3.2 c] at ky
        have xe := UEx.mk (PQ_e.mp ky) Fz rfl f' e1 e2 e3
        have u4 := xe.1.1.tag s0
        refine k_X29_overAll_335 o ?_
        refine ubad_ok u4 e2 ?_
        refine k_X29_overAll_340 o (fun _ => ?_) (fun c => absurd rfl c)
        exact b351 h' _ _ xe
      have ey := un3.1 c
      rw [ey] at ky
      have F4 := Fz.trans (f4.mono (UQ.mono (l' := uAG) rfl))
      have s5 := hs.uq F4 rfl
      have u5 := s5.1.1
      have g4 : h4.I 3587 U = 0 := by rw [f4.1.I (UQ.n rfl)]; exact gz
      refine k_X29_overAll_335 o ?_
      refine ugood_ok u5 g4 ?_
      refine k_X29_overAll_340 o (fun c => absurd c (by decide)) (fun _ => ?_)
      refine k_X29_overAll_343 o ?_
      refine ucount_ok s5 a4 c g4 (by omega) (by omega) (by omega) ((PQ_bd.mp ky).mono (fun fl p3 e5 k3 hp3 _ h5 f5 a5 => ?_) (fun w q t h' f' e1 e2 e3 => ?_))
      rotate_left
      · refine k_X29_overAll_350 o ?_
        exact b351 h' _ _ (UEx.mk t F4 rfl f' e1 e2 e3)
      refine k_X29_overAll_350 o ?_
      have F5 := F4.trans (f5.mono (UQ.mono (l' := uAG) rfl))
      have s6 := hs.uq F5 rfl
      have u6 := s6.1.1
      have g5 : h5.I 3587 U = 0 := by rw [f5.1.I (UQ.n rfl)]; exact g4
      refine k_X29_overAll_351 o ?_
      refine ugood_ok u6 g5 ?_
      refine k_X29_overAll_355 o (fun c => absurd c (by decide)) (fun _ => ?_)
      refine k_X29_overAll_358 o ?_
      refine uovL_ok s6 a5 hp3 g5 (by omega) (by omega) ((PQ_bd.mp k3).mono (fun tk p4 e6 k4 _ hp4 h6 f6 a6 => ?_) (fun w q t h' f' e1 e2 e3 => b365 h' _ _ (UEx.mk t F5 rfl f' e1 e2 e3)))
      have F6 := F5.trans (f6.mono (UQ.mono (l' := uAG) rfl))
      have s7 := hs.uq F6 rfl
      have u7 := s7.1.1
      have g6 : h6.I 3587 U = 0 := by rw [f6.1.I (UQ.n rfl)]; exact g5
      show V X K 365 [.ref U, .int (nI j), v2, v3] [] h6
      refine k_X29_overAll_365 o ?_
      refine ugood_ok u7 g6 ?_
      refine k_X29_overAll_369 o (fun c => absurd c (by decide)) (fun _ => ?_)
      refine k_X29_overAll_372 o ?_
      refine uovL_ok s7 a6 hp4 g6 (by omega) (by omega) ((PQ_bd.mp k4).mono (fun gv p5 e7 k5 _ hp5 h7 f7 a7 => ?_) (fun w q t h' f' e1 e2 e3 => b379 h' _ _ (UEx.mk t F6 rfl f' e1 e2 e3)))
      have f47 : Fq (UQ [3586] U) hz h7 := ((f4.trans f5).trans f6).trans f7
      have eu : rdCa n B q = .ok ((bn B 0 q 2, B (q + 2), fl, tk, gv), p5) := by
        rw [ey, e5, bd_k, e6, bd_k, e7]; rfl
      show V X K 379 [.ref U, .int (nI j), v2, v3] [] h7
      refine k_X29_overAll_379 o ?_
      rw [nI_add]
      refine ih (j + 1) p5 (acc ++ [(bn B 0 q 2, B (q + 2), fl, tk, gv)]) h7 _ _ (by omega) (by simp; omega) hp5 (fz.trans (f47.mono (UQ.mono rfl))) (by rw [f47.1.I (UQ.n rfl)]; exact nz) a7 ?_ ?_
      · refine PA.snoc (PA.eq sz fun i hi => f47.1.EI (UQ.n rfl) i) (p := q) ?_ (by omega) eu
        rw [Nat.zero_add, hacc, f47.1.EI (UQ.n rfl)]; exact pz
      · have k9 : PQ (bd (rep (rdCa n B) k p5) fun l p2 => .ok ((bn B 0 q 2, B (q + 2), fl, tk, gv) :: l, p2)) (fun l p' => PQ (pr4 n B num ss fs (acc ++ l) p') (EK K U n B h) (UE K uAG U h (.returned none))) (UE K uAG U h (.returned none)) := k5
        refine (PQ_bd.mp k9).mono (fun l p' _ z => ?_) (fun _ _ z => z)
        have z : PQ (pr4 n B num ss fs (acc ++ ((bn B 0 q 2, B (q + 2), fl, tk, gv) :: l)) p') (EK K U n B h) (UE K uAG U h (.returned none)) := z
        rw [List.append_assoc]; exact z
  exact loop kn 0 (p + 1) [] h2 _ _ (by omega) rfl hp1 (f2.mono (UQ.mono rfl)) n2 a2 PA.nil k1
theorem op2 {X : Xt} (o : OK e_X29_overAll X) {K : Outcome → AH → Prop} {U n p : Nat} {B : Nat → Nat} {h hx : AH} {v1 v2 v3 : Value} (hs : SU h U n B) (hd : 6 ≤ X.d) (fx : Fq (UQ uAG U) h hx) (ax : hx.I 3586 U = nI p) (hp : p ≤ n) (gx : hx.I 3587 U = 0) (lx : hx.I 3594 U = nI 0) {num : Nat} {ss : List Sx} (x1 : US1 hx U n B ss) (kx : PQ (pr2 n B num ss p) (EK K U n B h) (UE K uAG U h (.returned none))) : V X K 200 [.ref U, v1, v2, v3] [] hx := by
  have sx := hs.uq fx rfl
  have hn := hs.2.2.1
  have s0 := hs.1.1
  have u' := sx.1.1
  have kx := PQ_bd.mp (PQ_bd.mp kx)
  refine k_X29_overAll_200 o ?_
  refine ugood_ok u' gx ?_
  refine k_X29_overAll_205 o (fun c => absurd c (by decide)) (fun _ => ?_)
  refine k_X29_overAll_208 o ?_
  refine ucount_ok sx ax hp gx (by omega) (by omega) (by omega) (kx.mono (fun kn p1 e k1 hp1 hkn h1 f1 a1 => ?_) (fun w q t h' f' e1 e2 e3 => ?_))
  rotate_left
  · have xe := UEx.mk t fx rfl f' e1 e2 e3
    have u1 := xe.1.1.tag s0
    refine k_X29_overAll_215 o ?_
    refine k_X29_overAll_219 o ?_
    exact ob200' o s0 hd (xe.st rfl (by decide) (by decide)) (I_same ..)
  obtain ⟨-, rfl, hpn, -⟩ := rdC_ok e
  refine k_X29_overAll_215 o ?_
  have F1 := fx.trans (f1.mono (UQ.mono (l' := uAG) rfl))
  have u1 := F1.1.tag s0
  refine k_X29_overAll_219 o ?_
  have f2 : Fq (UQ [3586, 3590] U) hx (h1.sI 3590 U (nI kn)) := (f1.mono (UQ.mono rfl)).sI ⟨rfl, by omega, by omega⟩
  have n2 : (h1.sI 3590 U (nI kn)).I 3590 U = nI kn := I_same ..
  have a2 : (h1.sI 3590 U (nI kn)).I 3586 U = nI (p + 1) := by simpa [n_sI, z_sI, tag_sI, I_sI, J_sI, R_sI, EI_sI, EJ_sI, ER_sI, n_sJ, z_sJ, tag_sJ, I_sJ, J_sJ, R_sJ, EI_sJ, EJ_sJ, ER_sJ, n_sR, z_sR, tag_sR, I_sR, J_sR, R_sR, EI_sR, EJ_sR, ER_sR, n_sEI, z_sEI, tag_sEI, I_sEI, J_sEI, R_sEI, EI_sEI, EJ_sEI, ER_sEI, n_sEJ, z_sEJ, tag_sEJ, I_sEJ, J_sEJ, R_sEJ, EI_sEJ, EJ_sEJ, ER_sEJ, n_sER, z_sER, tag_sER, I_sER, J_sER, R_sER, EI_sER, EJ_sER, ER_sER, n_nw, z_nw, tag_nw, I_nw, J_nw, R_nw, EI_nw, EJ_nw, ER_nw] using a1
  generalize h1.sI 3590 U (nI kn) = h2 at *
  have hss := x1.2.1
  have loop : ∀ k j q acc hy v2 v3, k + j = kn → acc.length = j → q ≤ n → Fq (UQ [3586, 3590, 10000 + 2144] U) hx hy → hy.I 3590 U = nI kn → hy.I 3586 U = nI q → PA hy 2144 (U + 2) ss.length (rdFo n B) acc → (∀ i, i < ss.length → hy.EI 2144 (U + 2) i = hx.EI 2144 (U + 2) i) → PQ (rep (rdFo n B) k q) (fun l p' => PQ (pr3 n B num ss (acc ++ l) p') (EK K U n B h) (UE K uAG U h (.returned none))) (UE K uAG U h (.returned none)) → V X K 224 [.ref U, .int (nI j), v2, v3] [] hy := by
    intro k
    induction k with
    | zero =>
      intro j q acc hy v2 v3 hj hacc hq fy ny ay sy oy ky
      have Fy := fx.trans (fy.mono (UQ.mono (l' := uAG) rfl))
      have u3 := Fy.1.tag s0
      refine k_X29_overAll_224 o (fun _ => ?_) (fun c => ?_)
      rotate_left
      · exact absurd ((nI_leI (by omega) (by omega)).mpr (by omega)) c
      have gy : hy.I 3587 U = 0 := by rw [fy.1.I (UQ.n rfl)]; exact gx
      have ly : hy.I 3594 U = nI 0 := by rw [fy.1.I (UQ.n rfl)]; exact lx
      have ky : PQ (pr3 n B num ss (acc ++ []) q) (EK K U n B h) (UE K uAG U h (.returned none)) := ky
      rw [List.append_nil] at ky
      exact op3 o hs hd Fy ay hq gy ly ⟨by rw [fy.1.I (UQ.n rfl)]; exact x1.1, x1.2.1, x1.2.2.eq fun i hi => oy i (by omega)⟩ ⟨by rw [ny, hacc]; congr 1; omega, by omega, sy⟩ ky
    | succ k ih =>
      intro j q acc hy v2 v3 hj hacc hq fy ny ay sy oy ky
      have Fy := fx.trans (fy.mono (UQ.mono (l' := uAG) rfl))
      have s3 := hs.uq Fy rfl
      obtain ⟨⟨u3, ⟨z1, z2, z3, z4, z5, z6, z7, z8⟩, y1, y2, y3, y4, y5, y6, y7, y8⟩, -⟩ := id s3
      have gy : hy.I 3587 U = 0 := by rw [fy.1.I (UQ.n rfl)]; exact gx
      have hst : hy.I 3589 U = nI ss.length := by rw [fy.1.I (UQ.n rfl)]; exact x1.1
      have ky := PQ_bd.mp ky
      have ixj : IX (nI ss.length + nI j) 64 (ss.length + j) := by rw [nI_add]; exact IX.mk (by omega) (by omega)
      refine k_X29_overAll_224 o (fun c => ?_) (fun _ => ?_)
      · exact absurd ((nI_leI (by omega) (by omega)).mp c) (by omega)
      refine k_X29_overAll_232 o ?_
      refine ugood_ok u3 gy ?_
      refine k_X29_overAll_236 o (fun c => absurd c (by decide)) (fun _ => ?_)
      refine k_X29_overAll_239 o ?_
      have fz : Fq (UQ [3586, 3590, 10000 + 2144] U) hx (hy.sEI 2144 (U + 2) (ss.length + j) (nI q)) := fy.sEI ⟨rfl, by omega, by omega⟩
      have nz : (hy.sEI 2144 (U + 2) (ss.length + j) (nI q)).I 3590 U = nI kn := by simpa [n_sI, z_sI, tag_sI, I_sI, J_sI, R_sI, EI_sI, EJ_sI, ER_sI, n_sJ, z_sJ, tag_sJ, I_sJ, J_sJ, R_sJ, EI_sJ, EJ_sJ, ER_sJ, n_sR, z_sR, tag_sR, I_sR, J_sR, R_sR, EI_sR, EJ_sR, ER_sR, n_sEI, z_sEI, tag_sEI, I_sEI, J_sEI, R_sEI, EI_sEI, EJ_sEI, ER_sEI, n_sEJ, z_sEJ, tag_sEJ, I_sEJ, J_sEJ, R_sEJ, EI_sEJ, EJ_sEJ, ER_sEJ, n_sER, z_sER, tag_sER, I_sER, J_sER, R_sER, EI_sER, EJ_sER, ER_sER, n_nw, z_nw, tag_nw, I_nw, J_nw, R_nw, EI_nw, EJ_nw, ER_nw] using ny
      have az : (hy.sEI 2144 (U + 2) (ss.length + j) (nI q)).I 3586 U = nI q := by simpa [n_sI, z_sI, tag_sI, I_sI, J_sI, R_sI, EI_sI, EJ_sI, ER_sI, n_sJ, z_sJ, tag_sJ, I_sJ, J_sJ, R_sJ, EI_sJ, EJ_sJ, ER_sJ, n_sR, z_sR, tag_sR, I_sR, J_sR, R_sR, EI_sR, EJ_sR, ER_sR, n_sEI, z_sEI, tag_sEI, I_sEI, J_sEI, R_sEI, EI_sEI, EJ_sEI, ER_sEI, n_sEJ, z_sEJ, tag_sEJ, I_sEJ, J_sEJ, R_sEJ, EI_sEJ, EJ_sEJ, ER_sEJ, n_sER, z_sER, tag_sER, I_sER, J_sER, R_sER, EI_sER, EJ_sER, ER_sER, n_nw, z_nw, tag_nw, I_nw, J_nw, R_nw, EI_nw, EJ_nw, ER_nw] using ay
      have pz : (hy.sEI 2144 (U + 2) (ss.length + j) (nI q)).EI 2144 (U + 2) (ss.length + j) = nI q := by simp [n_sI, z_sI, tag_sI, I_sI, J_sI, R_sI, EI_sI, EJ_sI, ER_sI, n_sJ, z_sJ, tag_sJ, I_sJ, J_sJ, R_sJ, EI_sJ, EJ_sJ, ER_sJ, n_sR, z_sR, tag_sR, I_sR, J_sR, R_sR, EI_sR, EJ_sR, ER_sR, n_sEI, z_sEI, tag_sEI, I_sEI, J_sEI, R_sEI, EI_sEI, EJ_sEI, ER_sEI, n_sEJ, z_sEJ, tag_sEJ, I_sEJ, J_sEJ, R_sEJ, EI_sEJ, EJ_sEJ, ER_sEJ, n_sER, z_sER, tag_sER, I_sER, J_sER, R_sER, EI_sER, EJ_sER, ER_sER, n_nw, z_nw, tag_nw, I_nw, J_nw, R_nw, EI_nw, EJ_nw, ER_nw]
      have sz : PA (hy.sEI 2144 (U + 2) (ss.length + j) (nI q)) 2144 (U + 2) ss.length (rdFo n B) acc := sy.eq fun i hi => by
        have : i ≠ ss.length + j := by omega
        simp [n_sI, z_sI, tag_sI, I_sI, J_sI, R_sI, EI_sI, EJ_sI, ER_sI, n_sJ, z_sJ, tag_sJ, I_sJ, J_sJ, R_sJ, EI_sJ, EJ_sJ, ER_sJ, n_sR, z_sR, tag_sR, I_sR, J_sR, R_sR, EI_sR, EJ_sR, ER_sR, n_sEI, z_sEI, tag_sEI, I_sEI, J_sEI, R_sEI, EI_sEI, EJ_sEI, ER_sEI, n_sEJ, z_sEJ, tag_sEJ, I_sEJ, J_sEJ, R_sEJ, EI_sEJ, EJ_sEJ, ER_sEJ, n_sER, z_sER, tag_sER, I_sER, J_sER, R_sER, EI_sER, EJ_sER, ER_sER, n_nw, z_nw, tag_nw, I_nw, J_nw, R_nw, EI_nw, EJ_nw, ER_nw, this]
      have oz : ∀ i, i < ss.length → (hy.sEI 2144 (U + 2) (ss.length + j) (nI q)).EI 2144 (U + 2) i = hx.EI 2144 (U + 2) i := fun i hi => by
        have ne : i ≠ ss.length + j := by omega
        have := oy i hi
        simpa [n_sI, z_sI, tag_sI, I_sI, J_sI, R_sI, EI_sI, EJ_sI, ER_sI, n_sJ, z_sJ, tag_sJ, I_sJ, J_sJ, R_sJ, EI_sJ, EJ_sJ, ER_sJ, n_sR, z_sR, tag_sR, I_sR, J_sR, R_sR, EI_sR, EJ_sR, ER_sR, n_sEI, z_sEI, tag_sEI, I_sEI, J_sEI, R_sEI, EI_sEI, EJ_sEI, ER_sEI, n_sEJ, z_sEJ, tag_sEJ, I_sEJ, J_sEJ, R_sEJ, EI_sEJ, EJ_sEJ, ER_sEJ, n_sER, z_sER, tag_sER, I_sER, J_sER, R_sER, EI_sER, EJ_sER, ER_sER, n_nw, z_nw, tag_nw, I_nw, J_nw, R_nw, EI_nw, EJ_nw, ER_nw, ne] using this
      generalize hy.sEI 2144 (U + 2) (ss.length + j) (nI q) = hz at *
      have Fz := fx.trans (fz.mono (UQ.mono (l' := uAG) rfl))
      have s4 := hs.uq Fz rfl
      have gz : hz.I 3587 U = 0 := by rw [fz.1.I (UQ.n rfl)]; exact gx
      have b275 : ∀ h' v2 v3, UEx K U h h' → V X K 275 [.ref U, .int (nI j), v2, v3] [] h' := fun h' v2 v3 xe => by
        have u4 := xe.1.1.tag s0
        refine k_X29_overAll_275 o ?_
        refine k_X29_overAll_224 o (fun _ => ?_) (fun _ => ?_)
        · exact ob281 o s0 hd xe
        · refine k_X29_overAll_232 o ?_
          refine ubad_ok u4 xe.g ?_
          refine k_X29_overAll_236 o (fun _ => ?_) (fun c => absurd rfl c)
          exact ob281 o s0 hd xe
      have un3 : ∀ (f : Nat → Nat → Nat → Pz Fx), rdFo n B q = bd (rdN n B 2 0 q) (fun m p1 => bd (rdB n B p1) fun k p2 => f m k p2) → (q + 3 ≤ n → rdFo n B q = f (bn B 0 q 2) (B (q + 2)) (q + 3)) ∧ (n < q + 3 → rdFo n B q = .error (2, n)) := fun f e => by
        have := n3_if (n := n) (B := B) (f := f) hq
        exact ⟨fun c => e.trans (this.1 c), fun c => e.trans (this.2 c)⟩
      have un3 := un3 _ rfl
      refine uover_ok s4 az hq gz (by omega) (by omega) (fun c h4 f4 a4 => ?_) (fun c h' f' e1 e2 e3 => ?_)
      rotate_left
      · rw [un3.2 c] at ky
        have xe := UEx.mk (PQ_e.mp ky) Fz rfl f' e1 e2 e3
        have u4 := xe.1.1.tag s0
        refine k_X29_overAll_259 o ?_
        refine ubad_ok u4 e2 ?_
        refine k_X29_overAll_264 o (fun _ => ?_) (fun c => absurd rfl c)
        exact b275 h' _ _ xe
      have ey := un3.1 c
      rw [ey] at ky
      have F4 := Fz.trans (f4.mono (UQ.mono (l' := uAG) rfl))
      have s5 := hs.uq F4 rfl
      have u5 := s5.1.1
      have g4 : h4.I 3587 U = 0 := by rw [f4.1.I (UQ.n rfl)]; exact gz
      refine k_X29_overAll_259 o ?_
      refine ugood_ok u5 g4 ?_
      refine k_X29_overAll_264 o (fun c => absurd c (by decide)) (fun _ => ?_)
      refine k_X29_overAll_267 o ?_
      refine ucount_ok s5 a4 c g4 (by omega) (by omega) (by omega) ((PQ_bd.mp ky).mono (fun fl p3 e5 k3 hp3 _ h5 f5 a5 => ?_) (fun w q t h' f' e1 e2 e3 => ?_))
      rotate_left
      · refine k_X29_overAll_274 o ?_
        exact b275 h' _ _ (UEx.mk t F4 rfl f' e1 e2 e3)
      refine k_X29_overAll_274 o ?_
      have f45 : Fq (UQ [3586] U) hz h5 := f4.trans f5
      have eu : rdFo n B q = .ok ((bn B 0 q 2, B (q + 2), fl), p3) := by rw [ey, e5]; rfl
      refine k_X29_overAll_275 o ?_
      rw [nI_add]
      refine ih (j + 1) p3 (acc ++ [(bn B 0 q 2, B (q + 2), fl)]) h5 _ _ (by omega) (by simp; omega) hp3 (fz.trans (f45.mono (UQ.mono rfl))) (by rw [f45.1.I (UQ.n rfl)]; exact nz) a5 ?_ (fun i hi => by rw [f45.1.EI (UQ.n rfl)]; exact oz i hi) ?_
      · refine PA.snoc (PA.eq sz fun i hi => f45.1.EI (UQ.n rfl) i) (p := q) ?_ (by omega) eu
        rw [hacc, f45.1.EI (UQ.n rfl)]; exact pz
      · have k9 : PQ (bd (rep (rdFo n B) k p3) fun l p2 => .ok ((bn B 0 q 2, B (q + 2), fl) :: l, p2)) (fun l p' => PQ (pr3 n B num ss (acc ++ l) p') (EK K U n B h) (UE K uAG U h (.returned none))) (UE K uAG U h (.returned none)) := k3
        refine (PQ_bd.mp k9).mono (fun l p' _ z => ?_) (fun _ _ z => z)
        have z : PQ (pr3 n B num ss (acc ++ ((bn B 0 q 2, B (q + 2), fl) :: l)) p') (EK K U n B h) (UE K uAG U h (.returned none)) := z
        rw [List.append_assoc]; exact z
  exact loop kn 0 (p + 1) [] h2 _ _ (by omega) rfl hp1 (f2.mono (UQ.mono rfl)) n2 a2 PA.nil (fun i hi => f2.1.EI (UQ.n rfl) i) k1
theorem op1 {X : Xt} (o : OK e_X29_overAll X) {K : Outcome → AH → Prop} {U n p : Nat} {B : Nat → Nat} {h hx : AH} {v1 v2 v3 : Value} (hs : SU h U n B) (hd : 6 ≤ X.d) (fx : Fq (UQ uAG U) h hx) (ax : hx.I 3586 U = nI p) (hp : p ≤ n) (gx : hx.I 3587 U = 0) (lx : hx.I 3594 U = nI 0) {num : Nat} (kx : PQ (pr1 n B num p) (EK K U n B h) (UE K uAG U h (.returned none))) : V X K 93 [.ref U, v1, v2, v3] [] hx := by
  have sx := hs.uq fx rfl
  have hn := hs.2.2.1
  have s0 := hs.1.1
  have u' := sx.1.1
  have kx := PQ_bd.mp (PQ_bd.mp kx)
  refine k_X29_overAll_93 o ?_
  refine ugood_ok u' gx ?_
  refine k_X29_overAll_98 o (fun c => absurd c (by decide)) (fun _ => ?_)
  refine k_X29_overAll_101 o ?_
  refine ucount_ok sx ax hp gx (by omega) (by omega) (by omega) (kx.mono (fun kn p1 e k1 hp1 hkn h1 f1 a1 => ?_) (fun w q t h' f' e1 e2 e3 => ?_))
  rotate_left
  · have xe := UEx.mk t fx rfl f' e1 e2 e3
    have u1 := xe.1.1.tag s0
    refine k_X29_overAll_108 o ?_
    refine k_X29_overAll_112 o ?_
    exact ob93' o s0 hd (xe.st rfl (by decide) (by decide)) (I_same ..)
  obtain ⟨-, rfl, hpn, -⟩ := rdC_ok e
  refine k_X29_overAll_108 o ?_
  have F1 := fx.trans (f1.mono (UQ.mono (l' := uAG) rfl))
  have u1 := F1.1.tag s0
  refine k_X29_overAll_112 o ?_
  have f2 : Fq (UQ [3586, 3589] U) hx (h1.sI 3589 U (nI kn)) := (f1.mono (UQ.mono rfl)).sI ⟨rfl, by omega, by omega⟩
  have n2 : (h1.sI 3589 U (nI kn)).I 3589 U = nI kn := I_same ..
  have a2 : (h1.sI 3589 U (nI kn)).I 3586 U = nI (p + 1) := by simpa [n_sI, z_sI, tag_sI, I_sI, J_sI, R_sI, EI_sI, EJ_sI, ER_sI, n_sJ, z_sJ, tag_sJ, I_sJ, J_sJ, R_sJ, EI_sJ, EJ_sJ, ER_sJ, n_sR, z_sR, tag_sR, I_sR, J_sR, R_sR, EI_sR, EJ_sR, ER_sR, n_sEI, z_sEI, tag_sEI, I_sEI, J_sEI, R_sEI, EI_sEI, EJ_sEI, ER_sEI, n_sEJ, z_sEJ, tag_sEJ, I_sEJ, J_sEJ, R_sEJ, EI_sEJ, EJ_sEJ, ER_sEJ, n_sER, z_sER, tag_sER, I_sER, J_sER, R_sER, EI_sER, EJ_sER, ER_sER, n_nw, z_nw, tag_nw, I_nw, J_nw, R_nw, EI_nw, EJ_nw, ER_nw] using a1
  generalize h1.sI 3589 U (nI kn) = h2 at *
  have loop : ∀ k j q acc hy v2 v3, k + j = kn → acc.length = j → q ≤ n → Fq (UQ [3586, 3589, 10000 + 2144] U) hx hy → hy.I 3589 U = nI kn → hy.I 3586 U = nI q → PA hy 2144 (U + 2) 0 (rdSt n B) acc → PQ (rep (rdSt n B) k q) (fun l p' => PQ (pr2 n B num (acc ++ l) p') (EK K U n B h) (UE K uAG U h (.returned none))) (UE K uAG U h (.returned none)) → V X K 117 [.ref U, .int (nI j), v2, v3] [] hy := by
    intro k
    induction k with
    | zero =>
      intro j q acc hy v2 v3 hj hacc hq fy ny ay sy ky
      have Fy := fx.trans (fy.mono (UQ.mono (l' := uAG) rfl))
      have u3 := Fy.1.tag s0
      refine k_X29_overAll_117 o (fun _ => ?_) (fun c => ?_)
      rotate_left
      · exact absurd ((nI_leI (by omega) (by omega)).mpr (by omega)) c
      have gy : hy.I 3587 U = 0 := by rw [fy.1.I (UQ.n rfl)]; exact gx
      have ly : hy.I 3594 U = nI 0 := by rw [fy.1.I (UQ.n rfl)]; exact lx
      have ky : PQ (pr2 n B num (acc ++ []) q) (EK K U n B h) (UE K uAG U h (.returned none)) := ky
      rw [List.append_nil] at ky
      exact op2 o hs hd Fy ay hq gy ly ⟨by rw [ny, hacc]; congr 1; omega, by omega, sy⟩ ky
    | succ k ih =>
      intro j q acc hy v2 v3 hj hacc hq fy ny ay sy ky
      have Fy := fx.trans (fy.mono (UQ.mono (l' := uAG) rfl))
      have s3 := hs.uq Fy rfl
      obtain ⟨⟨u3, ⟨z1, z2, z3, z4, z5, z6, z7, z8⟩, y1, y2, y3, y4, y5, y6, y7, y8⟩, -⟩ := id s3
      have gy : hy.I 3587 U = 0 := by rw [fy.1.I (UQ.n rfl)]; exact gx
      have ky := PQ_bd.mp ky
      have ixj : IX (nI j) 64 j := IX.mk (by omega) (by omega)
      refine k_X29_overAll_117 o (fun c => ?_) (fun _ => ?_)
      · exact absurd ((nI_leI (by omega) (by omega)).mp c) (by omega)
      refine k_X29_overAll_125 o ?_
      refine ugood_ok u3 gy ?_
      refine k_X29_overAll_129 o (fun c => absurd c (by decide)) (fun _ => ?_)
      refine k_X29_overAll_132 o ?_
      have fz : Fq (UQ [3586, 3589, 10000 + 2144] U) hx (hy.sEI 2144 (U + 2) j (nI q)) := fy.sEI ⟨rfl, by omega, by omega⟩
      have nz : (hy.sEI 2144 (U + 2) j (nI q)).I 3589 U = nI kn := by simpa [n_sI, z_sI, tag_sI, I_sI, J_sI, R_sI, EI_sI, EJ_sI, ER_sI, n_sJ, z_sJ, tag_sJ, I_sJ, J_sJ, R_sJ, EI_sJ, EJ_sJ, ER_sJ, n_sR, z_sR, tag_sR, I_sR, J_sR, R_sR, EI_sR, EJ_sR, ER_sR, n_sEI, z_sEI, tag_sEI, I_sEI, J_sEI, R_sEI, EI_sEI, EJ_sEI, ER_sEI, n_sEJ, z_sEJ, tag_sEJ, I_sEJ, J_sEJ, R_sEJ, EI_sEJ, EJ_sEJ, ER_sEJ, n_sER, z_sER, tag_sER, I_sER, J_sER, R_sER, EI_sER, EJ_sER, ER_sER, n_nw, z_nw, tag_nw, I_nw, J_nw, R_nw, EI_nw, EJ_nw, ER_nw] using ny
      have az : (hy.sEI 2144 (U + 2) j (nI q)).I 3586 U = nI q := by simpa [n_sI, z_sI, tag_sI, I_sI, J_sI, R_sI, EI_sI, EJ_sI, ER_sI, n_sJ, z_sJ, tag_sJ, I_sJ, J_sJ, R_sJ, EI_sJ, EJ_sJ, ER_sJ, n_sR, z_sR, tag_sR, I_sR, J_sR, R_sR, EI_sR, EJ_sR, ER_sR, n_sEI, z_sEI, tag_sEI, I_sEI, J_sEI, R_sEI, EI_sEI, EJ_sEI, ER_sEI, n_sEJ, z_sEJ, tag_sEJ, I_sEJ, J_sEJ, R_sEJ, EI_sEJ, EJ_sEJ, ER_sEJ, n_sER, z_sER, tag_sER, I_sER, J_sER, R_sER, EI_sER, EJ_sER, ER_sER, n_nw, z_nw, tag_nw, I_nw, J_nw, R_nw, EI_nw, EJ_nw, ER_nw] using ay
      have pz : (hy.sEI 2144 (U + 2) j (nI q)).EI 2144 (U + 2) j = nI q := by simp [n_sI, z_sI, tag_sI, I_sI, J_sI, R_sI, EI_sI, EJ_sI, ER_sI, n_sJ, z_sJ, tag_sJ, I_sJ, J_sJ, R_sJ, EI_sJ, EJ_sJ, ER_sJ, n_sR, z_sR, tag_sR, I_sR, J_sR, R_sR, EI_sR, EJ_sR, ER_sR, n_sEI, z_sEI, tag_sEI, I_sEI, J_sEI, R_sEI, EI_sEI, EJ_sEI, ER_sEI, n_sEJ, z_sEJ, tag_sEJ, I_sEJ, J_sEJ, R_sEJ, EI_sEJ, EJ_sEJ, ER_sEJ, n_sER, z_sER, tag_sER, I_sER, J_sER, R_sER, EI_sER, EJ_sER, ER_sER, n_nw, z_nw, tag_nw, I_nw, J_nw, R_nw, EI_nw, EJ_nw, ER_nw]
      have sz : PA (hy.sEI 2144 (U + 2) j (nI q)) 2144 (U + 2) 0 (rdSt n B) acc := sy.eq fun i hi => by
        have : i ≠ j := by omega
        simp [n_sI, z_sI, tag_sI, I_sI, J_sI, R_sI, EI_sI, EJ_sI, ER_sI, n_sJ, z_sJ, tag_sJ, I_sJ, J_sJ, R_sJ, EI_sJ, EJ_sJ, ER_sJ, n_sR, z_sR, tag_sR, I_sR, J_sR, R_sR, EI_sR, EJ_sR, ER_sR, n_sEI, z_sEI, tag_sEI, I_sEI, J_sEI, R_sEI, EI_sEI, EJ_sEI, ER_sEI, n_sEJ, z_sEJ, tag_sEJ, I_sEJ, J_sEJ, R_sEJ, EI_sEJ, EJ_sEJ, ER_sEJ, n_sER, z_sER, tag_sER, I_sER, J_sER, R_sER, EI_sER, EJ_sER, ER_sER, n_nw, z_nw, tag_nw, I_nw, J_nw, R_nw, EI_nw, EJ_nw, ER_nw, this]
      generalize hy.sEI 2144 (U + 2) j (nI q) = hz at *
      have Fz := fx.trans (fz.mono (UQ.mono (l' := uAG) rfl))
      have s4 := hs.uq Fz rfl
      have gz : hz.I 3587 U = 0 := by rw [fz.1.I (UQ.n rfl)]; exact gx
      have b194 : ∀ h' v2 v3, UEx K U h h' → V X K 194 [.ref U, .int (nI j), v2, v3] [] h' := fun h' v2 v3 xe => by
        have u4 := xe.1.1.tag s0
        refine k_X29_overAll_194 o ?_
        refine k_X29_overAll_117 o (fun _ => ?_) (fun _ => ?_)
        · exact ob200 o s0 hd xe
        · refine k_X29_overAll_125 o ?_
          refine ubad_ok u4 xe.g ?_
          refine k_X29_overAll_129 o (fun _ => ?_) (fun c => absurd rfl c)
          exact ob200 o s0 hd xe
      have b171 : ∀ h' i c, UEx K U h h' → V X K 171 [.ref U, .int (nI j), .int c, .int i] [] h' := fun h' i c xe => by
        have u4 := xe.1.1.tag s0
        refine k_X29_overAll_171 o (fun _ => ?_) (fun _ => ?_)
        · exact b194 h' _ _ xe
        · refine k_X29_overAll_176 o ?_
          refine ubad_ok u4 xe.g ?_
          refine k_X29_overAll_180 o (fun _ => ?_) (fun c => absurd rfl c)
          exact b194 h' _ _ xe
      refine ucount_ok s4 az hq gz (by omega) (by omega) (by omega) ((PQ_bd.mp ky).mono (fun ab p3 e5 k3 hp3 _ h5 f5 a5 => ?_) (fun w q t h' f' e1 e2 e3 => ?_))
      rotate_left
      · have xe := UEx.mk t Fz rfl f' e1 e2 e3
        have u4 := xe.1.1.tag s0
        refine k_X29_overAll_149 o ?_
        refine ubad_ok u4 e2 ?_
        refine k_X29_overAll_154 o (fun _ => ?_) (fun c => absurd rfl c)
        refine k_X29_overAll_167 o ?_
        refine k_X29_overAll_168 o ?_
        exact b171 h' _ _ xe
      have hqn := (rdC_ok e5).2.2.1
      have F5 := Fz.trans (f5.mono (UQ.mono (l' := uAG) rfl))
      have s6 := hs.uq F5 rfl
      have u6 := s6.1.1
      have g5 : h5.I 3587 U = 0 := by rw [f5.1.I (UQ.n rfl)]; exact gz
      refine k_X29_overAll_149 o ?_
      refine ugood_ok u6 g5 ?_
      refine k_X29_overAll_154 o (fun c => absurd c (by decide)) (fun _ => ?_)
      refine k_X29_overAll_157 o ?_
      refine ucount_ok s6 a5 hp3 g5 (by omega) (by omega) (by omega) ((PQ_bd.mp k3).mono (fun nf p4 e6 k4 hp4 hnf h6 f6 a6 => ?_) (fun w q t h' f' e1 e2 e3 => ?_))
      rotate_left
      · refine k_X29_overAll_164 o ?_
        refine k_X29_overAll_168 o ?_
        exact b171 h' _ _ (UEx.mk t F5 rfl f' e1 e2 e3)
      refine k_X29_overAll_164 o ?_
      refine k_X29_overAll_168 o ?_
      have inner : ∀ k' i q' acc' h7, k' + i = nf → q' ≤ n → Fq (UQ [3586] U) hz h7 → h7.I 3586 U = nI q' → (∀ l p', rep (rdT n B false) k' q' = .ok (l, p') → rdSt n B q = .ok ((q, ab, acc' ++ l), p')) → PQ (rep (rdT n B false) k' q') (fun l p' => PQ (bd (rep (rdSt n B) k p') fun l' p2 => .ok ((q, ab, acc' ++ l) :: l', p2)) (fun l p' => PQ (pr2 n B num (acc ++ l) p') (EK K U n B h) (UE K uAG U h (.returned none))) (UE K uAG U h (.returned none))) (UE K uAG U h (.returned none)) → V X K 171 [.ref U, .int (nI j), .int (nI nf), .int (nI i)] [] h7 := by
        intro k'
        induction k' with
        | zero =>
          intro i q' acc' h7 hi' hq' f7 a7 es k7
          refine k_X29_overAll_171 o (fun _ => ?_) (fun c => absurd ((nI_leI (by omega) (by omega)).mpr (by omega)) c)
          refine k_X29_overAll_194 o ?_
          rw [nI_add]
          have eu := es [] q' rfl
          rw [List.append_nil] at eu
          have k8 : PQ (bd (rep (rdSt n B) k q') fun l' p2 => .ok ((q, ab, acc' ++ []) :: l', p2)) (fun l p' => PQ (pr2 n B num (acc ++ l) p') (EK K U n B h) (UE K uAG U h (.returned none))) (UE K uAG U h (.returned none)) := k7
          rw [List.append_nil] at k8
          refine ih (j + 1) q' (acc ++ [(q, ab, acc')]) h7 _ _ (by omega) (by simp; omega) hq' (fz.trans (f7.mono (UQ.mono rfl))) (by rw [f7.1.I (UQ.n rfl)]; exact nz) a7 ?_ ?_
          · refine PA.snoc (PA.eq sz fun i hi => f7.1.EI (UQ.n rfl) i) (p := q) ?_ (by omega) eu
            rw [Nat.zero_add, hacc, f7.1.EI (UQ.n rfl)]; exact pz
          · have k9 : PQ (bd (rep (rdSt n B) k q') fun l p2 => .ok ((q, ab, acc') :: l, p2)) (fun l p' => PQ (pr2 n B num (acc ++ l) p') (EK K U n B h) (UE K uAG U h (.returned none))) (UE K uAG U h (.returned none)) := k8
            refine (PQ_bd.mp k9).mono (fun l p' _ z => ?_) (fun _ _ z => z)
            have z : PQ (pr2 n B num (acc ++ ((q, ab, acc') :: l)) p') (EK K U n B h) (UE K uAG U h (.returned none)) := z
            rw [List.append_assoc]; exact z
        | succ k' ih' =>
          intro i q' acc' h7 hi' hq' f7 a7 es k7
          have F7 := Fz.trans (f7.mono (UQ.mono (l' := uAG) rfl))
          have s7 := hs.uq F7 rfl
          have u7 := s7.1.1
          have g7 : h7.I 3587 U = 0 := by rw [f7.1.I (UQ.n rfl)]; exact gz
          have k7 := PQ_bd.mp k7
          refine k_X29_overAll_171 o (fun c => ?_) (fun _ => ?_)
          · exact absurd ((nI_leI (by omega) (by omega)).mp c) (by omega)
          refine k_X29_overAll_176 o ?_
          refine ugood_ok u7 g7 ?_
          refine k_X29_overAll_180 o (fun c => absurd c (by decide)) (fun _ => ?_)
          refine k_X29_overAll_183 o ?_
          refine uovT_ok (r := false) s7 a7 hq' g7 (by omega) (k7.mono (fun x p5 ex k8 _ b2 h8 f8 a8 => ?_) (fun w q t h' f' e1 e2 e3 => ?_))
          · refine k_X29_overAll_188 o ?_
            rw [nI_add]
            refine ih' (i + 1) p5 (acc' ++ [x]) h8 (by omega) b2 (f7.trans f8) a8 (fun l p' el => ?_) ?_
            · rw [List.append_assoc]
              refine es (x :: l) p' ?_
              show bd (rdT n B false q') _ = _
              rw [ex, bd_k, el]; rfl
            · refine (PQ_bd.mp k8).mono (fun l p' _ z => ?_) (fun _ _ z => z)
              have z : PQ (bd (rep (rdSt n B) k p') fun l' p2 => .ok ((q, ab, acc' ++ (x :: l)) :: l', p2)) (fun l p' => PQ (pr2 n B num (acc ++ l) p') (EK K U n B h) (UE K uAG U h (.returned none))) (UE K uAG U h (.returned none)) := z
              rw [List.append_assoc]; exact z
          · refine k_X29_overAll_188 o ?_
            exact b171 h' _ _ (UEx.mk t F7 rfl f' e1 e2 e3)
      refine inner nf 0 p4 [] h6 (by omega) hp4 (f5.trans f6) a6 (fun l p' el => ?_) ?_
      · show bd (rdC n B 0 15 q) _ = _
        rw [e5, bd_k, e6, bd_k, el]; rfl
      · exact (PQ_bd.mp k4).mono (fun l p' _ z => z) (fun _ _ z => z)
  exact loop kn 0 (p + 1) [] h2 _ _ (by omega) rfl hp1 (f2.mono (UQ.mono rfl)) n2 a2 PA.nil k1
theorem uovA_ok {G : Gt} {d : Nat} {h : AH} {K : Outcome → AH → Prop} {U n : Nat} {B : Nat → Nat} (hs : SU h U n B) (ha : h.I 3586 U = nI 0) (hf : h.I 3587 U = 0) (hi : h.I 3594 U = nI 0) (hd : 6 ≤ d)
    (kk : PQ (rdM n B) (EK K U n B h) (UE K uAG U h (.returned none))) : MW G d e_X29_overAll [.ref U] h K := by
  refine st_X29_overAll fun X o hG hD _ => ?_
  subst hG; subst hD
  have s0 := hs.1.1
  have hn := hs.2.2.1
  have hB := hs.2.2.2.1
  rw [rdM_pr] at kk
  have kk := PQ_bd.mp kk
  have b2 : ∀ h' i v2 v3, UEx K U h h' → V X K 2 [.ref U, .int i, v2, v3] [] h' := fun h' i v2 v3 xe => by
    have u4 := xe.1.1.tag s0
    refine k_X29_overAll_2 o (fun _ => ?_) (fun _ => ?_)
    · exact ob80 o s0 hd xe
    · refine k_X29_overAll_7 o ?_
      refine ubad_ok u4 xe.g ?_
      refine k_X29_overAll_11 o (fun _ => ?_) (fun c => absurd rfl c)
      exact ob80 o s0 hd xe
  have loop : ∀ j i q hx v2 v3, j + i = 4 → q ≤ n → Fq (UQ [3586] U) h hx → hx.I 3586 U = nI q → PQ (rdH n B j i q) (fun _ p0 => PQ (bd (rdN n B 2 0 p0) fun num p1 => pr1 n B num p1) (EK K U n B h) (UE K uAG U h (.returned none))) (UE K uAG U h (.returned none)) → V X K 2 [.ref U, .int (nI i), v2, v3] [] hx := by
    intro j
    induction j with
    | zero =>
      intro i q hx v2 v3 hj hq fx ax kx
      have Fx := fx.mono (UQ.mono (l' := uAG) rfl)
      have sx := hs.uq fx rfl
      have u1 := sx.1.1
      have gx : hx.I 3587 U = 0 := by rw [fx.1.I (UQ.n rfl)]; exact hf
      have lx : hx.I 3594 U = nI 0 := by rw [fx.1.I (UQ.n rfl)]; exact hi
      have kx := PQ_bd.mp (show PQ (bd (rdN n B 2 0 q) fun num p1 => pr1 n B num p1) (EK K U n B h) (UE K uAG U h (.returned none)) from kx)
      refine k_X29_overAll_2 o (fun _ => ?_) (fun c => absurd ((nI_leI (by omega) (by omega)).mpr (by omega)) c)
      refine k_X29_overAll_80 o ?_
      refine ugood_ok u1 gx ?_
      refine k_X29_overAll_84 o (fun c => absurd c (by decide)) (fun _ => ?_)
      refine k_X29_overAll_87 o ?_
      refine uoverN_ok (v := 0) sx ax hq gx (by omega) (by omega) (kx.mono (fun num p1 _ k2 hp1 h1 f1 a1 => ?_) (fun w q t h' f' e1 e2 e3 => ?_))
      · refine k_X29_overAll_92 o ?_
        exact op1 o hs hd ((fx.trans f1).mono (UQ.mono rfl)) a1 hp1 (by rw [f1.1.I (UQ.n rfl)]; exact gx) (by rw [f1.1.I (UQ.n rfl)]; exact lx) k2
      · refine k_X29_overAll_92 o ?_
        exact ob93 o s0 hd (UEx.mk t Fx rfl f' e1 e2 e3)
    | succ j ih =>
      intro i q hx v2 v3 hj hq fx ax kx
      have Fx := fx.mono (UQ.mono (l' := uAG) rfl)
      have sx := hs.uq fx rfl
      have u1 := sx.1.1
      have gx : hx.I 3587 U = 0 := by rw [fx.1.I (UQ.n rfl)]; exact hf
      have kx := PQ_bd.mp kx
      refine k_X29_overAll_2 o (fun c => ?_) (fun _ => ?_)
      · exact absurd ((nI_leI (by omega) (by omega)).mp c) (by omega)
      refine k_X29_overAll_7 o ?_
      refine ugood_ok u1 gx ?_
      refine k_X29_overAll_11 o (fun c => absurd c (by decide)) (fun _ => ?_)
      refine k_X29_overAll_14 o ?_
      have due : ∀ hy (v3 : Value), (∀ v3', V X K 51 [.ref U, .int (nI i), .int (nI q), v3'] [.int (nI (hdb i))] hy) → V X K 19 [.ref U, .int (nI i), v2, v3] [.int (nI q)] hy := fun hy v3 v => by
        have h4 : i = 0 ∨ i = 1 ∨ i = 2 ∨ i = 3 := by omega
        rcases h4 with e | e | e | e <;> subst e
        · refine k_X29_overAll_19 o (fun c => absurd rfl c) (fun _ => ?_)
          refine k_X29_overAll_24 o ?_
          exact v _
        · refine k_X29_overAll_19 o (fun _ => ?_) (fun c => absurd c (by decide))
          refine k_X29_overAll_29 o (fun c => absurd rfl c) (fun _ => ?_)
          refine k_X29_overAll_34 o ?_
          exact v _
        · refine k_X29_overAll_19 o (fun _ => ?_) (fun c => absurd c (by decide))
          refine k_X29_overAll_29 o (fun _ => ?_) (fun c => absurd c (by decide))
          refine k_X29_overAll_39 o (fun c => absurd rfl c) (fun _ => ?_)
          refine k_X29_overAll_44 o ?_
          exact v _
        · refine k_X29_overAll_19 o (fun _ => ?_) (fun c => absurd c (by decide))
          refine k_X29_overAll_29 o (fun _ => ?_) (fun c => absurd c (by decide))
          refine k_X29_overAll_39 o (fun _ => ?_) (fun c => absurd c (by decide))
          refine k_X29_overAll_49 o ?_
          exact v _
      refine uover1_ok sx ax hq gx (by omega) (kx.mono (fun b p1 e k2 h1 f1 a1 => ?_) (fun w q' t h' f' e1 e2 e3 => ?_))
      rotate_left
      · refine due h' _ fun v3' => ?_
        have xe := UEx.mk t Fx rfl f' e1 e2 e3
        have u2 := xe.1.1.tag s0
        refine k_X29_overAll_51 o ?_
        refine ubad_ok u2 e2 ?_
        refine k_X29_overAll_56 o (fun _ => ?_) (fun c => absurd rfl c)
        refine k_X29_overAll_74 o ?_
        exact b2 h' _ _ _ xe
      obtain ⟨rfl, rfl, hqn⟩ := rdB_ok e
      refine due h1 _ fun v3' => ?_
      have s1 := sx.uq f1 rfl
      have u2 := s1.1.1
      have g1 : h1.I 3587 U = 0 := by rw [f1.1.I (UQ.n rfl)]; exact gx
      have k2 := PQ_bd.mp k2
      have hBq := hB q
      have hdl : hdb i < 256 := by
        have h4 : i = 0 ∨ i = 1 ∨ i = 2 ∨ i = 3 := by omega
        rcases h4 with e | e | e | e <;> subst e <;> decide
      refine k_X29_overAll_51 o ?_
      refine ugood_ok u2 g1 ?_
      refine k_X29_overAll_56 o (fun c => absurd c (by decide)) (fun _ => ?_)
      refine k_X29_overAll_59 o ?_
      refine ubyte_ok s1 (by omega) ?_
      refine k_X29_overAll_64 o (fun c => ?_) (fun c => ?_)
      · have c : B q = hdb i := (nI_eq (by omega) (by omega)).mp c
        rw [decide_eq_true c] at k2
        have k2 := PQ_nt.mp k2
        refine k_X29_overAll_74 o ?_
        rw [nI_add]
        exact ih (i + 1) (q + 1) h1 _ _ (by omega) (by omega) (fx.trans f1) a1 k2
      · have c : ¬ B q = hdb i := fun z => c (by rw [z])
        rw [decide_eq_false c] at k2
        have k2 := PQ_nf.mp k2
        refine k_X29_overAll_68 o ?_
        refine ufail_ok u2 g1 (by decide) fun h' f' e1 e2 e3 => ?_
        refine k_X29_overAll_74 o ?_
        exact b2 h' _ _ _ (UEx.mk k2 ((fx.trans f1).mono (UQ.mono (l' := uAG) rfl)) rfl f' e1 e2 e3)
  refine k_X29_overAll_0 o ?_
  exact loop 4 0 0 h _ _ (by omega) (Nat.zero_le _) (Fq.refl h) ha kk
