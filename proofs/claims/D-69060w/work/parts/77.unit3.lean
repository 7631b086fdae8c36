/-! instructions and functions, gone over -/
theorem opb_ok {G : Gt} {d : Nat} {h : AH} {K : Outcome → AH → Prop} {o : Nat} (ho : o < 60) (kk : K (.returned (some (.int (nI (fq1 o + fq2 o))))) h) : MW G d e_X29_operandBytes [.int (nI o)] h K := by
  refine st_X29_operandBytes fun X o' hG hD _ => ?_
  subst hG; subst hD
  have eq : ∀ {a b : Nat}, a < 60 → b < 60 → (nI a = nI b ↔ a = b) := fun ha hb => nI_eq (by omega) (by omega)
  have le : ∀ {a b : Nat}, a < 60 → b < 60 → (nI a ≤ nI b ↔ a ≤ b) := fun ha hb => nI_leI (by omega) (by omega)
  have lt : ∀ {a b : Nat}, a < 60 → b < 60 → (nI a < nI b ↔ a < b) := fun ha hb => nI_ltI (by omega) (by omega)
  have tab : ∀ k : Fin 60, fq1 k.val + fq2 k.val = if k.val = 5 ∨ (10 < k.val ∧ k.val < 16) ∨ (20 < k.val ∧ k.val < 24) ∨ (46 < k.val ∧ k.val < 52) ∨ (52 < k.val ∧ k.val < 59) then 1 else if k.val = 16 ∨ k.val = 17 ∨ k.val = 52 ∨ (1 < k.val ∧ k.val < 5) then 2 else if k.val = 6 ∨ k.val = 10 then 8 else if k.val = 7 then 16 else 0 := by decide +kernel
  have tab := tab ⟨o, ho⟩
  simp only at tab
  rw [tab] at kk
  have r1 : (o = 5 ∨ (10 < o ∧ o < 16) ∨ (20 < o ∧ o < 24) ∨ (46 < o ∧ o < 52) ∨ (52 < o ∧ o < 59)) → V X K 53 [.int (nI o)] [] h := fun c => by
    rw [if_pos c] at kk
    exact k_X29_operandBytes_53 o' kk
  have r2 : ¬ (o = 5 ∨ (10 < o ∧ o < 16) ∨ (20 < o ∧ o < 24) ∨ (46 < o ∧ o < 52) ∨ (52 < o ∧ o < 59)) → V X K 55 [.int (nI o)] [] h := fun c => by
    rw [if_neg c] at kk
    have q1 : (o = 16 ∨ o = 17 ∨ o = 52 ∨ (1 < o ∧ o < 5)) → V X K 83 [.int (nI o)] [] h := fun c => by
      rw [if_pos c] at kk
      exact k_X29_operandBytes_83 o' kk
    have q2 : ¬ (o = 16 ∨ o = 17 ∨ o = 52 ∨ (1 < o ∧ o < 5)) → V X K 85 [.int (nI o)] [] h := fun c => by
      rw [if_neg c] at kk
      have p1 : (o = 6 ∨ o = 10) → V X K 97 [.int (nI o)] [] h := fun c => by
        rw [if_pos c] at kk
        exact k_X29_operandBytes_97 o' (k_X29_operandBytes_114 o' kk)
      refine k_X29_operandBytes_85 o' (fun z => p1 (Or.inl ((eq ho (by omega)).mp z))) (fun z1 => ?_)
      refine k_X29_operandBytes_91 o' (fun z2 => ?_) (fun z => p1 (Or.inr ((eq ho (by omega)).mp z)))
      have z1 : ¬ o = 6 := fun z => z1 (by rw [z])
      have z2 : ¬ o = 10 := fun z => z2 (by rw [z])
      rw [if_neg (by omega)] at kk
      refine k_X29_operandBytes_102 o' (fun z => ?_) (fun z => ?_)
      · have z : ¬ o = 7 := fun q => z (by rw [q])
        rw [if_neg z] at kk
        exact k_X29_operandBytes_113 o' (k_X29_operandBytes_114 o' kk)
      · have z : o = 7 := (eq ho (by omega)).mp z
        rw [if_pos z] at kk
        exact k_X29_operandBytes_108 o' (k_X29_operandBytes_114 o' kk)
    refine k_X29_operandBytes_55 o' (fun z => q1 (Or.inl ((eq ho (by omega)).mp z))) (fun z1 => ?_)
    refine k_X29_operandBytes_61 o' (fun z => q1 (Or.inr (Or.inl ((eq ho (by omega)).mp z)))) (fun z2 => ?_)
    refine k_X29_operandBytes_67 o' (fun z => q1 (Or.inr (Or.inr (Or.inl ((eq ho (by omega)).mp z))))) (fun z3 => ?_)
    have z1 : ¬ o = 16 := fun z => z1 (by rw [z])
    have z2 : ¬ o = 17 := fun z => z2 (by rw [z])
    have z3 : ¬ o = 52 := fun z => z3 (by rw [z])
    refine k_X29_operandBytes_73 o' (fun z => q2 ?_) (fun z4 => ?_)
    · have z := (le ho (by omega)).mp z; omega
    have z4 : ¬ o ≤ 1 := fun z => z4 ((le ho (by omega)).mpr z)
    refine k_X29_operandBytes_78 o' (fun z => q2 ?_) (fun z5 => q1 ?_)
    · have z := (le (by omega) ho).mp z; omega
    · have z5 : ¬ 5 ≤ o := fun z => z5 ((le (by omega) ho).mpr z)
      omega
  refine k_X29_operandBytes_0 o' (fun z => r1 (Or.inl ((eq ho (by omega)).mp z))) (fun z1 => ?_)
  have z1 : ¬ o = 5 := fun z => z1 (by rw [z])
  have b4 : ¬ (10 < o ∧ o < 16) → ¬ (20 < o ∧ o < 24) → ¬ (46 < o ∧ o < 52) → V X K 41 [.int (nI o)] [] h := fun a1 a2 a3 => by
    refine k_X29_operandBytes_41 o' (fun z => ?_) (fun z => ?_)
    · have z := (le ho (by omega)).mp z
      exact r2 (by omega)
    have z : ¬ o ≤ 52 := fun q => z ((le ho (by omega)).mpr q)
    refine k_X29_operandBytes_47 o' (fun z => ?_) (fun z => ?_)
    · have z := (le (by omega) ho).mp z
      exact r2 (by omega)
    · have z : ¬ 59 ≤ o := fun q => z ((le (by omega) ho).mpr q)
      exact r1 (by omega)
  have b3 : ¬ (10 < o ∧ o < 16) → ¬ (20 < o ∧ o < 24) → V X K 29 [.int (nI o)] [] h := fun a1 a2 => by
    refine k_X29_operandBytes_29 o' (fun z => ?_) (fun z => ?_)
    · have z := (le ho (by omega)).mp z
      exact b4 a1 a2 (by omega)
    have z : ¬ o ≤ 46 := fun q => z ((le ho (by omega)).mpr q)
    refine k_X29_operandBytes_35 o' (fun z => ?_) (fun z => ?_)
    · have z := (lt ho (by omega)).mp z
      exact r1 (by omega)
    · have z : ¬ o < 52 := fun q => z ((lt ho (by omega)).mpr q)
      exact b4 a1 a2 (by omega)
  have b2 : ¬ (10 < o ∧ o < 16) → V X K 17 [.int (nI o)] [] h := fun a1 => by
    refine k_X29_operandBytes_17 o' (fun z => ?_) (fun z => ?_)
    · have z := (le ho (by omega)).mp z
      exact b3 a1 (by omega)
    have z : ¬ o ≤ 20 := fun q => z ((le ho (by omega)).mpr q)
    refine k_X29_operandBytes_23 o' (fun z => ?_) (fun z => ?_)
    · have z := (lt ho (by omega)).mp z
      exact r1 (by omega)
    · have z : ¬ o < 24 := fun q => z ((lt ho (by omega)).mpr q)
      exact b3 a1 (by omega)
  refine k_X29_operandBytes_5 o' (fun z => ?_) (fun z => ?_)
  · have z := (le ho (by omega)).mp z
    exact b2 (by omega)
  have z : ¬ o ≤ 10 := fun q => z ((le ho (by omega)).mpr q)
  refine k_X29_operandBytes_11 o' (fun z => ?_) (fun z => ?_)
  · have z := (lt ho (by omega)).mp z
    exact r1 (by omega)
  · have z : ¬ o < 16 := fun q => z ((lt ho (by omega)).mpr q)
    exact b2 (by omega)
def uiF : List Nat := [3586, 3594, 10000 + 2224]
def uiG : List Nat := uaF ++ [3594, 10000 + 2224]
/-- the instructions' places from the i-th on -/
def IAt (h : AH) (U i : Nat) (l : List Ix) : Prop := ∀ j x, l[j]? = some x → h.EI 2224 (U + 7) (i + j) = nI x.2.2.2
theorem fq_two {n : Nat} {B : Nat → Nat} {a b v w p : Nat} (hp : p ≤ n) : (p + (a + b) ≤ n → ∃ x y, rdN n B a v p = .ok (x, p + a) ∧ rdN n B b w (p + a) = .ok (y, p + (a + b))) ∧ (n < p + (a + b) → rdN n B a v p = .error (2, n) ∨ (∃ x, rdN n B a v p = .ok (x, p + a) ∧ p + a ≤ n ∧ rdN n B b w (p + a) = .error (2, n))) := by
  have h1 := rdN_if (n := n) (B := B) a (v := v) hp
  constructor
  · intro c
    obtain ⟨x, ex⟩ := h1.1 (by omega)
    obtain ⟨y, ey⟩ := (rdN_if (n := n) (B := B) b (v := w) (p := p + a) (by omega)).1 (by omega)
    exact ⟨x, y, ex, by rw [ey, Nat.add_assoc]⟩
  · intro c
    by_cases c2 : p + a ≤ n
    · obtain ⟨x, ex⟩ := h1.1 c2
      exact Or.inr ⟨x, ex, c2, (rdN_if (n := n) (B := B) b (v := w) (p := p + a) c2).2 (by omega)⟩
    · exact Or.inl (h1.2 (by omega))
theorem PQ_k {α : Type} {a : α} {p : Nat} {ok : α → Nat → Prop} {er : Nat → Nat → Prop} : PQ (.ok (a, p)) ok er ↔ ok a p := Iff.rfl
theorem PQ_e {α : Type} {w q : Nat} {ok : α → Nat → Prop} {er : Nat → Nat → Prop} : PQ (.error (w, q) : Pz α) ok er ↔ er w q := Iff.rfl
theorem nd52 {n p x y q : Nat} {B : Nat → Nat} {ok : Ix → Nat → Prop} {er : Nat → Nat → Prop} (c : ¬ B p = 52) (k : PQ (bd (nd (decide (B p ≠ 52 ∨ n ≤ q ∨ B q ≤ 64)) 3 q q) fun _ p2 => bd (rdN n B y 0 p2) fun y p3 => .ok ((B p, x, y, p), p3)) ok er) : PQ (rdN n B y 0 q) (fun y p3 => ok (B p, x, y, p) p3) er := by
  rw [decide_eq_true (Or.inl c)] at k
  exact PQ_bd.mp (PQ_nt.mp (PQ_bd.mp k))
theorem uovI_ok {G : Gt} {d : Nat} {h : AH} {K : Outcome → AH → Prop} {U n p i : Nat} {B : Nat → Nat} (hs : SU h U n B) (ha : h.I 3586 U = nI p) (hp : p ≤ n) (hf : h.I 3587 U = 0) (hi : h.I 3594 U = nI i) (hip : i ≤ p) (hd : 3 ≤ d)
    (kk : PQ (rdI n B p) (fun x p' => p < p' → p' ≤ n → x.2.2.2 = p → ∀ h', Fq (UQ uiF U) h h' → h'.I 3586 U = nI p' → h'.I 3594 U = nI (i + 1) → h'.EI 2224 (U + 7) i = nI p → (∀ j, j ≠ i → h'.EI 2224 (U + 7) j = h.EI 2224 (U + 7) j) → K (.returned none) h') (UE K uiG U h (.returned none))) : MW G d e_X29_overInstruction [.ref U] h K := by
  refine st_X29_overInstruction fun X o hG hD _ => ?_
  subst hG; subst hD
  have s0 := hs.1.1
  have hn := hs.2.2.1
  have hB := hs.2.2.2.1
  have kk := PQ_bd.mp kk
  refine k_X29_overInstruction_0 o ?_
  refine uover1_ok hs ha hp hf (by omega) (kk.mono (fun b p1 e k2 h1 f1 a1 => ?_) (fun w q t h' f' e1 e2 e3 => ?_))
  rotate_left
  · have u0 := f'.1.tag s0
    refine k_X29_overInstruction_5 o ?_
    refine ubad_ok u0 e2 ?_
    refine k_X29_overInstruction_10 o (fun c => ?_) (fun _ => ?_)
    · exact absurd rfl c
    refine k_X29_overInstruction_13 o ?_
    exact t h' (f'.mono (UQ.mono rfl)) e1 e2 e3
  obtain ⟨rfl, rfl, hpn⟩ := rdB_ok e
  have s1 := hs.uq f1 rfl
  obtain ⟨⟨u0, ⟨z1, z2, z3, z4, z5, z6, z7, z8⟩, y1, y2, y3, y4, y5, y6, y7, y8⟩, -⟩ := id s1
  have uf : h1.I 3587 U = 0 := by rw [f1.1.I (UQ.n rfl)]; exact hf
  have ua : h1.I 3594 U = nI i := by rw [f1.1.I (UQ.n rfl)]; exact hi
  have hBp := hB p
  have ix : IX (nI i) 2049 i := IX.mk (by omega) (by omega)
  refine k_X29_overInstruction_5 o ?_
  refine ugood_ok u0 uf ?_
  refine k_X29_overInstruction_10 o (fun _ => ?_) (fun c => ?_)
  rotate_left
  · exact absurd c (by decide)
  refine k_X29_overInstruction_14 o ?_
  have f2 : Fq (UQ uiF U) h ((h1.sEI 2224 (U + 7) i (nI p)).sI 3594 U (nI i + nI 1)) := ((f1.mono (UQ.mono (l' := uiF) rfl)).sEI (t := 2224) (a := U + 7) (i := i) (v := nI p) ⟨rfl, by omega, by omega⟩).sI (f := 3594) (a := U) ⟨rfl, by omega, by omega⟩
  have a2 : ((h1.sEI 2224 (U + 7) i (nI p)).sI 3594 U (nI i + nI 1)).I 3586 U = nI (p + 1) := by simpa [n_sI, z_sI, tag_sI, I_sI, J_sI, R_sI, EI_sI, EJ_sI, ER_sI, n_sJ, z_sJ, tag_sJ, I_sJ, J_sJ, R_sJ, EI_sJ, EJ_sJ, ER_sJ, n_sR, z_sR, tag_sR, I_sR, J_sR, R_sR, EI_sR, EJ_sR, ER_sR, n_sEI, z_sEI, tag_sEI, I_sEI, J_sEI, R_sEI, EI_sEI, EJ_sEI, ER_sEI, n_sEJ, z_sEJ, tag_sEJ, I_sEJ, J_sEJ, R_sEJ, EI_sEJ, EJ_sEJ, ER_sEJ, n_sER, z_sER, tag_sER, I_sER, J_sER, R_sER, EI_sER, EJ_sER, ER_sER, n_nw, z_nw, tag_nw, I_nw, J_nw, R_nw, EI_nw, EJ_nw, ER_nw] using a1
  have l2 : ((h1.sEI 2224 (U + 7) i (nI p)).sI 3594 U (nI i + nI 1)).I 3594 U = nI (i + 1) := by simp [n_sI, z_sI, tag_sI, I_sI, J_sI, R_sI, EI_sI, EJ_sI, ER_sI, n_sJ, z_sJ, tag_sJ, I_sJ, J_sJ, R_sJ, EI_sJ, EJ_sJ, ER_sJ, n_sR, z_sR, tag_sR, I_sR, J_sR, R_sR, EI_sR, EJ_sR, ER_sR, n_sEI, z_sEI, tag_sEI, I_sEI, J_sEI, R_sEI, EI_sEI, EJ_sEI, ER_sEI, n_sEJ, z_sEJ, tag_sEJ, I_sEJ, J_sEJ, R_sEJ, EI_sEJ, EJ_sEJ, ER_sEJ, n_sER, z_sER, tag_sER, I_sER, J_sER, R_sER, EI_sER, EJ_sER, ER_sER, n_nw, z_nw, tag_nw, I_nw, J_nw, R_nw, EI_nw, EJ_nw, ER_nw, nI_add]
  have i2 : ((h1.sEI 2224 (U + 7) i (nI p)).sI 3594 U (nI i + nI 1)).EI 2224 (U + 7) i = nI p := by simp [n_sI, z_sI, tag_sI, I_sI, J_sI, R_sI, EI_sI, EJ_sI, ER_sI, n_sJ, z_sJ, tag_sJ, I_sJ, J_sJ, R_sJ, EI_sJ, EJ_sJ, ER_sJ, n_sR, z_sR, tag_sR, I_sR, J_sR, R_sR, EI_sR, EJ_sR, ER_sR, n_sEI, z_sEI, tag_sEI, I_sEI, J_sEI, R_sEI, EI_sEI, EJ_sEI, ER_sEI, n_sEJ, z_sEJ, tag_sEJ, I_sEJ, J_sEJ, R_sEJ, EI_sEJ, EJ_sEJ, ER_sEJ, n_sER, z_sER, tag_sER, I_sER, J_sER, R_sER, EI_sER, EJ_sER, ER_sER, n_nw, z_nw, tag_nw, I_nw, J_nw, R_nw, EI_nw, EJ_nw, ER_nw]
  have j2 : ∀ j, j ≠ i → ((h1.sEI 2224 (U + 7) i (nI p)).sI 3594 U (nI i + nI 1)).EI 2224 (U + 7) j = h.EI 2224 (U + 7) j := fun j hj => by
    have : h1.EI 2224 (U + 7) j = h.EI 2224 (U + 7) j := f1.1.EI (UQ.n rfl) j
    simpa [n_sI, z_sI, tag_sI, I_sI, J_sI, R_sI, EI_sI, EJ_sI, ER_sI, n_sJ, z_sJ, tag_sJ, I_sJ, J_sJ, R_sJ, EI_sJ, EJ_sJ, ER_sJ, n_sR, z_sR, tag_sR, I_sR, J_sR, R_sR, EI_sR, EJ_sR, ER_sR, n_sEI, z_sEI, tag_sEI, I_sEI, J_sEI, R_sEI, EI_sEI, EJ_sEI, ER_sEI, n_sEJ, z_sEJ, tag_sEJ, I_sEJ, J_sEJ, R_sEJ, EI_sEJ, EJ_sEJ, ER_sEJ, n_sER, z_sER, tag_sER, I_sER, J_sER, R_sER, EI_sER, EJ_sER, ER_sER, n_nw, z_nw, tag_nw, I_nw, J_nw, R_nw, EI_nw, EJ_nw, ER_nw, hj] using this
  have uf2 : ((h1.sEI 2224 (U + 7) i (nI p)).sI 3594 U (nI i + nI 1)).I 3587 U = 0 := by simpa [n_sI, z_sI, tag_sI, I_sI, J_sI, R_sI, EI_sI, EJ_sI, ER_sI, n_sJ, z_sJ, tag_sJ, I_sJ, J_sJ, R_sJ, EI_sJ, EJ_sJ, ER_sJ, n_sR, z_sR, tag_sR, I_sR, J_sR, R_sR, EI_sR, EJ_sR, ER_sR, n_sEI, z_sEI, tag_sEI, I_sEI, J_sEI, R_sEI, EI_sEI, EJ_sEI, ER_sEI, n_sEJ, z_sEJ, tag_sEJ, I_sEJ, J_sEJ, R_sEJ, EI_sEJ, EJ_sEJ, ER_sEJ, n_sER, z_sER, tag_sER, I_sER, J_sER, R_sER, EI_sER, EJ_sER, ER_sER, n_nw, z_nw, tag_nw, I_nw, J_nw, R_nw, EI_nw, EJ_nw, ER_nw] using uf
  generalize (h1.sEI 2224 (U + 7) i (nI p)).sI 3594 U (nI i + nI 1) = h2 at *
  have s2 := hs.uq f2 rfl
  have u2 := s2.1.1
  have F2 := f2.mono (UQ.mono (l' := uiG) rfl)
  have done : ∀ h', Fq (UQ [3586] U) h2 h' → Fq (UQ uiF U) h h' ∧ h'.I 3594 U = nI (i + 1) ∧ h'.EI 2224 (U + 7) i = nI p ∧ (∀ j, j ≠ i → h'.EI 2224 (U + 7) j = h.EI 2224 (U + 7) j) := fun h' f' =>
    ⟨f2.trans (f'.mono (UQ.mono rfl)), by rw [f'.1.I (UQ.n rfl)]; exact l2, by rw [f'.1.EI (UQ.n rfl)]; exact i2, fun j hj => by rw [f'.1.EI (UQ.n rfl)]; exact j2 j hj⟩
  refine ubyte_ok s2 (by omega) ?_
  have k3 := PQ_bd.mp k2
  refine k_X29_overInstruction_39 o (fun c => ?_) (fun c => ?_)
  rotate_left
  · have c : ¬ B p < 60 := fun z => c ((nI_leI (by omega) (by omega)).mpr (by omega))
    rw [decide_eq_false c] at k3
    have k3 := PQ_nf.mp k3
    refine k_X29_overInstruction_44 o ?_
    refine ufail_ok u2 uf2 (by decide) fun h' f' e1 e2 e3 => ?_
    refine k_X29_overInstruction_50 o ?_
    refine k_X29_overInstruction_100 o ?_
    exact k3 h' (F2.trans (f'.mono (UQ.mono rfl))) e1 e2 e3
  have c60 : B p < 60 := by have := (nI_leI (by omega) (by omega)).mp c; omega
  rw [decide_eq_true c60] at k3
  have k4 := PQ_bd.mp (PQ_nt.mp k3)
  have hfb : ∀ k : Fin 60, fq1 k.val + fq2 k.val ≤ 16 := by decide +kernel
  have hfb := hfb ⟨_, c60⟩
  simp only at hfb
  refine k_X29_overInstruction_53 o ?_
  refine ubyte_ok s2 (by omega) ?_
  refine k_X29_overInstruction_58 o (fun c => ?_) (fun c => ?_)
  · -- one go
    have c52 : ¬ B p = 52 := fun z => c (by rw [z])
    refine k_X29_overInstruction_87 o ?_
    refine ubyte_ok s2 (by omega) ?_
    refine k_X29_overInstruction_93 o ?_
    refine opb_ok c60 ?_
    refine k_X29_overInstruction_96 o ?_
    have two := fq_two (n := n) (B := B) (a := fq1 (B p)) (b := fq2 (B p)) (v := 0) (w := 0) (p := p + 1) hpn
    refine uover_ok s2 a2 hpn uf2 hfb (by omega) (fun cl h' f' a' => ?_) (fun cl h' f' e1 e2 e3 => ?_)
    · obtain ⟨x, y, ex, ey⟩ := two.1 cl
      rw [ex] at k4
      have k5 := nd52 c52 (PQ_k.mp k4)
      rw [ey] at k5
      obtain ⟨d1, d2, d3, d4⟩ := done h' f'
      refine k_X29_overInstruction_99 o ?_
      refine k_X29_overInstruction_100 o ?_
      exact k5 (by omega) (by omega) rfl h' d1 a' d2 d3 d4
    · have er : UE K uiG U h (.returned none) 2 n := by
        rcases two.2 cl with ez | ⟨x, ex, hx, ez⟩
        · rw [ez] at k4; exact k4
        · rw [ex] at k4
          have k5 := nd52 c52 (PQ_k.mp k4)
          rw [ez] at k5; exact k5
      refine k_X29_overInstruction_99 o ?_
      refine k_X29_overInstruction_100 o ?_
      exact er h' (F2.trans (f'.mono (UQ.mono rfl))) e1 e2 e3
  · have c52 : B p = 52 := (nI_eq (by omega) (by omega)).mp c
    have e1' : fq1 (B p) = 1 := by rw [c52]; rfl
    have e2' : fq2 (B p) = 1 := by rw [c52]; rfl
    rw [e1'] at k4
    refine k_X29_overInstruction_63 o ?_
    have k4 := k4
    refine uoverN_ok (v := 0) s2 a2 hpn uf2 (by omega) (by omega) (k4.mono (fun x p2 ex k5 hp2 h3 f3 a3 => ?_) (fun w q t h' f' e1 e2 e3 => ?_))
    rotate_left
    · have u3 := f'.1.tag u2
      refine k_X29_overInstruction_68 o ?_
      refine ubad_ok u3 e2 ?_
      refine k_X29_overInstruction_73 o (fun _ => ?_) (fun c => ?_)
      · refine k_X29_overInstruction_100 o ?_
        exact t h' (F2.trans (f'.mono (UQ.mono rfl))) e1 e2 e3
      · exact absurd rfl c
    have s3 := s2.uq f3 rfl
    have u3 := s3.1.1
    have uf3 : h3.I 3587 U = 0 := by rw [f3.1.I (UQ.n rfl)]; exact uf2
    have hp2' : p + 1 ≤ p2 := by
      have := rdN_if (n := n) (B := B) 1 (v := 0) hpn
      rcases Nat.lt_or_ge n (p + 1 + 1) with z | z
      · rw [this.2 z] at ex; cases ex
      · obtain ⟨v', ev⟩ := this.1 z
        rw [ev] at ex; cases ex; omega
    refine k_X29_overInstruction_68 o ?_
    refine ugood_ok u3 uf3 ?_
    refine k_X29_overInstruction_73 o (fun c => ?_) (fun _ => ?_)
    · exact absurd c (by decide)
    refine k_X29_overInstruction_76 o ?_
    have k6 := PQ_bd.mp k5
    have F3 := F2.trans (f3.mono (UQ.mono (l' := uiG) rfl))
    refine ucount_ok s3 a3 hp2 uf3 (by omega) (by omega) (by omega) ?_
    rw [e2'] at k6
    unfold rdC rdB
    by_cases cn : p2 < n
    · by_cases cb : B p2 ≤ 64
      · rw [decide_eq_true (Or.inr (Or.inr cb))] at k6
        have k8 := PQ_bd.mp (PQ_nt.mp k6)
        obtain ⟨v', ev⟩ := (rdN_if (n := n) (B := B) 1 (v := 0) hp2).1 cn
        rw [ev] at k8
        rw [if_pos cn]
        show PQ (bd (nd (decide (0 ≤ B p2 ∧ B p2 ≤ 64)) 3 p2 (p2 + 1)) fun _ p' => .ok (B p2, p')) _ _
        rw [decide_eq_true ⟨Nat.zero_le _, cb⟩]
        intro hq1 _ h' f' a'
        refine k_X29_overInstruction_83 o ?_
        obtain ⟨d1, d2, d3, d4⟩ := done h' (f3.trans f')
        refine k_X29_overInstruction_100 o ?_
        exact k8 (by omega) hq1 rfl h' d1 a' d2 d3 d4
      · rw [decide_eq_false (by omega)] at k6
        have k7 := PQ_nf.mp k6
        rw [if_pos cn]
        show PQ (bd (nd (decide (0 ≤ B p2 ∧ B p2 ≤ 64)) 3 p2 (p2 + 1)) fun _ p' => .ok (B p2, p')) _ _
        rw [decide_eq_false (by omega)]
        intro h' f' e1 e2 e3
        refine k_X29_overInstruction_83 o ?_
        refine k_X29_overInstruction_100 o ?_
        exact k7 h' (F3.trans (f'.mono (UQ.mono rfl))) e1 e2 e3
    · rw [decide_eq_true (Or.inr (Or.inl (by omega)))] at k6
      have k8 := PQ_bd.mp (PQ_nt.mp k6)
      rw [(rdN_if (n := n) (B := B) 1 (v := 0) hp2).2 (by omega)] at k8
      rw [if_neg cn]
      intro h' f' e1 e2 e3
      refine k_X29_overInstruction_83 o ?_
      refine k_X29_overInstruction_100 o ?_
      exact k8 h' (F3.trans (f'.mono (UQ.mono rfl))) e1 e2 e3
