/-! types and instructions, gone over -/
theorem PQ.ok {α : Type} {r : Pz α} {ok : α → Nat → Prop} {er : Nat → Nat → Prop} (h : PQ r ok er) {a : α} {q : Nat} (e : r = .ok (a, q)) : ok a q := by rw [e] at h; exact h
theorem uovT_ok {G : Gt} {d : Nat} {h : AH} {K : Outcome → AH → Prop} {U n p : Nat} {B : Nat → Nat} {r : Bool} (hs : SU h U n B) (ha : h.I 3586 U = nI p) (hp : p ≤ n) (hf : h.I 3587 U = 0) (hd : 2 ≤ d)
    (kk : PQ (rdT n B r p) (fun _ p' => p < p' → p' ≤ n → ∀ h', Fq (UQ [3586] U) h h' → h'.I 3586 U = nI p' → K (.returned none) h') (UE K uaF U h (.returned none))) : MW G d e_X29_overType [.ref U, .int (bI r)] h K := by
  refine st_X29_overType fun X o hG hD _ => ?_
  subst hG; subst hD
  have s0 := hs.1.1
  have hn := hs.2.2.1
  have hB := hs.2.2.2.1
  have kk := PQ_bd.mp (PQ_bd.mp kk)
  -- behind a fault
  have bad : ∀ hx v2 v3 v4, Fq (UQ uaF U) h hx → hx.I 3587 U ≠ 0 → K (.returned none) hx → V X K 80 [.ref U, .int (bI r), v2, v3, v4] [] hx := fun hx v2 v3 v4 fx uf k => by
    have u0 := fx.1.tag s0
    refine k_X29_overType_80 o ?_
    refine ubad_ok u0 uf ?_
    refine k_X29_overType_84 o (fun c => ?_) (fun c => ?_)
    · exact absurd rfl c
    refine k_X29_overType_87 o ?_
    exact k
  -- behind the vectors
  have tail : ∀ q hx v3 v4, p ≤ q → q < n → Fq (UQ [3586] U) h hx → hx.I 3586 U = nI (q + 1) → ∀ t, PQ (if 1 ≤ B q ∧ B q ≤ 6 then (if B q = 6 then bd (rdB n B (q + 1)) fun c p' => .ok (t ++ [c], p') else .ok (t, q + 1)) else .error (4, q) : Pz Ty) (fun t' p' => PQ (.ok ((t', p' - 1), p') : Pz (Ty × Nat)) (fun _ p' => p < p' → p' ≤ n → ∀ h', Fq (UQ [3586] U) h h' → h'.I 3586 U = nI p' → K (.returned none) h') (UE K uaF U h (.returned none))) (UE K uaF U h (.returned none)) → V X K 80 [.ref U, .int (bI r), .int (nI q), v3, v4] [] hx := by
    intro q hx v3 v4 hq hqn fx ax t kx
    have sx := hs.uq fx rfl
    have u0 := sx.1.1
    have uf : hx.I 3587 U = 0 := by rw [fx.1.I (UQ.n rfl)]; exact hf
    have hBq := hB q
    refine k_X29_overType_80 o ?_
    refine ugood_ok u0 uf ?_
    refine k_X29_overType_84 o (fun _ => ?_) (fun c => ?_)
    rotate_left
    · exact absurd c (by decide)
    refine k_X29_overType_88 o ?_
    refine ubyte_ok sx (by omega) ?_
    have fl : ¬ (1 ≤ B q ∧ B q ≤ 6) → V X K 108 [.ref U, .int (bI r), .int (nI q), v3, .int (nI (B q))] [] hx := fun c => by
      rw [if_neg c] at kx
      refine k_X29_overType_108 o ?_
      refine ufail_ok u0 uf (by decide) fun h' f' e1 e2 e3 => ?_
      refine k_X29_overType_114 o ?_
      refine k_X29_overType_130 o ?_
      exact kx h' ((fx.mono (UQ.mono rfl)).trans (f'.mono (UQ.mono rfl))) e1 e2 e3
    refine k_X29_overType_93 o (fun c => ?_) (fun c => ?_)
    · exact fl fun z => absurd ((nI_ltI (by omega) (by omega)).mp c) (by omega)
    have c1 : 1 ≤ B q := Nat.not_lt.mp fun z => c ((nI_ltI (by omega) (by omega)).mpr z)
    refine k_X29_overType_101 o (fun c => ?_) (fun c => ?_)
    rotate_left
    · exact fl fun z => c ((nI_leI (by omega) (by omega)).mpr z.2)
    have c2 := (nI_leI (by omega) (by omega)).mp c
    rw [if_pos ⟨c1, c2⟩] at kx
    refine k_X29_overType_117 o (fun c => ?_) (fun c => ?_)
    · have c : ¬ B q = 6 := fun z => c (by rw [z])
      rw [if_neg c] at kx
      refine k_X29_overType_130 o ?_
      exact kx (by omega) (by omega) hx fx ax
    · have c : B q = 6 := (nI_eq (by omega) (by omega)).mp c
      rw [if_pos c] at kx
      refine k_X29_overType_124 o ?_
      refine uover1_ok sx ax (by omega) uf (by omega) ((PQ_bd.mp kx).mono (fun b p1 e k2 h1 f1 a1 => ?_) (fun w q t h' f' e1 e2 e3 => ?_))
      · obtain ⟨-, rfl, hlt⟩ := rdB_ok e
        refine k_X29_overType_129 o ?_
        refine k_X29_overType_130 o ?_
        exact k2 (by omega) (by omega) h1 (fx.trans f1) a1
      · refine k_X29_overType_129 o ?_
        refine k_X29_overType_130 o ?_
        exact t h' ((fx.mono (UQ.mono rfl)).trans f') e1 e2 e3
  -- vectors
  have loop : ∀ k q hx t v4, k ≤ 4 → p ≤ q → q < n → Fq (UQ [3586] U) h hx → hx.I 3586 U = nI (q + 1) → PQ (rdV n B k (B q) t (q + 1)) (fun t' p' => PQ (.ok ((t', p' - 1), p') : Pz (Ty × Nat)) (fun _ p' => p < p' → p' ≤ n → ∀ h', Fq (UQ [3586] U) h h' → h'.I 3586 U = nI p' → K (.returned none) h') (UE K uaF U h (.returned none))) (UE K uaF U h (.returned none)) → V X K 46 [.ref U, .int (bI r), .int (nI q), .int (nI (4 - k)), v4] [] hx := by
    intro k
    induction k with
    | zero =>
      intro q hx t v4 hk hq hqn fx ax kx
      have sx := hs.uq fx rfl
      have u0 := sx.1.1
      have uf : hx.I 3587 U = 0 := by rw [fx.1.I (UQ.n rfl)]; exact hf
      have hBq := hB q
      unfold rdV at kx
      refine k_X29_overType_46 o ?_
      refine ugood_ok u0 uf ?_
      refine k_X29_overType_50 o (fun c => ?_) (fun _ => ?_)
      · exact absurd c (by decide)
      refine k_X29_overType_53 o ?_
      refine ubyte_ok sx (by omega) ?_
      refine k_X29_overType_58 o (fun c => ?_) (fun c => ?_)
      · have c : ¬ B q = 7 := fun z => c (by rw [z])
        rw [if_neg c, Nat.add_sub_cancel] at kx
        exact tail q hx _ _ hq hqn fx ax t kx
      · have c : B q = 7 := (nI_eq (by omega) (by omega)).mp c
        refine k_X29_overType_63 o (fun _ => ?_) (fun c2 => ?_)
        rotate_left
        · exact absurd (by decide) c2
        refine tail q hx _ _ hq hqn fx ax t ?_
        rw [if_neg (by omega)]
        rw [if_pos c] at kx
        exact kx
    | succ k ih =>
      intro q hx t v4 hk hq hqn fx ax kx
      have sx := hs.uq fx rfl
      have u0 := sx.1.1
      have uf : hx.I 3587 U = 0 := by rw [fx.1.I (UQ.n rfl)]; exact hf
      have hBq := hB q
      unfold rdV at kx
      refine k_X29_overType_46 o ?_
      refine ugood_ok u0 uf ?_
      refine k_X29_overType_50 o (fun c => ?_) (fun _ => ?_)
      · exact absurd c (by decide)
      refine k_X29_overType_53 o ?_
      refine ubyte_ok sx (by omega) ?_
      refine k_X29_overType_58 o (fun c => ?_) (fun c => ?_)
      · have c : ¬ B q = 7 := fun z => c (by rw [z])
        rw [if_neg c, Nat.add_sub_cancel] at kx
        exact tail q hx _ _ hq hqn fx ax t kx
      · have c : B q = 7 := (nI_eq (by omega) (by omega)).mp c
        rw [if_pos c] at kx
        refine k_X29_overType_63 o (fun c2 => ?_) (fun _ => ?_)
        · exact absurd ((nI_leI (by omega) (by omega)).mp c2) (by omega)
        refine k_X29_overType_68 o ?_
        rw [nI_add]
        refine uover1_ok sx ax (by omega) uf (by omega) ((PQ_bd.mp kx).mono (fun b p1 e k2 h1 f1 a1 => ?_) (fun w q t h' f' e1 e2 e3 => ?_))
        · obtain ⟨rfl, rfl, hlt⟩ := rdB_ok e
          refine k_X29_overType_76 o ?_
          have := ih (q + 1) h1 (t ++ [B (q + 1)]) v4 (by omega) (by omega) hlt (fx.trans f1) a1 k2
          rw [show 4 - (k + 1) + 1 = 4 - k by omega]
          exact this
        · refine k_X29_overType_76 o ?_
          have F' := (fx.mono (UQ.mono (l' := uaF) rfl)).trans f'
          have u1 := F'.1.tag s0
          refine k_X29_overType_46 o ?_
          refine ubad_ok u1 e2 ?_
          refine k_X29_overType_50 o (fun _ => ?_) (fun c => ?_)
          · exact bad h' _ _ _ F' e2 (t h' F' e1 e2 e3)
          · exact absurd rfl c
  refine k_X29_overType_0 o ?_
  refine uover1_ok hs ha hp hf (by omega) (kk.mono (fun b p1 e k2 h1 f1 a1 => ?_) (fun w q t h' f' e1 e2 e3 => ?_))
  rotate_left
  · have u0 := f'.1.tag s0
    show V X K 5 [.ref U, .int (bI r), nov, nov, nov] [.int (nI p)] h'
    refine k_X29_overType_5 o ?_
    refine ubad_ok u0 e2 ?_
    refine k_X29_overType_10 o (fun c => ?_) (fun _ => ?_)
    · exact absurd rfl c
    refine k_X29_overType_13 o ?_
    exact t h' f' e1 e2 e3
  obtain ⟨rfl, rfl, hpn⟩ := rdB_ok e
  have s1 := hs.uq f1 rfl
  have u0 := s1.1.1
  have uf : h1.I 3587 U = 0 := by rw [f1.1.I (UQ.n rfl)]; exact hf
  have hBp := hB p
  show V X K 5 [.ref U, .int (bI r), nov, nov, nov] [.int (nI p)] h1
  refine k_X29_overType_5 o ?_
  refine ugood_ok u0 uf ?_
  refine k_X29_overType_10 o (fun _ => ?_) (fun c => ?_)
  rotate_left
  · exact absurd c (by decide)
  -- no reference
  have plain : (B p = 8 ∨ B p = 9 → r = false) → V X K 44 [.ref U, .int (bI r), .int (nI p), nov, nov] [] h1 := fun hr => by
    refine k_X29_overType_44 o ?_
    by_cases c : B p = 8 ∨ B p = 9
    · rw [if_pos c, hr c] at k2
      refine loop 4 p h1 [] _ (by omega) (by omega) hpn f1 a1 ?_
      unfold rdV
      rw [if_neg (by omega), if_neg (by omega), Nat.add_sub_cancel]
      exact k2
    · rw [if_neg c] at k2
      exact loop 4 p h1 [B p] _ (by omega) (by omega) hpn f1 a1 k2
  cases r with
  | false =>
    refine k_X29_overType_14 o (fun _ => ?_) (fun c => ?_)
    · exact plain fun _ => rfl
    · exact absurd rfl c
  | true =>
    refine k_X29_overType_14 o (fun c => ?_) (fun _ => ?_)
    · exact absurd c (by decide)
    have refs : B p = 8 ∨ B p = 9 → V X K 38 [.ref U, .int (bI true), .int (nI p), nov, nov] [] h1 := fun c => by
      rw [if_pos c, if_pos rfl] at k2
      refine k_X29_overType_38 o ?_
      refine uover1_ok s1 a1 (by omega) uf (by omega) ((PQ_bd.mp k2).mono (fun b p1 e k3 h2 f2 a2 => ?_) (fun w q t h' f' e1 e2 e3 => ?_))
      · obtain ⟨rfl, rfl, hlt⟩ := rdB_ok e
        refine k_X29_overType_43 o ?_
        refine k_X29_overType_44 o ?_
        exact loop 4 (p + 1) h2 _ _ (by omega) (by omega) hlt (f1.trans f2) a2 k3
      · refine k_X29_overType_43 o ?_
        have F' := (f1.mono (UQ.mono (l' := uaF) rfl)).trans f'
        have u1 := F'.1.tag s0
        refine k_X29_overType_44 o ?_
        refine k_X29_overType_46 o ?_
        refine ubad_ok u1 e2 ?_
        refine k_X29_overType_50 o (fun _ => ?_) (fun c => ?_)
        · exact bad h' _ _ _ F' e2 (t h' F' e1 e2 e3)
        · exact absurd rfl c
    refine k_X29_overType_18 o ?_
    refine ubyte_ok s1 (by omega) ?_
    refine k_X29_overType_23 o (fun c => ?_) (fun c => ?_)
    · exact refs (Or.inl ((nI_eq (by omega) (by omega)).mp c))
    have c8 : ¬ B p = 8 := fun z => c (by rw [z])
    refine k_X29_overType_28 o ?_
    refine ubyte_ok s1 (by omega) ?_
    refine k_X29_overType_33 o (fun c => ?_) (fun c => ?_)
    · have c9 : ¬ B p = 9 := fun z => c (by rw [z])
      exact plain fun z => by omega
    · exact refs (Or.inr ((nI_eq (by omega) (by omega)).mp c))
theorem uovL_ok {G : Gt} {d : Nat} {h : AH} {K : Outcome → AH → Prop} {U n p hi : Nat} {B : Nat → Nat} (hs : SU h U n B) (ha : h.I 3586 U = nI p) (hp : p ≤ n) (hf : h.I 3587 U = 0) (hhi : hi < 256) (hd : 3 ≤ d)
    (kk : PQ (rdL n B hi p) (fun _ p' => p < p' → p' ≤ n → ∀ h', Fq (UQ [3586] U) h h' → h'.I 3586 U = nI p' → K (.returned none) h') (UE K uaF U h (.returned none))) : MW G d e_X29_overList [.ref U, .int (nI hi), .int (nI 1)] h K := by
  refine st_X29_overList fun X o hG hD _ => ?_
  subst hG; subst hD
  have s0 := hs.1.1
  have hn := hs.2.2.1
  have kk := PQ_bd.mp kk
  refine k_X29_overList_0 o ?_
  refine ucount_ok hs ha hp hf (by omega) hhi (by omega) (kk.mono (fun m p1 e k2 hp1 hm h1 f1 a1 => ?_) (fun w q t h' f' e1 e2 e3 => ?_))
  rotate_left
  · refine k_X29_overList_6 o ?_
    refine k_X29_overList_10 o (fun _ => ?_) (fun c => ?_)
    · refine k_X29_overList_34 o ?_
      exact t h' f' e1 e2 e3
    · exact absurd ((nI_leI (by omega) (by omega)).mpr (Nat.le_refl _)) c
  obtain ⟨-, rfl, hpn, -⟩ := rdC_ok e
  have loop : ∀ k i q hx, k + i = m → p < q → q ≤ n → Fq (UQ [3586] U) h hx → hx.I 3586 U = nI q → PQ (rep (rdT n B true) k q) (fun _ p' => p < p' → p' ≤ n → ∀ h', Fq (UQ [3586] U) h h' → h'.I 3586 U = nI p' → K (.returned none) h') (UE K uaF U h (.returned none)) → V X K 10 [.ref U, .int (nI hi), .int (nI 1), .int (nI m), .int (nI i)] [] hx := by
    intro k
    induction k with
    | zero =>
      intro i q hx hi' hpq hq fx ax kx
      refine k_X29_overList_10 o (fun _ => ?_) (fun c => ?_)
      · refine k_X29_overList_34 o ?_
        exact kx hpq hq hx fx ax
      · exact absurd ((nI_leI (by omega) (by omega)).mpr (by omega)) c
    | succ k ih =>
      intro i q hx hi' hpq hq fx ax kx
      have sx := hs.uq fx rfl
      have u0 := sx.1.1
      have uf : hx.I 3587 U = 0 := by rw [fx.1.I (UQ.n rfl)]; exact hf
      have kx := PQ_bd.mp kx
      refine k_X29_overList_10 o (fun c => ?_) (fun _ => ?_)
      · exact absurd ((nI_leI (by omega) (by omega)).mp c) (by omega)
      refine k_X29_overList_16 o ?_
      refine ugood_ok u0 uf ?_
      refine k_X29_overList_20 o (fun c => ?_) (fun _ => ?_)
      · exact absurd c (by decide)
      refine k_X29_overList_23 o ?_
      refine uovT_ok (r := true) sx ax hq uf (by omega) (kx.mono (fun x p2 e2 k3 b1 b2 h2 f2 a2 => ?_) (fun w q t h' f' e1 e2 e3 => ?_))
      · refine k_X29_overList_28 o ?_
        rw [nI_add]
        refine ih (i + 1) p2 h2 (by omega) (by omega) b2 (fx.trans f2) a2 ?_
        exact (PQ_bd.mp k3).mono (fun _ _ _ z => z) fun _ _ z => z
      · have F' := (fx.mono (UQ.mono (l' := uaF) rfl)).trans f'
        have u1 := F'.1.tag s0
        have fin := t h' F' e1 e2 e3
        refine k_X29_overList_28 o ?_
        refine k_X29_overList_10 o (fun _ => ?_) (fun _ => ?_)
        · refine k_X29_overList_34 o ?_
          exact fin
        · refine k_X29_overList_16 o ?_
          refine ubad_ok u1 e2 ?_
          refine k_X29_overList_20 o (fun _ => ?_) (fun c => ?_)
          · refine k_X29_overList_34 o ?_
            exact fin
          · exact absurd rfl c
  refine k_X29_overList_6 o ?_
  exact loop m 0 (p + 1) h1 (by omega) (by omega) hp1 f1 a1 k2
