/-! the twin's machine: modules, calls -/
def uxf (lm : List Nat) (n : Nat) : Nat := match (lm.findIdx? fun x => x == n) with
  | some i => i + 1
  | none => 0
/-- units of the modules -/
def UNI (h : AH) (tx : Nat → Nat) (lm : List Nat) (bt : Nat → By) (W : Wd) : Prop := lm.length ≤ 8 ∧ lm.Nodup ∧ (∀ n m, W n = some m → n ≠ 0 → n ∈ lm) ∧ ∀ (i n : Nat), lm[i]? = some n → (n < 65536 ∧ n ≠ 0) ∧ ∃ m U, W n = some m ∧ h.ER 908 (tx 15) (i + 1) = some U ∧ SU h U (bt n).1 (bt n).2 ∧ UM h U (bt n).1 (bt n).2 m ∧ m.1 = 256 * (bt n).2 4 + (bt n).2 5 ∧ m.1 = n
theorem UNI.fs {h h' : AH} {tx : Nat → Nat} {lm : List Nat} {bt : Nat → By} {W : Wd} {f : List Nat} (q : Fq (FS f) h h') (hf : ((10000 + 908) :: sbF ++ umF).all (fun g => !(f.contains g)) = true) (u : UNI h tx lm bt W) : UNI h' tx lm bt W := by
  obtain ⟨u1, u2, u3, u4⟩ := u
  have np : ∀ l' : List Nat, l'.all (fun g => ((10000 + 908) :: sbF ++ umF).contains g) = true → ∀ g a, l'.contains g = true → ¬ FS f g a := fun l' h' g a hg => FS.no hf g a (by rw [List.all_eq_true] at h'; exact h' g (List.contains_iff_mem.mp hg))
  refine ⟨u1, u2, u3, fun i n hi => ?_⟩
  obtain ⟨a, m, U, b1, b2, b3, b4, b5⟩ := u4 i n hi
  exact ⟨a, m, U, b1, by rw [q.1.ER (np [10000 + 908] (by decide) _ _ rfl)]; exact b2, b3.fr q.1 (fun g a hg _ _ => np sbF (by decide) g a hg), b4.fr q.1 (np umF (by decide)), b5⟩
theorem UNI.at {h : AH} {tx : Nat → Nat} {lm : List Nat} {bt : Nat → By} {W : Wd} {n : Nat} {m : Md} (u : UNI h tx lm bt W) (hW : W n = some m) (h0 : n ≠ 0) : ∃ i U, lm[i]? = some n ∧ uxf lm n = i + 1 ∧ i < 8 ∧ h.ER 908 (tx 15) (i + 1) = some U ∧ SU h U (bt n).1 (bt n).2 ∧ UM h U (bt n).1 (bt n).2 m ∧ m.1 = 256 * (bt n).2 4 + (bt n).2 5 ∧ m.1 = n ∧ n < 65536 := by
  obtain ⟨u1, u2, u3, u4⟩ := u
  have hm := u3 n m hW h0
  cases hf : (lm.findIdx? fun x => x == n) with
  | none =>
    rw [List.findIdx?_eq_none_iff] at hf
    have := hf n hm
    simp at this
  | some i =>
    have hf' := hf
    rw [List.findIdx?_eq_some_iff_getElem] at hf
    obtain ⟨il, e1, -⟩ := hf
    have e1 : lm[i] = n := by simpa using e1
    have hi : lm[i]? = some n := by rw [List.getElem?_eq_getElem il, e1]
    obtain ⟨a, m', U, b1, b2, b3, b4, b5, b6⟩ := u4 i n hi
    rw [hW] at b1
    cases b1
    exact ⟨i, U, hi, by unfold uxf; rw [hf'], by omega, b2, b3, b4, b5, b6, a.1⟩
/-- what a step owes -/
def RZS (K : Outcome → AH → Prop) (h : AH) (A : Nat) (tx UX : Nat → Nat) (r : Rz) : Prop := match r with
  | none => True
  | some (.ok s') => ∀ h' o' n', Fq (FS twF) h h' → TK h' A tx UX (fun j => (s'.2.1 j).2.1) o' n' s' → T5 o' → NB n' s' → K (.returned none) h'
  | some (.error e) => ∀ h', Fq (FS twF) h h' → TKX h' A e.1 e.2.1 (gas e.2.2) → K (.returned none) h'
section
variable {G : Gt} {d : Nat} {h h' : AH} {o o' : Lc} {tx ax UX at' at2 : Nat → Nat} {A n n' lim : Nat} {snd : Int64} {s : Ms} {K : Outcome → AH → Prop} {t : Tst} {env : Pc → Cn} {W : Wd} {lm : List Nat} {bt : Nat → By}
theorem tfmo_ok {num : Nat} (t0 : h.tag A = some (22, 0)) (sm : SMm h A tx) (u : UNI h tx lm bt W) (hm : h.I 2821 A = nI lm.length) (hn : num < 65536) (hd : 3 ≤ d) (kk : K (.returned (some (.int (nI (uxf lm num))))) h) : MW G d e_X23_findModule [.ref A, .int (nI num)] h K := by
  refine st_X23_findModule fun X oo hG hD _ => ?_
  subst hG; subst hD
  obtain ⟨u1, u2, u3, u4⟩ := u
  obtain ⟨r1, r2⟩ := sm.at 14 rfl
  refine k_X23_findModule_0 (r2 := hm) oo ?_
  have loop : ∀ k, k ≤ lm.length → (∀ i, k ≤ i → lm[i]? ≠ some num) → V X K 5 [.ref A, .int (nI num), .int (nI k)] [] h := by
    intro k
    induction k with
    | zero =>
      intro _ hb
      have : (lm.findIdx? fun x => x == num) = none := by
        rw [List.findIdx?_eq_none_iff]
        intro x hx
        obtain ⟨j, hj⟩ := List.getElem?_of_mem hx
        have := hb j (by omega)
        rw [hj] at this
        simpa using fun e => this (by rw [e])
      unfold uxf at kk
      rw [this] at kk
      refine k_X23_findModule_5 oo (fun _ => ?_) (fun q => absurd (by decide) q)
      exact k_X23_findModule_28 oo kk
    | succ k ih =>
      intro hk hb
      obtain ⟨y, hy⟩ : ∃ y, lm[k]? = some y := ⟨_, List.getElem?_eq_getElem (by omega)⟩
      obtain ⟨⟨y1, y2⟩, m, U, b1, b2, b3, b4, b5, b6⟩ := u4 k y hy
      have tU : h.tag U = some (28, 0) := b3.1.1
      have ix : IX (nI (k + 1)) 10 (k + 1) := IX.mk (by omega) (by omega)
      refine k_X23_findModule_5 oo (fun q => absurd ((nI_leI (a := k + 1) (b := 0) (by omega) (by omega)).mp q) (by omega)) (fun _ => ?_)
      refine k_X23_findModule_9 (r2 := r1) (r8 := b2) oo ?_
      refine unum_ok b3 b5 (by omega) ?_
      rw [b6]
      by_cases e : y = num
      · have hf : (lm.findIdx? fun x => x == num) = some k := by
          rw [List.findIdx?_eq_some_iff_getElem]
          have yk : lm[k] = y := by rw [List.getElem?_eq_getElem (by omega)] at hy; exact Option.some.inj hy
          refine ⟨by omega, by rw [yk, e]; simp, fun j hj => ?_⟩
          simp only [beq_iff_eq]
          intro z
          have := (List.getElem?_inj (show j < lm.length by omega) u2).mp (show lm[j]? = lm[k]? by rw [hy, List.getElem?_eq_getElem (by omega), z, e])
          omega
        unfold uxf at kk
        rw [hf] at kk
        refine k_X23_findModule_18 oo (fun _ => ?_) (fun q => absurd (by rw [e]) q)
        exact k_X23_findModule_28 oo kk
      · refine k_X23_findModule_18 oo (fun q => absurd ((nI_eq (by omega) (by omega)).mp q) e) (fun _ => ?_)
        refine k_X23_findModule_22 oo ?_
        rw [pred_s]
        refine ih (by omega) (fun i hi => ?_)
        by_cases ei : i = k
        · rw [ei, hy]; intro z; exact e (Option.some.inj z)
        · exact hb i (by omega)
  exact loop lm.length (Nat.le_refl _) (fun i hi => by rw [List.getElem?_eq_none hi]; intro z; cases z)
theorem tgive_ok {m : Md} {u : Ux} (k : TK h A tx UX at' o n s) (un' : UNC h A m) (h1 : 1 ≤ s.1) (hu : m.2.2.2.2.2[(tpf s).1.2]? = some u) (hf : (tpf s).1.2 < 64) (hl : (stk s).length = u.2.2.1.length) (hd : 8 ≤ d) (k1 : 2 ≤ s.1 → ∀ h', Fq (FS [2852]) h h' → h'.I 2852 A = nI (s.1 - 1) → K (.returned none) h') (k2 : s.1 = 1 → ∀ h', Fq (FS [2852, 2843, 2844]) h h' → h'.I 2852 A = nI 0 → h'.I 2843 A = nI 0 → h'.J 2844 A = 0 → K (.returned none) h') : MW G d e_X23_giveBack [.ref A] h K := by
  refine st_X23_giveBack fun X oo hG hD _ => ?_
  subst hG; subst hD
  have t0 := k.t0
  obtain ⟨U, nb, B, u1, u2, u3, u4⟩ := un'
  have tU : h.tag U = some (28, 0) := u2.1.1
  obtain ⟨e1, e2, e3, e4⟩ := k.hgt h1
  obtain ⟨⟨c1, c2⟩, ⟨k3, k4, k5, k6, k7⟩, ⟨k8, k8', k8''⟩, k9, k10, k11, k12, k13⟩ := id k
  obtain ⟨⟨f1, f2, f3, f4⟩, -⟩ := k9 (s.1 - 1) (by omega)
  obtain ⟨r1, r2⟩ := c1.at 7 rfl
  obtain ⟨r3, r4⟩ := c1.at 4 rfl
  have is : nI s.1 - nI 1 = nI (s.1 - 1) := nI_sub (by omega)
  have ix1 : IX (nI s.1 - nI 1) 32 (s.1 - 1) := by rw [is]; exact IX.mk (by omega) (by omega)
  have ed : nI (bsf s.2.1 s.1) - nI (bsf s.2.1 (s.1 - 1)) = nI (stk s).length := by
    rw [nI_sub (by omega)]; congr 1; omega
  have ful : (tpf s).1.2 < m.2.2.2.2.2.length := get_lt hu
  have efl : (fls m (tpf s).1.2 1).length = (stk s).length := by
    unfold fls
    rw [if_pos ful, hu, hl]; rfl
  have f3 : h.EI 1136 (tx 8) (s.1 - 1) = nI (tpf s).1.2 := f3
  refine k_X23_giveBack_0 (r2 := u1) (r4 := r1) (r6 := k5) (b10 := ix1) (r12 := f3) oo ?_
  refine umny_ok u2 u3 (by omega) (by omega) (by omega) ?_
  rw [efl]
  refine k_X23_giveBack_19 (r2 := k6) (r4 := r3) (r6 := k5) (b10 := ix1) (r12 := f1) oo (fun _ => ?_) (fun q => absurd ed q)
  have q1 : Fq (FS [2852]) h (h.sI 2852 A (nI (s.1 - 1))) := Fq.sI (Fq.refl h) (fsr rfl)
  have g1 : (h.sI 2852 A (nI (s.1 - 1))).I 2852 A = nI (s.1 - 1) := by simp [n_sI, z_sI, tag_sI, I_sI, J_sI, R_sI, EI_sI, EJ_sI, ER_sI, n_sJ, z_sJ, tag_sJ, I_sJ, J_sJ, R_sJ, EI_sJ, EJ_sJ, ER_sJ, n_sR, z_sR, tag_sR, I_sR, J_sR, R_sR, EI_sR, EJ_sR, ER_sR, n_sEI, z_sEI, tag_sEI, I_sEI, J_sEI, R_sEI, EI_sEI, EJ_sEI, ER_sEI, n_sEJ, z_sEJ, tag_sEJ, I_sEJ, J_sEJ, R_sEJ, EI_sEJ, EJ_sEJ, ER_sEJ, n_sER, z_sER, tag_sER, I_sER, J_sER, R_sER, EI_sER, EJ_sER, ER_sER, n_nw, z_nw, tag_nw, I_nw, J_nw, R_nw, EI_nw, EJ_nw, ER_nw]
  by_cases c : s.1 = 1
  · refine k_X23_giveBack_44 (r2 := k5) oo (fun q => absurd (by rw [is, c]; rfl) q) (fun _ => ?_)
    rw [is]
    have t01 := q1.1.tag t0
    refine k_X23_giveBack_61 oo ?_
    refine mEnd_ok (oc := 0) t01 (by rw [q1.1.I (FS.n rfl)]; exact k3) (fun h2 q2 o2 j2 => ?_)
    refine k_X23_giveBack_67 oo ?_
    refine k2 c h2 ((q1.mono fun f a z => ?_).trans (q2.mono fun f a z => ?_)) ?_ o2 j2
    · exact FS.l (a := [2852]) (b := [2843, 2844]) z
    · exact FS.r (a := [2852]) (b := [2843, 2844]) z
    · rw [q2.1.I (FS.n rfl), g1, c]
  · refine k_X23_giveBack_44 (r2 := k5) oo (fun _ => ?_) (fun q => absurd ((nI_eq (a := s.1 - 1) (b := 0) (by omega) (by omega)).mp (by rw [← is]; exact q)) (by omega))
    rw [is]
    refine k_X23_giveBack_67 oo ?_
    exact k1 (by omega) _ q1 g1
end
