/-! the twin's machine: branches, ends -/
section
variable {G : Gt} {d : Nat} {h h' : AH} {o o' : Lc} {tx ax UX at' at2 : Nat → Nat} {A n n' lim : Nat} {snd : Int64} {s : Ms} {K : Outcome → AH → Prop} {t : Tst} {env : Pc → Cn}
theorem TK.at (k : TK h A tx UX at' o n s) (ha : ∀ j, j < s.1 → at2 j = at' j) : TK h A tx UX at2 o n s := by
  obtain ⟨k1, k2, k3, k9, k10⟩ := k
  refine ⟨k1, k2, k3, fun j hj => ?_, k10⟩
  obtain ⟨⟨f1, f2, f3, f4⟩, f5⟩ := k9 j hj
  exact ⟨⟨f1, f2, f3, by rw [ha j hj]; exact f4⟩, f5⟩
/-- references that are not noted are forgotten -/
theorem TK.fg (k : TK h A tx UX at' o n s) {m : Md} {u : Ux} {i : Nat} : TK h A tx UX at' o n (nx m u i s) := by
  obtain ⟨k1, ⟨k3, k4, k5, k6, k7⟩, k8, k9, k10, k11, k12, k13⟩ := k
  have sk : ∀ j, ((nx m u i s).2.1 j).2.2.2 = (s.2.1 j).2.2.2 := fun j => by
    show (uF s.2.1 (s.1 - 1) ((tpf s).1, i, fgl (lnt m u i) (lcs s), stk s) j).2.2.2 = _
    by_cases e : j = s.1 - 1
    · rw [e, uF_s]; rfl
    · rw [uF_n e]
  have bs : ∀ j, bsf (nx m u i s).2.1 j = bsf s.2.1 j := fun j => bsf_c fun i _ => sk i
  refine ⟨k1, ⟨k3, k4, k5, by show _ = nI (bsf (nx m u i s).2.1 s.1); rw [bs]; exact k6, k7⟩, k8, fun j hj => ?_, k10, fun p hp => by have hp : bsf (nx m u i s).2.1 s.1 ≤ p := hp; rw [bs] at hp; exact k11 p hp, k12, k13⟩
  have hj : j < s.1 := hj
  rw [bs]
  obtain ⟨⟨f1, f2, f3, f4⟩, ⟨f5, f6⟩, f7⟩ := k9 j hj
  show TKF h o tx UX at' (bsf s.2.1 j) j (uF s.2.1 (s.1 - 1) ((tpf s).1, i, fgl (lnt m u i) (lcs s), stk s) j)
  by_cases e : j = s.1 - 1
  · subst e
    rw [uF_s]
    refine ⟨⟨f1, f2, f3, f4⟩, ⟨f5, f6⟩, fun x => ?_⟩
    have := f7 x
    by_cases c : x < 40
    · rw [if_pos c] at this ⊢
      show TKL h o tx (s.1 - 1) x (fgl (lnt m u i) (lcs s) x)
      have this : TKL h o tx (s.1 - 1) x (lcs s x) := this
      unfold fgl
      cases hl : lcs s x with
      | none => rw [hl] at this; exact this
      | some v =>
        rw [hl] at this
        cases v with
        | inl v => exact this
        | inr r =>
          show TKL h o tx (s.1 - 1) x (if (lgt (lnt m u i) x).isSome then some (.inr r) else none)
          split
          · exact this
          · exact this.1
    · rw [if_neg c] at this ⊢; exact this
  · rw [uF_n e]
    exact ⟨⟨f1, f2, f3, f4⟩, ⟨f5, f6⟩, f7⟩
/-- the next instruction is written -/
theorem TK.nxt {to : Nat} (k : TK h A tx UX at' o n s) (h1 : 1 ≤ s.1) (q : Fq (FS [10000 + 1152]) h h') (e1 : h'.EI 1152 (tx 6) (s.1 - 1) = nI to) (e2 : ∀ p, p ≠ s.1 - 1 → h'.EI 1152 (tx 6) p = h.EI 1152 (tx 6) p) : TK h' A tx UX (fun j => if j = s.1 - 1 then to else at' j) o n s := by
  obtain ⟨⟨k1, k2⟩, ⟨k3, k4, k5, k6, k7⟩, k8, k9, k10, k11⟩ := k
  refine ⟨⟨k1.fr q.1 (FS.no (by decide)), k2.fr q.1 (FS.no (by decide))⟩, ⟨by rw [q.1.I (FS.n rfl)]; exact k3, by rw [q.1.I (FS.n rfl)]; exact k4, by rw [q.1.I (FS.n rfl)]; exact k5, by rw [q.1.I (FS.n rfl)]; exact k6, by rw [q.1.I (FS.n rfl)]; exact k7⟩, k8, fun j hj => ?_, fun e x hx => (k10 e x hx).kp (fun f hf a => q.1.EI (FS.n ?_) _) (fun f hf a => q.1.EJ (FS.n ?_) _) rfl, k11⟩
  · obtain ⟨⟨f1, f2, f3, f4⟩, ⟨f5, f6⟩, f7⟩ := k9 j hj
    refine ⟨⟨by rw [q.1.EI (FS.n (by decide))]; exact f1, by rw [q.1.EI (FS.n (by decide))]; exact f2, by rw [q.1.EI (FS.n (by decide))]; exact f3, ?_⟩, ⟨f5.kp (fun p _ _ => ⟨q.1.EI (FS.n (by decide)) _, q.1.EI (FS.n (by decide)) _, rfl⟩) (fun _ _ _ ha => ha), f6⟩, fun k => ?_⟩
    · show h'.EI 1152 (tx 6) j = nI (if j = s.1 - 1 then to else at' j)
      by_cases e : j = s.1 - 1
      · rw [if_pos e, e]; exact e1
      · rw [if_neg e, e2 j e]; exact f4
    · have := f7 k
      by_cases c : k < 40
      · rw [if_pos c] at this ⊢
        exact this.kp (q.1.EI (FS.n (by decide)) _) (q.1.EI (FS.n (by decide)) _) rfl (fun _ _ _ ha => ha)
      · rw [if_neg c] at this ⊢; exact this
  · simp only [List.mem_cons, List.mem_nil_iff, or_false] at hf
    rcases hf with e | e | e | e <;> (rw [e]; decide)
  · simp only [List.mem_cons, List.mem_nil_iff, or_false] at hf
    rcases hf with e | e <;> (rw [e]; decide)
/-- op 2, 3, 4 -/
theorem tbra_ok {op to : Nat} (k : TK h A tx UX at' o n s) (t5 : T5 o) (h1 : 1 ≤ s.1) (hop : 2 ≤ op ∧ op < 5) (hd : 4 ≤ d)
    (k1 : op = 2 → ∀ h', Fq (FS twF) h h' → TK h' A tx UX (fun j => if j = s.1 - 1 then to else at' j) o n s → K (.returned none) h')
    (k2' : op ≠ 2 → ∃ v t', stk s = .inl v :: t' ∧ v.1 = 1) (k3 : op ≠ 2 → ∀ v t', stk s = .inl v :: t' → ((v.2.1.2 == 1) == (op == 3)) = true → ∀ h' o', Fq (FS twF) h h' → T5 o' → TK h' A tx UX (fun j => if j = s.1 - 1 then to else at' j) o' n (sK s t') → K (.returned none) h')
    (k4 : op ≠ 2 → ∀ v t', stk s = .inl v :: t' → ((v.2.1.2 == 1) == (op == 3)) = false → ∀ h' o', Fq (FS twF) h h' → T5 o' → TK h' A tx UX at' o' n (sK s t') → K (.returned none) h') : MW G d e_X23_branch [.ref A, .int (nI op), .int (nI to)] h K := by
  refine st_X23_branch fun X oo hG hD _ => ?_
  subst hG; subst hD
  have t0 := k.t0
  have ev : ∀ j, j < 100 → (nI op = nI j ↔ op = j) := fun j hj => nI_eq (by omega) (by omega)
  -- the jump
  have jump : ∀ h2 o2 s2 L, s2.1 = s.1 → TK h2 A tx UX at' o2 n s2 → L.length = 5 → L[0]? = some (.ref A) → L[2]? = some (.int (nI to)) → L[3]? = some (.int (nI 1)) → (∀ h', Fq (FS [10000 + 1152]) h2 h' → TK h' A tx UX (fun j => if j = s.1 - 1 then to else at' j) o2 n s2 → K (.returned none) h') → V X K 69 L [] h2 := fun h2 o2 s2 L e1 k2 hL a0 a2 a3 kx => by
    match L, hL with
    | [v0, v1, v2, v3, v4], _ =>
      have b0 : v0 = .ref A := Option.some.inj a0
      have b2 : v2 = .int (nI to) := Option.some.inj a2
      have b3 : v3 = .int (nI 1) := Option.some.inj a3
      rw [b0, b2, b3]
      have t02 := k2.t0
      obtain ⟨r1, r2⟩ := k2.1.1.at 5 rfl
      have k5 := k2.2.1.2.2.1
      have f32 := k2.2.2.1.1
      have ix : IX (nI s2.1 - nI 1) 32 (s2.1 - 1) := by rw [nI_sub (by omega)]; exact IX.mk (by omega) (by omega)
      refine k_X23_branch_69 oo (fun q => absurd q (by decide)) (fun _ => ?_)
      refine k_X23_branch_73 (r2 := r1) (r4 := k5) (b8 := ix) oo ?_
      refine k_X23_branch_85 oo ?_
      have q3 : Fq (FS [10000 + 1152]) h2 (h2.sEI 1152 (tx 6) (s2.1 - 1) (nI to)) := Fq.sEI (Fq.refl h2) (fsr rfl)
      have k3 := k2.nxt (to := to) (by omega) q3 (by simp [n_sI, z_sI, tag_sI, I_sI, J_sI, R_sI, EI_sI, EJ_sI, ER_sI, n_sJ, z_sJ, tag_sJ, I_sJ, J_sJ, R_sJ, EI_sJ, EJ_sJ, ER_sJ, n_sR, z_sR, tag_sR, I_sR, J_sR, R_sR, EI_sR, EJ_sR, ER_sR, n_sEI, z_sEI, tag_sEI, I_sEI, J_sEI, R_sEI, EI_sEI, EJ_sEI, ER_sEI, n_sEJ, z_sEJ, tag_sEJ, I_sEJ, J_sEJ, R_sEJ, EI_sEJ, EJ_sEJ, ER_sEJ, n_sER, z_sER, tag_sER, I_sER, J_sER, R_sER, EI_sER, EJ_sER, ER_sER, n_nw, z_nw, tag_nw, I_nw, J_nw, R_nw, EI_nw, EJ_nw, ER_nw]) (fun p hp => by simp [n_sI, z_sI, tag_sI, I_sI, J_sI, R_sI, EI_sI, EJ_sI, ER_sI, n_sJ, z_sJ, tag_sJ, I_sJ, J_sJ, R_sJ, EI_sJ, EJ_sJ, ER_sJ, n_sR, z_sR, tag_sR, I_sR, J_sR, R_sR, EI_sR, EJ_sR, ER_sR, n_sEI, z_sEI, tag_sEI, I_sEI, J_sEI, R_sEI, EI_sEI, EJ_sEI, ER_sEI, n_sEJ, z_sEJ, tag_sEJ, I_sEJ, J_sEJ, R_sEJ, EI_sEJ, EJ_sEJ, ER_sEJ, n_sER, z_sER, tag_sER, I_sER, J_sER, R_sER, EI_sER, EJ_sER, ER_sER, n_nw, z_nw, tag_nw, I_nw, J_nw, R_nw, EI_nw, EJ_nw, ER_nw, hp])
      rw [e1] at k3 q3
      rw [e1]
      exact kx _ q3 k3
  by_cases c2 : op = 2
  · subst c2
    refine k_X23_branch_0 oo (fun q => absurd rfl q) (fun _ => ?_)
    refine k_X23_branch_5 oo ?_
    refine k_X23_branch_10 oo (fun _ => ?_) (fun q => absurd (by decide) q)
    exact jump h o s _ rfl k rfl rfl rfl rfl (fun h' q k' => k1 rfl h' (twq q (by decide)) k')
  · obtain ⟨v, t', hs, v1⟩ := k2' c2
    refine k_X23_branch_0 oo (fun _ => ?_) (fun q => absurd ((ev 2 (by omega)).mp q) c2)
    refine k_X23_branch_9 oo ?_
    refine k_X23_branch_10 oo (fun q => absurd ((nI_leI (by omega) (by omega)).mp q) (by omega)) (fun _ => ?_)
    refine k_X23_branch_16 oo ?_
    have tk := tktk_ok (G := X.G) (d := X.d - 1) (sl := 0) (K := kin (V X K 21) K [.ref A, .int (nI op), .int (nI to), .int (nI 0), nov] []) k h1 hs (t5 0 0 0) (by omega) (by omega) (fun h2 y q2 hy k2 => ?_)
    · rw [v1] at tk; exact tk
    have t02 := k2.t0
    obtain ⟨ix, -, -, r3, -, -⟩ := k2.rd (p := (5, 0, 0, 0)) uO_s
    have y1 : y.2.1 = v.1 := by rw [← hy]; rfl
    have y2 : y.2.2.1 = v.2.1 := by rw [← hy]; rfl
    rw [tn_6 (by omega), y2] at r3
    have rT := k2.1.1.1.2
    obtain ⟨⟨s1, s2, s3, s4, s5, s6⟩, s7, s8, s9, s10, s11⟩ := id k2.1.2.1.1
    have k2c := k2.cl
    refine k_X23_branch_21 oo ?_
    refine goes_ok t02 k2.2.1.1 ?_
    refine k_X23_branch_27 oo (fun q => absurd q (by decide)) (fun _ => ?_)
    have from60 : ∀ a b : Bool, (v.2.1.2 == 1) = a → (op == 3) = b → V X K 60 [.ref A, .int (nI op), .int (nI to), .int (nI 0), .int (nI y.1)] [.int (bI b), .int (bI a)] h2 := fun a b ha hb => by
      by_cases c : a = b
      · refine k_X23_branch_60 oo (fun q => absurd (by rw [c]) q) (fun _ => ?_)
        refine k_X23_branch_63 oo ?_
        refine k_X23_branch_68 oo ?_
        refine jump h2 _ (sK s t') _ rfl k2c rfl rfl rfl rfl (fun h' q k' => k3 c2 v t' hs (by rw [ha, hb, c]; cases b <;> rfl) h' _ ((twq q2 (by decide)).trans (twq q (by decide))) T5.clr k')
      · refine k_X23_branch_60 oo (fun _ => ?_) (fun q => absurd (bI_j _ _ q) c)
        refine k_X23_branch_67 oo ?_
        refine k_X23_branch_68 oo ?_
        refine k_X23_branch_69 oo (fun _ => ?_) (fun q => absurd rfl q)
        refine k_X23_branch_85 oo ?_
        exact k4 c2 v t' hs (by rw [ha, hb]; cases a <;> cases b <;> simp_all) h2 _ (twq q2 (by decide)) T5.clr k2c
    have from50 : ∀ a : Bool, (v.2.1.2 == 1) = a → V X K 50 [.ref A, .int (nI op), .int (nI to), .int (nI 0), .int (nI y.1)] [.int (bI a)] h2 := fun a ha => by
      by_cases c3 : op = 3
      · refine k_X23_branch_50 oo (fun q => absurd ((ev 3 (by omega)).mpr c3) q) (fun _ => ?_)
        refine k_X23_branch_55 oo ?_
        exact from60 a true ha (by simpa using c3)
      · refine k_X23_branch_50 oo (fun _ => ?_) (fun q => absurd ((ev 3 (by omega)).mp q) c3)
        refine k_X23_branch_59 oo ?_
        exact from60 a false ha (by simpa using c3)
    by_cases c : v.2.1.2 = 1
    · refine k_X23_branch_30 (r2 := rT) (r5 := s4) (r11 := r3) oo (fun q => absurd c q) (fun _ => ?_)
      refine k_X23_branch_45 oo ?_
      exact from50 true (by simpa using c)
    · refine k_X23_branch_30 (r2 := rT) (r5 := s4) (r11 := r3) oo (fun _ => ?_) (fun q => absurd q c)
      refine k_X23_branch_49 oo ?_
      exact from50 false (by simpa using c)
/-- a frame's locals are gone -/
def drp (o : Lc) (j : Nat) : Lc := fun p => if p.1 = 2 ∧ p.2.2.1 = j then none else o p
theorem TK.ret (k : TK h A tx UX at' o n s) (h2 : 2 ≤ s.1) (q : Fq (FS [2852]) h h') (hf : h'.I 2852 A = nI (s.1 - 1)) (hl : (stk s).length + (s.2.1 (s.1 - 2)).2.2.2.length ≤ 64) (hr : ∀ r ∈ rfs (sK ((s.1 - 1, s.2.1, s.2.2) : Ms) (stk s ++ (s.2.1 (s.1 - 2)).2.2.2)), r.1.1 ≠ s.1) : TK h' A tx UX at' (drp o (s.1 - 1)) n (sK ((s.1 - 1, s.2.1, s.2.2) : Ms) (stk s ++ (s.2.1 (s.1 - 2)).2.2.2)) := by
  obtain ⟨⟨k1, k2⟩, ⟨k3, k4, k5, k6, k7⟩, ⟨k8, k8', k8''⟩, k9, k10, k11, k12, k13⟩ := k
  have od : ∀ p : Sl, ¬ (p.1 = 2 ∧ p.2.2.1 = s.1 - 1) → drp o (s.1 - 1) p = o p := fun p hp => if_neg hp
  have er : ∀ r ∈ rfs (sK ((s.1 - 1, s.2.1, s.2.2) : Ms) (stk s ++ (s.2.1 (s.1 - 2)).2.2.2)), ∀ a, rad o 0 r = some a → rad (drp o (s.1 - 1)) 0 r = some a := fun r hm a ha => by
    have := hr r hm
    have e : drp o (s.1 - 1) (rsl' 0 r.1) = o (rsl' 0 r.1) := by
      obtain ⟨⟨i, m⟩, p⟩ := r
      cases i with
      | zero => exact od _ (fun z => by have : (3 : Nat) = 2 := z.1; omega)
      | succ j =>
        have this : j + 1 ≠ s.1 := this
        exact od _ (fun z => by have : j = s.1 - 1 := z.2; omega)
    unfold rad at ha ⊢
    rw [e]; exact ha
  have fe : ∀ j, j < s.1 - 1 → j ≠ s.1 - 2 → (sK ((s.1 - 1, s.2.1, s.2.2) : Ms) (stk s ++ (s.2.1 (s.1 - 2)).2.2.2)).2.1 j = s.2.1 j := fun j _ hj => uF_n (by show j ≠ s.1 - 1 - 1; omega)
  have ft : (sK ((s.1 - 1, s.2.1, s.2.2) : Ms) (stk s ++ (s.2.1 (s.1 - 2)).2.2.2)).2.1 (s.1 - 2) = ((s.2.1 (s.1 - 2)).1, (s.2.1 (s.1 - 2)).2.1, (s.2.1 (s.1 - 2)).2.2.1, stk s ++ (s.2.1 (s.1 - 2)).2.2.2) := by
    show uF s.2.1 (s.1 - 1 - 1) _ (s.1 - 2) = _
    rw [show s.1 - 1 - 1 = s.1 - 2 by omega, uF_s]
    rfl
  have bf : ∀ j, j ≤ s.1 - 2 → bsf (sK ((s.1 - 1, s.2.1, s.2.2) : Ms) (stk s ++ (s.2.1 (s.1 - 2)).2.2.2)).2.1 j = bsf s.2.1 j := fun j hj => bsf_c fun i hi => by rw [fe i (by omega) (by omega)]
  have b1 : bsf s.2.1 (s.1 - 1) = bsf s.2.1 (s.1 - 2) + (s.2.1 (s.1 - 2)).2.2.2.length := by
    have : s.1 - 1 = (s.1 - 2) + 1 := by omega
    rw [this]; rfl
  have b2 : bsf s.2.1 s.1 = bsf s.2.1 (s.1 - 1) + (stk s).length := by
    have : s.1 = (s.1 - 1) + 1 := by omega
    conv => lhs; rw [this]
    rfl
  have bt : bsf (sK ((s.1 - 1, s.2.1, s.2.2) : Ms) (stk s ++ (s.2.1 (s.1 - 2)).2.2.2)).2.1 (s.1 - 1) = bsf s.2.1 s.1 := by
    have ee : ∀ F : Nat → Fm, bsf F (s.1 - 1) = bsf F (s.1 - 2) + (F (s.1 - 2)).2.2.2.length := fun F => by
      have : s.1 - 1 = (s.1 - 2) + 1 := by omega
      rw [this]; rfl
    rw [ee, bf _ (Nat.le_refl _), ft, b2, b1]
    show _ + (stk s ++ _).length = _
    rw [List.length_append]; omega
  refine ⟨⟨k1.fr q.1 (FS.no (by decide)), (k2.fr q.1 (FS.no (by decide))).sub fun p => ?_⟩, ⟨by rw [q.1.I (FS.n rfl)]; exact k3, by rw [q.1.I (FS.n rfl)]; exact k4, hf, by show _ = nI (bsf _ (s.1 - 1)); rw [bt, q.1.I (FS.n rfl)]; exact k6, by rw [q.1.I (FS.n rfl)]; exact k7⟩, ⟨by show s.1 - 1 ≤ 32; omega, k8', k8''⟩, fun j hj => ?_, fun e x hx => (k10 e x hx).kp (fun f hf a => q.1.EI (FS.n ?_) _) (fun f hf a => q.1.EJ (FS.n ?_) _) (od _ (fun z => by have : (3 : Nat) = 2 := z.1; omega)), fun p hp => ?_, fun j m hj => ?_, fun e b he => by rw [od _ (fun z => by have : (3 : Nat) = 2 := z.1; omega)]; exact k13 e b he⟩
  · by_cases c : p.1 = 2 ∧ p.2.2.1 = s.1 - 1
    · exact Or.inl (if_pos c)
    · exact Or.inr (od p c)
  · have hj : j < s.1 - 1 := hj
    obtain ⟨⟨f1, f2, f3, f4⟩, ⟨f5, f6⟩, f7⟩ := k9 j (by omega)
    have lc : ∀ k, if k < 40 then TKL h' (drp o (s.1 - 1)) tx j k ((s.2.1 j).2.2.1 k) else drp o (s.1 - 1) (2, 0, j, k) = none := fun k => by
      have := f7 k
      have o2 := od (2, 0, j, k) (fun z => by have : j = s.1 - 1 := z.2; omega)
      by_cases c : k < 40
      · rw [if_pos c] at this ⊢
        refine this.kp (q.1.EI (FS.n (by decide)) _) (q.1.EI (FS.n (by decide)) _) o2 (fun r hr' => er r (rfs_l (j := j) hj ?_))
        by_cases e : j = s.1 - 2
        · subst e; rw [ft]; exact rfF_k (f := ((s.2.1 (s.1 - 2)).1, (s.2.1 (s.1 - 2)).2.1, (s.2.1 (s.1 - 2)).2.2.1, stk s ++ (s.2.1 (s.1 - 2)).2.2.2)) c hr'
        · rw [fe j hj e]; exact rfF_k c hr'
      · rw [if_neg c] at this ⊢
        rw [o2]; exact this
    have rw4 : h'.EI 1168 (tx 5) j = nI (bsf s.2.1 j) ∧ h'.EI 1120 (tx 7) j = nI (UX (s.2.1 j).1.1) ∧ h'.EI 1136 (tx 8) j = nI (s.2.1 j).1.2 ∧ h'.EI 1152 (tx 6) j = nI (at' j) := ⟨by rw [q.1.EI (FS.n (by decide))]; exact f1, by rw [q.1.EI (FS.n (by decide))]; exact f2, by rw [q.1.EI (FS.n (by decide))]; exact f3, by rw [q.1.EI (FS.n (by decide))]; exact f4⟩
    have kp1 : ∀ (b : Nat) (l : List It), TKS h o tx b l → (∀ r, (.inr r : It) ∈ l → r ∈ rfs (sK ((s.1 - 1, s.2.1, s.2.2) : Ms) (stk s ++ (s.2.1 (s.1 - 2)).2.2.2))) → TKS h' (drp o (s.1 - 1)) tx b l := fun b l hl hm => hl.kp (fun p _ _ => ⟨q.1.EI (FS.n (by decide)) _, q.1.EI (FS.n (by decide)) _, od _ (fun z => by have : (1 : Nat) = 2 := z.1; omega)⟩) (fun r hr' => er r (hm r hr'))
    by_cases e : j = s.1 - 2
    · subst e
      rw [ft, bf _ (Nat.le_refl _)]
      refine ⟨rw4, ⟨?_, by show (stk s ++ _).length ≤ 64; rw [List.length_append]; exact hl⟩, lc⟩
      have inl' : ∀ r, (.inr r : It) ∈ stk s ++ (s.2.1 (s.1 - 2)).2.2.2 → r ∈ rfs (sK ((s.1 - 1, s.2.1, s.2.2) : Ms) (stk s ++ (s.2.1 (s.1 - 2)).2.2.2)) := fun r hm => rfs_l (j := s.1 - 2) (by show s.1 - 2 < s.1 - 1; omega) (by rw [ft]; exact rfF_s hm)
      have low := kp1 _ _ f5 (fun r hm => inl' r (List.mem_append_right _ hm))
      have top := kp1 _ _ (k9 (s.1 - 1) (by omega)).2.1.1 (fun r hm => inl' r (List.mem_append_left _ hm))
      have top : TKS h' (drp o (s.1 - 1)) tx (bsf s.2.1 (s.1 - 1)) (stk s) := top
      have ap : ∀ l : List It, TKS h' (drp o (s.1 - 1)) tx (bsf s.2.1 (s.1 - 1)) l → TKS h' (drp o (s.1 - 1)) tx (bsf s.2.1 (s.1 - 2)) (l ++ (s.2.1 (s.1 - 2)).2.2.2) := fun l => by
        induction l with
        | nil => exact fun _ => low
        | cons x l ih =>
          intro z
          have z1 : TKI h' (drp o (s.1 - 1)) tx (bsf s.2.1 (s.1 - 1) + l.length) x := z.1
          refine ⟨?_, ih z.2⟩
          show TKI h' (drp o (s.1 - 1)) tx (bsf s.2.1 (s.1 - 2) + (l ++ (s.2.1 (s.1 - 2)).2.2.2).length) x
          rw [List.length_append, show bsf s.2.1 (s.1 - 2) + (l.length + (s.2.1 (s.1 - 2)).2.2.2.length) = bsf s.2.1 (s.1 - 1) + l.length by omega]
          exact z1
      exact ap _ top
    · rw [fe j hj e, bf j (by omega)]
      exact ⟨rw4, ⟨kp1 _ _ f5 (fun r hm => rfs_l (j := j) hj (by rw [fe j hj e]; exact rfF_s hm)), f6⟩, lc⟩
  · simp only [List.mem_cons, List.mem_nil_iff, or_false] at hf
    rcases hf with e | e | e | e <;> (rw [e]; decide)
  · simp only [List.mem_cons, List.mem_nil_iff, or_false] at hf
    rcases hf with e | e <;> (rw [e]; decide)
  · have hp : bsf _ (s.1 - 1) ≤ p := hp
    rw [bt] at hp
    rw [od _ (fun z => by have : (1 : Nat) = 2 := z.1; omega)]; exact k11 p hp
  · have hj : s.1 - 1 ≤ j := hj
    by_cases e : j = s.1 - 1
    · exact if_pos ⟨rfl, e⟩
    · rw [od _ (fun z => e z.2)]; exact k12 j m (by omega)
end
