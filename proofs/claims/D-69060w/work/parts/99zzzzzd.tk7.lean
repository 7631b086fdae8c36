/-! the twin's machine: references -/
section
variable {G : Gt} {d : Nat} {h h' : AH} {o o' : Lc} {tx UX at' : Nat → Nat} {A n n' lim : Nat} {snd : Int64} {s : Ms} {K : Outcome → AH → Prop}
theorem TK.rt {z : LV} {r : Nat × Nat} {v : VL} (k : TK h A tx UX at' o n s) (hz : o (rsl' 0 r) = some z) (hv : rtv s r = some v) : lvE z = v ∧ (∀ j, r.1 = j + 1 → j < s.1 ∧ r.2 < 40) ∧ (r.1 = 0 → r.2 < (ens s).length) := by
  obtain ⟨-, -, -, k9, k10, k11, k12, k13⟩ := k
  obtain ⟨i, m⟩ := r
  cases i with
  | zero =>
    have hz : o (3, 0, m, 0) = some z := hz
    have hv : (match (ens s)[m]? with
      | some e => e.2.2.1.2.2.2
      | none => none) = some v := hv
    cases he : (ens s)[m]? with
    | none => rw [he] at hv; cases hv
    | some e =>
      rw [he] at hv
      have hv : e.2.2.1.2.2.2 = some v := hv
      have := (k10 m e he).2.2.2
      rw [hv] at this
      obtain ⟨y, y1, y2, y3⟩ := this
      rw [hz] at y1
      cases y1
      exact ⟨y3, fun j hj => (by cases hj), fun _ => get_lt he⟩
  | succ j =>
    have hz : o (2, 0, j, m) = some z := hz
    have hv : (match (s.2.1 j).2.2.1 m with
      | some (.inl v) => some v
      | _ => none) = some v := hv
    have hj : j < s.1 := Nat.lt_of_not_le fun c => by
      rw [k12 j m c] at hz; cases hz
    have f7 := (k9 j hj).2.2 m
    have hn : m < 40 := Nat.lt_of_not_le fun c => by
      rw [if_neg (by omega)] at f7; rw [f7] at hz; cases hz
    rw [if_pos hn] at f7
    cases hl : (s.2.1 j).2.2.1 m with
    | none => rw [hl] at hv; cases hv
    | some i =>
      rw [hl] at hv f7
      cases i with
      | inr r => cases hv
      | inl v' =>
        cases hv
        obtain ⟨x, x1, x2, x3⟩ := f7
        rw [hz] at x1
        cases x1
        exact ⟨x2, fun j' hj' => by cases hj'; exact ⟨hj, hn⟩, fun e => by cases e⟩
/-- what a reference leads to -/
theorem TK.ref {r : Rx} {v : VL} {a : Nat} (k : TK h A tx UX at' o n s) (ha : rad o 0 r = some a) (hv : drf s r = some v) : ∃ z y, o (rsl' 0 r.1) = some z ∧ lva z r.2 = some y ∧ lvE y = v ∧ y.1 = a ∧ rtv s r.1 = some (lvE z) := by
  obtain ⟨-, z, y, z1, y1, y2⟩ := rad_lt k.1.2 ha
  unfold drf at hv
  cases hr : rtv s r.1 with
  | none => rw [hr] at hv; cases hv
  | some v0 =>
    rw [hr] at hv
    have hv : vgt v0 r.2 = some v := hv
    obtain ⟨e1, -, -⟩ := k.rt z1 hr
    rw [← e1] at hv
    obtain ⟨y', y3, y4⟩ := lva_s hv
    rw [y1] at y3
    cases y3
    exact ⟨z, y, z1, y1, y4, y2, by rw [e1]⟩
/-- a value below a root becomes another one -/
theorem TK.wr0 {z y y' : LV} {r : Rx} (k : TK h A tx UX at' o n s) (q : Fq (FS tFl) h h') (th : TH h' (tx 0) n o') (hz : o (rsl' 0 r.1) = some z) (hy : lva z r.2 = some y) (h1 : y'.1 = y.1) (hv : rtv s r.1 = some (lvE z)) (e1 : o' (rsl' 0 r.1) = some (lvw z r.2 y')) (ho : ∀ p : Sl, p.1 ≠ 5 → p ≠ rsl' 0 r.1 → o' p = o p) (hrr : ∀ q ∈ rfs s, ∀ a, rad o 0 q = some a → rad o' 0 q = some a) : TK h' A tx UX at' o' n (wrf s r (lvE y')) := by
  obtain ⟨-, b1, b2⟩ := k.rt hz hv
  obtain ⟨⟨k1, k2⟩, ⟨k3, k4, k5, k6, k7⟩, k8, k9, k10, k11, k12, k13⟩ := k
  have ez : (lvw z r.2 y').1 = z.1 := lvs_1 hy h1
  have ev : wrf s r (lvE y') = rst s r.1 (lvE (lvw z r.2 y')) := by
    unfold wrf
    rw [hv, lvs_e]
  rw [ev]
  generalize hx' : lvw z r.2 y' = z' at *
  have en : ∀ (e : Nat) (x : En), (ens s)[e]? = some x → ((3, 0, e, 0) : Sl) ≠ rsl' 0 r.1 → TKE h' o' tx e x := fun e x hx hne => (k10 e x hx).kp (fun f hf a => q.1.EI (FS.n (by
    simp only [List.mem_cons, List.mem_nil_iff, or_false] at hf
    rcases hf with e | e | e | e <;> (rw [e]; decide))) _) (fun f hf a => q.1.EJ (FS.n (by
    simp only [List.mem_cons, List.mem_nil_iff, or_false] at hf
    rcases hf with e | e <;> (rw [e]; decide))) _) (ho _ (by show (3 : Nat) ≠ 5; decide) hne)
  have o1 : ∀ p, o' (1, 0, 0, p) = o (1, 0, 0, p) := fun p => ho _ (by show (1 : Nat) ≠ 5; decide) (fun e => rsl_1 e.symm)
  have fr0 : ∀ j, j < s.1 → ∀ b, (h'.EI 1168 (tx 5) j = nI b ↔ h.EI 1168 (tx 5) j = nI b) := fun j _ b => by rw [q.1.EI (FS.n (by decide))]
  have rows : ∀ j, j < s.1 → (h'.EI 1168 (tx 5) j = nI (bsf s.2.1 j) ∧ h'.EI 1120 (tx 7) j = nI (UX (s.2.1 j).1.1) ∧ h'.EI 1136 (tx 8) j = nI (s.2.1 j).1.2 ∧ h'.EI 1152 (tx 6) j = nI (at' j)) ∧ (TKS h' o' tx (bsf s.2.1 j) (s.2.1 j).2.2.2 ∧ (s.2.1 j).2.2.2.length ≤ 64) := fun j hj => by
    obtain ⟨⟨f1, f2, f3, f4⟩, ⟨f5, f6⟩, f7⟩ := k9 j hj
    exact ⟨⟨by rw [q.1.EI (FS.n (by decide))]; exact f1, by rw [q.1.EI (FS.n (by decide))]; exact f2, by rw [q.1.EI (FS.n (by decide))]; exact f3, by rw [q.1.EI (FS.n (by decide))]; exact f4⟩, f5.kp (fun p _ _ => ⟨q.1.EI (FS.n (by decide)) _, q.1.EI (FS.n (by decide)) _, o1 p⟩) (fun r hm => hrr r (rfs_l hj (rfF_s hm))), f6⟩
  have lcl : ∀ j, j < s.1 → ∀ m, ((2, 0, j, m) : Sl) ≠ rsl' 0 r.1 → if m < 40 then TKL h' o' tx j m ((s.2.1 j).2.2.1 m) else o' (2, 0, j, m) = none := fun j hj m hne => by
    have := (k9 j hj).2.2 m
    have ho2 := ho (2, 0, j, m) (by show (2 : Nat) ≠ 5; decide) hne
    by_cases c : m < 40
    · rw [if_pos c] at this ⊢
      exact this.kp (q.1.EI (FS.n (by decide)) _) (q.1.EI (FS.n (by decide)) _) ho2 (fun r hr => hrr r (rfs_l hj (rfF_k c hr)))
    · rw [if_neg c] at this ⊢
      rw [ho2]; exact this
  have num : h'.I 2843 A = -1 ∧ h'.I 2842 A = nI s.2.2.2.2 ∧ h'.I 2852 A = nI s.1 ∧ h'.I 2861 A = nI (bsf s.2.1 s.1) ∧ h'.I 2845 A = nI (ens s).length := ⟨by rw [q.1.I (FS.n rfl)]; exact k3, by rw [q.1.I (FS.n rfl)]; exact k4, by rw [q.1.I (FS.n rfl)]; exact k5, by rw [q.1.I (FS.n rfl)]; exact k6, by rw [q.1.I (FS.n rfl)]; exact k7⟩
  have sm := k1.fr q.1 (FS.no (by decide))
  obtain ⟨⟨i, m⟩, p⟩ := r
  cases i with
  | zero =>
    have hn' : m < (ens s).length := b2 rfl
    obtain ⟨e0, he⟩ : ∃ en, (ens s)[m]? = some en := ⟨_, List.getElem?_eq_getElem hn'⟩
    have hv : (match (ens s)[m]? with
      | some e => e.2.2.1.2.2.2
      | none => none) = some (lvE z) := hv
    rw [he] at hv
    have hv2 : e0.2.2.1.2.2.2 = some (lvE z) := hv
    have hz : o (3, 0, m, 0) = some z := hz
    have e1 : o' (3, 0, m, 0) = some z' := e1
    show TK h' A tx UX at' o' n (match (ens s)[m]? with
      | some e => sE s ((ens s).set m (e.1, e.2.1, (e.2.2.1.1, e.2.2.1.2.1, e.2.2.1.2.2.1, some (lvE z')), e.2.2.2))
      | none => s)
    rw [he]
    have ln : ∀ y, ((ens s).set m y).length = (ens s).length := fun y => List.length_set
    refine ⟨⟨sm, th⟩, ⟨num.1, num.2.1, num.2.2.1, num.2.2.2.1, by show _ = nI ((ens s).set m _).length; rw [ln]; exact num.2.2.2.2⟩, ⟨k8.1, by show ((ens s).set m _).length ≤ 24; rw [ln]; exact k8.2.1, by show _ = ((ens s).set m _).length; rw [ln]; exact k8.2.2⟩, fun j hj => ⟨(rows j hj).1, (rows j hj).2, fun x => lcl j hj x (by intro e; cases e)⟩, fun e x hx => ?_, fun p hp => by rw [o1]; exact k11 p hp, fun j x hj => by rw [ho _ (by show (2 : Nat) ≠ 5; decide) (by intro e; cases e)]; exact k12 j x hj, fun e b he' => ?_⟩
    · have hx : ((ens s).set m (e0.1, e0.2.1, (e0.2.2.1.1, e0.2.2.1.2.1, e0.2.2.1.2.2.1, some (lvE z')), e0.2.2.2))[e]? = some x := hx
      by_cases c : e = m
      · subst c
        rw [List.getElem?_set_self hn'] at hx
        cases hx
        obtain ⟨⟨a1, a2, a3, a4⟩, a5, a6, a7⟩ := k10 e e0 he
        rw [hv2] at a7
        obtain ⟨y0, y1, y2, y3⟩ := a7
        rw [hz] at y1
        cases y1
        exact ⟨⟨by rw [q.1.EI (FS.n (by decide))]; exact a1, by rw [q.1.EJ (FS.n (by decide))]; exact a2, by rw [q.1.EI (FS.n (by decide))]; exact a3, a4⟩, fun c => by rw [q.1.EI (FS.n (by decide))]; exact a5 c, fun c => by rw [q.1.EJ (FS.n (by decide))]; exact a6 c, z', e1, by rw [q.1.EI (FS.n (by decide)), ez]; exact y2, rfl⟩
      · rw [List.getElem?_set_ne (fun z => c z.symm)] at hx
        exact en e x hx (fun z => c (congrArg (fun p : Sl => p.2.2.1) z))
    · have he' : ((ens s).set m _).length ≤ e ∨ b ≠ 0 := he'
      rw [ln] at he'
      rw [ho _ (by show (3 : Nat) ≠ 5; decide) (fun z => by
        have z1 : e = m := congrArg (fun p : Sl => p.2.2.1) z
        have z2 : b = 0 := congrArg (fun p : Sl => p.2.2.2) z
        omega)]
      exact k13 e b he'
  | succ j0 =>
    have hz : o (2, 0, j0, m) = some z := hz
    have e1 : o' (2, 0, j0, m) = some z' := e1
    obtain ⟨hj0, hn40⟩ : j0 < s.1 ∧ m < 40 := b1 j0 rfl
    have hv : (match (s.2.1 j0).2.2.1 m with
      | some (.inl v) => some v
      | _ => none) = some (lvE z) := hv
    show TK h' A tx UX at' o' n (s.1, uF s.2.1 j0 ((s.2.1 j0).1, (s.2.1 j0).2.1, uLc (s.2.1 j0).2.2.1 m (some (.inl (lvE z'))), (s.2.1 j0).2.2.2), s.2.2)
    have bs : ∀ j, bsf (uF s.2.1 j0 ((s.2.1 j0).1, (s.2.1 j0).2.1, uLc (s.2.1 j0).2.2.1 m (some (.inl (lvE z'))), (s.2.1 j0).2.2.2)) j = bsf s.2.1 j := fun j => bsf_c fun i _ => by
      unfold uF
      by_cases c : i = j0
      · rw [if_pos c, c]
      · rw [if_neg c]
    refine ⟨⟨sm, th⟩, ⟨num.1, num.2.1, num.2.2.1, by show _ = nI (bsf (uF _ _ _) s.1); rw [bs]; exact num.2.2.2.1, num.2.2.2.2⟩, k8, fun j hj => ?_, fun e x hx => en e x hx (by intro e; cases e), fun p hp => ?_, fun j x hj => ?_, fun e b he' => by rw [ho _ (by show (3 : Nat) ≠ 5; decide) (by intro e; cases e)]; exact k13 e b he'⟩
    · have hj : j < s.1 := hj
      show TKF h' o' tx UX at' (bsf (uF _ _ _) j) j (uF s.2.1 j0 _ j)
      rw [bs]
      by_cases c : j = j0
      · subst c
        rw [uF_s]
        refine ⟨(rows j hj).1, (rows j hj).2, fun x => ?_⟩
        by_cases e : x = m
        · subst e
          rw [if_pos hn40]
          show TKL h' o' tx j x (uLc (s.2.1 j).2.2.1 x (some (.inl (lvE z'))) x)
          rw [show uLc (s.2.1 j).2.2.1 x (some (.inl (lvE z'))) x = some (.inl (lvE z')) from if_pos rfl]
          have f7 := (k9 j hj).2.2 x
          rw [if_pos hn40] at f7
          cases hl : (s.2.1 j).2.2.1 x with
          | none => rw [hl] at hv; cases hv
          | some i =>
            rw [hl] at f7 hv
            cases i with
            | inr r => cases hv
            | inl v' =>
              obtain ⟨x0, x1, x2, x3, x4⟩ := f7
              rw [hz] at x1
              cases x1
              exact ⟨z', e1, rfl, by rw [q.1.EI (FS.n (by decide)), ez]; exact x3, by rw [q.1.EI (FS.n (by decide))]; exact x4⟩
        · have := lcl j hj x (fun z => e (congrArg (fun p : Sl => p.2.2.2) z))
          show if x < 40 then TKL h' o' tx j x (uLc (s.2.1 j).2.2.1 m (some (.inl (lvE z'))) x) else _
          rw [show uLc (s.2.1 j).2.2.1 m (some (.inl (lvE z'))) x = (s.2.1 j).2.2.1 x from if_neg e]
          exact this
      · rw [uF_n c]
        exact ⟨(rows j hj).1, (rows j hj).2, fun x => lcl j hj x (fun z => c (congrArg (fun p : Sl => p.2.2.1) z))⟩
    · have hp : bsf (uF _ _ _) s.1 ≤ p := hp
      rw [bs] at hp
      rw [o1]; exact k11 p hp
    · have hj : s.1 ≤ j := hj
      rw [ho _ (by show (2 : Nat) ≠ 5; decide) (fun e => by have : j = j0 := congrArg (fun p : Sl => p.2.2.1) e; omega)]
      exact k12 j x hj
theorem TK.wr {z y y' : LV} {r : Rx} (k : TK h A tx UX at' o n s) (q : Fq (FS tFl) h h') (th : TH h' (tx 0) n o') (hz : o (rsl' 0 r.1) = some z) (hy : lva z r.2 = some y) (h1 : y'.1 = y.1) (hv : rtv s r.1 = some (lvE z)) (e1 : o' (rsl' 0 r.1) = some (lvw z r.2 y')) (ho : ∀ p : Sl, p.1 ≠ 5 → p ≠ rsl' 0 r.1 → o' p = o p) (hn : nlw s r = true) : TK h' A tx UX at' o' n (wrf s r (lvE y')) := by
  refine k.wr0 q th hz hy h1 hv e1 ho (fun qq hq a ha => ?_)
  have e : rad o' 0 qq = rad (uO o (rsl' 0 r.1) (some (lvw z r.2 y'))) 0 qq := rad_k (fun c i j hc => by
    by_cases c2 : ((c, 0, i, j) : Sl) = rsl' 0 r.1
    · rw [c2, e1, uO_s]
    · rw [uO_n c2]; exact ho _ (by show c ≠ 5; omega) c2) qq
  rw [e]
  refine rad_w hz hy h1 ?_ ha rsl_i
  unfold nlw at hn
  rw [List.all_eq_true] at hn
  simpa using hn qq hq
/-- a root's slot is not aside -/
theorem rsl_5 {r : Nat × Nat} {w : Nat} : (rsl' w r).1 ≠ 5 := by
  obtain ⟨i, m⟩ := r
  cases i with
  | zero => show (3 : Nat) ≠ 5; decide
  | succ j => show (2 : Nat) ≠ 5; decide
theorem tref_ok {op b : Nat} (k : TK h A tx UX at' o n s) (t5 : T5 o) (cx : TCX h A snd lim) (h1 : 1 ≤ s.1) (hN : n + 1 ≤ gas s + 64 * (ens s).length + 8) (hg : gas s ≤ lim) (hop : 16 ≤ op ∧ op < 21) (hb : b < 256) (vw : ∀ r t', stk s = .inr r :: t' → ∀ v, drf s r = some v → VW v) (hne : oRef lim op b s ≠ none) (hd : 50 ≤ d) (kk : RZT K h A tx UX at' (oRef lim op b s)) : MW G d e_X23_onReference [.ref A, .int (nI op), .int (nI b)] h K := by
  refine st_X23_onReference fun X oo hG hD _ => ?_
  subst hG; subst hD
  have t0 := k.t0
  have l2 := cx.2.2
  have le24 := k.2.2.1.2.1
  have ev : ∀ j, j < 100 → (nI op = nI j ↔ op = j) := fun j hj => nI_eq (by omega) (by omega)
  obtain ⟨e1, e2, e3, e4⟩ := k.hgt h1
  unfold oRef at kk hne
  cases hs : stk s with
  | nil => rw [hs] at hne; exact absurd rfl hne
  | cons x t =>
    rw [hs] at kk hne e3
    have e3 : t.length + 1 ≤ 64 := e3
    cases x with
    | inl v => exact absurd rfl hne
    | inr r =>
      simp only at kk hne
      cases hv : drf s r with
      | none => rw [hv] at hne; exact absurd rfl hne
      | some v =>
        rw [hv] at kk hne
        simp only at kk hne
        have vwv := vw r t hs v hv
        refine k_X23_onReference_0 oo ?_
        refine tktr_ok k h1 hs (by omega) (fun h2 a q2 ha k2 tk => ?_)
        have t02 := k2.t0
        have hv2 : drf (sK s t) r = some v := by rw [← hv]; exact drf_K
        obtain ⟨z, y, hz, hy, ey, ya, rz⟩ := k2.ref ha hv2
        have stl : stk (sK s t) = t := stk_K
        refine k_X23_onReference_5 oo ?_
        refine goes_ok t02 k2.2.1.1 ?_
        refine k_X23_onReference_10 oo (fun _ => ?_) (fun q => absurd q (by decide))
        have rT := k2.1.1.1.2
        have sT := k2.1.2.1.1
        have tT := k2.1.2.1.1.1.1
        have tz := (k2.1.2.2.2 _ z hz).1
        have tv : TVL h2 (tx 0) y := TVL.sub tz hy
        have fy : fsz y.2.2.2 = fsz v.2.2 := by rw [← ey]; exact (fer_sz _).symm
        have dy : fdp y.2.2.2 ≤ 40 := by have := vwv.1.2.1; rw [← ey] at this; have e : fdp (fer y.2.2.2) = fdp y.2.2.2 := fer_dp _; have this : fdp (fer y.2.2.2) ≤ 40 := this; omega
        have cx2 := cx.fs q2 (by decide)
        subst ya
        by_cases c20 : op = 20
        · rw [if_neg (by omega), if_neg (by omega), if_neg (by omega)] at kk
          refine k_X23_onReference_14 oo (fun q => absurd ((ev 20 (by omega)).mpr c20) q) (fun _ => ?_)
          refine k_X23_onReference_20 oo ?_
          refine tkpr_ok k2 h1 (by rw [stl]; omega) ha (by omega) (fun h3 q3 k3 => ?_)
          refine k_X23_onReference_26 oo ?_
          refine k_X23_onReference_161 oo ?_
          rw [mpu_K, ← hs, sK_s] at k3
          exact kk h3 o n ((twq q2 (by decide)).trans (twq q3 (by decide))) k3 t5 (by unfold NB; omega)
        refine k_X23_onReference_14 oo (fun _ => ?_) (fun q => absurd ((ev 20 (by omega)).mp q) c20)
        by_cases c18 : op = 18
        · rw [if_neg (by omega), if_pos c18] at kk
          refine k_X23_onReference_29 oo (fun q => absurd ((ev 18 (by omega)).mpr c18) q) (fun _ => ?_)
          refine k_X23_onReference_35 (r2 := rT) oo ?_
          refine tsize_ok sT tv (by rw [fdp_tn]; omega) ?_
          rw [fsz_tn, fy]
          refine k_X23_onReference_44 oo ?_
          have vs : 1 + fsz v.2.2 = vsz v := rfl
          have vs2 := vwv.2.2
          unfold mpay at kk
          refine spend_ok t02 k2.2.1.1 k2.2.1.2.1 cx2.2.1 ⟨by show gas s + _ < _; omega, by omega⟩ (by omega) (fun hle h3 q3 g3 => ?_) (fun hlt h3 q3 x3 => ?_)
          · have hle : gas s + (1 + fsz v.2.2) ≤ lim := hle
            rw [if_pos (show gas s + vsz v ≤ lim from hle)] at kk
            have kg := k2.gas q3 g3
            refine k_X23_onReference_47 oo (fun q => absurd q (by decide)) (fun _ => ?_)
            have t03 := kg.t0
            have rT2 := kg.1.1.1.2
            have tT2 := kg.1.2.1.1.1.1
            refine k_X23_onReference_50 (r2 := rT2) oo ?_
            refine thcopy_ok (p := rsl' 0 r.1) (r := (5, 0, 0, 0)) (pa := r.2) kg.1.2 hz hy (t5 0 0 0) (by rw [fy]; omega) (by omega) (fun h4 w q4 th4 ew wn => ?_)
            have k4 := kg.asd q4 th4 (fun p hp => uO_n (fun e => hp (by rw [e])))
            have t04 := k4.t0
            refine k_X23_onReference_59 oo ?_
            rw [← wn]
            refine tkpv_ok (y := w) (sl := 0) k4 h1 (by show (stk (sK s t)).length < 64; rw [stl]; omega) uO_s (by omega) (fun h5 q5 k5 => ?_)
            refine k_X23_onReference_63 oo ?_
            refine k_X23_onReference_161 oo ?_
            have ev2 : lvE w = v := by rw [ew, ey]
            rw [ev2] at k5
            have es : mpu (sG (sK s t) (gas (sK s t) + (1 + fsz v.2.2))) (.inl v) = sK (sG s (gas s + vsz v)) (.inl v :: t) := by
              show sG (mpu (sK s t) (.inl v)) _ = _
              rw [mpu_K]
              rfl
            rw [es] at k5
            refine kk h5 _ _ ((twq q2 (by decide)).trans ((twq q3 (by decide)).trans ((twq q4 (by decide)).trans (twq q5 (by decide))))) k5 ?_ ?_
            · exact T5.mk1 t5 (by show (1 : Nat) ≠ 5; decide)
            · show n + (1 + fsz y.2.2.2) ≤ (gas s + (1 + fsz v.2.2)) + 64 * (ens s).length + 8
              rw [fy]; omega
          · have hlt : lim < gas s + (1 + fsz v.2.2) := hlt
            rw [if_neg (show ¬ gas s + vsz v ≤ lim from by omega)] at kk
            refine k_X23_onReference_47 oo (fun _ => ?_) (fun q => absurd rfl q)
            refine k_X23_onReference_161 oo ?_
            exact kk h3 ((twq q2 (by decide)).trans (twq q3 (by decide))) x3
        refine k_X23_onReference_29 oo (fun _ => ?_) (fun q => absurd ((ev 18 (by omega)).mp q) c18)
        by_cases c19 : op = 19
        · rw [if_neg (by omega), if_neg c18, if_pos c19] at kk hne
          refine k_X23_onReference_66 oo (fun q => absurd ((ev 19 (by omega)).mpr c19) q) (fun _ => ?_)
          cases t with
          | nil => exact absurd rfl hne
          | cons w t' =>
            cases w with
            | inr r' => exact absurd rfl hne
            | inl w =>
              simp only at kk hne
              obtain ⟨hm, he⟩ := mre_n hne
              rw [he] at kk
              rw [Bool.and_eq_true] at hm
              obtain ⟨hm1, hm2⟩ := hm
              have hwv : w.1 = v.1 := by simpa using hm1
              refine k_X23_onReference_72 oo ?_
              refine tktv_ok (sl := 0) k2 h1 stl (t5 0 0 0) (by omega) (fun h3 x q3 hx k3 tk3 => ?_)
              have t03 := k3.t0
              refine k_X23_onReference_77 oo ?_
              refine goes_ok t03 k3.2.1.1 ?_
              refine k_X23_onReference_83 oo (fun _ => ?_) (fun q => absurd q (by decide))
              have rT3 := k3.1.1.1.2
              obtain ⟨⟨⟨⟨s1, s2, s3, s4, s5, s6⟩, s7, s8, s9, s10, s11⟩, sz, n24⟩, -, v5⟩ := id k3.1.2
              have hx5 : (uO (uO o (1, 0, 0, bsf (sK s (.inl w :: t')).2.1 ((sK s (.inl w :: t')).1 - 1) + t'.length) none) (5, 0, 0, 0) (some x)) (5, 0, 0, 0) = some x := uO_s
              obtain ⟨tvx, adx, -⟩ := v5 _ x hx5
              have xl := adx x.1 (adr_1 x)
              have hz3 : (uO (uO o (1, 0, 0, bsf (sK s (.inl w :: t')).2.1 ((sK s (.inl w :: t')).1 - 1) + t'.length) none) (5, 0, 0, 0) (some x)) (rsl' 0 r.1) = some z := by
                rw [uO_n (fun e => rsl_5 (by rw [e])), uO_n rsl_1]; exact hz
              obtain ⟨tvz, adz, -⟩ := v5 _ z hz3
              have tvy := TVL.sub tvz hy
              have yl := adz y.1 (adr_in hy _ (adr_1 y))
              have ixx : IX (nI x.1) 24576 x.1 := IX.mk (by omega) (by omega)
              have ixy : IX (nI y.1) 24576 y.1 := IX.mk (by omega) (by omega)
              have kx : h3.EI 1633 (tx 0 + 1) x.1 = nI x.2.1 := tvx.2.1
              have ky : h3.EI 1633 (tx 0 + 1) y.1 = nI y.2.1 := tvy.2.1
              have exy : x.2.1 = y.2.1 := by
                have a1 : x.2.1 = w.1 := by rw [← hx]; rfl
                have a2 : y.2.1 = v.1 := by rw [← ey]; rfl
                rw [a1, a2, hwv]
              refine k_X23_onReference_87 (r2 := rT3) (r5 := s2) (r11 := kx) (r13 := rT3) (r16 := s2) (r22 := ky) oo (fun _ => ?_) (fun q => absurd (by rw [exy]) q)
              refine k_X23_onReference_116 (r2 := rT3) oo ?_
              refine thbec_ok (p := rsl' 0 r.1) (r := (5, 0, 0, 0)) (pa := r.2) k3.1.2 hz3 hy hx5 (fun e => rsl_5 (by rw [e])) (fun h4 q4 th4 => ?_)
              refine k_X23_onReference_126 oo ?_
              refine k_X23_onReference_161 oo ?_
              rw [sK_K] at k3
              have rz3 : rtv (sK s t') r.1 = some (lvE z) := by rw [rtv_K]; rw [rtv_K] at rz; exact rz
              have k4 := k3.wr (y' := (y.1, x.2)) q4 th4 hz3 hy rfl rz3 uO_s (fun p p5 pr => by
                rw [uO_n pr, uO_n (fun e => p5 (by rw [e]))]) hm2
              have ew : lvE ((y.1, x.2) : LV) = w := by rw [← hx]; rfl
              rw [ew] at k4
              refine kk h4 _ n ((twq q2 (by decide)).trans ((twq q3 (by decide)).trans (twq q4 (by decide)))) k4 (fun a b c => ?_) ?_
              · rw [uO_n (fun e => rsl_5 (by rw [← e]))]
                by_cases e : ((5, a, b, c) : Sl) = (5, 0, 0, 0)
                · rw [e, uO_s]
                · rw [uO_n e, uO_n e, uO_n (by intro e; cases e)]; exact t5 a b c
              · unfold NB
                have : gas (wrf (sK s t') r w) = gas s ∧ (ens (wrf (sK s t') r w)).length = (ens s).length := by
                  have := wrf_n (s := sK s t') (r := r) (w := w)
                  exact ⟨this.1, this.2.1⟩
                rw [this.1, this.2]; omega
        · refine k_X23_onReference_66 oo (fun _ => ?_) (fun q => absurd ((ev 19 (by omega)).mp q) c19)
          rw [if_pos (by omega)] at kk hne
          cases hp : (flo v.2.2)[b]? with
          | none => rw [hp] at hne; exact absurd rfl hne
          | some v1 =>
            rw [hp] at kk hne
            simp only at kk hne
            obtain ⟨hm, he⟩ := mre_n hne
            rw [he] at kk
            refine k_X23_onReference_129 (r2 := rT) oo ?_
            refine tpart_ok sT tv ?_
            have hp2 : ((llo y.2.2.2).map lvE)[b]? = some v1 := by
              rw [← flo_fer]
              have : v.2.2 = fer y.2.2.2 := by rw [← ey]; rfl
              rw [← this]; exact hp
            rw [List.getElem?_map] at hp2
            cases hl : (llo y.2.2.2)[b]? with
            | none => rw [hl] at hp2; cases hp2
            | some y1 =>
              have ef : fatI (tnF y.2.2.2) (nI b).toInt64 = nI y1.1 := by
                unfold fatI
                rw [nI_64 (by omega), if_neg (by intro c; rw [un_neg] at c; rw [un_l (by omega)] at c; omega), un_l (by omega), fat_tn, fat_llo hl]
              rw [ef]
              have hra : rad o 0 (r.1, r.2 ++ [b]) = some y1.1 := by
                unfold rad
                show (match o (rsl' 0 r.1) with | some z => (lva z (r.2 ++ [b])).map fun y => y.1 | none => none) = some y1.1
                rw [hz]
                show (lva z (r.2 ++ [b])).map (fun y => y.1) = some y1.1
                rw [lva_ap (w := z) hy]
                show ((match (llo y.2.2.2)[b]? with | some w => lva w [] | none => none) : Option LV).map (fun y => y.1) = some y1.1
                rw [hl]; rfl
              have y1l := (rad_lt k2.1.2 hra).1
              have n24 := k2.1.2.1.2.2
              refine k_X23_onReference_139 oo (fun _ => ?_) (fun q => absurd q (nI_m1 (by omega)))
              refine k_X23_onReference_154 oo ?_
              refine tkpr_ok k2 h1 (by rw [stl]; omega) hra (by omega) (fun h3 q3 k3 => ?_)
              refine k_X23_onReference_161 oo ?_
              rw [mpu_K] at k3
              exact kk h3 o n ((twq q2 (by decide)).trans (twq q3 (by decide))) k3 t5 (show n ≤ gas s + 64 * (ens s).length + 8 by omega)
end
