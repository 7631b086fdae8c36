/-! the twin's machine: locals, whole -/
section
variable {G : Gt} {d : Nat} {h h' : AH} {o o' : Lc} {tx UX at' : Nat → Nat} {A n n' lim : Nat} {snd : Int64} {s : Ms} {K : Outcome → AH → Prop}
/-- a local is no longer there, or was not: its row may hold anything -/
theorem TK.ln {kl : Nat} (h1 : 1 ≤ s.1) (hk40 : kl < 40) (k : TK h A tx UX at' o n s) (q : Fq (FS [10000 + 1184]) h h') (nL : ∀ p, p ≠ 40 * (s.1 - 1) + kl → h'.EI 1184 (tx 3) p = h.EI 1184 (tx 3) p) (o' : Lc) (th : TH h (tx 0) n o') (ho : ∀ p : Sl, p.1 ≠ 5 → p ≠ (2, 0, s.1 - 1, kl) → o' p = o p) (hn : o' (2, 0, s.1 - 1, kl) = none) (hnr : ∀ q ∈ rfs s, q.1 ≠ (s.1, kl)) : TK h' A tx UX at' o' n (sLK s (uLc (lcs s) kl none) (stk s)) := by
  obtain ⟨e1, e2, e3, e4⟩ := k.hgt h1
  have ho2 : ∀ j e, (j, e) ≠ (s.1 - 1, kl) → o' (2, 0, j, e) = o (2, 0, j, e) := fun j e hje => ho _ (by show (2 : Nat) ≠ 5; decide) (fun z => hje (by
    have e1 : j = s.1 - 1 := congrArg (fun p : Sl => p.2.2.1) z
    have e2 : e = kl := congrArg (fun p : Sl => p.2.2.2) z
    rw [e1, e2]))
  have ho3 : ∀ e b, o' (3, 0, e, b) = o (3, 0, e, b) := fun e b => ho _ (by show (3 : Nat) ≠ 5; decide) (fun z => by cases z)
  have ho1 : ∀ p, o' (1, 0, 0, p) = o (1, 0, 0, p) := fun p => ho _ (by show (1 : Nat) ≠ 5; decide) (fun z => by cases z)
  have er : ∀ r : Rx, r.1 ≠ (s.1, kl) → rad o' 0 r = rad o 0 r := fun r hr => by
    have : o' (rsl' 0 r.1) = o (rsl' 0 r.1) := by
      obtain ⟨⟨a, b⟩, p⟩ := r
      cases a with
      | zero => exact ho3 b 0
      | succ j => exact ho2 j b (fun e => hr (by
          have e1 : j = s.1 - 1 := congrArg Prod.fst e
          have e2 : b = kl := congrArg Prod.snd e
          show (j + 1, b) = (s.1, kl)
          rw [e1, e2]; congr 1; omega))
    unfold rad
    rw [this]
  refine TK.lk (l1 := stk s) h1 hk40 k (k.1.1.fr q.1 (FS.no (by decide))) (th.fr q.1 (FS.no (by decide))) (fun f hf => q.1.I (FS.n ?_)) (by rw [q.1.I (FS.n rfl)]; have := k.2.1.2.2.2.1; rw [e1] at this; exact this) e3 (fun p _ => ⟨q.1.EI (FS.n (by decide)) _, q.1.EI (FS.n (by decide)) _, ho1 p⟩) (e4.kp (fun p _ _ => ⟨q.1.EI (FS.n (by decide)) _, q.1.EI (FS.n (by decide)) _, ho1 p⟩) (fun r hm a ha => by
    rw [er r (hnr r (rfs_l (j := s.1 - 1) (by omega) (rfF_s hm)))]; exact ha)) (fun p hp => ⟨nL p hp, q.1.EI (FS.n (by decide)) _⟩) hn (fun f hf a p => q.1.EI (FS.n ?_) _) (fun f hf a p => q.1.EJ (FS.n ?_) _) ho2 ho3 (by rw [sK_s]; exact hnr) (fun p hp => by rw [ho1 p]; exact k.2.2.2.2.2.1 p (by rw [e1]; exact hp))
  · simp only [List.mem_cons, List.mem_nil_iff, or_false] at hf
    rcases hf with e | e | e | e <;> (rw [e]; decide)
  · simp only [List.mem_cons, List.mem_nil_iff, or_false] at hf
    rcases hf with e | e | e | e | e | e | e | e <;> (rw [e]; decide)
  · simp only [List.mem_cons, List.mem_nil_iff, or_false] at hf
    rcases hf with e | e <;> (rw [e]; decide)
theorem nrr_i {r : Nat × Nat} (hn : nrr s r = true) : ∀ q ∈ rfs s, q.1 ≠ r := fun q hq e => by
  unfold nrr at hn
  rw [List.all_eq_true] at hn
  have := hn q hq
  rw [e] at this
  simp at this
theorem tloc_ok {op kl : Nat} (k : TK h A tx UX at' o n s) (t5 : T5 o) (cx : TCX h A snd lim) (h1 : 1 ≤ s.1) (hN : n + 1 ≤ gas s + 64 * (ens s).length + 8) (hg : gas s ≤ lim) (hop : 11 ≤ op ∧ op < 16) (hk40 : kl < 40) (h64 : op ≠ 13 → (stk s).length < 64) (h13 : op = 13 → ∀ r t', stk s = .inr r :: t' → r.1 ≠ (s.1, kl)) (vw : ∀ v, lcs s kl = some (.inl v) → VW v) (hne : oLoc lim op kl s ≠ none) (hd : 50 ≤ d) (kk : RZT K h A tx UX at' (oLoc lim op kl s)) : MW G d e_X23_onLocal [.ref A, .int (nI op), .int (nI kl)] h K := by
  refine st_X23_onLocal fun X oo hG hD _ => ?_
  subst hG; subst hD
  obtain ⟨⟨k1, k2⟩, ⟨k3, k4, k5, k6, k7⟩, ⟨k8, k8', k8''⟩, k9, k10, k11, k12, k13⟩ := id k
  have t0 := k.t0
  have l2 := cx.2.2
  have ev : ∀ j, j < 100 → (nI op = nI j ↔ op = j) := fun j hj => nI_eq (by omega) (by omega)
  refine k_X23_onLocal_0 oo ?_
  refine tlocal_ok t0 k5 h1 ?_
  by_cases c13 : op = 13
  · subst c13
    refine k_X23_onLocal_5 oo (fun q => absurd rfl q) (fun _ => ?_)
    unfold oLoc at kk hne
    rw [if_pos rfl] at kk hne
    cases hs : stk s with
    | nil => rw [hs] at hne; exact absurd rfl hne
    | cons x t =>
      rw [hs] at kk hne
      simp only at kk hne
      unfold mre at kk hne
      by_cases cn : nrr (sK s t) (s.1, kl) = true
      · rw [if_pos cn] at kk
        exact tloc_13 oo k t5 h1 (by unfold NB; omega) hk40 hs (fun r e => h13 rfl r t (by rw [hs, e])) (nrr_i cn) (by omega) kk
      · rw [if_neg cn] at hne; exact absurd rfl hne
  · have h64 := h64 c13
    refine k_X23_onLocal_5 oo (fun _ => ?_) (fun q => absurd ((ev 13 (by omega)).mp q) c13)
    unfold oLoc at kk hne
    rw [if_neg c13] at kk hne
    cases hx : lcs s kl with
    | none => rw [hx] at hne; exact absurd rfl hne
    | some x =>
      rw [hx] at kk hne
      simp only at kk hne
      have hlc := (k9 (s.1 - 1) (by omega)).2.2 kl
      rw [if_pos hk40] at hlc
      have hlc : TKL h o tx (s.1 - 1) kl (lcs s kl) := hlc
      rw [hx] at hlc
      have ixl : IX (nI (40 * (s.1 - 1) + kl)) 1280 (40 * (s.1 - 1) + kl) := IX.mk (by omega) (by omega)
      obtain ⟨w1, w2⟩ := k1.at 2 rfl
      obtain ⟨w3, w4⟩ := k1.at 3 rfl
      -- which node
      obtain ⟨a, b, ha, hb, an, hit⟩ : ∃ a b, h.EI 1184 (tx 3) (40 * (s.1 - 1) + kl) = nI a ∧ h.EI 1202 (tx 4) (40 * (s.1 - 1) + kl) = bI b ∧ a < n ∧ (match x with
          | .inl v => b = false ∧ ∃ y, o (2, 0, s.1 - 1, kl) = some y ∧ lvE y = v ∧ y.1 = a
          | .inr r => b = true ∧ rad o 0 r = some a ∧ o (2, 0, s.1 - 1, kl) = none) := by
        cases x with
        | inl v =>
          obtain ⟨y, y1, y2, y3, y4⟩ := hlc
          exact ⟨y.1, false, y3, y4, (k2.2.2 _ y y1).2.1 _ (adr_1 y), rfl, y, y1, y2, rfl⟩
        | inr r =>
          obtain ⟨y0, a, y1, y2, y3⟩ := hlc
          exact ⟨a, true, y2, y3, (rad_lt k2 y1).1, rfl, y1, y0⟩
      have n24 := k2.1.2.2
      refine k_X23_onLocal_92 (r2 := w1) (r8 := ha) oo (fun _ => ?_) (fun q => absurd q (nI_m1 (by omega)))
      refine k_X23_onLocal_106 oo ?_
      refine goes_ok t0 k3 ?_
      refine k_X23_onLocal_110 oo (fun _ => ?_) (fun q => absurd q (by decide))
      by_cases c11 : op = 11
      · rw [if_pos c11] at kk
        refine k_X23_onLocal_114 oo (fun q => absurd ((ev 11 (by omega)).mpr c11) q) (fun _ => ?_)
        cases x with
        | inr r =>
          obtain ⟨hb', hr, -⟩ := hit
          rw [hb'] at hb
          refine k_X23_onLocal_120 (r2 := w3) (r8 := hb) oo (fun q => absurd q (by decide)) (fun _ => ?_)
          refine k_X23_onLocal_129 oo ?_
          unfold mpay at kk
          refine spend_ok t0 k3 k4 cx.2.1 ⟨by omega, by omega⟩ (by omega) (fun hle h2 q2 g2 => ?_) (fun hlt h2 q2 x2 => ?_)
          · rw [if_pos (show gas s + isz (.inr r) ≤ lim from hle)] at kk
            have kg := k.gas q2 g2
            refine k_X23_onLocal_134 oo (fun q => absurd q (by decide)) (fun _ => ?_)
            have t02 := kg.t0
            obtain ⟨v1, v2⟩ := kg.1.1.at 2 rfl
            have ha2 : h2.EI 1184 (tx 3) (40 * (s.1 - 1) + kl) = nI a := by rw [q2.1.EI (FS.n (by decide))]; exact ha
            refine k_X23_onLocal_137 (r2 := v1) (r8 := ha2) oo ?_
            refine tkpr_ok kg h1 h64 hr (by omega) (fun h3 q3 k3' => ?_)
            refine k_X23_onLocal_148 oo ?_
            refine k_X23_onLocal_235 oo ?_
            exact kk h3 o n ((twq q2 (by decide)).trans (twq q3 (by decide))) k3' t5 (show n ≤ (gas s + 1) + 64 * (ens s).length + 8 by omega)
          · rw [if_neg (show ¬ gas s + isz (.inr r) ≤ lim from by show ¬ gas s + 1 ≤ lim; omega)] at kk
            refine k_X23_onLocal_134 oo (fun _ => ?_) (fun q => absurd rfl q)
            refine k_X23_onLocal_235 oo ?_
            exact kk h2 (twq q2 (by decide)) x2
        | inl v =>
          obtain ⟨hb', y, y1, y2, y3⟩ := hit
          rw [hb'] at hb
          subst y3
          have vwv := vw v hx
          have tv := (k2.2.2 _ y y1).1
          have fy : fsz y.2.2.2 = fsz v.2.2 := by rw [← y2]; exact (fer_sz _).symm
          have dy : fdp y.2.2.2 ≤ 40 := by have := vwv.1.2.1; rw [← y2] at this; have e : fdp (fer y.2.2.2) = fdp y.2.2.2 := fer_dp _; have this : fdp (fer y.2.2.2) ≤ 40 := this; omega
          have rT := k1.1.2
          have tT := k2.1.1.1.1
          refine k_X23_onLocal_120 (r2 := w3) (r8 := hb) oo (fun _ => ?_) (fun q => absurd rfl q)
          refine k_X23_onLocal_151 (r2 := rT) (r4 := w1) (r10 := ha) oo ?_
          refine tsize_ok k2.1.1 tv (by rw [fdp_tn]; omega) ?_
          refine k_X23_onLocal_165 oo ?_
          rw [fsz_tn, fy]
          have vs : 1 + fsz v.2.2 = vsz v := rfl
          have vs2 := vwv.2.2
          unfold mpay at kk
          refine spend_ok t0 k3 k4 cx.2.1 ⟨by omega, by omega⟩ (by omega) (fun hle h2 q2 g2 => ?_) (fun hlt h2 q2 x2 => ?_)
          · rw [if_pos (show gas s + isz (.inl v) ≤ lim from hle)] at kk
            have kg := k.gas q2 g2
            refine k_X23_onLocal_168 oo (fun q => absurd q (by decide)) (fun _ => ?_)
            have t02 := kg.t0
            obtain ⟨v1, v2⟩ := kg.1.1.at 2 rfl
            have rT2 := kg.1.1.1.2
            have tT2 := kg.1.2.1.1.1.1
            have ha2 : h2.EI 1184 (tx 3) (40 * (s.1 - 1) + kl) = nI y.1 := by rw [q2.1.EI (FS.n (by decide))]; exact ha
            refine k_X23_onLocal_171 (r2 := rT2) (r4 := v1) (r10 := ha2) oo ?_
            have le24 := k8'
            refine thcopy_ok (p := (2, 0, s.1 - 1, kl)) (r := (5, 0, 0, 0)) (pa := []) kg.1.2 y1 rfl (t5 0 0 0) (by rw [fy]; omega) (by omega) (fun h3 w q3 th3 ew wn => ?_)
            have k3' := kg.asd q3 th3 (fun p hp => uO_n (fun e => hp (by rw [e])))
            have t03 := k3'.t0
            refine k_X23_onLocal_185 oo ?_
            rw [← wn]
            refine tkpv_ok (y := w) (sl := 0) k3' h1 h64 uO_s (by omega) (fun h4 q4 k4' => ?_)
            refine k_X23_onLocal_189 oo ?_
            refine k_X23_onLocal_235 oo ?_
            have ev2 : lvE w = v := by rw [ew, y2]
            rw [ev2] at k4'
            refine kk h4 _ _ ((twq q2 (by decide)).trans ((twq q3 (by decide)).trans (twq q4 (by decide)))) k4' ?_ ?_
            · exact T5.mk1 t5 (by show (1 : Nat) ≠ 5; decide)
            · show n + (1 + fsz y.2.2.2) ≤ (gas s + (1 + fsz v.2.2)) + 64 * (ens s).length + 8
              rw [fy]; omega
          · rw [if_neg (show ¬ gas s + isz (.inl v) ≤ lim from by show ¬ gas s + (1 + fsz v.2.2) ≤ lim; omega)] at kk
            refine k_X23_onLocal_168 oo (fun _ => ?_) (fun q => absurd rfl q)
            refine k_X23_onLocal_235 oo ?_
            exact kk h2 (twq q2 (by decide)) x2
      · rw [if_neg c11] at kk hne
        refine k_X23_onLocal_114 oo (fun _ => ?_) (fun q => absurd ((ev 11 (by omega)).mp q) c11)
        by_cases c12 : op = 12
        · rw [if_pos c12] at kk hne
          refine k_X23_onLocal_192 oo (fun q => absurd ((ev 12 (by omega)).mpr c12) q) (fun _ => ?_)
          refine k_X23_onLocal_198 (r2 := w1) (r8 := ha) (r10 := w3) (r16 := hb) oo ?_
          unfold mre at kk hne
          by_cases cn : nrr s (s.1, kl) = true
          case neg => rw [if_neg cn] at hne; exact absurd rfl hne
          rw [if_pos cn] at kk
          have hnr := nrr_i cn
          -- behind the push
          have fin : ∀ h2 o2, Fq (FS psF) h h2 → TK h2 A tx UX at' o2 n (sLK s (uLc (lcs s) kl none) (x :: stk s)) → T5 o2 → o2 (2, 0, s.1 - 1, kl) = none → V X K 214 [.ref A, .int (nI op), .int (nI kl), .int (nI (40 * (s.1 - 1) + kl)), nov] [] h2 := fun h2 o2 q2 k2' t52 n2 => by
            have t02 := k2'.t0
            obtain ⟨v1, v2⟩ := k2'.1.1.at 2 rfl
            refine k_X23_onLocal_214 (r2 := v1) oo ?_
            refine k_X23_onLocal_235 oo ?_
            have q3 : Fq (FS [10000 + 1184]) h2 (h2.sEI 1184 (tx 3) (40 * (s.1 - 1) + kl) (-1)) := Fq.sEI (Fq.refl h2) (fsr rfl)
            have nr2 : ∀ q ∈ rfs (sLK s (uLc (lcs s) kl none) (x :: stk s)), q.1 ≠ (s.1, kl) := fun q hq => by
              obtain ⟨j, j1, j2⟩ := List.mem_flatMap.mp hq
              have j1 : j < s.1 := List.mem_range.mp j1
              by_cases e : j = s.1 - 1
              · subst e
                have ef : (sLK s (uLc (lcs s) kl none) (x :: stk s)).2.1 (s.1 - 1) = ((tpf s).1, (tpf s).2.1, uLc (lcs s) kl none, x :: stk s) := uF_s
                rw [ef] at j2
                rcases List.mem_append.mp j2 with z | z
                · obtain ⟨i, i1, i2⟩ := List.mem_flatMap.mp z
                  rcases List.mem_cons.mp i1 with e | e
                  · rw [e] at i2
                    cases x with
                    | inl v => simp [rfI] at i2
                    | inr r =>
                      have : q = r := by simpa [rfI] using i2
                      rw [this]
                      exact hnr r (rfs_l (j := s.1 - 1) (by omega) (rfF_k hk40 hx))
                  · exact hnr q (rfs_l (j := s.1 - 1) (by omega) (List.mem_append_left _ (List.mem_flatMap.mpr ⟨i, e, i2⟩)))
                · obtain ⟨i, i1, i2⟩ := List.mem_flatMap.mp z
                  have i2 : q ∈ rfO (uLc (lcs s) kl none i) := i2
                  unfold uLc at i2
                  by_cases ei : i = kl
                  · rw [if_pos ei] at i2; simp [rfO] at i2
                  · rw [if_neg ei] at i2
                    exact hnr q (rfs_l (j := s.1 - 1) (by omega) (List.mem_append_right _ (List.mem_flatMap.mpr ⟨i, i1, i2⟩)))
              · have ef : (sLK s (uLc (lcs s) kl none) (x :: stk s)).2.1 j = s.2.1 j := uF_n e
                rw [ef] at j2
                exact hnr q (rfs_l j1 j2)
            have k3' := TK.ln (s := sLK s (uLc (lcs s) kl none) (x :: stk s)) (h' := h2.sEI 1184 (tx 3) (40 * (s.1 - 1) + kl) (-1)) (kl := kl) h1 hk40 k2' q3 (fun p hp => by have hp : p ≠ 40 * (s.1 - 1) + kl := hp; simp [n_sI, z_sI, tag_sI, I_sI, J_sI, R_sI, EI_sI, EJ_sI, ER_sI, n_sJ, z_sJ, tag_sJ, I_sJ, J_sJ, R_sJ, EI_sJ, EJ_sJ, ER_sJ, n_sR, z_sR, tag_sR, I_sR, J_sR, R_sR, EI_sR, EJ_sR, ER_sR, n_sEI, z_sEI, tag_sEI, I_sEI, J_sEI, R_sEI, EI_sEI, EJ_sEI, ER_sEI, n_sEJ, z_sEJ, tag_sEJ, I_sEJ, J_sEJ, R_sEJ, EI_sEJ, EJ_sEJ, ER_sEJ, n_sER, z_sER, tag_sER, I_sER, J_sER, R_sER, EI_sER, EJ_sER, ER_sER, n_nw, z_nw, tag_nw, I_nw, J_nw, R_nw, EI_nw, EJ_nw, ER_nw, hp]) o2 k2'.1.2 (fun _ _ _ => rfl) n2 nr2
            have es : sLK (sLK s (uLc (lcs s) kl none) (x :: stk s)) (uLc (lcs (sLK s (uLc (lcs s) kl none) (x :: stk s))) kl none) (stk (sLK s (uLc (lcs s) kl none) (x :: stk s))) = sLK s (uLc (lcs s) kl none) (x :: stk s) := by
              have et : tpf (sLK s (uLc (lcs s) kl none) (x :: stk s)) = ((tpf s).1, (tpf s).2.1, uLc (lcs s) kl none, x :: stk s) := uF_s
              show sF (sLK s (uLc (lcs s) kl none) (x :: stk s)) ((tpf (sLK s (uLc (lcs s) kl none) (x :: stk s))).1, (tpf (sLK s (uLc (lcs s) kl none) (x :: stk s))).2.1, uLc (tpf (sLK s (uLc (lcs s) kl none) (x :: stk s))).2.2.1 kl none, (tpf (sLK s (uLc (lcs s) kl none) (x :: stk s))).2.2.2) = _
              rw [et]
              have eu : uLc (uLc (lcs s) kl none) kl none = uLc (lcs s) kl none := funext fun i => by
                unfold uLc
                split <;> rfl
              rw [eu]
              exact sF_sF
            rw [es] at k3'
            exact kk _ o2 n ((twq q2 (by decide)).trans (twq q3 (by decide))) k3' t52 (show n ≤ gas s + 64 * (ens s).length + 8 by omega)
          have em : ∀ s1, s1 = sLK s (uLc (lcs s) kl none) (stk s) → mpu s1 x = sLK s (uLc (lcs s) kl none) (x :: stk s) := fun s1 e => by
            rw [e]
            have et : tpf (sLK s (uLc (lcs s) kl none) (stk s)) = ((tpf s).1, (tpf s).2.1, uLc (lcs s) kl none, stk s) := uF_s
            show sF (sLK s (uLc (lcs s) kl none) (stk s)) ((tpf (sLK s (uLc (lcs s) kl none) (stk s))).1, (tpf (sLK s (uLc (lcs s) kl none) (stk s))).2.1, (tpf (sLK s (uLc (lcs s) kl none) (stk s))).2.2.1, x :: (tpf (sLK s (uLc (lcs s) kl none) (stk s))).2.2.2) = _
            rw [et]
            exact sF_sF
          have stl : stk (sLK s (uLc (lcs s) kl none) (stk s)) = stk s := by
            show (tpf (sLK s (uLc (lcs s) kl none) (stk s))).2.2.2 = _
            have et : tpf (sLK s (uLc (lcs s) kl none) (stk s)) = ((tpf s).1, (tpf s).2.1, uLc (lcs s) kl none, stk s) := uF_s
            rw [et]
          cases x with
          | inl v =>
            obtain ⟨hb', y, y1, y2, y3⟩ := hit
            subst y3
            have kn := TK.ln (h' := h) (kl := kl) h1 hk40 k (Fq.refl h) (fun _ _ => rfl) (uO (uO o (2, 0, s.1 - 1, kl) none) (5, 0, 0, 0) (some y)) (k2.mov y1) (fun p p5 p2 => by rw [uO_n (fun e => p5 (by rw [e])), uO_n p2]) (by rw [uO_n (by intro e; cases e), uO_s]) hnr
            rw [hb']
            refine tkpv_ok (y := y) (sl := 0) kn h1 (by rw [stl]; exact h64) uO_s (by omega) (fun h2 q2 k2' => ?_)
            rw [y2, em _ rfl] at k2'
            refine fin h2 _ q2 k2' (fun a b c => ?_) ?_
            · rw [uO_n (by intro e; cases e)]
              by_cases e : ((5, a, b, c) : Sl) = (5, 0, 0, 0)
              · rw [e, uO_s]
              · rw [uO_n e, uO_n e, uO_n (by intro e; cases e)]; exact t5 a b c
            · rw [uO_n (by intro e; cases e), uO_n (by intro e; cases e), uO_n (by intro e; cases e), uO_s]
          | inr r =>
            obtain ⟨hb', hr, hno⟩ := hit
            have kn := TK.ln (h' := h) (kl := kl) h1 hk40 k (Fq.refl h) (fun _ _ => rfl) o k2 (fun _ _ _ => rfl) hno hnr
            rw [hb']
            refine tkpr_ok kn h1 (by rw [stl]; exact h64) hr (by omega) (fun h2 q2 k2' => ?_)
            rw [em _ rfl] at k2'
            exact fin h2 o q2 k2' t5 hno
        · rw [if_neg c12] at kk hne
          refine k_X23_onLocal_192 oo (fun _ => ?_) (fun q => absurd ((ev 12 (by omega)).mp q) c12)
          refine k_X23_onLocal_224 (r2 := w1) (r8 := ha) oo ?_
          cases x with
          | inr r => exact absurd rfl hne
          | inl v =>
            obtain ⟨hb', y, y1, y2, y3⟩ := hit
            have hr : rad o 0 ((s.1, kl), []) = some a := by
              have e : rsl' 0 (s.1, kl) = (2, 0, s.1 - 1, kl) := by
                obtain ⟨j, hj⟩ : ∃ j, s.1 = j + 1 := ⟨s.1 - 1, by omega⟩
                rw [hj]; rfl
              unfold rad
              show (match o (rsl' 0 (s.1, kl)) with | some z => (lva z []).map fun y => y.1 | none => none) = some a
              rw [e, y1]
              show some y.1 = some a
              rw [y3]
            refine tkpr_ok k h1 h64 hr (by omega) (fun h2 q2 k2' => ?_)
            refine k_X23_onLocal_235 oo ?_
            exact kk h2 o n (twq q2 (by decide)) k2' t5 (show n ≤ gas s + 64 * (ens s).length + 8 by omega)
end
