/-! the twin's machine: locals -/
section
variable {G : Gt} {d : Nat} {h h' : AH} {o o' : Lc} {tx UX at' : Nat → Nat} {A n n' lim : Nat} {snd : Int64} {s : Ms} {K : Outcome → AH → Prop}
theorem tpf_K {t : List It} : tpf (sK s t) = ((tpf s).1, (tpf s).2.1, (tpf s).2.2.1, t) := by
  unfold tpf sK sF
  exact uF_s
theorem sK_K {t l : List It} : sK (sK s t) l = sK s l := by
  show sF (sK s t) ((tpf (sK s t)).1, (tpf (sK s t)).2.1, (tpf (sK s t)).2.2.1, l) = _
  rw [tpf_K]
  exact sF_sF
theorem sLK_K {t l : List It} {kl : Nat} {i : Option It} : sLK (sK s t) (uLc (lcs (sK s t)) kl i) l = sLK s (uLc (lcs s) kl i) l := by
  show sF (sK s t) ((tpf (sK s t)).1, (tpf (sK s t)).2.1, uLc (tpf (sK s t)).2.2.1 kl i, l) = _
  rw [tpf_K]
  exact sF_sF
theorem mpu_K {t : List It} {x : It} : mpu (sK s t) x = sK s (x :: t) := by
  unfold mpu
  rw [stk_K, sK_K]
theorem sK_s : sK s (stk s) = s := by
  show (s.1, uF s.2.1 (s.1 - 1) ((tpf s).1, (tpf s).2.1, (tpf s).2.2.1, stk s), s.2.2) = s
  have : uF s.2.1 (s.1 - 1) ((tpf s).1, (tpf s).2.1, (tpf s).2.2.1, stk s) = s.2.1 := uF_self rfl
  rw [this]
/-- a local, in the rows -/
theorem tlocal_ok {f kl : Nat} (t0 : h.tag A = some (22, 0)) (hf : h.I 2852 A = nI f) (h1 : 1 ≤ f) (kk : K (.returned (some (.int (nI (40 * (f - 1) + kl))))) h) : MW G d e_X23_local [.ref A, .int (nI kl)] h K := by
  refine st_X23_local fun X oo hG hD _ => ?_
  refine k_X23_local_0 (r2 := hf) oo ?_
  rw [nI_sub h1, nI_mul, nI_add]
  exact kk
/-- two rows of locals are written -/
def lc2F : List Nat := [10000 + 1184, 10000 + 1202]
theorem tloc_13 {X : Xt} (oo : OK e_X23_onLocal X) {kl : Nat} {x : It} {t : List It} {v4 : Value} (k : TK h A tx UX at' o n s) (t5 : T5 o) (h1 : 1 ≤ s.1) (hN : NB n s) (hk40 : kl < 40) (hs : stk s = x :: t) (hx : ∀ r, x = .inr r → r.1 ≠ (s.1, kl)) (hnr : ∀ q ∈ rfs (sK s t), q.1 ≠ (s.1, kl)) (hd : 3 ≤ X.d) (kk : ∀ h' o' n', Fq (FS twF) h h' → TK h' A tx UX at' o' n' (sLK s (uLc (lcs s) kl (some x)) t) → T5 o' → NB n' (sLK s (uLc (lcs s) kl (some x)) t) → K (.returned none) h') : V X K 12 [.ref A, .int (nI 13), .int (nI kl), .int (nI (40 * (s.1 - 1) + kl)), v4] [] h := by
  obtain ⟨⟨k1, k2⟩, ⟨k3, k4, k5, k6, k7⟩, ⟨k8, k8', k8''⟩, k9, k10, k11, k12, k13⟩ := id k
  have t0 := k.t0
  obtain ⟨e1, e2, e3, e4⟩ := k.hgt h1
  rw [hs] at e1 e3 e4
  have e1 : bsf s.2.1 s.1 = bsf s.2.1 (s.1 - 1) + (t.length + 1) := e1
  have e3 : t.length + 1 ≤ 64 := e3
  obtain ⟨r3, r4⟩ := k1.at 1 rfl
  obtain ⟨r5, r6⟩ := k1.at 4 rfl
  obtain ⟨⟨b1, -⟩, -⟩ := k9 (s.1 - 1) (by omega)
  have is : nI s.1 - nI 1 = nI (s.1 - 1) := nI_sub (by omega)
  have ih : nI (bsf s.2.1 s.1) - nI 1 = nI (bsf s.2.1 (s.1 - 1) + t.length) := by
    rw [nI_sub (by omega)]
    congr 1; omega
  have ix1 : IX (nI s.1 - nI 1) 32 (s.1 - 1) := by rw [is]; exact IX.mk (by omega) (by omega)
  have ix2 : IX (nI (bsf s.2.1 s.1) - nI 1) 2200 (bsf s.2.1 (s.1 - 1) + t.length) := by rw [ih]; exact IX.mk (by omega) (by omega)
  have ixl : IX (nI (40 * (s.1 - 1) + kl)) 1280 (40 * (s.1 - 1) + kl) := IX.mk (by omega) (by omega)
  -- behind the taking
  have fin : ∀ (h2 : AH) (o2 o3 : Lc) (a : Nat) (b : Bool), Fq (FS taF) h h2 → TK h2 A tx UX at' o2 n (sK s t) → h2.I 2862 A = nI a → TH h2 (tx 0) n o3 → (∀ p : Sl, p.1 ≠ 5 → p ≠ (2, 0, s.1 - 1, kl) → o3 p = o2 p) → T5 o3 → (match x with
      | .inl v => b = false ∧ ∃ y, o3 (2, 0, s.1 - 1, kl) = some y ∧ lvE y = v ∧ y.1 = a
      | .inr r => b = true ∧ rad o2 0 r = some a ∧ o3 (2, 0, s.1 - 1, kl) = none) → V X K 64 [.ref A, .int (nI 13), .int (nI kl), .int (nI (40 * (s.1 - 1) + kl)), .int (bI b)] [.int (nI a)] h2 := fun h2 o2 o3 a b q2 k2 tk th ho t53 hi => by
    have t02 := k2.t0
    refine k_X23_onLocal_64 oo ?_
    refine goes_ok t02 k2.2.1.1 ?_
    refine k_X23_onLocal_69 oo (fun _ => ?_) (fun q => absurd q (by decide))
    obtain ⟨w1, w2⟩ := k2.1.1.at 2 rfl
    obtain ⟨w3, w4⟩ := k2.1.1.at 3 rfl
    refine k_X23_onLocal_73 (r2 := w1) (r4 := tk) (r10 := w3) oo ?_
    have q : Fq (FS lc2F) h2 ((h2.sEI 1184 (tx 3) (40 * (s.1 - 1) + kl) (nI a)).sEI 1202 (tx 4) (40 * (s.1 - 1) + kl) (bI b)) := Fq.sEI (Fq.sEI (Fq.refl h2) (fsr rfl)) (fsr rfl)
    have s1 : ((h2.sEI 1184 (tx 3) (40 * (s.1 - 1) + kl) (nI a)).sEI 1202 (tx 4) (40 * (s.1 - 1) + kl) (bI b)).EI 1184 (tx 3) (40 * (s.1 - 1) + kl) = nI a := by simp [n_sI, z_sI, tag_sI, I_sI, J_sI, R_sI, EI_sI, EJ_sI, ER_sI, n_sJ, z_sJ, tag_sJ, I_sJ, J_sJ, R_sJ, EI_sJ, EJ_sJ, ER_sJ, n_sR, z_sR, tag_sR, I_sR, J_sR, R_sR, EI_sR, EJ_sR, ER_sR, n_sEI, z_sEI, tag_sEI, I_sEI, J_sEI, R_sEI, EI_sEI, EJ_sEI, ER_sEI, n_sEJ, z_sEJ, tag_sEJ, I_sEJ, J_sEJ, R_sEJ, EI_sEJ, EJ_sEJ, ER_sEJ, n_sER, z_sER, tag_sER, I_sER, J_sER, R_sER, EI_sER, EJ_sER, ER_sER, n_nw, z_nw, tag_nw, I_nw, J_nw, R_nw, EI_nw, EJ_nw, ER_nw]
    have s2 : ((h2.sEI 1184 (tx 3) (40 * (s.1 - 1) + kl) (nI a)).sEI 1202 (tx 4) (40 * (s.1 - 1) + kl) (bI b)).EI 1202 (tx 4) (40 * (s.1 - 1) + kl) = bI b := by simp [n_sI, z_sI, tag_sI, I_sI, J_sI, R_sI, EI_sI, EJ_sI, ER_sI, n_sJ, z_sJ, tag_sJ, I_sJ, J_sJ, R_sJ, EI_sJ, EJ_sJ, ER_sJ, n_sR, z_sR, tag_sR, I_sR, J_sR, R_sR, EI_sR, EJ_sR, ER_sR, n_sEI, z_sEI, tag_sEI, I_sEI, J_sEI, R_sEI, EI_sEI, EJ_sEI, ER_sEI, n_sEJ, z_sEJ, tag_sEJ, I_sEJ, J_sEJ, R_sEJ, EI_sEJ, EJ_sEJ, ER_sEJ, n_sER, z_sER, tag_sER, I_sER, J_sER, R_sER, EI_sER, EJ_sER, ER_sER, n_nw, z_nw, tag_nw, I_nw, J_nw, R_nw, EI_nw, EJ_nw, ER_nw]
    have s3 : ∀ p, p ≠ 40 * (s.1 - 1) + kl → ((h2.sEI 1184 (tx 3) (40 * (s.1 - 1) + kl) (nI a)).sEI 1202 (tx 4) (40 * (s.1 - 1) + kl) (bI b)).EI 1184 (tx 3) p = h2.EI 1184 (tx 3) p ∧ ((h2.sEI 1184 (tx 3) (40 * (s.1 - 1) + kl) (nI a)).sEI 1202 (tx 4) (40 * (s.1 - 1) + kl) (bI b)).EI 1202 (tx 4) p = h2.EI 1202 (tx 4) p := fun p hp => ⟨by simp [n_sI, z_sI, tag_sI, I_sI, J_sI, R_sI, EI_sI, EJ_sI, ER_sI, n_sJ, z_sJ, tag_sJ, I_sJ, J_sJ, R_sJ, EI_sJ, EJ_sJ, ER_sJ, n_sR, z_sR, tag_sR, I_sR, J_sR, R_sR, EI_sR, EJ_sR, ER_sR, n_sEI, z_sEI, tag_sEI, I_sEI, J_sEI, R_sEI, EI_sEI, EJ_sEI, ER_sEI, n_sEJ, z_sEJ, tag_sEJ, I_sEJ, J_sEJ, R_sEJ, EI_sEJ, EJ_sEJ, ER_sEJ, n_sER, z_sER, tag_sER, I_sER, J_sER, R_sER, EI_sER, EJ_sER, ER_sER, n_nw, z_nw, tag_nw, I_nw, J_nw, R_nw, EI_nw, EJ_nw, ER_nw, hp], by simp [n_sI, z_sI, tag_sI, I_sI, J_sI, R_sI, EI_sI, EJ_sI, ER_sI, n_sJ, z_sJ, tag_sJ, I_sJ, J_sJ, R_sJ, EI_sJ, EJ_sJ, ER_sJ, n_sR, z_sR, tag_sR, I_sR, J_sR, R_sR, EI_sR, EJ_sR, ER_sR, n_sEI, z_sEI, tag_sEI, I_sEI, J_sEI, R_sEI, EI_sEI, EJ_sEI, ER_sEI, n_sEJ, z_sEJ, tag_sEJ, I_sEJ, J_sEJ, R_sEJ, EI_sEJ, EJ_sEJ, ER_sEJ, n_sER, z_sER, tag_sER, I_sER, J_sER, R_sER, EI_sER, EJ_sER, ER_sER, n_nw, z_nw, tag_nw, I_nw, J_nw, R_nw, EI_nw, EJ_nw, ER_nw, hp]⟩
    generalize (h2.sEI 1184 (tx 3) (40 * (s.1 - 1) + kl) (nI a)).sEI 1202 (tx 4) (40 * (s.1 - 1) + kl) (bI b) = h3 at q s1 s2 s3
    have q13 : Fq (FS twF) h h3 := (twq q2 (by decide)).trans (twq q (by decide))
    have ho2 : ∀ j e, (j, e) ≠ (s.1 - 1, kl) → o3 (2, 0, j, e) = o2 (2, 0, j, e) := fun j e hje => ho _ (by show (2 : Nat) ≠ 5; decide) (fun z => hje (by
      have e1 : j = s.1 - 1 := congrArg (fun p : Sl => p.2.2.1) z
      have e2 : e = kl := congrArg (fun p : Sl => p.2.2.2) z
      rw [e1, e2]))
    have ho3 : ∀ e b, o3 (3, 0, e, b) = o2 (3, 0, e, b) := fun e b => ho _ (by show (3 : Nat) ≠ 5; decide) (fun z => by cases z)
    have ho1 : ∀ p, o3 (1, 0, 0, p) = o2 (1, 0, 0, p) := fun p => ho _ (by show (1 : Nat) ≠ 5; decide) (fun z => by cases z)
    have er : ∀ r : Rx, r.1 ≠ (s.1, kl) → rad o3 0 r = rad o2 0 r := fun r hr => by
      have : o3 (rsl' 0 r.1) = o2 (rsl' 0 r.1) := by
        obtain ⟨⟨a, b⟩, p⟩ := r
        cases a with
        | zero => exact ho3 b 0
        | succ j => exact ho2 j b (fun e => hr (by
            have e1 : j = s.1 - 1 := congrArg Prod.fst e
            have e2 : b = kl := congrArg Prod.snd e
            show (j + 1, b) = (s.1, kl)
            rw [e1, e2]; congr 1; omega))
      unfold rad
      rw [this]
    have bb : bsf (sK s t).2.1 ((sK s t).1 - 1) = bsf s.2.1 (s.1 - 1) := bsf_c fun i hi => by
      show (uF s.2.1 (s.1 - 1) _ i).2.2.2 = _
      rw [uF_n (by have : i < s.1 - 1 := hi; omega)]
    obtain ⟨g1, g2, g3, g4⟩ := k2.hgt h1
    rw [stk_K] at g1 g3 g4
    have fin2 := TK.lk (l := t) (l1 := t) (i := some x) (kl := kl) (o' := o3) (n' := n) (h' := h3) (s := sK s t) h1 hk40 k2 (k2.1.1.fr q.1 (FS.no (by decide))) (th.fr q.1 (FS.no (by decide))) (fun f hf => q.1.I (FS.n (by
      simp only [List.mem_cons, List.mem_nil_iff, or_false] at hf
      rcases hf with e | e | e | e <;> (rw [e]; decide)))) (by rw [q.1.I (FS.n rfl)]; have := k2.2.1.2.2.2.1; rw [g1] at this; exact this) (by omega) (fun p hp => ⟨q.1.EI (FS.n (by decide)) _, q.1.EI (FS.n (by decide)) _, ho1 p⟩) (g4.kp (fun p _ _ => ⟨q.1.EI (FS.n (by decide)) _, q.1.EI (FS.n (by decide)) _, ho1 p⟩) (fun r hm a ha => by
        rw [er r (hnr r (rfs_l (s := sK s t) (j := s.1 - 1) (by show s.1 - 1 < s.1; omega) (by
          have : (sK s t).2.1 (s.1 - 1) = ((tpf s).1, (tpf s).2.1, (tpf s).2.2.1, t) := uF_s
          rw [this]; exact rfF_s hm)))]
        exact ha)) (fun p hp => s3 p hp) (by
        cases x with
        | inl v =>
          obtain ⟨hb, y, y1, y2, y3⟩ := hi
          exact ⟨y, y1, y2, by rw [y3]; exact s1, by rw [hb] at s2; exact s2⟩
        | inr r =>
          obtain ⟨hb, y1, y2⟩ := hi
          exact ⟨y2, a, by rw [er r (hx r rfl)]; exact y1, s1, by rw [hb] at s2; exact s2⟩) (fun f hf a p => q.1.EI (FS.n (by
      simp only [List.mem_cons, List.mem_nil_iff, or_false] at hf
      rcases hf with e | e | e | e | e | e | e | e <;> (rw [e]; decide))) _) (fun f hf a p => q.1.EJ (FS.n (by
      simp only [List.mem_cons, List.mem_nil_iff, or_false] at hf
      rcases hf with e | e <;> (rw [e]; decide))) _) ho2 ho3 (by rw [sK_K]; exact hnr) (fun p hp => by
        rw [ho1 p]
        exact k2.2.2.2.2.2.1 p (by rw [g1]; exact hp))
    rw [sLK_K] at fin2
    exact kk h3 o3 n q13 fin2 t53 hN
  refine k_X23_onLocal_12 oo ?_
  refine goes_ok t0 k3 ?_
  refine k_X23_onLocal_16 oo (fun q => absurd q (by decide)) (fun _ => ?_)
  refine k_X23_onLocal_19 (r2 := k6) (r4 := r5) (r6 := k5) (b10 := ix1) (r12 := b1) oo (fun q => absurd ((nI_leI (by omega) (by omega)).mp q) (by omega)) (fun _ => ?_)
  cases x with
  | inl v =>
    obtain ⟨y0, z1, z2, z3, z4⟩ := e4.1
    refine k_X23_onLocal_37 (r2 := r3) (r4 := k6) (b8 := ix2) (r10 := z4) oo (fun _ => ?_) (fun q => absurd rfl q)
    refine k_X23_onLocal_55 oo ?_
    refine k_X23_onLocal_56 oo ?_
    refine tktv_ok (sl := 0) k h1 hs (t5 0 0 0) (by omega) (fun h2 y q2 hy k2 tk => ?_)
    refine fin h2 _ (uO (uO (uO (uO o (1, 0, 0, bsf s.2.1 (s.1 - 1) + t.length) none) (5, 0, 0, 0) (some y)) (5, 0, 0, 0) none) (2, 0, s.1 - 1, kl) (some y)) y.1 false q2 k2 tk (k2.1.2.mov uO_s) (fun p p5 p2 => by rw [uO_n p2, uO_n (fun e => p5 (by rw [e]))]) ?_ ⟨rfl, y, uO_s, hy, rfl⟩
    intro a b c
    rw [uO_n (by intro e; cases e)]
    by_cases e : ((5, a, b, c) : Sl) = (5, 0, 0, 0)
    · rw [e, uO_s]
    · rw [uO_n e, uO_n e, uO_n (by intro e; cases e)]; exact t5 a b c
  | inr r =>
    obtain ⟨y0, z1, z2, z4, z5⟩ := e4.1
    refine k_X23_onLocal_37 (r2 := r3) (r4 := k6) (b8 := ix2) (r10 := z4) oo (fun q => absurd q (by decide)) (fun _ => ?_)
    refine k_X23_onLocal_51 oo ?_
    refine k_X23_onLocal_56 oo ?_
    refine tktr_ok k h1 hs (by omega) (fun h2 a q2 ha k2 tk => ?_)
    refine fin h2 o (uO o (2, 0, s.1 - 1, kl) none) a true q2 k2 tk k2.1.2.del (fun p p5 p2 => uO_n p2) (t5.un (by show (2 : Nat) ≠ 5; decide)) ⟨rfl, ha, uO_s⟩
end
