/-! the twin's machine: constants, locals -/
/-- sender and limit -/
def TCX (h : AH) (A : Nat) (snd : Int64) (lim : Nat) : Prop := h.J 2840 A = snd ∧ h.I 2841 A = nI lim ∧ lim ≤ 20000
theorem TCX.fs {l : List Nat} {h h' : AH} {A : Nat} {snd : Int64} {lim : Nat} (q : Fq (FS l) h h') (hl : [2840, 2841].all (fun f => !(l.contains f)) = true) (t : TCX h A snd lim) : TCX h' A snd lim := ⟨by rw [q.1.J (FS.no hl _ _ rfl)]; exact t.1, by rw [q.1.I (FS.no hl _ _ rfl)]; exact t.2.1, t.2.2⟩
/-- how many nodes -/
def NB (n : Nat) (s : Ms) : Prop := n ≤ gas s + 64 * (ens s).length + 8
/-- what an operation owes -/
def RZT (K : Outcome → AH → Prop) (h : AH) (A : Nat) (tx UX at' : Nat → Nat) (r : Rz) : Prop := match r with
  | none => True
  | some (.ok s') => ∀ h' o' n', Fq (FS twF) h h' → TK h' A tx UX at' o' n' s' → T5 o' → NB n' s' → K (.returned none) h'
  | some (.error e) => ∀ h', Fq (FS twF) h h' → TKX h' A e.1 e.2.1 (gas e.2.2) → K (.returned none) h'
section
variable {G : Gt} {d : Nat} {h h' : AH} {o o' : Lc} {tx UX at' : Nat → Nat} {A n n' lim : Nat} {snd : Int64} {s : Ms} {K : Outcome → AH → Prop}
theorem twq {l : List Nat} {h h' : AH} (q : Fq (FS l) h h') (hl : l.all (fun f => twF.contains f) = true) : Fq (FS twF) h h' := q.mono fun f a z => twF.s hl z
theorem tcon_ok {op a b : Nat} (k : TK h A tx UX at' o n s) (t5 : T5 o) (cx : TCX h A snd lim) (h1 : 1 ≤ s.1) (h64 : (stk s).length < 64) (hN : n + 1 ≤ gas s + 64 * (ens s).length + 8) (hg : gas s ≤ lim) (hop : 5 ≤ op ∧ (op < 11 ∨ op = 46)) (hd : 3 ≤ d) (kk : RZT K h A tx UX at' (oCon snd op a b s)) : MW G d e_X23_constant [.ref A, .int (nI op), .long (lN a), .long (lN b)] h K := by
  refine st_X23_constant fun X oo hG hD _ => ?_
  subst hG; subst hD
  have t0 := k.t0
  have le := k.2.2.1.2.1
  have l2 := cx.2.2
  have n24 : n < 24576 := by omega
  have ev : ∀ j, j < 100 → (nI op = nI j ↔ op = j) := fun j hj => nI_eq (by omega) (by omega)
  have fin : ∀ kd (x : Int64 × Int64), kd < 6 → oCon snd op a b s = mgo (mpu s (.inl (kd, x, .leaf))) → ∀ K2 : Outcome → AH → Prop, (∀ h', K (.returned none) h' → K2 (.returned none) h') → MW X.G (X.d - 1) e_X23_make [.ref A, .int (nI kd), .long x.1, .long x.2] h K2 := fun kd x hk he K2 hK => by
    have et : tn kd x = x := by unfold tn; rw [if_neg (by omega)]
    have := tkmake_ok (G := X.G) (d := X.d - 1) (K := K2) (kd := kd) (x := x) k h1 h64 (t5 0 0 0) n24 (by omega) (by omega) (fun h' q k' => hK h' (by
      rw [he] at kk
      refine kk h' _ _ q k' (T5.mk1 t5 (by show (1 : Nat) ≠ 5; decide)) ?_
      show n + 1 ≤ gas (mpu s _) + 64 * (ens (mpu s _)).length + 8
      exact hN))
    rw [et] at this
    exact this
  have con : ∀ it, oCon snd op a b s = mgo (mpu s it) → ∀ kd x, it = .inl (kd, x, .leaf) → oCon snd op a b s = mgo (mpu s (.inl (kd, x, .leaf))) := fun it h1 kd x h2 => by rw [h1, h2]
  have end94 : ∀ h' (L : List Value), K (.returned none) h' → ∀ v0 v1 v2 v3 v4 v5, V X K 94 [v0, v1, v2, v3, v4, v5] [] h' := fun h' _ hk v0 v1 v2 v3 v4 v5 => k_X23_constant_94 oo hk
  by_cases c5 : op = 5
  · refine k_X23_constant_0 oo (fun q => absurd ((ev 5 (by omega)).mpr c5) q) (fun _ => ?_)
    refine k_X23_constant_5 oo ?_
    refine fin 2 (0, lN a) (by omega) (by unfold oCon; rw [if_pos c5]; rfl) _ (fun h' hk => ?_)
    refine k_X23_constant_12 oo ?_
    exact end94 h' [] hk _ _ _ _ _ _
  refine k_X23_constant_0 oo (fun _ => ?_) (fun q => absurd ((ev 5 (by omega)).mp q) c5)
  by_cases c6 : op = 6
  · refine k_X23_constant_15 oo (fun q => absurd ((ev 6 (by omega)).mpr c6) q) (fun _ => ?_)
    refine k_X23_constant_21 oo ?_
    refine fin 3 (0, lN a) (by omega) (by unfold oCon; rw [if_neg c5, if_pos c6]; rfl) _ (fun h' hk => ?_)
    refine k_X23_constant_28 oo ?_
    exact end94 h' [] hk _ _ _ _ _ _
  refine k_X23_constant_15 oo (fun _ => ?_) (fun q => absurd ((ev 6 (by omega)).mp q) c6)
  by_cases c7 : op = 7
  · refine k_X23_constant_31 oo (fun q => absurd ((ev 7 (by omega)).mpr c7) q) (fun _ => ?_)
    refine k_X23_constant_37 oo ?_
    refine fin 4 (lN a, lN b) (by omega) (by unfold oCon; rw [if_neg c5, if_neg c6, if_pos c7]; rfl) _ (fun h' hk => ?_)
    refine k_X23_constant_45 oo ?_
    exact end94 h' [] hk _ _ _ _ _ _
  refine k_X23_constant_31 oo (fun _ => ?_) (fun q => absurd ((ev 7 (by omega)).mp q) c7)
  by_cases c10 : 10 ≤ op
  · refine k_X23_constant_48 oo (fun _ => ?_) (fun q => absurd ((nI_leI (a := 10) (b := op) (by omega) (by omega)).mpr c10) q)
    by_cases e10 : op = 10
    · refine k_X23_constant_74 oo (fun q => absurd ((ev 10 (by omega)).mpr e10) q) (fun _ => ?_)
      refine k_X23_constant_83 oo ?_
      refine k_X23_constant_91 oo ?_
      refine fin 5 (0, lN a) (by omega) (by unfold oCon; rw [if_neg c5, if_neg c6, if_neg c7, if_pos e10]; rfl) _ (fun h' hk => ?_)
      exact end94 h' [] hk _ _ _ _ _ _
    · have e46 : op = 46 := by omega
      refine k_X23_constant_74 oo (fun _ => ?_) (fun q => absurd ((ev 10 (by omega)).mp q) e10)
      refine k_X23_constant_87 (r2 := cx.1) oo ?_
      refine k_X23_constant_91 oo ?_
      refine fin 5 (0, snd) (by omega) (by unfold oCon; rw [if_neg c5, if_neg c6, if_neg c7, if_neg e10, if_pos e46]; rfl) _ (fun h' hk => ?_)
      exact end94 h' [] hk _ _ _ _ _ _
  · refine k_X23_constant_48 oo (fun q => absurd ((nI_leI (a := 10) (by omega) (by omega)).mp q) c10) (fun _ => ?_)
    have ec : oCon snd op a b s = mgo (mpu s (.inl (1, (0, if op = 8 then 1 else 0), .leaf))) := by
      unfold oCon
      rw [if_neg c5, if_neg c6, if_neg c7, if_neg (by omega), if_neg (by omega)]
      unfold vT vI
      by_cases c8 : op = 8
      · rw [if_pos c8, c8]; rfl
      · have : (op == 8) = false := by simpa using c8
        rw [if_neg c8, this]; rfl
    by_cases c8 : op = 8
    · rw [if_pos c8] at ec
      refine k_X23_constant_54 oo (fun q => absurd ((ev 8 (by omega)).mpr c8) q) (fun _ => ?_)
      refine k_X23_constant_63 oo ?_
      refine k_X23_constant_68 oo ?_
      refine fin 1 (0, 1) (by omega) ec _ (fun h' hk => ?_)
      refine k_X23_constant_71 oo ?_
      exact end94 h' [] hk _ _ _ _ _ _
    · rw [if_neg c8] at ec
      refine k_X23_constant_54 oo (fun _ => ?_) (fun q => absurd ((ev 8 (by omega)).mp q) c8)
      refine k_X23_constant_67 oo ?_
      refine k_X23_constant_68 oo ?_
      refine fin 1 (0, 0) (by omega) ec _ (fun h' hk => ?_)
      refine k_X23_constant_71 oo ?_
      exact end94 h' [] hk _ _ _ _ _ _
/-- who refers -/
theorem rfs_l {j : Nat} (hj : j < s.1) {q : Rx} (hq : q ∈ rfF (s.2.1 j)) : q ∈ rfs s := List.mem_flatMap.mpr ⟨j, List.mem_range.mpr hj, hq⟩
theorem rfF_s {f : Fm} {r : Rx} (h : (.inr r : It) ∈ f.2.2.2) : r ∈ rfF f := List.mem_append_left _ (List.mem_flatMap.mpr ⟨_, h, List.mem_singleton.mpr rfl⟩)
theorem rfF_k {f : Fm} {r : Rx} {k : Nat} (hk : k < 40) (h : f.2.2.1 k = some (.inr r)) : r ∈ rfF f := List.mem_append_right _ (List.mem_flatMap.mpr ⟨k, List.mem_range.mpr hk, by rw [h]; exact List.mem_singleton.mpr rfl⟩)
/-- a local and the stack of the top frame change -/
theorem TK.lk {l l1 : List It} {kl : Nat} {i : Option It} (h1 : 1 ≤ s.1) (hk40 : kl < 40) (k : TK h A tx UX at' o n s) (sm : SMm h' A tx) (th : TH h' (tx 0) n' o') (hn : ∀ f ∈ [2843, 2842, 2852, 2845], h'.I f A = h.I f A) (hh : h'.I 2861 A = nI (bsf s.2.1 (s.1 - 1) + l.length)) (l64 : l.length ≤ 64) (nS : ∀ p, p < bsf s.2.1 (s.1 - 1) → h'.EI 1216 (tx 1) p = h.EI 1216 (tx 1) p ∧ h'.EI 1234 (tx 2) p = h.EI 1234 (tx 2) p ∧ o' (1, 0, 0, p) = o (1, 0, 0, p)) (hl : TKS h' o' tx (bsf s.2.1 (s.1 - 1)) l) (nL : ∀ p, p ≠ 40 * (s.1 - 1) + kl → h'.EI 1184 (tx 3) p = h.EI 1184 (tx 3) p ∧ h'.EI 1202 (tx 4) p = h.EI 1202 (tx 4) p) (hi : TKL h' o' tx (s.1 - 1) kl i) (nE : ∀ f ∈ [1168, 1152, 1120, 1136, 1024, 1056, 1088, 1106], ∀ a p, h'.EI f a p = h.EI f a p) (nJ : ∀ f ∈ [1043, 1075], ∀ a p, h'.EJ f a p = h.EJ f a p) (ho2 : ∀ j e, (j, e) ≠ (s.1 - 1, kl) → o' (2, 0, j, e) = o (2, 0, j, e)) (ho3 : ∀ e b, o' (3, 0, e, b) = o (3, 0, e, b)) (hnr : ∀ q ∈ rfs (sK s l1), q.1 ≠ (s.1, kl)) (h0 : ∀ p, bsf s.2.1 (s.1 - 1) + l.length ≤ p → o' (1, 0, 0, p) = none) : TK h' A tx UX at' o' n' (sLK s (uLc (lcs s) kl i) l) := by
  obtain ⟨⟨k1, k2⟩, ⟨k3, k4, k5, k6, k7⟩, k8, k9, k10, k11, k12, k13⟩ := k
  have er : ∀ r : Rx, r.1 ≠ (s.1, kl) → rad o' 0 r = rad o 0 r := fun r hr => by
    have : o' (rsl' 0 r.1) = o (rsl' 0 r.1) := by
      obtain ⟨⟨a, b⟩, p⟩ := r
      cases a with
      | zero => exact ho3 b 0
      | succ j => exact ho2 j b (fun e => hr (by
          have e1 : j = s.1 - 1 := congrArg Prod.fst e
          have e2 : b = kl := congrArg Prod.snd e
          show (j + 1, b) = (s.1, kl)
          rw [e1, e2]; congr 1; omega))
    unfold rad
    rw [this]
  have sf : ∀ j, j ≠ s.1 - 1 → (sLK s (uLc (lcs s) kl i) l).2.1 j = s.2.1 j := fun j hj => by
    show uF s.2.1 (s.1 - 1) _ j = _
    unfold uF
    rw [if_neg hj]
  have sf1 : ∀ j, j ≠ s.1 - 1 → (sK s l1).2.1 j = s.2.1 j := fun j hj => by
    show uF s.2.1 (s.1 - 1) _ j = _
    unfold uF
    rw [if_neg hj]
  have st : (sLK s (uLc (lcs s) kl i) l).2.1 (s.1 - 1) = ((tpf s).1, (tpf s).2.1, uLc (lcs s) kl i, l) := by
    show uF s.2.1 (s.1 - 1) _ (s.1 - 1) = _
    unfold uF
    rw [if_pos rfl]
  have st1 : (sK s l1).2.1 (s.1 - 1) = ((tpf s).1, (tpf s).2.1, (tpf s).2.2.1, l1) := by
    show uF s.2.1 (s.1 - 1) _ (s.1 - 1) = _
    unfold uF
    rw [if_pos rfl]
  have bf : ∀ j, j ≤ s.1 - 1 → bsf (sLK s (uLc (lcs s) kl i) l).2.1 j = bsf s.2.1 j := fun j hj => bsf_c fun i hi => by rw [sf i (by omega)]
  have bt : bsf (sLK s (uLc (lcs s) kl i) l).2.1 (sLK s (uLc (lcs s) kl i) l).1 = bsf s.2.1 (s.1 - 1) + l.length := by
    show bsf (sLK s (uLc (lcs s) kl i) l).2.1 s.1 = _
    have : s.1 = (s.1 - 1) + 1 := by omega
    rw [this]
    show bsf (sLK s (uLc (lcs s) kl i) l).2.1 (s.1 - 1) + ((sLK s (uLc (lcs s) kl i) l).2.1 (s.1 - 1)).2.2.2.length = _
    rw [bf _ (Nat.le_refl _), st]
    simp only [Nat.add_sub_cancel]
  refine ⟨⟨sm, th⟩, ⟨by rw [hn _ (by decide)]; exact k3, by rw [hn _ (by decide)]; exact k4, by rw [hn _ (by decide)]; exact k5, by rw [bt]; exact hh, by rw [hn _ (by decide)]; exact k7⟩, k8, fun j hj => ?_, fun e x hx => (k10 e x hx).kp (fun f hf a => nE f (by
    simp only [List.mem_cons, List.mem_nil_iff, or_false] at hf ⊢
    rcases hf with e | e | e | e <;> (rw [e]; decide)) a e) (fun f hf a => nJ f hf a e) (ho3 e 0), fun p hp => by rw [bt] at hp; exact h0 p hp, fun j k hj => ?_, fun e b he => by rw [ho3 e b]; exact k13 e b he⟩
  · have hj : j < s.1 := hj
    obtain ⟨⟨f1, f2, f3, f4⟩, ⟨f5, f6⟩, f7⟩ := k9 j hj
    by_cases e : j = s.1 - 1
    · subst e
      rw [st, bf _ (Nat.le_refl _)]
      refine ⟨⟨by rw [nE _ (by decide)]; exact f1, by rw [nE _ (by decide)]; exact f2, by rw [nE _ (by decide)]; exact f3, by rw [nE _ (by decide)]; exact f4⟩, ⟨hl, l64⟩, fun kx => ?_⟩
      have := f7 kx
      by_cases c : kx < 40
      · rw [if_pos c] at this ⊢
        show TKL h' o' tx (s.1 - 1) kx (uLc (lcs s) kl i kx)
        unfold uLc
        by_cases ek : kx = kl
        · rw [if_pos ek, ek]; exact hi
        · rw [if_neg ek]
          obtain ⟨n1, n2⟩ := nL (40 * (s.1 - 1) + kx) (by omega)
          exact this.kp n1 n2 (ho2 _ _ (fun z => ek (congrArg Prod.snd z))) (fun r hr a ha => by
            rw [er r (hnr r (rfs_l (s := sK s l1) (j := s.1 - 1) (by show s.1 - 1 < s.1; omega) (by rw [st1]; exact rfF_k c hr)))]; exact ha)
      · rw [if_neg c] at this ⊢
        rw [ho2 _ _ (fun z => by have : kx = kl := congrArg Prod.snd z; omega)]; exact this
    · rw [sf j e, bf j (by omega)]
      have live : ∀ r, r ∈ rfF (s.2.1 j) → ∀ a, rad o 0 r = some a → rad o' 0 r = some a := fun r hr a ha => by
        rw [er r (hnr r (rfs_l (s := sK s l1) (j := j) hj (by rw [sf1 j e]; exact hr)))]; exact ha
      refine ⟨⟨by rw [nE _ (by decide)]; exact f1, by rw [nE _ (by decide)]; exact f2, by rw [nE _ (by decide)]; exact f3, by rw [nE _ (by decide)]; exact f4⟩, ⟨f5.kp (fun p _ p2 => nS p (by
        have : bsf s.2.1 (j + 1) ≤ bsf s.2.1 (s.1 - 1) := bsf_m (by omega)
        have e2 : bsf s.2.1 (j + 1) = bsf s.2.1 j + (s.2.1 j).2.2.2.length := rfl
        omega)) (fun r hm => live r (rfF_s hm)), f6⟩, fun kx => ?_⟩
      have := f7 kx
      by_cases c : kx < 40
      · rw [if_pos c] at this ⊢
        obtain ⟨n1, n2⟩ := nL (40 * j + kx) (by omega)
        exact this.kp n1 n2 (ho2 _ _ (fun z => e (congrArg Prod.fst z))) (fun r hr => live r (rfF_k c hr))
      · rw [if_neg c] at this ⊢
        rw [ho2 _ _ (fun z => e (congrArg Prod.fst z))]; exact this
  · have hj : s.1 ≤ j := hj
    rw [ho2 _ _ (fun z => by have : j = s.1 - 1 := congrArg Prod.fst z; omega)]
    exact k12 j k hj
end
