/-! the twin's machine: values come and go -/
/-- all that the twin's operations write -/
def twF : List Nat := tkmF ++ tFl ++ [2862, 2844, 2830, 2864] ++ wFl ++ mdF
theorem twF.s {l : List Nat} (hl : l.all (fun f => twF.contains f) = true) {f a : Nat} (z : FS l f a) : FS twF f a := by
  rw [List.all_eq_true] at hl
  exact hl f (List.contains_iff_mem.mp z)
section
variable {G : Gt} {d : Nat} {h h' : AH} {o o' : Lc} {tx UX at' : Nat → Nat} {A n n' : Nat} {s : Ms} {K : Outcome → AH → Prop}
/-- a value aside is pushed -/
theorem tkpv_ok {y : LV} {sl : Nat} (k : TK h A tx UX at' o n s) (h1 : 1 ≤ s.1) (h64 : (stk s).length < 64) (hy : o (5, 0, sl, 0) = some y) (hd : 1 ≤ d) (kk : ∀ h', Fq (FS psF) h h' → TK h' A tx UX at' (uO (uO o (5, 0, sl, 0) none) (1, 0, 0, bsf s.2.1 s.1) (some y)) n (mpu s (.inl (lvE y))) → K (.returned none) h') : MW G d e_X23_push [.ref A, .int (nI y.1), .int (nI 0)] h K :=
  tkpush_ok (b := false) (i := .inl (lvE y)) k h1 h64 _ (k.1.2.mov hy) (fun p p5 p1 => by rw [uO_n p1, uO_n (fun e => p5 (by rw [e]))]) ⟨rfl, y, uO_s, rfl, rfl⟩ hd kk
theorem tkpr_ok {r : Rx} {a : Nat} (k : TK h A tx UX at' o n s) (h1 : 1 ≤ s.1) (h64 : (stk s).length < 64) (hr : rad o 0 r = some a) (hd : 1 ≤ d) (kk : ∀ h', Fq (FS psF) h h' → TK h' A tx UX at' o n (mpu s (.inr r)) → K (.returned none) h') : MW G d e_X23_push [.ref A, .int (nI a), .int (nI 1)] h K :=
  tkpush_ok (b := true) (i := .inr r) k h1 h64 o k.1.2 (fun _ _ _ => rfl) ⟨rfl, hr, k.2.2.2.2.2.1 _ (Nat.le_refl _)⟩ hd kk
/-- the value on top -/
theorem TK.tv {v : VL} {t : List It} (k : TK h A tx UX at' o n s) (h1 : 1 ≤ s.1) (hs : stk s = .inl v :: t) : ∃ y, o (1, 0, 0, bsf s.2.1 (s.1 - 1) + t.length) = some y ∧ lvE y = v := by
  have := (k.hgt h1).2.2.2
  rw [hs] at this
  obtain ⟨y, y1, y2, -⟩ := this.1
  exact ⟨y, y1, y2⟩
theorem TK.tr {r : Rx} {t : List It} (k : TK h A tx UX at' o n s) (h1 : 1 ≤ s.1) (hs : stk s = .inr r :: t) : ∃ a, rad o 0 r = some a ∧ a < n := by
  have := (k.hgt h1).2.2.2
  rw [hs] at this
  obtain ⟨a, a1, -⟩ := this.1
  exact ⟨a, a1, (rad_lt k.1.2 a1).1⟩
theorem tktv_ok {v : VL} {t : List It} {sl : Nat} (k : TK h A tx UX at' o n s) (h1 : 1 ≤ s.1) (hs : stk s = .inl v :: t) (h5 : o (5, 0, sl, 0) = none) (hd : 1 ≤ d) (kk : ∀ h' y, Fq (FS taF) h h' → lvE y = v → TK h' A tx UX at' (uO (uO o (1, 0, 0, bsf s.2.1 (s.1 - 1) + t.length) none) (5, 0, sl, 0) (some y)) n (sK s t) → h'.I 2862 A = nI y.1 → K (.returned (some (.int (nI y.1)))) h') : MW G d e_X23_takeAny [.ref A, .int (nI 0)] h K := by
  obtain ⟨y, y1, y2⟩ := k.tv h1 hs
  exact tktake_ok (b := false) (i := .inl v) (a := y.1) k h1 hs _ (k.1.2.mov y1) (fun p p5 p1 => by rw [uO_n (fun e => p5 (by rw [e])), uO_n p1]) (by rw [uO_n (by intro e; cases e), uO_s]) ⟨rfl, y, y1, rfl⟩ hd (fun h' q k' t' => kk h' y q y2 k' t')
theorem tktr_ok {r : Rx} {t : List It} (k : TK h A tx UX at' o n s) (h1 : 1 ≤ s.1) (hs : stk s = .inr r :: t) (hd : 1 ≤ d) (kk : ∀ h' a, Fq (FS taF) h h' → rad o 0 r = some a → TK h' A tx UX at' o n (sK s t) → h'.I 2862 A = nI a → K (.returned (some (.int (nI a)))) h') : MW G d e_X23_takeAny [.ref A, .int (nI 1)] h K := by
  obtain ⟨a, a1, -⟩ := k.tr h1 hs
  have hn : o (1, 0, 0, bsf s.2.1 (s.1 - 1) + t.length) = none := by
    have := (k.hgt h1).2.2.2
    rw [hs] at this
    obtain ⟨_, -, -, -, z⟩ := this.1
    exact z
  exact tktake_ok (b := true) (i := .inr r) (a := a) k h1 hs o k.1.2 (fun _ _ _ => rfl) hn ⟨rfl, a1⟩ hd (fun h' q k' t' => kk h' a q a1 k' t')
/-- a new value is pushed -/
theorem tkmake_ok {kd : Nat} {x : Int64 × Int64} (k : TK h A tx UX at' o n s) (h1 : 1 ≤ s.1) (h64 : (stk s).length < 64) (h5 : o (5, 0, 0, 0) = none) (hn : n < 24576) (hk : kd < 128) (hd : 2 ≤ d) (kk : ∀ h', Fq (FS twF) h h' → TK h' A tx UX at' (uO (uO (uO o (5, 0, 0, 0) (some (n, kd, x, .leaf))) (5, 0, 0, 0) none) (1, 0, 0, bsf s.2.1 s.1) (some (n, kd, x, .leaf))) (n + 1) (mpu s (.inl (kd, x, .leaf))) → K (.returned none) h') : MW G d e_X23_make [.ref A, .int (nI kd), .long (tn kd x).1, .long (tn kd x).2] h K := by
  refine st_X23_make fun X oo hG hD _ => ?_
  subst hG; subst hD
  have t0 := k.t0
  have rT := k.1.1.1.2
  have tT := k.1.2.1.1.1.1
  refine k_X23_make_0 oo ?_
  refine goes_ok t0 k.2.1.1 ?_
  refine k_X23_make_4 oo (fun q => absurd q (by decide)) (fun _ => ?_)
  refine k_X23_make_7 (r2 := rT) oo ?_
  refine thmake_ok (p := (5, 0, 0, 0)) k.1.2 h5 hn hk (fun h2 q2 th2 => ?_)
  have k2 : TK h2 A tx UX at' (uO o (5, 0, 0, 0) (some (n, kd, x, .leaf))) (n + 1) s := k.asd q2 th2 (fun p hp => uO_n (fun e => hp (by rw [e])))
  have t02 := k2.t0
  refine k_X23_make_19 oo ?_
  refine tkpv_ok (y := (n, kd, x, .leaf)) (sl := 0) k2 h1 h64 uO_s (by omega) (fun h3 q3 k3 => ?_)
  refine k_X23_make_23 oo ?_
  exact kk h3 ((q2.mono fun f a z => twF.s (by decide) z).trans (q3.mono fun f a z => twF.s (by decide) z)) k3
/-- aside, nothing is left -/
theorem T5.mk1 {p : Sl} {y : Option LV} {sl : Nat} (t : T5 o) (hp : p.1 ≠ 5) : T5 (uO (uO (uO o (5, 0, sl, 0) y) (5, 0, sl, 0) none) p y) := fun a b c => by
  rw [uO_n (fun e => hp (by rw [← e]))]
  by_cases e : ((5, a, b, c) : Sl) = (5, 0, sl, 0)
  · rw [e, uO_s]
  · rw [uO_n e, uO_n e]; exact t a b c
theorem T5.un {p : Sl} {y : Option LV} (t : T5 o) (hp : p.1 ≠ 5) : T5 (uO o p y) := fun a b c => by
  rw [uO_n (fun e => hp (by rw [← e]))]
  exact t a b c
/-- the kind of what is taken -/
theorem tktk_ok {v : VL} {t : List It} {sl : Nat} (k : TK h A tx UX at' o n s) (h1 : 1 ≤ s.1) (hs : stk s = .inl v :: t) (h5 : o (5, 0, sl, 0) = none) (hk : v.1 < 128) (hd : 2 ≤ d) (kk : ∀ h' y, Fq (FS taF) h h' → lvE y = v → TK h' A tx UX at' (uO (uO o (1, 0, 0, bsf s.2.1 (s.1 - 1) + t.length) none) (5, 0, sl, 0) (some y)) n (sK s t) → K (.returned (some (.int (nI y.1)))) h') : MW G d e_X23_take [.ref A, .int (nI v.1)] h K := by
  refine st_X23_take fun X oo hG hD _ => ?_
  subst hG; subst hD
  have t0 := k.t0
  refine k_X23_take_0 oo ?_
  refine tktv_ok k h1 hs h5 (by omega) (fun h2 y q2 hy k2 _ => ?_)
  have t02 := k2.t0
  refine k_X23_take_5 oo ?_
  refine goes_ok t02 k2.2.1.1 ?_
  refine k_X23_take_10 oo (fun q => absurd q (by decide)) (fun _ => ?_)
  have rT := k2.1.1.1.2
  obtain ⟨⟨⟨⟨e1, e2, e3, e4, e5, e6⟩, e7, e8, e9, e10, e11⟩, sz, n24⟩, -, v5⟩ := k2.1.2
  obtain ⟨tv, ad, -⟩ := v5 (5, 0, sl, 0) y uO_s
  have yl := ad y.1 (adr_1 y)
  have ix : IX (nI y.1) 24576 y.1 := IX.mk (by omega) (by omega)
  have kd : h2.EI 1633 (tx 0 + 1) y.1 = nI v.1 := by rw [← hy]; exact tv.2.1
  refine k_X23_take_13 (r2 := rT) (r5 := e2) (r11 := kd) oo (fun _ => ?_) (fun q => absurd rfl q)
  refine k_X23_take_30 oo ?_
  exact kk h2 y q2 hy k2
theorem tktl_ok {v : VL} {t : List It} {sl : Nat} (k : TK h A tx UX at' o n s) (h1 : 1 ≤ s.1) (hs : stk s = .inl v :: t) (h5 : o (5, 0, sl, 0) = none) (hk : v.1 = 3) (hd : 3 ≤ d) (kk : ∀ h' y, Fq (FS taF) h h' → lvE y = v → TK h' A tx UX at' (uO (uO o (1, 0, 0, bsf s.2.1 (s.1 - 1) + t.length) none) (5, 0, sl, 0) (some y)) n (sK s t) → K (.returned (some (.long v.2.1.2))) h') : MW G d e_X23_takeLong [.ref A] h K := by
  refine st_X23_takeLong fun X oo hG hD _ => ?_
  subst hG; subst hD
  have t0 := k.t0
  refine k_X23_takeLong_0 oo ?_
  have := tktk_ok (G := X.G) (d := X.d - 1) (K := kin (V X K 5) K [.ref A, nov] []) k h1 hs h5 (by omega) (by omega) (fun h2 y q2 hy k2 => ?_)
  · rw [hk] at this; exact this
  · have t02 := k2.t0
    have rT := k2.1.1.1.2
    obtain ⟨⟨⟨⟨e1, e2, e3, e4, e5, e6⟩, e7, e8, e9, e10, e11⟩, sz, n24⟩, -, v5⟩ := k2.1.2
    obtain ⟨tv, ad, -⟩ := v5 (5, 0, sl, 0) y uO_s
    have yl := ad y.1 (adr_1 y)
    have ix : IX (nI y.1) 24576 y.1 := IX.mk (by omega) (by omega)
    have k3 : y.2.1 = 3 := by rw [← hk, ← hy]; rfl
    have lo : h2.EJ 1667 (tx 0 + 3) y.1 = v.2.1.2 := by
      have := tv.2.2.2.1
      unfold tn at this
      rw [if_neg (by omega)] at this
      rw [this, ← hy]; rfl
    refine k_X23_takeLong_5 (r2 := rT) (r5 := e4) (r11 := lo) oo ?_
    exact kk h2 y q2 hy k2
end
