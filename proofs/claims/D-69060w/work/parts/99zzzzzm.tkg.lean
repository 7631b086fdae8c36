/-! the twin asks for a place -/
/-- what an account holds, what a resource -/
def tac (t : Tst) (a : Int64) : Cn := match (t.1.findIdx? fun x => x.1 == a) with
  | some i => (match t.1[i]? with
    | some x => (true, x.2.1, x.2.2, none)
    | none => (false, 0, 0, none))
  | none => (false, 0, 0, none)
def trsc (t : Tst) (a : Int64) (k : Nat) : Cn := match (t.2.2.findIdx? fun x => x.1 == a && x.2.1 == k) with
  | some i => (match t.2.2[i]? with
    | some x => (true, 0, 0, some x.2.2)
    | none => (false, 0, 0, none))
  | none => (false, 0, 0, none)
/-- one entry is written -/
def asF : List Nat := [2845, 10000 + 1024, 10000 + 1043, 10000 + 1056, 10000 + 1075, 10000 + 1088, 10000 + 1106]
def AQe (e : Nat) (h h' : AH) : Prop := Fq (FS asF) h h' ∧ ∀ f a p, p ≠ e → h'.EI f a p = h.EI f a p ∧ h'.EJ f a p = h.EJ f a p
theorem AQe.trans {e : Nat} {h h1 h2 : AH} (a : AQe e h h1) (b : AQe e h1 h2) : AQe e h h2 := ⟨a.1.trans b.1, fun f x p hp => ⟨by rw [(b.2 f x p hp).1]; exact (a.2 f x p hp).1, by rw [(b.2 f x p hp).2]; exact (a.2 f x p hp).2⟩⟩
theorem AQe.ei {e t x : Nat} {h : AH} {v : Int32} (ht : asF.contains (10000 + t) = true) : AQe e h (h.sEI t x e v) := ⟨Fq.sEI (Fq.refl h) (fsr ht), fun f a p hp => ⟨by simp [n_sI, z_sI, tag_sI, I_sI, J_sI, R_sI, EI_sI, EJ_sI, ER_sI, n_sJ, z_sJ, tag_sJ, I_sJ, J_sJ, R_sJ, EI_sJ, EJ_sJ, ER_sJ, n_sR, z_sR, tag_sR, I_sR, J_sR, R_sR, EI_sR, EJ_sR, ER_sR, n_sEI, z_sEI, tag_sEI, I_sEI, J_sEI, R_sEI, EI_sEI, EJ_sEI, ER_sEI, n_sEJ, z_sEJ, tag_sEJ, I_sEJ, J_sEJ, R_sEJ, EI_sEJ, EJ_sEJ, ER_sEJ, n_sER, z_sER, tag_sER, I_sER, J_sER, R_sER, EI_sER, EJ_sER, ER_sER, n_nw, z_nw, tag_nw, I_nw, J_nw, R_nw, EI_nw, EJ_nw, ER_nw, hp], by simp [n_sI, z_sI, tag_sI, I_sI, J_sI, R_sI, EI_sI, EJ_sI, ER_sI, n_sJ, z_sJ, tag_sJ, I_sJ, J_sJ, R_sJ, EI_sJ, EJ_sJ, ER_sJ, n_sR, z_sR, tag_sR, I_sR, J_sR, R_sR, EI_sR, EJ_sR, ER_sR, n_sEI, z_sEI, tag_sEI, I_sEI, J_sEI, R_sEI, EI_sEI, EJ_sEI, ER_sEI, n_sEJ, z_sEJ, tag_sEJ, I_sEJ, J_sEJ, R_sEJ, EI_sEJ, EJ_sEJ, ER_sEJ, n_sER, z_sER, tag_sER, I_sER, J_sER, R_sER, EI_sER, EJ_sER, ER_sER, n_nw, z_nw, tag_nw, I_nw, J_nw, R_nw, EI_nw, EJ_nw, ER_nw]⟩⟩
theorem AQe.ej {e t x : Nat} {h : AH} {v : Int64} (ht : asF.contains (10000 + t) = true) : AQe e h (h.sEJ t x e v) := ⟨Fq.sEJ (Fq.refl h) (fsr ht), fun f a p hp => ⟨by simp [n_sI, z_sI, tag_sI, I_sI, J_sI, R_sI, EI_sI, EJ_sI, ER_sI, n_sJ, z_sJ, tag_sJ, I_sJ, J_sJ, R_sJ, EI_sJ, EJ_sJ, ER_sJ, n_sR, z_sR, tag_sR, I_sR, J_sR, R_sR, EI_sR, EJ_sR, ER_sR, n_sEI, z_sEI, tag_sEI, I_sEI, J_sEI, R_sEI, EI_sEI, EJ_sEI, ER_sEI, n_sEJ, z_sEJ, tag_sEJ, I_sEJ, J_sEJ, R_sEJ, EI_sEJ, EJ_sEJ, ER_sEJ, n_sER, z_sER, tag_sER, I_sER, J_sER, R_sER, EI_sER, EJ_sER, ER_sER, n_nw, z_nw, tag_nw, I_nw, J_nw, R_nw, EI_nw, EJ_nw, ER_nw], by simp [n_sI, z_sI, tag_sI, I_sI, J_sI, R_sI, EI_sI, EJ_sI, ER_sI, n_sJ, z_sJ, tag_sJ, I_sJ, J_sJ, R_sJ, EI_sJ, EJ_sJ, ER_sJ, n_sR, z_sR, tag_sR, I_sR, J_sR, R_sR, EI_sR, EJ_sR, ER_sR, n_sEI, z_sEI, tag_sEI, I_sEI, J_sEI, R_sEI, EI_sEI, EJ_sEI, ER_sEI, n_sEJ, z_sEJ, tag_sEJ, I_sEJ, J_sEJ, R_sEJ, EI_sEJ, EJ_sEJ, ER_sEJ, n_sER, z_sER, tag_sER, I_sER, J_sER, R_sER, EI_sER, EJ_sER, ER_sER, n_nw, z_nw, tag_nw, I_nw, J_nw, R_nw, EI_nw, EJ_nw, ER_nw, hp]⟩⟩
theorem AQe.i {e f x : Nat} {h : AH} {v : Int32} (ht : asF.contains f = true) : AQe e h (h.sI f x v) := ⟨Fq.sI (Fq.refl h) (fsr ht), fun f a p hp => ⟨by simp [n_sI, z_sI, tag_sI, I_sI, J_sI, R_sI, EI_sI, EJ_sI, ER_sI, n_sJ, z_sJ, tag_sJ, I_sJ, J_sJ, R_sJ, EI_sJ, EJ_sJ, ER_sJ, n_sR, z_sR, tag_sR, I_sR, J_sR, R_sR, EI_sR, EJ_sR, ER_sR, n_sEI, z_sEI, tag_sEI, I_sEI, J_sEI, R_sEI, EI_sEI, EJ_sEI, ER_sEI, n_sEJ, z_sEJ, tag_sEJ, I_sEJ, J_sEJ, R_sEJ, EI_sEJ, EJ_sEJ, ER_sEJ, n_sER, z_sER, tag_sER, I_sER, J_sER, R_sER, EI_sER, EJ_sER, ER_sER, n_nw, z_nw, tag_nw, I_nw, J_nw, R_nw, EI_nw, EJ_nw, ER_nw], by simp [n_sI, z_sI, tag_sI, I_sI, J_sI, R_sI, EI_sI, EJ_sI, ER_sI, n_sJ, z_sJ, tag_sJ, I_sJ, J_sJ, R_sJ, EI_sJ, EJ_sJ, ER_sJ, n_sR, z_sR, tag_sR, I_sR, J_sR, R_sR, EI_sR, EJ_sR, ER_sR, n_sEI, z_sEI, tag_sEI, I_sEI, J_sEI, R_sEI, EI_sEI, EJ_sEI, ER_sEI, n_sEJ, z_sEJ, tag_sEJ, I_sEJ, J_sEJ, R_sEJ, EI_sEJ, EJ_sEJ, ER_sEJ, n_sER, z_sER, tag_sER, I_sER, J_sER, R_sER, EI_sER, EJ_sER, ER_sER, n_nw, z_nw, tag_nw, I_nw, J_nw, R_nw, EI_nw, EJ_nw, ER_nw]⟩⟩
theorem FS.l {a b : List Nat} {f x : Nat} (z : FS a f x) : FS (a ++ b) f x := by
  unfold FS at z ⊢
  rw [List.contains_iff_mem] at z ⊢
  exact List.mem_append_left _ z
theorem FS.r {a b : List Nat} {f x : Nat} (z : FS b f x) : FS (a ++ b) f x := by
  unfold FS at z ⊢
  rw [List.contains_iff_mem] at z ⊢
  exact List.mem_append_right _ z
section
variable {G : Gt} {d : Nat} {h h' : AH} {o o' : Lc} {tx ax UX at' : Nat → Nat} {A n n' lim : Nat} {snd : Int64} {s : Ms} {K : Outcome → AH → Prop} {t : Tst}
theorem tload_ok {i : Nat} {x : Int64 × Nat × VL} (t0 : h.tag A = some (22, 0)) (rT : h.R 2831 A = some (tx 0)) (sv : TSV h A ax t) (hx : t.2.2[i]? = some x) (th : TH h (tx 0) n o) (t5 : ∀ j, 1 ≤ j → o (5, 0, j, 0) = none) (hn : n + 64 ≤ 24576) (hd : 42 ≤ d) (kk : ∀ h' y', Fq (FS ldF) h h' → TH h' (tx 0) (n + vsz x.2.2) (uO o (5, 0, 1, 0) (some y')) → lvE y' = x.2.2 → y'.1 = n → K (.returned (some (.int (nI n)))) h') : MW G d e_X23_load [.ref A, .int (nI i)] h K := by
  refine st_X23_load fun X oo hG hD _ => ?_
  subst hG; subst hD
  obtain ⟨s1, -, ⟨-, s6, s7⟩, -⟩ := id sv
  obtain ⟨-, rr, v1, v2, v3⟩ := s7 i x hx
  have il := get_lt hx
  refine k_X23_load_0 oo ?_
  rw [nI_mul]
  have q1 : Fq (FS [2830]) h (h.sI 2830 A (nI (64 * i))) := Fq.sI (Fq.refl h) (fsr rfl)
  have e1 : (h.sI 2830 A (nI (64 * i))).I 2830 A = nI (64 * i) := by simp [n_sI, z_sI, tag_sI, I_sI, J_sI, R_sI, EI_sI, EJ_sI, ER_sI, n_sJ, z_sJ, tag_sJ, I_sJ, J_sJ, R_sJ, EI_sJ, EJ_sJ, ER_sJ, n_sR, z_sR, tag_sR, I_sR, J_sR, R_sR, EI_sR, EJ_sR, ER_sR, n_sEI, z_sEI, tag_sEI, I_sEI, J_sEI, R_sEI, EI_sEI, EJ_sEI, ER_sEI, n_sEJ, z_sEJ, tag_sEJ, I_sEJ, J_sEJ, R_sEJ, EI_sEJ, EJ_sEJ, ER_sEJ, n_sER, z_sER, tag_sER, I_sER, J_sER, R_sER, EI_sER, EJ_sER, ER_sER, n_nw, z_nw, tag_nw, I_nw, J_nw, R_nw, EI_nw, EJ_nw, ER_nw]
  generalize h.sI 2830 A (nI (64 * i)) = h1 at q1 e1
  have vs : vsz x.2.2 = 1 + fsz x.2.2.2.2 := rfl
  have lf := fln_sz x.2.2.2.2
  refine ld_of (ld_loop x.2.2.2.2) (k := x.2.2.1) (x := x.2.2.2.1) (p := 64 * i) (j := 1) (q1.1.tag t0) (by rw [q1.1.R (FS.n (by decide))]; exact rT) (s1.fs q1 (by decide)) (rr.fs q1 (by decide)) (by omega) e1 (th.fr q1.1 (FS.no (by decide))) t5 (by omega) (by omega) v3 (by omega) (fun h2 o2 y2 q2 a2 t2 oy ey fo => ?_)
  refine k_X23_load_12 oo ?_
  have eo : o2 = uO o (5, 0, 1, 0) (some y2) := funext fun p => by
    by_cases e : p = (5, 0, 1, 0)
    · rw [e, oy, uO_s]
    · rw [fo p e, uO_n e]
  rw [eo] at t2
  refine kk h2 y2 ((q1.mono fun f a z => by
    unfold FS at z ⊢
    rw [List.contains_iff_mem] at z ⊢
    rcases List.mem_cons.mp z with z | z
    · rw [z]; exact List.mem_cons_self ..
    · cases z).trans q2) (by rw [vs, ← Nat.add_assoc]; exact t2) ey.1 ey.2
/-- one entry more -/
theorem TK.ent {x : En} (k : TK h A tx UX at' o n s) (sm : SMm h' A tx) (th : TH h' (tx 0) n' o') (hI : ∀ f ∈ [2843, 2842, 2852, 2861], h'.I f A = h.I f A) (ha : h'.I 2845 A = nI ((ens s).length + 1)) (l24 : (ens s).length < 24) (nE : ∀ f ∈ [1216, 1234, 1184, 1202, 1168, 1152, 1120, 1136], ∀ a p, h'.EI f a p = h.EI f a p) (nA : ∀ f ∈ [1024, 1056, 1106, 1088], ∀ a p, p ≠ (ens s).length → h'.EI f a p = h.EI f a p) (nJ : ∀ f ∈ [1043, 1075], ∀ a p, p ≠ (ens s).length → h'.EJ f a p = h.EJ f a p) (ho : ∀ p : Sl, p.1 ≠ 5 → p ≠ (3, 0, (ens s).length, 0) → o' p = o p) (hx : TKE h' o' tx (ens s).length x) : TK h' A tx UX at' o' n' (s.1, s.2.1, ens s ++ [x], s.2.2.2.1 + 1, s.2.2.2.2) := by
  obtain ⟨⟨k1, k2⟩, ⟨k3, k4, k5, k6, k7⟩, ⟨k8, k8', k8''⟩, k9, k10, k11, k12, k13⟩ := k
  have er : ∀ r : Rx, ∀ a, rad o 0 r = some a → rad o' 0 r = some a := fun r a hr => by
    have hne : rsl' 0 r.1 ≠ (3, 0, (ens s).length, 0) := fun e => by
      unfold rad at hr
      rw [e, k13 _ 0 (Or.inl (Nat.le_refl _))] at hr
      cases hr
    unfold rad at hr ⊢
    rw [ho _ rsl_5 hne]; exact hr
  have ln : (ens s ++ [x]).length = (ens s).length + 1 := by rw [List.length_append]; rfl
  refine ⟨⟨sm, th⟩, ⟨by rw [hI _ (by decide)]; exact k3, by rw [hI _ (by decide)]; exact k4, by rw [hI _ (by decide)]; exact k5, by rw [hI _ (by decide)]; exact k6, by show _ = nI (ens s ++ [x]).length; rw [ln]; exact ha⟩, ⟨k8, by show (ens s ++ [x]).length ≤ 24; rw [ln]; omega, by show s.2.2.2.1 + 1 = (ens s ++ [x]).length; rw [ln, k8'']⟩, fun j hj => ?_, fun e y hy => ?_, fun p hp => by rw [ho _ (by show (1 : Nat) ≠ 5; decide) (by intro e; cases e)]; exact k11 p hp, fun j m hj => by rw [ho _ (by show (2 : Nat) ≠ 5; decide) (by intro e; cases e)]; exact k12 j m hj, fun e b he => ?_⟩
  · obtain ⟨⟨f1, f2, f3, f4⟩, ⟨f5, f6⟩, f7⟩ := k9 j hj
    refine ⟨⟨by rw [nE _ (by decide)]; exact f1, by rw [nE _ (by decide)]; exact f2, by rw [nE _ (by decide)]; exact f3, by rw [nE _ (by decide)]; exact f4⟩, ⟨f5.kp (fun p _ _ => ⟨nE _ (by decide) _ _, nE _ (by decide) _ _, ho _ (by show (1 : Nat) ≠ 5; decide) (by intro e; cases e)⟩) (fun r _ => er r), f6⟩, fun m => ?_⟩
    have := f7 m
    have ho2 := ho (2, 0, j, m) (by show (2 : Nat) ≠ 5; decide) (by intro e; cases e)
    by_cases c : m < 40
    · rw [if_pos c] at this ⊢
      exact this.kp (nE _ (by decide) _ _) (nE _ (by decide) _ _) ho2 (fun r _ => er r)
    · rw [if_neg c] at this ⊢
      rw [ho2]; exact this
  · have hy : (ens s ++ [x])[e]? = some y := hy
    by_cases c : e < (ens s).length
    · rw [List.getElem?_append_left c] at hy
      exact (k10 e y hy).kp (fun f hf a => nA f hf a e (by omega)) (fun f hf a => nJ f hf a e (by omega)) (ho _ (by show (3 : Nat) ≠ 5; decide) (fun z => by have : e = (ens s).length := congrArg (fun p : Sl => p.2.2.1) z; omega))
    · rw [List.getElem?_append_right (by omega)] at hy
      have e0 : e - (ens s).length = 0 := by
        cases hi : e - (ens s).length with
        | zero => rfl
        | succ j => rw [hi] at hy; cases hy
      rw [e0] at hy
      cases hy
      have : e = (ens s).length := by omega
      rw [this]; exact hx
  · have he : (ens s ++ [x]).length ≤ e ∨ b ≠ 0 := he
    rw [ln] at he
    rw [ho _ (by show (3 : Nat) ≠ 5; decide) (fun z => by
      have z1 : e = (ens s).length := congrArg (fun p : Sl => p.2.2.1) z
      have z2 : b = 0 := congrArg (fun p : Sl => p.2.2.2) z
      omega)]
    exact k13 e b (by omega)
/-- an entry that is being made -/
def ASK (h : AH) (A : Nat) (tx : Nat → Nat) (L sort : Nat) (a : Int64) (kd : Nat) : Prop := h.I 2845 A = nI (L + 1) ∧ h.EI 1024 (tx 9) L = nI sort ∧ h.EJ 1043 (tx 10) L = a ∧ h.EI 1056 (tx 11) L = nI kd
theorem ask_end {L sort kd : Nat} {a : Int64} {c : Cn} (hL : (ens s).length = L) (k : TK h A tx UX at' o n s) (l24 : L < 24) (hp : PB (sort, a, kd)) {h3 : AH} (q3 : Fq (FS (asF ++ ldF)) h h3) (n3 : ∀ f ∈ [1024, 1056, 1106, 1088], ∀ x p, p ≠ L → h3.EI f x p = h.EI f x p) (m3 : ∀ f ∈ [1043, 1075], ∀ x p, p ≠ L → h3.EJ f x p = h.EJ f x p) (as : ASK h3 A tx L sort a kd) (th : TH h3 (tx 0) n' o') (ho : ∀ p : Sl, p.1 ≠ 5 → p ≠ (3, 0, L, 0) → o' p = o p) (h1 : sort ≠ 2 → h3.EI 1106 (tx 14) L = bI c.1) (h2 : sort = 1 → h3.EJ 1075 (tx 12) L = c.2.1) (hv : match c.2.2.2 with
    | some v => ∃ y, o' (3, 0, L, 0) = some y ∧ h3.EI 1088 (tx 13) L = nI y.1 ∧ lvE y = v
    | none => o' (3, 0, L, 0) = none ∧ h3.EI 1088 (tx 13) L = -1) : TK h3 A tx UX at' o' n' (s.1, s.2.1, ens s ++ [((sort, a, kd), c, c, false)], s.2.2.2.1 + 1, s.2.2.2.2) := by
  subst hL
  refine TK.ent (x := ((sort, a, kd), c, c, false)) k (k.1.1.fr q3.1 (FS.no (by decide))) th (fun f hf => q3.1.I (FS.n ?_)) as.1 l24 (fun f hf a p => q3.1.EI (FS.n ?_) _) n3 m3 ho ⟨⟨as.2.1, as.2.2.1, as.2.2.2, hp⟩, h1, h2, hv⟩
  · simp only [List.mem_cons, List.mem_nil_iff, or_false] at hf
    rcases hf with e | e | e | e <;> (rw [e]; decide)
  · simp only [List.mem_cons, List.mem_nil_iff, or_false] at hf
    rcases hf with e | e | e | e | e | e | e | e <;> (rw [e]; decide)
theorem task_ok {sort kd : Nat} {a : Int64} {c : Cn} (k : TK h A tx UX at' o n s) (t5 : ∀ j, 1 ≤ j → o (5, 0, j, 0) = none) (sv : TSV h A ax t) (hs : 1 ≤ sort ∧ sort ≤ 3) (hk : kd < 2147483648) (e1 : sort = 1 → c = tac t a) (e2 : sort = 2 → c.2.2.2 = none) (e3 : sort = 3 → c = trsc t a kd) (hN : n + 64 ≤ 24576) (hd : 44 ≤ d)
    (k1 : ∀ e, ((ens s).findIdx? fun x => x.1 == (sort, a, kd)) = some e → K (.returned (some (.int (nI e)))) h)
    (k2 : ((ens s).findIdx? fun x => x.1 == (sort, a, kd)) = none → (ens s).length = 24 → ∀ h', Fq (FS twF) h h' → TKX h' A 2 4 (gas s) → K (.returned (some (.int (-1)))) h')
    (k3 : ((ens s).findIdx? fun x => x.1 == (sort, a, kd)) = none → (ens s).length < 24 → ∀ h' o' n', Fq (FS twF) h h' → TK h' A tx UX at' o' n' (s.1, s.2.1, ens s ++ [((sort, a, kd), c, c, false)], s.2.2.2.1 + 1, s.2.2.2.2) → (∀ a b c, o' (5, a, b, c) = o (5, a, b, c)) → n ≤ n' → n' ≤ n + 64 → K (.returned (some (.int (nI (ens s).length)))) h') : MW G d e_X23_ask [.ref A, .int (nI sort), .long a, .int (nI kd)] h K := by
  refine st_X23_ask fun X oo hG hD _ => ?_
  subst hG; subst hD
  have t0 := k.t0
  have hpb : PB (sort, a, kd) := ⟨by show sort < 16; omega, hk⟩
  obtain ⟨⟨j1, j2⟩, ⟨j3, j4, j5, j6, j7⟩, ⟨j8, j8', j8''⟩, j9, j10, j11, j12, j13⟩ := id k
  obtain ⟨r1, r2⟩ := j1.at 8 rfl
  obtain ⟨r3, r4⟩ := j1.at 9 rfl
  obtain ⟨r5, r6⟩ := j1.at 10 rfl
  obtain ⟨r7, r8⟩ := j1.at 11 rfl
  obtain ⟨r9, r10⟩ := j1.at 12 rfl
  obtain ⟨r11, r12⟩ := j1.at 13 rfl
  refine k_X23_ask_0 oo ?_
  have loop : ∀ cc i, i + cc = (ens s).length → (∀ j x, j < i → (ens s)[j]? = some x → x.1 ≠ (sort, a, kd)) → V X K 3 [.ref A, .int (nI sort), .long a, nov, .int (nI kd), .int (nI i), nov, nov] [] h := by
    intro cc
    induction cc with
    | zero =>
      intro i hi hb
      have hn : ((ens s).findIdx? fun x => x.1 == (sort, a, kd)) = none := by
        rw [List.findIdx?_eq_none_iff]
        intro x hx
        obtain ⟨j, hj⟩ := List.getElem?_of_mem hx
        simpa using hb j x (by have := get_lt hj; omega) hj
      have hi : i = (ens s).length := by omega
      subst hi
      refine k_X23_ask_3 (r2 := j7) oo (fun _ => ?_) (fun q => absurd ((nI_leI (by omega) (by omega)).mpr (by omega)) q)
      by_cases c24 : (ens s).length = 24
      · refine k_X23_ask_56 (r2 := j7) oo (fun q => absurd (by rw [c24]) q) (fun _ => ?_)
        refine k_X23_ask_65 oo ?_
        refine tkend_ok k (fun h2 q2 x2 => ?_)
        refine k_X23_ask_73 oo ?_
        exact k2 hn c24 h2 q2 x2
      refine k_X23_ask_56 (r2 := j7) oo (fun _ => ?_) (fun q => absurd ((nI_eq (by omega) (by omega)).mp q) c24)
      have ix : IX (nI (ens s).length) 24 (ens s).length := IX.mk (by omega) (by omega)
      refine k_X23_ask_75 (r2 := j7) (r4 := j7) (r6 := r1) (r12 := r3) (r18 := r5) (r24 := r9) oo ?_
      rw [nI_add]
      generalize hL : (ens s).length = L at *
      have aq : AQe L h (((((h.sI 2845 A (nI (L + 1))).sEI 1024 (tx 9) L (nI sort)).sEJ 1043 (tx 10) L a).sEI 1056 (tx 11) L (nI kd)).sEI 1088 (tx 13) L (-1)) := (((((AQe.i (by decide)).trans (AQe.ei (by decide))).trans (AQe.ej (by decide))).trans (AQe.ei (by decide))).trans (AQe.ei (by decide)))
      have b1 : (((((h.sI 2845 A (nI (L + 1))).sEI 1024 (tx 9) L (nI sort)).sEJ 1043 (tx 10) L a).sEI 1056 (tx 11) L (nI kd)).sEI 1088 (tx 13) L (-1)).I 2845 A = nI (L + 1) := by simp [n_sI, z_sI, tag_sI, I_sI, J_sI, R_sI, EI_sI, EJ_sI, ER_sI, n_sJ, z_sJ, tag_sJ, I_sJ, J_sJ, R_sJ, EI_sJ, EJ_sJ, ER_sJ, n_sR, z_sR, tag_sR, I_sR, J_sR, R_sR, EI_sR, EJ_sR, ER_sR, n_sEI, z_sEI, tag_sEI, I_sEI, J_sEI, R_sEI, EI_sEI, EJ_sEI, ER_sEI, n_sEJ, z_sEJ, tag_sEJ, I_sEJ, J_sEJ, R_sEJ, EI_sEJ, EJ_sEJ, ER_sEJ, n_sER, z_sER, tag_sER, I_sER, J_sER, R_sER, EI_sER, EJ_sER, ER_sER, n_nw, z_nw, tag_nw, I_nw, J_nw, R_nw, EI_nw, EJ_nw, ER_nw]
      have b2 : (((((h.sI 2845 A (nI (L + 1))).sEI 1024 (tx 9) L (nI sort)).sEJ 1043 (tx 10) L a).sEI 1056 (tx 11) L (nI kd)).sEI 1088 (tx 13) L (-1)).EI 1024 (tx 9) L = nI sort := by simp [n_sI, z_sI, tag_sI, I_sI, J_sI, R_sI, EI_sI, EJ_sI, ER_sI, n_sJ, z_sJ, tag_sJ, I_sJ, J_sJ, R_sJ, EI_sJ, EJ_sJ, ER_sJ, n_sR, z_sR, tag_sR, I_sR, J_sR, R_sR, EI_sR, EJ_sR, ER_sR, n_sEI, z_sEI, tag_sEI, I_sEI, J_sEI, R_sEI, EI_sEI, EJ_sEI, ER_sEI, n_sEJ, z_sEJ, tag_sEJ, I_sEJ, J_sEJ, R_sEJ, EI_sEJ, EJ_sEJ, ER_sEJ, n_sER, z_sER, tag_sER, I_sER, J_sER, R_sER, EI_sER, EJ_sER, ER_sER, n_nw, z_nw, tag_nw, I_nw, J_nw, R_nw, EI_nw, EJ_nw, ER_nw]
      have b3 : (((((h.sI 2845 A (nI (L + 1))).sEI 1024 (tx 9) L (nI sort)).sEJ 1043 (tx 10) L a).sEI 1056 (tx 11) L (nI kd)).sEI 1088 (tx 13) L (-1)).EJ 1043 (tx 10) L = a := by simp [n_sI, z_sI, tag_sI, I_sI, J_sI, R_sI, EI_sI, EJ_sI, ER_sI, n_sJ, z_sJ, tag_sJ, I_sJ, J_sJ, R_sJ, EI_sJ, EJ_sJ, ER_sJ, n_sR, z_sR, tag_sR, I_sR, J_sR, R_sR, EI_sR, EJ_sR, ER_sR, n_sEI, z_sEI, tag_sEI, I_sEI, J_sEI, R_sEI, EI_sEI, EJ_sEI, ER_sEI, n_sEJ, z_sEJ, tag_sEJ, I_sEJ, J_sEJ, R_sEJ, EI_sEJ, EJ_sEJ, ER_sEJ, n_sER, z_sER, tag_sER, I_sER, J_sER, R_sER, EI_sER, EJ_sER, ER_sER, n_nw, z_nw, tag_nw, I_nw, J_nw, R_nw, EI_nw, EJ_nw, ER_nw]
      have b4 : (((((h.sI 2845 A (nI (L + 1))).sEI 1024 (tx 9) L (nI sort)).sEJ 1043 (tx 10) L a).sEI 1056 (tx 11) L (nI kd)).sEI 1088 (tx 13) L (-1)).EI 1056 (tx 11) L = nI kd := by simp [n_sI, z_sI, tag_sI, I_sI, J_sI, R_sI, EI_sI, EJ_sI, ER_sI, n_sJ, z_sJ, tag_sJ, I_sJ, J_sJ, R_sJ, EI_sJ, EJ_sJ, ER_sJ, n_sR, z_sR, tag_sR, I_sR, J_sR, R_sR, EI_sR, EJ_sR, ER_sR, n_sEI, z_sEI, tag_sEI, I_sEI, J_sEI, R_sEI, EI_sEI, EJ_sEI, ER_sEI, n_sEJ, z_sEJ, tag_sEJ, I_sEJ, J_sEJ, R_sEJ, EI_sEJ, EJ_sEJ, ER_sEJ, n_sER, z_sER, tag_sER, I_sER, J_sER, R_sER, EI_sER, EJ_sER, ER_sER, n_nw, z_nw, tag_nw, I_nw, J_nw, R_nw, EI_nw, EJ_nw, ER_nw]
      have b5 : (((((h.sI 2845 A (nI (L + 1))).sEI 1024 (tx 9) L (nI sort)).sEJ 1043 (tx 10) L a).sEI 1056 (tx 11) L (nI kd)).sEI 1088 (tx 13) L (-1)).EI 1088 (tx 13) L = -1 := by simp [n_sI, z_sI, tag_sI, I_sI, J_sI, R_sI, EI_sI, EJ_sI, ER_sI, n_sJ, z_sJ, tag_sJ, I_sJ, J_sJ, R_sJ, EI_sJ, EJ_sJ, ER_sJ, n_sR, z_sR, tag_sR, I_sR, J_sR, R_sR, EI_sR, EJ_sR, ER_sR, n_sEI, z_sEI, tag_sEI, I_sEI, J_sEI, R_sEI, EI_sEI, EJ_sEI, ER_sEI, n_sEJ, z_sEJ, tag_sEJ, I_sEJ, J_sEJ, R_sEJ, EI_sEJ, EJ_sEJ, ER_sEJ, n_sER, z_sER, tag_sER, I_sER, J_sER, R_sER, EI_sER, EJ_sER, ER_sER, n_nw, z_nw, tag_nw, I_nw, J_nw, R_nw, EI_nw, EJ_nw, ER_nw]
      generalize ((((h.sI 2845 A (nI (L + 1))).sEI 1024 (tx 9) L (nI sort)).sEJ 1043 (tx 10) L a).sEI 1056 (tx 11) L (nI kd)).sEI 1088 (tx 13) L (-1) = h1 at aq b1 b2 b3 b4 b5
      have t01 := aq.1.1.tag t0
      have sv1 := sv.fs aq.1 (by decide)
      obtain ⟨-, ⟨a2, a3, a4⟩, ⟨a5, a6, a7⟩, -⟩ := id sv1
      have evs : ∀ j, j < 10 → (nI sort = nI j ↔ sort = j) := fun j hj => nI_eq (by omega) (by omega)
      have lt0 : ∀ oi : Option Nat, (∀ i, oi = some i → i < 256) → (idI oi < 0 ↔ oi = none) := fun oi hoi => by
        cases oi with
        | none => exact ⟨fun _ => rfl, fun _ => by decide⟩
        | some i =>
          have := hoi i rfl
          refine ⟨fun q => ?_, fun q => by cases q⟩
          have q : nI i < 0 := q
          rw [um_neg, um_n (by omega)] at q
          omega
      -- from 202 on
      have from202 : ∀ (oa or' : Option Nat), (∀ i, or' = some i → i < 256) → (∀ i, or' = some i → ∃ x, t.2.2[i]? = some x ∧ c.2.2.2 = some x.2.2) → (or' = none → c.2.2.2 = none) → ∀ h2, AQe L h1 h2 → ASK h2 A tx L sort a kd → h2.EI 1088 (tx 13) L = -1 → (sort ≠ 2 → h2.EI 1106 (tx 14) L = bI c.1) → ∀ bal : Int64, (sort = 1 → bal = c.2.1) → V X K 202 [.ref A, .int (nI sort), .long a, nov, .int (nI kd), .int (nI L), .int (idI oa), .int (idI or')] [.long bal, .int (nI L), .ref (tx 12)] h2 := fun oa or' lr hrv hrn h2 u2 as2 tr2 th2 bal hbal => by
        have ixL : IX (nI L) 24 L := IX.mk (by omega) (by omega)
        have tb2 := u2.1.1.tag (aq.1.1.tag r8)
        have u3 : AQe L h2 (h2.sEJ 1075 (tx 12) L bal) := AQe.ej (by decide)
        have y1 : (h2.sEJ 1075 (tx 12) L bal).EJ 1075 (tx 12) L = bal := by simp [n_sI, z_sI, tag_sI, I_sI, J_sI, R_sI, EI_sI, EJ_sI, ER_sI, n_sJ, z_sJ, tag_sJ, I_sJ, J_sJ, R_sJ, EI_sJ, EJ_sJ, ER_sJ, n_sR, z_sR, tag_sR, I_sR, J_sR, R_sR, EI_sR, EJ_sR, ER_sR, n_sEI, z_sEI, tag_sEI, I_sEI, J_sEI, R_sEI, EI_sEI, EJ_sEI, ER_sEI, n_sEJ, z_sEJ, tag_sEJ, I_sEJ, J_sEJ, R_sEJ, EI_sEJ, EJ_sEJ, ER_sEJ, n_sER, z_sER, tag_sER, I_sER, J_sER, R_sER, EI_sER, EJ_sER, ER_sER, n_nw, z_nw, tag_nw, I_nw, J_nw, R_nw, EI_nw, EJ_nw, ER_nw]
        have as3 : ASK (h2.sEJ 1075 (tx 12) L bal) A tx L sort a kd := by
          obtain ⟨c1, c2, c3, c4⟩ := as2
          exact ⟨by rw [← c1]; simp [n_sI, z_sI, tag_sI, I_sI, J_sI, R_sI, EI_sI, EJ_sI, ER_sI, n_sJ, z_sJ, tag_sJ, I_sJ, J_sJ, R_sJ, EI_sJ, EJ_sJ, ER_sJ, n_sR, z_sR, tag_sR, I_sR, J_sR, R_sR, EI_sR, EJ_sR, ER_sR, n_sEI, z_sEI, tag_sEI, I_sEI, J_sEI, R_sEI, EI_sEI, EJ_sEI, ER_sEI, n_sEJ, z_sEJ, tag_sEJ, I_sEJ, J_sEJ, R_sEJ, EI_sEJ, EJ_sEJ, ER_sEJ, n_sER, z_sER, tag_sER, I_sER, J_sER, R_sER, EI_sER, EJ_sER, ER_sER, n_nw, z_nw, tag_nw, I_nw, J_nw, R_nw, EI_nw, EJ_nw, ER_nw], by rw [← c2]; simp [n_sI, z_sI, tag_sI, I_sI, J_sI, R_sI, EI_sI, EJ_sI, ER_sI, n_sJ, z_sJ, tag_sJ, I_sJ, J_sJ, R_sJ, EI_sJ, EJ_sJ, ER_sJ, n_sR, z_sR, tag_sR, I_sR, J_sR, R_sR, EI_sR, EJ_sR, ER_sR, n_sEI, z_sEI, tag_sEI, I_sEI, J_sEI, R_sEI, EI_sEI, EJ_sEI, ER_sEI, n_sEJ, z_sEJ, tag_sEJ, I_sEJ, J_sEJ, R_sEJ, EI_sEJ, EJ_sEJ, ER_sEJ, n_sER, z_sER, tag_sER, I_sER, J_sER, R_sER, EI_sER, EJ_sER, ER_sER, n_nw, z_nw, tag_nw, I_nw, J_nw, R_nw, EI_nw, EJ_nw, ER_nw], by rw [← c3]; simp [n_sI, z_sI, tag_sI, I_sI, J_sI, R_sI, EI_sI, EJ_sI, ER_sI, n_sJ, z_sJ, tag_sJ, I_sJ, J_sJ, R_sJ, EI_sJ, EJ_sJ, ER_sJ, n_sR, z_sR, tag_sR, I_sR, J_sR, R_sR, EI_sR, EJ_sR, ER_sR, n_sEI, z_sEI, tag_sEI, I_sEI, J_sEI, R_sEI, EI_sEI, EJ_sEI, ER_sEI, n_sEJ, z_sEJ, tag_sEJ, I_sEJ, J_sEJ, R_sEJ, EI_sEJ, EJ_sEJ, ER_sEJ, n_sER, z_sER, tag_sER, I_sER, J_sER, R_sER, EI_sER, EJ_sER, ER_sER, n_nw, z_nw, tag_nw, I_nw, J_nw, R_nw, EI_nw, EJ_nw, ER_nw], by rw [← c4]; simp [n_sI, z_sI, tag_sI, I_sI, J_sI, R_sI, EI_sI, EJ_sI, ER_sI, n_sJ, z_sJ, tag_sJ, I_sJ, J_sJ, R_sJ, EI_sJ, EJ_sJ, ER_sJ, n_sR, z_sR, tag_sR, I_sR, J_sR, R_sR, EI_sR, EJ_sR, ER_sR, n_sEI, z_sEI, tag_sEI, I_sEI, J_sEI, R_sEI, EI_sEI, EJ_sEI, ER_sEI, n_sEJ, z_sEJ, tag_sEJ, I_sEJ, J_sEJ, R_sEJ, EI_sEJ, EJ_sEJ, ER_sEJ, n_sER, z_sER, tag_sER, I_sER, J_sER, R_sER, EI_sER, EJ_sER, ER_sER, n_nw, z_nw, tag_nw, I_nw, J_nw, R_nw, EI_nw, EJ_nw, ER_nw]⟩
        have tr3 : (h2.sEJ 1075 (tx 12) L bal).EI 1088 (tx 13) L = -1 := by rw [← tr2]; simp [n_sI, z_sI, tag_sI, I_sI, J_sI, R_sI, EI_sI, EJ_sI, ER_sI, n_sJ, z_sJ, tag_sJ, I_sJ, J_sJ, R_sJ, EI_sJ, EJ_sJ, ER_sJ, n_sR, z_sR, tag_sR, I_sR, J_sR, R_sR, EI_sR, EJ_sR, ER_sR, n_sEI, z_sEI, tag_sEI, I_sEI, J_sEI, R_sEI, EI_sEI, EJ_sEI, ER_sEI, n_sEJ, z_sEJ, tag_sEJ, I_sEJ, J_sEJ, R_sEJ, EI_sEJ, EJ_sEJ, ER_sEJ, n_sER, z_sER, tag_sER, I_sER, J_sER, R_sER, EI_sER, EJ_sER, ER_sER, n_nw, z_nw, tag_nw, I_nw, J_nw, R_nw, EI_nw, EJ_nw, ER_nw]
        have th3 : sort ≠ 2 → (h2.sEJ 1075 (tx 12) L bal).EI 1106 (tx 14) L = bI c.1 := fun z => by rw [← th2 z]; simp [n_sI, z_sI, tag_sI, I_sI, J_sI, R_sI, EI_sI, EJ_sI, ER_sI, n_sJ, z_sJ, tag_sJ, I_sJ, J_sJ, R_sJ, EI_sJ, EJ_sJ, ER_sJ, n_sR, z_sR, tag_sR, I_sR, J_sR, R_sR, EI_sR, EJ_sR, ER_sR, n_sEI, z_sEI, tag_sEI, I_sEI, J_sEI, R_sEI, EI_sEI, EJ_sEI, ER_sEI, n_sEJ, z_sEJ, tag_sEJ, I_sEJ, J_sEJ, R_sEJ, EI_sEJ, EJ_sEJ, ER_sEJ, n_sER, z_sER, tag_sER, I_sER, J_sER, R_sER, EI_sER, EJ_sER, ER_sER, n_nw, z_nw, tag_nw, I_nw, J_nw, R_nw, EI_nw, EJ_nw, ER_nw]
        have a3 : AQe L h (h2.sEJ 1075 (tx 12) L bal) := (aq.trans u2).trans u3
        refine k_X23_ask_202 (T1 := 1075) oo (fun q => ?_) (fun q => ?_)
        · have en := (lt0 or' lr).mp q
          have cv := hrn en
          refine k_X23_ask_221 oo ?_
          generalize h2.sEJ 1075 (tx 12) L bal = h3 at y1 as3 tr3 th3 a3
          have q3 : Fq (FS (asF ++ ldF)) h h3 := a3.1.mono fun f x z => FS.l z
          refine k3 hn (by omega) h3 o n (twq a3.1 (by decide)) (ask_end hL k (by omega) hpb q3 (fun f _ x p hp => (a3.2 f x p hp).1) (fun f _ x p hp => (a3.2 f x p hp).2) as3 (k.1.2.fr a3.1.1 (FS.no (by decide))) (fun _ _ _ => rfl) th3 (fun z => by rw [y1]; exact hbal z) ?_) (fun _ _ _ => rfl) (Nat.le_refl _) (by omega)
          rw [cv]
          exact ⟨j13 L 0 (Or.inl (by omega)), tr3⟩
        · generalize h2.sEJ 1075 (tx 12) L bal = h3 at y1 as3 tr3 th3 a3 u3
          cases or' with
          | none => exact absurd (by decide) q
          | some i =>
            obtain ⟨x, hx, cv⟩ := hrv i rfl
            have t03 := a3.1.1.tag t0
            have sv3 := sv.fs a3.1 (by decide)
            have rt3 : h3.R 2850 A = some (tx 13) := by rw [a3.1.1.R (FS.n (by decide))]; exact r9
            refine k_X23_ask_208 (r2 := rt3) oo ?_
            refine tload_ok t03 (by rw [a3.1.1.R (FS.n (by decide))]; exact j1.1.2) sv3 hx (k.1.2.fr a3.1.1 (FS.no (by decide))) t5 hN (by omega) (fun h4 y q4 t4 ey yn => ?_)
            have tt4 := q4.1.tag (a3.1.1.tag r10)
            refine k_X23_ask_220 (T1 := 1088) oo ?_
            refine k_X23_ask_221 oo ?_
            have u5 : AQe L h4 (h4.sEI 1088 (tx 13) L (nI n)) := AQe.ei (by decide)
            have z1 : (h4.sEI 1088 (tx 13) L (nI n)).EI 1088 (tx 13) L = nI n := by simp [n_sI, z_sI, tag_sI, I_sI, J_sI, R_sI, EI_sI, EJ_sI, ER_sI, n_sJ, z_sJ, tag_sJ, I_sJ, J_sJ, R_sJ, EI_sJ, EJ_sJ, ER_sJ, n_sR, z_sR, tag_sR, I_sR, J_sR, R_sR, EI_sR, EJ_sR, ER_sR, n_sEI, z_sEI, tag_sEI, I_sEI, J_sEI, R_sEI, EI_sEI, EJ_sEI, ER_sEI, n_sEJ, z_sEJ, tag_sEJ, I_sEJ, J_sEJ, R_sEJ, EI_sEJ, EJ_sEJ, ER_sEJ, n_sER, z_sER, tag_sER, I_sER, J_sER, R_sER, EI_sER, EJ_sER, ER_sER, n_nw, z_nw, tag_nw, I_nw, J_nw, R_nw, EI_nw, EJ_nw, ER_nw]
            have z2 : ∀ f x p, f ≠ 1088 → (h4.sEI 1088 (tx 13) L (nI n)).EI f x p = h4.EI f x p := fun f x p hf => by simp [n_sI, z_sI, tag_sI, I_sI, J_sI, R_sI, EI_sI, EJ_sI, ER_sI, n_sJ, z_sJ, tag_sJ, I_sJ, J_sJ, R_sJ, EI_sJ, EJ_sJ, ER_sJ, n_sR, z_sR, tag_sR, I_sR, J_sR, R_sR, EI_sR, EJ_sR, ER_sR, n_sEI, z_sEI, tag_sEI, I_sEI, J_sEI, R_sEI, EI_sEI, EJ_sEI, ER_sEI, n_sEJ, z_sEJ, tag_sEJ, I_sEJ, J_sEJ, R_sEJ, EI_sEJ, EJ_sEJ, ER_sEJ, n_sER, z_sER, tag_sER, I_sER, J_sER, R_sER, EI_sER, EJ_sER, ER_sER, n_nw, z_nw, tag_nw, I_nw, J_nw, R_nw, EI_nw, EJ_nw, ER_nw, hf]
            have z3 : ∀ f x p, (h4.sEI 1088 (tx 13) L (nI n)).EJ f x p = h4.EJ f x p := fun f x p => by simp [n_sI, z_sI, tag_sI, I_sI, J_sI, R_sI, EI_sI, EJ_sI, ER_sI, n_sJ, z_sJ, tag_sJ, I_sJ, J_sJ, R_sJ, EI_sJ, EJ_sJ, ER_sJ, n_sR, z_sR, tag_sR, I_sR, J_sR, R_sR, EI_sR, EJ_sR, ER_sR, n_sEI, z_sEI, tag_sEI, I_sEI, J_sEI, R_sEI, EI_sEI, EJ_sEI, ER_sEI, n_sEJ, z_sEJ, tag_sEJ, I_sEJ, J_sEJ, R_sEJ, EI_sEJ, EJ_sEJ, ER_sEJ, n_sER, z_sER, tag_sER, I_sER, J_sER, R_sER, EI_sER, EJ_sER, ER_sER, n_nw, z_nw, tag_nw, I_nw, J_nw, R_nw, EI_nw, EJ_nw, ER_nw]
            have z4 : ∀ f x, (h4.sEI 1088 (tx 13) L (nI n)).I f x = h4.I f x := fun f x => by simp [n_sI, z_sI, tag_sI, I_sI, J_sI, R_sI, EI_sI, EJ_sI, ER_sI, n_sJ, z_sJ, tag_sJ, I_sJ, J_sJ, R_sJ, EI_sJ, EJ_sJ, ER_sJ, n_sR, z_sR, tag_sR, I_sR, J_sR, R_sR, EI_sR, EJ_sR, ER_sR, n_sEI, z_sEI, tag_sEI, I_sEI, J_sEI, R_sEI, EI_sEI, EJ_sEI, ER_sEI, n_sEJ, z_sEJ, tag_sEJ, I_sEJ, J_sEJ, R_sEJ, EI_sEJ, EJ_sEJ, ER_sEJ, n_sER, z_sER, tag_sER, I_sER, J_sER, R_sER, EI_sER, EJ_sER, ER_sER, n_nw, z_nw, tag_nw, I_nw, J_nw, R_nw, EI_nw, EJ_nw, ER_nw]
            generalize h4.sEI 1088 (tx 13) L (nI n) = h5 at u5 z1 z2 z3 z4
            have q5 : Fq (FS (asF ++ ldF)) h h5 := (a3.1.mono fun f x z => FS.l z).trans ((q4.mono fun f x z => FS.r z).trans (u5.1.mono fun f x z => FS.l z))
            have th5 : TH h5 (tx 0) (n + vsz x.2.2) (uO (uO (uO o (5, 0, 1, 0) (some y)) (5, 0, 1, 0) none) (3, 0, L, 0) (some y)) := (t4.mov uO_s).fr u5.1.1 (FS.no (by decide))
            have vk := (sv.2.2.1.2.2 i x hx).2.2
            have vs1 : 1 ≤ vsz x.2.2 := by unfold vsz; omega
            refine k3 hn (by omega) h5 _ _ ((twq a3.1 (by decide)).trans ((twq q4 (by decide)).trans (twq u5.1 (by decide)))) (ask_end hL k (by omega) hpb q5 (fun f hf x p hp => ?_) (fun f hf x p hp => ?_) ?_ th5 (fun p p5 p3 => ?_) (fun z => ?_) (fun z => ?_) ?_) (fun a b c => ?_) (by omega) (by have := vk.1; omega)
            · rw [(u5.2 f x p hp).1, ← (a3.2 f x p hp).1]
              exact q4.1.EI (FS.n (by
                simp only [List.mem_cons, List.mem_nil_iff, or_false] at hf
                rcases hf with e | e | e | e <;> (rw [e]; decide))) _
            · rw [(u5.2 f x p hp).2, ← (a3.2 f x p hp).2]
              exact q4.1.EJ (FS.n (by
                simp only [List.mem_cons, List.mem_nil_iff, or_false] at hf
                rcases hf with e | e <;> (rw [e]; decide))) _
            · obtain ⟨c1, c2, c3, c4⟩ := as3
              exact ⟨by rw [z4, q4.1.I (FS.n (by decide))]; exact c1, by rw [z2 _ _ _ (by decide), q4.1.EI (FS.n (by decide))]; exact c2, by rw [z3, q4.1.EJ (FS.n (by decide))]; exact c3, by rw [z2 _ _ _ (by decide), q4.1.EI (FS.n (by decide))]; exact c4⟩
            · rw [uO_n p3, uO_n (fun e => p5 (by rw [e])), uO_n (fun e => p5 (by rw [e]))]
            · rw [z2 _ _ _ (by decide), q4.1.EI (FS.n (by decide))]; exact th3 z
            · rw [z3, q4.1.EJ (FS.n (by decide)), y1]; exact hbal z
            · rw [cv]
              exact ⟨y, uO_s, by rw [z1, yn], ey⟩
            · rw [uO_n (by intro e; cases e)]
              by_cases e : ((5, a, b, c) : Sl) = (5, 0, 1, 0)
              · rw [e, uO_s]; exact (t5 1 (by omega)).symm
              · rw [uO_n e, uO_n e]
      -- behind both searches
      have tail : ∀ (oa or' : Option Nat), (∀ i, oa = some i → i < 256) → (∀ i, or' = some i → i < 256) → (sort ≠ 2 → c.1 = (oa.isSome || or'.isSome)) → (∀ i, oa = some i → ∃ x, t.1[i]? = some x ∧ c.2.1 = x.2.1) → (sort = 1 → oa = none → c.2.1 = 0) → (∀ i, or' = some i → ∃ x, t.2.2[i]? = some x ∧ c.2.2.2 = some x.2.2) → (or' = none → c.2.2.2 = none) → V X K 156 [.ref A, .int (nI sort), .long a, nov, .int (nI kd), .int (nI L), .int (idI oa), nov] [.int (idI or')] h1 := fun oa or' la lr hc hab han hrv hrn => by
        have rt1 : h1.R 2851 A = some (tx 14) := by rw [aq.1.1.R (FS.n (by decide))]; exact r11
        have tt1 := aq.1.1.tag r12
        have rb1 : h1.R 2849 A = some (tx 12) := by rw [aq.1.1.R (FS.n (by decide))]; exact r7
        have ixL : IX (nI L) 24 L := IX.mk (by omega) (by omega)
        have to179 : V X K 179 [.ref A, .int (nI sort), .long a, nov, .int (nI kd), .int (nI L), .int (idI oa), .int (idI or')] [.int (bI (oa.isSome || or'.isSome)), .int (nI L), .ref (tx 14)] h1 → V X K 156 [.ref A, .int (nI sort), .long a, nov, .int (nI kd), .int (nI L), .int (idI oa), nov] [.int (idI or')] h1 := fun H => by
          by_cases ca : oa = none
          · have za := (lt0 oa la).mpr ca
            refine k_X23_ask_156 (r2 := rt1) oo (fun q => absurd za (Int32.not_lt.mpr q)) (fun _ => ?_)
            by_cases cr : or' = none
            · refine k_X23_ask_169 oo (fun _ => ?_) (fun q => absurd ((lt0 or' lr).mpr cr) q)
              refine k_X23_ask_178 oo ?_
              rw [ca, cr] at H ⊢; exact H
            · refine k_X23_ask_169 oo (fun q => absurd ((lt0 or' lr).mp q) cr) (fun _ => ?_)
              refine k_X23_ask_174 oo ?_
              have : (oa.isSome || or'.isSome) = true := by
                cases or' with
                | none => exact absurd rfl cr
                | some i => rw [ca]; rfl
              rw [this] at H; exact H
          · have za : ¬ idI oa < 0 := fun q => ca ((lt0 oa la).mp q)
            refine k_X23_ask_156 (r2 := rt1) oo (fun _ => ?_) (fun q => absurd (Int32.not_lt.mp za) q)
            refine k_X23_ask_174 oo ?_
            have : (oa.isSome || or'.isSome) = true := by
              cases oa with
              | none => exact absurd rfl ca
              | some i => rfl
            rw [this] at H; exact H
        refine to179 ?_
        have u2 : AQe L h1 (h1.sEI 1106 (tx 14) L (bI (oa.isSome || or'.isSome))) := AQe.ei (by decide)
        have g1 : (h1.sEI 1106 (tx 14) L (bI (oa.isSome || or'.isSome))).EI 1106 (tx 14) L = bI (oa.isSome || or'.isSome) := by simp [n_sI, z_sI, tag_sI, I_sI, J_sI, R_sI, EI_sI, EJ_sI, ER_sI, n_sJ, z_sJ, tag_sJ, I_sJ, J_sJ, R_sJ, EI_sJ, EJ_sJ, ER_sJ, n_sR, z_sR, tag_sR, I_sR, J_sR, R_sR, EI_sR, EJ_sR, ER_sR, n_sEI, z_sEI, tag_sEI, I_sEI, J_sEI, R_sEI, EI_sEI, EJ_sEI, ER_sEI, n_sEJ, z_sEJ, tag_sEJ, I_sEJ, J_sEJ, R_sEJ, EI_sEJ, EJ_sEJ, ER_sEJ, n_sER, z_sER, tag_sER, I_sER, J_sER, R_sER, EI_sER, EJ_sER, ER_sER, n_nw, z_nw, tag_nw, I_nw, J_nw, R_nw, EI_nw, EJ_nw, ER_nw]
        have as2 : ASK (h1.sEI 1106 (tx 14) L (bI (oa.isSome || or'.isSome))) A tx L sort a kd := ⟨by rw [← b1]; simp [n_sI, z_sI, tag_sI, I_sI, J_sI, R_sI, EI_sI, EJ_sI, ER_sI, n_sJ, z_sJ, tag_sJ, I_sJ, J_sJ, R_sJ, EI_sJ, EJ_sJ, ER_sJ, n_sR, z_sR, tag_sR, I_sR, J_sR, R_sR, EI_sR, EJ_sR, ER_sR, n_sEI, z_sEI, tag_sEI, I_sEI, J_sEI, R_sEI, EI_sEI, EJ_sEI, ER_sEI, n_sEJ, z_sEJ, tag_sEJ, I_sEJ, J_sEJ, R_sEJ, EI_sEJ, EJ_sEJ, ER_sEJ, n_sER, z_sER, tag_sER, I_sER, J_sER, R_sER, EI_sER, EJ_sER, ER_sER, n_nw, z_nw, tag_nw, I_nw, J_nw, R_nw, EI_nw, EJ_nw, ER_nw], by rw [← b2]; simp [n_sI, z_sI, tag_sI, I_sI, J_sI, R_sI, EI_sI, EJ_sI, ER_sI, n_sJ, z_sJ, tag_sJ, I_sJ, J_sJ, R_sJ, EI_sJ, EJ_sJ, ER_sJ, n_sR, z_sR, tag_sR, I_sR, J_sR, R_sR, EI_sR, EJ_sR, ER_sR, n_sEI, z_sEI, tag_sEI, I_sEI, J_sEI, R_sEI, EI_sEI, EJ_sEI, ER_sEI, n_sEJ, z_sEJ, tag_sEJ, I_sEJ, J_sEJ, R_sEJ, EI_sEJ, EJ_sEJ, ER_sEJ, n_sER, z_sER, tag_sER, I_sER, J_sER, R_sER, EI_sER, EJ_sER, ER_sER, n_nw, z_nw, tag_nw, I_nw, J_nw, R_nw, EI_nw, EJ_nw, ER_nw], by rw [← b3]; simp [n_sI, z_sI, tag_sI, I_sI, J_sI, R_sI, EI_sI, EJ_sI, ER_sI, n_sJ, z_sJ, tag_sJ, I_sJ, J_sJ, R_sJ, EI_sJ, EJ_sJ, ER_sJ, n_sR, z_sR, tag_sR, I_sR, J_sR, R_sR, EI_sR, EJ_sR, ER_sR, n_sEI, z_sEI, tag_sEI, I_sEI, J_sEI, R_sEI, EI_sEI, EJ_sEI, ER_sEI, n_sEJ, z_sEJ, tag_sEJ, I_sEJ, J_sEJ, R_sEJ, EI_sEJ, EJ_sEJ, ER_sEJ, n_sER, z_sER, tag_sER, I_sER, J_sER, R_sER, EI_sER, EJ_sER, ER_sER, n_nw, z_nw, tag_nw, I_nw, J_nw, R_nw, EI_nw, EJ_nw, ER_nw], by rw [← b4]; simp [n_sI, z_sI, tag_sI, I_sI, J_sI, R_sI, EI_sI, EJ_sI, ER_sI, n_sJ, z_sJ, tag_sJ, I_sJ, J_sJ, R_sJ, EI_sJ, EJ_sJ, ER_sJ, n_sR, z_sR, tag_sR, I_sR, J_sR, R_sR, EI_sR, EJ_sR, ER_sR, n_sEI, z_sEI, tag_sEI, I_sEI, J_sEI, R_sEI, EI_sEI, EJ_sEI, ER_sEI, n_sEJ, z_sEJ, tag_sEJ, I_sEJ, J_sEJ, R_sEJ, EI_sEJ, EJ_sEJ, ER_sEJ, n_sER, z_sER, tag_sER, I_sER, J_sER, R_sER, EI_sER, EJ_sER, ER_sER, n_nw, z_nw, tag_nw, I_nw, J_nw, R_nw, EI_nw, EJ_nw, ER_nw]⟩
        have tr2 : (h1.sEI 1106 (tx 14) L (bI (oa.isSome || or'.isSome))).EI 1088 (tx 13) L = -1 := by rw [← b5]; simp [n_sI, z_sI, tag_sI, I_sI, J_sI, R_sI, EI_sI, EJ_sI, ER_sI, n_sJ, z_sJ, tag_sJ, I_sJ, J_sJ, R_sJ, EI_sJ, EJ_sJ, ER_sJ, n_sR, z_sR, tag_sR, I_sR, J_sR, R_sR, EI_sR, EJ_sR, ER_sR, n_sEI, z_sEI, tag_sEI, I_sEI, J_sEI, R_sEI, EI_sEI, EJ_sEI, ER_sEI, n_sEJ, z_sEJ, tag_sEJ, I_sEJ, J_sEJ, R_sEJ, EI_sEJ, EJ_sEJ, ER_sEJ, n_sER, z_sER, tag_sER, I_sER, J_sER, R_sER, EI_sER, EJ_sER, ER_sER, n_nw, z_nw, tag_nw, I_nw, J_nw, R_nw, EI_nw, EJ_nw, ER_nw]
        refine k_X23_ask_179 (T1 := 1106) (r9 := rb1) oo (fun q => ?_) (fun q => ?_)
        · refine k_X23_ask_201 oo ?_
          exact from202 oa or' lr hrv hrn _ u2 as2 tr2 (fun z => by rw [g1, hc z]) 0 (fun z => (han z ((lt0 oa la).mp q)).symm)
        · cases oa with
          | none => exact absurd (by decide) q
          | some i =>
            obtain ⟨x, hx, cb⟩ := hab i rfl
            have t02 := u2.1.1.tag t01
            obtain ⟨z1, z2⟩ := (sv1.fs u2.1 (by decide)).1.at 1 rfl
            have zb := ((sv1.fs u2.1 (by decide)).2.1.2.2 i x hx).2.1
            have il := la i rfl
            have ixi : IX (nI i) 256 i := IX.mk il (by omega)
            refine k_X23_ask_191 (r2 := z1) (r8 := zb) oo ?_
            exact from202 (some i) or' lr hrv hrn _ u2 as2 tr2 (fun z => by rw [g1, hc z]) x.2.1 (fun _ => cb.symm)
      have idl : ∀ i, (t.1.findIdx? fun x => x.1 == a) = some i → i < 256 ∧ ∃ x, t.1[i]? = some x := fun i hi => by
        rw [List.findIdx?_eq_some_iff_getElem] at hi
        obtain ⟨hi, -⟩ := hi
        exact ⟨by omega, _, List.getElem?_eq_getElem hi⟩
      have idr : ∀ i, (t.2.2.findIdx? fun x => x.1 == a && x.2.1 == kd) = some i → i < 256 ∧ ∃ x, t.2.2[i]? = some x := fun i hi => by
        rw [List.findIdx?_eq_some_iff_getElem] at hi
        obtain ⟨hi, -⟩ := hi
        exact ⟨by omega, _, List.getElem?_eq_getElem hi⟩
      by_cases s1 : sort = 1
      · have ec := e1 s1
        refine k_X23_ask_124 oo (fun q => absurd ((evs 1 (by omega)).mpr s1) q) (fun _ => ?_)
        refine k_X23_ask_129 oo ?_
        refine tfac_ok t01 sv1 ?_
        refine k_X23_ask_134 oo ?_
        refine k_X23_ask_138 oo (fun _ => ?_) (fun q => absurd ((evs 3 (by omega)).mp q) (by omega))
        refine k_X23_ask_155 oo ?_
        refine tail _ none (fun i hi => (idl i hi).1) (fun i hi => by cases hi) (fun _ => ?_) (fun i hi => ?_) (fun _ hi => ?_) (fun i hi => by cases hi) (fun _ => ?_)
        · rw [ec]; unfold tac
          cases hf : (t.1.findIdx? fun x => x.1 == a) with
          | none => rfl
          | some i => obtain ⟨-, x, hx⟩ := idl i hf; simp only [hx]; rfl
        · obtain ⟨-, x, hx⟩ := idl i hi
          exact ⟨x, hx, by rw [ec]; unfold tac; rw [hi]; simp only [hx]⟩
        · rw [ec]; unfold tac; rw [hi]
        · rw [ec]; unfold tac
          cases hf : (t.1.findIdx? fun x => x.1 == a) with
          | none => rfl
          | some i => obtain ⟨-, x, hx⟩ := idl i hf; simp only [hx]
      · refine k_X23_ask_124 oo (fun _ => ?_) (fun q => absurd ((evs 1 (by omega)).mp q) s1)
        refine k_X23_ask_137 oo ?_
        by_cases s3 : sort = 3
        · have ec := e3 s3
          refine k_X23_ask_138 oo (fun q => absurd ((evs 3 (by omega)).mpr s3) q) (fun _ => ?_)
          refine k_X23_ask_145 oo ?_
          refine tfrs_ok hk t01 sv1 ?_
          refine k_X23_ask_152 oo ?_
          refine tail none _ (fun i hi => by cases hi) (fun i hi => (idr i hi).1) (fun _ => ?_) (fun i hi => by cases hi) (fun z => absurd z s1) (fun i hi => ?_) (fun hi => ?_)
          · rw [ec]; unfold trsc
            cases hf : (t.2.2.findIdx? fun x => x.1 == a && x.2.1 == kd) with
            | none => rfl
            | some i => obtain ⟨-, x, hx⟩ := idr i hf; simp only [hx]; rfl
          · obtain ⟨-, x, hx⟩ := idr i hi
            exact ⟨x, hx, by rw [ec]; unfold trsc; rw [hi]; simp only [hx]⟩
          · rw [ec]; unfold trsc; rw [hi]
        · refine k_X23_ask_138 oo (fun _ => ?_) (fun q => absurd ((evs 3 (by omega)).mp q) s3)
          refine k_X23_ask_155 oo ?_
          exact tail none none (fun i hi => by cases hi) (fun i hi => by cases hi) (fun z => absurd (by omega) z) (fun i hi => by cases hi) (fun z => absurd z s1) (fun i hi => by cases hi) (fun _ => e2 (by omega))
    | succ cc ih =>
      intro i hi hb
      obtain ⟨x, hx⟩ : ∃ x, (ens s)[i]? = some x := ⟨_, List.getElem?_eq_getElem (by omega)⟩
      obtain ⟨⟨o1, o2, o3, o4⟩, -⟩ := j10 i x hx
      have ix : IX (nI i) 24 i := IX.mk (by omega) (by omega)
      have next : x.1 ≠ (sort, a, kd) → V X K 50 [.ref A, .int (nI sort), .long a, nov, .int (nI kd), .int (nI i), nov, nov] [] h := fun e => by
        refine k_X23_ask_50 oo ?_
        rw [nI_add]
        refine ih (i + 1) (by omega) (fun j y hj hy => ?_)
        by_cases ej : j = i
        · rw [ej, hx] at hy; cases hy; exact e
        · exact hb j y (by omega) hy
      refine k_X23_ask_3 (r2 := j7) oo (fun q => absurd ((nI_leI (by omega) (by omega)).mp q) (by omega)) (fun _ => ?_)
      by_cases c1 : x.1.1 = sort
      · refine k_X23_ask_12 (r2 := r1) (r8 := o1) oo (fun q => absurd (by rw [c1]) q) (fun _ => ?_)
        by_cases c2 : x.1.2.1 = a
        · refine k_X23_ask_23 (r2 := r3) (r8 := o2) oo (fun q => absurd c2 q) (fun _ => ?_)
          by_cases c3 : x.1.2.2 = kd
          · refine k_X23_ask_35 (r2 := r5) (r8 := o3) oo (fun q => absurd (by rw [c3]) q) (fun _ => ?_)
            refine k_X23_ask_47 oo ?_
            refine k1 i ?_
            rw [List.findIdx?_eq_some_iff_getElem]
            refine ⟨by omega, ?_, fun j hj => ?_⟩
            · have : (ens s)[i] = x := by rw [List.getElem?_eq_getElem (by omega)] at hx; exact Option.some.inj hx
              rw [this]
              simp [← c1, ← c2, ← c3]
            · have := hb j _ hj (List.getElem?_eq_getElem (by omega))
              simpa using this
          · refine k_X23_ask_35 (r2 := r5) (r8 := o3) oo (fun _ => ?_) (fun q => absurd ((nI_eq (by have := o4.2; omega) (by omega)).mp q) c3)
            exact next (fun z => c3 (by rw [z]))
        · refine k_X23_ask_23 (r2 := r3) (r8 := o2) oo (fun _ => ?_) (fun q => absurd q c2)
          exact next (fun z => c2 (by rw [z]))
      · refine k_X23_ask_12 (r2 := r1) (r8 := o1) oo (fun _ => ?_) (fun q => absurd ((nI_eq (by have := o4.1; omega) (by omega)).mp q) c1)
        exact next (fun z => c1 (by rw [z]))
  exact loop (ens s).length 0 (by omega) (fun j x hj => absurd hj (by omega))
end
