/-! what a transaction leaves -/
def etE : List Nat := [1152, 1153, 1154, 1155, 1156, 1157, 1164, 1158, 1159]
theorem EtR.snoc {P : Nat → Nat → Prop} {h h' : AH} {o o' : Lc} {c i E n : Nat} {MA : Ma} {ls : Lw} {x : Pc × Cn × Bool} (r : EtR h o c i E n MA ls) (q : Fr P h h') (hm : ls.length < n) (np : ∀ f a, etF.contains f = true → f ≠ 1025 → E ≤ a → a < E + 2 + n → a ≠ E + 2 + ls.length → ¬ P f a) (nr : ¬ P 1024 E ∧ ¬ P (10000 + 342) (E + 1)) (hc : h'.I 1025 E = nI (ls.length + 1)) (ho : ∀ e, e ≠ ls.length → o' (c, i, e, 0) = o (c, i, e, 0)) (pb : PB x.1) (e1 : h'.I 1152 (E + 2 + ls.length) = nI x.1.1) (e2 : h'.J 1153 (E + 2 + ls.length) = x.1.2.1) (e3 : h'.I 1154 (E + 2 + ls.length) = nI x.1.2.2) (nw : EtR1 h' o' c i E ls.length MA x) : EtR h' o' c i E n MA (ls ++ [x]) := by
  obtain ⟨⟨⟨⟨s1, s2, s3⟩, s4⟩, ⟨s5, s6, s7⟩, s8⟩, r2, r3⟩ := r
  refine ⟨⟨⟨⟨q.tag s1, by rw [q.R nr.1]; exact s2, q.tag s3⟩, fun e he => ⟨by rw [q.ER nr.2]; exact (s4 e he).1, q.tag (s4 e he).2⟩⟩, ⟨by rw [hc]; simp, by simp; omega, s7⟩, fun e p hp => ?_⟩, fun e y hy => ?_, fun e he => ?_⟩
  · rw [List.map_append] at hp
    by_cases c1 : e < ls.length
    · rw [List.getElem?_append_left (by rw [List.length_map]; exact c1)] at hp
      obtain ⟨⟨a1, a2, a3⟩, a4⟩ := s8 e p hp
      have z : ∀ g, etF.contains g = true → g ≠ 1025 → ¬ P g (E + 2 + e) := fun g hg hn => np g _ hg hn (by omega) (by omega) (by omega)
      exact ⟨⟨by rw [q.I (z _ rfl (by decide))]; exact a1, by rw [q.J (z _ rfl (by decide))]; exact a2, by rw [q.I (z _ rfl (by decide))]; exact a3⟩, a4⟩
    · have hl := get_lt hp
      rw [List.length_append, List.length_map, List.length_map] at hl
      have : e = ls.length := by simp at hl; omega
      subst this
      rw [List.getElem?_append_right (by rw [List.length_map]; exact Nat.le_refl _), List.length_map, Nat.sub_self] at hp
      cases hp
      exact ⟨⟨e1, e2, e3⟩, pb⟩
  · by_cases c1 : e < ls.length
    · rw [List.getElem?_append_left c1] at hy
      obtain ⟨⟨a1, a2, a3⟩, ⟨b1, b2⟩, c2⟩ := r2 e y hy
      have z : ∀ g, etF.contains g = true → g ≠ 1025 → ¬ P g (E + 2 + e) := fun g hg hn => np g _ hg hn (by omega) (by omega) (by omega)
      refine ⟨⟨by rw [q.I (z _ rfl (by decide))]; exact a1, by rw [q.J (z _ rfl (by decide))]; exact a2, by rw [q.J (z _ rfl (by decide))]; exact a3⟩, ⟨by rw [q.I (z _ rfl (by decide))]; exact b1, fun u1 u2 => by rw [q.R (z _ rfl (by decide))]; exact b2 u1 u2⟩, ?_⟩
      rw [ho e (by omega), q.R (z _ rfl (by decide))]; exact c2
    · have hl := get_lt hy
      rw [List.length_append] at hl
      have : e = ls.length := by simp at hl; omega
      subst this
      rw [List.getElem?_append_right (Nat.le_refl _), Nat.sub_self] at hy
      cases hy
      exact nw
  · rw [List.length_append] at he
    simp at he
    rw [ho e (by omega)]
    exact r3 e (by omega)
/-- what is left: the sender's account, and what was changed -/
def lfl (all : Bool) (es : List En) : Lw := (es.filter fun x => all && x.2.2.2).map fun x => (x.1, x.2.2.1, false)
def lfk (all : Bool) (es : List En) : Nat → Lw
  | 0 => []
  | k + 1 => match es with
    | [] => []
    | e0 :: es => (e0.1, e0.2.2.1, false) :: lfl all (es.take k)
theorem lfk_s {all : Bool} {es : List En} {k : Nat} {x : En} (hx : es[k]? = some x) : lfk all es (k + 1) = if k = 0 ∨ (all = true ∧ x.2.2.2 = true) then lfk all es k ++ [(x.1, x.2.2.1, false)] else lfk all es k := by
  cases es with
  | nil => simp at hx
  | cons e0 es =>
    cases k with
    | zero =>
      have : e0 = x := by simpa using hx
      subst this
      rw [if_pos (Or.inl rfl)]
      rfl
    | succ k =>
      have hx : es[k]? = some x := hx
      have e1 : es.take (k + 1) = es.take k ++ [x] := by rw [List.take_add_one, hx]; rfl
      show (e0.1, e0.2.2.1, false) :: lfl all (es.take (k + 1)) = _
      unfold lfl
      rw [e1, List.filter_append, List.map_append]
      by_cases c : all = true ∧ x.2.2.2 = true
      · rw [if_pos (Or.inr c)]
        have : ([x].filter fun x => all && x.2.2.2) = [x] := by simp [c.1, c.2]
        rw [this]; rfl
      · rw [if_neg (fun z => z.elim (by omega) c)]
        have : ([x].filter fun x => all && x.2.2.2) = [] := by
          rw [List.filter_cons]
          have : (all && x.2.2.2) = false := by
            cases h1 : all <;> cases h2 : x.2.2.2 <;> first | rfl | exact absurd ⟨h1, h2⟩ c
          rw [this]; rfl
        rw [this]
        simp [lfk, lfl]
theorem lfk_n {all : Bool} : ∀ {es : List En} {k : Nat}, (lfk all es k).length ≤ k
  | es, 0 => Nat.le_refl _
  | [], k + 1 => Nat.zero_le _
  | e0 :: es, k + 1 => by
    show ((e0.1, e0.2.2.1, false) :: lfl all (es.take k)).length ≤ k + 1
    rw [List.length_cons]
    unfold lfl
    rw [List.length_map]
    have := List.length_filter_le (fun x : En => all && x.2.2.2) (es.take k)
    rw [List.length_take] at this
    omega
def PLv (W LA g a : Nat) : Prop := ((1025 :: etE).contains g = true ∧ LA ≤ a ∧ a < LA + 32) ∨ ((1156 :: 1157 :: 1163 :: 1159 :: []).contains g = true ∧ W + 4 ≤ a ∧ a < W + 34)
theorem PLv.no {W LA : Nat} {l : List Nat} (h : l.all (fun f => !((1025 :: 1163 :: etE).contains f)) = true) : ∀ f a, l.contains f = true → ¬ PLv W LA f a := fun f a hf z => by
  rw [List.all_eq_true] at h
  have := h f (List.contains_iff_mem.mp hf)
  rw [Bool.not_eq_true'] at this
  rcases z with ⟨z, -⟩ | ⟨z, -⟩
  · rw [List.contains_iff_mem] at z
    have : f ∈ 1025 :: 1163 :: etE := by
      rcases List.mem_cons.mp z with y | y
      · rw [y]; simp
      · exact List.mem_cons_of_mem _ (List.mem_cons_of_mem _ y)
    rw [← List.contains_iff_mem] at this
    simp_all
  · rw [List.contains_iff_mem] at z
    have : f ∈ 1025 :: 1163 :: etE := by
      simp only [List.mem_cons, List.mem_nil_iff, or_false] at z
      rcases z with y | y | y | y <;> (rw [y]; decide)
    rw [← List.contains_iff_mem] at this
    simp_all
theorem PLv.vq {W LA : Nat} : ∀ g a, VQ g a → ¬ PLv W LA g a := fun g a z y => by
  rcases y with ⟨y, -⟩ | ⟨y, -⟩
  · exact VQ.no (l := 1025 :: etE) rfl g a y z
  · exact VQ.no (l := 1156 :: 1157 :: 1163 :: 1159 :: []) rfl g a y z
/-- one entry is left: what is written -/
def PL1 (W LA c k g a : Nat) : Prop := (g = 1025 ∧ a = LA) ∨ (etE.contains g = true ∧ a = LA + 2 + c) ∨ (g = 1159 ∧ a = Ea W k)
section
variable {G : Gt} {B d : Nat} {h : AH} {l : List Nat} {o : Lc} {wi W A q BA X tt lim SP LA : Nat} {snd : Int64} {MA : Ma} {K : Outcome → AH → Prop} {es : List En}
def CLE (h : AH) (o : Lc) (wi W e : Nat) : Prop := (o (3, wi, e, 0) = none ∧ h.R 1159 (Ea W e) = none) ∨ ∃ x, o (3, wi, e, 0) = some x ∧ h.R 1159 (Ea W e) = some x.1 ∧ fdp x.2.2.2 ≤ 40
theorem EnR1.cle {e : Nat} {x : En} (r : EnR1 h o wi W e MA x) (hf : ∀ v, x.2.2.1.2.2.2 = some v → fdp v.2.2 ≤ 40) : CLE h o wi W e := by
  obtain ⟨-, -, -, -, d⟩ := r
  cases hv : x.2.2.1.2.2.2 with
  | none => rw [hv] at d; exact Or.inl d
  | some v =>
    rw [hv] at d
    obtain ⟨y, y1, y2, y3⟩ := d
    refine Or.inr ⟨y, y1, y2, ?_⟩
    have := hf v hv
    rw [← y3] at this
    have e2 : fdp (lvE y).2.2 = fdp y.2.2.2 := fer_dp _
    omega
theorem leave_85 {XX : Xt} (oo : OK e_X1_leave XX) {all : Bool} {l3 l4 l5 : Value} (c0 : CTX h A W q BA X tt snd lim SP) (sw : SWk h W) (hL : h.R 2705 X = some LA) (far : LA + 32 ≤ W ∨ W + 130 ≤ LA) (hn : es.length ≤ 26) (hcn : h.I 1025 (W + 2) = nI es.length) (hfd : ∀ x ∈ es, ∀ v, x.2.2.1.2.2.2 = some v → fdp v.2.2 ≤ 40) (hd : 5 ≤ XX.d) (kk : ∀ h' o', Fr (PLv W LA) h h' → h'.n = h.n → VH XX.G B h' q l o' → EtR h' o' 4 tt LA 30 MA (lfk all es es.length) → (∀ e, e < es.length → CLE h' o' wi W e) → (∀ p : Sl, ¬ (p.1 = 3 ∧ p.2.1 = wi ∧ p.2.2.1 < es.length ∧ p.2.2.2 = 0) → ¬ (p.1 = 4 ∧ p.2.1 = tt ∧ p.2.2.2 = 0) → o' p = o p) → (∀ p x, o' p = some x → h'.R 3718 x.1 = h.R 3718 x.1 ∧ ∃ p', o p' = some x) → K (.returned none) h') : ∀ (r k : Nat), r + k = es.length → ∀ h1 o1 l7 l8, Fq (PLv W LA) h h1 → VH XX.G B h1 q l o1 → EtR h1 o1 4 tt LA 30 MA (lfk all es k) → (∀ e, e < k → CLE h1 o1 wi W e) → (∀ e x, k ≤ e → es[e]? = some x → EnR1 h1 o1 wi W e MA x) → (∀ p : Sl, ¬ (p.1 = 3 ∧ p.2.1 = wi ∧ p.2.2.1 < es.length ∧ p.2.2.2 = 0) → ¬ (p.1 = 4 ∧ p.2.1 = tt ∧ p.2.2.2 = 0) → o1 p = o p) → (∀ p x, o1 p = some x → h1.R 3718 x.1 = h.R 3718 x.1 ∧ ∃ p', o p' = some x) → V XX K 85 [.ref A, .ref X, .int (bI all), l3, l4, l5, .int (nI k), l7, l8] [] h1 := by
  obtain ⟨⟨t0, rq, rW, rB, rS⟩, -, tX, -⟩ := id c0
  obtain ⟨⟨w1, -, -⟩, ⟨w4, w5, w6, w7⟩, -, w9⟩ := id sw
  have no := PLv.no (W := W) (LA := LA) (l := [2, 26, 2440, 1024, 10000 + 342, 2705, 3718]) rfl
  have ncn : ¬ PLv W LA 1025 (W + 2) := fun z => by
    rcases z with ⟨-, z⟩ | ⟨z, -⟩
    · omega
    · exact absurd z (by decide)
  intro r
  induction r with
  | zero =>
    intro k hk h1 o1 l7 l8 f1 v1 e1 b1 b2 b3 b4
    have e : k = es.length := by omega
    subst e
    have tA := f1.1.tag t0
    have tW := f1.1.tag w1
    have tE := f1.1.tag w5
    have r1 : h1.R 26 A = some W := by rw [f1.1.R (no _ _ rfl)]; exact rW
    have r2 : h1.R 2440 W = some (W + 2) := by rw [f1.1.R (no _ _ rfl)]; exact w4
    have c1 : h1.I 1025 (W + 2) = nI es.length := by rw [f1.1.I ncn]; exact hcn
    refine k_X1_leave_85 (r8 := c1) oo (fun _ => ?_) (fun c => absurd (Int32.le_refl _) c)
    exact k_X1_leave_253 oo (kk h1 o1 f1.1 f1.2.1 v1 e1 b1 b3 b4)
  | succ r ih =>
    intro k hk h1 o1 l7 l8 f1 v1 e1 b1 b2 b3 b4
    obtain ⟨x, hx⟩ : ∃ x, es[k]? = some x := ⟨_, List.getElem?_eq_getElem (by omega)⟩
    have xr := b2 k x (Nat.le_refl _) hx
    obtain ⟨w91, w92⟩ := w9 k (by omega)
    have tA := f1.1.tag t0
    have tW := f1.1.tag w1
    have tE := f1.1.tag w5
    have tR := f1.1.tag w7
    have tI := f1.1.tag w92
    have tX1 := f1.1.tag tX
    have r1 : h1.R 26 A = some W := by rw [f1.1.R (no _ _ rfl)]; exact rW
    have r2 : h1.R 2440 W = some (W + 2) := by rw [f1.1.R (no _ _ rfl)]; exact w4
    have r3 : h1.R 1024 (W + 2) = some (W + 3) := by rw [f1.1.R (no _ _ rfl)]; exact w6
    have r4 : h1.ER 342 (W + 3) k = some (Ea W k) := by rw [f1.1.ER (no _ _ rfl)]; exact w91
    have rL : h1.R 2705 X = some LA := by rw [f1.1.R (no _ _ rfl)]; exact hL
    have c1 : h1.I 1025 (W + 2) = nI es.length := by rw [f1.1.I ncn]; exact hcn
    have ix : IX (nI k) 30 k := IX.mk (by omega) (by omega)
    have hlk := lfk_n (all := all) (es := es) (k := k)
    refine k_X1_leave_85 (r8 := c1) oo (fun c => absurd ((nI_leI (by omega) (by omega)).mp c) (by omega)) (fun _ => ?_)
    have skip : ¬ (k = 0 ∨ (all = true ∧ x.2.2.2 = true)) → ∀ l8', V XX K 247 [.ref A, .ref X, .int (bI all), l3, l4, l5, .int (nI k), .ref (Ea W k), l8'] [] h1 := fun hs l8' => by
      refine k_X1_leave_247 oo ?_
      rw [nI_add]
      refine ih (k + 1) (by omega) h1 o1 _ _ f1 v1 (by rw [lfk_s hx, if_neg hs]; exact e1) (fun e he => ?_) (fun e y he hy => b2 e y (by omega) hy) b3 b4
      by_cases ce : e = k
      · rw [ce]; exact xr.cle (hfd x (List.mem_of_getElem? hx))
      · exact b1 e (by omega)
    have put : (k = 0 ∨ (all = true ∧ x.2.2.2 = true)) → V XX K 135 [.ref A, .ref X, .int (bI all), l3, l4, l5, .int (nI k), .ref (Ea W k), l8] [] h1 := fun hs => by
      generalize hm : (lfk all es k).length = m at *
      obtain ⟨⟨⟨s1, s2, s3⟩, s4⟩, ⟨s5, s6, s7⟩, s8⟩ := e1.1
      rw [List.length_map, hm] at s5
      obtain ⟨q1, q2⟩ := s4 m (by omega)
      obtain ⟨⟨a1, a2, a3, a4⟩, ⟨g1, g2, g3⟩, ⟨g4, g5⟩, ⟨g6, g7, g8⟩, g9⟩ := id xr
      have ixm : IX (nI m) 30 m := IX.mk (by omega) (by omega)
      have n1 : LA + 2 + m ≠ Ea W k := by unfold Ea; omega
      obtain ⟨vv, hvv⟩ : ∃ vv, h1.R 1159 (Ea W k) = vv := ⟨_, rfl⟩
      obtain ⟨mm, hmm⟩ : ∃ mm, h1.R 1158 (Ea W k) = mm := ⟨_, rfl⟩
      refine k_X1_leave_135 (r10 := s5) (r21 := s5) (r24 := a1) (r26 := a2) (r28 := a3) oo ?_
      rw [nI_add]
      have tE2 : (h1.sI 1025 LA (nI (m + 1))).tag (LA + 2 + m) = some (9, 0) := q2
      refine eplace_ok tE2 ?_
      refine k_X1_leave_185 (x3 := bI x.2.2.1.1) (x7 := x.2.2.1.2.1) (x9 := x.2.2.1.2.2.1) (x11 := mm) (x13 := vv) (r2 := by simp [n_sI, z_sI, tag_sI, I_sI, J_sI, R_sI, EI_sI, EJ_sI, ER_sI, n_sJ, z_sJ, tag_sJ, I_sJ, J_sJ, R_sJ, EI_sJ, EJ_sJ, ER_sJ, n_sR, z_sR, tag_sR, I_sR, J_sR, R_sR, EI_sR, EJ_sR, ER_sR, n_sEI, z_sEI, tag_sEI, I_sEI, J_sEI, R_sEI, EI_sEI, EJ_sEI, ER_sEI, n_sEJ, z_sEJ, tag_sEJ, I_sEJ, J_sEJ, R_sEJ, EI_sEJ, EJ_sEJ, ER_sEJ, n_sER, z_sER, tag_sER, I_sER, J_sER, R_sER, EI_sER, EJ_sER, ER_sER, n_nw, z_nw, tag_nw, I_nw, J_nw, R_nw, EI_nw, EJ_nw, ER_nw]; exact g1) (r6 := by simp [n_sI, z_sI, tag_sI, I_sI, J_sI, R_sI, EI_sI, EJ_sI, ER_sI, n_sJ, z_sJ, tag_sJ, I_sJ, J_sJ, R_sJ, EI_sJ, EJ_sJ, ER_sJ, n_sR, z_sR, tag_sR, I_sR, J_sR, R_sR, EI_sR, EJ_sR, ER_sR, n_sEI, z_sEI, tag_sEI, I_sEI, J_sEI, R_sEI, EI_sEI, EJ_sEI, ER_sEI, n_sEJ, z_sEJ, tag_sEJ, I_sEJ, J_sEJ, R_sEJ, EI_sEJ, EJ_sEJ, ER_sEJ, n_sER, z_sER, tag_sER, I_sER, J_sER, R_sER, EI_sER, EJ_sER, ER_sER, n_nw, z_nw, tag_nw, I_nw, J_nw, R_nw, EI_nw, EJ_nw, ER_nw]; exact g2) (r8 := by simp [n_sI, z_sI, tag_sI, I_sI, J_sI, R_sI, EI_sI, EJ_sI, ER_sI, n_sJ, z_sJ, tag_sJ, I_sJ, J_sJ, R_sJ, EI_sJ, EJ_sJ, ER_sJ, n_sR, z_sR, tag_sR, I_sR, J_sR, R_sR, EI_sR, EJ_sR, ER_sR, n_sEI, z_sEI, tag_sEI, I_sEI, J_sEI, R_sEI, EI_sEI, EJ_sEI, ER_sEI, n_sEJ, z_sEJ, tag_sEJ, I_sEJ, J_sEJ, R_sEJ, EI_sEJ, EJ_sEJ, ER_sEJ, n_sER, z_sER, tag_sER, I_sER, J_sER, R_sER, EI_sER, EJ_sER, ER_sER, n_nw, z_nw, tag_nw, I_nw, J_nw, R_nw, EI_nw, EJ_nw, ER_nw]; exact g3) (r10 := by simp [n_sI, z_sI, tag_sI, I_sI, J_sI, R_sI, EI_sI, EJ_sI, ER_sI, n_sJ, z_sJ, tag_sJ, I_sJ, J_sJ, R_sJ, EI_sJ, EJ_sJ, ER_sJ, n_sR, z_sR, tag_sR, I_sR, J_sR, R_sR, EI_sR, EJ_sR, ER_sR, n_sEI, z_sEI, tag_sEI, I_sEI, J_sEI, R_sEI, EI_sEI, EJ_sEI, ER_sEI, n_sEJ, z_sEJ, tag_sEJ, I_sEJ, J_sEJ, R_sEJ, EI_sEJ, EJ_sEJ, ER_sEJ, n_sER, z_sER, tag_sER, I_sER, J_sER, R_sER, EI_sER, EJ_sER, ER_sER, n_nw, z_nw, tag_nw, I_nw, J_nw, R_nw, EI_nw, EJ_nw, ER_nw]; exact hmm) (r12 := by simp [n_sI, z_sI, tag_sI, I_sI, J_sI, R_sI, EI_sI, EJ_sI, ER_sI, n_sJ, z_sJ, tag_sJ, I_sJ, J_sJ, R_sJ, EI_sJ, EJ_sJ, ER_sJ, n_sR, z_sR, tag_sR, I_sR, J_sR, R_sR, EI_sR, EJ_sR, ER_sR, n_sEI, z_sEI, tag_sEI, I_sEI, J_sEI, R_sEI, EI_sEI, EJ_sEI, ER_sEI, n_sEJ, z_sEJ, tag_sEJ, I_sEJ, J_sEJ, R_sEJ, EI_sEJ, EJ_sEJ, ER_sEJ, n_sER, z_sER, tag_sER, I_sER, J_sER, R_sER, EI_sER, EJ_sER, ER_sER, n_nw, z_nw, tag_nw, I_nw, J_nw, R_nw, EI_nw, EJ_nw, ER_nw]; exact hvv) oo ?_
      refine k_X1_leave_235 oo ?_
      refine k_X1_leave_247 oo ?_
      rw [nI_add]
      generalize hh4 : ((((((((((((h1.sI 1025 LA (nI (m + 1))).sI 1152 (LA + 2 + m) (nI x.1.1)).sJ 1153 (LA + 2 + m) x.1.2.1).sI 1154 (LA + 2 + m) (nI x.1.2.2)).sI 1155 (LA + 2 + m) (bI x.2.2.1.1)).sJ 1156 (LA + 2 + m) x.2.2.1.2.1).sJ 1157 (LA + 2 + m) x.2.2.1.2.2.1).sR 1158 (LA + 2 + m) mm).sR 1159 (LA + 2 + m) vv).sI 1164 (LA + 2 + m) (nI 0)).sR 1159 (Ea W k) none)) = h4
      have fq : Fq (PL1 W LA m k) h1 h4 := by
        rw [← hh4]
        refine Fq.sR (Fq.sI (Fq.sR (Fq.sR (Fq.sJ (Fq.sJ (Fq.sI (Fq.sI (Fq.sJ (Fq.sI (Fq.sI (Fq.refl h1) ?_) ?_) ?_) ?_) ?_) ?_) ?_) ?_) ?_) ?_) ?_ <;> first | exact Or.inl ⟨rfl, rfl⟩ | exact Or.inr (Or.inl ⟨rfl, rfl⟩) | exact Or.inr (Or.inr ⟨rfl, rfl⟩)
      have x1 : h4.I 1025 LA = nI (m + 1) := by rw [← hh4]; simp [n_sI, z_sI, tag_sI, I_sI, J_sI, R_sI, EI_sI, EJ_sI, ER_sI, n_sJ, z_sJ, tag_sJ, I_sJ, J_sJ, R_sJ, EI_sJ, EJ_sJ, ER_sJ, n_sR, z_sR, tag_sR, I_sR, J_sR, R_sR, EI_sR, EJ_sR, ER_sR, n_sEI, z_sEI, tag_sEI, I_sEI, J_sEI, R_sEI, EI_sEI, EJ_sEI, ER_sEI, n_sEJ, z_sEJ, tag_sEJ, I_sEJ, J_sEJ, R_sEJ, EI_sEJ, EJ_sEJ, ER_sEJ, n_sER, z_sER, tag_sER, I_sER, J_sER, R_sER, EI_sER, EJ_sER, ER_sER, n_nw, z_nw, tag_nw, I_nw, J_nw, R_nw, EI_nw, EJ_nw, ER_nw]
      have x2 : h4.I 1152 (LA + 2 + m) = nI x.1.1 := by rw [← hh4]; simp [n_sI, z_sI, tag_sI, I_sI, J_sI, R_sI, EI_sI, EJ_sI, ER_sI, n_sJ, z_sJ, tag_sJ, I_sJ, J_sJ, R_sJ, EI_sJ, EJ_sJ, ER_sJ, n_sR, z_sR, tag_sR, I_sR, J_sR, R_sR, EI_sR, EJ_sR, ER_sR, n_sEI, z_sEI, tag_sEI, I_sEI, J_sEI, R_sEI, EI_sEI, EJ_sEI, ER_sEI, n_sEJ, z_sEJ, tag_sEJ, I_sEJ, J_sEJ, R_sEJ, EI_sEJ, EJ_sEJ, ER_sEJ, n_sER, z_sER, tag_sER, I_sER, J_sER, R_sER, EI_sER, EJ_sER, ER_sER, n_nw, z_nw, tag_nw, I_nw, J_nw, R_nw, EI_nw, EJ_nw, ER_nw]
      have x3 : h4.J 1153 (LA + 2 + m) = x.1.2.1 := by rw [← hh4]; simp [n_sI, z_sI, tag_sI, I_sI, J_sI, R_sI, EI_sI, EJ_sI, ER_sI, n_sJ, z_sJ, tag_sJ, I_sJ, J_sJ, R_sJ, EI_sJ, EJ_sJ, ER_sJ, n_sR, z_sR, tag_sR, I_sR, J_sR, R_sR, EI_sR, EJ_sR, ER_sR, n_sEI, z_sEI, tag_sEI, I_sEI, J_sEI, R_sEI, EI_sEI, EJ_sEI, ER_sEI, n_sEJ, z_sEJ, tag_sEJ, I_sEJ, J_sEJ, R_sEJ, EI_sEJ, EJ_sEJ, ER_sEJ, n_sER, z_sER, tag_sER, I_sER, J_sER, R_sER, EI_sER, EJ_sER, ER_sER, n_nw, z_nw, tag_nw, I_nw, J_nw, R_nw, EI_nw, EJ_nw, ER_nw]
      have x4 : h4.I 1154 (LA + 2 + m) = nI x.1.2.2 := by rw [← hh4]; simp [n_sI, z_sI, tag_sI, I_sI, J_sI, R_sI, EI_sI, EJ_sI, ER_sI, n_sJ, z_sJ, tag_sJ, I_sJ, J_sJ, R_sJ, EI_sJ, EJ_sJ, ER_sJ, n_sR, z_sR, tag_sR, I_sR, J_sR, R_sR, EI_sR, EJ_sR, ER_sR, n_sEI, z_sEI, tag_sEI, I_sEI, J_sEI, R_sEI, EI_sEI, EJ_sEI, ER_sEI, n_sEJ, z_sEJ, tag_sEJ, I_sEJ, J_sEJ, R_sEJ, EI_sEJ, EJ_sEJ, ER_sEJ, n_sER, z_sER, tag_sER, I_sER, J_sER, R_sER, EI_sER, EJ_sER, ER_sER, n_nw, z_nw, tag_nw, I_nw, J_nw, R_nw, EI_nw, EJ_nw, ER_nw]
      have x5 : h4.I 1155 (LA + 2 + m) = bI x.2.2.1.1 := by rw [← hh4]; simp [n_sI, z_sI, tag_sI, I_sI, J_sI, R_sI, EI_sI, EJ_sI, ER_sI, n_sJ, z_sJ, tag_sJ, I_sJ, J_sJ, R_sJ, EI_sJ, EJ_sJ, ER_sJ, n_sR, z_sR, tag_sR, I_sR, J_sR, R_sR, EI_sR, EJ_sR, ER_sR, n_sEI, z_sEI, tag_sEI, I_sEI, J_sEI, R_sEI, EI_sEI, EJ_sEI, ER_sEI, n_sEJ, z_sEJ, tag_sEJ, I_sEJ, J_sEJ, R_sEJ, EI_sEJ, EJ_sEJ, ER_sEJ, n_sER, z_sER, tag_sER, I_sER, J_sER, R_sER, EI_sER, EJ_sER, ER_sER, n_nw, z_nw, tag_nw, I_nw, J_nw, R_nw, EI_nw, EJ_nw, ER_nw]
      have x6 : h4.J 1156 (LA + 2 + m) = x.2.2.1.2.1 := by rw [← hh4]; simp [n_sI, z_sI, tag_sI, I_sI, J_sI, R_sI, EI_sI, EJ_sI, ER_sI, n_sJ, z_sJ, tag_sJ, I_sJ, J_sJ, R_sJ, EI_sJ, EJ_sJ, ER_sJ, n_sR, z_sR, tag_sR, I_sR, J_sR, R_sR, EI_sR, EJ_sR, ER_sR, n_sEI, z_sEI, tag_sEI, I_sEI, J_sEI, R_sEI, EI_sEI, EJ_sEI, ER_sEI, n_sEJ, z_sEJ, tag_sEJ, I_sEJ, J_sEJ, R_sEJ, EI_sEJ, EJ_sEJ, ER_sEJ, n_sER, z_sER, tag_sER, I_sER, J_sER, R_sER, EI_sER, EJ_sER, ER_sER, n_nw, z_nw, tag_nw, I_nw, J_nw, R_nw, EI_nw, EJ_nw, ER_nw]
      have x7 : h4.J 1157 (LA + 2 + m) = x.2.2.1.2.2.1 := by rw [← hh4]; simp [n_sI, z_sI, tag_sI, I_sI, J_sI, R_sI, EI_sI, EJ_sI, ER_sI, n_sJ, z_sJ, tag_sJ, I_sJ, J_sJ, R_sJ, EI_sJ, EJ_sJ, ER_sJ, n_sR, z_sR, tag_sR, I_sR, J_sR, R_sR, EI_sR, EJ_sR, ER_sR, n_sEI, z_sEI, tag_sEI, I_sEI, J_sEI, R_sEI, EI_sEI, EJ_sEI, ER_sEI, n_sEJ, z_sEJ, tag_sEJ, I_sEJ, J_sEJ, R_sEJ, EI_sEJ, EJ_sEJ, ER_sEJ, n_sER, z_sER, tag_sER, I_sER, J_sER, R_sER, EI_sER, EJ_sER, ER_sER, n_nw, z_nw, tag_nw, I_nw, J_nw, R_nw, EI_nw, EJ_nw, ER_nw]
      have x8 : h4.R 1158 (LA + 2 + m) = mm := by rw [← hh4]; simp [n_sI, z_sI, tag_sI, I_sI, J_sI, R_sI, EI_sI, EJ_sI, ER_sI, n_sJ, z_sJ, tag_sJ, I_sJ, J_sJ, R_sJ, EI_sJ, EJ_sJ, ER_sJ, n_sR, z_sR, tag_sR, I_sR, J_sR, R_sR, EI_sR, EJ_sR, ER_sR, n_sEI, z_sEI, tag_sEI, I_sEI, J_sEI, R_sEI, EI_sEI, EJ_sEI, ER_sEI, n_sEJ, z_sEJ, tag_sEJ, I_sEJ, J_sEJ, R_sEJ, EI_sEJ, EJ_sEJ, ER_sEJ, n_sER, z_sER, tag_sER, I_sER, J_sER, R_sER, EI_sER, EJ_sER, ER_sER, n_nw, z_nw, tag_nw, I_nw, J_nw, R_nw, EI_nw, EJ_nw, ER_nw]
      have x9 : h4.R 1159 (LA + 2 + m) = vv := by rw [← hh4]; simp [n_sI, z_sI, tag_sI, I_sI, J_sI, R_sI, EI_sI, EJ_sI, ER_sI, n_sJ, z_sJ, tag_sJ, I_sJ, J_sJ, R_sJ, EI_sJ, EJ_sJ, ER_sJ, n_sR, z_sR, tag_sR, I_sR, J_sR, R_sR, EI_sR, EJ_sR, ER_sR, n_sEI, z_sEI, tag_sEI, I_sEI, J_sEI, R_sEI, EI_sEI, EJ_sEI, ER_sEI, n_sEJ, z_sEJ, tag_sEJ, I_sEJ, J_sEJ, R_sEJ, EI_sEJ, EJ_sEJ, ER_sEJ, n_sER, z_sER, tag_sER, I_sER, J_sER, R_sER, EI_sER, EJ_sER, ER_sER, n_nw, z_nw, tag_nw, I_nw, J_nw, R_nw, EI_nw, EJ_nw, ER_nw, n1]
      have x10 : h4.I 1164 (LA + 2 + m) = nI 0 := by rw [← hh4]; simp [n_sI, z_sI, tag_sI, I_sI, J_sI, R_sI, EI_sI, EJ_sI, ER_sI, n_sJ, z_sJ, tag_sJ, I_sJ, J_sJ, R_sJ, EI_sJ, EJ_sJ, ER_sJ, n_sR, z_sR, tag_sR, I_sR, J_sR, R_sR, EI_sR, EJ_sR, ER_sR, n_sEI, z_sEI, tag_sEI, I_sEI, J_sEI, R_sEI, EI_sEI, EJ_sEI, ER_sEI, n_sEJ, z_sEJ, tag_sEJ, I_sEJ, J_sEJ, R_sEJ, EI_sEJ, EJ_sEJ, ER_sEJ, n_sER, z_sER, tag_sER, I_sER, J_sER, R_sER, EI_sER, EJ_sER, ER_sER, n_nw, z_nw, tag_nw, I_nw, J_nw, R_nw, EI_nw, EJ_nw, ER_nw]
      have x11 : h4.R 1159 (Ea W k) = none := by rw [← hh4]; simp [n_sI, z_sI, tag_sI, I_sI, J_sI, R_sI, EI_sI, EJ_sI, ER_sI, n_sJ, z_sJ, tag_sJ, I_sJ, J_sJ, R_sJ, EI_sJ, EJ_sJ, ER_sJ, n_sR, z_sR, tag_sR, I_sR, J_sR, R_sR, EI_sR, EJ_sR, ER_sR, n_sEI, z_sEI, tag_sEI, I_sEI, J_sEI, R_sEI, EI_sEI, EJ_sEI, ER_sEI, n_sEJ, z_sEJ, tag_sEJ, I_sEJ, J_sEJ, R_sEJ, EI_sEJ, EJ_sEJ, ER_sEJ, n_sER, z_sER, tag_sER, I_sER, J_sER, R_sER, EI_sER, EJ_sER, ER_sER, n_nw, z_nw, tag_nw, I_nw, J_nw, R_nw, EI_nw, EJ_nw, ER_nw]
      have pl : ∀ g a, PL1 W LA m k g a → PLv W LA g a := fun g a z => by
        rcases z with ⟨y1, y2⟩ | ⟨y1, y2⟩ | ⟨y1, y2⟩
        · rw [y1, y2]; exact Or.inl ⟨by decide, by omega, by omega⟩
        · rw [y2]
          refine Or.inl ⟨?_, by omega, by omega⟩
          rw [List.contains_iff_mem] at y1 ⊢
          exact List.mem_cons_of_mem _ y1
        · rw [y1, y2]; exact Or.inr ⟨by decide, by unfold Ea; omega, by unfold Ea; omega⟩
      have f4 : Fq (PLv W LA) h h4 := ⟨f1.1.trans (fq.1.mono pl), fq.2.1.trans f1.2.1, fq.2.2.trans f1.2.2⟩
      have ntg : ∀ a, ¬ PL1 W LA m k 3718 a := fun a z => no 3718 a rfl (pl _ _ z)
      have fa : ∀ e, e ≠ k → e < 26 → ∀ g, enE.contains g = true → ¬ PL1 W LA m k g (Ea W e) := fun e he he2 g hg z => by
        rcases z with ⟨y1, y2⟩ | ⟨y1, y2⟩ | ⟨y1, y2⟩
        · rw [y1] at hg; exact absurd hg (by decide)
        · unfold Ea at y2; omega
        · unfold Ea at y2; omega
      have fin : ∀ o2, VH XX.G B h4 q l o2 → (∀ p, p ≠ (3, wi, k, 0) → p ≠ (4, tt, m, 0) → o2 p = o1 p) → o2 (3, wi, k, 0) = none → (match x.2.2.1.2.2.2 with | some v => ∃ y, o2 (4, tt, m, 0) = some y ∧ vv = some y.1 ∧ lvE y = v | none => o2 (4, tt, m, 0) = none ∧ vv = none) → (∀ p z, o2 p = some z → h4.R 3718 z.1 = h.R 3718 z.1 ∧ ∃ p', o p' = some z) → V XX K 85 [.ref A, .ref X, .int (bI all), l3, l4, l5, .int (nI (k + 1)), .ref (Ea W k), .ref (LA + 2 + m)] [] h4 := fun o2 d1 d2 d3 d4 d5 => by
        refine ih (k + 1) (by omega) h4 o2 _ _ f4 d1 ?_ (fun e he => ?_) (fun e y he hy => ?_) (fun p hp1 hp2 => ?_) d5
        · rw [lfk_s hx, if_pos hs]
          refine e1.snoc (x := (x.1, x.2.2.1, false)) fq.1 (by omega) (fun f a hf hn h1 h2 h3 z => ?_) ⟨fun z => ?_, fun z => ?_⟩ (by rw [hm]; exact x1) (fun e he => d2 _ (fun z => by cases z) (fun z => he (by rw [hm]; exact congrArg (fun p : Sl => p.2.2.1) z))) a4 (by rw [hm]; exact x2) (by rw [hm]; exact x3) (by rw [hm]; exact x4) ?_
          · rw [hm] at h3
            rcases z with ⟨y1, y2⟩ | ⟨y1, y2⟩ | ⟨y1, y2⟩
            · exact hn y1
            · exact h3 y2
            · unfold Ea at y2; omega
          · rcases z with ⟨y1, y2⟩ | ⟨y1, y2⟩ | ⟨y1, y2⟩
            · exact absurd y1 (by decide)
            · exact absurd y1 (by decide)
            · exact absurd y1 (by decide)
          · rcases z with ⟨y1, y2⟩ | ⟨y1, y2⟩ | ⟨y1, y2⟩
            · exact absurd y1 (by decide)
            · exact absurd y1 (by decide)
            · exact absurd y1 (by decide)
          · rw [hm]
            refine ⟨⟨x5, x6, x7⟩, ⟨x10, fun u1 u2 => by rw [x8, ← hmm]; exact g8 u1 u2⟩, ?_⟩
            show match x.2.2.1.2.2.2 with | some v => ∃ y, o2 (4, tt, m, 0) = some y ∧ h4.R 1159 (LA + 2 + m) = some y.1 ∧ lvE y = v | none => o2 (4, tt, m, 0) = none ∧ h4.R 1159 (LA + 2 + m) = none
            rw [x9]; exact d4
        · by_cases ce : e = k
          · rw [ce]; exact Or.inl ⟨d3, x11⟩
          · have d2' := d2 (3, wi, e, 0) (fun z => ce (congrArg (fun p : Sl => p.2.2.1) z)) (fun z => by cases z)
            have rv := fq.1.R (fa e ce (by omega) 1159 (by decide))
            rcases b1 e (by omega) with ⟨z1, z2⟩ | ⟨y, z1, z2, z3⟩
            · exact Or.inl ⟨by rw [d2']; exact z1, by rw [rv]; exact z2⟩
            · exact Or.inr ⟨y, by rw [d2']; exact z1, by rw [rv]; exact z2, z3⟩
        · exact (b2 e y (by omega) hy).fr fq.1 (fa e (by omega) (by have := get_lt hy; omega)) (d2 _ (fun z => by have : e = k := congrArg (fun p : Sl => p.2.2.1) z; omega) (fun z => by cases z)) rfl rfl
        · rw [d2 p (fun z => hp1 (by rw [z]; exact ⟨rfl, rfl, by show k < es.length; omega, rfl⟩)) (fun z => hp2 (by rw [z]; exact ⟨rfl, rfl, rfl⟩))]
          exact b3 p hp1 hp2
      obtain ⟨v4, tg4⟩ := v1.oth fq (fun g a z y => PLv.vq g a z (pl g a y))
      have om : o1 (4, tt, m, 0) = none := e1.2.2 m (by omega)
      cases hv : x.2.2.1.2.2.2 with
      | none =>
        rw [hv] at g9
        refine fin o1 v4 (fun _ _ _ => rfl) g9.1 (by rw [hv]; exact ⟨om, by rw [← hvv]; exact g9.2⟩) (fun p z hz => by rw [tg4 p z (by simp) hz]; exact b4 p z hz)
      | some v =>
        rw [hv] at g9
        obtain ⟨y, y1, y2, y3⟩ := g9
        refine fin _ (v4.mov y1 om) (fun p hp1 hp2 => by rw [uO_n hp2, uO_n hp1]) (by rw [uO_n (fun z => by cases z), uO_s]) (by rw [hv]; exact ⟨y, uO_s, by rw [← hvv]; exact y2, y3⟩) (fun p z hz => ?_)
        rw [fq.1.R (ntg _)]
        by_cases cp : p = (4, tt, m, 0)
        · rw [cp, uO_s] at hz
          cases hz
          exact b4 _ _ y1
        · rw [uO_n cp] at hz
          by_cases cp2 : p = (3, wi, k, 0)
          · rw [cp2, uO_s] at hz; cases hz
          · rw [uO_n cp2] at hz
            exact b4 p z hz
    by_cases k0 : k = 0
    · subst k0
      refine k_X1_leave_100 oo (fun _ => put (Or.inl rfl)) (fun c => absurd (Int32.le_refl _) c)
    · have kz : ¬ nI k ≤ 0 := fun z => k0 ((nI_le0 (by omega)).mp z)
      refine k_X1_leave_100 oo (fun c => absurd c kz) (fun _ => ?_)
      cases all with
      | false => exact k_X1_leave_120 oo (fun _ => skip (fun z => z.elim k0 (fun y => by cases y.1)) _) (fun c => absurd rfl c)
      | true =>
        refine k_X1_leave_120 oo (fun c => absurd (show bI true = 0 from c) (by decide)) (fun _ => ?_)
        have g5 := xr.2.2.1.2
        cases hc : x.2.2.2 with
        | false =>
          rw [hc] at g5
          refine k_X1_leave_124 (r2 := g5) oo (fun c => absurd rfl c) (fun _ => ?_)
          exact k_X1_leave_132 oo (skip (fun z => z.elim k0 (fun y => by rw [hc] at y; cases y.2)) _)
        | true =>
          rw [hc] at g5
          exact k_X1_leave_124 (r2 := g5) oo (fun _ => put (Or.inr ⟨rfl, hc⟩)) (fun c => absurd (show bI true = 0 from c) (by decide))
end
section
variable {G : Gt} {B d : Nat} {h : AH} {l : List Nat} {o : Lc} {wi W A q BA X tt lim SP LA : Nat} {snd : Int64} {MA : Ma} {K : Outcome → AH → Prop} {es : List En}
/-- the sender's account as it is left -/
def lvB (all pub : Bool) (lim used : Nat) (wb wq : Int64) (e0 : En) : En := (e0.1, e0.2.1, (e0.2.2.1.1, (if all = true ∧ pub = false then e0.2.2.1.2.1 + lN lim - lN used else wb - lN used), wq + 1, e0.2.2.1.2.2.2), true)
theorem leave_ok {all pub : Bool} {e0 : En} {es' : List En} {used : Nat} {wb wq : Int64} (c0 : CTX h A W q BA X tt snd lim SP) (sw : SWk h W) (v : VH G B h q l o) (en : EnR h o wi W MA (e0 :: es')) (h0 : e0.1.1 = 1) (hL : h.R 2705 X = some LA) (far : LA + 32 ≤ W ∨ W + 130 ≤ LA) (lf : EtR h o 4 tt LA 30 MA []) (hwb : h.J 2442 W = wb) (hwq : h.J 2443 W = wq) (hu : h.I 2710 X = nI used) (hu2 : used ≤ 100000) (hpb : h.I 2688 X = bI pub) (hfd : ∀ x ∈ e0 :: es', ∀ v, x.2.2.1.2.2.2 = some v → fdp v.2.2 ≤ 40) (hd : 5 ≤ d) (kk : ∀ h' o', Fr (PLv W LA) h h' → h'.n = h.n → VH G B h' q l o' → EtR h' o' 4 tt LA 30 MA ((e0.1, (lvB all pub lim used wb wq e0).2.2.1, false) :: lfl all es') → (∀ e, e < es'.length + 1 → CLE h' o' wi W e) → (∀ p : Sl, ¬ (p.1 = 3 ∧ p.2.1 = wi ∧ p.2.2.1 < es'.length + 1 ∧ p.2.2.2 = 0) → ¬ (p.1 = 4 ∧ p.2.1 = tt ∧ p.2.2.2 = 0) → o' p = o p) → (∀ p x, o' p = some x → h'.R 3718 x.1 = h.R 3718 x.1 ∧ ∃ p', o p' = some x) → K (.returned none) h') : MW G d e_X1_leave [.ref A, .ref X, .int (bI all)] h K := by
  refine st_X1_leave fun XX oo hG hD _ => ?_
  subst hG; subst hD
  obtain ⟨⟨t0, rq, rW, rB, rS⟩, -, tX, hlm, hl2, -⟩ := id c0
  obtain ⟨⟨w1, -, -⟩, ⟨w4, w5, w6, w7⟩, -, w9⟩ := id sw
  obtain ⟨⟨n1, n2⟩, en1, en2⟩ := id en
  obtain ⟨w91, w92⟩ := w9 0 (by omega)
  have xr := en1 0 e0 rfl
  obtain ⟨⟨a1, a2, a3, a4⟩, ⟨g1, g2, g3⟩, ⟨g4, g5⟩, ⟨g6, g7, g8⟩, g9⟩ := id xr
  have ix : IX (nI 0) 30 0 := IX.mk (by omega) (by omega)
  have hlen : (e0 :: es').length = es'.length + 1 := rfl
  have fin : ∀ bal : Int64, bal = (lvB all pub lim used wb wq e0).2.2.1.2.1 → V XX K 56 [.ref A, .ref X, .int (bI all), .ref (Ea W 0), nov, nov, nov, nov, nov] [.long bal] h := fun bal hb => by
    refine k_X1_leave_56 oo ?_
    generalize hh1 : ((h.sJ 1156 (Ea W 0) bal).sJ 1157 (Ea W 0) (wq + 1)).sI 1163 (Ea W 0) (nI 1) = h1
    have fq : Fq (fun g a => (g = 1156 ∨ g = 1157 ∨ g = 1163) ∧ a = Ea W 0) h h1 := by
      rw [← hh1]
      refine Fq.sI (Fq.sJ (Fq.sJ (Fq.refl h) ?_) ?_) ?_
      · exact ⟨Or.inl rfl, rfl⟩
      · exact ⟨Or.inr (Or.inl rfl), rfl⟩
      · exact ⟨Or.inr (Or.inr rfl), rfl⟩
    have fp : Fq (PLv W LA) h h1 := fq.mono fun g a z => Or.inr ⟨by rcases z.1 with y | y | y <;> (rw [y]; decide), by rw [z.2]; unfold Ea; omega, by rw [z.2]; unfold Ea; omega⟩
    have no := PLv.no (W := W) (LA := LA) (l := [26, 2, 3, 23, 2433, 10000 + 71, 2691, 2689, 2705, 3718, 2563, 2564, 2437, 2440, 1024, 10000 + 714, 10000 + 342]) rfl
    have sub : ∀ l' : List Nat, l'.all (fun f => [26, 2, 3, 23, 2433, 10000 + 71, 2691, 2689, 2705, 3718, 2563, 2564, 2437, 2440, 1024, 10000 + 714, 10000 + 342].contains f) = true → ∀ f a, l'.contains f = true → ¬ PLv W LA f a := fun l' hl f a hf => no f a (by rw [List.all_eq_true] at hl; exact hl f (List.contains_iff_mem.mp hf))
    have c1 := c0.fr fp.1 (sub cxF rfl)
    have sw1 := sw.fr fp.1 (sub swF rfl)
    obtain ⟨v1, tg1⟩ := v.oth fp PLv.vq
    have nfar : ∀ f a, etF.contains f = true → LA ≤ a → a < LA + 2 + 30 → ¬ ((f = 1156 ∨ f = 1157 ∨ f = 1163) ∧ a = Ea W 0) := fun f a _ h1 h2 z => by
      have := z.2
      unfold Ea at this; omega
    have cnt : h1.I 1025 (W + 2) = nI ((lvB all pub lim used wb wq e0) :: es').length := by
      rw [fq.1.I (fun z => by rcases z.1 with y | y | y <;> exact absurd y (by decide))]; exact n1
    have tg0 : ∀ p x, o p = some x → h1.R 3718 x.1 = h.R 3718 x.1 := fun p x hx => tg1 p x (by simp) hx
    refine leave_85 (wi := wi) (o := o) (h := h1) (MA := MA) (es := (lvB all pub lim used wb wq e0) :: es') oo c1 sw1 (by rw [fp.1.R (no _ _ rfl)]; exact hL) far n2 cnt (fun x hx v hv => ?_) (by omega) (fun h' o' f' n' v' r' cl' o1' tg' => ?_) (es'.length + 1) 0 rfl h1 o _ _ (Fq.refl h1) v1 (lf.fr fq.1 nfar (fun _ => rfl)) (fun e he => by omega) (fun e x _ hx => ?_) (fun _ _ _ => rfl) (fun p x hx => ⟨rfl, p, hx⟩)
    · rcases List.mem_cons.mp hx with z | z
      · rw [z] at hv
        exact hfd e0 List.mem_cons_self v hv
      · exact hfd x (List.mem_cons_of_mem _ z) v hv
    · refine kk h' o' (fp.1.trans f') (n'.trans fp.2.1) v' ?_ cl' o1' (fun p x hx => ?_)
      · have : lfk all ((lvB all pub lim used wb wq e0) :: es') ((lvB all pub lim used wb wq e0) :: es').length = (e0.1, (lvB all pub lim used wb wq e0).2.2.1, false) :: lfl all es' := by
          show ((lvB all pub lim used wb wq e0).1, (lvB all pub lim used wb wq e0).2.2.1, false) :: lfl all (es'.take es'.length) = _
          rw [List.take_length]; rfl
        rw [this] at r'; exact r'
      · rw [(tg' p x hx).1, fp.1.R (no _ _ rfl)]
        exact ⟨rfl, (tg' p x hx).2⟩
    · cases e with
      | zero =>
        cases hx
        refine ⟨⟨by rw [← hh1]; simp [n_sI, z_sI, tag_sI, I_sI, J_sI, R_sI, EI_sI, EJ_sI, ER_sI, n_sJ, z_sJ, tag_sJ, I_sJ, J_sJ, R_sJ, EI_sJ, EJ_sJ, ER_sJ, n_sR, z_sR, tag_sR, I_sR, J_sR, R_sR, EI_sR, EJ_sR, ER_sR, n_sEI, z_sEI, tag_sEI, I_sEI, J_sEI, R_sEI, EI_sEI, EJ_sEI, ER_sEI, n_sEJ, z_sEJ, tag_sEJ, I_sEJ, J_sEJ, R_sEJ, EI_sEJ, EJ_sEJ, ER_sEJ, n_sER, z_sER, tag_sER, I_sER, J_sER, R_sER, EI_sER, EJ_sER, ER_sER, n_nw, z_nw, tag_nw, I_nw, J_nw, R_nw, EI_nw, EJ_nw, ER_nw]; exact a1, by rw [← hh1]; simp [n_sI, z_sI, tag_sI, I_sI, J_sI, R_sI, EI_sI, EJ_sI, ER_sI, n_sJ, z_sJ, tag_sJ, I_sJ, J_sJ, R_sJ, EI_sJ, EJ_sJ, ER_sJ, n_sR, z_sR, tag_sR, I_sR, J_sR, R_sR, EI_sR, EJ_sR, ER_sR, n_sEI, z_sEI, tag_sEI, I_sEI, J_sEI, R_sEI, EI_sEI, EJ_sEI, ER_sEI, n_sEJ, z_sEJ, tag_sEJ, I_sEJ, J_sEJ, R_sEJ, EI_sEJ, EJ_sEJ, ER_sEJ, n_sER, z_sER, tag_sER, I_sER, J_sER, R_sER, EI_sER, EJ_sER, ER_sER, n_nw, z_nw, tag_nw, I_nw, J_nw, R_nw, EI_nw, EJ_nw, ER_nw]; exact a2, by rw [← hh1]; simp [n_sI, z_sI, tag_sI, I_sI, J_sI, R_sI, EI_sI, EJ_sI, ER_sI, n_sJ, z_sJ, tag_sJ, I_sJ, J_sJ, R_sJ, EI_sJ, EJ_sJ, ER_sJ, n_sR, z_sR, tag_sR, I_sR, J_sR, R_sR, EI_sR, EJ_sR, ER_sR, n_sEI, z_sEI, tag_sEI, I_sEI, J_sEI, R_sEI, EI_sEI, EJ_sEI, ER_sEI, n_sEJ, z_sEJ, tag_sEJ, I_sEJ, J_sEJ, R_sEJ, EI_sEJ, EJ_sEJ, ER_sEJ, n_sER, z_sER, tag_sER, I_sER, J_sER, R_sER, EI_sER, EJ_sER, ER_sER, n_nw, z_nw, tag_nw, I_nw, J_nw, R_nw, EI_nw, EJ_nw, ER_nw]; exact a3, a4⟩, ⟨by rw [← hh1]; simp [n_sI, z_sI, tag_sI, I_sI, J_sI, R_sI, EI_sI, EJ_sI, ER_sI, n_sJ, z_sJ, tag_sJ, I_sJ, J_sJ, R_sJ, EI_sJ, EJ_sJ, ER_sJ, n_sR, z_sR, tag_sR, I_sR, J_sR, R_sR, EI_sR, EJ_sR, ER_sR, n_sEI, z_sEI, tag_sEI, I_sEI, J_sEI, R_sEI, EI_sEI, EJ_sEI, ER_sEI, n_sEJ, z_sEJ, tag_sEJ, I_sEJ, J_sEJ, R_sEJ, EI_sEJ, EJ_sEJ, ER_sEJ, n_sER, z_sER, tag_sER, I_sER, J_sER, R_sER, EI_sER, EJ_sER, ER_sER, n_nw, z_nw, tag_nw, I_nw, J_nw, R_nw, EI_nw, EJ_nw, ER_nw]; exact g1, by rw [← hh1]; simp [n_sI, z_sI, tag_sI, I_sI, J_sI, R_sI, EI_sI, EJ_sI, ER_sI, n_sJ, z_sJ, tag_sJ, I_sJ, J_sJ, R_sJ, EI_sJ, EJ_sJ, ER_sJ, n_sR, z_sR, tag_sR, I_sR, J_sR, R_sR, EI_sR, EJ_sR, ER_sR, n_sEI, z_sEI, tag_sEI, I_sEI, J_sEI, R_sEI, EI_sEI, EJ_sEI, ER_sEI, n_sEJ, z_sEJ, tag_sEJ, I_sEJ, J_sEJ, R_sEJ, EI_sEJ, EJ_sEJ, ER_sEJ, n_sER, z_sER, tag_sER, I_sER, J_sER, R_sER, EI_sER, EJ_sER, ER_sER, n_nw, z_nw, tag_nw, I_nw, J_nw, R_nw, EI_nw, EJ_nw, ER_nw]; exact hb, by rw [← hh1]; simp [n_sI, z_sI, tag_sI, I_sI, J_sI, R_sI, EI_sI, EJ_sI, ER_sI, n_sJ, z_sJ, tag_sJ, I_sJ, J_sJ, R_sJ, EI_sJ, EJ_sJ, ER_sJ, n_sR, z_sR, tag_sR, I_sR, J_sR, R_sR, EI_sR, EJ_sR, ER_sR, n_sEI, z_sEI, tag_sEI, I_sEI, J_sEI, R_sEI, EI_sEI, EJ_sEI, ER_sEI, n_sEJ, z_sEJ, tag_sEJ, I_sEJ, J_sEJ, R_sEJ, EI_sEJ, EJ_sEJ, ER_sEJ, n_sER, z_sER, tag_sER, I_sER, J_sER, R_sER, EI_sER, EJ_sER, ER_sER, n_nw, z_nw, tag_nw, I_nw, J_nw, R_nw, EI_nw, EJ_nw, ER_nw]; rfl⟩, ⟨by rw [← hh1]; simp [n_sI, z_sI, tag_sI, I_sI, J_sI, R_sI, EI_sI, EJ_sI, ER_sI, n_sJ, z_sJ, tag_sJ, I_sJ, J_sJ, R_sJ, EI_sJ, EJ_sJ, ER_sJ, n_sR, z_sR, tag_sR, I_sR, J_sR, R_sR, EI_sR, EJ_sR, ER_sR, n_sEI, z_sEI, tag_sEI, I_sEI, J_sEI, R_sEI, EI_sEI, EJ_sEI, ER_sEI, n_sEJ, z_sEJ, tag_sEJ, I_sEJ, J_sEJ, R_sEJ, EI_sEJ, EJ_sEJ, ER_sEJ, n_sER, z_sER, tag_sER, I_sER, J_sER, R_sER, EI_sER, EJ_sER, ER_sER, n_nw, z_nw, tag_nw, I_nw, J_nw, R_nw, EI_nw, EJ_nw, ER_nw]; exact g4, by rw [← hh1]; simp [n_sI, z_sI, tag_sI, I_sI, J_sI, R_sI, EI_sI, EJ_sI, ER_sI, n_sJ, z_sJ, tag_sJ, I_sJ, J_sJ, R_sJ, EI_sJ, EJ_sJ, ER_sJ, n_sR, z_sR, tag_sR, I_sR, J_sR, R_sR, EI_sR, EJ_sR, ER_sR, n_sEI, z_sEI, tag_sEI, I_sEI, J_sEI, R_sEI, EI_sEI, EJ_sEI, ER_sEI, n_sEJ, z_sEJ, tag_sEJ, I_sEJ, J_sEJ, R_sEJ, EI_sEJ, EJ_sEJ, ER_sEJ, n_sER, z_sER, tag_sER, I_sER, J_sER, R_sER, EI_sER, EJ_sER, ER_sER, n_nw, z_nw, tag_nw, I_nw, J_nw, R_nw, EI_nw, EJ_nw, ER_nw]; rfl⟩, ⟨by rw [← hh1]; simp [n_sI, z_sI, tag_sI, I_sI, J_sI, R_sI, EI_sI, EJ_sI, ER_sI, n_sJ, z_sJ, tag_sJ, I_sJ, J_sJ, R_sJ, EI_sJ, EJ_sJ, ER_sJ, n_sR, z_sR, tag_sR, I_sR, J_sR, R_sR, EI_sR, EJ_sR, ER_sR, n_sEI, z_sEI, tag_sEI, I_sEI, J_sEI, R_sEI, EI_sEI, EJ_sEI, ER_sEI, n_sEJ, z_sEJ, tag_sEJ, I_sEJ, J_sEJ, R_sEJ, EI_sEJ, EJ_sEJ, ER_sEJ, n_sER, z_sER, tag_sER, I_sER, J_sER, R_sER, EI_sER, EJ_sER, ER_sER, n_nw, z_nw, tag_nw, I_nw, J_nw, R_nw, EI_nw, EJ_nw, ER_nw]; exact g6, by rw [← hh1]; simp [n_sI, z_sI, tag_sI, I_sI, J_sI, R_sI, EI_sI, EJ_sI, ER_sI, n_sJ, z_sJ, tag_sJ, I_sJ, J_sJ, R_sJ, EI_sJ, EJ_sJ, ER_sJ, n_sR, z_sR, tag_sR, I_sR, J_sR, R_sR, EI_sR, EJ_sR, ER_sR, n_sEI, z_sEI, tag_sEI, I_sEI, J_sEI, R_sEI, EI_sEI, EJ_sEI, ER_sEI, n_sEJ, z_sEJ, tag_sEJ, I_sEJ, J_sEJ, R_sEJ, EI_sEJ, EJ_sEJ, ER_sEJ, n_sER, z_sER, tag_sER, I_sER, J_sER, R_sER, EI_sER, EJ_sER, ER_sER, n_nw, z_nw, tag_nw, I_nw, J_nw, R_nw, EI_nw, EJ_nw, ER_nw]; exact g7, fun q1 _ => ?_⟩, ?_⟩
        · have q1 : e0.1.1 = 2 := q1
          omega
        · rw [fq.1.R (fun z => by rcases z.1 with y | y | y <;> exact absurd y (by decide))]; exact g9
      | succ e =>
        have hx : es'[e]? = some x := hx
        refine (en1 (e + 1) x hx).fr fq.1 (fun g _ z => ?_) rfl rfl rfl
        have := z.2
        unfold Ea at this; omega
  have lM : (nI lim).toInt64 = lN lim := nI_l (by omega)
  have lU : (nI used).toInt64 = lN used := nI_l (by omega)
  have b43 : (all = true ∧ pub = false → False) → V XX K 43 [.ref A, .ref X, .int (bI all), .ref (Ea W 0), nov, nov, nov, nov, nov] [] h := fun hn => by
    refine k_X1_leave_43 (r5 := hwb) (r8 := hu) oo ?_
    rw [lU]
    refine fin _ ?_
    show _ = if all = true ∧ pub = false then _ else _
    rw [if_neg hn]
  cases all with
  | false => exact k_X1_leave_0 oo (fun _ => b43 (fun z => by cases z.1)) (fun c => absurd rfl c)
  | true =>
    refine k_X1_leave_0 oo (fun c => absurd (show bI true = 0 from c) (by decide)) (fun _ => ?_)
    cases pub with
    | true => exact k_X1_leave_17 (r2 := hpb) oo (fun _ => b43 (fun z => by cases z.2)) (fun c => absurd (show bI true = 0 from c) (by decide))
    | false =>
      refine k_X1_leave_17 (r2 := hpb) oo (fun c => absurd rfl c) (fun _ => ?_)
      refine k_X1_leave_24 (r2 := g2) (r5 := hlm) (r7 := hu) oo ?_
      rw [lM, lU]
      exact fin _ rfl
end
