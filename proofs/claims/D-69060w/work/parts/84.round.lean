/-! what a structure reaches, turn by turn -/
def stpr (e : Nat → Nat → Bool) (f : Nat → Bool) (s j : Nat) : Bool := f j || (f s && e s j)
def trn (e : Nat → Nat → Bool) (f : Nat → Bool) : Nat → Nat → Bool
  | 0 => f
  | s + 1 => stpr e (trn e f s) s
def trs (e : Nat → Nat → Bool) (o : Nat) (f : Nat → Bool) : Nat → Nat → Bool
  | 0 => f
  | t + 1 => trn e (trs e o f t) o
def cnt (f : Nat → Bool) : Nat → Nat
  | 0 => 0
  | o + 1 => cnt f o + (if f o then 1 else 0)
theorem cnt_le (f : Nat → Bool) : ∀ o, cnt f o ≤ o
  | 0 => Nat.le_refl _
  | o + 1 => by
    have := cnt_le f o
    unfold cnt
    split <;> omega
theorem cnt_mono {f g : Nat → Bool} (h : ∀ j, f j = true → g j = true) : ∀ o, cnt f o ≤ cnt g o
  | 0 => Nat.le_refl _
  | o + 1 => by
    have := cnt_mono h o
    unfold cnt
    by_cases c : f o = true
    · rw [if_pos c, if_pos (h o c)]; omega
    · rw [if_neg c]; omega
theorem cnt_lt {f g : Nat → Bool} (h : ∀ j, f j = true → g j = true) : ∀ {o j : Nat}, j < o → g j = true → f j = false → cnt f o < cnt g o
  | 0, j, hj, _, _ => by omega
  | o + 1, j, hj, h1, h2 => by
    unfold cnt
    by_cases c : j = o
    · subst c
      have := cnt_mono h j
      rw [h1, h2]
      show cnt f j + 0 < cnt g j + 1
      omega
    · have := cnt_lt h (show j < o by omega) h1 h2
      by_cases c : f o = true
      · rw [if_pos c, if_pos (h o c)]; omega
      · rw [if_neg c]; omega
theorem trn_up {e : Nat → Nat → Bool} {f : Nat → Bool} : ∀ (s : Nat) {j : Nat}, f j = true → trn e f s j = true
  | 0, j, h => h
  | s + 1, j, h => by
    show stpr e (trn e f s) s j = true
    unfold stpr
    rw [trn_up s h]; rfl
theorem trn_in {e : Nat → Nat → Bool} {f : Nat → Bool} : ∀ {o s j : Nat}, s < o → f s = true → e s j = true → trn e f o j = true
  | 0, s, j, hs, _, _ => by omega
  | o + 1, s, j, hs, h1, h2 => by
    show stpr e (trn e f o) o j = true
    unfold stpr
    by_cases c : s = o
    · subst c
      rw [trn_up s h1, h2]; simp
    · rw [trn_in (show s < o by omega) h1 h2]; rfl
/-- nothing more is reached -/
def CLO (e : Nat → Nat → Bool) (o : Nat) (f : Nat → Bool) : Prop := ∀ s j, s < o → f s = true → e s j = true → f j = true
theorem trn_cl {e : Nat → Nat → Bool} {o : Nat} {f : Nat → Bool} (h : CLO e o f) : ∀ {s : Nat}, s ≤ o → ∀ j, trn e f s j = f j
  | 0, _, j => rfl
  | s + 1, hs, j => by
    show stpr e (trn e f s) s j = f j
    unfold stpr
    rw [trn_cl h (show s ≤ o by omega) j, trn_cl h (show s ≤ o by omega) s]
    cases hj : f j with
    | true => rfl
    | false =>
      cases h1 : f s with
      | false => rfl
      | true =>
        cases h2 : e s j with
        | false => rfl
        | true => rw [h s j (by omega) h1 h2] at hj; cases hj
theorem trs_cl {e : Nat → Nat → Bool} {o k : Nat} (he : ∀ a b, e a b = true → b < o) : ∀ t, CLO e o (trs e o (e k) t) ∨ t + 1 ≤ cnt (trs e o (e k) t) o
  | 0 => by
    by_cases c : ∃ j, e k j = true
    · obtain ⟨j, hj⟩ := c
      refine Or.inr ?_
      have := cnt_lt (f := fun _ => false) (g := e k) (fun j h => by cases h) (he _ _ hj) hj rfl
      show 1 ≤ cnt (e k) o
      omega
    · exact Or.inl fun s j _ h _ => absurd ⟨s, h⟩ c
  | t + 1 => by
    rcases trs_cl (k := k) he t with h | h
    · refine Or.inl fun s j hs h1 h2 => ?_
      have h1 : trn e (trs e o (e k) t) o s = true := h1
      show trn e (trs e o (e k) t) o j = true
      rw [trn_cl h (Nat.le_refl _)] at h1 ⊢
      exact h s j hs h1 h2
    · by_cases c : CLO e o (trs e o (e k) t)
      · refine Or.inl fun s j hs h1 h2 => ?_
        have h1 : trn e (trs e o (e k) t) o s = true := h1
        show trn e (trs e o (e k) t) o j = true
        rw [trn_cl c (Nat.le_refl _)] at h1 ⊢
        exact c s j hs h1 h2
      · refine Or.inr ?_
        have : ∃ s j, s < o ∧ trs e o (e k) t s = true ∧ e s j = true ∧ trs e o (e k) t j = false := by
          refine Classical.byContradiction fun z => c fun s j hs h1 h2 => ?_
          cases h3 : trs e o (e k) t j with
          | true => rfl
          | false => exact absurd ⟨s, j, hs, h1, h2, h3⟩ z
        obtain ⟨s, j, hs, h1, h2, h3⟩ := this
        have := cnt_lt (g := trn e (trs e o (e k) t) o) (fun j h => trn_up o h) (he _ _ h2) (trn_in hs h1 h2) h3
        show t + 2 ≤ cnt (trn e (trs e o (e k) t) o) o
        omega
theorem trn_sd {e : Nat → Nat → Bool} {f : Nat → Bool} {k : Nat} (h : ∀ j, f j = true → Relation.TransGen (fun a b => e a b = true) k j) : ∀ (s : Nat) {j : Nat}, trn e f s j = true → Relation.TransGen (fun a b => e a b = true) k j
  | 0, j, hj => h j hj
  | s + 1, j, hj => by
    have hj : stpr e (trn e f s) s j = true := hj
    unfold stpr at hj
    simp only [Bool.or_eq_true, Bool.and_eq_true] at hj
    rcases hj with a | ⟨a, b⟩
    · exact trn_sd h s a
    · exact .tail (trn_sd h s a) b
theorem trs_sd {e : Nat → Nat → Bool} {o k : Nat} : ∀ (t : Nat) {j : Nat}, trs e o (e k) t j = true → Relation.TransGen (fun a b => e a b = true) k j
  | 0, j, h => .single h
  | t + 1, j, h => trn_sd (fun j h => trs_sd t h) o h
theorem trs_up {e : Nat → Nat → Bool} {o k : Nat} : ∀ (t : Nat) {j : Nat}, e k j = true → trs e o (e k) t j = true
  | 0, j, h => h
  | t + 1, j, h => trn_up o (trs_up t h)
theorem trs_wsh {e : Nat → Nat → Bool} {o k j : Nat} (he : ∀ a b, e a b = true → b < o) : trs e o (e k) o j = wsh e o k j := by
  have hc : CLO e o (trs e o (e k) o) := by
    rcases trs_cl (k := k) he o with h | h
    · exact h
    · have := cnt_le (trs e o (e k) o) o; omega
  have h1 : trs e o (e k) o j = true ↔ wsh e o k j = true := by
    rw [wsh_iff he]
    refine ⟨trs_sd o, fun h => ?_⟩
    induction h with
    | single h => exact trs_up o h
    | tail h1 h2 ih => exact hc _ _ (tg_lt he h1) ih h2
  cases a : trs e o (e k) o j <;> cases b : wsh e o k j <;> simp_all
/-! the same, in the unit -/
theorem uown_ok {G : Gt} {d : Nat} {h : AH} {K : Outcome → AH → Prop} {U n p q : Nat} {B : Nat → Nat} {ρ : Bool} {x : Ty × Nat} {m : Md} (hs : SU h U n B) (hm : UM h U n B m) (hx : rdT n B ρ p = .ok (x, q)) (hd : 2 ≤ d)
    (k1 : ∀ s, sidx x.1 = some s → s < m.2.1.length → K (.returned (some (.int (nI s)))) h) (k2 : (∀ s, sidx x.1 = some s → ¬ s < m.2.1.length) → K (.returned (some (.int ((-1))))) h) : MW G d e_X29_ownIn [.ref U, .int (nI p)] h K := by
  refine st_X29_ownIn fun X o hG hD _ => ?_
  subst hG; subst hD
  have s0 := hs.1.1
  have hn := hs.2.2.1
  have hB := hs.2.2.2.1
  have hst := hm.1.1
  have hst2 := hm.1.2.1
  obtain ⟨e1, e2, e3, e4, e5, -⟩ := rdT_ok hx
  obtain ⟨j, g1, g2, g3, g4⟩ := rdT_st hx
  refine k_X29_ownIn_0 o ?_
  refine utend_ok hs hx (by omega) ?_
  refine k_X29_ownIn_6 o ?_
  rw [nI_sub (by omega)]
  refine ubyte_ok hs (by omega) ?_
  refine k_X29_ownIn_11 o ?_
  refine ustru_ok hs hx (by omega) ?_
  have hbq := hB (q - 1)
  rcases g4 with ⟨a1, a2, a3⟩ | ⟨a1, a2, a3⟩
  · rw [a3]
    have eb : B (q - 1) = B (p + j + 1) := by congr 1; omega
    refine k_X29_ownIn_17 o (fun c => absurd (show bI true = 0 from c) (by decide)) (fun _ => ?_)
    refine k_X29_ownIn_20 o (fun c => ?_) (fun c => ?_)
    · have c := (nI_leI (by omega) (by omega)).mp c
      refine k_X29_ownIn_32 o ?_
      refine k_X29_ownIn_33 o ?_
      exact k2 fun s hs => by rw [a3] at hs; cases hs; omega
    · have c : B (q - 1) < m.2.1.length := Nat.not_le.mp fun z => c ((nI_leI (by omega) (by omega)).mpr z)
      refine k_X29_ownIn_28 o ?_
      refine k_X29_ownIn_33 o ?_
      exact k1 _ (by rw [a3, eb]) c
  · rw [a3]
    refine k_X29_ownIn_17 o (fun _ => ?_) (fun c => absurd rfl c)
    refine k_X29_ownIn_32 o ?_
    refine k_X29_ownIn_33 o ?_
    exact k2 fun s hs => by rw [a3] at hs; cases hs
/-- which structures were reached -/
def RD (h : AH) (U o : Nat) (f : Nat → Bool) : Prop := ∀ j, j < o → h.EI 2242 (U + 8) j = bI (f j)
def urF : List Nat := [10000 + 2242]
theorem urch_ok {G : Gt} {d : Nat} {h : AH} {K : Outcome → AH → Prop} {U n k : Nat} {B : Nat → Nat} {m : Md} {f : Nat → Bool} (hs : SU h U n B) (hm : UM h U n B m) (hk : k < m.2.1.length) (hr : RD h U m.2.1.length f) (hd : 3 ≤ d)
    (kk : ∀ h', Fq (UQ urF U) h h' → RD h' U m.2.1.length (fun j => f j || edg m k j) → K (.returned none) h') : MW G d e_X29_reach [.ref U, .int (nI k)] h K := by
  refine st_X29_reach fun X o hG hD _ => ?_
  subst hG; subst hD
  have hn := hs.2.2.1
  have hB := hs.2.2.2.1
  have hst2 := hm.1.2.1
  obtain ⟨u0, ⟨z1, z2, z3, z4, z5, z6, z7, z8⟩, y1, y2, y3, y4, y5, y6, y7, y8⟩ := hs.1
  have hsk : m.2.1[k]? = some m.2.1[k] := List.getElem?_eq_getElem hk
  generalize m.2.1[k] = s at hsk
  obtain ⟨p, q, e1, e2, e3⟩ := hm.1.2.2 k s hsk
  rw [Nat.zero_add] at e1
  have ixk : IX (nI k) 64 k := IX.mk (by omega) (by omega)
  have hsl := (rdSt_q hB e3).2.2.2.2.2.2.1
  obtain ⟨q2, e4⟩ : ∃ q2, rep (rdT n B false) s.2.2.length (p + 2) = .ok (s.2.2, q2) := by
    obtain ⟨_, p1, h1, hh⟩ := bd_ok e3
    obtain ⟨-, rfl, -⟩ := rdC_ok h1
    obtain ⟨_, p2, h2, hh⟩ := bd_ok hh
    obtain ⟨rfl, rfl, -⟩ := rdC_ok h2
    obtain ⟨l, p3, h3, hh⟩ := bd_ok hh
    cases hh
    have := rep_len h3
    refine ⟨q, ?_⟩
    show rep (rdT n B false) l.length (p + 2) = _
    rw [this]; exact h3
  have tt : 64 ≤ 2242 ∧ 2242 < 4096 ∧ 2242 % 16 = 2 := by decide
  have loop : ∀ l k' i p1 g hy, k' + i = s.2.2.length → rep (rdT n B false) k' p1 = .ok (l, q2) → Fq (UQ urF U) h hy → RD hy U m.2.1.length g → (∀ h', Fq (UQ urF U) h h' → RD h' U m.2.1.length (fun j => g j || (decide (j < m.2.1.length) && l.any fun x => sidx x.1 == some j)) → K (.returned none) h') → V X K 11 [.ref U, .int (nI k), .int (nI p1), .int (nI i)] [] hy := by
    intro l
    induction l with
    | nil =>
      intro k' i p1 g hy hk' er fy ry ky
      have sy := hs.uq fy rfl
      have my := hm.uq fy rfl
      have t0 := sy.1.1
      cases k' with
      | succ k' =>
        obtain ⟨_, _, _, z⟩ := bd_ok er
        obtain ⟨_, _, _, z⟩ := bd_ok z
        cases z
      | zero =>
        refine k_X29_reach_11 o ?_
        refine ufo_ok sy my hsk (by omega) ?_
        refine k_X29_reach_17 o (fun _ => ?_) (fun c => absurd ((nI_leI (by omega) (by omega)).mpr (by omega)) c)
        refine k_X29_reach_51 o ?_
        refine ky hy fy fun j hj => ?_
        rw [ry j hj]; simp
    | cons y l ih =>
      intro k' i p1 g hy hk' er fy ry ky
      have sy := hs.uq fy rfl
      have my := hm.uq fy rfl
      obtain ⟨t0, ⟨t1, t2, t3, t4, t5, t6, t7, t8⟩, v1, v2, v3, v4, v5, v6, v7, v8⟩ := sy.1
      cases k' with
      | zero => cases er
      | succ k' =>
        obtain ⟨y', p2, ey, z⟩ := bd_ok er
        obtain ⟨l', p3, el', z⟩ := bd_ok z
        cases z
        have nxt : ∀ hz g', Fq (UQ urF U) h hz → RD hz U m.2.1.length g' → (∀ j, j < m.2.1.length → (g' j || (decide (j < m.2.1.length) && l.any fun x => sidx x.1 == some j)) = (g j || (decide (j < m.2.1.length) && (y :: l).any fun x => sidx x.1 == some j))) → V X K 39 [.ref U, .int (nI k), .int (nI p1), .int (nI i)] [] hz := fun hz g' fz rz ez => by
          have sz := hs.uq fz rfl
          have w0 := sz.1.1
          refine k_X29_reach_39 o ?_
          refine utend_ok sz ey (by omega) ?_
          refine k_X29_reach_44 o ?_
          rw [nI_add]
          refine ih k' (i + 1) p2 g' hz (by omega) el' fz rz fun h' f' r' => ky h' f' fun j hj => ?_
          rw [r' j hj]
          exact congrArg bI (ez j hj)
        refine k_X29_reach_11 o ?_
        refine ufo_ok sy my hsk (by omega) ?_
        refine k_X29_reach_17 o (fun c => ?_) (fun _ => ?_)
        · exact absurd ((nI_leI (by omega) (by omega)).mp c) (by omega)
        refine k_X29_reach_20 o ?_
        refine uown_ok sy my ey (by omega) (fun t et ht => ?_) (fun ht => ?_)
        · refine k_X29_reach_25 o (fun c => absurd c (nI_nn (by omega))) (fun _ => ?_)
          refine k_X29_reach_28 o ?_
          refine uown_ok sy my ey (by omega) (fun t' et' ht' => ?_) (fun ht' => absurd ht (ht' t et))
          rw [et] at et'; cases et'
          have ixt : IX (nI t) 32 t := IX.mk (by omega) (by omega)
          refine k_X29_reach_37 (T1 := 2242) o ?_
          refine nxt (hy.sEI 2242 (U + 8) t (nI 1)) (fun j => g j || decide (j = t)) (fy.sEI ⟨rfl, by omega, by omega⟩) (fun j hj => ?_) fun j hj => ?_
          · by_cases cj : j = t
            · subst cj; simp [n_sI, z_sI, tag_sI, I_sI, J_sI, R_sI, EI_sI, EJ_sI, ER_sI, n_sJ, z_sJ, tag_sJ, I_sJ, J_sJ, R_sJ, EI_sJ, EJ_sJ, ER_sJ, n_sR, z_sR, tag_sR, I_sR, J_sR, R_sR, EI_sR, EJ_sR, ER_sR, n_sEI, z_sEI, tag_sEI, I_sEI, J_sEI, R_sEI, EI_sEI, EJ_sEI, ER_sEI, n_sEJ, z_sEJ, tag_sEJ, I_sEJ, J_sEJ, R_sEJ, EI_sEJ, EJ_sEJ, ER_sEJ, n_sER, z_sER, tag_sER, I_sER, J_sER, R_sER, EI_sER, EJ_sER, ER_sER, n_nw, z_nw, tag_nw, I_nw, J_nw, R_nw, EI_nw, EJ_nw, ER_nw]; rfl
            · have := ry j hj
              have e : (g j || decide (j = t)) = g j := by rw [decide_eq_false cj]; simp
              show _ = bI (g j || decide (j = t))
              rw [e, ← this]; simp [n_sI, z_sI, tag_sI, I_sI, J_sI, R_sI, EI_sI, EJ_sI, ER_sI, n_sJ, z_sJ, tag_sJ, I_sJ, J_sJ, R_sJ, EI_sJ, EJ_sJ, ER_sJ, n_sR, z_sR, tag_sR, I_sR, J_sR, R_sR, EI_sR, EJ_sR, ER_sR, n_sEI, z_sEI, tag_sEI, I_sEI, J_sEI, R_sEI, EI_sEI, EJ_sEI, ER_sEI, n_sEJ, z_sEJ, tag_sEJ, I_sEJ, J_sEJ, R_sEJ, EI_sEJ, EJ_sEJ, ER_sEJ, n_sER, z_sER, tag_sER, I_sER, J_sER, R_sER, EI_sER, EJ_sER, ER_sER, n_nw, z_nw, tag_nw, I_nw, J_nw, R_nw, EI_nw, EJ_nw, ER_nw, cj]
          · rw [List.any_cons, et, decide_eq_true hj]
            by_cases cj : j = t
            · subst cj; simp
            · have : (some t == some j) = false := by simp; omega
              rw [this, decide_eq_false cj]; simp
        · refine k_X29_reach_25 o (fun _ => ?_) (fun c => absurd (by decide) c)
          refine nxt hy g fy ry fun j hj => ?_
          have : (sidx y.1 == some j) = false := by
            cases hh : sidx y.1 with
            | none => rfl
            | some t => have := ht t hh; simp; omega
          rw [List.any_cons, this]; simp
  refine k_X29_reach_0 o ?_
  rw [nI_add]
  refine loop s.2.2 s.2.2.length 0 (p + 2) f h (by omega) e4 (Fq.refl h) hr fun h' f' r' => kk h' f' fun j hj => ?_
  rw [r' j hj]
  unfold edg
  rw [hsk]
theorem urnd_ok {G : Gt} {d : Nat} {h : AH} {K : Outcome → AH → Prop} {U n k : Nat} {B : Nat → Nat} {m : Md} (hs : SU h U n B) (hm : UM h U n B m) (hk : k < m.2.1.length) (hd : 4 ≤ d)
    (kk : ∀ h', Fq (UQ urF U) h h' → K (.returned (some (.int (bI (wsh (edg m) m.2.1.length k k))))) h') : MW G d e_X29_isRound [.ref U, .int (nI k)] h K := by
  refine st_X29_isRound fun X o hG hD _ => ?_
  subst hG; subst hD
  have hst2 := hm.1.2.1
  have he : ∀ a b, edg m a b = true → b < m.2.1.length := fun a b h => edg_lt h
  have cz : ∀ {hx : AH}, Fq (UQ urF U) h hx → SU hx U n B ∧ UM hx U n B m ∧ hx.I 3589 U = nI m.2.1.length := fun fx => ⟨hs.uq fx rfl, hm.uq fx rfl, (hm.uq fx rfl).1.1⟩
  -- turns
  have turns : ∀ j t hx v3, j + t = m.2.1.length → Fq (UQ urF U) h hx → RD hx U m.2.1.length (trs (edg m) m.2.1.length (edg m k) t) → V X K 30 [.ref U, .int (nI k), .int (nI t), v3] [] hx := by
    intro j
    induction j with
    | zero =>
      intro t hx v3 hj fx rx
      obtain ⟨sx, mx, c1⟩ := cz fx
      obtain ⟨t0, ⟨t1, t2, t3, t4, t5, t6, t7, t8⟩, v1, v2, v3, v4, v5, v6, v7, v8⟩ := sx.1
      have ht : t = m.2.1.length := by omega
      have ixk : IX (nI k) 32 k := IX.mk (by omega) (by omega)
      refine k_X29_isRound_30 o (fun _ => ?_) (fun c => ?_)
      rotate_left
      · exact absurd ((nI_leI (by omega) (by omega)).mpr (by omega)) c
      have rk := rx k hk
      rw [ht, trs_wsh he] at rk
      refine k_X29_isRound_74 o ?_
      exact kk hx fx
    | succ j ih =>
      intro t hx v3 hj fx rx
      obtain ⟨sx, mx, c1⟩ := cz fx
      have t0 := sx.1.1
      have inner : ∀ l s hy, l + s = m.2.1.length → Fq (UQ urF U) h hy → RD hy U m.2.1.length (trn (edg m) (trs (edg m) m.2.1.length (edg m k) t) s) → V X K 40 [.ref U, .int (nI k), .int (nI t), .int (nI s)] [] hy := by
        intro l
        induction l with
        | zero =>
          intro s hy hl fy ry
          obtain ⟨sy, my, c2⟩ := cz fy
          have w0 := sy.1.1
          have hs' : s = m.2.1.length := by omega
          refine k_X29_isRound_40 o (fun _ => ?_) (fun c => ?_)
          rotate_left
          · exact absurd ((nI_leI (by omega) (by omega)).mpr (by omega)) c
          refine k_X29_isRound_68 o ?_
          rw [nI_add]
          refine ih (t + 1) hy _ (by omega) fy ?_
          rw [hs'] at ry; exact ry
        | succ l ih2 =>
          intro s hy hl fy ry
          obtain ⟨sy, my, c2⟩ := cz fy
          obtain ⟨w0, ⟨w1, w2, w3, w4, w5, w6, w7, w8⟩, x1, x2, x3, x4, x5, x6, x7, x8⟩ := sy.1
          have ixs : IX (nI s) 32 s := IX.mk (by omega) (by omega)
          have rs := ry s (by omega)
          refine k_X29_isRound_40 o (fun c => ?_) (fun _ => ?_)
          · exact absurd ((nI_leI (by omega) (by omega)).mp c) (by omega)
          refine k_X29_isRound_48 o (fun c => ?_) (fun c => ?_)
          · have cf : trn (edg m) (trs (edg m) m.2.1.length (edg m k) t) s s = false := by
              cases hh : trn (edg m) (trs (edg m) m.2.1.length (edg m k) t) s s with
              | false => rfl
              | true => rw [hh] at c; exact absurd c (by decide)
            refine k_X29_isRound_62 o ?_
            rw [nI_add]
            refine ih2 (s + 1) hy (by omega) fy fun j hj => ?_
            rw [ry j hj]
            show _ = bI (stpr (edg m) (trn (edg m) (trs (edg m) m.2.1.length (edg m k) t) s) s j)
            unfold stpr; rw [cf]; simp
          · have ct : trn (edg m) (trs (edg m) m.2.1.length (edg m k) t) s s = true := by
              cases hh : trn (edg m) (trs (edg m) m.2.1.length (edg m k) t) s s with
              | true => rfl
              | false => rw [hh] at c; exact absurd rfl c
            refine k_X29_isRound_57 o ?_
            refine urch_ok sy my (by omega) ry (by omega) fun h' f' r' => ?_
            refine k_X29_isRound_62 o ?_
            rw [nI_add]
            refine ih2 (s + 1) h' (by omega) (fy.trans f') fun j hj => ?_
            rw [r' j hj]
            show _ = bI (stpr (edg m) (trn (edg m) (trs (edg m) m.2.1.length (edg m k) t) s) s j)
            unfold stpr; rw [ct]; simp
      refine k_X29_isRound_30 o (fun c => ?_) (fun _ => ?_)
      · exact absurd ((nI_leI (by omega) (by omega)).mp c) (by omega)
      refine k_X29_isRound_38 o ?_
      exact inner m.2.1.length 0 hx (by omega) fx rx
  -- none at first
  have clr : ∀ j i hx v3, j + i = m.2.1.length → Fq (UQ urF U) h hx → (∀ q, q < i → hx.EI 2242 (U + 8) q = nI 0) → V X K 2 [.ref U, .int (nI k), .int (nI i), v3] [] hx := by
    intro j
    induction j with
    | zero =>
      intro i hx v3 hj fx rx
      obtain ⟨sx, mx, c1⟩ := cz fx
      have t0 := sx.1.1
      refine k_X29_isRound_2 o (fun _ => ?_) (fun c => ?_)
      rotate_left
      · exact absurd ((nI_leI (by omega) (by omega)).mpr (by omega)) c
      refine k_X29_isRound_23 o ?_
      refine urch_ok (f := fun _ => false) sx mx hk (fun q hq => rx q (by omega)) (by omega) fun h' f' r' => ?_
      refine k_X29_isRound_28 o ?_
      refine turns m.2.1.length 0 h' _ (by omega) (fx.trans f') fun q hq => ?_
      rw [r' q hq]
      show bI (false || edg m k q) = bI (edg m k q)
      rw [Bool.false_or]
    | succ j ih =>
      intro i hx v3 hj fx rx
      obtain ⟨sx, mx, c1⟩ := cz fx
      obtain ⟨w0, ⟨w1, w2, w3, w4, w5, w6, w7, w8⟩, x1, x2, x3, x4, x5, x6, x7, x8⟩ := sx.1
      have ixs : IX (nI i) 32 i := IX.mk (by omega) (by omega)
      refine k_X29_isRound_2 o (fun c => ?_) (fun _ => ?_)
      · exact absurd ((nI_leI (by omega) (by omega)).mp c) (by omega)
      refine k_X29_isRound_10 o ?_
      rw [nI_add]
      refine ih (i + 1) (hx.sEI 2242 (U + 8) i (nI 0)) _ (by omega) (fx.sEI ⟨rfl, by omega, by omega⟩) fun q hq => ?_
      by_cases c : q = i
      · subst c; simp [n_sI, z_sI, tag_sI, I_sI, J_sI, R_sI, EI_sI, EJ_sI, ER_sI, n_sJ, z_sJ, tag_sJ, I_sJ, J_sJ, R_sJ, EI_sJ, EJ_sJ, ER_sJ, n_sR, z_sR, tag_sR, I_sR, J_sR, R_sR, EI_sR, EJ_sR, ER_sR, n_sEI, z_sEI, tag_sEI, I_sEI, J_sEI, R_sEI, EI_sEI, EJ_sEI, ER_sEI, n_sEJ, z_sEJ, tag_sEJ, I_sEJ, J_sEJ, R_sEJ, EI_sEJ, EJ_sEJ, ER_sEJ, n_sER, z_sER, tag_sER, I_sER, J_sER, R_sER, EI_sER, EJ_sER, ER_sER, n_nw, z_nw, tag_nw, I_nw, J_nw, R_nw, EI_nw, EJ_nw, ER_nw]
      · have := rx q (by omega)
        simpa [n_sI, z_sI, tag_sI, I_sI, J_sI, R_sI, EI_sI, EJ_sI, ER_sI, n_sJ, z_sJ, tag_sJ, I_sJ, J_sJ, R_sJ, EI_sJ, EJ_sJ, ER_sJ, n_sR, z_sR, tag_sR, I_sR, J_sR, R_sR, EI_sR, EJ_sR, ER_sR, n_sEI, z_sEI, tag_sEI, I_sEI, J_sEI, R_sEI, EI_sEI, EJ_sEI, ER_sEI, n_sEJ, z_sEJ, tag_sEJ, I_sEJ, J_sEJ, R_sEJ, EI_sEJ, EJ_sEJ, ER_sEJ, n_sER, z_sER, tag_sER, I_sER, J_sER, R_sER, EI_sER, EJ_sER, ER_sER, n_nw, z_nw, tag_nw, I_nw, J_nw, R_nw, EI_nw, EJ_nw, ER_nw, c] using this
  refine k_X29_isRound_0 o ?_
  exact clr m.2.1.length 0 h _ (by omega) (Fq.refl h) fun q hq => by omega
