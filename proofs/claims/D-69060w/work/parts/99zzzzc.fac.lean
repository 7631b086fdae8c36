/-! the ledger's face -/
/-- the tape -/
def TAP (h : AH) (A TA : Nat) (t : List Int32) : Prop := (h.R 15 A = some TA ∧ h.tag TA = some (113, 2048)) ∧ h.I 16 A = nI t.length ∧ t.length ≤ 2048 ∧ ∀ i x, t[i]? = some x → h.EI 113 TA i = x
theorem TAP.fr {P : Nat → Nat → Prop} {h h' : AH} {A TA : Nat} {t : List Int32} (q : Fr P h h') (np : ∀ f a, [15, 16, 10000 + 113].contains f = true → ¬ P f a) (s : TAP h A TA t) : TAP h' A TA t := ⟨⟨by rw [q.R (np _ _ rfl)]; exact s.1.1, q.tag s.1.2⟩, by rw [q.I (np _ _ rfl)]; exact s.2.1, s.2.2.1, fun i x hx => by rw [q.EI (np _ _ rfl)]; exact s.2.2.2 i x hx⟩
/-- a tape's bytes -/
def byl (t : List Int32) : By := (t.length, fun i => um (t.getD i 0) % 256)
/-- what was shown -/
def SHW (h : AH) (A SH : Nat) (sh : List Int32) : Prop := (h.R 21 A = some SH ∧ h.tag SH = some (129, 2048)) ∧ h.I 22 A = nI sh.length ∧ sh.length ≤ 2048 ∧ ∀ i x, sh[i]? = some x → h.EI 129 SH i = x
theorem SHW.fr {P : Nat → Nat → Prop} {h h' : AH} {A SH : Nat} {sh : List Int32} (q : Fr P h h') (np : ∀ f a, [21, 22, 10000 + 129].contains f = true → ¬ P f a) (s : SHW h A SH sh) : SHW h' A SH sh := ⟨⟨by rw [q.R (np _ _ rfl)]; exact s.1.1, q.tag s.1.2⟩, by rw [q.I (np _ _ rfl)]; exact s.2.1, s.2.2.1, fun i x hx => by rw [q.EI (np _ _ rfl)]; exact s.2.2.2 i x hx⟩
/-- transactions: what they ask for, which publish, their bytes; results -/
abbrev Tb4 : Type := (Nat → TxC) × (Nat → Bool) × (Nat → By) × (Nat → TxR)
/-- tape, (minted, burned), (done, there), transactions, woven, state, shown -/
abbrev Ab : Type := List Int32 × (Int64 × Int64) × (Nat × Nat) × Tb4 × Nat × Qs × List Int32
/-- where things lie: tape, weave, shown, reader, its exception, its row -/
abbrev Lx : Type := Nat × Nat × Nat × Nat × Nat × Nat
/-- arguments of different transactions lie apart -/
def LYA (y : Ly) : Prop := ∀ k k', k < 32 → k' < 32 → k ≠ k' → yX y k ≠ yX y k' ∧ y.2 4 k ≠ y.2 4 k' ∧ y.2 5 k ≠ y.2 5 k' ∧ y.2 6 k ≠ y.2 6 k'
def RCm (n : Nat) (G : Gt) (B : Nat) (cm : Md) (y : Ly) (lx : Lx) (a : Ab) (h : AH) : Prop :=
  (EXV n G B cm y a.2.2.2.1.1 a.2.2.2.1.2.1 a.2.2.2.1.2.2.1 a.2.2.1.1 a.2.2.1.2 a.2.2.2.2.2.1 a.2.1.2 h ∧ (h.I 5 (yA y) = nI a.2.2.1.1 ∧ h.I 4 (yA y) = nI a.2.2.1.2 ∧ a.2.2.1.1 ≤ a.2.2.1.2 ∧ a.2.2.1.2 ≤ 32) ∧ TQF a.2.2.2.1.1 a.2.2.2.1.2.1 a.2.2.2.1.2.2.1 a.2.2.1.2) ∧
  (h.J 17 (yA y) = a.2.1.1 ∧ TAP h (yA y) lx.1 a.1 ∧ (∃ wv, WVF h (yA y) lx.2.1 4096 a.2.2.2.2.1 wv) ∧ SHW h (yA y) lx.2.2.1 a.2.2.2.2.2.2 ∧ a.2.2.2.2.2.2.length ≤ 1008) ∧
  (RES h y a.2.2.2.1.2.1 a.2.2.2.1.2.2.2 0 a.2.2.1.1 ∧ ∀ k, a.2.2.1.1 ≤ k → k < a.2.2.1.2 → h.I 2701 (yX y k) = nI 0) ∧
  (h.R 13 (yA y) = some lx.2.2.2.1 ∧ SRd h lx.2.2.2.1 lx.2.2.2.2.1 lx.2.2.2.2.2 ∧ h.tag lx.2.2.2.2.1 = some (30, 0) ∧ CB G h) ∧ LYA y ∧ 0 < n ∧ n ≤ 8 ∧ B + 325600 ≤ G.ln
def rcxF : List Nat := [5, 4, 17, 15, 16, 10000 + 113, 9, 8, 10000 + 97, 21, 22, 10000 + 129, 2701, 13, 14096] ++ txF ++ resF ++ srF
section
variable {n B : Nat} {G : Gt} {cm : Md} {y : Ly} {lx : Lx} {a : Ab} {h h' : AH} {d : Nat} {K : Outcome → AH → Prop} {P : Nat → Nat → Prop}
theorem RCm.t0 (r : RCm n G B cm y lx a h) : h.tag (yA y) = some (0, 0) := r.1.1.choose_spec.choose_spec.choose_spec.choose_spec.choose_spec.choose_spec.choose_spec.1.1.1.1.1.1.1
theorem RCm.bk (r : RCm n G B cm y lx a h) : h.R 3 (yA y) = some (yB y) ∧ BLK h (yB y) (yX y) (yL y) (yD y) ∧ (∀ k, k < 32 → TXS h (yX y k) (y.2 7 k) (y.2 8 k) (y.2 9 k)) ∧ ∀ k, k < 32 → TXI h (yX y k) (y.2 4 k) (y.2 5 k) (y.2 6 k) (a.2.2.2.1.1 k) ∧ h.I 2688 (yX y k) = bI (a.2.2.2.1.2.1 k) := by
  obtain ⟨MA, mw, dx, ms, g, l, o, ⟨e1, -⟩, -⟩ := r.1.1
  exact ⟨e1.1.1.1.1.2.2.1, e1.1.1.2.1, e1.1.1.2.2.2.1, fun k hk => ⟨(e1.1.1.2.2.2.2 k hk).1, (e1.1.1.2.2.2.2 k hk).2.2.2⟩⟩
theorem isTr_ok {t : Int32} {ct : Nat} (t0 : h.tag (yA y) = some (0, 0)) (hc : h.I 4 (yA y) = nI ct) (hct : ct ≤ 32) (kk : K (.returned (some (.int (bI (decide (um t < ct)))))) h) : MW G d e_X1_isTransaction [.ref (yA y), .int t] h K := by
  refine st_X1_isTransaction fun X o hG hD _ => ?_
  by_cases c0 : t < 0
  · have : ¬ um t < ct := by have := um_neg.mp c0; omega
    rw [decide_eq_false this] at kk
    refine k_X1_isTransaction_0 o (fun _ => ?_) (fun q => absurd c0 q)
    refine k_X1_isTransaction_16 o ?_
    exact k_X1_isTransaction_17 o kk
  · have c1 : um t < 2147483648 := by have : ¬ _ := fun q => c0 (um_neg.mpr q); omega
    refine k_X1_isTransaction_0 o (fun q => absurd q c0) (fun _ => ?_)
    have e : (nI ct ≤ t) ↔ ct ≤ um t := by
      have := nI_leI (a := ct) (b := um t) (by omega) (by omega)
      rw [nI_um] at this
      exact this
    refine k_X1_isTransaction_4 (r2 := hc) o (fun q => ?_) (fun q => ?_)
    · rw [decide_eq_false (by have := e.mp q; omega)] at kk
      refine k_X1_isTransaction_16 o ?_
      exact k_X1_isTransaction_17 o kk
    · rw [decide_eq_true (by have : ¬ _ := fun z => q (e.mpr z); omega)] at kk
      refine k_X1_isTransaction_12 o ?_
      exact k_X1_isTransaction_17 o kk
/-- what is told -/
def tldF (a : Ab) (t w : Nat) : Int32 := if t < a.2.2.1.2 ∧ w < 4 then (if t < a.2.2.1.1 then (let r := a.2.2.2.1.2.2.2 t; if w = 0 then nI r.1 else if w = 1 then nI (if r.1 = 3 then 0 else r.2.2.2.1) else if w = 2 then nI (if r.1 = 0 ∧ a.2.2.2.1.2.1 t = false then r.2.2.2.2.1 else []).length else nI (if r.1 = 4 then r.2.2.2.2.2 else 0)) else -2) else -1
theorem told_ok {t w : Int32} (r : RCm n G B cm y lx a h) (hd : 1 ≤ d) (kk : K (.returned (some (.int (tldF a (um t) (um w))))) h) : MW G d e_X1_told [.ref (yA y), .int t, .int w] h K := by
  refine st_X1_told fun X o hG hD _ => ?_
  subst hG; subst hD
  have t0 := r.t0
  obtain ⟨rB, bk, ts, -⟩ := r.bk
  have tB := bk.1
  obtain ⟨⟨-, ⟨hf, hc, hfc, hct⟩, -⟩, -, ⟨rs, rd⟩, -⟩ := id r
  have bad : ¬ (um t < a.2.2.1.2 ∧ um w < 4) → tldF a (um t) (um w) = -1 := fun q => if_neg q
  refine k_X1_told_0 o ?_
  refine isTr_ok t0 hc hct ?_
  by_cases c1 : um t < a.2.2.1.2
  · rw [decide_eq_true c1]
    refine k_X1_told_5 o (fun q => absurd q (by decide)) (fun _ => ?_)
    by_cases c2 : w < 0
    · have : ¬ (um t < a.2.2.1.2 ∧ um w < 4) := fun q => by have := um_neg.mp c2; omega
      rw [bad this] at kk
      exact k_X1_told_8 o (fun _ => k_X1_told_17 o kk) (fun q => absurd c2 q)
    · have w31 : um w < 2147483648 := by have : ¬ _ := fun q => c2 (um_neg.mpr q); omega
      have e3 : w ≤ nI 3 ↔ um w ≤ 3 := by
        have := nI_leI (a := um w) (b := 3) (by omega) (by omega)
        rw [nI_um] at this
        exact this
      refine k_X1_told_8 o (fun q => absurd q c2) (fun _ => ?_)
      refine k_X1_told_12 o (fun q => ?_) (fun q => ?_)
      · have w4 : um w < 4 := by have := e3.mp q; omega
        obtain ⟨eX, tX, -⟩ := bk.2.2 (um t) (by omega)
        have ix : IX t 32 (um t) := by
          have := IX.mk (k := um t) (len := 32) (by omega) (by omega)
          rw [nI_um] at this
          exact this
        by_cases c3 : um t < a.2.2.1.1
        · obtain ⟨⟨⟨x1, x2, x3⟩, ⟨x4, -⟩, x5⟩, dn⟩ := rs (um t) (Nat.zero_le _) c3
          refine k_X1_told_19 (r11 := dn) o (fun _ => ?_) (fun q => absurd q (by decide))
          have ev : ∀ k, k < 2147483648 → (w = nI k ↔ um w = k) := fun k hk => ⟨fun e => by rw [e, um_n (by omega)], fun e => by rw [← e, nI_um]⟩
          unfold tldF at kk
          rw [if_pos ⟨c1, w4⟩, if_pos c3] at kk
          by_cases w0 : um w = 0
          · rw [if_pos w0] at kk
            refine k_X1_told_36 o (fun q => absurd ((ev 0 (by omega)).mpr w0) q) (fun _ => ?_)
            refine k_X1_told_40 (r2 := x1) o ?_
            exact k_X1_told_75 o kk
          · rw [if_neg w0] at kk
            refine k_X1_told_36 o (fun _ => ?_) (fun q => absurd ((ev 0 (by omega)).mp q) w0)
            by_cases w1 : um w = 1
            · rw [if_pos w1] at kk
              refine k_X1_told_47 o (fun q => absurd ((ev 1 (by omega)).mpr w1) q) (fun _ => ?_)
              refine k_X1_told_52 (r2 := x3) o ?_
              exact k_X1_told_75 o kk
            · rw [if_neg w1] at kk
              refine k_X1_told_47 o (fun _ => ?_) (fun q => absurd ((ev 1 (by omega)).mp q) w1)
              by_cases w2 : um w = 2
              · rw [if_pos w2] at kk
                refine k_X1_told_59 o (fun q => absurd ((ev 2 (by omega)).mpr w2) q) (fun _ => ?_)
                refine k_X1_told_64 (r2 := x4) o ?_
                exact k_X1_told_75 o kk
              · rw [if_neg w2] at kk
                refine k_X1_told_59 o (fun _ => ?_) (fun q => absurd ((ev 2 (by omega)).mp q) w2)
                refine k_X1_told_71 (r2 := x5) o ?_
                exact k_X1_told_75 o kk
        · have dn := rd (um t) (by omega) c1
          refine k_X1_told_19 (r11 := dn) o (fun q => absurd rfl q) (fun _ => ?_)
          unfold tldF at kk
          rw [if_pos ⟨c1, w4⟩, if_neg c3] at kk
          exact k_X1_told_33 o kk
      · have : ¬ (um t < a.2.2.1.2 ∧ um w < 4) := fun z => q (e3.mpr (by omega))
        rw [bad this] at kk
        exact k_X1_told_17 o kk
  · rw [decide_eq_false c1]
    rw [bad (fun q => c1 q.1)] at kk
    refine k_X1_told_5 o (fun _ => ?_) (fun q => absurd rfl q)
    exact k_X1_told_17 o kk
def codF (a : Ab) (t : Nat) : Int64 := if t < a.2.2.1.1 then (let r := a.2.2.2.1.2.2.2 t; if r.1 = 0 then 0 else r.2.1) else 0
theorem code_ok {t : Int32} (r : RCm n G B cm y lx a h) (hd : 1 ≤ d) (kk : K (.returned (some (.long (codF a (um t))))) h) : MW G d e_X1_code [.ref (yA y), .int t] h K := by
  refine st_X1_code fun X o hG hD _ => ?_
  subst hG; subst hD
  have t0 := r.t0
  obtain ⟨rB, bk, ts, -⟩ := r.bk
  have tB := bk.1
  obtain ⟨⟨-, ⟨hf, hc, hfc, hct⟩, -⟩, -, ⟨rs, rd⟩, -⟩ := id r
  refine k_X1_code_0 o ?_
  refine isTr_ok t0 hc hct ?_
  by_cases c1 : um t < a.2.2.1.2
  · rw [decide_eq_true c1]
    refine k_X1_code_5 o (fun q => absurd q (by decide)) (fun _ => ?_)
    obtain ⟨eX, tX, -⟩ := bk.2.2 (um t) (by omega)
    have ix : IX t 32 (um t) := by
      have := IX.mk (k := um t) (len := 32) (by omega) (by omega)
      rw [nI_um] at this
      exact this
    by_cases c3 : um t < a.2.2.1.1
    · obtain ⟨⟨⟨x1, x2, x3⟩, -⟩, dn⟩ := rs (um t) (Nat.zero_le _) c3
      unfold codF at kk
      rw [if_pos c3] at kk
      refine k_X1_code_8 (r11 := dn) o (fun q => absurd q (by decide)) (fun _ => ?_)
      refine k_X1_code_20 (r11 := x2) o ?_
      exact k_X1_code_33 o kk
    · have dn := rd (um t) (by omega) c1
      unfold codF at kk
      rw [if_neg c3] at kk
      refine k_X1_code_8 (r11 := dn) o (fun _ => ?_) (fun q => absurd rfl q)
      refine k_X1_code_32 o ?_
      exact k_X1_code_33 o kk
  · rw [decide_eq_false c1]
    unfold codF at kk
    rw [if_neg (by omega)] at kk
    refine k_X1_code_5 o (fun _ => ?_) (fun q => absurd rfl q)
    refine k_X1_code_32 o ?_
    exact k_X1_code_33 o kk
/-- results -/
def rslF (a : Ab) (t : Nat) : List VL := if t < a.2.2.1.1 then (let r := a.2.2.2.1.2.2.2 t; if r.1 = 0 ∧ a.2.2.2.1.2.1 t = false then r.2.2.2.2.1 else []) else []
def resV (a : Ab) (t i w : Nat) : Int64 := match (rslF a t)[i]? with
  | some v => if w = 0 then v.2.1.2 else if w = 1 then v.2.1.1 else if w = 2 then (nI v.1).toInt64 else 0
  | none => 0
theorem reslt_ok {t i w : Int32} (r : RCm n G B cm y lx a h) (h8 : ∀ k, k < a.2.2.1.1 → (a.2.2.2.1.2.2.2 k).2.2.2.2.1.length ≤ 8) (hd : 1 ≤ d) (kk : K (.returned (some (.long (resV a (um t) (um i) (um w))))) h) : MW G d e_X1_result [.ref (yA y), .int t, .int i, .int w] h K := by
  refine st_X1_result fun X o hG hD _ => ?_
  subst hG; subst hD
  have t0 := r.t0
  obtain ⟨rB, bk, ts, -⟩ := r.bk
  have tB := bk.1
  obtain ⟨⟨-, ⟨hf, hc, hfc, hct⟩, -⟩, -, ⟨rs, rd⟩, -⟩ := id r
  have bad : (rslF a (um t))[um i]? = none → resV a (um t) (um i) (um w) = 0 := fun q => by unfold resV; rw [q]
  refine k_X1_result_0 o ?_
  refine isTr_ok t0 hc hct ?_
  by_cases c3 : um t < a.2.2.1.1
  · rw [decide_eq_true (by omega)]
    refine k_X1_result_5 o (fun q => absurd q (by decide)) (fun _ => ?_)
    obtain ⟨eX, tX, -⟩ := bk.2.2 (um t) (by omega)
    obtain ⟨⟨s1, s2, s3⟩, s4, s5, s6⟩ := ts (um t) (by omega)
    have ix : IX t 32 (um t) := by
      have := IX.mk (k := um t) (len := 32) (by omega) (by omega)
      rw [nI_um] at this
      exact this
    obtain ⟨⟨⟨x1, x2, x3⟩, ⟨x4, x6⟩, x5⟩, dn⟩ := rs (um t) (Nat.zero_le _) c3
    refine k_X1_result_8 (r11 := dn) o (fun q => absurd q (by decide)) (fun _ => ?_)
    have er : (if (a.2.2.2.1.2.2.2 (um t)).1 = 0 ∧ a.2.2.2.1.2.1 (um t) = false then (a.2.2.2.1.2.2.2 (um t)).2.2.2.2.1 else []) = rslF a (um t) := by
      unfold rslF
      rw [if_pos c3]
    rw [er] at x4 x6
    have l8 : (rslF a (um t)).length ≤ 8 := by
      rw [← er]
      split
      · exact h8 _ c3
      · exact Nat.zero_le _
    by_cases c2 : i < 0
    · have : (rslF a (um t))[um i]? = none := List.getElem?_eq_none_iff.mpr (by have := um_neg.mp c2; omega)
      rw [bad this] at kk
      exact k_X1_result_20 o (fun _ => k_X1_result_37 o kk) (fun q => absurd c2 q)
    · have i31 : um i < 2147483648 := by have : ¬ _ := fun q => c2 (um_neg.mpr q); omega
      have ei : i < nI (rslF a (um t)).length ↔ um i < (rslF a (um t)).length := by
        have := nI_ltI (a := um i) (b := (rslF a (um t)).length) (by omega) (by omega)
        rw [nI_um] at this
        exact this
      refine k_X1_result_20 o (fun q => absurd q c2) (fun _ => ?_)
      refine k_X1_result_24 (r11 := x4) o (fun q => ?_) (fun q => ?_)
      · have il := ei.mp q
        obtain ⟨v, hv⟩ : ∃ v, (rslF a (um t))[um i]? = some v := ⟨_, List.getElem?_eq_getElem il⟩
        obtain ⟨v1, v2, v3⟩ := x6 (um i) v hv
        have ii : IX i 8 (um i) := by
          have := IX.mk (k := um i) (len := 8) (by omega) (by omega)
          rw [nI_um] at this
          exact this
        have ev : ∀ k, k < 2147483648 → (w = nI k ↔ um w = k) := fun k hk => ⟨fun e => by rw [e, um_n (by omega)], fun e => by rw [← e, nI_um]⟩
        unfold resV at kk
        rw [hv] at kk
        simp only at kk
        by_cases w0 : um w = 0
        · rw [if_pos w0] at kk
          refine k_X1_result_39 o (fun q => absurd ((ev 0 (by omega)).mpr w0) q) (fun _ => ?_)
          refine k_X1_result_51 (r8 := v3) o ?_
          exact k_X1_result_93 o kk
        · rw [if_neg w0] at kk
          refine k_X1_result_39 o (fun _ => ?_) (fun q => absurd ((ev 0 (by omega)).mp q) w0)
          by_cases w1 : um w = 1
          · rw [if_pos w1] at kk
            refine k_X1_result_61 o (fun q => absurd ((ev 1 (by omega)).mpr w1) q) (fun _ => ?_)
            refine k_X1_result_66 (r8 := v2) o ?_
            exact k_X1_result_93 o kk
          · rw [if_neg w1] at kk
            refine k_X1_result_61 o (fun _ => ?_) (fun q => absurd ((ev 1 (by omega)).mp q) w1)
            by_cases w2 : um w = 2
            · rw [if_pos w2] at kk
              refine k_X1_result_76 o (fun q => absurd ((ev 2 (by omega)).mpr w2) q) (fun _ => ?_)
              refine k_X1_result_81 (r8 := v1) o ?_
              exact k_X1_result_93 o kk
            · rw [if_neg w2] at kk
              refine k_X1_result_76 o (fun _ => ?_) (fun q => absurd ((ev 2 (by omega)).mp q) w2)
              refine k_X1_result_92 o ?_
              exact k_X1_result_93 o kk
      · have : (rslF a (um t))[um i]? = none := List.getElem?_eq_none_iff.mpr (by have : ¬ _ := fun z => q (ei.mpr z); omega)
        rw [bad this] at kk
        exact k_X1_result_37 o kk
  · have : (rslF a (um t))[um i]? = none := by
      unfold rslF
      rw [if_neg c3]; rfl
    rw [bad this] at kk
    by_cases c1 : um t < a.2.2.1.2
    · rw [decide_eq_true c1]
      refine k_X1_result_5 o (fun q => absurd q (by decide)) (fun _ => ?_)
      obtain ⟨eX, tX, -⟩ := bk.2.2 (um t) (by omega)
      have ix : IX t 32 (um t) := by
        have := IX.mk (k := um t) (len := 32) (by omega) (by omega)
        rw [nI_um] at this
        exact this
      have dn := rd (um t) (by omega) c1
      exact k_X1_result_8 (r11 := dn) o (fun _ => k_X1_result_37 o kk) (fun q => absurd rfl q)
    · rw [decide_eq_false c1]
      exact k_X1_result_5 o (fun _ => k_X1_result_37 o kk) (fun q => absurd rfl q)
end
