/-! a publication: lookAt, the loops -/
/-- zeros below k -/
def dzk (dp : Nat → Nat) (k i : Nat) : Nat := if i < k then 0 else dp i
theorem dzk_s {dp : Nat → Nat} {k : Nat} : dup (dzk dp k) k 0 = dzk dp (k + 1) := funext fun i => by
  unfold dup dzk
  by_cases c : i = k
  · rw [if_pos c, if_pos (by omega)]
  · rw [if_neg c]
    by_cases c2 : i < k
    · rw [if_pos c2, if_pos (by omega)]
    · rw [if_neg c2, if_neg (by omega)]
theorem dzk_0 {dp : Nat → Nat} : dzk dp 0 = dp := funext fun i => if_neg (Nat.not_lt_zero _)
theorem sw1_b {m : Md} {dq : Nat → Nat} {b k : Nat} (gm : gM m) (e : ∀ i, i < nst m → dq i ≤ b) : ∀ i, i < nst m → sw1 m dq k i ≤ b + 6 := fun i hi => by
  unfold sw1
  have := e i hi
  cases hs : m.2.1[k]? with
  | some s =>
    have := dpm_le e (gm.2.1 s (List.mem_of_getElem? hs)).2
    show dup dq k (dpm dq s.2.2 + 1) i ≤ b + 6
    unfold dup
    split <;> omega
  | none => show dq i ≤ b + 6; omega
theorem rf_s {α : Type} {f : α → Nat → α} {a : α} {k : Nat} : (List.range (k + 1)).foldl f a = f ((List.range k).foldl f a) k := by
  rw [List.range_succ, List.foldl_append]; rfl
/-- what is owed at a fault -/
def FLK (K : Outcome → AH → Prop) (fx : Option Nat) (G : Gt) (B A W q BA X tt : Nat) (snd : Int64) (lim SP wi DP : Nat) (MA : Ma) (l : List Nat) (o : Lc) (s : Ms) (h : AH) (w b : Nat) : Prop := ∀ h', OUL wi W DP X h h' o o → OPQ 0 fx G B h' A W q BA X tt snd lim SP wi MA l o s → (∀ M dp, DPR h M DP dp → DPR h' M DP dp) → (h'.I 2709 X = nI b ∧ h'.I 24 A = nI 4 ∧ h'.J 25 A = (nI w).toInt64) → K (.threw SP) h'
section
variable {B : Nat} {h : AH} {l : List Nat} {o : Lc} {wi W A q BA X tt lim SP DP M C CW : Nat} {snd : Int64} {MA : Ma} {s : Ms} {K : Outcome → AH → Prop} {fx : Option Nat} {m : Md}
theorem la_7 {XX : Xt} (oo : OK e_X1_lookAt XX) (H : OPQ 0 fx XX.G B h A W q BA X tt snd lim SP wi MA l o s) (md : MDR h M m) (rC : h.R 14 A = some C) (sc : SCk h C CW) (gm : gM m) (hd : 7 ≤ XX.d)
    (kf : ∀ k s', m.2.1[k]? = some s' → bears m s' = false → (∀ j s', j < k → m.2.1[j]? = some s' → bears m s' = true) → FLK K fx XX.G B A W q BA X tt snd lim SP wi DP MA l o s h 24 k)
    (kk : (∀ s ∈ m.2.1, bears m s = true) → V XX K 45 [.ref A, .ref M, .ref (M + 1), .int (nI m.2.1.length), nov] [] h) :
    ∀ n k, n + k = m.2.1.length → (∀ j s', j < k → m.2.1[j]? = some s' → bears m s' = true) → V XX K 7 [.ref A, .ref M, .ref (M + 1), .int (nI k), nov] [] h := by
  obtain ⟨⟨tM, rT⟩, sT, ty, co, mx⟩ := id md
  have tT := sT.1.1
  have rS := sT.1.2.1
  have t1 := sT.2.1.1
  have o32 := mx.2.1.2.1
  have t0 := H.1.1.1
  intro n
  induction n with
  | zero =>
    intro k hk ok
    obtain rfl : k = m.2.1.length := by omega
    refine k_X1_lookAt_7 (r2 := mx.1.2.1) oo (fun _ => ?_) (fun c => absurd (Int32.le_refl _) c)
    refine kk fun s hs => ?_
    obtain ⟨j, hj⟩ := List.mem_iff_getElem?.mp hs
    exact ok j s (get_lt hj) hj
  | succ n ih =>
    intro k hk ok
    obtain ⟨s', hs⟩ : ∃ s, m.2.1[k]? = some s := ⟨_, List.getElem?_eq_getElem (by omega)⟩
    obtain ⟨d1, -⟩ := sT.2.2.2.1 k (by omega)
    have ix : IX (nI k) 64 k := IX.mk (by omega) (by omega)
    have tC := sc.1.1
    refine k_X1_lookAt_7 (r2 := mx.1.2.1) oo (fun c => absurd ((nI_leI (by omega) (by omega)).mp c) (by omega)) (fun _ => ?_)
    refine k_X1_lookAt_15 (r11 := d1) oo ?_
    refine cber_ok sc sT mx ty gm hs (by omega) ?_
    cases hb : bears m s' with
    | false =>
      refine k_X1_lookAt_29 oo (fun c => absurd rfl c) (fun _ => ?_)
      refine k_X1_lookAt_32 oo ?_
      exact flt_ok (DP := DP) H (by omega) fun h2 u2 H2 dp2 st2 => kf k s' hs hb ok h2 u2 H2 dp2 st2
    | true =>
      refine k_X1_lookAt_29 oo (fun _ => ?_) (fun c => absurd c (by decide))
      refine k_X1_lookAt_39 oo ?_
      rw [nI_add]
      refine ih (k + 1) (by omega) fun j s'' hj hs'' => ?_
      rcases Nat.lt_or_ge j k with c1 | c1
      · exact ok j s'' c1 hs''
      · obtain rfl : j = k := by omega
        rw [hs] at hs''
        rw [← Option.some.inj hs'']; exact hb
end
section
variable {h1 : AH} {M DP A X C CW b : Nat} {dq : Nat → Nat} {K : Outcome → AH → Prop} {m : Md}
theorem MDR.p2 {h h' : AH} (f : Fr (P2 DP X) h h') (s : MDR h M m) : MDR h' M m := s.fr f (P2.no (by decide))
theorem DPW.a {h : AH} (s : DPW h M DP m dq) : h.R 131 M = some DP ∧ h.tag DP = some (192, 64) := by
  obtain ⟨dp, ⟨a, b, -⟩, -⟩ := s
  exact ⟨a, b⟩
theorem la_47 {XX : Xt} (oo : OK e_X1_lookAt XX) (md : MDR h1 M m)
    (kk : ∀ h, Fq (P2 DP X) h1 h → DPW h M DP m (dzk dq m.2.1.length) → V XX K 68 [.ref A, .ref M, .ref (M + 1), .int (nI m.2.1.length), nov] [] h) :
    ∀ n k h, n + k = m.2.1.length → Fq (P2 DP X) h1 h → DPW h M DP m (dzk dq k) → V XX K 47 [.ref A, .ref M, .ref (M + 1), .int (nI k), nov] [] h := by
  intro n
  induction n with
  | zero =>
    intro k h hk f dr
    obtain rfl : k = m.2.1.length := by omega
    obtain ⟨⟨tM, rT⟩, sT, ty, co, mx⟩ := md.p2 f.1
    have tT := sT.1.1
    refine k_X1_lookAt_47 (r2 := mx.1.2.1) oo (fun _ => ?_) (fun c => absurd (Int32.le_refl _) c)
    exact kk h f dr
  | succ n ih =>
    intro k h hk f dr
    obtain ⟨⟨tM, rT⟩, sT, ty, co, mx⟩ := md.p2 f.1
    have tT := sT.1.1
    have o32 := mx.2.1.2.1
    obtain ⟨a1, a2⟩ := dr.a
    have ix : IX (nI k) 64 k := IX.mk (by omega) (by omega)
    refine k_X1_lookAt_47 (r2 := mx.1.2.1) oo (fun c => absurd ((nI_leI (by omega) (by omega)).mp c) (by omega)) (fun _ => ?_)
    refine k_X1_lookAt_55 oo ?_
    rw [nI_add]
    refine ih (k + 1) _ (by omega) (f.sEI (Or.inl ⟨rfl, rfl⟩)) ?_
    rw [← dzk_s]
    exact dr.sE (by omega)
theorem la_81 {XX : Xt} (oo : OK e_X1_lookAt XX) (md : MDR h1 M m) (gm : gM m) {l3 : Value} (hb : b + 6 * m.2.1.length < 900000) (hd : 6 ≤ XX.d)
    (kk : ∀ h, Fq (P2 DP X) h1 h → DPW h M DP m (swp m dq) → (∀ i, i < nst m → swp m dq i ≤ b + 6 * m.2.1.length) → V XX K 114 [.ref A, .ref M, .ref (M + 1), l3, .int (nI m.2.1.length)] [] h) :
    ∀ n k h, n + k = m.2.1.length → Fq (P2 DP X) h1 h → DPW h M DP m ((List.range k).foldl (sw1 m) dq) → (∀ i, i < nst m → (List.range k).foldl (sw1 m) dq i ≤ b + 6 * k) → V XX K 81 [.ref A, .ref M, .ref (M + 1), l3, .int (nI k)] [] h := by
  intro n
  induction n with
  | zero =>
    intro k h hk f dr bd
    obtain rfl : k = m.2.1.length := by omega
    obtain ⟨⟨tM, rT⟩, sT, ty, co, mx⟩ := md.p2 f.1
    have tT := sT.1.1
    refine k_X1_lookAt_81 (r2 := mx.1.2.1) oo (fun _ => ?_) (fun c => absurd (Int32.le_refl _) c)
    exact kk h f dr bd
  | succ n ih =>
    intro k h hk f dr bd
    have md1 := md.p2 f.1
    obtain ⟨⟨tM, rT⟩, sT, ty, co, mx⟩ := id md1
    have tT := sT.1.1
    have rS := sT.1.2.1
    have t1 := sT.2.1.1
    have o32 := mx.2.1.2.1
    obtain ⟨a1, a2⟩ := dr.a
    obtain ⟨s', hs⟩ : ∃ s, m.2.1[k]? = some s := ⟨_, List.getElem?_eq_getElem (by omega)⟩
    obtain ⟨d1, -⟩ := sT.2.2.2.1 k (by omega)
    rw [show M + 1 + 12 + 2 * k = M + 13 + 2 * k by omega] at d1
    have ix : IX (nI k) 64 k := IX.mk (by omega) (by omega)
    obtain ⟨dp, dr', ag⟩ := id dr
    refine k_X1_lookAt_81 (r2 := mx.1.2.1) oo (fun c => absurd ((nI_leI (by omega) (by omega)).mp c) (by omega)) (fun _ => ?_)
    refine k_X1_lookAt_90 (r2 := a1) (r11 := d1) oo ?_
    refine dep_ok md1 hs gm dr' (by omega) ?_
    have sf := (gm.2.1 s' (List.mem_of_getElem? hs)).2
    have le := dpm_le bd sf
    rw [dpm_cg ag sf]
    refine k_X1_lookAt_107 oo ?_
    rw [nI_add]
    have e : (List.range (k + 1)).foldl (sw1 m) dq = dup ((List.range k).foldl (sw1 m) dq) k (dpm ((List.range k).foldl (sw1 m) dq) s'.2.2 + 1) := by
      rw [rf_s]
      unfold sw1
      rw [hs]
    refine ih (k + 1) _ (by omega) (f.sEI (Or.inl ⟨rfl, rfl⟩)) ?_ ?_
    · rw [e]
      exact dr.sE (by omega)
    · rw [rf_s]
      intro i hi
      have := sw1_b (k := k) gm bd i hi
      omega
end
