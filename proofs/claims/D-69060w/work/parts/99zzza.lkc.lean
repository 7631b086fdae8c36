/-! a publication: lookAt, whole -/
section
variable {h1 : AH} {M DP A X C CW b : Nat} {dq : Nat → Nat} {K : Outcome → AH → Prop} {m : Md}
theorem la_70 {XX : Xt} (oo : OK e_X1_lookAt XX) (md : MDR h1 M m) (gm : gM m) (hb : b + 6 * m.2.1.length * m.2.1.length < 900000) (hd : 6 ≤ XX.d)
    (kk : ∀ h l4, Fq (P2 DP X) h1 h → DPW h M DP m ((List.range m.2.1.length).foldl (fun dp _ => swp m dp) dq) → V XX K 120 [.ref A, .ref M, .ref (M + 1), .int (nI m.2.1.length), l4] [] h) :
    ∀ n k h l4, n + k = m.2.1.length → Fq (P2 DP X) h1 h → DPW h M DP m ((List.range k).foldl (fun dp _ => swp m dp) dq) → (∀ i, i < nst m → (List.range k).foldl (fun dp _ => swp m dp) dq i ≤ b + 6 * m.2.1.length * k) → V XX K 70 [.ref A, .ref M, .ref (M + 1), .int (nI k), l4] [] h := by
  intro n
  induction n with
  | zero =>
    intro k h l4 hk f dr bd
    obtain rfl : k = m.2.1.length := by omega
    obtain ⟨⟨tM, rT⟩, sT, ty, co, mx⟩ := md.p2 f.1
    have tT := sT.1.1
    refine k_X1_lookAt_70 (r2 := mx.1.2.1) oo (fun _ => ?_) (fun c => absurd (Int32.le_refl _) c)
    exact kk h l4 f dr
  | succ n ih =>
    intro k h l4 hk f dr bd
    obtain ⟨⟨tM, rT⟩, sT, ty, co, mx⟩ := md.p2 f.1
    have tT := sT.1.1
    have o32 := mx.2.1.2.1
    refine k_X1_lookAt_70 (r2 := mx.1.2.1) oo (fun c => absurd ((nI_leI (by omega) (by omega)).mp c) (by omega)) (fun _ => ?_)
    refine k_X1_lookAt_78 oo ?_
    have e1 : 6 * m.2.1.length * (k + 1) = 6 * m.2.1.length * k + 6 * m.2.1.length := Nat.mul_succ _ _
    have e2 : 6 * m.2.1.length * (k + 1) ≤ 6 * m.2.1.length * m.2.1.length := Nat.mul_le_mul_left _ (by omega)
    refine la_81 (b := b + 6 * m.2.1.length * k) (dq := (List.range k).foldl (fun dp _ => swp m dp) dq) oo md gm (by omega) hd (fun h' f' dr' bd' => ?_) m.2.1.length 0 h (by omega) f dr bd
    refine k_X1_lookAt_114 oo ?_
    rw [nI_add]
    refine ih (k + 1) h' _ (by omega) f' (by rw [rf_s]; exact dr') ?_
    rw [rf_s]
    intro i hi
    have := bd' i hi
    omega
end
section
variable {B : Nat} {h : AH} {l : List Nat} {o : Lc} {wi W A q BA X tt lim SP DP M C CW : Nat} {snd : Int64} {MA : Ma} {s : Ms} {K : Outcome → AH → Prop} {fx : Option Nat} {m : Md} {dq : Nat → Nat}
theorem la_122 {XX : Xt} (oo : OK e_X1_lookAt XX) (H : OPQ 0 fx XX.G B h A W q BA X tt snd lim SP wi MA l o s) (md : MDR h M m) (dr : DPW h M DP m dq) (hd : 7 ≤ XX.d) {l4 : Value}
    (kf : ∀ k, k < m.2.1.length → 24 < dq k → (∀ j, j < k → dq j ≤ 24) → FLK K fx XX.G B A W q BA X tt snd lim SP wi DP MA l o s h 25 k)
    (kk : (∀ j, j < m.2.1.length → dq j ≤ 24) → V XX K 154 [.ref A, .ref M, .ref (M + 1), .int (nI m.2.1.length), l4] [] h) :
    ∀ n k, n + k = m.2.1.length → (∀ j, j < k → dq j ≤ 24) → V XX K 122 [.ref A, .ref M, .ref (M + 1), .int (nI k), l4] [] h := by
  obtain ⟨⟨tM, rT⟩, sT, ty, co, mx⟩ := id md
  have tT := sT.1.1
  have o32 := mx.2.1.2.1
  have t0 := H.1.1.1
  obtain ⟨dp, ⟨a1, a2, a3⟩, ag⟩ := dr
  intro n
  induction n with
  | zero =>
    intro k hk ok
    obtain rfl : k = m.2.1.length := by omega
    refine k_X1_lookAt_122 (r2 := mx.1.2.1) oo (fun _ => ?_) (fun c => absurd (Int32.le_refl _) c)
    exact kk ok
  | succ n ih =>
    intro k hk ok
    have ix : IX (nI k) 64 k := IX.mk (by omega) (by omega)
    obtain ⟨e1, e2⟩ := a3 k (by omega)
    have e3 : dp k = dq k := ag k (by unfold nst; omega)
    rw [e3] at e1 e2
    refine k_X1_lookAt_122 (r2 := mx.1.2.1) oo (fun c => absurd ((nI_leI (by omega) (by omega)).mp c) (by omega)) (fun _ => ?_)
    refine k_X1_lookAt_130 (r8 := e1) oo (fun c => ?_) (fun c => ?_)
    · have c : dq k ≤ 24 := (nI_leI (by omega) (by omega)).mp c
      refine k_X1_lookAt_148 oo ?_
      rw [nI_add]
      refine ih (k + 1) (by omega) fun j hj => ?_
      rcases Nat.lt_or_ge j k with c1 | c1
      · exact ok j c1
      · obtain rfl : j = k := by omega
        exact c
    · have c : 24 < dq k := Nat.lt_of_not_le fun q => c ((nI_leI (by omega) (by omega)).mpr q)
      refine k_X1_lookAt_141 oo ?_
      exact flt_ok (DP := DP) H (by omega) fun h2 u2 H2 dp2 st2 => kf k (by omega) c ok h2 u2 H2 dp2 st2
end
