/-! how deep a structure is -/
def dtp (dp : Nat → Nat) (t : Ty) : Nat := nve t + match sidx t with
  | some k => dp k
  | none => 1
def dpm (dp : Nat → Nat) (l : TL) : Nat := l.foldl (fun a x => max a (dtp dp x.1)) 0
/-- a module's depths -/
def DPR (h : AH) (M DP : Nat) (dp : Nat → Nat) : Prop := h.R 131 M = some DP ∧ h.tag DP = some (192, 64) ∧ ∀ k, k < 64 → h.EI 192 DP k = nI (dp k) ∧ dp k < 1000000
section
variable {G : Gt} {d : Nat} {h : AH} {K : Outcome → AH → Prop}
theorem nve_7 {r : Ty} : nve (7 :: r) = 1 + nve r := rfl
theorem nI_max {a b : Nat} (ha : a < 2147483648) (hb : b < 2147483648) : (if nI a < nI b then nI b else nI a) = nI (max a b) := by
  by_cases c : a < b
  · rw [if_pos ((nI_ltI ha hb).mpr c), Nat.max_eq_right (by omega)]
  · rw [if_neg (fun z => c ((nI_ltI ha hb).mp z)), Nat.max_eq_left (by omega)]
theorem dep_35 {X : Xt} (o : OK e_X1_depthOf X) {M DP : Nat} {m : Md} {dp : Nat → Nat} {l1 l2 l3 : Value} (tM : h.tag M = some (1, 0)) (dr : DPR h M DP dp) (n64 : nst m ≤ 64) (hd : 4 ≤ X.d) : ∀ (n : Nat) (t : Ty) (a : Nat), nve t ≤ n → fT m t → 1 ≤ a → a + n ≤ 100 → (∀ l4, V X K 86 [.ref M, l1, l2, l3, l4, nov, .int (nI (a - 1 + dtp dp t))] [] h) → V X K 35 [.ref M, l1, l2, l3, .long (lN (tyc t)), nov, .int (nI a)] [] h := by
  obtain ⟨r1, r2, r3⟩ := dr
  have base : ∀ (t : Ty) (a : Nat), (∀ r, t ≠ 7 :: r) → fT m t → 1 ≤ a → a ≤ 100 → (∀ l4, V X K 86 [.ref M, l1, l2, l3, l4, nov, .int (nI (a - 1 + dtp dp t))] [] h) → V X K 35 [.ref M, l1, l2, l3, .long (lN (tyc t)), nov, .int (nI a)] [] h := fun t a h7 ft ha ha2 kk => by
    obtain ⟨b, r, e, -⟩ := bas_hd ft.2.1
    have tv := ft.ok.tv.1
    have l63 := tv.lt63
    refine k_X1_depthOf_35 o ?_
    subst e
    have nv : nve (b :: r) = 0 := by
      unfold nve
      split
      · rename_i t' e'
        exact absurd e' (h7 t')
      · rfl
    refine head_ok tv (by omega) ?_
    have b7 : b ≠ 7 := fun q => h7 r (by rw [q])
    have bb : b < 256 := ft.1 b (List.mem_cons_self ..)
    refine k_X1_depthOf_40 o (fun _ => ?_) (fun c => absurd ((nI_eq (by omega) (by omega)).mp c) b7)
    have c5 : lN (tyc (b :: r)) ≤ (5 : Int64) ↔ tyc (b :: r) ≤ 5 := lN_leI (b := 5) l63 (by decide)
    rcases tyc_le5 ft.2.1 ft.1 h7 with ⟨q1, b', q2, q3⟩ | ⟨q1, k, q2, q3⟩
    · refine k_X1_depthOf_58 o (fun _ => ?_) (fun c => absurd (c5.mpr q1) c)
      have e : dtp dp (b :: r) = 1 := by
        unfold dtp
        rw [nv, q2]
        rfl
      have := kk (.long (lN (tyc (b :: r))))
      rw [e, show a - 1 + 1 = a by omega] at this
      exact this
    · have sx : sidx (b :: r) = some k := by rw [q2]; rfl
      have kn := ft.2.2.2 k sx
      obtain ⟨e1, e2⟩ := r3 k (by omega)
      have e : dtp dp (b :: r) = dp k := by
        unfold dtp
        rw [nv, sx]
        exact Nat.zero_add _
      have ek : (lN (tyc (b :: r)) &&& (255 : Int64)).toInt32 = nI k := by
        have t6 : tyc (b :: r) % 256 = k := by
          rw [q2]
          have : tyc [6, k] = 256 * tyc [6] + k := tyc_snoc [6] k
          rw [this]; omega
        have : (lN (tyc (b :: r)) &&& (255 : Int64)) = lN (tyc (b :: r) % 256) := un_inj (by rw [un_and, un_l (by omega), un_l (by omega), show un (255 : Int64) = 2 ^ 8 - 1 from rfl, Nat.and_two_pow_sub_one_eq_mod])
        rw [this, t6, n32_l (by omega)]
      have ix : IX ((lN (tyc (b :: r)) &&& (255 : Int64)).toInt32) 64 k := by rw [ek]; exact IX.mk (by omega) (by omega)
      refine k_X1_depthOf_58 o (fun c => absurd (c5.mp c) (by omega)) (fun _ => ?_)
      refine k_X1_depthOf_67 (r8 := e1) o ?_
      have := kk (.long (lN (tyc (b :: r))))
      rw [e] at this
      have ea : nI a + (nI (dp k) - nI 1) = nI (a - 1 + dp k) := by
        have : nI a + (nI (dp k) - nI 1) = (nI a + nI (dp k)) - nI 1 := by
          rw [Int32.sub_eq_add_neg, Int32.sub_eq_add_neg, Int32.add_assoc]
        rw [this, nI_add, nI_sub (by omega)]
        exact congrArg nI (by omega)
      rw [ea]
      exact this
  intro n
  induction n with
  | zero =>
    intro t a hn ft ha ha2 kk
    exact base t a (fun r e => by rw [e, nve_7] at hn; omega) ft ha (by omega) kk
  | succ n ih =>
    intro t a hn ft ha ha2 kk
    by_cases h7 : ∃ r, t = 7 :: r
    · obtain ⟨r, e⟩ := h7
      subst e
      have tv := ft.ok.tv.1
      have fr : fT m r := by
        obtain ⟨f1, f2, f3, f4⟩ := ft
        have hr : r ≠ [] := fun e => by rw [e] at f2; simp [bas] at f2
        obtain ⟨b, r', e⟩ : ∃ b r', r = b :: r' := by
          cases r with
          | nil => exact absurd rfl hr
          | cons b r' => exact ⟨b, r', rfl⟩
        refine ⟨fun y hy => f1 y (List.mem_cons_of_mem _ hy), by rw [e] at f2 ⊢; rw [bas_7] at f2; exact f2, by rw [nve_7] at f3; omega, fun k hk => f4 k (by rw [sidx_b (by decide) hr]; exact hk)⟩
      have er : dtp dp (7 :: r) = 1 + dtp dp r := by
        unfold dtp
        rw [nve_7, sidx_b (by decide) fr.ne]
        omega
      refine k_X1_depthOf_35 o ?_
      refine head_ok tv (by omega) ?_
      refine k_X1_depthOf_40 o (fun c => absurd rfl c) (fun _ => ?_)
      refine k_X1_depthOf_45 o ?_
      refine rest_ok tv (by omega) ?_
      refine k_X1_depthOf_53 o ?_
      rw [nI_add]
      rw [nve_7] at hn
      refine ih r (a + 1) (by omega) fr (by omega) (by omega) fun l4 => ?_
      have := kk l4
      rw [er, show a - 1 + (1 + dtp dp r) = a + 1 - 1 + dtp dp r by omega] at this
      exact this
    · exact base t a (fun r e => h7 ⟨r, e⟩) ft ha (by omega) kk
theorem dep_ok {M DP k : Nat} {m : Md} {s : Sx} {dp : Nat → Nat} (md : MDR h M m) (hs : m.2.1[k]? = some s) (gm : gM m) (dr : DPR h M DP dp) (hd : 5 ≤ d) (kk : K (.returned (some (.int (nI (dpm dp s.2.2 + 1))))) h) : MW G d e_X1_depthOf [.ref M, .ref (M + 13 + 2 * k)] h K := by
  refine st_X1_depthOf fun X o hG hD _ => ?_
  subst hG; subst hD
  obtain ⟨⟨tM, rT⟩, sT, ty, -, mx⟩ := id md
  have hk := get_lt hs
  have k32 := mx.2.1.2.1
  obtain ⟨-, d2, d3, d4⟩ := sT.2.2.2.1 k (by omega)
  obtain ⟨g1, g2, g3, g4', g5, g6⟩ := sT.1
  rw [show M + 1 + 12 + 2 * k = M + 13 + 2 * k by omega] at d2 d3
  rw [show M + 1 + 13 + 2 * k = M + 13 + 2 * k + 1 by omega] at d3 d4
  obtain ⟨-, -, sp⟩ := mx.2.2.1 k s hs
  rw [show M + 1 + 12 + 2 * k = M + 13 + 2 * k by omega] at sp
  obtain ⟨pre, post, p1, p2, p3⟩ := id sp
  obtain ⟨s16, sf⟩ := gm.2.1 s (List.mem_of_getElem? hs)
  have tl := gm.2.2.2.2.2.2
  have bd : ∀ t : Ty, fT m t → dtp dp t ≤ 1000004 := fun t ft => by
    unfold dtp
    have := ft.2.2.1
    cases hx : sidx t with
    | none => simp only; omega
    | some j =>
      have := (dr.2.2 j (by have := ft.2.2.2 j hx; have := gm.2.2.2.2.2.1; omega)).2
      simp only; omega
  have key : ∀ n i a, n + i = s.2.2.length → a ≤ 1000004 → a = (s.2.2.take i).foldl (fun a x => max a (dtp dp x.1)) 0 → ∀ l4 l5 l6, V X K 4 [.ref M, .ref (M + 13 + 2 * k), .int (nI a), .int (nI i), l4, l5, l6] [] h := by
    intro n
    induction n with
    | zero =>
      intro i a hi ha2 ha l4 l5 l6
      rw [List.take_of_length_le (by omega)] at ha
      have ha : a = dpm dp s.2.2 := ha
      refine k_X1_depthOf_4 (r5 := p3) o (fun _ => ?_) (fun c => absurd ((nI_leI (by omega) (by omega)).mpr (by omega)) c)
      refine k_X1_depthOf_99 o ?_
      rw [nI_add, ha]
      exact kk
    | succ n ih =>
      intro i a hi ha2 ha l4 l5 l6
      obtain ⟨x, hx⟩ : ∃ x, s.2.2[i]? = some x := ⟨_, List.getElem?_eq_getElem (by omega)⟩
      have fx := sf x (List.mem_of_getElem? hx)
      have bx := bd x.1 fx
      refine k_X1_depthOf_4 (r5 := p3) o (fun c => absurd ((nI_leI (by omega) (by omega)).mp c) (by omega)) (fun _ => ?_)
      refine k_X1_depthOf_15 o ?_
      refine spget_ok (T := M + 1) d4 sT ty tl sp (by omega) ?_
      rw [hx]
      refine k_X1_depthOf_30 o ?_
      refine dep_35 o tM dr gm.2.2.2.2.2.1 (by omega) 4 x.1 1 (by have := fx.2.2.1; omega) fx (by omega) (by omega) fun l4 => ?_
      rw [show 1 - 1 + dtp dp x.1 = dtp dp x.1 by omega]
      refine k_X1_depthOf_86 o ?_
      refine mmax_ok ?_
      rw [nI_max (by omega) (by omega)]
      refine k_X1_depthOf_92 o ?_
      rw [nI_add]
      refine ih (i + 1) (max a (dtp dp x.1)) (by omega) (Nat.max_le.mpr ⟨ha2, bx⟩) ?_ _ _ _
      rw [List.take_add_one, hx, List.foldl_append, ← ha]
      rfl
  refine k_X1_depthOf_0 o ?_
  exact key s.2.2.length 0 0 (by omega) (by omega) rfl _ _ _
end
