/-! bounds: numbers of structures, locals, functions .. -/
theorem lN_ltI {a b : Nat} (ha : a < 9223372036854775808) (hb : b < 9223372036854775808) : lN a < lN b ↔ a < b := by
  rw [un_ltI (by rw [un_l (by omega)]; omega) (by rw [un_l (by omega)]; omega), un_l (by omega), un_l (by omega)]
theorem lN_leI {a b : Nat} (ha : a < 9223372036854775808) (hb : b < 9223372036854775808) : lN a ≤ lN b ↔ a ≤ b := by
  rw [← Int64.not_lt, lN_ltI hb ha]; omega
def sidx : Ty → Option Nat
  | [] => none
  | [_] => none
  | [b, k] => if b = 6 then some k else none
  | _ :: c :: d :: t => sidx (c :: d :: t)
theorem sidx_n : ∀ {t : Ty}, tby t → sidx t = if tyc t / 256 % 256 = 6 then some (tyc t % 256) else none
  | [], _ => rfl
  | [b], h => by
    have := h b (by simp)
    simp only [sidx, tyc, List.length_nil, Nat.pow_zero, Nat.mul_one, Nat.add_zero]
    rw [if_neg (by omega)]
  | [b, k], h => by
    have h1 := h b (by simp)
    have h2 := h k (by simp)
    simp only [sidx, tyc, List.length_cons, List.length_nil, Nat.pow_zero, Nat.mul_one, Nat.add_zero, Nat.zero_add, Nat.pow_one]
    rw [show (b * 256 + k) / 256 % 256 = b by omega, show (b * 256 + k) % 256 = k by omega]
  | b :: c :: d :: t, h => by
    have ih := sidx_n (t := c :: d :: t) fun x hx => h x (List.mem_cons_of_mem _ hx)
    have e : tyc (b :: c :: d :: t) = 65536 * (b * 256 ^ t.length) + tyc (c :: d :: t) := by
      show b * 256 ^ (t.length + 1 + 1) + _ = _
      rw [Nat.pow_succ, Nat.pow_succ]
      have : b * (256 ^ t.length * 256 * 256) = 65536 * (b * 256 ^ t.length) := by
        rw [Nat.mul_assoc (256 ^ t.length), ← Nat.mul_assoc, Nat.mul_comm]
      rw [this]
    show sidx (c :: d :: t) = _
    rw [ih, e]
    generalize b * 256 ^ t.length = z
    generalize tyc (c :: d :: t) = y
    rw [show (65536 * z + y) / 256 % 256 = y / 256 % 256 by omega, show (65536 * z + y) % 256 = y % 256 by omega]
def tck (n : Nat) (x : Ty × Nat) : Option (Nat × Nat) := match sidx x.1 with
  | some k => if k < n then none else some (7, x.2)
  | none => none
def sop (own n k q : Nat) : Option (Nat × Nat) := if k < n then (if k < own then none else some (8, q)) else some (7, q)
def ife (b : Bool) (w q : Nat) : Option (Nat × Nat) := if b then none else some (w, q)
def fco (m : Md) (k : Nat) : Nat := match m.2.1[k]? with
  | some s => s.2.2.length
  | none => 0
def nst (m : Md) : Nat := m.2.1.length + m.2.2.1.length
def nlo (u : Ux) : Nat := u.2.1.length + u.2.2.2.1.length
def ick (m : Md) (u : Ux) (x : Ix) : Option (Nat × Nat) := match fmo x.1 with
  | 3 => sop m.2.1.length (nst m) x.2.1 (x.2.2.2 + 1)
  | 6 => (sop m.2.1.length (nst m) x.2.1 (x.2.2.2 + 1)).or (ife (decide (x.2.2.1 < fco m x.2.1)) 9 (x.2.2.2 + 2))
  | 2 => ife (decide (x.2.1 < nlo u)) 10 (x.2.2.2 + 1)
  | 4 => ife (decide (x.2.1 < m.2.2.2.2.2.length + m.2.2.2.1.length)) 11 (x.2.2.2 + 1)
  | 5 => ife (decide (x.2.1 < m.2.2.2.2.1.length)) 12 (x.2.2.2 + 1)
  | 7 => ife (decide (x.2.1 < m.2.2.2.2.1.length)) 12 (x.2.2.2 + 1)
  | 8 => ife (decide (x.2.1 < (ui u).length)) 13 (x.2.2.2 + 1)
  | _ => none
/-- a fault, or none -/
def OQ (r : Option (Nat × Nat)) (ok : Prop) (er : Nat → Nat → Prop) : Prop := match r with
  | none => ok
  | some e => er e.1 e.2
theorem OQ.or {a b : Option (Nat × Nat)} {ok : Prop} {er : Nat → Nat → Prop} : OQ (a.or b) ok er ↔ OQ a (OQ b ok er) er := by cases a <;> exact Iff.rfl
theorem OQ.mono {a : Option (Nat × Nat)} {ok ok' : Prop} {er er' : Nat → Nat → Prop} (h : OQ a ok er) (h1 : ok → ok') (h2 : ∀ w q, er w q → er' w q) : OQ a ok' er' := by
  cases a with
  | none => exact h1 h
  | some e => exact h2 _ _ h
def RB (h : AH) (R W Q T n : Nat) (B : Nat → Nat) (m : Md) : Prop := RS h R W Q T n B n (mts m) (mcs m) ∧ MX h T (mts m) (mcs m) m
theorem RB.fr {P : Nat → Nat → Prop} {h h' : AH} {R W Q T n : Nat} {B : Nat → Nat} {m : Md} (q : Fr P h h') (np : ∀ f a, (stF ++ srF ++ tcF ++ tbF ++ [1411, 1409, 1410, 10000 + 353]).contains f = true → ¬ P f a) (s : RB h R W Q T n B m) : RB h' R W Q T n B m := by
  have np' : ∀ l : List Nat, l.all (fun f => (stF ++ srF ++ tcF ++ tbF ++ [1411, 1409, 1410, 10000 + 353]).contains f) = true → ∀ f a, l.contains f = true → ¬ P f a := fun l hl f a hf => np f a (by
    rw [List.all_eq_true] at hl
    exact hl f (List.contains_iff_mem.mp hf))
  exact ⟨s.1.ch q (np' _ rfl) (Nat.le_refl _) (Nat.le_refl _) (by rw [q.I (np _ _ rfl)]; exact s.1.2.2.1), s.2.fr q fun f a hf _ _ => np' tbF rfl f a hf⟩
theorem rneed2_ok {G : Gt} {d : Nat} {h : AH} {K : Outcome → AH → Prop} {R W Q T w q : Nat} {b : Bool} (hs : SRd h R W Q) (hd : 1 ≤ d) (kk : OQ (ife b w q) (K (.returned none) h) (TE K R W T h)) : MW G d e_X12_need [.ref R, .int (bI b), .int (nI w), .int (nI q)] h K := by
  refine rneed_ok (T := T) (p := 0) hs hd ?_
  cases b
  · exact kk
  · exact kk
theorem sop_ok {G : Gt} {d : Nat} {h : AH} {K : Outcome → AH → Prop} {R W Q T n k q : Nat} {B : Nat → Nat} {m : Md} (hs : RB h R W Q T n B m) (hk : k < 65536) (hd : 2 ≤ d) (kk : OQ (sop m.2.1.length (nst m) k q) (K (.returned none) h) (TE K R W T h)) : MW G d e_X12_structureOperand [.ref R, .int (nI k), .int (nI q)] h K := by
  refine st_X12_structureOperand fun X o hG hD hf => ?_
  subst hG; subst hD
  obtain ⟨⟨⟨s1, s2, s3⟩, s4, -⟩, ⟨⟨a1, a2, a3, a4, a5⟩, ⟨b1, b2, b3, b4, b5, b6⟩, -⟩⟩ := id hs
  have t0 := s1.1
  have t1 := s3.1.1
  have e : sop m.2.1.length (nst m) k q = (ife (decide (k < nst m)) 7 q).or (ife (decide (k < m.2.1.length)) 8 q) := by
    unfold sop ife nst
    by_cases c : k < m.2.1.length + m.2.2.1.length
    · rw [if_pos c, decide_eq_true c]
      by_cases c2 : k < m.2.1.length
      · rw [if_pos c2, decide_eq_true c2]; rfl
      · rw [if_neg c2, decide_eq_false c2]; rfl
    · rw [if_neg c, decide_eq_false c]; rfl
  rw [e] at kk
  have kk := OQ.or.mp kk
  refine k_X12_structureOperand_0 o ?_
  refine st_X3_structureCount fun X' o' hG' hD' _ => ?_
  refine k_X3_structureCount_0 o' ?_
  rw [nI_add]
  show V X K 9 [.ref R, .int (nI k), .int (nI q)] [.int (nI (nst m)), .int (nI k), .ref R] h
  have hn : nst m ≤ 64 := by unfold nst; omega
  have key : ∀ c : Bool, (c = true ↔ k < nst m) → V X K 17 [.ref R, .int (nI k), .int (nI q)] [.int (bI c), .ref R] h := fun c hc => by
    have : decide (k < nst m) = c := by
      cases c with
      | true => exact decide_eq_true (hc.mp rfl)
      | false => exact decide_eq_false fun z => absurd (hc.mpr z) (by decide)
    rw [this] at kk
    refine k_X12_structureOperand_17 o ?_
    refine rneed2_ok (T := T) s1 (by omega) (kk.mono (fun k2 => ?_) (fun w q t => t))
    have key2 : ∀ c : Bool, (c = true ↔ k < m.2.1.length) → V X K 40 [.ref R, .int (nI k), .int (nI q)] [.int (bI c), .ref R] h := fun c hc => by
      have : decide (k < m.2.1.length) = c := by
        cases c with
        | true => exact decide_eq_true (hc.mp rfl)
        | false => exact decide_eq_false fun z => absurd (hc.mpr z) (by decide)
      rw [this] at k2
      refine k_X12_structureOperand_40 o ?_
      refine rneed2_ok (T := T) s1 (by omega) (k2.mono (fun k3 => ?_) (fun w q t => t))
      exact k_X12_structureOperand_46 o k3
    refine k_X12_structureOperand_23 o (fun c => ?_) (fun c => ?_)
    · have c := (nI_leI (by omega) (by omega)).mp c
      refine k_X12_structureOperand_39 o ?_
      exact key2 false (by constructor <;> intro z; cases z; omega)
    · have c : k < m.2.1.length := Nat.not_le.mp fun z => c ((nI_leI (by omega) (by omega)).mpr z)
      refine k_X12_structureOperand_35 o ?_
      exact key2 true ⟨fun _ => c, fun _ => rfl⟩
  refine k_X12_structureOperand_9 o (fun c => ?_) (fun c => ?_)
  · have c := (nI_leI (by omega) (by omega)).mp c
    refine k_X12_structureOperand_16 o ?_
    exact key false (by constructor <;> intro z; cases z; omega)
  · have c : k < nst m := Nat.not_le.mp fun z => c ((nI_leI (by omega) (by omega)).mpr z)
    refine k_X12_structureOperand_12 o ?_
    exact key true ⟨fun _ => c, fun _ => rfl⟩
/-- an instruction's numbers are as long as its form says -/
def ixw (x : Ix) : Prop := x.1 < 60 ∧ x.2.1 < 256 ^ fq1 x.1 ∧ x.2.2.1 < 256 ^ fq2 x.1 ∧ x.2.2.2 < 2048
theorem dle {a b : Nat} (ha : a < 2147483648) (hb : b < 2147483648) : (nI a ≤ nI b → decide (b < a) = false) ∧ (¬ nI a ≤ nI b → decide (b < a) = true) :=
  ⟨fun c => decide_eq_false (by have := (nI_leI ha hb).mp c; omega), fun c => decide_eq_true (Nat.not_le.mp fun z => c ((nI_leI ha hb).mpr z))⟩
theorem operands_ok {G : Gt} {d : Nat} {h : AH} {K : Outcome → AH → Prop} {R W Q T n F i : Nat} {B : Nat → Nat} {m : Md} {u : Ux} {x : Ix} (hs : RB h R W Q T n B m) (hF : h.tag F = some (7, 0)) (hL : h.R 897 F = some (F + 1) ∧ h.R 898 F = some (F + 2) ∧ h.R 899 F = some (F + 3)) (hS : h.tag (F + 1) = some (4, 0) ∧ h.tag (F + 2) = some (4, 0) ∧ h.tag (F + 3) = some (4, 0)) (hu : UX h F (mts m) (mcs m) u) (hul : nlo u < 256 ∧ (ui u).length < 65536) (hx : (mcs m)[i]? = some x) (hw : ixw x) (hd : 3 ≤ d)
    (kk : OQ (ick m u x) (K (.returned none) h) (TE K R W T h)) : MW G d e_X12_operands [.ref R, .ref F, .int (nI i)] h K := by
  refine st_X12_operands fun X o hG hD hf => ?_
  subst hG; subst hD
  obtain ⟨⟨⟨s1, s2, s3⟩, s4, s5, s6, s7, s9, s10⟩, ⟨⟨a1, a2, a3, a4, a5⟩, ⟨b1, b2, b3, b4, b5, b6⟩, m1, m2, m3, m4, m5⟩⟩ := id hs
  obtain ⟨⟨g1, g2, g3, g4', g5, g6⟩, ⟨p1, p2, p3, p4, p5, p6, p7, p8⟩, ⟨c1, c2, c3, c4, c5, c6, c7, c8, c9⟩, d1, d2⟩ := id s3
  have t0 := s1.1
  have hn := s4.2.1
  have hi : i < (mcs m).length := get_lt hx
  obtain ⟨e1, e2, e3, e4⟩ := s9.2 i x hx
  have ix : IX (nI i) 2048 i := IX.mk (by omega) (by omega)
  obtain ⟨w1, w2, w3, w4⟩ := hw
  have u5 : h.I 901 F = nI (ui u).length := by obtain ⟨a, b, z1, z2, z3⟩ := hu.2.2.2.2; exact z3
  have u6 : h.I 513 (F + 1) = nI u.2.1.length := by obtain ⟨a, b, z1, z2, z3⟩ := hu.2.1; exact z3
  have u7 : h.I 513 (F + 3) = nI u.2.2.2.1.length := by obtain ⟨a, b, z1, z2, z3⟩ := hu.2.2.2.1; exact z3
  have u8 : h.I 513 (T + 6) = nI m.2.2.2.2.1.length := by obtain ⟨a, b, z1, z2, z3⟩ := m4; exact z3
  obtain ⟨hL1, hL2, hL3⟩ := hL
  obtain ⟨hS1, hS2, hS3⟩ := hS
  refine k_X12_operands_0 o ?_
  rw [lN_32, nI_add]
  refine formOf_ok w1 ?_
  have hm := fmo_lt x.1
  refine k_ord o hm (by omega) rfl ?_
  have sw : ∀ k : Fin 11, swt 2 [159, 92, 183, 210, 102, 210, 240] 264 (nI k.val) = ([264, 264, 159, 92, 183, 210, 102, 210, 240, 264, 264] : List Nat).getD k.val 0 := by decide +kernel
  refine k_X12_operands_48 o ?_
  rw [sw ⟨_, hm⟩]
  unfold ick at kk
  have hq1 : x.2.1 < 65536 ∨ fmo x.1 = 9 ∨ fmo x.1 = 10 := by
    have : ∀ k : Fin 11, 256 ^ (([0, 1, 1, 1, 1, 1, 1, 1, 2, 8, 8] : List Nat).getD k.val 0) ≤ 65536 ∨ k.val = 9 ∨ k.val = 10 := by decide
    rcases this ⟨_, hm⟩ with z | z
    · exact Or.inl (Nat.lt_of_lt_of_le w2 z)
    · exact Or.inr z
  have hq2 : fmo x.1 = 6 → x.2.2.1 < 256 := fun z => by unfold fq2 at w3; rw [z] at w3; exact w3
  have fin : K (.returned none) h → V X K 264 [.ref R, .ref F, .int (nI i), .int (nI x.2.1), .int (nI (x.2.2.2 + 1))] [] h := fun k => k_X12_operands_264 o k
  show V X K (([264, 264, 159, 92, 183, 210, 102, 210, 240, 264, 264] : List Nat).getD (fmo x.1) 0) [.ref R, .ref F, .int (nI i), .int (nI x.2.1), .int (nI (x.2.2.2 + 1))] [] h
  generalize fmo x.1 = f at *
  generalize x.2.1 = one at *
  generalize x.2.2.1 = other at *
  generalize x.2.2.2 = pl at *
  have : f = 0 ∨ f = 1 ∨ f = 2 ∨ f = 3 ∨ f = 4 ∨ f = 5 ∨ f = 6 ∨ f = 7 ∨ f = 8 ∨ f = 9 ∨ f = 10 := by omega
  have el : ∀ g, g = 5 ∨ g = 7 → f = g → OQ (ife (decide (one < m.2.2.2.2.1.length)) 12 (pl + 1)) (K (.returned none) h) (TE K R W T h) → V X K 210 [.ref R, .ref F, .int (nI i), .int (nI one), .int (nI (pl + 1))] [] h := fun g hg hfg kk => by
    have key : ∀ c : Bool, decide (one < m.2.2.2.2.1.length) = c → V X K 230 [.ref R, .ref F, .int (nI i), .int (nI one), .int (nI (pl + 1))] [.int (bI c), .ref R] h := fun c hc => by
      rw [hc] at kk
      refine k_X12_operands_230 o ?_
      refine rneed2_ok (T := T) s1 (by omega) (kk.mono (fun k2 => ?_) (fun w q t => t))
      refine k_X12_operands_237 o ?_
      exact fin k2
    refine k_X12_operands_210 o (fun c => ?_) (fun c => ?_)
    · refine k_X12_operands_229 o ?_
      exact key false ((dle (by omega) (by omega)).1 c)
    · refine k_X12_operands_225 o ?_
      exact key true ((dle (by omega) (by omega)).2 c)
  rcases this with e | e | e | e | e | e | e | e | e | e | e <;> subst e
  · exact fin kk
  · exact fin kk
  · have kk : OQ (ife (decide (one < nlo u)) 10 (pl + 1)) (K (.returned none) h) (TE K R W T h) := kk
    show V X K 159 _ _ _
    have key : ∀ c : Bool, decide (one < nlo u) = c → V X K 173 [.ref R, .ref F, .int (nI i), .int (nI one), .int (nI (pl + 1))] [.int (bI c), .ref R] h := fun c hc => by
      rw [hc] at kk
      refine k_X12_operands_173 o ?_
      refine rneed2_ok (T := T) s1 (by omega) (kk.mono (fun k2 => ?_) (fun w q t => t))
      refine k_X12_operands_180 o ?_
      exact fin k2
    refine k_X12_operands_159 o ?_
    refine st_X8_localCount fun X' o' hG' hD' _ => ?_
    refine k_X8_localCount_0 o' ?_
    rw [nI_add]
    show V X K 165 [.ref R, .ref F, .int (nI i), .int (nI one), .int (nI (pl + 1))] [.int (nI (nlo u)), .int (nI one), .ref R] h
    refine k_X12_operands_165 o (fun c => ?_) (fun c => ?_)
    · refine k_X12_operands_172 o ?_
      exact key false ((dle (by omega) (by omega)).1 c)
    · refine k_X12_operands_168 o ?_
      exact key true ((dle (by omega) (by omega)).2 c)
  · have kk : OQ (sop m.2.1.length (nst m) one (pl + 1)) (K (.returned none) h) (TE K R W T h) := kk
    show V X K 92 _ _ _
    refine k_X12_operands_92 o ?_
    refine sop_ok hs (by omega) (by omega) (kk.mono (fun k2 => ?_) (fun w q t => t))
    refine k_X12_operands_99 o ?_
    exact fin k2
  · have kk : OQ (ife (decide (one < m.2.2.2.2.2.length + m.2.2.2.1.length)) 11 (pl + 1)) (K (.returned none) h) (TE K R W T h) := kk
    show V X K 183 _ _ _
    have key : ∀ c : Bool, decide (one < m.2.2.2.2.2.length + m.2.2.2.1.length) = c → V X K 200 [.ref R, .ref F, .int (nI i), .int (nI one), .int (nI (pl + 1))] [.int (bI c), .ref R] h := fun c hc => by
      rw [hc] at kk
      refine k_X12_operands_200 o ?_
      refine rneed2_ok (T := T) s1 (by omega) (kk.mono (fun k2 => ?_) (fun w q t => t))
      refine k_X12_operands_207 o ?_
      exact fin k2
    refine k_X12_operands_183 o ?_
    refine st_X3_functionCount fun X' o' hG' hD' _ => ?_
    refine k_X3_functionCount_0 o' ?_
    rw [nI_add]
    show V X K 192 [.ref R, .ref F, .int (nI i), .int (nI one), .int (nI (pl + 1))] [.int (nI (m.2.2.2.2.2.length + m.2.2.2.1.length)), .int (nI one), .ref R] h
    refine k_X12_operands_192 o (fun c => ?_) (fun c => ?_)
    · refine k_X12_operands_199 o ?_
      exact key false ((dle (by omega) (by omega)).1 c)
    · refine k_X12_operands_195 o ?_
      exact key true ((dle (by omega) (by omega)).2 c)
  · exact el 5 (Or.inl rfl) rfl kk
  · have kk : OQ ((sop m.2.1.length (nst m) one (pl + 1)).or (ife (decide (other < fco m one)) 9 (pl + 2))) (K (.returned none) h) (TE K R W T h) := kk
    have kk := OQ.or.mp kk
    show V X K 102 _ _ _
    refine k_X12_operands_102 o ?_
    by_cases ho : one < m.2.1.length
    · have es : sop m.2.1.length (nst m) one (pl + 1) = none := by unfold sop nst; rw [if_pos (by omega), if_pos ho]
      refine sop_ok hs (by omega) (by omega) ?_
      rw [es] at kk ⊢
      have k2 : OQ (ife (decide (other < fco m one)) 9 (pl + 2)) (K (.returned none) h) (TE K R W T h) := kk
      have hother := hq2 rfl
      obtain ⟨q1, q2, q3, q4⟩ := d1 one (by omega)
      have hsx := m1 one _ (List.getElem?_eq_getElem ho)
      have u9 : h.I 513 (T + 13 + 2 * one) = nI (fco m one) := by
        obtain ⟨a, b, z1, z2, z3⟩ := hsx.2.2
        rw [show T + 12 + 2 * one + 1 = T + 13 + 2 * one by omega] at z3
        rw [z3]; unfold fco; rw [List.getElem?_eq_getElem ho]
      have hfc : fco m one < 2147483648 := by
        unfold fco; rw [List.getElem?_eq_getElem ho]
        obtain ⟨a, b, z1, z2, z3⟩ := hsx.2.2
        have l1 : (mts m).length ≤ n := s7.2
        rw [z1] at l1
        simp at l1
        have := s4.2.1
        show (m.2.1[one]).2.2.length < _
        omega
      have ix2 : IX (nI one) 64 one := IX.mk (by omega) (by omega)
      have key : ∀ c : Bool, decide (other < fco m one) = c → V X K 147 [.ref R, .ref F, .int (nI i), .int (nI one), .int (nI (pl + 1))] [.int (bI c), .ref R] h := fun c hc => by
        rw [hc] at k2
        refine k_X12_operands_147 o ?_
        rw [nI_add]
        refine rneed2_ok (T := T) s1 (by omega) (k2.mono (fun k2 => ?_) (fun w q t => t))
        refine k_X12_operands_156 o ?_
        exact fin k2
      have hle : (nI (fco m one)).toInt64 ≤ lN other ↔ fco m one ≤ other := by rw [nI_l hfc]; exact lN_leI (by omega) (by omega)
      show V X K 109 [.ref R, .ref F, .int (nI i), .int (nI one), .int (nI (pl + 1))] [] h
      refine k_X12_operands_109 o (fun c => ?_) (fun c => ?_)
      · refine k_X12_operands_146 o ?_
        exact key false (decide_eq_false (by have := hle.mp c; omega))
      · refine k_X12_operands_142 o ?_
        exact key true (decide_eq_true (Nat.not_le.mp fun z => c (hle.mpr z)))
    · have es : ∃ w q, sop m.2.1.length (nst m) one (pl + 1) = some (w, q) := by
        unfold sop
        by_cases z : one < nst m
        · rw [if_pos z, if_neg ho]; exact ⟨_, _, rfl⟩
        · rw [if_neg z]; exact ⟨_, _, rfl⟩
      obtain ⟨w, q, es⟩ := es
      refine sop_ok hs (by omega) (by omega) ?_
      rw [es] at kk ⊢
      exact kk
  · exact el 7 (Or.inr rfl) rfl kk
  · have kk : OQ (ife (decide (one < (ui u).length)) 13 (pl + 1)) (K (.returned none) h) (TE K R W T h) := kk
    show V X K 240 _ _ _
    have key : ∀ c : Bool, decide (one < (ui u).length) = c → V X K 254 [.ref R, .ref F, .int (nI i), .int (nI one), .int (nI (pl + 1))] [.int (bI c), .ref R] h := fun c hc => by
      rw [hc] at kk
      refine k_X12_operands_254 o ?_
      refine rneed2_ok (T := T) s1 (by omega) (kk.mono (fun k2 => ?_) (fun w q t => t))
      refine k_X12_operands_261 o ?_
      exact fin k2
    refine k_X12_operands_240 o (fun c => ?_) (fun c => ?_)
    · refine k_X12_operands_253 o ?_
      exact key false ((dle (by omega) (by omega)).1 c)
    · refine k_X12_operands_249 o ?_
      exact key true ((dle (by omega) (by omega)).2 c)
  · exact fin kk
  · exact fin kk
