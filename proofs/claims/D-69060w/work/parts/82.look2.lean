/-! numbers of instructions, looked at -/
theorem rdI_v {n : Nat} {B : Nat → Nat} {p q : Nat} {x : Ix} (h : rdI n B p = .ok (x, q)) : x.1 = B p ∧ B p < 60 ∧ x.2.1 = bn B 0 (p + 1) (fq1 (B p)) ∧ x.2.2.1 = bn B 0 (p + 1 + fq1 (B p)) (fq2 (B p)) ∧ x.2.2.2 = p ∧ q = p + 1 + fq1 (B p) + fq2 (B p) ∧ q ≤ n := by
  obtain ⟨b, p1, h1, h⟩ := bd_ok h
  obtain ⟨rfl, rfl, e1⟩ := rdB_ok h1
  obtain ⟨u, p2, h2, h⟩ := bd_ok h
  obtain ⟨e2, rfl⟩ := nd_ok h2
  obtain ⟨v, p3, h3, h⟩ := bd_ok h
  obtain ⟨rfl, rfl, e3⟩ := rdN_ok h3
  obtain ⟨u2, p4, h4, h⟩ := bd_ok h
  obtain ⟨e4, rfl⟩ := nd_ok h4
  obtain ⟨w, p5, h5, h⟩ := bd_ok h
  obtain ⟨rfl, rfl, e5⟩ := rdN_ok h5
  cases h
  exact ⟨rfl, of_decide_eq_true e2, rfl, rfl, rfl, rfl, e5 (e3 (by omega))⟩
theorem bn1 (B : Nat → Nat) (p : Nat) : bn B 0 p 1 = B p := by simp [bn]
theorem bn2 (B : Nat → Nat) (p : Nat) : bn B 0 p 2 = 256 * B p + B (p + 1) := by simp [bn]
theorem ulO_ok {G : Gt} {d : Nat} {h : AH} {K : Outcome → AH → Prop} {U n p a b : Nat} {B : Nat → Nat} (hs : SU h U n B) (hp : p < 4096) (h1 : h.I 3589 U = nI a) (h2 : h.I 3590 U = nI b) (ha : a ≤ 32) (hb : b ≤ 32) (hr : h.I 3587 U = 0) (hd : 1 ≤ d)
    (kk : ∀ h', Fq (UQ ulF U) h h' → LFt h' U (sop a (a + b) (B p) p) → K (.returned none) h') : MW G d e_X29_lookOwn [.ref U, .int (nI p)] h K := by
  refine st_X29_lookOwn fun X o hG hD _ => ?_
  subst hG; subst hD
  have s0 := hs.1.1
  have hB := hs.2.2.2.1 p
  unfold sop at kk
  refine k_X29_lookOwn_0 o ?_
  refine ubyte_ok hs (by omega) ?_
  refine k_X29_lookOwn_5 o (fun c => ?_) (fun c => ?_)
  · rw [nI_add] at c
    have c := (nI_ltI (by omega) (by omega)).mp c
    rw [if_pos c] at kk
    refine k_X29_lookOwn_27 o ?_
    refine ubyte_ok hs (by omega) ?_
    refine k_X29_lookOwn_32 o (fun c2 => ?_) (fun c2 => ?_)
    · have c2 := (nI_ltI (by omega) (by omega)).mp c2
      rw [if_pos c2] at kk
      refine k_X29_lookOwn_46 o ?_
      exact kk h (Fq.refl h) hr
    · have c2 : ¬ B p < a := fun z => c2 ((nI_ltI (by omega) (by omega)).mpr z)
      rw [if_neg c2] at kk
      refine k_X29_lookOwn_39 o ?_
      refine ufk_ok (r := none) s0 hr (by decide) fun h' f' l' => ?_
      refine k_X29_lookOwn_46 o ?_
      exact kk h' f' l'
  · rw [nI_add] at c
    have c : ¬ B p < a + b := fun z => c ((nI_ltI (by omega) (by omega)).mpr z)
    rw [if_neg c] at kk
    refine k_X29_lookOwn_17 o ?_
    refine ufk_ok (r := none) s0 hr (by decide) fun h' f' l' => ?_
    refine k_X29_lookOwn_24 o ?_
    refine k_X29_lookOwn_46 o ?_
    exact kk h' f' l'
theorem UM.uq {l : List Nat} {h h' : AH} {U n : Nat} {B : Nat → Nat} {m : Md} (q : Fq (UQ l U) h h') (hl : [3589, 3590, 3591, 3592, 3593, 10000 + 2144, 10000 + 2160, 10000 + 2176, 10000 + 2192, 10000 + 2208, 10000 + 2224].all (fun f => !l.contains f) = true) (s : UM h U n B m) : UM h' U n B m := by
  have np : ∀ f, [3589, 3590, 3591, 3592, 3593, 10000 + 2144, 10000 + 2160, 10000 + 2176, 10000 + 2192, 10000 + 2208, 10000 + 2224].contains f = true → l.contains f = false := fun f hf => by
    rw [List.all_eq_true] at hl
    simpa using hl f (List.contains_iff_mem.mp hf)
  obtain ⟨s1, s2, s3, s4, ⟨s5, s6, s7⟩, s8, s9, s10⟩ := s
  refine ⟨s1.uq q (np _ rfl) (np _ rfl), s2.uq q (np _ rfl) (np _ rfl), s3.uq q (np _ rfl) (np _ rfl), s4.uq q (np _ rfl) (np _ rfl), ⟨by rw [q.1.I (UQ.n (np _ rfl))]; exact s5, s6, s7⟩, s8.eq fun j _ => q.1.EI (UQ.n (np _ rfl)) j, fun k hk => ?_, fun i x hx => ?_⟩
  · rw [q.1.EI (UQ.n (np _ rfl)), q.1.EI (UQ.n (np _ rfl))]; exact s9 k hk
  · rw [q.1.EI (UQ.n (np _ rfl))]; exact s10 i x hx
theorem ufo_ok {G : Gt} {d : Nat} {h : AH} {K : Outcome → AH → Prop} {U n k : Nat} {B : Nat → Nat} {m : Md} {s : Sx} (hs : SU h U n B) (hm : UM h U n B m) (hk : m.2.1[k]? = some s) (hd : 1 ≤ d) (kk : K (.returned (some (.int (nI s.2.2.length)))) h) : MW G d e_X29_fieldsOf [.ref U, .int (nI k)] h K := by
  refine st_X29_fieldsOf fun X o hG hD _ => ?_
  subst hG; subst hD
  obtain ⟨⟨u3, ⟨z1, z2, z3, z4, z5, z6, z7, z8⟩, y1, y2, y3, y4, y5, y6, y7, y8⟩, -⟩ := id hs
  have hk' := get_lt hk
  have h32 := hm.1.2.1
  obtain ⟨p, q, e1, e2, e3⟩ := hm.1.2.2 k s hk
  rw [Nat.zero_add] at e1
  have ix : IX (nI k) 64 k := IX.mk (by omega) (by omega)
  refine k_X29_fieldsOf_0 o ?_
  rw [nI_add]
  refine ubyte_ok hs (by omega) ?_
  refine k_X29_fieldsOf_12 o ?_
  obtain ⟨a, p1, f1, f⟩ := bd_ok e3
  obtain ⟨rfl, rfl, -⟩ := rdC_ok f1
  obtain ⟨c, p2, f2, f⟩ := bd_ok f
  obtain ⟨rfl, rfl, -⟩ := rdC_ok f2
  obtain ⟨l, p3, f3, f⟩ := bd_ok f
  cases f
  have hl := rep_len f3
  have kk : K (.returned (some (.int (nI l.length)))) h := kk
  rw [hl] at kk
  exact kk
theorem ulI_ok {G : Gt} {d : Nat} {h : AH} {K : Outcome → AH → Prop} {U n p q : Nat} {B : Nat → Nat} {m : Md} {u : Ux} {x : Ix} (hs : SU h U n B) (hm : UM h U n B m) (hx : rdI n B p = .ok (x, q)) (hr : h.I 3587 U = 0) (hul : nlo u < 256 ∧ (ui u).length ≤ 1024) (hd : 2 ≤ d)
    (kk : ∀ h', Fq (UQ ulF U) h h' → LFt h' U (ick m u x) → K (.returned none) h') : MW G d e_X29_lookInstruction [.ref U, .int (nI p), .int (nI (nlo u)), .int (nI (ui u).length)] h K := by
  refine st_X29_lookInstruction fun X o hG hD _ => ?_
  subst hG; subst hD
  have s0 := hs.1.1
  have hn := hs.2.2.1
  have hB := hs.2.2.2.1
  obtain ⟨v1, v2, v3, v4, v5, v6, v7⟩ := rdI_v hx
  have hBp := hB p
  have hB1 := hB (p + 1)
  have hB2 := hB (p + 2)
  have hst := hm.1.1
  have hst2 := hm.1.2.1
  have hfo := hm.2.1.1
  have hfo2 := hm.2.1.2.1
  have hca := hm.2.2.1.1
  have hca2 := hm.2.2.1.2.1
  have hel := hm.2.2.2.1.1
  have hel2 := hm.2.2.2.1.2.1
  have hfu := hm.2.2.2.2.1.1
  have hfu2 := hm.2.2.2.2.1.2.1
  have fin : ∀ h' (v4 : Value), Fq (UQ ulF U) h h' → LFt h' U (ick m u x) → V X K 253 [.ref U, .int (nI p), .int (nI (nlo u)), .int (nI (ui u).length), v4] [] h' := fun h' v4 f' l' => by
    exact k_X29_lookInstruction_253 o (kk h' f' l')
  unfold ick at fin
  rw [v1, v5] at fin
  have tab : ∀ k : Fin 60, fmo k.val = if 1 < k.val ∧ k.val < 5 then 8 else if 10 < k.val ∧ k.val < 16 then 2 else if k.val = 16 ∨ k.val = 17 then 6 else if k.val = 21 ∨ k.val = 22 ∨ (46 < k.val ∧ k.val < 52) then 3 else if k.val = 23 then 4 else if 51 < k.val ∧ k.val < 59 then (if k.val = 52 then 7 else 5) else if k.val = 5 then 1 else if k.val = 6 ∨ k.val = 10 then 9 else if k.val = 7 then 10 else 0 := by decide +kernel
  have tab := tab ⟨_, v2⟩
  simp only at tab
  have q1 : fq1 (B p) = ([0, 1, 1, 1, 1, 1, 1, 1, 2, 8, 8] : List Nat).getD (fmo (B p)) 0 := rfl
  have q2 : fq2 (B p) = ([0, 0, 0, 0, 0, 0, 1, 1, 0, 0, 8] : List Nat).getD (fmo (B p)) 0 := rfl
  generalize hb : B p = b at *
  have le : ∀ {a c : Nat}, a < 2147483648 → c < 2147483648 → (nI a ≤ nI c ↔ a ≤ c) := fun ha hc => nI_leI ha hc
  have lt : ∀ {a c : Nat}, a < 2147483648 → c < 2147483648 → (nI a < nI c ↔ a < c) := fun ha hc => nI_ltI ha hc
  have eq : ∀ {a c : Nat}, a < 2147483648 → c < 2147483648 → (nI a = nI c ↔ a = c) := fun ha hc => nI_eq (by omega) (by omega)
  refine k_X29_lookInstruction_0 o ?_
  refine ubyte_ok hs (by omega) ?_
  rw [hb]
  -- the last ones
  have b216 : ¬ (1 < b ∧ b < 5) → ¬ (10 < b ∧ b < 16) → ¬ (b = 16 ∨ b = 17) → ¬ (b = 21 ∨ b = 22 ∨ (46 < b ∧ b < 52)) → ¬ b = 23 → V X K 216 [.ref U, .int (nI p), .int (nI (nlo u)), .int (nI (ui u).length), .int (nI b)] [] h := fun c1 c2 c3 c4 c5 => by
    rw [if_neg c1, if_neg c2, if_neg c3, if_neg c4, if_neg c5] at tab
    have none_ : ¬ (51 < b ∧ b < 59) → V X K 253 [.ref U, .int (nI p), .int (nI (nlo u)), .int (nI (ui u).length), .int (nI b)] [] h := fun c6 => by
      rw [if_neg c6] at tab
      refine fin h _ (Fq.refl h) ?_
      have : fmo b = 1 ∨ fmo b = 9 ∨ fmo b = 10 ∨ fmo b = 0 := by
        rw [tab]; split
        · exact Or.inl rfl
        · split
          · exact Or.inr (Or.inl rfl)
          · split
            · exact Or.inr (Or.inr (Or.inl rfl))
            · exact Or.inr (Or.inr (Or.inr rfl))
      rcases this with e | e | e | e <;> rw [e] <;> exact hr
    refine k_X29_lookInstruction_216 o (fun z => ?_) (fun z => ?_)
    · have z := (le (by omega) (by omega)).mp z
      exact none_ (by omega)
    have z : ¬ b ≤ 51 := fun w => z ((le (by omega) (by omega)).mpr w)
    refine k_X29_lookInstruction_223 o (fun z2 => ?_) (fun z2 => ?_)
    · have z2 := (le (by omega) (by omega)).mp z2
      exact none_ (by omega)
    have z2 : ¬ 59 ≤ b := fun w => z2 ((le (by omega) (by omega)).mpr w)
    rw [if_pos (by omega)] at tab
    have fm : fmo b = 5 ∨ fmo b = 7 := by rw [tab]; split; exact Or.inr rfl; exact Or.inl rfl
    have e1 : x.2.1 = B (p + 1) := by
      rw [v3, q1]
      rcases fm with e | e <;> rw [e] <;> exact bn1 B (p + 1)
    have fin2 : ∀ h' (v4 : Value), Fq (UQ ulF U) h h' → LFt h' U (ife (decide (B (p + 1) < m.2.2.2.2.1.length)) 12 (p + 1)) → V X K 253 [.ref U, .int (nI p), .int (nI (nlo u)), .int (nI (ui u).length), v4] [] h' := fun h' v4 f' l' => by
      refine fin h' v4 f' ?_
      rw [e1]
      rcases fm with e | e <;> rw [e] <;> exact l'
    refine k_X29_lookInstruction_230 o ?_
    rw [nI_add]
    refine ubyte_ok hs (by omega) ?_
    refine k_X29_lookInstruction_237 o (fun c => ?_) (fun c => ?_)
    · have c := (lt (by omega) (by omega)).mp c
      refine fin2 h _ (Fq.refl h) ?_
      rw [decide_eq_true c]; exact hr
    · have c : ¬ B (p + 1) < m.2.2.2.2.1.length := fun w => c ((lt (by omega) (by omega)).mpr w)
      refine k_X29_lookInstruction_244 o ?_
      rw [nI_add]
      refine ufk_ok (r := none) s0 hr (by decide) fun h' f' l' => ?_
      refine fin2 h' _ f' ?_
      rw [decide_eq_false c]; exact l'
  have b178 : ¬ (1 < b ∧ b < 5) → ¬ (10 < b ∧ b < 16) → ¬ (b = 16 ∨ b = 17) → ¬ (b = 21 ∨ b = 22 ∨ (46 < b ∧ b < 52)) → V X K 178 [.ref U, .int (nI p), .int (nI (nlo u)), .int (nI (ui u).length), .int (nI b)] [] h := fun c1 c2 c3 c4 => by
    refine k_X29_lookInstruction_178 o (fun z => ?_) (fun z => ?_)
    · exact b216 c1 c2 c3 c4 fun w => z (by rw [w])
    have z : b = 23 := (eq (by omega) (by omega)).mp z
    rw [if_neg c1, if_neg c2, if_neg c3, if_neg c4, if_pos z] at tab
    have e1 : x.2.1 = B (p + 1) := by rw [v3, q1, tab]; exact bn1 B (p + 1)
    rw [tab, e1] at fin
    have fin2 : ∀ h' (v4 : Value), Fq (UQ ulF U) h h' → LFt h' U (ife (decide (B (p + 1) < m.2.2.2.2.2.length + m.2.2.2.1.length)) 11 (p + 1)) → V X K 253 [.ref U, .int (nI p), .int (nI (nlo u)), .int (nI (ui u).length), v4] [] h' := fin
    refine k_X29_lookInstruction_185 o ?_
    rw [nI_add]
    refine ubyte_ok hs (by omega) ?_
    refine k_X29_lookInstruction_192 o (fun c => ?_) (fun c => ?_)
    · rw [nI_add] at c
      have c := (lt (by omega) (by omega)).mp c
      refine fin2 h _ (Fq.refl h) ?_
      rw [decide_eq_true c]; exact hr
    · rw [nI_add] at c
      have c : ¬ B (p + 1) < m.2.2.2.2.2.length + m.2.2.2.1.length := fun w => c ((lt (by omega) (by omega)).mpr w)
      refine k_X29_lookInstruction_204 o ?_
      rw [nI_add]
      refine ufk_ok (r := none) s0 hr (by decide) fun h' f' l' => ?_
      refine k_X29_lookInstruction_213 o ?_
      refine fin2 h' _ f' ?_
      rw [decide_eq_false c]; exact l'
  have b140 : ¬ (1 < b ∧ b < 5) → ¬ (10 < b ∧ b < 16) → ¬ (b = 16 ∨ b = 17) → V X K 140 [.ref U, .int (nI p), .int (nI (nlo u)), .int (nI (ui u).length), .int (nI b)] [] h := fun c1 c2 c3 => by
    have own : (b = 21 ∨ b = 22 ∨ (46 < b ∧ b < 52)) → V X K 168 [.ref U, .int (nI p), .int (nI (nlo u)), .int (nI (ui u).length), .int (nI b)] [] h := fun c4 => by
      rw [if_neg c1, if_neg c2, if_neg c3, if_pos c4] at tab
      have e1 : x.2.1 = B (p + 1) := by rw [v3, q1, tab]; exact bn1 B (p + 1)
      rw [tab, e1] at fin
      refine k_X29_lookInstruction_168 o ?_
      rw [nI_add]
      refine ulO_ok hs (by omega) hst hfo hst2 hfo2 hr (by omega) fun h' f' l' => ?_
      refine k_X29_lookInstruction_175 o ?_
      exact fin h' _ f' l'
    refine k_X29_lookInstruction_140 o (fun z => own (Or.inl ((eq (by omega) (by omega)).mp z))) (fun z1 => ?_)
    refine k_X29_lookInstruction_147 o (fun z => own (Or.inr (Or.inl ((eq (by omega) (by omega)).mp z)))) (fun z2 => ?_)
    have z1 : ¬ b = 21 := fun w => z1 (by rw [w])
    have z2 : ¬ b = 22 := fun w => z2 (by rw [w])
    refine k_X29_lookInstruction_154 o (fun z => ?_) (fun z => ?_)
    · have z := (le (by omega) (by omega)).mp z
      exact b178 c1 c2 c3 (by omega)
    have z : ¬ b ≤ 46 := fun w => z ((le (by omega) (by omega)).mpr w)
    refine k_X29_lookInstruction_161 o (fun z3 => ?_) (fun z3 => ?_)
    · have z3 := (le (by omega) (by omega)).mp z3
      exact b178 c1 c2 c3 (by omega)
    · have z3 : ¬ 52 ≤ b := fun w => z3 ((le (by omega) (by omega)).mpr w)
      exact own (by omega)
  have b79 : ¬ (1 < b ∧ b < 5) → ¬ (10 < b ∧ b < 16) → V X K 79 [.ref U, .int (nI p), .int (nI (nlo u)), .int (nI (ui u).length), .int (nI b)] [] h := fun c1 c2 => by
    have fld : (b = 16 ∨ b = 17) → V X K 93 [.ref U, .int (nI p), .int (nI (nlo u)), .int (nI (ui u).length), .int (nI b)] [] h := fun c3 => by
      rw [if_neg c1, if_neg c2, if_pos c3] at tab
      have e1 : x.2.1 = B (p + 1) := by rw [v3, q1, tab]; exact bn1 B (p + 1)
      have e2 : x.2.2.1 = B (p + 2) := by
        rw [v4, q1, q2, tab]; exact bn1 B (p + 2)
      rw [tab, e1, e2] at fin
      have fin : ∀ h' (v4 : Value), Fq (UQ ulF U) h h' → LFt h' U ((sop m.2.1.length (nst m) (B (p + 1)) (p + 1)).or (ife (decide (B (p + 2) < fco m (B (p + 1)))) 9 (p + 2))) → V X K 253 [.ref U, .int (nI p), .int (nI (nlo u)), .int (nI (ui u).length), v4] [] h' := fin
      refine k_X29_lookInstruction_93 o ?_
      rw [nI_add]
      refine ulO_ok hs (by omega) hst hfo hst2 hfo2 hr (by omega) fun h' f' l' => ?_
      have s' := hs.uq f' rfl
      have u' := s'.1.1
      have m' := hm.uq f' rfl
      show V X K 100 [.ref U, .int (nI p), .int (nI (nlo u)), .int (nI (ui u).length), .int (nI b)] [] h'
      refine k_X29_lookInstruction_100 o ?_
      have l' : LFt h' U (sop m.2.1.length (nst m) (B (p + 1)) (p + 1)) := l'
      cases hso : sop m.2.1.length (nst m) (B (p + 1)) (p + 1) with
      | some e =>
        rw [hso] at l'
        refine ubad_ok u' l'.2.1 ?_
        refine k_X29_lookInstruction_104 o (fun _ => ?_) (fun c => absurd rfl c)
        refine fin h' _ f' ?_
        rw [hso]; exact l'
      | none =>
        rw [hso] at l'
        have hlt : B (p + 1) < m.2.1.length := by
          unfold sop at hso
          split at hso
          · split at hso
            · assumption
            · cases hso
          · cases hso
        have hfc : fco m (B (p + 1)) = (m.2.1[B (p + 1)]).2.2.length := by
          unfold fco; rw [List.getElem?_eq_getElem hlt]
        have hfl : (m.2.1[B (p + 1)]).2.2.length ≤ 16 := by
          obtain ⟨pp, qq, g1, g2, g3⟩ := hm.1.2.2 _ _ (List.getElem?_eq_getElem hlt)
          exact (rdSt_q hB g3).2.2.2.2.2.2.1
        refine ugood_ok u' l' ?_
        refine k_X29_lookInstruction_104 o (fun c => absurd c (by decide)) (fun _ => ?_)
        refine k_X29_lookInstruction_107 o ?_
        rw [nI_add]
        refine ubyte_ok s' (by omega) ?_
        refine k_X29_lookInstruction_114 o ?_
        rw [nI_add]
        refine ubyte_ok s' (by omega) ?_
        refine k_X29_lookInstruction_122 o ?_
        refine ufo_ok s' m' (List.getElem?_eq_getElem hlt) (by omega) ?_
        refine k_X29_lookInstruction_125 o (fun c => ?_) (fun c => ?_)
        · have c := (lt (by omega) (by omega)).mp c
          refine fin h' _ f' ?_
          rw [hso, hfc, decide_eq_true c]; exact l'
        · have c : ¬ B (p + 2) < (m.2.1[B (p + 1)]).2.2.length := fun w => c ((lt (by omega) (by omega)).mpr w)
          refine k_X29_lookInstruction_128 o ?_
          rw [nI_add]
          refine ufk_ok (r := none) u' l' (by decide) fun h'' f'' l'' => ?_
          refine k_X29_lookInstruction_137 o ?_
          refine fin h'' _ (f'.trans f'') ?_
          rw [hso, hfc, decide_eq_false c]; exact l''
    refine k_X29_lookInstruction_79 o (fun z => fld (Or.inl ((eq (by omega) (by omega)).mp z))) (fun z1 => ?_)
    refine k_X29_lookInstruction_86 o (fun z2 => ?_) (fun z => fld (Or.inr ((eq (by omega) (by omega)).mp z)))
    have z1 : ¬ b = 16 := fun w => z1 (by rw [w])
    have z2 : ¬ b = 17 := fun w => z2 (by rw [w])
    exact b140 c1 c2 (by omega)
  have b42 : ¬ (1 < b ∧ b < 5) → V X K 42 [.ref U, .int (nI p), .int (nI (nlo u)), .int (nI (ui u).length), .int (nI b)] [] h := fun c1 => by
    refine k_X29_lookInstruction_42 o (fun z => ?_) (fun z => ?_)
    · have z := (le (by omega) (by omega)).mp z
      exact b79 c1 (by omega)
    have z : ¬ b ≤ 10 := fun w => z ((le (by omega) (by omega)).mpr w)
    refine k_X29_lookInstruction_49 o (fun z2 => ?_) (fun z2 => ?_)
    · have z2 := (le (by omega) (by omega)).mp z2
      exact b79 c1 (by omega)
    have z2 : ¬ 16 ≤ b := fun w => z2 ((le (by omega) (by omega)).mpr w)
    rw [if_neg c1, if_pos (by omega)] at tab
    have e1 : x.2.1 = B (p + 1) := by rw [v3, q1, tab]; exact bn1 B (p + 1)
    rw [tab, e1] at fin
    have fin : ∀ h' (v4 : Value), Fq (UQ ulF U) h h' → LFt h' U (ife (decide (B (p + 1) < nlo u)) 10 (p + 1)) → V X K 253 [.ref U, .int (nI p), .int (nI (nlo u)), .int (nI (ui u).length), v4] [] h' := fin
    refine k_X29_lookInstruction_56 o ?_
    rw [nI_add]
    refine ubyte_ok hs (by omega) ?_
    refine k_X29_lookInstruction_63 o (fun c => ?_) (fun c => ?_)
    · have c := (lt (by omega) (by omega)).mp c
      refine fin h _ (Fq.refl h) ?_
      rw [decide_eq_true c]; exact hr
    · have c : ¬ B (p + 1) < nlo u := fun w => c ((lt (by omega) (by omega)).mpr w)
      refine k_X29_lookInstruction_67 o ?_
      rw [nI_add]
      refine ufk_ok (r := none) s0 hr (by decide) fun h' f' l' => ?_
      refine k_X29_lookInstruction_76 o ?_
      refine fin h' _ f' ?_
      rw [decide_eq_false c]; exact l'
  refine k_X29_lookInstruction_5 o (fun z => ?_) (fun z => ?_)
  · have z := (le (by omega) (by omega)).mp z
    exact b42 (by omega)
  have z : ¬ b ≤ 1 := fun w => z ((le (by omega) (by omega)).mpr w)
  refine k_X29_lookInstruction_13 o (fun z2 => ?_) (fun z2 => ?_)
  · have z2 := (le (by omega) (by omega)).mp z2
    exact b42 (by omega)
  have z2 : ¬ 5 ≤ b := fun w => z2 ((le (by omega) (by omega)).mpr w)
  rw [if_pos (by omega)] at tab
  have e1 : x.2.1 = 256 * B (p + 1) + B (p + 2) := by rw [v3, q1, tab]; exact bn2 B (p + 1)
  rw [tab, e1] at fin
  have fin : ∀ h' (v4 : Value), Fq (UQ ulF U) h h' → LFt h' U (ife (decide (256 * B (p + 1) + B (p + 2) < (ui u).length)) 13 (p + 1)) → V X K 253 [.ref U, .int (nI p), .int (nI (nlo u)), .int (nI (ui u).length), v4] [] h' := fin
  refine k_X29_lookInstruction_19 o ?_
  rw [nI_add]
  refine ushort_ok hs (by omega) (by omega) ?_
  rw [show p + 1 + 1 = p + 2 from rfl]
  refine k_X29_lookInstruction_26 o (fun c => ?_) (fun c => ?_)
  · have c := (lt (by omega) (by omega)).mp c
    refine fin h _ (Fq.refl h) ?_
    rw [decide_eq_true c]; exact hr
  · have c : ¬ 256 * B (p + 1) + B (p + 2) < (ui u).length := fun w => c ((lt (by omega) (by omega)).mpr w)
    refine k_X29_lookInstruction_30 o ?_
    rw [nI_add]
    refine ufk_ok (r := none) s0 hr (by decide) fun h' f' l' => ?_
    refine k_X29_lookInstruction_39 o ?_
    refine fin h' _ f' ?_
    rw [decide_eq_false c]; exact l'
