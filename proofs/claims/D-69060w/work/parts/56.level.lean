/-! the twin's hashes by levels: steps -/
def hqW : List Nat := mdF ++ [10000 + 2083]
theorem radd_ok {G : Gt} {d : Nat} {h : AH} {K : Outcome → AH → Prop} {R D A t p N : Nat} {is : Bool} {bs : List Int32} (hs : SRo h R D) (hm : MG h D bs) (hA : h.tag A = some (t, N)) (ht : 64 ≤ t ∧ t % 16 = 3) (hp : 4 * p + 4 ≤ N) (hN : N ≤ 4096) (hb : bs.length + 32 ≤ 4000) (hn : t ≠ 1971 ∧ t ≠ 1987) (hd : 2 ≤ d)
    (kk : ∀ h', Fq (FS [10000 + 1953, 3329]) h h' → MG h' D (bs ++ bytes4 (if is then q4a h t A p else z4)) → K (.returned none) h') : MW G d e_X28_add [.ref R, .ref A, .int (nI (4 * p)), .int (bI is)] h K := by
  refine st_X28_add fun X o hG hD hf => ?_
  subst hG; subst hD
  generalize hq : (if is then q4a h t A p else z4) = q at kk
  have loop : ∀ m i h1, m + i = 4 → Fq (FS [10000 + 1953, 3329]) h h1 → MG h1 D (bs ++ b4 q i) → V X K 3 [.ref R, .ref A, .int (nI (4 * p)), .int (bI is), .int (nI i)] [] h1 := by
    intro m
    induction m with
    | zero =>
      intro i h1 hi f1 g1
      have : i = 4 := by omega
      subst this
      refine k_X28_add_3 o (fun c => ?_) (fun c => ?_)
      rotate_left
      · exact absurd (by decide) c
      refine k_X28_add_38 o ?_
      refine (kk h1 f1 g1)
    | succ m ih =>
      intro i h1 hi f1 g1
      have hs1 := hs.fs f1.1 rfl
      obtain ⟨⟨e1, e2, e3, e4, e5, e6, e7, e8, e9, e10⟩, -, s1⟩ := id hs1
      have tD := s1.1.1
      have tA := f1.1.tag hA
      have i0 : IX (nI (4 * p) + nI i) N (4 * p + i) := by rw [nI_add]; exact IX.mk (by omega) (by omega)
      have fin : V X K 27 [.ref R, .ref A, .int (nI (4 * p)), .int (bI is), .int (nI i)] [.long (g4 q i), .ref D] h1 := by
        refine k_X28_add_27 o ?_
        refine taddN_ok g1 (by omega) (by simp [b4_len]; omega) (by omega) fun h2 f2 g2 => ?_
        refine k_X28_add_32 o ?_
        rw [nI_add]
        refine ih (i + 1) h2 (by omega) (f1.trans f2) ?_
        simp only [b4]
        rw [← List.append_assoc]; exact g2
      refine k_X28_add_3 o (fun c => ?_) (fun c => ?_)
      · exact absurd ((nI_leI (by omega) (by omega)).mp c) (by omega)
      refine k_X28_add_9 o (fun c2 => ?_) (fun c2 => ?_)
      · have c2 := bI_0.mp c2
        have hqz : q = z4 := by rw [← hq, c2]; rfl
        have : g4 q i = 0 := by rw [hqz]; unfold g4 z4; simp
        rw [this] at fin
        refine k_X28_add_26 o ?_
        exact fin
      · have c2 : is = true := by
          cases is with
          | true => rfl
          | false => exact absurd rfl c2
        have np : ¬ FS [10000 + 1953, 3329] (10000 + t) A := fun z => by
          have : 10000 + t = 10000 + 1953 ∨ 10000 + t = 3329 := by simpa [FS] using z
          omega
        have x0 : h1.EJ t A (4 * p + i) = g4 q i := by
          rw [← hq, c2, if_pos rfl, q4a_g _ _ _ _ (by omega)]
          exact f1.1.EJ np _
        refine k_X28_add_17 o ?_ (c8 := ht)
        exact fin
  refine k_X28_add_0 o ?_
  exact loop 4 0 h rfl (Fq.refl h) (by simpa [b4] using hm)
theorem keepHash_ok {G : Gt} {d : Nat} {h : AH} {K : Outcome → AH → Prop} {R D n : Nat} {bs : List Int32} (hs : SRo h R D) (hm : MG h D bs) (hc : CT G h) (hn : n < 256) (hb : bs.length ≤ 4000) (hd : 4 ≤ d)
    (kk : ∀ h', Fq (FS hqW) h h' → SMd h' D → (∀ i, i ≠ n → q4a h' 2083 (R + 6) i = q4a h 2083 (R + 6) i) → q4a h' 2083 (R + 6) n = q4 bs → K (.returned none) h') : MW G d e_X28_keepHash [.ref R, .int (nI n)] h K := by
  refine st_X28_keepHash fun X o hG hD hf => ?_
  subst hG; subst hD
  obtain ⟨⟨e1, e2, e3, e4, e5, e6, e7, e8, e9, e10⟩, ⟨t1, t2, t3, t4, t5, t6, t7, t8⟩, s1⟩ := id hs
  have tD := s1.1.1
  have loop : ∀ m i h1, m + i = 4 → Fq (FS hqW) h h1 → (∀ j, j < 8 → h1.EJ 1971 (D + 2) j = em (dig bs j)) → (∀ j, j ≠ n → q4a h1 2083 (R + 6) j = q4a h 2083 (R + 6) j) → (∀ j, j < i → h1.EJ 2083 (R + 6) (4 * n + j) = digq bs j) → V X K 9 [.ref R, .int (nI n), .int (nI i)] [] h1 := by
    intro m
    induction m with
    | zero =>
      intro i h1 hi f1 g1 g2 g3
      have : i = 4 := by omega
      subst this
      refine k_X28_keepHash_9 o (fun c => ?_) (fun c => ?_)
      rotate_left
      · exact absurd (by decide) c
      refine k_X28_keepHash_38 o ?_
      refine kk h1 f1 (hs.fs f1.1 rfl).2.2 g2 (g4_ext fun j hj => ?_)
      rw [q4a_g _ _ _ _ hj, g3 j hj]
      have : j = 0 ∨ j = 1 ∨ j = 2 ∨ j = 3 := by omega
      rcases this with z | z | z | z <;> subst z <;> rfl
    | succ m ih =>
      intro i h1 hi f1 g1 g2 g3
      have hs1 := hs.fs f1.1 rfl
      obtain ⟨⟨e1, e2, e3, e4, e5, e6, e7, e8, e9, e10⟩, ⟨t1, t2, t3, t4, t5, t6, t7, t8⟩, s1⟩ := id hs1
      have tD := s1.1.1
      have i0 : IX (nI 4 * nI n + nI i) 1024 (4 * n + i) := by rw [nI_mul, nI_add]; exact IX.mk (by omega) (by omega)
      refine k_X28_keepHash_9 o (fun c => ?_) (fun c => ?_)
      · exact absurd ((nI_leI (by omega) (by omega)).mp c) (by omega)
      refine k_X28_keepHash_14 o ?_
      refine tfour_ok s1 g1 (by omega) ?_
      refine k_X28_keepHash_31 o ?_
      rw [nI_add]
      refine ih (i + 1) _ (by omega) (f1.sEJ rfl) (fun j hj => by rw [EJ_sEJ, if_neg (by omega)]; exact g1 j hj) (fun j hj => by rw [q4a_set hj (by omega)]; exact g2 j hj) fun j hj => ?_
      rw [EJ_sEJ]
      rcases Nat.lt_or_ge j i with z | z
      · rw [if_neg (by omega)]; exact g3 j z
      · have : j = i := by omega
        subst this
        rw [if_pos ⟨rfl, rfl, rfl⟩]
  refine k_X28_keepHash_0 o ?_
  refine tend_ok hm hc hb (by omega) fun h1 f1 m1 w1 => ?_
  refine k_X28_keepHash_7 o ?_
  exact loop 4 0 h1 rfl (f1.mono (FS.mono rfl)) w1 (fun j _ => q4a_fr f1.1 (FS.n (by decide)) j) fun j hj => by omega
/-- bits in words -/
theorem agr_wd {q q' : F4} {w b : Nat} (hw : w < 4) (hb : b ≤ 64) : (∀ i, i < b → bt q (64 * w + i) = bt q' (64 * w + i)) ↔ un (g4 q w ^^^ g4 q' w) / 2 ^ (64 - b) = 0 := by
  have tb : ∀ (p : F4) (i : Nat), i < 64 → bt p (64 * w + i) = ((un (g4 p w)).testBit (63 - i)).toNat := fun p i hi => by unfold bt; rw [show (64 * w + i) / 64 = w by omega, show (64 * w + i) % 64 = i by omega, Nat.toNat_testBit]
  have bz : ∀ x y : Bool, x.toNat = y.toNat ↔ (x ^^ y) = false := by decide
  constructor
  · intro h
    refine Nat.eq_of_testBit_eq fun i => ?_
    rw [Nat.testBit_div_two_pow, Nat.zero_testBit, un_xor, Nat.testBit_xor]
    rcases Nat.lt_or_ge (i + (64 - b)) 64 with z | z
    · have := h (63 - (i + (64 - b))) (by omega)
      rw [tb _ _ (by omega), tb _ _ (by omega), bz, show 63 - (63 - (i + (64 - b))) = i + (64 - b) by omega] at this
      exact this
    · have hz : ∀ p : F4, (un (g4 p w)).testBit (i + (64 - b)) = false := fun p => Nat.testBit_lt_two_pow (Nat.lt_of_lt_of_le (un_lt _) (by rw [show (18446744073709551616 : Nat) = 2 ^ 64 from rfl]; exact Nat.pow_le_pow_right (by omega) z))
      rw [hz, hz]; rfl
  · intro h i hi
    rw [tb _ _ (by omega), tb _ _ (by omega), bz]
    have := congrArg (fun n => n.testBit (63 - i - (64 - b))) h
    simp only [Nat.testBit_div_two_pow, Nat.zero_testBit] at this
    rw [un_xor, Nat.testBit_xor, show 63 - i - (64 - b) + (64 - b) = 63 - i by omega] at this
    exact this
theorem agree_ok {G : Gt} {d : Nat} {h : AH} {K : Outcome → AH → Prop} {R D p q l : Nat} (hs : SRo h R D) (hp : p < 256) (hq : q < 256) (hl : l ≤ 256) (kk : ∀ b : Bool, (b = true ↔ agr l (q4a h 2003 (R + 1) p) (q4a h 2003 (R + 1) q)) → K (.returned (some (.int (bI b)))) h) : MW G d e_X28_agree [.ref R, .int (nI p), .int (nI q), .int (nI l)] h K := by
  refine st_X28_agree fun X o hG hD hf => ?_
  obtain ⟨⟨e1, e2, e3, e4, e5, e6, e7, e8, e9, e10⟩, ⟨t1, t2, t3, t4, t5, t6, t7, t8⟩, s1⟩ := id hs
  generalize hx : q4a h 2003 (R + 1) p = x at kk
  generalize hy : q4a h 2003 (R + 1) q = y at kk
  have loop : ∀ m w v5 v6 v7, m + w = 5 → agr (min l (64 * w)) x y → V X K 3 [.ref R, .int (nI p), .int (nI q), .int (nI l), .int (nI (64 * w)), v5, v6, v7] [] h := by
    intro m
    induction m with
    | zero =>
      intro w v5 v6 v7 hw g1
      refine k_X28_agree_3 o (fun c => ?_) (fun c => ?_)
      · refine k_X28_agree_84 o ?_
        exact kk true ⟨fun _ => by rw [Nat.min_eq_left (by omega)] at g1; exact g1, fun _ => rfl⟩
      · exact absurd ((nI_leI (by omega) (by omega)).mpr (by omega)) c
    | succ m ih =>
      intro w v5 v6 v7 hw g1
      refine k_X28_agree_3 o (fun c => ?_) (fun c => ?_)
      · have c := (nI_leI (by omega) (by omega)).mp c
        refine k_X28_agree_84 o ?_
        exact kk true ⟨fun _ => by rw [Nat.min_eq_left c] at g1; exact g1, fun _ => rfl⟩
      have c : 64 * w < l := by
        rcases Nat.lt_or_ge (64 * w) l with z | z
        · exact z
        · exact absurd ((nI_leI (by omega) (by omega)).mpr z) c
      rw [Nat.min_eq_right (by omega)] at g1
      have ed : nI (64 * w) / nI 64 = nI w := by rw [nI_div (by omega) (by omega) (by omega)]; congr 1; omega
      have i0 : IX (nI 4 * nI p + (nI (64 * w) / nI 64)) 1024 (4 * p + w) := by rw [ed, nI_mul, nI_add]; exact IX.mk (by omega) (by omega)
      have i1 : IX (nI 4 * nI q + (nI (64 * w) / nI 64)) 1024 (4 * q + w) := by rw [ed, nI_mul, nI_add]; exact IX.mk (by omega) (by omega)
      have x0 : h.EJ 2003 (R + 1) (4 * p + w) = g4 x w := by rw [← hx, q4a_g _ _ _ _ (by omega)]
      have x1 : h.EJ 2003 (R + 1) (4 * q + w) = g4 y w := by rw [← hy, q4a_g _ _ _ _ (by omega)]
      have es : nI l - nI (64 * w) = nI (l - 64 * w) := nI_sub (by omega)
      have join : ∀ b, b ≤ 64 → (agr (64 * w + b) x y ↔ un (g4 x w ^^^ g4 y w) / 2 ^ (64 - b) = 0) := fun b hb => by
        rw [← agr_wd (by omega) hb]
        exact ⟨fun z i hi => z _ (by omega), fun z i hi => by
          rcases Nat.lt_or_ge i (64 * w) with y2 | y2
          · exact g1 i y2
          · have := z (i - 64 * w) (by omega); rwa [show 64 * w + (i - 64 * w) = i by omega] at this⟩
      have no : ∀ v5 v6 v7, ¬ agr l x y → V X K 76 [.ref R, .int (nI p), .int (nI q), .int (nI l), .int (nI (64 * w)), v5, v6, v7] [] h := fun v5 v6 v7 z => by
        refine k_X28_agree_76 o ?_
        exact kk false ⟨fun z => (nomatch z), fun y => absurd y z⟩
      have yes : ∀ v5 v6 v7, agr (min l (64 * w + 64)) x y → V X K 78 [.ref R, .int (nI p), .int (nI q), .int (nI l), .int (nI (64 * w)), v5, v6, v7] [] h := fun v5 v6 v7 z => by
        refine k_X28_agree_78 o ?_
        rw [nI_add, show 64 * w + 64 = 64 * (w + 1) by omega]
        exact ih (w + 1) _ _ _ (by omega) z
      refine k_X28_agree_9 o (fun c2 => ?_) (fun c2 => ?_)
      · rw [es] at c2 ⊢
        have c2 := (nI_ltI (by omega) (by omega)).mp c2
        have e : un (((g4 x w ^^^ g4 y w).toUInt64 >>> ((nI 64 - nI (l - 64 * w)).toInt64.toUInt64 &&& Int64.toUInt64 63)).toInt64) = un (g4 x w ^^^ g4 y w) / 2 ^ (64 - (l - 64 * w)) := by rw [nI_sub (by omega), un_ushr _ (by omega), Nat.shiftRight_eq_div_pow]
        have jj := join (l - 64 * w) (by omega)
        rw [show 64 * w + (l - 64 * w) = l by omega] at jj
        refine k_X28_agree_63 o (fun c3 => ?_) (fun c3 => ?_)
        · refine yes _ _ _ ?_
          rw [Nat.min_eq_left (by omega)]
          exact jj.mpr (by rw [← e, c3]; rfl)
        · exact no _ _ _ fun z => c3 (un_inj (by rw [e, jj.mp z]; rfl))
      · rw [es] at c2 ⊢
        have c2 : 64 ≤ l - 64 * w := by
          rcases Nat.lt_or_ge (l - 64 * w) 64 with z | z
          · exact absurd ((nI_ltI (by omega) (by omega)).mpr z) c2
          · exact z
        have jj := join 64 (by omega)
        rw [Nat.sub_self, Nat.pow_zero, Nat.div_one] at jj
        refine k_X28_agree_53 o (fun c3 => ?_) (fun c3 => ?_)
        · refine yes _ _ _ ?_
          rw [Nat.min_eq_right (by omega)]
          exact jj.mpr (by rw [c3]; rfl)
        · refine k_X28_agree_60 o ?_
          exact no _ _ _ fun z => c3 (un_inj (by
            rw [jj.mp (fun i hi => z i (by omega))]; rfl))
  refine k_X28_agree_0 o ?_
  exact loop 5 0 _ _ _ rfl (fun i hi => by simp at hi)
theorem parting_ok {G : Gt} {d : Nat} {h : AH} {K : Outcome → AH → Prop} {R D n : Nat} (hs : SRo h R D) (hn : n + 1 < 256) (hne : q4a h 2003 (R + 1) n ≠ q4a h 2003 (R + 1) (n + 1)) (kk : ∀ l, l < 256 → agr l (q4a h 2003 (R + 1) n) (q4a h 2003 (R + 1) (n + 1)) → bt (q4a h 2003 (R + 1) n) l ≠ bt (q4a h 2003 (R + 1) (n + 1)) l → K (.returned (some (.int (nI l)))) h) : MW G d e_X28_parting [.ref R, .int (nI n)] h K := by
  refine st_X28_parting fun X o hG hD hf => ?_
  obtain ⟨⟨e1, e2, e3, e4, e5, e6, e7, e8, e9, e10⟩, ⟨t1, t2, t3, t4, t5, t6, t7, t8⟩, s1⟩ := id hs
  generalize hx : q4a h 2003 (R + 1) n = x at *
  generalize hy : q4a h 2003 (R + 1) (n + 1) = y at *
  obtain ⟨p1, p2, p3, p4⟩ := frk_spec x y 4 0 rfl (fun j hj => by omega)
  generalize frk x y 4 0 = L at *
  have hL : L < 256 := by
    rcases Nat.lt_or_ge L 256 with z | z
    · exact z
    · exact absurd (p3 (by omega)) hne
  have loop : ∀ m l, m + l = L → V X K 2 [.ref R, .int (nI n), .int (nI l)] [] h := by
    intro m
    induction m with
    | zero =>
      intro l hl
      have : l = L := by omega
      subst this
      have ed : nI l / nI 64 = nI (l / 64) := nI_div (by omega) (by omega) (by omega)
      have i0 : IX (nI 4 * nI n + (nI l / nI 64)) 1024 (4 * n + l / 64) := by rw [ed, nI_mul, nI_add]; exact IX.mk (by omega) (by omega)
      have i1 : IX (nI 4 * nI n + nI 4 + (nI l / nI 64)) 1024 (4 * (n + 1) + l / 64) := by rw [ed, nI_mul, nI_add, nI_add, show 4 * n + 4 = 4 * (n + 1) by omega]; exact IX.mk (by omega) (by omega)
      have x0 : h.EJ 2003 (R + 1) (4 * n + l / 64) = g4 x (l / 64) := by rw [← hx, q4a_g _ _ _ _ (by omega)]
      have x1 : h.EJ 2003 (R + 1) (4 * (n + 1) + l / 64) = g4 y (l / 64) := by rw [← hy, q4a_g _ _ _ _ (by omega)]
      have eb : ∀ z : F4, un ((g4 z (l / 64) >>> ((nI 63 - (nI l - nI l / nI 64 * nI 64)).toInt64 &&& 63)) &&& (1 : Int64)) = bt z l := fun z => by rw [nI_mod (by omega) (by omega) (by omega), nI_sub (by omega), un_fld (m := 1) _ (by omega) (by omega) rfl]; rfl
      refine k_X28_parting_2 o (fun c => ?_) (fun c => ?_)
      · refine k_X28_parting_60 o ?_
        exact kk l hL (fun i hi => p1 i hi (by omega)) (p2 hL)
      · have := congrArg un c
        rw [eb, eb] at this
        exact absurd this (p2 hL)
    | succ m ih =>
      intro l hl
      have ed : nI l / nI 64 = nI (l / 64) := nI_div (by omega) (by omega) (by omega)
      have i0 : IX (nI 4 * nI n + (nI l / nI 64)) 1024 (4 * n + l / 64) := by rw [ed, nI_mul, nI_add]; exact IX.mk (by omega) (by omega)
      have i1 : IX (nI 4 * nI n + nI 4 + (nI l / nI 64)) 1024 (4 * (n + 1) + l / 64) := by rw [ed, nI_mul, nI_add, nI_add, show 4 * n + 4 = 4 * (n + 1) by omega]; exact IX.mk (by omega) (by omega)
      have x0 : h.EJ 2003 (R + 1) (4 * n + l / 64) = g4 x (l / 64) := by rw [← hx, q4a_g _ _ _ _ (by omega)]
      have x1 : h.EJ 2003 (R + 1) (4 * (n + 1) + l / 64) = g4 y (l / 64) := by rw [← hy, q4a_g _ _ _ _ (by omega)]
      have eb : ∀ z : F4, un ((g4 z (l / 64) >>> ((nI 63 - (nI l - nI l / nI 64 * nI 64)).toInt64 &&& 63)) &&& (1 : Int64)) = bt z l := fun z => by rw [nI_mod (by omega) (by omega) (by omega), nI_sub (by omega), un_fld (m := 1) _ (by omega) (by omega) rfl]; rfl
      refine k_X28_parting_2 o (fun c => ?_) (fun c => ?_)
      · exact absurd (un_inj (by rw [eb, eb]; exact p1 l (by omega) (by omega))) c
      refine k_X28_parting_54 o ?_
      rw [nI_add]
      exact ih (l + 1) (by omega)
  refine k_X28_parting_0 o ?_
  exact loop L 0 rfl
