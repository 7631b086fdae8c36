/-! rows of four numbers -/
abbrev F4 : Type := Int64 × Int64 × Int64 × Int64
def g4 (q : F4) (i : Nat) : Int64 := if i = 0 then q.1 else if i = 1 then q.2.1 else if i = 2 then q.2.2.1 else q.2.2.2
theorem g4_ext {q q' : F4} (h : ∀ i, i < 4 → g4 q i = g4 q' i) : q = q' := by
  obtain ⟨a, b, c, d⟩ := q
  obtain ⟨a', b', c', d'⟩ := q'
  have h0 : a = a' := h 0 (by omega)
  have h1 : b = b' := h 1 (by omega)
  have h2 : c = c' := h 2 (by omega)
  have h3 : d = d' := h 3 (by omega)
  rw [h0, h1, h2, h3]
def r4 (h : AH) (F k : Nat) : F4 := (h.EJ 691 (F + 1) (4 * k), h.EJ 691 (F + 1) (4 * k + 1), h.EJ 691 (F + 1) (4 * k + 2), h.EJ 691 (F + 1) (4 * k + 3))
theorem r4_g (h : AH) (F k : Nat) {i : Nat} (hi : i < 4) : g4 (r4 h F k) i = h.EJ 691 (F + 1) (4 * k + i) := by
  have : i = 0 ∨ i = 1 ∨ i = 2 ∨ i = 3 := by omega
  rcases this with q | q | q | q <;> subst q <;> rfl
def SFo (h : AH) (F : Nat) : Prop := h.tag F = some (17, 0) ∧ h.R 2176 F = some (F + 1) ∧ h.tag (F + 1) = some (691, 4096)
theorem SFo.fr {P : Nat → Nat → Prop} {h h' : AH} {F : Nat} (q : Fr P h h') (np : ¬ P 2176 F) (s : SFo h F) : SFo h' F := ⟨q.tag s.1, by rw [q.R np]; exact s.2.1, q.tag s.2.2⟩
theorem r4_fr {P : Nat → Nat → Prop} {h h' : AH} {F : Nat} (q : Fr P h h') (np : ¬ P (10000 + 691) (F + 1)) (k : Nat) : r4 h' F k = r4 h F k := by unfold r4; rw [q.EJ np, q.EJ np, q.EJ np, q.EJ np]
/-- row k of one has changed, nothing else -/
def FU (F k : Nat) (h h' : AH) : Prop := Fq (P1 (10000 + 691) (F + 1)) h h' ∧ ∀ j, j ≠ k → r4 h' F j = r4 h F j
theorem fset_ok {G : Gt} {d : Nat} {h : AH} {K : Outcome → AH → Prop} {F k : Nat} {q : F4} (hs : SFo h F) (hk : k < 1024) (kk : ∀ h', FU F k h h' → r4 h' F k = q → K (.returned none) h') : MW G d e_X18_set [.ref F, .int (nI k), .long q.1, .long q.2.1, .long q.2.2.1, .long q.2.2.2] h K := by
  refine st_X18_set fun X o hG hD hf => ?_
  obtain ⟨e1, e2, e3⟩ := hs
  have i0 : IX (nI 4 * nI k) 4096 (4 * k) := by rw [nI_mul]; exact IX.mk (by omega) (by omega)
  have i1 : IX (nI 4 * nI k + nI 1) 4096 (4 * k + 1) := by rw [nI_mul, nI_add]; exact IX.mk (by omega) (by omega)
  have i2 : IX (nI 4 * nI k + nI 2) 4096 (4 * k + 2) := by rw [nI_mul, nI_add]; exact IX.mk (by omega) (by omega)
  have i3 : IX (nI 4 * nI k + nI 3) 4096 (4 * k + 3) := by rw [nI_mul, nI_add]; exact IX.mk (by omega) (by omega)
  refine k_X18_set_0 o (kk _ ⟨((((Fq.refl h).sEJ P1.i).sEJ P1.i).sEJ P1.i).sEJ P1.i, fun j hj => ?_⟩ ?_)
  · unfold r4
    simp only [EJ_sEJ, true_and]
    repeat rw [if_neg (by omega)]
  · unfold r4
    simp only [EJ_sEJ, true_and]
    simp
theorem fget_ok {G : Gt} {d : Nat} {h : AH} {K : Outcome → AH → Prop} {F k i : Nat} (hs : SFo h F) (hk : k < 1024) (hi : i < 4) (kk : K (.returned (some (.long (g4 (r4 h F k) i)))) h) : MW G d e_X18_get [.ref F, .int (nI k), .int (nI i)] h K := by
  refine st_X18_get fun X o hG hD hf => ?_
  obtain ⟨e1, e2, e3⟩ := hs
  have i0 : IX (nI 4 * nI k + nI i) 4096 (4 * k + i) := by rw [nI_mul, nI_add]; exact IX.mk (by omega) (by omega)
  have x0 := (r4_g h F k hi).symm
  refine k_X18_get_0 o ?_
  refine (kk)
theorem fcopy_ok {G : Gt} {d : Nat} {h : AH} {K : Outcome → AH → Prop} {F k F' j : Nat} (hs : SFo h F) (hs' : SFo h F') (hne : F ≠ F') (hk : k < 1024) (hj : j < 1024) (kk : ∀ h', FU F k h h' → r4 h' F k = r4 h F' j → K (.returned none) h') : MW G d e_X18_copy [.ref F, .int (nI k), .ref F', .int (nI j)] h K := by
  refine st_X18_copy fun X o hG hD hf => ?_
  have loop : ∀ m i h1, m + i = 4 → FU F k h h1 → (∀ q, q < i → h1.EJ 691 (F + 1) (4 * k + q) = h.EJ 691 (F' + 1) (4 * j + q)) → V X K 3 [.ref F, .int (nI k), .ref F', .int (nI j), .int (nI i)] [] h1 := by
    intro m
    induction m with
    | zero =>
      intro i h1 hi f1 g1
      have : i = 4 := by omega
      subst this
      refine k_X18_copy_3 o (fun c => ?_) (fun c => ?_)
      rotate_left
      · exact absurd (by decide) c
      refine k_X18_copy_37 o ?_
      refine (kk h1 f1 (g4_ext fun i hi => by rw [r4_g _ _ _ hi, r4_g _ _ _ hi]; exact g1 i hi))
    | succ m ih =>
      intro i h1 hi f1 g1
      obtain ⟨e1, e2, e3⟩ := hs.fr f1.1.1 (by simp [P1])
      obtain ⟨e4, e5, e6⟩ := hs'.fr f1.1.1 (by simp [P1])
      have i0 : IX (nI 4 * nI k + nI i) 4096 (4 * k + i) := by rw [nI_mul, nI_add]; exact IX.mk (by omega) (by omega)
      have i1 : IX (nI 4 * nI j + nI i) 4096 (4 * j + i) := by rw [nI_mul, nI_add]; exact IX.mk (by omega) (by omega)
      have x0 : h1.EJ 691 (F' + 1) (4 * j + i) = h.EJ 691 (F' + 1) (4 * j + i) := f1.1.1.EJ (by simp [P1]; omega) _
      refine k_X18_copy_3 o (fun c => ?_) (fun c => ?_)
      · exact absurd ((nI_leI (by omega) (by omega)).mp c) (by omega)
      refine k_X18_copy_9 o ?_
      rw [nI_add]
      refine ih (i + 1) _ (by omega) ⟨f1.1.sEJ P1.i, fun q hq => ?_⟩ fun q hq => ?_
      · rw [← f1.2 q hq]
        unfold r4
        simp only [EJ_sEJ, true_and]
        repeat rw [if_neg (by omega)]
      · rw [EJ_sEJ]
        split
        · next z => rw [show q = i by omega]
        · next z => exact g1 q (by have : q ≠ i := fun y => z ⟨rfl, rfl, by rw [y]⟩; omega)
  refine k_X18_copy_0 o ?_
  exact loop 4 0 h rfl ⟨Fq.refl h, fun j _ => rfl⟩ fun q hq => by omega
theorem fsame_ok {G : Gt} {d : Nat} {h : AH} {K : Outcome → AH → Prop} {F k F' j : Nat} (hs : SFo h F) (hs' : SFo h F') (hk : k < 1024) (hj : j < 1024) (kk : K (.returned (some (.int (bI (decide (r4 h F k = r4 h F' j)))))) h) : MW G d e_X18_isSame [.ref F, .int (nI k), .ref F', .int (nI j)] h K := by
  refine st_X18_isSame fun X o hG hD hf => ?_
  obtain ⟨e1, e2, e3⟩ := hs
  obtain ⟨e4, e5, e6⟩ := hs'
  have loop : ∀ m i (b : Bool), m + i = 4 → (b = true ↔ ∀ q, q < i → h.EJ 691 (F + 1) (4 * k + q) = h.EJ 691 (F' + 1) (4 * j + q)) → V X K 6 [.ref F, .int (nI k), .ref F', .int (nI j), .int (bI b), .int (nI i)] [] h := by
    intro m
    induction m with
    | zero =>
      intro i b hi g1
      have : i = 4 := by omega
      subst this
      have e : decide (r4 h F k = r4 h F' j) = b := by
        rw [Bool.eq_iff_iff, g1, decide_eq_true_iff]
        refine ⟨fun q i hi => ?_, fun q => g4_ext fun i hi => ?_⟩
        · rw [← r4_g _ _ _ hi, ← r4_g _ _ _ hi, q]
        · rw [r4_g _ _ _ hi, r4_g _ _ _ hi]; exact q i hi
      rw [e] at kk
      refine k_X18_isSame_6 o (fun c => ?_) (fun c => ?_)
      rotate_left
      · exact absurd (by decide) c
      refine k_X18_isSame_54 o ?_
      refine (kk)
    | succ m ih =>
      intro i b hi g1
      have i0 : IX (nI 4 * nI k + nI i) 4096 (4 * k + i) := by rw [nI_mul, nI_add]; exact IX.mk (by omega) (by omega)
      have i1 : IX (nI 4 * nI j + nI i) 4096 (4 * j + i) := by rw [nI_mul, nI_add]; exact IX.mk (by omega) (by omega)
      refine k_X18_isSame_6 o (fun c => ?_) (fun c => ?_)
      · exact absurd ((nI_leI (by omega) (by omega)).mp c) (by omega)
      refine k_X18_isSame_12 o (fun c2 => ?_) (fun c2 => ?_)
      · refine k_X18_isSame_44 o ?_
        refine k_X18_isSame_45 o ?_
        rw [nI_add]
        have : bI b &&& nI 0 = bI false := by cases b <;> rfl
        rw [this]
        exact ih (i + 1) false (by omega) ⟨fun q => (nomatch q), fun q => absurd (q i (by omega)) c2⟩
      · refine k_X18_isSame_40 o ?_
        refine k_X18_isSame_45 o ?_
        rw [nI_add]
        have : bI b &&& nI 1 = bI b := by cases b <;> rfl
        rw [this]
        refine ih (i + 1) b (by omega) (g1.trans ⟨fun q z hz => ?_, fun q z hz => q z (by omega)⟩)
        rcases Nat.lt_or_ge z i with y | y
        · exact q z y
        · rw [show z = i by omega]; exact c2
  refine k_X18_isSame_0 o ?_
  exact loop 4 0 true rfl ⟨fun _ q hq => by omega, fun _ => rfl⟩
/-- bit l of a key -/
def bt (q : F4) (l : Nat) : Nat := un (g4 q (l / 64)) / 2 ^ (63 - l % 64) % 2
theorem bt_lt (q : F4) (l : Nat) : bt q l < 2 := Nat.mod_lt _ (by omega)
theorem fbit_ok {G : Gt} {d : Nat} {h : AH} {K : Outcome → AH → Prop} {F k l : Nat} (hs : SFo h F) (hk : k < 1024) (hl : l < 256) (kk : K (.returned (some (.int (nI (bt (r4 h F k) l))))) h) : MW G d e_X18_bit [.ref F, .int (nI k), .int (nI l)] h K := by
  refine st_X18_bit fun X o hG hD hf => ?_
  obtain ⟨e1, e2, e3⟩ := hs
  have es : nI l >>> (nI 6 &&& 31) = nI (l / 64) := uI (by rw [um_shr _ (by omega) (by rw [um_n (by omega)]; omega), um_n (by omega), Nat.shiftRight_eq_div_pow])
  have ea : nI l &&& nI 63 = nI (l % 64) := uI (by rw [um_and, um_n (by omega), um_n (by omega), show (63 : Nat) = 2 ^ 6 - 1 from rfl, and_m])
  have i0 : IX (nI 4 * nI k + (nI l >>> (nI 6 &&& 31))) 4096 (4 * k + l / 64) := by rw [es, nI_mul, nI_add]; exact IX.mk (by omega) (by omega)
  have x0 := (r4_g h F k (show l / 64 < 4 by omega)).symm
  refine k_X18_bit_0 o ?_
  rw [ea, nI_sub (by omega)]
  have e : ((g4 (r4 h F k) (l / 64) >>> ((nI (63 - l % 64)).toInt64 &&& 63)) &&& (1 : Int64)).toInt32 = nI (bt (r4 h F k) l) := uI (by
    rw [um_32, un_fld (m := 1) _ (by omega) (by omega) rfl]
    unfold bt
    omega)
  rw [e]; exact kk
/-- the first bit in which two keys differ; 256 for none -/
def frk (q q' : F4) : Nat → Nat → Nat
  | 0, _ => 256
  | m + 1, i => if g4 q i = g4 q' i then frk q q' m (i + 1) else 64 * i + nlz 64 (un (g4 q i ^^^ g4 q' i))
theorem ffork_ok {G : Gt} {d : Nat} {h : AH} {K : Outcome → AH → Prop} {F k F' j : Nat} (hs : SFo h F) (hs' : SFo h F') (hk : k < 1024) (hj : j < 1024) (hd : 2 ≤ d) (kk : K (.returned (some (.int (nI (frk (r4 h F k) (r4 h F' j) 4 0))))) h) : MW G d e_X18_fork [.ref F, .int (nI k), .ref F', .int (nI j)] h K := by
  refine st_X18_fork fun X o hG hD hf => ?_
  subst hG; subst hD
  obtain ⟨e1, e2, e3⟩ := hs
  obtain ⟨e4, e5, e6⟩ := hs'
  generalize hR : frk (r4 h F k) (r4 h F' j) 4 0 = R at kk
  have loop : ∀ m i v5 v6, m + i = 4 → frk (r4 h F k) (r4 h F' j) m i = R → V X K 3 [.ref F, .int (nI k), .ref F', .int (nI j), .int (nI i), v5, v6] [] h := by
    intro m
    induction m with
    | zero =>
      intro i v5 v6 hi e
      have : i = 4 := by omega
      subst this
      rw [← e] at kk
      refine k_X18_fork_3 o (fun c => ?_) (fun c => ?_)
      rotate_left
      · exact absurd (by decide) c
      refine k_X18_fork_59 o ?_
      refine (kk)
    | succ m ih =>
      intro i v5 v6 hi e
      have i0 : IX (nI 4 * nI k + nI i) 4096 (4 * k + i) := by rw [nI_mul, nI_add]; exact IX.mk (by omega) (by omega)
      have i1 : IX (nI 4 * nI j + nI i) 4096 (4 * j + i) := by rw [nI_mul, nI_add]; exact IX.mk (by omega) (by omega)
      have x0 := (r4_g h F k (show i < 4 by omega)).symm
      have x1 := (r4_g h F' j (show i < 4 by omega)).symm
      have xz : ∀ x y : Int64, x ^^^ y = 0 ↔ x = y := fun x y => by simp
      refine k_X18_fork_3 o (fun c => ?_) (fun c => ?_)
      · exact absurd ((nI_leI (by omega) (by omega)).mp c) (by omega)
      unfold frk at e
      refine k_X18_fork_9 o (fun c2 => ?_) (fun c2 => ?_)
      · rw [if_pos ((xz _ _).mp c2)] at e
        refine k_X18_fork_53 o ?_
        rw [nI_add]
        exact ih (i + 1) _ _ (by omega) e
      · rw [if_neg fun q => c2 ((xz _ _).mpr q)] at e
        rw [← e, ← nI_add, ← nI_mul] at kk
        refine k_X18_fork_41 o ?_
        have := lnlz_ok (G := X.G) (d := X.d - 1) (h := h) (un_lt (g4 (r4 h F k) i ^^^ g4 (r4 h F' j) i)) (by omega) (K := kin (V X K 51) K [.ref F, .int (nI k), .ref F', .int (nI j), .int (nI i), .long (g4 (r4 h F k) i ^^^ g4 (r4 h F' j) i), nov] [.int (nI 64 * nI i)]) (by
          refine k_X18_fork_51 o ?_
          exact kk)
        rw [lN_un] at this
        exact this
  refine k_X18_fork_0 o ?_
  exact loop 4 0 _ _ rfl hR
theorem frk_spec (q q' : F4) : ∀ m i, m + i = 4 → (∀ j, j < i → g4 q j = g4 q' j) → (∀ l, l < frk q q' m i → l < 256 → bt q l = bt q' l) ∧ (frk q q' m i < 256 → bt q (frk q q' m i) ≠ bt q' (frk q q' m i)) ∧ (frk q q' m i = 256 → q = q') ∧ frk q q' m i ≤ 256
  | 0, i, hi, h => by
    have e : q = q' := g4_ext fun j hj => h j (by omega)
    subst e
    exact ⟨fun _ _ _ => rfl, fun z => by simp [frk] at z, fun _ => rfl, Nat.le_refl _⟩
  | m + 1, i, hi, h => by
    unfold frk
    by_cases c : g4 q i = g4 q' i
    · rw [if_pos c]
      exact frk_spec q q' m (i + 1) (by omega) fun j hj => by
        rcases Nat.lt_or_ge j i with z | z
        · exact h j z
        · rw [show j = i by omega]; exact c
    · rw [if_neg c]
      have hx : un (g4 q i ^^^ g4 q' i) ≠ 0 := fun z => c (by
        have : g4 q i ^^^ g4 q' i = 0 := un_inj z
        simpa using this)
      have hlt := un_lt (g4 q i ^^^ g4 q' i)
      have hl : Nat.log2 (un (g4 q i ^^^ g4 q' i)) < 64 := (Nat.log2_lt hx).mpr hlt
      have hn : nlz 64 (un (g4 q i ^^^ g4 q' i)) = 63 - Nat.log2 (un (g4 q i ^^^ g4 q' i)) := by unfold nlz; rw [if_neg hx]
      rw [hn]
      generalize hL : Nat.log2 (un (g4 q i ^^^ g4 q' i)) = L at *
      have tb : ∀ p : F4, ∀ l, bt p l = ((un (g4 p (l / 64))).testBit (63 - l % 64)).toNat := fun p l => by
        unfold bt; rw [Nat.toNat_testBit]
      have top : (un (g4 q i ^^^ g4 q' i)).testBit L = true := by
        rw [← hL]
        have h1 := (Nat.log2_eq_iff hx).mp rfl
        rw [Nat.testBit_eq_decide_div_mod_eq, decide_eq_true_iff]
        have h2 : un (g4 q i ^^^ g4 q' i) / 2 ^ Nat.log2 (un (g4 q i ^^^ g4 q' i)) = 1 := by
          refine Nat.div_eq_of_lt_le (by omega) ?_
          have := h1.2; rw [Nat.pow_succ] at this; omega
        rw [h2]
      have high : ∀ k, L < k → (un (g4 q i ^^^ g4 q' i)).testBit k = false := fun k hk => by
        have h1 := (Nat.log2_eq_iff hx).mp hL
        exact Nat.testBit_lt_two_pow (Nat.lt_of_lt_of_le h1.2 (Nat.pow_le_pow_right (by omega) hk))
      rw [un_xor] at top high
      simp only [Nat.testBit_xor] at top high
      refine ⟨fun l hl2 h256 => ?_, fun _ => ?_, fun z => by omega, by omega⟩
      · rw [tb, tb]
        rcases Nat.lt_or_ge (l / 64) i with z | z
        · rw [h _ z]
        · have : l / 64 = i := by omega
          rw [this]
          have := high (63 - l % 64) (by omega)
          rw [show (un (g4 q i)).testBit (63 - l % 64) = (un (g4 q' i)).testBit (63 - l % 64) by simpa using this]
      · rw [tb, tb, show (64 * i + (63 - L)) / 64 = i by omega, show 63 - (64 * i + (63 - L)) % 64 = L by omega]
        intro z
        cases c1 : (un (g4 q i)).testBit L <;> cases c2 : (un (g4 q' i)).testBit L <;> simp [c1, c2] at top z
