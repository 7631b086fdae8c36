/-! which structures contain themselves -/
def edg (m : Md) (k j : Nat) : Bool := match m.2.1[k]? with
  | some s => decide (j < m.2.1.length) && s.2.2.any fun x => sidx x.1 == some j
  | none => false
theorem edg_lt {m : Md} {k j : Nat} (h : edg m k j = true) : j < m.2.1.length := by
  unfold edg at h
  split at h
  · rw [Bool.and_eq_true] at h; exact of_decide_eq_true h.1
  · cases h
/-- Warshall's steps -/
def wsh (e : Nat → Nat → Bool) : Nat → Nat → Nat → Bool
  | 0, k, j => e k j
  | i + 1, k, j => wsh e i k j || (wsh e i k i && wsh e i i j)
theorem wsh_sd {e : Nat → Nat → Bool} : ∀ (i : Nat) {k j : Nat}, wsh e i k j = true → Relation.TransGen (fun a b => e a b = true) k j := by
  intro i
  induction i with
  | zero => intro k j h; exact .single h
  | succ i ih =>
    intro k j h
    simp only [wsh, Bool.or_eq_true, Bool.and_eq_true] at h
    rcases h with a | ⟨a, b⟩
    · exact ih a
    · exact Relation.TransGen.trans (ih a) (ih b)
theorem wsh_tr {e : Nat → Nat → Bool} : ∀ (i : Nat) {m k j : Nat}, m < i → wsh e i k m = true → wsh e i m j = true → wsh e i k j = true := by
  intro i
  induction i with
  | zero => intro m k j h; omega
  | succ i ih =>
    intro m k j hm h1 h2
    simp only [wsh, Bool.or_eq_true, Bool.and_eq_true] at h1 h2 ⊢
    rcases Nat.lt_or_ge m i with c | c
    · rcases h1 with a | ⟨a, a'⟩ <;> rcases h2 with b | ⟨b, b'⟩
      · exact Or.inl (ih c a b)
      · exact Or.inr ⟨ih c a b, b'⟩
      · exact Or.inr ⟨a, ih c a' b⟩
      · exact Or.inr ⟨a, b'⟩
    · have : m = i := by omega
      subst this
      have h1 : wsh e m k m = true := by rcases h1 with a | ⟨a, -⟩ <;> exact a
      have h2 : wsh e m m j = true := by rcases h2 with a | ⟨-, a⟩ <;> exact a
      exact Or.inr ⟨h1, h2⟩
theorem wsh_up {e : Nat → Nat → Bool} : ∀ (i : Nat) {k j : Nat}, e k j = true → wsh e i k j = true := by
  intro i
  induction i with
  | zero => intro k j h; exact h
  | succ i ih => intro k j h; simp only [wsh, Bool.or_eq_true]; exact Or.inl (ih h)
theorem tg_lt {e : Nat → Nat → Bool} {o : Nat} (he : ∀ a b, e a b = true → b < o) {k j : Nat} (h : Relation.TransGen (fun a b => e a b = true) k j) : j < o := by
  cases h with
  | single h => exact he _ _ h
  | tail _ h => exact he _ _ h
theorem wsh_all {e : Nat → Nat → Bool} {o : Nat} (he : ∀ a b, e a b = true → b < o) {k j : Nat} (h : Relation.TransGen (fun a b => e a b = true) k j) : wsh e o k j = true := by
  induction h with
  | single h => exact wsh_up o h
  | tail h1 h2 ih => exact wsh_tr o (tg_lt he h1) ih (wsh_up o h2)
theorem wsh_iff {e : Nat → Nat → Bool} {o : Nat} (he : ∀ a b, e a b = true → b < o) {k j : Nat} : wsh e o k j = true ↔ Relation.TransGen (fun a b => e a b = true) k j := ⟨wsh_sd o, wsh_all he⟩
theorem wsh_mid (e : Nat → Nat → Bool) (i j : Nat) : wsh e (i + 1) i j = wsh e i i j := by
  simp only [wsh]
  cases wsh e i i j <;> cases wsh e i i i <;> rfl
def spl (m : Md) (k : Nat) : Nat := match m.2.1[k]? with
  | some s => s.1
  | none => 0
/-- the first structure from k on, of j, that contains itself -/
def rnf (m : Md) : Nat → Nat → Option (Nat × Nat)
  | 0, _ => none
  | j + 1, k => (ife (!wsh (edg m) m.2.1.length k k) 14 (spl m k)).or (rnf m j (k + 1))
def rond (m : Md) : Option (Nat × Nat) := rnf m m.2.1.length 0
/-! sets as bits -/
theorem nI_nn {k : Nat} (h : k < 2147483648) : ¬ nI k < 0 := fun c => by have := um_neg.mp c; rw [um_n (by omega)] at this; omega
theorem nI_64 {k : Nat} (h : k < 2147483648) : (nI k).toInt64 = lN k := un_inj (by rw [un_64 _ (by rw [um_n (by omega)]; omega), um_n (by omega), un_l (by omega)])
def BT (x : Int64) (f : Nat → Bool) : Prop := ∀ j, (un x).testBit j = f j
theorem BT.z : BT 0 (fun _ => false) := fun j => by show (0 : Nat).testBit j = false; simp
theorem BT.or {x y : Int64} {f g : Nat → Bool} (hx : BT x f) (hy : BT y g) : BT (x ||| y) (fun j => f j || g j) := fun j => by rw [un_or, Nat.testBit_or, hx j, hy j]
theorem BT.pw {k : Nat} (hk : k < 64) : BT ((1 : Int64) <<< ((nI k).toInt64 &&& 63)) (fun j => decide (j = k)) := fun j => by
  rw [un_shl _ hk, show un (1 : Int64) = 1 from rfl, Nat.one_shiftLeft, Nat.mod_eq_of_lt (show 2 ^ k < 2 ^ 64 from Nat.pow_lt_pow_right (by omega) hk), Nat.testBit_two_pow]
  exact decide_eq_decide.mpr ⟨fun h => h.symm, fun h => h.symm⟩
theorem BT.at {x : Int64} {f : Nat → Bool} (hx : BT x f) {k : Nat} (hk : k < 64) : ((x >>> ((nI k).toInt64 &&& 63)) &&& (1 : Int64)) = lN (if f k then 1 else 0) := un_inj (by
  rw [un_fld (m := 1) _ (by omega) (by omega) rfl, ← hx k, Nat.testBit_eq_decide_div_mod_eq]
  by_cases c : un x / 2 ^ k % 2 = 1
  · rw [decide_eq_true c, if_pos rfl]; exact c
  · rw [decide_eq_false c, if_neg (by decide)]
    show un x / 2 ^ k % 2 = 0
    omega)
theorem BT.cg {x : Int64} {f g : Nat → Bool} (hx : BT x f) (h : ∀ j, f j = g j) : BT x g := fun j => (hx j).trans (h j)
/-! a list's types -/
theorem spget_ok {G : Gt} {d : Nat} {h : AH} {K : Outcome → AH → Prop} {T S i : Nat} {ts l : TL} (hS : h.tag S = some (4, 0)) (hT : STb h T) (ht : TY h T ts) (hl : ts.length ≤ 2048) (hp : SP h S ts l) (hi : i < 2147483648) (kk : K (.returned (some (.long (lN (match l[i]? with | some x => tyc x.1 | none => 0))))) h) : MW G d e_X5_get [.ref S, .ref (T + 3), .int (nI i)] h K := by
  refine st_X5_get fun X o hG hD hf => ?_
  subst hG; subst hD
  obtain ⟨⟨g1, g2, g3, g4', g5, g6⟩, ⟨p1, p2, p3, p4, p5, p6, p7, p8⟩, -⟩ := id hT
  obtain ⟨pre, post, e1, e2, e3⟩ := hp
  have hlen : pre.length + l.length ≤ ts.length := by rw [e1]; simp
  refine k_X5_get_0 o (fun c => ?_) (fun c => ?_)
  · exact absurd c (nI_nn hi)
  refine k_X5_get_4 o (fun c2 => ?_) (fun c2 => ?_)
  · have c2 := (nI_leI (by omega) (by omega)).mp c2
    rw [List.getElem?_eq_none c2] at kk
    refine k_X5_get_26 o ?_
    refine k_X5_get_27 o ?_
    exact kk
  · have c2 : i < l.length := Nat.not_le.mp fun z => c2 ((nI_leI (by omega) (by omega)).mpr z)
    rw [List.getElem?_eq_getElem c2] at kk
    have hx : ts[pre.length + i]? = some l[i] := by
      rw [e1, List.append_assoc, List.getElem?_append_right (by omega), Nat.add_sub_cancel_left, List.getElem?_append_left c2, List.getElem?_eq_getElem c2]
    have hr := (ht.2 _ _ hx).1
    have ix : IX (nI pre.length + nI i) 2048 (pre.length + i) := by rw [nI_add]; exact IX.mk (by omega) (by omega)
    refine k_X5_get_12 o ?_
    refine k_X5_get_27 o ?_
    exact kk
theorem directly_ok {G : Gt} {d : Nat} {h : AH} {K : Outcome → AH → Prop} {R W Q T n k : Nat} {B : Nat → Nat} {m : Md} {s : Sx} (hs : RB h R W Q T n B m) (hT : ∀ x ∈ mts m, tby x.1 ∧ x.1.length ≤ 7 ∧ x.2 < 2048) (hk : m.2.1[k]? = some s) (hd : 1 ≤ d) (kk : ∀ x, BT x (edg m k) → K (.returned (some (.long (x)))) h) : MW G d e_X12_directly [.ref R, .ref (T + 12 + 2 * k)] h K := by
  refine st_X12_directly fun X o hG hD hf => ?_
  subst hG; subst hD
  obtain ⟨⟨⟨s1, s2, s3⟩, s4, s5, s6, ⟨s7, s8⟩, s9, s10⟩, ⟨⟨a1, a2, a3, a4, a5⟩, ⟨b1, b2, b3, b4, b5, b6⟩, m1, m2, m3, m4, m5⟩⟩ := id hs
  have t0 := s1.1
  have hk' := get_lt hk
  obtain ⟨d1, d2, d3, d4⟩ := s3.2.2.2.1 k (by omega)
  obtain ⟨⟨g1, g2, g3, g4', g5, g6⟩, ⟨p1, p2, p3, p4, p5, p6, p7, p8⟩, -⟩ := id s3
  have hsp := (m1 k s hk).2.2
  rw [show T + 12 + 2 * k + 1 = T + 13 + 2 * k by omega] at hsp
  have hn := s4.2.1
  have hcnt : h.I 513 (T + 13 + 2 * k) = nI s.2.2.length := by obtain ⟨a, b, z1, z2, z3⟩ := hsp; exact z3
  have hlen : s.2.2.length ≤ (mts m).length := by obtain ⟨a, b, z1, z2, z3⟩ := hsp; rw [z1]; simp; omega
  have hmem : ∀ x ∈ s.2.2, x ∈ mts m := fun x hx => by obtain ⟨a, b, z1, z2, z3⟩ := hsp; rw [z1]; simp [hx]
  have loop : ∀ post pre x, s.2.2 = pre ++ post → BT x (fun j => decide (j < m.2.1.length) && pre.any fun x => sidx x.1 == some j) → ∀ v5 v6, V X K 5 [.ref R, .ref (T + 12 + 2 * k), .long x, nov, .int (nI pre.length), v5, v6] [] h := by
    intro post
    induction post with
    | nil =>
      intro pre x ep hx v5 v6
      rw [List.append_nil] at ep
      have hpl : pre.length = s.2.2.length := by rw [ep]
      refine k_X12_directly_5 o (fun c => ?_) (fun c => ?_)
      rotate_left
      · exact absurd ((nI_leI (by omega) (by omega)).mpr (by rw [ep]; exact Nat.le_refl _)) c
      refine k_X12_directly_87 o ?_
      refine kk x (hx.cg fun j => ?_)
      unfold edg; rw [hk]; simp only; rw [ep]
    | cons y post ih =>
      intro pre x ep hx v5 v6
      have hl2 : pre.length < s.2.2.length := by rw [ep]; simp
      have hy : s.2.2[pre.length]? = some y := by rw [ep]; simp
      obtain ⟨q1, q2, q3⟩ := hT y (hmem y (List.mem_of_getElem? hy))
      have ht : tyc y.1 < 9223372036854775808 := by
        have h1 := tyc_lt q1
        have h2 : 256 ^ y.1.length ≤ 256 ^ 7 := Nat.pow_le_pow_right (by omega) (by omega)
        omega
      refine k_X12_directly_5 o (fun c => ?_) (fun c => ?_)
      · exact absurd ((nI_leI (by omega) (by omega)).mp c) (by omega)
      refine k_X12_directly_17 o ?_
      refine spget_ok d4 s3 s7 (by omega) hsp (by omega) ?_
      rw [hy]
      show V X K 33 [.ref R, .ref (T + 12 + 2 * k), .long x, nov, .int (nI pre.length), v5, v6] [.long (lN (tyc y.1))] h
      have et : un (((lN (tyc y.1) >>> ((nI 8).toInt64 &&& 63)) &&& 255)) = tyc y.1 / 256 % 256 := by rw [un_fld (m := 8) _ (by omega) (by omega) rfl, un_l (by omega)]
      have eb : (lN (tyc y.1) &&& (255 : Int64)) = lN (tyc y.1 % 256) := un_inj (by rw [un_and, un_l (by omega), un_l (by omega), show un (255 : Int64) = 2 ^ 8 - 1 from rfl, Nat.and_two_pow_sub_one_eq_mod])
      have hsx := sidx_n q1
      have nxt : ∀ x' v5 v6, BT x' (fun j => decide (j < m.2.1.length) && (pre ++ [y]).any fun x => sidx x.1 == some j) → V X K 81 [.ref R, .ref (T + 12 + 2 * k), .long x', nov, .int (nI pre.length), v5, v6] [] h := fun x' v5 v6 hx' => by
        refine k_X12_directly_81 o ?_
        rw [nI_add]
        have := ih (pre ++ [y]) x' (by rw [ep]; simp) hx' v5 v6
        rw [List.length_append] at this
        exact this
      refine k_X12_directly_33 o (fun c2 => ?_) (fun c2 => ?_)
      · have c2 : ¬ tyc y.1 / 256 % 256 = 6 := fun z => c2 (un_inj (by rw [et, z]; rfl))
        rw [if_neg c2] at hsx
        exact nxt x _ _ (hx.cg fun j => by rw [List.any_append, List.any_cons, hsx]; simp)
      · have c2 : tyc y.1 / 256 % 256 = 6 := by have := congrArg un c2; rw [et] at this; exact this
        rw [if_pos c2] at hsx
        refine k_X12_directly_51 o (fun c3 => ?_) (fun c3 => ?_)
        · rw [eb, nI_64 (by omega)] at c3
          have c3 := (lN_leI (by omega) (by omega)).mp c3
          exact nxt x _ _ (hx.cg fun j => by
            rw [List.any_append, List.any_cons, hsx]
            by_cases cj : j < m.2.1.length
            · have : (some (tyc y.1 % 256) == some j) = false := by simp; omega
              rw [this]; simp
            · rw [decide_eq_false cj]; rfl)
        · rw [eb, nI_64 (by omega)] at c3
          have c3 : tyc y.1 % 256 < m.2.1.length := Nat.not_le.mp fun z => c3 ((lN_leI (by omega) (by omega)).mpr z)
          refine k_X12_directly_69 o ?_
          rw [eb, lN_32]
          exact nxt _ _ _ ((hx.or (BT.pw (by omega))).cg fun j => by
            rw [List.any_append, List.any_cons, hsx]
            by_cases cj : j = tyc y.1 % 256
            · subst cj; rw [decide_eq_true c3]; simp
            · have : (some (tyc y.1 % 256) == some j) = false := by simp; omega
              rw [this, decide_eq_false cj]; simp)
  refine k_X12_directly_0 o ?_
  exact loop s.2.2 [] 0 rfl (BT.z.cg fun j => by simp) _ _
/-- rows of sets -/
def RH (h : AH) (Q o : Nat) (f : Nat → Nat → Bool) : Prop := ∀ k, k < o → BT (h.EJ 371 Q k) (f k)
theorem itself_ok {G : Gt} {d : Nat} {h : AH} {K : Outcome → AH → Prop} {R W Q T n : Nat} {B : Nat → Nat} {m : Md} (hs : RB h R W Q T n B m) (hT : ∀ x ∈ mts m, tby x.1 ∧ x.1.length ≤ 7 ∧ x.2 < 2048) (hd : 2 ≤ d)
    (kk : OQ (rond m) (∀ h', Fq (FS [10000 + 371]) h h' → K (.returned none) h') (TE K R W T h)) : MW G d e_X12_itself [.ref R] h K := by
  refine st_X12_itself fun X o hG hD hf => ?_
  subst hG; subst hD
  have rr : 64 ≤ 371 ∧ 371 % 16 = 3 := by decide
  have rr2 : 64 ≤ 371 ∧ 371 < 4096 ∧ 371 % 16 = 3 := by decide
  have own32 : m.2.1.length ≤ 32 := hs.2.2.1.2.1
  have frq : ∀ {hx : AH}, Fq (FS [10000 + 371]) h hx → RB hx R W Q T n B m := fun fx => hs.fr fx.1 (FS.no rfl)
  -- the last look
  have loop3 : ∀ j k hx, k + j = m.2.1.length → Fq (FS [10000 + 371]) h hx → RH hx Q m.2.1.length (wsh (edg m) m.2.1.length) → OQ (rnf m j k) (∀ h', Fq (FS [10000 + 371]) h h' → K (.returned none) h') (TE K R W T h) → ∀ v3, V X K 101 [.ref R, .ref Q, .int (nI k), v3] [] hx := by
    intro j
    induction j with
    | zero =>
      intro k hx hk fx rx kx v3
      obtain ⟨⟨⟨s1, s2, s3⟩, -⟩, ⟨⟨a1, a2, a3, a4, a5⟩, -⟩⟩ := frq fx
      have t0 := s1.1
      have t1 := s3.1.1
      refine k_X12_itself_101 o (fun c => ?_) (fun c => ?_)
      rotate_left
      · exact absurd ((nI_leI (by omega) (by omega)).mpr (by omega)) c
      refine k_X12_itself_153 o ?_
      exact kx hx fx
    | succ j ih =>
      intro k hx hk fx rx kx v3
      have sx := frq fx
      obtain ⟨⟨⟨s1, s2, s3⟩, -⟩, ⟨⟨a1, a2, a3, a4, a5⟩, -, m1, -⟩⟩ := id sx
      have t0 := s1.1
      obtain ⟨⟨g1, g2, g3, g4', g5, g6⟩, ⟨p1, -⟩, -⟩ := id s3
      have tq := s1.2.2.2.2.2
      obtain ⟨d1, d2, d3, d4⟩ := s3.2.2.2.1 k (by omega)
      have ixk : IX (nI k) 64 k := IX.mk (by omega) (by omega)
      have ixk2 : IX (nI k) 32 k := IX.mk (by omega) (by omega)
      have hbt := (rx k (by omega)).at (k := k) (by omega)
      have hk' : k < m.2.1.length := by omega
      have hpl : hx.I 769 (T + 12 + 2 * k) = nI (spl m k) := by
        unfold spl; rw [List.getElem?_eq_getElem hk']
        exact (m1 k _ (List.getElem?_eq_getElem hk')).1
      have kx := OQ.or.mp kx
      have key : ∀ b, (!wsh (edg m) m.2.1.length k k) = b → V X K 130 [.ref R, .ref Q, .int (nI k), v3] [.int (bI b), .ref R] hx := fun b hb => by
        rw [hb] at kx
        refine k_X12_itself_130 o ?_
        refine rneed2_ok (T := T) s1 (by omega) (kx.mono (fun k2 => ?_) (fun w q t => TE.fq (fx.mono fun f a z => Or.inl (FS.mono (l := [10000 + 371]) rfl f a z)) t))
        refine k_X12_itself_147 o ?_
        rw [nI_add]
        exact ih (k + 1) hx (by omega) fx rx k2 v3
      refine k_X12_itself_101 o (fun c => ?_) (fun c => ?_)
      · exact absurd ((nI_leI (by omega) (by omega)).mp c) (by omega)
      refine k_X12_itself_112 o (fun c2 => ?_) (fun c2 => ?_)
      · rw [hbt] at c2
        refine k_X12_itself_129 o ?_
        refine key false ?_
        cases hw : wsh (edg m) m.2.1.length k k with
        | true => rfl
        | false => rw [hw] at c2; exact absurd rfl c2
      · rw [hbt] at c2
        refine k_X12_itself_125 o ?_
        refine key true ?_
        cases hw : wsh (edg m) m.2.1.length k k with
        | true => rw [hw] at c2; exact absurd c2 (by decide)
        | false => rfl
  -- Warshall's steps
  have loop2 : ∀ j i hx, i + j = m.2.1.length → Fq (FS [10000 + 371]) h hx → RH hx Q m.2.1.length (wsh (edg m) i) → ∀ v3, V X K 42 [.ref R, .ref Q, .int (nI i), v3] [] hx := by
    intro j
    induction j with
    | zero =>
      intro i hx hi fx rx v3
      obtain ⟨⟨⟨s1, s2, s3⟩, -⟩, ⟨⟨a1, a2, a3, a4, a5⟩, -⟩⟩ := frq fx
      have t0 := s1.1
      have t1 := s3.1.1
      refine k_X12_itself_42 o (fun c => ?_) (fun c => ?_)
      rotate_left
      · exact absurd ((nI_leI (by omega) (by omega)).mpr (by omega)) c
      refine k_X12_itself_99 o ?_
      refine loop3 m.2.1.length 0 hx (by omega) fx ?_ kk v3
      have : i = m.2.1.length := by omega
      rw [this] at rx; exact rx
    | succ j ih =>
      intro i hx hi fx rx v3
      have inner : ∀ l k hz, k + l = m.2.1.length → Fq (FS [10000 + 371]) h hz → (∀ q, q < m.2.1.length → BT (hz.EJ 371 Q q) (if q < k then wsh (edg m) (i + 1) q else wsh (edg m) i q)) → V X K 55 [.ref R, .ref Q, .int (nI i), .int (nI k)] [] hz := by
        intro l
        induction l with
        | zero =>
          intro k hz hk fz rz
          obtain ⟨⟨⟨s1, s2, s3⟩, -⟩, ⟨⟨a1, a2, a3, a4, a5⟩, -⟩⟩ := frq fz
          have t0 := s1.1
          have t1 := s3.1.1
          refine k_X12_itself_55 o (fun c => ?_) (fun c => ?_)
          rotate_left
          · exact absurd ((nI_leI (by omega) (by omega)).mpr (by omega)) c
          refine k_X12_itself_93 o ?_
          rw [nI_add]
          refine ih (i + 1) hz (by omega) fz (fun q hq => ?_) _
          have := rz q hq
          rw [if_pos (by omega)] at this; exact this
        | succ l ih2 =>
          intro k hz hk fz rz
          obtain ⟨⟨⟨s1, s2, s3⟩, -⟩, ⟨⟨a1, a2, a3, a4, a5⟩, -⟩⟩ := frq fz
          have t0 := s1.1
          have t1 := s3.1.1
          have tq := s1.2.2.2.2.2
          have ixk : IX (nI k) 32 k := IX.mk (by omega) (by omega)
          have ixi : IX (nI i) 32 i := IX.mk (by omega) (by omega)
          have hk1 := rz k (by omega)
          rw [if_neg (by omega)] at hk1
          have hi1 : BT (hz.EJ 371 Q i) (wsh (edg m) i i) := by
            have := rz i (by omega)
            split at this
            · exact this.cg fun j => wsh_mid _ _ _
            · exact this
          have hbt := hk1.at (k := i) (by omega)
          have nxt : ∀ hy, Fq (FS [10000 + 371]) h hy → (∀ q, q ≠ k → hy.EJ 371 Q q = hz.EJ 371 Q q) → BT (hy.EJ 371 Q k) (wsh (edg m) (i + 1) k) → V X K 87 [.ref R, .ref Q, .int (nI i), .int (nI k)] [] hy := fun hy fy e1 e2 => by
            refine k_X12_itself_87 o ?_
            rw [nI_add]
            refine ih2 (k + 1) hy (by omega) fy fun q hq => ?_
            by_cases c : q = k
            · subst c; rw [if_pos (by omega)]; exact e2
            · rw [e1 q c]
              have := rz q hq
              by_cases c2 : q < k
              · rw [if_pos c2] at this; rw [if_pos (by omega)]; exact this
              · rw [if_neg c2] at this; rw [if_neg (by omega)]; exact this
          refine k_X12_itself_55 o (fun c => ?_) (fun c => ?_)
          · exact absurd ((nI_leI (by omega) (by omega)).mp c) (by omega)
          refine k_X12_itself_66 o (fun c2 => ?_) (fun c2 => ?_)
          · rw [hbt] at c2
            refine nxt hz fz (fun _ _ => rfl) (hk1.cg fun j => ?_)
            have : wsh (edg m) i k i = false := by
              cases hw : wsh (edg m) i k i with
              | true => rw [hw] at c2; exact absurd rfl c2
              | false => rfl
            simp only [wsh, this, Bool.false_and, Bool.or_false]
          · rw [hbt] at c2
            have : wsh (edg m) i k i = true := by
              cases hw : wsh (edg m) i k i with
              | true => rfl
              | false => rw [hw] at c2; exact absurd c2 (by decide)
            refine k_X12_itself_78 o ?_
            refine nxt _ (fz.sEJ rfl) (fun q hq => ?_) ?_
            · simp [n_sI, z_sI, tag_sI, I_sI, J_sI, R_sI, EI_sI, EJ_sI, ER_sI, n_sJ, z_sJ, tag_sJ, I_sJ, J_sJ, R_sJ, EI_sJ, EJ_sJ, ER_sJ, n_sR, z_sR, tag_sR, I_sR, J_sR, R_sR, EI_sR, EJ_sR, ER_sR, n_sEI, z_sEI, tag_sEI, I_sEI, J_sEI, R_sEI, EI_sEI, EJ_sEI, ER_sEI, n_sEJ, z_sEJ, tag_sEJ, I_sEJ, J_sEJ, R_sEJ, EI_sEJ, EJ_sEJ, ER_sEJ, n_sER, z_sER, tag_sER, I_sER, J_sER, R_sER, EI_sER, EJ_sER, ER_sER, n_nw, z_nw, tag_nw, I_nw, J_nw, R_nw, EI_nw, EJ_nw, ER_nw, hq]
            · have := hk1.or hi1
              simp only [EJ_sEJ]
              simp only [and_self, if_true]
              exact this.cg fun j => by simp only [wsh, ‹wsh (edg m) i k i = true›, Bool.true_and]
      obtain ⟨⟨⟨s1, s2, s3⟩, -⟩, ⟨⟨a1, a2, a3, a4, a5⟩, -⟩⟩ := frq fx
      have t0 := s1.1
      have t1 := s3.1.1
      refine k_X12_itself_42 o (fun c => ?_) (fun c => ?_)
      · exact absurd ((nI_leI (by omega) (by omega)).mp c) (by omega)
      refine k_X12_itself_53 o ?_
      refine inner m.2.1.length 0 hx (by omega) fx fun q hq => ?_
      rw [if_neg (by omega)]; exact rx q hq
  -- what lies in each
  have loop1 : ∀ j k hx, k + j = m.2.1.length → Fq (FS [10000 + 371]) h hx → (∀ q, q < k → BT (hx.EJ 371 Q q) (edg m q)) → ∀ v3, V X K 7 [.ref R, .ref Q, .int (nI k), v3] [] hx := by
    intro j
    induction j with
    | zero =>
      intro k hx hk fx rx v3
      obtain ⟨⟨⟨s1, s2, s3⟩, -⟩, ⟨⟨a1, a2, a3, a4, a5⟩, -⟩⟩ := frq fx
      have t0 := s1.1
      have t1 := s3.1.1
      refine k_X12_itself_7 o (fun c => ?_) (fun c => ?_)
      rotate_left
      · exact absurd ((nI_leI (by omega) (by omega)).mpr (by omega)) c
      refine k_X12_itself_40 o ?_
      exact loop2 m.2.1.length 0 hx (by omega) fx (fun q hq => rx q (by omega)) v3
    | succ j ih =>
      intro k hx hk fx rx v3
      have sx := frq fx
      obtain ⟨⟨⟨s1, s2, s3⟩, -⟩, ⟨⟨a1, a2, a3, a4, a5⟩, -⟩⟩ := id sx
      have t0 := s1.1
      obtain ⟨⟨g1, g2, g3, g4', g5, g6⟩, ⟨p1, -⟩, -⟩ := id s3
      have tq := s1.2.2.2.2.2
      obtain ⟨d1, d2, d3, d4⟩ := s3.2.2.2.1 k (by omega)
      have ixk : IX (nI k) 64 k := IX.mk (by omega) (by omega)
      have ixk2 : IX (nI k) 32 k := IX.mk (by omega) (by omega)
      have hk' : k < m.2.1.length := by omega
      refine k_X12_itself_7 o (fun c => ?_) (fun c => ?_)
      · exact absurd ((nI_leI (by omega) (by omega)).mp c) (by omega)
      refine k_X12_itself_18 o ?_
      refine directly_ok sx hT (List.getElem?_eq_getElem hk') (by omega) fun x hx' => ?_
      refine k_X12_itself_33 (T1 := 371) o ?_
      rw [nI_add]
      refine ih (k + 1) (hx.sEJ 371 Q k x) (by omega) (fx.sEJ rfl) (fun q hq => ?_) v3
      by_cases c2 : q = k
      · subst c2; simp only [EJ_sEJ, and_self, if_true]; exact hx'
      · have := rx q (by omega)
        simpa [n_sI, z_sI, tag_sI, I_sI, J_sI, R_sI, EI_sI, EJ_sI, ER_sI, n_sJ, z_sJ, tag_sJ, I_sJ, J_sJ, R_sJ, EI_sJ, EJ_sJ, ER_sJ, n_sR, z_sR, tag_sR, I_sR, J_sR, R_sR, EI_sR, EJ_sR, ER_sR, n_sEI, z_sEI, tag_sEI, I_sEI, J_sEI, R_sEI, EI_sEI, EJ_sEI, ER_sEI, n_sEJ, z_sEJ, tag_sEJ, I_sEJ, J_sEJ, R_sEJ, EI_sEJ, EJ_sEJ, ER_sEJ, n_sER, z_sER, tag_sER, I_sER, J_sER, R_sER, EI_sER, EJ_sER, ER_sER, n_nw, z_nw, tag_nw, I_nw, J_nw, R_nw, EI_nw, EJ_nw, ER_nw, c2] using this
  obtain ⟨⟨⟨s1, s2, s3⟩, -⟩, -⟩ := id hs
  have t0 := s1.1
  have r5 := s1.2.2.2.2.1
  refine k_X12_itself_0 o ?_
  exact loop1 m.2.1.length 0 h (by omega) (Fq.refl h) (fun q hq => absurd hq (by omega)) _
