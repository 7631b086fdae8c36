/-! whether a structure bears its abilities -/
def wnt (a : Nat) : Nat := (a &&& 7) ||| (if a &&& 8 = 0 then 0 else 4)
def bears (m : Md) (s : Sx) : Bool := s.2.2.all fun x => abl m x.1 &&& wnt s.2.1 == wnt s.2.1
theorem nI_orr {a b : Nat} (ha : a < 16) (hb : b < 16) : nI a ||| nI b = nI (a ||| b) := by
  have h1 : a ||| b < 2 ^ 4 := Nat.or_lt_two_pow ha hb
  exact um_inj (by rw [um_or, um_n (by omega), um_n (by omega), um_n (by omega)])
theorem wnt_le (a : Nat) : wnt a ≤ 7 := by
  have h1 : a &&& 7 < 2 ^ 3 := Nat.lt_of_le_of_lt Nat.and_le_right (by decide)
  have h2 : (if a &&& 8 = 0 then 0 else 4) < 2 ^ 3 := by split <;> decide
  have := Nat.or_lt_two_pow h1 h2
  unfold wnt; omega
theorem cber_ok {G : Gt} {d : Nat} {h : AH} {K : Outcome → AH → Prop} {C W T k : Nat} {m : Md} {s : Sx} (hs : SCk h C W) (hT : STb h T) (hm : MX h T (mts m) (mcs m) m) (ht : TY h T (mts m)) (g : gM m) (hk : m.2.1[k]? = some s) (hd : 6 ≤ d) (kk : K (.returned (some (.int (bI (bears m s))))) h) : MW G d e_X13_doesBear [.ref C, .ref T, .ref (T + 12 + 2 * k)] h K := by
  refine st_X13_doesBear fun X o hG hD hf => ?_
  subst hG; subst hD
  have h4 := g.1
  obtain ⟨hf16, hfT⟩ := g.2.1 s (List.mem_of_getElem? hk)
  have hkl := get_lt hk
  obtain ⟨-, ⟨b1, b2, b3, b4, b5, b6⟩, m1, -⟩ := id hm
  have hx := m1 k s hk
  obtain ⟨⟨g1, g2, g3, g4', g5, g6⟩, -, -, dS, -⟩ := id hT
  obtain ⟨d1, d2, d3, d4⟩ := dS k (by omega)
  have c0 := hs.1.1
  have e1 := hx.2.1
  have e2 : SP h (T + 13 + 2 * k) (mts m) s.2.2 := by
    have := hx.2.2
    rw [show T + 12 + 2 * k + 1 = T + 13 + 2 * k by omega] at this
    exact this
  have ha : s.2.1 ≤ 15 := h4.1 s (List.mem_of_getElem? hk)
  have hcnt : h.I 513 (T + 13 + 2 * k) = nI s.2.2.length := by obtain ⟨a, b, z1, z2, z3⟩ := e2; exact z3
  have hw := wnt_le s.2.1
  have loop : ∀ post i (b : Bool), s.2.2.drop i = post → i ≤ s.2.2.length → K (.returned (some (.int (bI (b && post.all fun x => abl m x.1 &&& wnt s.2.1 == wnt s.2.1))))) h → V X K 30 [.ref C, .ref T, .ref (T + 12 + 2 * k), .int (nI (wnt s.2.1)), .int (bI b), .int (nI i)] [] h := by
    intro post
    induction post with
    | nil =>
      intro i b hp hi k1
      have hp := List.drop_eq_nil_iff.mp hp
      refine k_X13_doesBear_30 o (fun _ => ?_) (fun c => ?_)
      rotate_left
      · exact absurd ((nI_leI (by omega) (by omega)).mpr (by omega)) c
      refine k_X13_doesBear_82 o ?_
      rw [List.all_nil, Bool.and_true] at k1
      exact k1
    | cons x post ih =>
      intro i b hp hi k1
      have hil : i < s.2.2.length := by
        rcases Nat.lt_or_ge i s.2.2.length with z | z
        · exact z
        · rw [List.drop_eq_nil_iff.mpr z] at hp; cases hp
      have hxi : s.2.2[i]? = some x := by
        have : (s.2.2.drop i)[0]? = some x := by rw [hp]; rfl
        rw [List.getElem?_drop, Nat.add_zero] at this; exact this
      have hp2 : s.2.2.drop (i + 1) = post := by rw [← List.drop_drop, hp]; rfl
      have hft := hfT x (List.mem_of_getElem? hxi)
      have hal := abl_le h4 x.1
      refine k_X13_doesBear_30 o (fun c => ?_) (fun _ => ?_)
      · exact absurd ((nI_leI (by omega) (by omega)).mp c) (by omega)
      refine k_X13_doesBear_42 o ?_
      refine spget_ok d4 hT ht g.2.2.2.2.2.2 e2 (by omega) ?_
      rw [hxi]
      refine k_X13_doesBear_59 o ?_
      refine cabl_ok hs hT hm h4 hft.ok (by omega) ?_
      rw [List.all_cons] at k1
      have nxt : ∀ e : Bool, e = (abl m x.1 &&& wnt s.2.1 == wnt s.2.1) → V X K 73 [.ref C, .ref T, .ref (T + 12 + 2 * k), .int (nI (wnt s.2.1)), .int (bI b), .int (nI i)] [.int (bI e), .int (bI b)] h := fun e he => by
        refine k_X13_doesBear_73 o ?_
        rw [nI_add]
        have eb' : bI b &&& bI e = bI (b && e) := by cases b <;> cases e <;> rfl
        rw [eb']
        refine ih (i + 1) (b && e) hp2 (by omega) ?_
        rw [Bool.and_assoc, he]; exact k1
      refine k_X13_doesBear_62 o (fun c => ?_) (fun c => ?_)
      · rw [nI_and (by omega) (by omega)] at c
        refine k_X13_doesBear_72 o ?_
        refine nxt false ?_
        cases hh : (abl m x.1 &&& wnt s.2.1 == wnt s.2.1) with
        | false => rfl
        | true => exact absurd (congrArg nI (of_decide_eq_true hh)) c
      · rw [nI_and (by omega) (by omega)] at c
        have hle : abl m x.1 &&& wnt s.2.1 ≤ wnt s.2.1 := Nat.and_le_right
        have c := (nI_eq (by omega) (by omega)).mp c
        refine k_X13_doesBear_68 o ?_
        refine nxt true ?_
        rw [c]; simp
  have start : ∀ v, v = (if s.2.1 &&& 8 = 0 then 0 else 4) → V X K 22 [.ref C, .ref T, .ref (T + 12 + 2 * k), nov, nov, nov] [.int (nI v), .int (nI (s.2.1 &&& 7))] h := fun v hv => by
    have l7 : s.2.1 &&& 7 ≤ 7 := Nat.and_le_right
    have lv : v ≤ 4 := by subst hv; split <;> omega
    refine k_X13_doesBear_22 o ?_
    rw [nI_orr (by omega) (by omega)]
    have : (s.2.1 &&& 7) ||| v = wnt s.2.1 := by subst hv; rfl
    rw [this]
    exact loop s.2.2 0 true rfl (by omega) (by rw [Bool.true_and]; exact kk)
  refine k_X13_doesBear_0 o (fun c => ?_) (fun c => ?_)
  · rw [nI_and (by omega) (by omega)] at c
    have l8 : s.2.1 &&& 8 ≤ 8 := Nat.and_le_right
    have c := (nI_eq (b := 0) (by omega) (by omega)).mp c
    rw [nI_and (by omega) (by omega)]
    refine k_X13_doesBear_21 o ?_
    exact start 0 (by rw [if_pos c])
  · rw [nI_and (by omega) (by omega)] at c
    rw [nI_and (by omega) (by omega)]
    refine k_X13_doesBear_17 o ?_
    exact start 4 (by rw [if_neg (fun z => c (by rw [z]; rfl))])
theorem lber_ok {G : Gt} {d : Nat} {h : AH} {K : Outcome → AH → Prop} {O U n k : Nat} {B : Nat → Nat} {m : Md} {s : Sx} (hl : SLk h O) (hsu : SU h U n B) (hum : UM h U n B m) (g : gM m) (hk : m.2.1[k]? = some s) (hd : 4 ≤ d) (kk : ∀ h', Fq (FS [3072]) h h' → K (.returned (some (.int (bI (bears m s))))) h') : MW G d e_X25_bears [.ref O, .ref U, .int (nI k)] h K := by
  refine st_X25_bears fun X o hG hD hf => ?_
  subst hG; subst hD
  have h4 := g.1
  obtain ⟨hf16, hfT⟩ := g.2.1 s (List.mem_of_getElem? hk)
  have hkl := get_lt hk
  have hkn : k < nst m := by unfold nst; omega
  have c0 := hl.1
  have c1 := hsu.1.1
  have h32 := g.2.2.2.2.2.1
  have ha : s.2.1 ≤ 15 := h4.1 s (List.mem_of_getElem? hk)
  have es : sab m k = s.2.1 := by unfold sab; rw [if_pos hkl, hk]
  have hw := wnt_le s.2.1
  refine k_X25_bears_0 o ?_
  have f1 : Fq (FS [3072]) h (h.sR 3072 O (some U)) := (Fq.refl h).sR rfl
  have e1 : (h.sR 3072 O (some U)).R 3072 O = some U := by simp [n_sI, z_sI, tag_sI, I_sI, J_sI, R_sI, EI_sI, EJ_sI, ER_sI, n_sJ, z_sJ, tag_sJ, I_sJ, J_sJ, R_sJ, EI_sJ, EJ_sJ, ER_sJ, n_sR, z_sR, tag_sR, I_sR, J_sR, R_sR, EI_sR, EJ_sR, ER_sR, n_sEI, z_sEI, tag_sEI, I_sEI, J_sEI, R_sEI, EI_sEI, EJ_sEI, ER_sEI, n_sEJ, z_sEJ, tag_sEJ, I_sEJ, J_sEJ, R_sEJ, EI_sEJ, EJ_sEJ, ER_sEJ, n_sER, z_sER, tag_sER, I_sER, J_sER, R_sER, EI_sER, EJ_sER, ER_sER, n_nw, z_nw, tag_nw, I_nw, J_nw, R_nw, EI_nw, EJ_nw, ER_nw]
  generalize h.sR 3072 O (some U) = h1 at *
  have lu : LU h1 O U n B m := ⟨hl.fr f1.1 (FS.no rfl), e1, hsu.fr f1.1 (fun f a hf _ _ => FS.no rfl f a hf), hum.fr f1.1 (FS.no rfl)⟩
  have kk := kk h1 f1
  have c2 := lu.1.1
  have c3 := lu.2.2.1.1.1
  have loop : ∀ post i, s.2.2.drop i = post → i ≤ s.2.2.length → K (.returned (some (.int (bI (post.all fun x => abl m x.1 &&& wnt s.2.1 == wnt s.2.1))))) h1 → V X K 34 [.ref O, .ref U, .int (nI k), .int (nI (wnt s.2.1)), .int (nI i)] [] h1 := by
    intro post
    induction post with
    | nil =>
      intro i hp hi k1
      have hp := List.drop_eq_nil_iff.mp hp
      refine k_X25_bears_34 o ?_
      refine ufo_ok lu.2.2.1 lu.2.2.2 hk (by omega) ?_
      refine k_X25_bears_41 o (fun _ => ?_) (fun c => absurd ((nI_leI (by omega) (by omega)).mpr (by omega)) c)
      refine k_X25_bears_69 o ?_
      exact k1
    | cons x post ih =>
      intro i hp hi k1
      have hil : i < s.2.2.length := by
        rcases Nat.lt_or_ge i s.2.2.length with z | z
        · exact z
        · rw [List.drop_eq_nil_iff.mpr z] at hp; cases hp
      have hxi : s.2.2[i]? = some x := by
        have : (s.2.2.drop i)[0]? = some x := by rw [hp]; rfl
        rw [List.getElem?_drop, Nat.add_zero] at this; exact this
      have hp2 : s.2.2.drop (i + 1) = post := by rw [← List.drop_drop, hp]; rfl
      have hft := hfT x (List.mem_of_getElem? hxi)
      have hal := abl_le h4 x.1
      refine k_X25_bears_34 o ?_
      refine ufo_ok lu.2.2.1 lu.2.2.2 hk (by omega) ?_
      refine k_X25_bears_41 o (fun c => absurd ((nI_leI (by omega) (by omega)).mp c) (by omega)) (fun _ => ?_)
      refine k_X25_bears_44 o ?_
      refine ufld_ok lu.2.2.1 lu.2.2.2 hk hxi (by omega) ?_
      refine k_X25_bears_52 o ?_
      refine labl_ok lu h4 hft.ok (by omega) ?_
      rw [List.all_cons] at k1
      refine k_X25_bears_55 o (fun c => ?_) (fun c => ?_)
      · rw [nI_and (by omega) (by omega)] at c
        have hle : abl m x.1 &&& wnt s.2.1 ≤ wnt s.2.1 := Nat.and_le_right
        have c := (nI_eq (by omega) (by omega)).mp c
        have : (abl m x.1 &&& wnt s.2.1 == wnt s.2.1) = true := by rw [c]; simp
        rw [this, Bool.true_and] at k1
        refine k_X25_bears_63 o ?_
        rw [nI_add]
        exact ih (i + 1) hp2 (by omega) k1
      · rw [nI_and (by omega) (by omega)] at c
        have : (abl m x.1 &&& wnt s.2.1 == wnt s.2.1) = false := by
          cases hh : (abl m x.1 &&& wnt s.2.1 == wnt s.2.1) with
          | false => rfl
          | true => exact absurd (congrArg nI (of_decide_eq_true hh)) c
        rw [this, Bool.false_and] at k1
        refine k_X25_bears_61 o ?_
        exact k1
  have start : ∀ v, v = (if s.2.1 &&& 8 = 0 then 0 else 4) → V X K 29 [.ref O, .ref U, .int (nI k), nov, nov] [.int (nI v), .int (nI (s.2.1 &&& 7))] h1 := fun v hv => by
    have l7 : s.2.1 &&& 7 ≤ 7 := Nat.and_le_right
    have lv : v ≤ 4 := by subst hv; split <;> omega
    refine k_X25_bears_29 o ?_
    rw [nI_orr (by omega) (by omega)]
    have : (s.2.1 &&& 7) ||| v = wnt s.2.1 := by subst hv; rfl
    rw [this]
    exact loop s.2.2 0 rfl (by omega) kk
  refine uabl_ok lu.2.2.1 lu.2.2.2 hkn (by omega) ?_
  rw [es]
  refine k_X25_bears_10 o ?_
  rw [nI_and (by omega) (by omega)]
  refine uabl_ok lu.2.2.1 lu.2.2.2 hkn (by omega) ?_
  rw [es]
  refine k_X25_bears_18 o (fun c => ?_) (fun c => ?_)
  · rw [nI_and (by omega) (by omega)] at c
    have l8 : s.2.1 &&& 8 ≤ 8 := Nat.and_le_right
    have c := (nI_eq (b := 0) (by omega) (by omega)).mp c
    refine k_X25_bears_28 o ?_
    exact start 0 (by rw [if_pos c])
  · rw [nI_and (by omega) (by omega)] at c
    refine k_X25_bears_24 o ?_
    exact start 4 (by rw [if_neg (fun z => c (by rw [z]; rfl))])
