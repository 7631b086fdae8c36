/-! what the unit tells -/
theorem rdM_num {n : Nat} {B : Nat → Nat} {m : Md} {q : Nat} (h : rdM n B = .ok (m, q)) : m.1 = 256 * B 4 + B 5 ∧ 6 ≤ n := by
  rw [rdM_pr] at h
  obtain ⟨_, p0, h0, h⟩ := bd_ok h
  obtain ⟨num, p1, h1, h⟩ := bd_ok h
  have e0 : p0 = 4 := by
    have : ∀ j k p {q : Nat} {u : Unit}, rdH n B j k p = .ok (u, q) → q = p + j := by
      intro j
      induction j with
      | zero => intro k p q u h; cases h; rfl
      | succ j ih =>
        intro k p q u h
        obtain ⟨_, p1, h1, h⟩ := bd_ok h
        obtain ⟨-, rfl, -⟩ := rdB_ok h1
        obtain ⟨_, p2, h2, h⟩ := bd_ok h
        obtain ⟨-, rfl⟩ := nd_ok h2
        have := ih _ _ h
        omega
    exact this 4 0 0 h0
  subst e0
  obtain ⟨rfl, rfl, e1⟩ := rdN_ok h1
  have h4n : 4 + 2 ≤ n := by
    rcases Nat.lt_or_ge n 4 with c | c
    · rw [show rdN n B 2 0 4 = bd (rdB n B 4) fun b p' => rdN n B 1 (256 * 0 + b) p' from rfl] at h1
      unfold rdB at h1
      rw [if_neg (by omega)] at h1
      cases h1
    · exact e1 c
  have en : m.1 = bn B 0 4 2 := by
    obtain ⟨ss, p2, _, h⟩ := bd_ok h
    obtain ⟨fs, p3, _, h⟩ := bd_ok h
    obtain ⟨cs, p4, _, h⟩ := bd_ok h
    obtain ⟨es, p5, _, h⟩ := bd_ok h
    obtain ⟨us, p6, _, h⟩ := bd_ok h
    obtain ⟨_, p7, _, h⟩ := bd_ok h
    cases h; rfl
  exact ⟨by rw [en, bn2], h4n⟩
theorem unum_ok {G : Gt} {d : Nat} {h : AH} {K : Outcome → AH → Prop} {U n : Nat} {B : Nat → Nat} {N : Nat} (hs : SU h U n B) (hN : N = 256 * B 4 + B 5) (hd : 2 ≤ d) (kk : K (.returned (some (.int (nI N)))) h) : MW G d e_X29_number [.ref U] h K := by
  refine st_X29_number fun X o hG hD _ => ?_
  subst hG; subst hD
  have s0 := hs.1.1
  refine k_X29_number_0 o ?_
  refine ushort_ok hs (by omega) (by omega) ?_
  rw [hN] at kk
  exact k_X29_number_5 o kk
theorem uscn_ok {G : Gt} {d : Nat} {h : AH} {K : Outcome → AH → Prop} {U n : Nat} {B : Nat → Nat} {m : Md} (hs : SU h U n B) (hm : UM h U n B m) (kk : K (.returned (some (.int (nI (nst m))))) h) : MW G d e_X29_structureCount [.ref U] h K := by
  refine st_X29_structureCount fun X o hG hD _ => ?_
  subst hG; subst hD
  have s0 := hs.1.1
  have c1 := hm.1.1
  have c2 := hm.2.1.1
  refine k_X29_structureCount_0 o ?_
  rw [nI_add]
  exact kk
theorem ufcn_ok {G : Gt} {d : Nat} {h : AH} {K : Outcome → AH → Prop} {U n : Nat} {B : Nat → Nat} {m : Md} (hs : SU h U n B) (hm : UM h U n B m) (kk : K (.returned (some (.int (nI (m.2.2.2.2.2.length + m.2.2.2.1.length))))) h) : MW G d e_X29_functionCount [.ref U] h K := by
  refine st_X29_functionCount fun X o hG hD _ => ?_
  subst hG; subst hD
  have s0 := hs.1.1
  have c1 := hm.2.2.2.2.1.1
  have c2 := hm.2.2.1.1
  refine k_X29_functionCount_0 o ?_
  rw [nI_add]
  exact kk
theorem rdSt_v {n : Nat} {B : Nat → Nat} {p q : Nat} {s : Sx} (h : rdSt n B p = .ok (s, q)) : s.1 = p ∧ B p = s.2.1 ∧ B (p + 1) = s.2.2.length ∧ p + 1 < n ∧ rep (rdT n B false) s.2.2.length (p + 2) = .ok (s.2.2, q) := by
  obtain ⟨a, p1, h1, h⟩ := bd_ok h
  obtain ⟨rfl, rfl, e1, -⟩ := rdC_ok h1
  obtain ⟨c, p2, h2, h⟩ := bd_ok h
  obtain ⟨rfl, rfl, e2, -⟩ := rdC_ok h2
  obtain ⟨l, p3, h3, h⟩ := bd_ok h
  cases h
  have := rep_len h3
  refine ⟨rfl, rfl, this.symm, e2, ?_⟩
  show rep (rdT n B false) l.length (p + 2) = _
  rw [this]; exact h3
theorem rdFo_v {n : Nat} {B : Nat → Nat} {p q : Nat} {s : Fx} (h : rdFo n B p = .ok (s, q)) : s.1 = 256 * B p + B (p + 1) ∧ s.2.1 = B (p + 2) ∧ s.2.2 = B (p + 3) ∧ p + 3 < n := by
  obtain ⟨a, p1, h1, h⟩ := bd_ok h
  obtain ⟨rfl, rfl, -⟩ := rdN_ok h1
  obtain ⟨c, p2, h2, h⟩ := bd_ok h
  obtain ⟨rfl, rfl, e2⟩ := rdB_ok h2
  obtain ⟨l, p3, h3, h⟩ := bd_ok h
  obtain ⟨rfl, rfl, e3, -⟩ := rdC_ok h3
  cases h
  exact ⟨bn2 B p, rfl, rfl, e3⟩
theorem rdCa_v {n : Nat} {B : Nat → Nat} {p q : Nat} {s : Cx} (h : rdCa n B p = .ok (s, q)) : s.1 = 256 * B p + B (p + 1) ∧ s.2.1 = B (p + 2) ∧ s.2.2.1 = B (p + 3) ∧ p + 3 < n ∧ ∃ p4, rdL n B 8 (p + 4) = .ok (s.2.2.2.1, p4) ∧ rdL n B 8 p4 = .ok (s.2.2.2.2, q) := by
  obtain ⟨a, p1, h1, h⟩ := bd_ok h
  obtain ⟨rfl, rfl, -⟩ := rdN_ok h1
  obtain ⟨c, p2, h2, h⟩ := bd_ok h
  obtain ⟨rfl, rfl, e2⟩ := rdB_ok h2
  obtain ⟨l, p3, h3, h⟩ := bd_ok h
  obtain ⟨rfl, rfl, e3, -⟩ := rdC_ok h3
  obtain ⟨t, p4, h4, h⟩ := bd_ok h
  obtain ⟨g, p5, h5, h⟩ := bd_ok h
  cases h
  exact ⟨bn2 B p, rfl, rfl, e3, p4, h4, h5⟩
/-- abilities of a structure by its number -/
def sab (m : Md) (k : Nat) : Nat := if k < m.2.1.length then (match m.2.1[k]? with | some s => s.2.1 | none => 0) else (match m.2.2.1[k - m.2.1.length]? with | some s => s.2.2 | none => 0)
/-- of which module a structure is, and its number there -/
def sid (m : Md) (k : Nat) : Nat := if k < m.2.1.length then 256 * m.1 + k else (match m.2.2.1[k - m.2.1.length]? with | some s => 256 * s.1 + s.2.1 | none => 0)
theorem uabl_ok {G : Gt} {d : Nat} {h : AH} {K : Outcome → AH → Prop} {U n k : Nat} {B : Nat → Nat} {m : Md} (hs : SU h U n B) (hm : UM h U n B m) (hk : k < nst m) (hd : 1 ≤ d) (kk : K (.returned (some (.int (nI (sab m k))))) h) : MW G d e_X29_abilitiesOf [.ref U, .int (nI k)] h K := by
  refine st_X29_abilitiesOf fun X o hG hD _ => ?_
  subst hG; subst hD
  obtain ⟨t0, ⟨t1, t2, t3, t4, t5, t6, t7, t8⟩, v1, v2, v3, v4, v5, v6, v7, v8⟩ := hs.1
  have c1 := hm.1.1
  have b1 := hm.1.2.1
  have b2 := hm.2.1.2.1
  unfold nst at hk
  have ixk : IX (nI k) 64 k := IX.mk (by omega) (by omega)
  unfold sab at kk
  by_cases c : k < m.2.1.length
  · rw [if_pos c, List.getElem?_eq_getElem c] at kk
    obtain ⟨p, q, e1, e2, e3⟩ := hm.1.2.2 k _ (List.getElem?_eq_getElem c)
    rw [Nat.zero_add] at e1
    have hv := (rdSt_v e3).2.1
    refine k_X29_abilitiesOf_0 o (fun z => ?_) (fun _ => ?_)
    · exact absurd ((nI_leI (by omega) (by omega)).mp z) (by omega)
    refine k_X29_abilitiesOf_15 o ?_
    refine k_X29_abilitiesOf_20 o ?_
    rw [nI_add]
    refine ubyte_ok hs (by omega) ?_
    refine k_X29_abilitiesOf_24 o ?_
    rw [show p + 0 = p from rfl, hv]
    exact kk
  · have c2 : k - m.2.1.length < m.2.2.1.length := by omega
    rw [if_neg c, List.getElem?_eq_getElem c2] at kk
    obtain ⟨p, q, e1, e2, e3⟩ := hm.2.1.2.2 _ _ (List.getElem?_eq_getElem c2)
    rw [show m.2.1.length + (k - m.2.1.length) = k by omega] at e1
    have hv := (rdFo_v e3).2.2.1
    refine k_X29_abilitiesOf_0 o (fun _ => ?_) (fun z => ?_)
    rotate_left
    · exact absurd ((nI_leI (by omega) (by omega)).mpr (by omega)) z
    refine k_X29_abilitiesOf_19 o ?_
    refine k_X29_abilitiesOf_20 o ?_
    rw [nI_add]
    refine ubyte_ok hs (by omega) ?_
    refine k_X29_abilitiesOf_24 o ?_
    rw [← hv]
    exact kk
theorem uidn_ok {G : Gt} {d : Nat} {h : AH} {K : Outcome → AH → Prop} {U n k : Nat} {B : Nat → Nat} {m : Md} (hs : SU h U n B) (hm : UM h U n B m) (hN : m.1 = 256 * B 4 + B 5) (hk : k < nst m) (hd : 3 ≤ d) (kk : K (.returned (some (.int (nI (sid m k))))) h) : MW G d e_X29_identity [.ref U, .int (nI k)] h K := by
  refine st_X29_identity fun X o hG hD _ => ?_
  subst hG; subst hD
  obtain ⟨t0, ⟨t1, t2, t3, t4, t5, t6, t7, t8⟩, v1, v2, v3, v4, v5, v6, v7, v8⟩ := hs.1
  have c1 := hm.1.1
  have b1 := hm.1.2.1
  have b2 := hm.2.1.2.1
  unfold nst at hk
  have ixk : IX (nI k) 64 k := IX.mk (by omega) (by omega)
  unfold sid at kk
  by_cases c : k < m.2.1.length
  · rw [if_pos c] at kk
    refine k_X29_identity_0 o (fun z => ?_) (fun _ => ?_)
    · exact absurd ((nI_leI (by omega) (by omega)).mp z) (by omega)
    refine k_X29_identity_15 o ?_
    refine unum_ok hs hN (by omega) ?_
    refine k_X29_identity_22 o ?_
    refine k_X29_identity_45 o ?_
    rw [nI_mul, nI_add]
    exact kk
  · have c2 : k - m.2.1.length < m.2.2.1.length := by omega
    rw [if_neg c, List.getElem?_eq_getElem c2] at kk
    obtain ⟨p, q, e1, e2, e3⟩ := hm.2.1.2.2 _ _ (List.getElem?_eq_getElem c2)
    rw [show m.2.1.length + (k - m.2.1.length) = k by omega] at e1
    obtain ⟨hv1, hv2, -⟩ := rdFo_v e3
    refine k_X29_identity_0 o (fun _ => ?_) (fun z => ?_)
    rotate_left
    · exact absurd ((nI_leI (by omega) (by omega)).mpr (by omega)) z
    refine k_X29_identity_28 o ?_
    refine ushort_ok hs (by omega) (by omega) ?_
    refine k_X29_identity_36 o ?_
    rw [nI_add, nI_mul]
    refine ubyte_ok hs (by omega) ?_
    refine k_X29_identity_44 o ?_
    refine k_X29_identity_45 o ?_
    rw [nI_add, ← hv1, ← hv2]
    exact kk
theorem utat_ok {G : Gt} {d : Nat} {h : AH} {K : Outcome → AH → Prop} {U n p q : Nat} {B : Nat → Nat} {r : Bool} {x : Ty × Nat} (hs : SU h U n B) (hx : rdT n B r p = .ok (x, q)) (hd : 2 ≤ d) (kk : K (.returned (some (.long (lN (tyc x.1))))) h) : MW G d e_X29_typeAt [.ref U, .int (nI p)] h K := by
  refine st_X29_typeAt fun X o hG hD _ => ?_
  subst hG; subst hD
  have s0 := hs.1.1
  have hn := hs.2.2.1
  have hB := hs.2.2.2.1
  obtain ⟨e1, e2, e3, e4, e5, -⟩ := rdT_ok hx
  have loop : ∀ j i, j + i = x.1.length → V X K 5 [.ref U, .int (nI p), .long (lN (tyc (bts B p i))), nov, .int (nI (p + i))] [] h := by
    intro j
    induction j with
    | zero =>
      intro i hi
      refine k_X29_typeAt_5 o ?_
      refine utend_ok hs hx (by omega) ?_
      refine k_X29_typeAt_12 o (fun _ => ?_) (fun c => absurd ((nI_leI (by omega) (by omega)).mpr (by omega)) c)
      refine k_X29_typeAt_35 o ?_
      rw [show i = x.1.length by omega, ← e1]
      exact kk
    | succ j ih =>
      intro i hi
      have hb := hB (p + i)
      refine k_X29_typeAt_5 o ?_
      refine utend_ok hs hx (by omega) ?_
      refine k_X29_typeAt_12 o (fun c => ?_) (fun _ => ?_)
      · exact absurd ((nI_leI (by omega) (by omega)).mp c) (by omega)
      refine k_X29_typeAt_15 o ?_
      refine ubyte_ok hs (by omega) ?_
      refine k_X29_typeAt_26 o ?_
      have e : (256 : Int64) * lN (tyc (bts B p i)) + (nI (B (p + i))).toInt64 = lN (tyc (bts B p (i + 1))) := by
        rw [nI_64 (by omega), bts_s, tyc_snoc]
        exact un_inj (by
          rw [un_add, un_mul, un_lm, un_lm, un_lm, show un (256 : Int64) = 256 from rfl]
          omega)
      rw [nI_add, e]
      exact ih (i + 1) (by omega)
  refine k_X29_typeAt_0 o ?_
  exact loop x.1.length 0 (by omega)
/-- the i-th of a row of types -/
theorem rep_nth {n : Nat} {B : Nat → Nat} {r : Bool} : ∀ {k p q : Nat} {l : TL}, rep (rdT n B r) k p = .ok (l, q) → ∀ i x, l[i]? = some x → ∃ p1 q1, rep (rdT n B r) i p = .ok (l.take i, p1) ∧ rdT n B r p1 = .ok (x, q1)
  | 0, p, q, l, h, i, x, hx => by cases h; simp at hx
  | k + 1, p, q, l, h, i, x, hx => by
    obtain ⟨a, p1, h1, h2⟩ := bd_ok h
    obtain ⟨l', p2, h3, h4⟩ := bd_ok h2
    cases h4
    cases i with
    | zero => cases hx; exact ⟨p, p1, rfl, h1⟩
    | succ i =>
      obtain ⟨p3, q3, g1, g2⟩ := rep_nth h3 i x hx
      refine ⟨p3, q3, ?_, g2⟩
      show bd (rdT n B r p) _ = _
      rw [h1, bd_k, g1]; rfl
theorem ufld_ok {G : Gt} {d : Nat} {h : AH} {K : Outcome → AH → Prop} {U n k i : Nat} {B : Nat → Nat} {m : Md} {s : Sx} {x : Ty × Nat} (hs : SU h U n B) (hm : UM h U n B m) (hk : m.2.1[k]? = some s) (hi : s.2.2[i]? = some x) (hd : 3 ≤ d) (kk : K (.returned (some (.long (lN (tyc x.1))))) h) : MW G d e_X29_field [.ref U, .int (nI k), .int (nI i)] h K := by
  refine st_X29_field fun X o hG hD _ => ?_
  subst hG; subst hD
  obtain ⟨t0, ⟨t1, t2, t3, t4, t5, t6, t7, t8⟩, v1, v2, v3, v4, v5, v6, v7, v8⟩ := hs.1
  have hn := hs.2.2.1
  have hB := hs.2.2.2.1
  have b1 := hm.1.2.1
  have hk' := get_lt hk
  have hi' := get_lt hi
  have ixk : IX (nI k) 64 k := IX.mk (by omega) (by omega)
  obtain ⟨p, q, e1, e2, e3⟩ := hm.1.2.2 k _ hk
  rw [Nat.zero_add] at e1
  have hsl := (rdSt_q hB e3).2.2.2.2.2.2.1
  obtain ⟨-, -, -, -, hv⟩ := rdSt_v e3
  obtain ⟨p1, q1, g1, g2⟩ := rep_nth hv i x hi
  refine k_X29_field_0 o ?_
  rw [nI_add]
  have loop : ∀ l k' j p2, k' + j = i → rep (rdT n B false) k' p2 = .ok (l, p1) → V X K 12 [.ref U, .int (nI k), .int (nI i), .int (nI p2), .int (nI j)] [] h := by
    intro l
    induction l with
    | nil =>
      intro k' j p2 hk' er
      cases k' with
      | succ k' =>
        obtain ⟨_, _, _, z⟩ := bd_ok er
        obtain ⟨_, _, _, z⟩ := bd_ok z
        cases z
      | zero =>
        cases er
        refine k_X29_field_12 o (fun _ => ?_) (fun c => absurd ((nI_leI (by omega) (by omega)).mpr (by omega)) c)
        refine k_X29_field_30 o ?_
        refine utat_ok hs g2 (by omega) ?_
        exact k_X29_field_35 o kk
    | cons y l ih =>
      intro k' j p2 hk' er
      cases k' with
      | zero => cases er
      | succ k' =>
        obtain ⟨y', p3, ey, z⟩ := bd_ok er
        obtain ⟨l', p4, el', z⟩ := bd_ok z
        cases z
        refine k_X29_field_12 o (fun c => ?_) (fun _ => ?_)
        · exact absurd ((nI_leI (by omega) (by omega)).mp c) (by omega)
        refine k_X29_field_18 o ?_
        refine utend_ok hs ey (by omega) ?_
        refine k_X29_field_23 o ?_
        rw [nI_add]
        exact ih k' (j + 1) p3 (by omega) el'
  exact loop _ i 0 (p + 2) (by omega) g1
theorem uele_ok {G : Gt} {d : Nat} {h : AH} {K : Outcome → AH → Prop} {U n k : Nat} {B : Nat → Nat} {m : Md} {x : Ty × Nat} (hs : SU h U n B) (hm : UM h U n B m) (hk : m.2.2.2.2.1[k]? = some x) (hd : 3 ≤ d) (kk : K (.returned (some (.long (lN (tyc x.1))))) h) : MW G d e_X29_element [.ref U, .int (nI k)] h K := by
  refine st_X29_element fun X o hG hD _ => ?_
  subst hG; subst hD
  obtain ⟨t0, ⟨t1, t2, t3, t4, t5, t6, t7, t8⟩, v1, v2, v3, v4, v5, v6, v7, v8⟩ := hs.1
  have b1 := hm.2.2.2.1.2.1
  have hk' := get_lt hk
  have ixk : IX (nI k) 32 k := IX.mk (by omega) (by omega)
  obtain ⟨p, q, e1, e2, e3⟩ := hm.2.2.2.1.2.2 k _ hk
  rw [Nat.zero_add] at e1
  refine k_X29_element_0 o ?_
  refine utat_ok hs e3 (by omega) ?_
  exact k_X29_element_10 o kk
/-- a function by its number: flags, lists -/
def fgs (m : Md) (f : Nat) : Nat := if f < m.2.2.2.2.2.length then (match m.2.2.2.2.2[f]? with | some u => u.1 | none => 0) else (match m.2.2.2.1[f - m.2.2.2.2.2.length]? with | some c => c.2.2.1 | none => 0)
def fls (m : Md) (f w : Nat) : TL := if f < m.2.2.2.2.2.length then (match m.2.2.2.2.2[f]? with | some u => ulst u w | none => []) else (match m.2.2.2.1[f - m.2.2.2.2.2.length]? with | some c => (if w = 0 then c.2.2.2.1 else if w = 1 then c.2.2.2.2 else []) | none => [])
theorem uflg_ok {G : Gt} {d : Nat} {h : AH} {K : Outcome → AH → Prop} {U n f : Nat} {B : Nat → Nat} {m : Md} (hs : SU h U n B) (hm : UM h U n B m) (hf : f < m.2.2.2.2.2.length + m.2.2.2.1.length) (hd : 1 ≤ d) (kk : K (.returned (some (.int (nI (fgs m f))))) h) : MW G d e_X29_flags [.ref U, .int (nI f)] h K := by
  refine st_X29_flags fun X o hG hD _ => ?_
  subst hG; subst hD
  obtain ⟨t0, ⟨t1, t2, t3, t4, t5, t6, t7, t8⟩, v1, v2, v3, v4, v5, v6, v7, v8⟩ := hs.1
  have hn := hs.2.2.1
  have c1 := hm.2.2.2.2.1.1
  have b1 := hm.2.2.2.2.1.2.1
  have b2 := hm.2.2.1.2.1
  unfold fgs at kk
  by_cases c : f < m.2.2.2.2.2.length
  · rw [if_pos c, List.getElem?_eq_getElem c] at kk
    obtain ⟨p, q, e1, e2, e3⟩ := hm.2.2.2.2.2.1 f _ (List.getElem?_eq_getElem c)
    rw [Nat.zero_add] at e1
    have ixk : IX (nI f) 64 f := IX.mk (by omega) (by omega)
    have hv := (rdU_v e3).1
    refine k_X29_flags_0 o (fun z => ?_) (fun _ => ?_)
    · exact absurd ((nI_leI (by omega) (by omega)).mp z) (by omega)
    refine k_X29_flags_8 o ?_
    refine ubyte_ok hs (by omega) ?_
    refine k_X29_flags_18 o ?_
    refine k_X29_flags_38 o ?_
    rw [hv]; exact kk
  · have c2 : f - m.2.2.2.2.2.length < m.2.2.2.1.length := by omega
    rw [if_neg c, List.getElem?_eq_getElem c2] at kk
    obtain ⟨p, q, e1, e2, e3⟩ := hm.2.2.1.2.2 _ _ (List.getElem?_eq_getElem c2)
    rw [Nat.zero_add] at e1
    have ixk : IX (nI f - nI m.2.2.2.2.2.length) 32 (f - m.2.2.2.2.2.length) := by rw [nI_sub (by omega)]; exact IX.mk (by omega) (by omega)
    have hv := (rdCa_v e3).2.2.1
    refine k_X29_flags_0 o (fun _ => ?_) (fun z => ?_)
    rotate_left
    · exact absurd ((nI_leI (by omega) (by omega)).mpr (by omega)) z
    refine k_X29_flags_21 o ?_
    rw [nI_add]
    refine ubyte_ok hs (by omega) ?_
    refine k_X29_flags_38 o ?_
    rw [← hv]; exact kk
theorem uLO_ok {G : Gt} {d : Nat} {h : AH} {K : Outcome → AH → Prop} {U n f w : Nat} {B : Nat → Nat} {m : Md} (hs : SU h U n B) (hm : UM h U n B m) (hf : f < m.2.2.2.2.2.length + m.2.2.2.1.length) (hw : w ≤ 2) (hfw : f < m.2.2.2.2.2.length ∨ w ≤ 1) (hd : 4 ≤ d)
    (kk : ∀ p hi q, rdL n B hi p = .ok (fls m f w, q) → K (.returned (some (.int (nI p)))) h) : MW G d e_X29_listOf [.ref U, .int (nI f), .int (nI w)] h K := by
  refine st_X29_listOf fun X o hG hD _ => ?_
  subst hG; subst hD
  obtain ⟨t0, ⟨t1, t2, t3, t4, t5, t6, t7, t8⟩, v1, v2, v3, v4, v5, v6, v7, v8⟩ := hs.1
  have hn := hs.2.2.1
  have c1 := hm.2.2.2.2.1.1
  have b1 := hm.2.2.2.2.1.2.1
  have b2 := hm.2.2.1.2.1
  by_cases c : f < m.2.2.2.2.2.length
  · have hfl : fls m f w = ulst (m.2.2.2.2.2[f]) w := by unfold fls; rw [if_pos c, List.getElem?_eq_getElem c]
    refine k_X29_listOf_0 o (fun z => ?_) (fun _ => ?_)
    · exact absurd ((nI_leI (by omega) (by omega)).mp z) (by omega)
    refine k_X29_listOf_8 o ?_
    refine uLA_ok hs hm (List.getElem?_eq_getElem c) hw (by omega) fun p l hi q el w0 w1 w2 => ?_
    refine k_X29_listOf_14 o ?_
    refine kk p hi q ?_
    rw [hfl, el]
    have : l = ulst (m.2.2.2.2.2[f]) w := by
      unfold ulst
      rcases (show w = 0 ∨ w = 1 ∨ w = 2 by omega) with e | e | e
      · rw [if_pos e]; exact w0 e
      · rw [if_neg (by omega), if_pos e]; exact w1 e
      · rw [if_neg (by omega), if_neg (by omega)]; exact w2 e
    rw [this]
  · have c2 : f - m.2.2.2.2.2.length < m.2.2.2.1.length := by omega
    have hw1 : w ≤ 1 := by omega
    have hfl : fls m f w = if w = 0 then (m.2.2.2.1[f - m.2.2.2.2.2.length]).2.2.2.1 else if w = 1 then (m.2.2.2.1[f - m.2.2.2.2.2.length]).2.2.2.2 else [] := by unfold fls; rw [if_neg c, List.getElem?_eq_getElem c2]
    obtain ⟨p, q, e1, e2, e3⟩ := hm.2.2.1.2.2 _ _ (List.getElem?_eq_getElem c2)
    rw [Nat.zero_add] at e1
    have ixk : IX (nI f - nI m.2.2.2.2.2.length) 32 (f - m.2.2.2.2.2.length) := by rw [nI_sub (by omega)]; exact IX.mk (by omega) (by omega)
    obtain ⟨-, -, -, hp4, p4, l1, l2⟩ := rdCa_v e3
    refine k_X29_listOf_0 o (fun _ => ?_) (fun z => ?_)
    rotate_left
    · exact absurd ((nI_leI (by omega) (by omega)).mpr (by omega)) z
    refine k_X29_listOf_15 o (fun z => ?_) (fun z => ?_)
    · have z : ¬ w = 0 := fun q => z (by rw [q]; rfl)
      refine k_X29_listOf_37 o ?_
      rw [nI_add]
      refine ulE_ok hs l1 (by omega) ?_
      refine k_X29_listOf_42 o ?_
      refine kk p4 8 q ?_
      rw [hfl, if_neg z, if_pos (by omega)]; exact l2
    · have z : w = 0 := (nI_eq (a := w) (b := 0) (by omega) (by omega)).mp z
      refine k_X29_listOf_33 o ?_
      refine k_X29_listOf_42 o ?_
      rw [nI_add]
      refine kk (p + 4) 8 p4 ?_
      rw [hfl, if_pos z]; exact l1
theorem umny_ok {G : Gt} {d : Nat} {h : AH} {K : Outcome → AH → Prop} {U n f w : Nat} {B : Nat → Nat} {m : Md} (hs : SU h U n B) (hm : UM h U n B m) (hf : f < m.2.2.2.2.2.length + m.2.2.2.1.length) (hw : w ≤ 2) (hd : 5 ≤ d)
    (kk : K (.returned (some (.int (nI (fls m f w).length)))) h) : MW G d e_X29_many [.ref U, .int (nI f), .int (nI w)] h K := by
  refine st_X29_many fun X o hG hD _ => ?_
  subst hG; subst hD
  have s0 := hs.1.1
  have hn := hs.2.2.1
  have c1 := hm.2.2.2.2.1.1
  have b1 := hm.2.2.2.2.1.2.1
  have b2 := hm.2.2.1.2.1
  have go : (f < m.2.2.2.2.2.length ∨ w ≤ 1) → V X K 17 [.ref U, .int (nI f), .int (nI w)] [] h := fun c => by
    refine k_X29_many_17 o ?_
    refine uLO_ok hs hm hf hw c (by omega) fun p hi q el => ?_
    obtain ⟨e1, e2, -⟩ := rdL_v el
    refine k_X29_many_24 o ?_
    refine ubyte_ok hs (by omega) ?_
    refine k_X29_many_27 o ?_
    rw [e1]; exact kk
  refine k_X29_many_0 o (fun z => ?_) (fun z => ?_)
  · exact go (Or.inl ((nI_ltI (by omega) (by omega)).mp z))
  have z : ¬ f < m.2.2.2.2.2.length := fun q => z ((nI_ltI (by omega) (by omega)).mpr q)
  refine k_X29_many_8 o (fun z2 => ?_) (fun z2 => ?_)
  · have z2 : ¬ w = 2 := fun q => z2 (by rw [q])
    exact go (Or.inr (by omega))
  · have z2 : w = 2 := (nI_eq (by omega) (by omega)).mp z2
    have c2 : f - m.2.2.2.2.2.length < m.2.2.2.1.length := by omega
    have hfl : fls m f w = [] := by unfold fls; rw [if_neg z, List.getElem?_eq_getElem c2]; simp only; rw [if_neg (by omega), if_neg (by omega)]
    rw [hfl] at kk
    refine k_X29_many_13 o ?_
    refine k_X29_many_27 o ?_
    exact kk
theorem ulst_ok {G : Gt} {d : Nat} {h : AH} {K : Outcome → AH → Prop} {U n f w i : Nat} {B : Nat → Nat} {m : Md} {x : Ty × Nat} (hs : SU h U n B) (hm : UM h U n B m) (hf : f < m.2.2.2.2.2.length + m.2.2.2.1.length) (hw : w ≤ 2) (hx : (fls m f w)[i]? = some x) (hd : 5 ≤ d)
    (kk : K (.returned (some (.long (lN (tyc x.1))))) h) : MW G d e_X29_listed [.ref U, .int (nI f), .int (nI w), .int (nI i)] h K := by
  refine st_X29_listed fun X o hG hD _ => ?_
  subst hG; subst hD
  have s0 := hs.1.1
  have hn := hs.2.2.1
  have hB := hs.2.2.2.1
  have hfw : f < m.2.2.2.2.2.length ∨ w ≤ 1 := by
    by_cases c : f < m.2.2.2.2.2.length
    · exact Or.inl c
    · refine Or.inr ?_
      rcases Nat.lt_or_ge 1 w with z | z
      · have c2 : f - m.2.2.2.2.2.length < m.2.2.2.1.length := by omega
        have hfl : fls m f w = [] := by unfold fls; rw [if_neg c, List.getElem?_eq_getElem c2]; simp only; rw [if_neg (by omega), if_neg (by omega)]
        rw [hfl] at hx; simp at hx
      · exact z
  refine k_X29_listed_0 o ?_
  refine uLO_ok hs hm hf hw hfw (by omega) fun p hi q el => ?_
  obtain ⟨e1, e2, e3⟩ := rdL_v el
  obtain ⟨p1, q1, g1, g2⟩ := rep_nth e3 i x hx
  have hi' := get_lt hx
  have hbp := hB p
  refine k_X29_listed_6 o ?_
  rw [nI_add]
  have loop : ∀ l k' j p2, k' + j = i → rep (rdT n B true) k' p2 = .ok (l, p1) → V X K 13 [.ref U, .int (nI f), .int (nI w), .int (nI i), .int (nI p2), .int (nI j)] [] h := by
    intro l
    induction l with
    | nil =>
      intro k' j p2 hk' er
      cases k' with
      | succ k' =>
        obtain ⟨_, _, _, z⟩ := bd_ok er
        obtain ⟨_, _, _, z⟩ := bd_ok z
        cases z
      | zero =>
        cases er
        refine k_X29_listed_13 o (fun _ => ?_) (fun c => absurd ((nI_leI (by omega) (by omega)).mpr (by omega)) c)
        refine k_X29_listed_33 o ?_
        refine utat_ok hs g2 (by omega) ?_
        exact k_X29_listed_39 o kk
    | cons y l ih =>
      intro k' j p2 hk' er
      cases k' with
      | zero => cases er
      | succ k' =>
        obtain ⟨y', p3, ey, z⟩ := bd_ok er
        obtain ⟨l', p4, el', z⟩ := bd_ok z
        cases z
        refine k_X29_listed_13 o (fun c => ?_) (fun _ => ?_)
        · exact absurd ((nI_leI (by omega) (by omega)).mp c) (by omega)
        refine k_X29_listed_19 o ?_
        refine utend_ok hs ey (by omega) ?_
        refine k_X29_listed_25 o ?_
        rw [nI_add]
        exact ih k' (j + 1) p3 (by omega) el'
  exact loop _ i 0 (p + 1) (by omega) g1
theorem ufmo_ok {G : Gt} {d : Nat} {h : AH} {K : Outcome → AH → Prop} {U n f : Nat} {B : Nat → Nat} {m : Md} {c : Cx} (hs : SU h U n B) (hm : UM h U n B m) (hc : m.2.2.2.1[f]? = some c) (hd : 2 ≤ d) (kk : K (.returned (some (.int (nI c.1)))) h) : MW G d e_X29_foreignModule [.ref U, .int (nI (m.2.2.2.2.2.length + f))] h K := by
  refine st_X29_foreignModule fun X o hG hD _ => ?_
  subst hG; subst hD
  obtain ⟨t0, ⟨t1, t2, t3, t4, t5, t6, t7, t8⟩, v1, v2, v3, v4, v5, v6, v7, v8⟩ := hs.1
  have hn := hs.2.2.1
  have c1 := hm.2.2.2.2.1.1
  have b1 := hm.2.2.2.2.1.2.1
  have b2 := hm.2.2.1.2.1
  have hf := get_lt hc
  obtain ⟨p, q, e1, e2, e3⟩ := hm.2.2.1.2.2 _ _ hc
  rw [Nat.zero_add] at e1
  have ixk : IX (nI (m.2.2.2.2.2.length + f) - nI m.2.2.2.2.2.length) 32 f := by rw [nI_sub (by omega), Nat.add_sub_cancel_left]; exact IX.mk (by omega) (by omega)
  obtain ⟨hv, -, -, hp, -⟩ := rdCa_v e3
  refine k_X29_foreignModule_0 o ?_
  refine ushort_ok hs (by omega) (by omega) ?_
  refine k_X29_foreignModule_15 o ?_
  rw [← hv]; exact kk
theorem ufnu_ok {G : Gt} {d : Nat} {h : AH} {K : Outcome → AH → Prop} {U n f : Nat} {B : Nat → Nat} {m : Md} {c : Cx} (hs : SU h U n B) (hm : UM h U n B m) (hc : m.2.2.2.1[f]? = some c) (hd : 1 ≤ d) (kk : K (.returned (some (.int (nI c.2.1)))) h) : MW G d e_X29_foreignNumber [.ref U, .int (nI (m.2.2.2.2.2.length + f))] h K := by
  refine st_X29_foreignNumber fun X o hG hD _ => ?_
  subst hG; subst hD
  obtain ⟨t0, ⟨t1, t2, t3, t4, t5, t6, t7, t8⟩, v1, v2, v3, v4, v5, v6, v7, v8⟩ := hs.1
  have hn := hs.2.2.1
  have c1 := hm.2.2.2.2.1.1
  have b1 := hm.2.2.2.2.1.2.1
  have b2 := hm.2.2.1.2.1
  have hf := get_lt hc
  obtain ⟨p, q, e1, e2, e3⟩ := hm.2.2.1.2.2 _ _ hc
  rw [Nat.zero_add] at e1
  have ixk : IX (nI (m.2.2.2.2.2.length + f) - nI m.2.2.2.2.2.length) 32 f := by rw [nI_sub (by omega), Nat.add_sub_cancel_left]; exact IX.mk (by omega) (by omega)
  obtain ⟨-, hv, -, hp, -⟩ := rdCa_v e3
  refine k_X29_foreignNumber_0 o ?_
  rw [nI_add]
  refine ubyte_ok hs (by omega) ?_
  refine k_X29_foreignNumber_17 o ?_
  rw [← hv]; exact kk
