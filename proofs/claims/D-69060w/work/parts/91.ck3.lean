/-! the component's checker: taking, abilities -/
theorem lN_ty {m : Md} {s t : Ty} (hs : tOK m s) (ht : TV t) : (lN (tyc s) = lN (tyc t)) ↔ s = t := lN_tyc hs.tv.1 ht
theorem ctakeT_ok {G : Gt} {d : Nat} {h : AH} {K : Outcome → AH → Prop} {C W : Nat} {m : Md} {s : Sk} {t : Ty} (hs : SCk h C W) (hk : SKh h C m s) (ht : TV t) (hd : 3 ≤ d) (kk : EQ (tkT t s) (fun r => ∀ h', Fq (FS tkF) h h' → TKn h' C r.1 → SKh h' C m r.2 → K (.returned none) h') (CE K C W h)) : MW G d e_X13_takeType [.ref C, .long (lN (tyc t))] h K := by
  refine st_X13_takeType fun X o hG hD hf => ?_
  subst hG; subst hD
  have t0 := hs.1.1
  have kk := EQ_eb.mp kk
  refine k_X13_takeType_0 o ?_
  refine ctake_ok hs hk (by omega) (kk.mono (fun r er k2 h1 f1 tn1 sk1 => ?_) (fun w t => t))
  have s1 : SCk h1 C W := hs.fr f1.1 (FS.no rfl)
  have u0 := s1.1.1
  have r1 := tn1.1
  have hr : tOK m r.1.1 := by
    cases s with
    | nil => cases er
    | cons x s => cases er; exact (hk.2.2.2 x (by simp)).1
  have k3 := EQ_eb.mp k2
  have key : ∀ b, (r.1.1 == t) = b → V X K 19 [.ref C, .long (lN (tyc t)), nov] [.int (bI b), .ref C] h1 := fun b hb => by
    rw [hb] at k3
    refine k_X13_takeType_19 o ?_
    refine cneed_ok s1 (by omega) (k3.mono (fun _ _ k4 => ?_) (fun w t => CE.fq f1 t rfl))
    refine k_X13_takeType_23 o ?_
    exact k4 h1 f1 tn1 sk1
  refine k_X13_takeType_4 o (fun c => ?_) (fun c => ?_)
  · refine k_X13_takeType_18 o ?_
    refine key false ?_
    have : ¬ r.1.1 = t := fun z => c ((lN_ty hr ht).mpr z)
    simpa using this
  · refine k_X13_takeType_14 o ?_
    refine key true ?_
    simpa using (lN_ty hr ht).mp c
theorem ctakeR_ok {G : Gt} {d : Nat} {h : AH} {K : Outcome → AH → Prop} {C W : Nat} {m : Md} {s : Sk} {t : Ty} {w : Bool} (hs : SCk h C W) (hk : SKh h C m s) (ht : TV t) (hd : 5 ≤ d) (kk : EQ (tkR t w s) (fun r => ∀ h', Fq (FS tkF) h h' → TKn h' C r.1 → SKh h' C m r.2 → K (.returned none) h') (CE K C W h)) : MW G d e_X13_takeReference [.ref C, .long (lN (tyc t)), .int (bI w)] h K := by
  refine st_X13_takeReference fun X o hG hD hf => ?_
  subst hG; subst hD
  have t0 := hs.1.1
  have kk := EQ_eb.mp kk
  refine k_X13_takeReference_0 o ?_
  refine ctake_ok hs hk (by omega) (kk.mono (fun r er k2 h1 f1 tn1 sk1 => ?_) (fun w t => t))
  have s1 : SCk h1 C W := hs.fr f1.1 (FS.no rfl)
  have u0 := s1.1.1
  have r1 := tn1.1
  have hr : tOK m r.1.1 := by
    cases s with
    | nil => cases er
    | cons x s => cases er; exact (hk.2.2.2 x (by simp)).1
  have k3 := EQ_eb.mp k2
  -- does it write
  have wri : EQ (nee (!w || isWr r.1.1) 7) (fun _ => ∀ h', Fq (FS tkF) h h' → TKn h' C r.1 → SKh h' C m r.2 → K (.returned none) h') (CE K C W h) → V X K 36 [.ref C, .long (lN (tyc t)), nov, .int (bI w)] [] h1 := fun k4 => by
    have key : ∀ b, (!w || isWr r.1.1) = b → V X K 56 [.ref C, .long (lN (tyc t)), nov, .int (bI w)] [.int (bI b), .ref C] h1 := fun b hb => by
      rw [hb] at k4
      refine k_X13_takeReference_56 o ?_
      refine cneed_ok s1 (by omega) (k4.mono (fun _ _ k5 => ?_) (fun w t => CE.fq f1 t rfl))
      refine k_X13_takeReference_61 o ?_
      exact k5 h1 f1 tn1 sk1
    cases w with
    | false =>
      refine k_X13_takeReference_36 o (fun _ => ?_) (fun c => absurd rfl c)
      refine k_X13_takeReference_51 o ?_
      exact key true rfl
    | true =>
      refine k_X13_takeReference_36 o (fun c => absurd (show bI true = 0 from c) (by decide)) (fun _ => ?_)
      refine k_X13_takeReference_41 o ?_
      refine isWriting_ok hr.tv.1 (by omega) ?_
      cases hw : isWr r.1.1 with
      | false =>
        refine k_X13_takeReference_48 o (fun _ => ?_) (fun c => absurd rfl c)
        refine k_X13_takeReference_55 o ?_
        exact key false (by rw [hw]; rfl)
      | true =>
        refine k_X13_takeReference_48 o (fun c => absurd (show bI true = 0 from c) (by decide)) (fun _ => ?_)
        refine k_X13_takeReference_51 o ?_
        exact key true (by rw [hw]; rfl)
  have key : ∀ b, (isRf r.1.1 && r.1.1.tail == t) = b → V X K 32 [.ref C, .long (lN (tyc t)), nov, .int (bI w)] [.int (bI b), .ref C] h1 := fun b hb => by
    rw [hb] at k3
    refine k_X13_takeReference_32 o ?_
    refine cneed_ok s1 (by omega) (k3.mono (fun _ _ k4 => ?_) (fun w t => CE.fq f1 t rfl))
    exact wri (EQ_eb.mp k4)
  refine k_X13_takeReference_4 o ?_
  refine isReference_ok hr.tv.1 (by omega) ?_
  cases hrf : isRf r.1.1 with
  | false =>
    refine k_X13_takeReference_12 o (fun _ => ?_) (fun c => absurd rfl c)
    refine k_X13_takeReference_31 o ?_
    exact key false (by rw [hrf]; rfl)
  | true =>
    refine k_X13_takeReference_12 o (fun c => absurd (show bI true = 0 from c) (by decide)) (fun _ => ?_)
    obtain ⟨b, q, eq, hb, hq⟩ := hr.rst hrf
    have r2 : h1.J 1545 C = lN (tyc (b :: q)) := by rw [r1, eq]
    refine k_X13_takeReference_15 o (r2 := r2) ?_
    have tv := hr.tv.1
    rw [eq] at tv
    refine rest_ok tv (by omega) ?_
    refine k_X13_takeReference_22 o (fun c => ?_) (fun c => ?_)
    · refine k_X13_takeReference_31 o ?_
      refine key false ?_
      have : ¬ q = t := fun z => c ((lN_tyc hq.ok.tv.1 ht).mpr z)
      rw [hrf, eq]
      simpa using this
    · refine k_X13_takeReference_27 o ?_
      refine key true ?_
      rw [hrf, eq]
      simpa using (lN_tyc hq.ok.tv.1 ht).mp c
theorem ctakeN_ok {G : Gt} {d : Nat} {h : AH} {K : Outcome → AH → Prop} {C W : Nat} {m : Md} {s : Sk} (hs : SCk h C W) (hk : SKh h C m s) (hd : 3 ≤ d) (kk : EQ (tkN s) (fun r => ∀ h', Fq (FS tkF) h h' → TKn h' C r.1 → SKh h' C m r.2 → K (.returned none) h') (CE K C W h)) : MW G d e_X13_takeNumber [.ref C] h K := by
  refine st_X13_takeNumber fun X o hG hD hf => ?_
  subst hG; subst hD
  have t0 := hs.1.1
  have kk := EQ_eb.mp kk
  refine k_X13_takeNumber_0 o ?_
  refine ctake_ok hs hk (by omega) (kk.mono (fun r er k2 h1 f1 tn1 sk1 => ?_) (fun w t => t))
  have s1 : SCk h1 C W := hs.fr f1.1 (FS.no rfl)
  have u0 := s1.1.1
  have r1 := tn1.1
  have hr : tOK m r.1.1 := by
    cases s with
    | nil => cases er
    | cons x s => cases er; exact (hk.2.2.2 x (by simp)).1
  have k3 := EQ_eb.mp k2
  refine k_X13_takeNumber_4 o ?_
  refine isNumber_ok hr.tv.1 ?_
  refine k_X13_takeNumber_12 o ?_
  refine cneed_ok s1 (by omega) (k3.mono (fun _ _ k4 => ?_) (fun w t => CE.fq f1 t rfl))
  refine k_X13_takeNumber_16 o ?_
  exact k4 h1 f1 tn1 sk1
/-! abilities -/
theorem nI_and {a b : Nat} (ha : a < 4294967296) (hb : b < 4294967296) : nI a &&& nI b = nI (a &&& b) := um_inj (by rw [um_and, um_n ha, um_n hb, um_n (Nat.lt_of_le_of_lt Nat.and_le_left ha)])
theorem sab_le {m : Md} (hx : ∀ s ∈ m.2.1, s.2.1 ≤ 15) (hf : ∀ s ∈ m.2.2.1, s.2.2 ≤ 15) (k : Nat) : sab m k ≤ 15 := by
  unfold sab
  split
  · split
    · next e => exact hx _ (List.mem_of_getElem? e)
    · omega
  · split
    · next e => exact hf _ (List.mem_of_getElem? e)
    · omega
/-- abilities are four bits -/
def ab4 (m : Md) : Prop := (∀ s ∈ m.2.1, s.2.1 ≤ 15) ∧ ∀ s ∈ m.2.2.1, s.2.2 ≤ 15
theorem stat_ok {G : Gt} {d : Nat} {h : AH} {K : Outcome → AH → Prop} {T k : Nat} {m : Md} (hT : STb h T) (hm : MX h T (mts m) (mcs m) m) (hk : k < nst m) (kk : ∀ S, h.tag S = some (6, 0) → h.I 768 S = nI (sab m k) → K (.returned (some (.ref (S)))) h) : MW G d e_X3_structureAt [.ref T, .int (nI k)] h K := by
  refine st_X3_structureAt fun X o hG hD hf => ?_
  subst hG; subst hD
  obtain ⟨⟨a1, a2, a3, a4, a5⟩, ⟨b1, b2, b3, b4, b5, b6⟩, m1, m2, -⟩ := hm
  obtain ⟨⟨g1, g2, g3, g4', g5, g6⟩, ⟨p1, -⟩, -, dS, -⟩ := id hT
  unfold nst at hk
  by_cases c : k < m.2.1.length
  · obtain ⟨d1, d2, d3, d4⟩ := dS k (by omega)
    have ix : IX (nI k) 64 k := IX.mk (by omega) (by omega)
    have es : sab m k = (m.2.1[k]).2.1 := by unfold sab; rw [if_pos c, List.getElem?_eq_getElem c]
    refine k_X3_structureAt_0 o (fun z => ?_) (fun _ => ?_)
    · exact absurd ((nI_leI (by omega) (by omega)).mp z) (by omega)
    refine k_X3_structureAt_8 o ?_
    refine k_X3_structureAt_31 o ?_
    exact kk _ d2 (by rw [es]; exact (m1 k _ (List.getElem?_eq_getElem c)).2.1)
  · have c2 : k - m.2.1.length < m.2.2.1.length := by omega
    obtain ⟨d1, d2, d3, d4⟩ := dS (32 + k - m.2.1.length) (by omega)
    have ix : IX (nI 32 + nI k - nI m.2.1.length) 64 (32 + k - m.2.1.length) := by rw [nI_add, nI_sub (by omega)]; exact IX.mk (by omega) (by omega)
    have es : sab m k = (m.2.2.1[k - m.2.1.length]).2.2 := by unfold sab; rw [if_neg c, List.getElem?_eq_getElem c2]
    refine k_X3_structureAt_0 o (fun _ => ?_) (fun z => ?_)
    rotate_left
    · exact absurd ((nI_leI (by omega) (by omega)).mpr (by omega)) z
    refine k_X3_structureAt_17 o ?_
    refine k_X3_structureAt_31 o ?_
    refine kk _ d2 ?_
    have := (m2 _ _ (List.getElem?_eq_getElem c2)).2.2
    rw [es, show T + 12 + 2 * (32 + k - m.2.1.length) = T + 76 + 2 * (k - m.2.1.length) by omega]
    exact this
theorem abl_le {m : Md} (h : ab4 m) : ∀ t : Ty, abl m t ≤ 15
  | [] => by show 7 ≤ 15; decide
  | b :: t => by
    unfold abl
    split
    · exact Nat.le_trans Nat.and_le_right (by decide)
    · split
      · decide
      · split
        · split
          · exact sab_le h.1 h.2 _
          · decide
        · decide
theorem tyc_le5 {t : Ty} (h : bas t = true) (hb : tby t) (h7 : ∀ r, t ≠ 7 :: r) : (tyc t ≤ 5 ∧ ∃ b, t = [b] ∧ b ≤ 5) ∨ (5 < tyc t ∧ ∃ k, t = [6, k] ∧ k < 256) := by
  cases t with
  | nil => cases h
  | cons b r =>
    rcases bas_c h with ⟨e, h1, h2⟩ | ⟨h1, h2⟩ | ⟨h1, h2⟩
    · subst e
      refine Or.inl ⟨?_, b, rfl, h2⟩
      simp [tyc]; omega
    · subst h1
      cases r with
      | nil => cases h2
      | cons k r =>
        cases r with
        | nil =>
          refine Or.inr ⟨?_, k, rfl, hb k (by simp)⟩
          simp [tyc]; omega
        | cons _ _ => simp at h2
    · subst h1; exact absurd rfl (h7 r)
theorem and7 {x : Nat} : x &&& 7 &&& 7 = x &&& 7 := by rw [Nat.and_assoc]; rfl
theorem cabl_ok {G : Gt} {d : Nat} {h : AH} {K : Outcome → AH → Prop} {C W T : Nat} {m : Md} {t : Ty} (hs : SCk h C W) (hT : STb h T) (hm : MX h T (mts m) (mcs m) m) (h4 : ab4 m) (ht : tOK m t) (hd : 5 ≤ d) (kk : K (.returned (some (.int (nI (abl m t))))) h) : MW G d e_X13_abilitiesOf [.ref C, .ref T, .long (lN (tyc t))] h K := by
  refine st_X13_abilitiesOf fun X o hG hD hf => ?_
  subst hG; subst hD
  have h64 : nst m ≤ 64 := by unfold nst; have := hm.2.1; omega
  have tT := hT.1.1
  have loop : ∀ t' all v7, tOK m t' → (all = 15 ∨ all = 7) → K (.returned (some (.int (nI (abl m t' &&& all))))) h → V X K 7 [.ref C, .ref T, .long v7, nov, .int (nI all), .long (lN (tyc t')), nov] [] h := by
    intro t'
    induction t' with
    | nil => intro all v7 h1; exact absurd h1.tv.1.2.2 (fun ⟨b, r, e, _⟩ => by cases e)
    | cons b r ih =>
      intro all v7 h1 ha k
      have hbl := abl_le h4
      have h32 : all < 4294967296 := by omega
      refine k_X13_abilitiesOf_7 o ?_
      refine head_ok h1.tv.1 (by omega) ?_
      have hb : b < 256 := h1.1 b (by simp)
      refine k_X13_abilitiesOf_12 o (fun c => ?_) (fun c => ?_)
      · have c7 : ¬ b = 7 := fun z => c (by rw [z])
        refine k_X13_abilitiesOf_31 o ?_
        refine isReference_ok h1.tv.1 (by omega) ?_
        cases hr : isRf (b :: r) with
        | true =>
          refine k_X13_abilitiesOf_36 o (fun c => absurd (show bI true = 0 from c) (by decide)) (fun _ => ?_)
          refine k_X13_abilitiesOf_39 o ?_
          have e : abl m (b :: r) = 3 := by
            simp [isRf] at hr
            unfold abl; rw [if_neg c7, if_pos hr]
          rw [e] at k
          rw [nI_and h32 (by omega), Nat.and_comm]
          exact k
        | false =>
          refine k_X13_abilitiesOf_36 o (fun _ => ?_) (fun c => absurd rfl c)
          have hbas : bas (b :: r) = true := by
            obtain ⟨-, z | ⟨b', r', e, hb', -⟩, -⟩ := h1
            · exact z.1
            · cases e; simp [isRf] at hr; omega
          have hlt := h1.tv.1.lt63
          rcases tyc_le5 hbas h1.1 (fun q e => by cases e; exact c7 rfl) with ⟨g1, b', e, g2⟩ | ⟨g1, k', e, g2⟩
          · have eb : abl m (b :: r) = 7 := by
              cases e
              unfold abl
              rw [if_neg c7, if_neg (by omega), if_neg (by omega)]
            rw [eb] at k
            refine k_X13_abilitiesOf_44 o (fun c => ?_) (fun _ => ?_)
            · have c : lN 5 < lN (tyc (b :: r)) := c
              exact absurd ((lN_ltI (by omega) hlt).mp c) (by omega)
            refine k_X13_abilitiesOf_53 o ?_
            refine k_X13_abilitiesOf_75 o ?_
            have e7 : 7 &&& all = 7 := by rcases ha with z | z <;> rw [z] <;> rfl
            rw [e7] at k; exact k
          · have hk' : k' < nst m := h1.2.2 k' (by rw [e]; simp [sidx])
            have eb : abl m (b :: r) = sab m k' := by
              rw [e]; unfold abl; rfl
            rw [eb] at k
            have ek : (lN (tyc (b :: r)) &&& (255 : Int64)).toInt32 = nI k' := by
              have e2 : tyc (b :: r) = 1536 + k' := by rw [e]; simp [tyc]
              rw [e2]
              exact um_inj (by rw [um_32, un_and, un_l (by omega), um_n (by omega), show un (255 : Int64) = 2 ^ 8 - 1 from rfl, Nat.and_two_pow_sub_one_eq_mod]; omega)
            refine k_X13_abilitiesOf_44 o (fun _ => ?_) (fun c => ?_)
            rotate_left
            · have c : ¬ (lN 5 < lN (tyc (b :: r))) := c
              exact absurd ((lN_ltI (by omega) hlt).mpr g1) c
            refine k_X13_abilitiesOf_58 o ?_
            rw [ek]
            refine stat_ok hT hm hk' fun S tS aS => ?_
            refine k_X13_abilitiesOf_71 o ?_
            refine k_X13_abilitiesOf_75 o ?_
            have := sab_le h4.1 h4.2 k'
            rw [nI_and h32 (by omega), Nat.and_comm]
            exact k
      · have c7 : b = 7 := (nI_eq (by omega) (by omega)).mp c
        subst c7
        refine k_X13_abilitiesOf_17 o ?_
        refine rest_ok h1.tv.1 (by omega) ?_
        refine k_X13_abilitiesOf_26 o ?_
        refine ih 7 v7 ?_ (Or.inr rfl) ?_
        · obtain ⟨z1, z | ⟨b', r', e, hb', -⟩, z3⟩ := h1
          · have z1' : tby r := fun x hx => z1 x (List.mem_cons_of_mem _ hx)
            rcases bas_c z.1 with ⟨_, _, q⟩ | ⟨q, _⟩ | ⟨_, q⟩
            · omega
            · omega
            · have hne : r ≠ [] := by obtain ⟨b, r', e, -⟩ := bas_hd q; rw [e]; exact List.cons_ne_nil _ _
              refine ⟨z1', Or.inl ⟨q, ?_⟩, fun k hk => z3 k (by rw [sidx_b (by omega) hne]; exact hk)⟩
              have := z.2
              have e : nve (7 :: r) = 1 + nve r := rfl
              omega
          · cases e; omega
        · have e : abl m (7 :: r) = abl m r &&& 7 := by
            show (if 7 = 7 then abl m r &&& 7 else _) = _
            rw [if_pos rfl]
          rw [e] at k
          rcases ha with z | z
          · rw [z] at k
            rw [Nat.and_assoc] at k; exact k
          · rw [z, and7] at k; exact k
  refine k_X13_abilitiesOf_0 o ?_
  refine loop t 15 _ ht (Or.inl rfl) ?_
  have e : abl m t &&& 15 = abl m t := by
    have h1 := abl_le h4 t
    rw [show (15 : Nat) = 2 ^ 4 - 1 from rfl, Nat.and_two_pow_sub_one_eq_mod]; omega
  rw [e]; exact kk
theorem chas_ok {G : Gt} {d : Nat} {h : AH} {K : Outcome → AH → Prop} {C W T F a : Nat} {m : Md} {u : Ux} {t : Ty} (hs : CTb h C W T F m u) (h4 : ab4 m) (ht : tOK m t) (ha : a < 16) (hd : 6 ≤ d) (kk : K (.returned (some (.int (bI (hsA m t a))))) h) : MW G d e_X13_has [.ref C, .long (lN (tyc t)), .int (nI a)] h K := by
  refine st_X13_has fun X o hG hD hf => ?_
  subst hG; subst hD
  have t0 := hs.1.1.1
  have r1 := hs.2.1.1
  have hbl := abl_le h4 t
  refine k_X13_has_0 o ?_
  refine cabl_ok hs.1 hs.2.2.1.1 hs.2.2.1.2.2.2 h4 ht (by omega) ?_
  have hle : abl m t &&& a ≤ 15 := Nat.le_trans Nat.and_le_left hbl
  unfold hsA at kk
  refine k_X13_has_9 o (fun c => ?_) (fun c => ?_)
  · rw [nI_and (by omega) (by omega)] at c
    have c : abl m t &&& a = 0 := (nI_eq (b := 0) (by omega) (by omega)).mp c
    rw [c] at kk
    refine k_X13_has_18 o ?_
    refine k_X13_has_19 o ?_
    exact kk
  · rw [nI_and (by omega) (by omega)] at c
    have c : ¬ abl m t &&& a = 0 := fun z => c (by rw [z]; rfl)
    have e : (abl m t &&& a != 0) = true := by simp [c]
    rw [e] at kk
    refine k_X13_has_14 o ?_
    refine k_X13_has_19 o ?_
    exact kk
theorem cnab_ok {G : Gt} {d : Nat} {h : AH} {K : Outcome → AH → Prop} {C W T F a : Nat} {m : Md} {u : Ux} {t : Ty} (hs : CTb h C W T F m u) (h4 : ab4 m) (ht : tOK m t) (ha : a < 16) (hd : 7 ≤ d) (kk : EQ (nee (hsA m t a) 4) (fun _ => K (.returned none) h) (CE K C W h)) : MW G d e_X13_needAbility [.ref C, .long (lN (tyc t)), .int (nI a)] h K := by
  refine st_X13_needAbility fun X o hG hD hf => ?_
  subst hG; subst hD
  have t0 := hs.1.1.1
  refine k_X13_needAbility_0 o ?_
  refine chas_ok hs h4 ht ha (by omega) ?_
  refine k_X13_needAbility_7 o ?_
  refine cneed_ok hs.1 (by omega) (kk.mono (fun _ _ k => ?_) (fun w t => t))
  exact k_X13_needAbility_11 o k
