/-! the component's checker: references, structures -/
theorem nee_t {b : Bool} {w : Nat} {x : Unit} (h : nee b w = .ok x) : b = true := by
  cases b with
  | true => rfl
  | false => cases h
theorem cref_ok {G : Gt} {d : Nat} {h : AH} {K : Outcome → AH → Prop} {C W T F op : Nat} {m : Md} {u : Ux} {s : Sk} {l : Ls} (hs : CTb h C W T F m u) (hu : gU m u) (h4 : ab4 m) (hk : SKh h C m s) (hl : LSh h C (lty u) l) (hop : 18 ≤ op ∧ op ≤ 20) (hd : 8 ≤ d) (kk : EQ (cRef m (lty u) op (s, l)) (CN K C m (lty u) h) (CE K C W h)) : MW G d e_X13_reference [.ref C, .int (nI op)] h K := by
  refine st_X13_reference fun X o hG hD _ => ?_
  subst hG; subst hD
  have t0 := hs.1.1.1
  have kk := EQ_eb.mp kk
  refine k_X13_reference_0 o ?_
  refine ctake_ok hs.1 hk (by omega) (kk.mono (fun r er k2 h1 f1 tn1 sk1 => ?_) (fun w t => t))
  have hs1 : CTb h1 C W T F m u := hs.fr f1.1 (FS.no rfl)
  have hl1 : LSh h1 C (lty u) l := hl.fr f1 rfl
  have u0 := hs1.1.1.1
  obtain ⟨q0, q1, q2⟩ := tk_mem hk er
  have r1 := tn1.1
  have k2 := EQ_eb.mp k2
  have F1 : Fq (FS opF) h h1 := f1.mono (FS.mono rfl)
  show V X K 4 [.ref C, .int (nI op), nov, nov, nov, nov] [] h1
  by_cases c18 : op = 18
  · subst c18
    refine k_X13_reference_4 o (fun c => absurd rfl c) (fun _ => ?_)
    refine k_X13_reference_10 o ?_
    refine isReference_ok q0.tv.1 (by omega) ?_
    refine k_X13_reference_18 o ?_
    refine cneed_ok hs1.1 (by omega) (k2.mono (fun _ e1 k3 => ?_) (fun w t => CE.fq f1 t rfl))
    obtain ⟨b, q, eq, hb, hq⟩ := q0.rst (nee_t e1)
    have k3 : EQ (eb (nee (hsA m r.1.1.tail 1) 4) fun _ => eb (pt r.1.1.tail (0, false) r.2) fun s => .ok (s, l)) (CN K C m (lty u) h) (CE K C W h) := k3
    rw [eq] at k3
    have tv := q0.tv.1
    rw [eq] at tv
    have r2 : h1.J 1545 C = lN (tyc (b :: q)) := by rw [r1, eq]
    show V X K 22 [.ref C, .int (nI 18), nov, nov, nov, nov] [] h1
    refine k_X13_reference_22 o (r2 := r2) ?_
    refine rest_ok tv (by omega) ?_
    refine k_X13_reference_29 o ?_
    refine cnab_ok hs1 h4 hq.ok (by omega) (by omega) ((EQ_eb.mp k3).mono (fun _ _ k4 => ?_) (fun w t => CE.fq f1 t rfl))
    show V X K 36 [.ref C, .int (nI 18), .long (lN (tyc q)), nov, nov, nov] [] h1
    refine k_X13_reference_36 o ?_
    rw [← enc_0]
    refine cput_ok hs1.1 sk1 hq.ok ⟨by decide, fun _ => rfl⟩ (by omega) ((EQ_eb.mp k4).mono (fun s' _ k6 h' f' sk' => ?_) (fun w t => CE.fq f1 t rfl))
    refine k_X13_reference_42 o ?_
    exact k6 h' (F1.trans (f'.mono (FS.mono rfl))) sk' (hl1.fr f' rfl)
  refine k_X13_reference_4 o (fun _ => ?_) (fun c => absurd ((nI_eq (by omega) (by omega)).mp c) c18)
  refine k_X13_reference_43 o ?_
  refine isReference_ok q0.tv.1 (by omega) ?_
  refine k_X13_reference_51 o ?_
  refine cneed_ok hs1.1 (by omega) (k2.mono (fun _ e1 k3 => ?_) (fun w t => CE.fq f1 t rfl))
  rw [if_neg c18] at k3
  obtain ⟨b, q, eq, hb, hq⟩ := q0.rst (nee_t e1)
  have k3 := EQ_eb.mp k3
  show V X K 55 [.ref C, .int (nI op), nov, nov, nov, nov] [] h1
  refine k_X13_reference_55 o ?_
  refine isWriting_ok q0.tv.1 (by omega) ?_
  refine k_X13_reference_63 o ?_
  refine cneed_ok hs1.1 (by omega) (k3.mono (fun _ e2 k4 => ?_) (fun w t => CE.fq f1 t rfl))
  have tv := q0.tv.1
  have tv7 := q0.tv.2
  rw [eq] at tv tv7 k4
  have r2 : h1.J 1545 C = lN (tyc (b :: q)) := by rw [r1, eq]
  show V X K 68 [.ref C, .int (nI op), nov, nov, nov, nov] [] h1
  refine k_X13_reference_68 o (r2 := r2) ?_
  refine rest_ok tv (by omega) ?_
  have rO := tn1.2
  by_cases c20 : op = 20
  · subst c20
    have k4 := EQ_eb.mp (show EQ (eb (pt (8 :: q) r.1.2 r.2) fun s => .ok (s, l)) (CN K C m (lty u) h) (CE K C W h) from k4)
    refine k_X13_reference_75 o (fun c => absurd rfl c) (fun _ => ?_)
    refine k_X13_reference_82 o ?_
    obtain ⟨b0, q0', e0, g1, g2⟩ := bas_hd hq.2.1
    rw [e0]
    have tvq := hq.ok.tv
    rw [e0] at tvq
    refine with_ok tvq.1 (by have := tvq.2; simp at this; omega) (by omega) (by omega) ?_
    rw [← e0]
    refine k_X13_reference_89 o ?_
    refine cput_ok hs1.1 sk1 (hq.ref (Or.inl rfl)) ⟨q1, fun z => by simp [isRf] at z⟩ (by omega) (k4.mono (fun s' _ k6 h' f' sk' => ?_) (fun w t => CE.fq f1 t rfl))
    refine k_X13_reference_96 o ?_
    exact k6 h' (F1.trans (f'.mono (FS.mono rfl))) sk' (hl1.fr f' rfl)
  rw [if_neg c20] at k4
  have k4 := EQ_eb.mp (show EQ (eb (tkT q r.2) fun p => eb (nee (hsA m q 2) 4) fun _ => eb (nee (!liv (lty u) p.2 l r.1.2.1 2) 6) fun _ => .ok (p.2, l)) (CN K C m (lty u) h) (CE K C W h) from k4)
  refine k_X13_reference_75 o (fun _ => ?_) (fun c => absurd ((nI_eq (by omega) (by omega)).mp c) c20)
  refine k_X13_reference_97 o ?_
  refine ctakeT_ok hs1.1 sk1 hq.ok.tv.1 (by omega) (k4.mono (fun p ep k5 h2 f2 tn2 sk2 => ?_) (fun w t => CE.fq f1 t rfl))
  have hs2 : CTb h2 C W T F m u := hs1.fr f2.1 (FS.no rfl)
  have hl2 : LSh h2 C (lty u) l := hl1.fr f2 rfl
  have v0 := hs2.1.1.1
  have f12 := f1.trans f2
  show V X K 108 [.ref C, .int (nI op), .long (lN (tyc q)), nov, .long (enc r.1.2), nov] [] h2
  refine k_X13_reference_108 o ?_
  refine cnab_ok hs2 h4 hq.ok (by omega) (by omega) ((EQ_eb.mp k5).mono (fun _ _ k6 => ?_) (fun w t => CE.fq f12 t rfl))
  show V X K 114 [.ref C, .int (nI op), .long (lN (tyc q)), nov, .long (enc r.1.2), nov] [] h2
  refine k_X13_reference_114 o ?_
  have f3 : Fq (FS [1546]) h2 (h2.sJ 1546 C (enc r.1.2)) := (by refine (Fq.sJ (Fq.refl h2) ?_) <;> exact rfl)
  have e3 : (h2.sJ 1546 C (enc r.1.2)).J 1546 C = enc r.1.2 := by simp [n_sI, z_sI, tag_sI, I_sI, J_sI, R_sI, EI_sI, EJ_sI, ER_sI, n_sJ, z_sJ, tag_sJ, I_sJ, J_sJ, R_sJ, EI_sJ, EJ_sJ, ER_sJ, n_sR, z_sR, tag_sR, I_sR, J_sR, R_sR, EI_sR, EJ_sR, ER_sR, n_sEI, z_sEI, tag_sEI, I_sEI, J_sEI, R_sEI, EI_sEI, EJ_sEI, ER_sEI, n_sEJ, z_sEJ, tag_sEJ, I_sEJ, J_sEJ, R_sEJ, EI_sEJ, EJ_sEJ, ER_sEJ, n_sER, z_sER, tag_sER, I_sER, J_sER, R_sER, EI_sER, EJ_sER, ER_sER, n_nw, z_nw, tag_nw, I_nw, J_nw, R_nw, EI_nw, EJ_nw, ER_nw]
  generalize h2.sJ 1546 C (enc r.1.2) = h3 at *
  have hs3 : CTb h3 C W T F m u := hs2.fr f3.1 (FS.no rfl)
  have f123 : Fq (FS opF) h h3 := (f12.mono (FS.mono rfl)).trans (f3.mono (FS.mono rfl))
  refine csol_ok (f := r.1.2.1) hs3 hu (sk2.fr f3 rfl) (hl2.fr f3 rfl) (by rw [e3, enc_mod q1]) (by omega) ((EQ_eb.mp k6).mono (fun _ _ k7 => ?_) (fun w t => CE.fq f123 t rfl))
  refine k_X13_reference_124 o ?_
  exact k7 h3 f123 (sk2.fr f3 rfl) (hl2.fr f3 rfl)
/-- a module of which functions may be looked at -/
def gM (m : Md) : Prop := ab4 m ∧ (∀ s ∈ m.2.1, s.2.2.length ≤ 16 ∧ ∀ x ∈ s.2.2, fT m x.1) ∧ (∀ x ∈ m.2.2.2.2.1, fT m x.1) ∧ (∀ c ∈ m.2.2.2.1, c.2.2.1 ≤ 7 ∧ c.2.2.2.1.length ≤ 8 ∧ c.2.2.2.2.length ≤ 8 ∧ (∀ x ∈ c.2.2.2.1, gT m x.1) ∧ ∀ x ∈ c.2.2.2.2, gT m x.1) ∧ (∀ u ∈ m.2.2.2.2.2, u.1 ≤ 7 ∧ gU m u) ∧ (nst m ≤ 64 ∧ (mts m).length ≤ 2048)
theorem fdt_ok {m : Md} (g : gM m) {k i : Nat} {s : Sx} (hk : m.2.1[k]? = some s) (hi : i < s.2.2.length) : fT m (fdt m k i) := by
  unfold fdt
  rw [hk]
  simp only
  rw [List.getElem?_eq_getElem hi]
  exact (g.2.1 s (List.mem_of_getElem? hk)).2 _ (List.getElem_mem hi)
theorem cbor_ok {G : Gt} {d : Nat} {h : AH} {K : Outcome → AH → Prop} {C W T F k i : Nat} {m : Md} {u : Ux} {s : Sk} {l : Ls} {w : Bool} {sx : Sx} (hs : CTb h C W T F m u) (hu : gU m u) (g : gM m) (hk : SKh h C m s) (hl : LSh h C (lty u) l) (hx : m.2.1[k]? = some sx) (hi : i < sx.2.2.length) (hd : 8 ≤ d) (kk : EQ (cFld m w k i (s, l)) (CN K C m (lty u) h) (CE K C W h)) : MW G d e_X13_borrowField [.ref C, .int (bI w), .int (nI k), .int (nI i)] h K := by
  refine st_X13_borrowField fun X o hG hD _ => ?_
  subst hG; subst hD
  have t0 := hs.1.1.1
  have hk' := get_lt hx
  have b32 := hs.2.2.1.2.2.2.2.1.2.1
  have kk := EQ_eb.mp kk
  have hst : tOK m [6, k] := tOK.st (by unfold nst; omega) g.2.2.2.2.2.1
  refine k_X13_borrowField_0 o ?_
  refine structureOf_ok (by omega) ?_
  refine k_X13_borrowField_5 o ?_
  refine ctakeR_ok hs.1 hk hst.tv.1 (by omega) (kk.mono (fun r er k2 h1 f1 tn1 sk1 => ?_) (fun w t => t))
  have hs1 : CTb h1 C W T F m u := hs.fr f1.1 (FS.no rfl)
  have hl1 : LSh h1 C (lty u) l := hl.fr f1 rfl
  have u0 := hs1.1.1.1
  obtain ⟨-, -, -, q1⟩ := tkR_mem hk er
  have k2 := EQ_eb.mp k2
  have hf := fdt_ok g hx hi
  obtain ⟨b0, q0', e0, g1, g2⟩ := bas_hd hf.2.1
  have tvq := hf.ok.tv
  have rO := tn1.2
  have fin : ∀ c, (if w = true then 9 else 8) = c → (c = 8 ∨ c = 9) → V X K 21 [.ref C, .int (bI w), .int (nI k), .int (nI i)] [.int (nI c), .ref C] h1 := fun c ec hc => by
    rw [ec] at k2
    refine k_X13_borrowField_21 o ?_
    refine cfld_ok hs1 g.2.2.2.2.2.2 hx hi (by omega) ?_
    refine k_X13_borrowField_27 o ?_
    rw [e0]
    rw [e0] at tvq
    refine with_ok tvq.1 (by have := tvq.2; simp at this; omega) (by omega) (by omega) ?_
    rw [← e0]
    refine k_X13_borrowField_30 o ?_
    rw [enc_in]
    refine cput_ok hs1.1 sk1 (hf.ref hc) ⟨q1, fun z => by simp [isRf] at z; omega⟩ (by omega) (k2.mono (fun s' _ k6 h' f' sk' => ?_) (fun w t => CE.fq f1 t rfl))
    refine k_X13_borrowField_41 o ?_
    exact k6 h' ((f1.mono (FS.mono rfl)).trans (f'.mono (FS.mono rfl))) sk' (hl1.fr f' rfl)
  show V X K 9 [.ref C, .int (bI w), .int (nI k), .int (nI i)] [] h1
  cases w with
  | true =>
    refine k_X13_borrowField_9 o (fun c => absurd (show bI true = 0 from c) (by decide)) (fun _ => ?_)
    refine k_X13_borrowField_14 o ?_
    exact fin 9 rfl (Or.inr rfl)
  | false =>
    refine k_X13_borrowField_9 o (fun _ => ?_) (fun c => absurd rfl c)
    refine k_X13_borrowField_19 o ?_
    exact fin 8 rfl (Or.inl rfl)
theorem fdl_get {m : Md} {k i : Nat} {s : Sx} (hk : m.2.1[k]? = some s) (hi : i < s.2.2.length) : (fdl m k)[i]? = some (fdt m k i) := by
  unfold fdl fdt
  rw [hk]
  simp only
  rw [List.getElem?_map, List.getElem?_eq_getElem hi]
  rfl
theorem fdl_len {m : Md} {k : Nat} {s : Sx} (hk : m.2.1[k]? = some s) : (fdl m k).length = s.2.2.length := by unfold fdl; rw [hk]; simp
theorem cpak_ok {G : Gt} {d : Nat} {h : AH} {K : Outcome → AH → Prop} {C W T F k : Nat} {m : Md} {u : Ux} {s : Sk} {l : Ls} {sx : Sx} (hs : CTb h C W T F m u) (hu : gU m u) (g : gM m) (hk : SKh h C m s) (hl : LSh h C (lty u) l) (hx : m.2.1[k]? = some sx) (hd : 8 ≤ d) (kk : EQ (cPack m k (s, l)) (CN K C m (lty u) h) (CE K C W h)) : MW G d e_X13_pack [.ref C, .int (nI k)] h K := by
  refine st_X13_pack fun X o hG hD _ => ?_
  subst hG; subst hD
  obtain ⟨s1, ⟨s2, s3⟩, ⟨s4, s5, s6, s7⟩, -⟩ := id hs
  have t0 := s1.1.1
  obtain ⟨⟨g1, g2, g3, g4', g5, g6⟩, ⟨p1, p2, p3, p4, p5, p6, p7, p8⟩, -, dS, -⟩ := id s4
  have hk' := get_lt hx
  have b32 := s7.2.1.2.1
  obtain ⟨d1, d2, d3, d4⟩ := dS k (by omega)
  have ix : IX (nI k) 64 k := IX.mk (by omega) (by omega)
  have hcnt : h.I 513 (T + 13 + 2 * k) = nI sx.2.2.length := by
    obtain ⟨a, b, z1, z2, z3⟩ := (s7.2.2.1 k sx hx).2.2
    rw [show T + 12 + 2 * k + 1 = T + 13 + 2 * k by omega] at z3
    exact z3
  have h16 := (g.2.1 sx (List.mem_of_getElem? hx)).1
  have hst : tOK m [6, k] := tOK.st (by unfold nst; omega) g.2.2.2.2.2.1
  have kk := EQ_eb.mp kk
  have loop : ∀ i s' h1, i ≤ sx.2.2.length → Fq (FS tkF) h h1 → SKh h1 C m s' → EQ (tkL ((fdl m k).take i).reverse s') (fun q => EQ (eb (pt [6, k] (0, false) q.2) fun s => .ok (s, l)) (CN K C m (lty u) h) (CE K C W h)) (CE K C W h) → V X K 18 [.ref C, .int (nI k), .int (nI i - nI 1)] [] h1 := by
    intro i
    induction i with
    | zero =>
      intro s' h1 hi f1 sk1 k1
      have hs1 : CTb h1 C W T F m u := hs.fr f1.1 (FS.no rfl)
      have u0 := hs1.1.1.1
      have k1 := EQ_eb.mp (show EQ (eb (pt [6, k] (0, false) s') fun s => .ok (s, l)) (CN K C m (lty u) h) (CE K C W h) from k1)
      refine k_X13_pack_18 o (fun _ => ?_) (fun c => absurd (by decide) c)
      refine k_X13_pack_38 o ?_
      refine structureOf_ok (by omega) ?_
      refine k_X13_pack_43 o ?_
      rw [← enc_0]
      refine cput_ok hs1.1 sk1 hst ⟨by decide, fun _ => rfl⟩ (by omega) (k1.mono (fun s'' _ k6 h' f' sk' => ?_) (fun w t => CE.fq f1 t rfl))
      refine k_X13_pack_47 o ?_
      exact k6 h' ((f1.mono (FS.mono rfl)).trans (f'.mono (FS.mono rfl))) sk' ((hl.fr f1 rfl).fr f' rfl)
    | succ i ih =>
      intro s' h1 hi f1 sk1 k1
      have hs1 : CTb h1 C W T F m u := hs.fr f1.1 (FS.no rfl)
      have u0 := hs1.1.1.1
      have e1 : ((fdl m k).take (i + 1)).reverse = fdt m k i :: ((fdl m k).take i).reverse := by
        rw [List.take_succ, fdl_get hx (by omega)]; simp
      rw [e1] at k1
      have k1 := EQ_eb.mp k1
      rw [nI_sub (by omega), Nat.add_sub_cancel]
      refine k_X13_pack_18 o (fun c => absurd c (nI_nn (by omega))) (fun _ => ?_)
      refine k_X13_pack_22 o ?_
      refine cfld_ok hs1 g.2.2.2.2.2.2 hx (by omega) (by omega) ?_
      refine k_X13_pack_29 o ?_
      have hf := fdt_ok g hx (show i < sx.2.2.length by omega)
      refine ctakeT_ok hs1.1 sk1 hf.ok.tv.1 (by omega) (k1.mono (fun r er k2 h2 f2 tn2 sk2 => ?_) (fun w t => CE.fq f1 t rfl))
      show V X K 32 [.ref C, .int (nI k), .int (nI i)] [] h2
      refine k_X13_pack_32 o ?_
      have e2 : nI i + (-1 : Int32) = nI i - nI 1 := by rw [Int32.sub_eq_add_neg]; rfl
      rw [e2]
      refine ih r.2 h2 (by omega) (f1.trans f2) sk2 ?_
      exact (EQ_eb.mp k2).mono (fun q _ z => z) (fun _ z => z)
  refine k_X13_pack_0 o ?_
  refine loop sx.2.2.length s h (Nat.le_refl _) (Fq.refl h) hk ?_
  rw [List.take_of_length_le (by rw [fdl_len hx]; exact Nat.le_refl _)]
  exact kk
theorem cunp_ok {G : Gt} {d : Nat} {h : AH} {K : Outcome → AH → Prop} {C W T F k : Nat} {m : Md} {u : Ux} {s : Sk} {l : Ls} {sx : Sx} (hs : CTb h C W T F m u) (hu : gU m u) (g : gM m) (hk : SKh h C m s) (hl : LSh h C (lty u) l) (hx : m.2.1[k]? = some sx) (hd : 8 ≤ d) (kk : EQ (cUnp m k (s, l)) (CN K C m (lty u) h) (CE K C W h)) : MW G d e_X13_unpack [.ref C, .int (nI k)] h K := by
  refine st_X13_unpack fun X o hG hD _ => ?_
  subst hG; subst hD
  have t0 := hs.1.1.1
  have hk' := get_lt hx
  have b32 := hs.2.2.1.2.2.2.2.1.2.1
  have h16 := (g.2.1 sx (List.mem_of_getElem? hx)).1
  have hst : tOK m [6, k] := tOK.st (by unfold nst; omega) g.2.2.2.2.2.1
  have kk := EQ_eb.mp kk
  have loop : ∀ j i s' h1, j + i = sx.2.2.length → Fq (FS opF) h h1 → CTb h1 C W T F m u → SKh h1 C m s' → LSh h1 C (lty u) l → EQ (eb (ptL (((fdl m k).drop i).map fun t => (t, (0, false))) s') fun s => .ok (s, l)) (CN K C m (lty u) h) (CE K C W h) → V X K 10 [.ref C, .int (nI k), .int (nI i)] [] h1 := by
    intro j
    induction j with
    | zero =>
      intro i s' h1 hi f1 hs1 sk1 hl1 k1
      obtain ⟨s1, ⟨s2, s3⟩, ⟨s4, s5, s6, s7⟩, -⟩ := id hs1
      have u0 := s1.1.1
      obtain ⟨⟨g1, g2, g3, g4', g5, g6⟩, ⟨p1, -⟩, -, dS, -⟩ := id s4
      obtain ⟨d1, d2, d3, d4⟩ := dS k (by omega)
      have ix : IX (nI k) 64 k := IX.mk (by omega) (by omega)
      have hcnt : h1.I 513 (T + 13 + 2 * k) = nI sx.2.2.length := by
        obtain ⟨a, b, z1, z2, z3⟩ := (s7.2.2.1 k sx hx).2.2
        rw [show T + 12 + 2 * k + 1 = T + 13 + 2 * k by omega] at z3
        exact z3
      refine k_X13_unpack_10 o (fun _ => ?_) (fun c => ?_)
      rotate_left
      · exact absurd ((nI_leI (by omega) (by omega)).mpr (by omega)) c
      rw [List.drop_eq_nil_iff.mpr (by rw [fdl_len hx]; omega)] at k1
      refine k_X13_unpack_46 o ?_
      exact k1 h1 f1 sk1 hl1
    | succ j ih =>
      intro i s' h1 hi f1 hs1 sk1 hl1 k1
      obtain ⟨s1, ⟨s2, s3⟩, ⟨s4, s5, s6, s7⟩, -⟩ := id hs1
      have u0 := s1.1.1
      obtain ⟨⟨g1, g2, g3, g4', g5, g6⟩, ⟨p1, -⟩, -, dS, -⟩ := id s4
      obtain ⟨d1, d2, d3, d4⟩ := dS k (by omega)
      have ix : IX (nI k) 64 k := IX.mk (by omega) (by omega)
      have hcnt : h1.I 513 (T + 13 + 2 * k) = nI sx.2.2.length := by
        obtain ⟨a, b, z1, z2, z3⟩ := (s7.2.2.1 k sx hx).2.2
        rw [show T + 12 + 2 * k + 1 = T + 13 + 2 * k by omega] at z3
        exact z3
      have hfi := fdl_get hx (show i < sx.2.2.length by omega)
      have edr : (fdl m k).drop i = fdt m k i :: (fdl m k).drop (i + 1) := by
        have hlt : i < (fdl m k).length := get_lt hfi
        rw [List.drop_eq_getElem_cons hlt]
        rw [List.getElem?_eq_getElem hlt] at hfi
        rw [Option.some.inj hfi]
      rw [edr] at k1
      have k1 := EQ_eb.mp (EQ_eb.mp (show EQ (eb (eb (pt (fdt m k i) (0, false) s') fun s => ptL (((fdl m k).drop (i + 1)).map fun t => (t, (0, false))) s) fun s => .ok (s, l)) (CN K C m (lty u) h) (CE K C W h) from k1))
      refine k_X13_unpack_10 o (fun c => ?_) (fun _ => ?_)
      · exact absurd ((nI_leI (by omega) (by omega)).mp c) (by omega)
      refine k_X13_unpack_29 o ?_
      refine cfld_ok hs1 g.2.2.2.2.2.2 hx (by omega) (by omega) ?_
      refine k_X13_unpack_36 o ?_
      have hf := fdt_ok g hx (show i < sx.2.2.length by omega)
      rw [← enc_0]
      refine cput_ok hs1.1 sk1 hf.ok ⟨by decide, fun _ => rfl⟩ (by omega) (k1.mono (fun s'' _ k6 h' f' sk' => ?_) (fun w t => CE.fq f1 t rfl))
      show V X K 40 [.ref C, .int (nI k), .int (nI i)] [] h'
      refine k_X13_unpack_40 o ?_
      rw [nI_add]
      exact ih (i + 1) s'' h' (by omega) (f1.trans (f'.mono (FS.mono rfl))) (hs1.fr f'.1 (FS.no rfl)) sk' (hl1.fr f' rfl) (EQ_eb.mpr k6)
  refine k_X13_unpack_0 o ?_
  refine structureOf_ok (by omega) ?_
  refine k_X13_unpack_5 o ?_
  refine ctakeT_ok hs.1 hk hst.tv.1 (by omega) (kk.mono (fun r er k2 h1 f1 tn1 sk1 => ?_) (fun w t => t))
  show V X K 8 [.ref C, .int (nI k), nov] [] h1
  refine k_X13_unpack_8 o ?_
  refine loop sx.2.2.length 0 r.2 h1 (by omega) (f1.mono (FS.mono rfl)) (hs.fr f1.1 (FS.no rfl)) sk1 (hl.fr f1 rfl) ?_
  exact k2
