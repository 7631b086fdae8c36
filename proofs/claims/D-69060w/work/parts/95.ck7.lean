/-! the component's checker: resources, vectors, numbers -/
theorem cput0_ok {G : Gt} {d : Nat} {h : AH} {K : Outcome → AH → Prop} {C W : Nat} {m : Md} {s : Sk} {t : Ty} {x : Int64} (hx : x = lN (tyc t)) (hs : SCk h C W) (hk : SKh h C m s) (ht : tOK m t) (hd : 2 ≤ d) (kk : EQ (pt t (0, false) s) (fun s' => ∀ h', Fq (FS ptF) h h' → SKh h' C m s' → K (.returned none) h') (CE K C W h)) : MW G d e_X13_put [.ref C, .long x, .long (0 : Int64)] h K := by
  subst hx
  exact cput_ok (og := (0, false)) hs hk ht ⟨by decide, fun _ => rfl⟩ hd kk
theorem ctakeL_ok {G : Gt} {d : Nat} {h : AH} {K : Outcome → AH → Prop} {C W : Nat} {m : Md} {s : Sk} {t : Ty} {x : Int64} (hx : x = lN (tyc t)) (hs : SCk h C W) (hk : SKh h C m s) (ht : TV t) (hd : 3 ≤ d) (kk : EQ (tkT t s) (fun r => ∀ h', Fq (FS tkF) h h' → TKn h' C r.1 → SKh h' C m r.2 → K (.returned none) h') (CE K C W h)) : MW G d e_X13_takeType [.ref C, .long x] h K := by
  subst hx
  exact ctakeT_ok hs hk ht hd kk
theorem chres_ok {G : Gt} {d : Nat} {h : AH} {K : Outcome → AH → Prop} {F f : Nat} (hF : h.tag F = some (7, 0)) (hf : h.I 896 F = nI f) (hf7 : f ≤ 7) (kk : K (.returned (some (.int (bI (hsR f))))) h) : MW G d e_X13_hasResources [.ref F] h K := by
  refine st_X13_hasResources fun X o hG hD _ => ?_
  subst hG; subst hD
  unfold hsR at kk
  refine k_X13_hasResources_0 o (fun c => ?_) (fun c => ?_)
  · rw [nI_and (by omega) (by omega)] at c
    have hle : f &&& 4 ≤ 4 := Nat.and_le_right
    have c : f &&& 4 = 0 := (nI_eq (b := 0) (by omega) (by omega)).mp c
    rw [c] at kk
    refine k_X13_hasResources_13 o ?_
    refine k_X13_hasResources_14 o ?_
    exact kk
  · rw [nI_and (by omega) (by omega)] at c
    have c : ¬ f &&& 4 = 0 := fun z => c (by rw [z]; rfl)
    have e : (f &&& 4 != 0) = true := by simp [c]
    rw [e] at kk
    refine k_X13_hasResources_9 o ?_
    refine k_X13_hasResources_14 o ?_
    exact kk
theorem cres_ok {G : Gt} {d : Nat} {h : AH} {K : Outcome → AH → Prop} {C W T F k op : Nat} {m : Md} {u : Ux} {s : Sk} {l : Ls} (hs : CTb h C W T F m u) (hu : gU m u) (hu7 : u.1 ≤ 7) (g : gM m) (hk : SKh h C m s) (hl : LSh h C (lty u) l) (hkn : k < m.2.1.length) (hop : 47 ≤ op ∧ op ≤ 51) (hd : 8 ≤ d) (kk : EQ (cRes m u (lty u) op k (s, l)) (CN K C m (lty u) h) (CE K C W h)) : MW G d e_X13_resource [.ref C, .int (nI op), .int (nI k)] h K := by
  refine st_X13_resource fun X o hG hD _ => ?_
  subst hG; subst hD
  have t0 := hs.1.1.1
  have b32 := hs.2.2.1.2.2.2.2.1.2.1
  have hst : tOK m [6, k] := tOK.st (by unfold nst; omega) g.2.2.2.2.2.1
  have hfs : fT m [6, k] := ⟨hst.1, rfl, by simp [nve], hst.2.2⟩
  have kk := EQ_eb.mp kk
  have hm15 : k % 15 < 15 := Nat.mod_lt _ (by omega)
  have n15 : ¬ nI 15 = 0 := by decide
  have ebit : (1 : Int64) <<< ((nI 48 + (nI k - nI k / nI 15 * nI 15)).toInt64 &&& 63) = enc (2 ^ (48 + k % 15), false) := by
    rw [nI_mod (by omega) (by omega) (by omega), nI_add]; exact bit_enc (by omega)
  have hbm : un (enc (2 ^ (48 + k % 15), false)) % 9223372036854775808 = 2 ^ (48 + k % 15) := enc_mod (pw63 (by omega))
  -- behind what was taken
  have tail : ∀ r h1, Fq (FS tkF) h h1 → SKh h1 C m r → EQ (eb (nee (hsR u.1) 15) fun _ => eb (nee (hsA m [6, k] 8) 4) fun _ =>
  if op = 47 then .ok (r, l)
  else if op = 48 then eb (nee (!liv (lty u) r l (2 ^ (48 + k % 15)) 0) 6) fun _ => eb (pt [6, k] (0, false) r) fun s => .ok (s, l)
  else if op = 49 then eb (pt [1] (0, false) r) fun s => .ok (s, l)
  else eb (nee (!liv (lty u) r l (2 ^ (48 + k % 15)) (if op = 50 then 1 else 0)) 6) fun _ => eb (pt [if op = 50 then 8 else 9, 6, k] (2 ^ (48 + k % 15), false) r) fun s => .ok (s, l)) (CN K C m (lty u) h) (CE K C W h) → V X K 34 [.ref C, .int (nI op), .int (nI k), .long (enc (2 ^ (48 + k % 15), false)), nov] [] h1 := fun r h1 f1 sk1 k1 => by
    have hs1 : CTb h1 C W T F m u := hs.fr f1.1 (FS.no rfl)
    have hl1 : LSh h1 C (lty u) l := hl.fr f1 rfl
    have u0 := hs1.1.1.1
    have uF := hs1.2.1.2
    have F1 : Fq (FS opF) h h1 := f1.mono (FS.mono rfl)
    refine k_X13_resource_34 o ?_
    refine chres_ok hs1.2.2.2.1.1 hs1.2.2.2.2.1 hu7 ?_
    refine k_X13_resource_42 o ?_
    refine cneed_ok hs1.1 (by omega) ((EQ_eb.mp k1).mono (fun _ _ k2 => ?_) (fun w t => CE.fq f1 t rfl))
    show V X K 47 [.ref C, .int (nI op), .int (nI k), .long (enc (2 ^ (48 + k % 15), false)), nov] [] h1
    refine k_X13_resource_47 o ?_
    refine structureOf_ok (by omega) ?_
    refine k_X13_resource_52 o ?_
    refine cnab_ok hs1 g.1 hst (by omega) (by omega) ((EQ_eb.mp k2).mono (fun _ _ k3 => ?_) (fun w t => CE.fq f1 t rfl))
    show V X K 57 [.ref C, .int (nI op), .int (nI k), .long (enc (2 ^ (48 + k % 15), false)), nov] [] h1
    rcases (show op = 47 ∨ op = 48 ∨ op = 49 ∨ 50 ≤ op by omega) with e | e | e | e
    · subst e
      have k3 : CN K C m (lty u) h (r, l) := k3
      refine k_X13_resource_57 o (fun _ => ?_) (fun c => absurd c (by decide))
      refine k_X13_resource_95 o (fun _ => ?_) (fun c => absurd c (by decide))
      refine k_X13_resource_110 o (fun _ => ?_) (fun c => absurd (by decide) c)
      refine k_X13_resource_171 o ?_
      exact k3 h1 F1 sk1 hl1
    · subst e
      have k3 := EQ_eb.mp (show EQ (eb (nee (!liv (lty u) r l (2 ^ (48 + k % 15)) 0) 6) fun _ => eb (pt [6, k] (0, false) r) fun s => .ok (s, l)) (CN K C m (lty u) h) (CE K C W h) from k3)
      refine k_X13_resource_57 o (fun c => absurd rfl c) (fun _ => ?_)
      have key : ∀ b, (!liv (lty u) r l (2 ^ (48 + k % 15)) 0) = b → V X K 78 [.ref C, .int (nI 48), .int (nI k), .long (enc (2 ^ (48 + k % 15), false)), nov] [.int (bI b), .ref C] h1 := fun b hb => by
        rw [hb] at k3
        refine k_X13_resource_78 o ?_
        refine cneed_ok hs1.1 (by omega) (k3.mono (fun _ _ k4 => ?_) (fun w t => CE.fq f1 t rfl))
        show V X K 83 [.ref C, .int (nI 48), .int (nI k), .long (enc (2 ^ (48 + k % 15), false)), nov] [] h1
        refine k_X13_resource_83 o ?_
        refine structureOf_ok (by omega) ?_
        refine k_X13_resource_88 o ?_
        refine cput0_ok rfl hs1.1 sk1 hst (by omega) ((EQ_eb.mp k4).mono (fun s' _ k6 h' f' sk' => ?_) (fun w t => CE.fq f1 t rfl))
        refine k_X13_resource_92 o ?_
        refine k_X13_resource_171 o ?_
        exact k6 h' (F1.trans (f'.mono (FS.mono rfl))) sk' (hl1.fr f' rfl)
      refine k_X13_resource_63 o ?_
      refine cliv_ok hs1 hu sk1 hl1 hbm (by omega) (by omega) ?_
      cases hh : liv (lty u) r l (2 ^ (48 + k % 15)) 0 with
      | true =>
        refine k_X13_resource_70 o (fun _ => ?_) (fun c => absurd (show bI true = 0 from c) (by decide))
        refine k_X13_resource_77 o ?_
        exact key false (by rw [hh]; rfl)
      | false =>
        refine k_X13_resource_70 o (fun c => absurd rfl c) (fun _ => ?_)
        refine k_X13_resource_73 o ?_
        exact key true (by rw [hh]; rfl)
    · subst e
      have k3 := EQ_eb.mp (show EQ (eb (pt [1] (0, false) r) fun s => .ok (s, l)) (CN K C m (lty u) h) (CE K C W h) from k3)
      refine k_X13_resource_57 o (fun _ => ?_) (fun c => absurd c (by decide))
      refine k_X13_resource_95 o (fun c => absurd rfl c) (fun _ => ?_)
      refine k_X13_resource_101 o ?_
      refine cput0_ok (t := [1]) rfl hs1.1 sk1 (tOK.pr (by omega) (by omega)) (by omega) (k3.mono (fun s' _ k6 h' f' sk' => ?_) (fun w t => CE.fq f1 t rfl))
      refine k_X13_resource_107 o ?_
      refine k_X13_resource_171 o ?_
      exact k6 h' (F1.trans (f'.mono (FS.mono rfl))) sk' (hl1.fr f' rfl)
    · rw [if_neg (by omega), if_neg (by omega), if_neg (by omega)] at k3
      have k3 := EQ_eb.mp k3
      refine k_X13_resource_57 o (fun _ => ?_) (fun c => absurd ((nI_eq (by omega) (by omega)).mp c) (by omega))
      refine k_X13_resource_95 o (fun _ => ?_) (fun c => absurd ((nI_eq (by omega) (by omega)).mp c) (by omega))
      refine k_X13_resource_110 o (fun c => absurd ((nI_leI (by omega) (by omega)).mp c) (by omega)) (fun _ => ?_)
      have wh : ∀ w' , (if op = 50 then 1 else 0) = w' → w' ≤ 2 → V X K 130 [.ref C, .int (nI op), .int (nI k), .long (enc (2 ^ (48 + k % 15), false)), nov] [.int (nI w'), .long (enc (2 ^ (48 + k % 15), false)), .ref C, .ref C] h1 := fun w' ew hw' => by
        rw [ew] at k3
        have fin : ∀ c', (if op = 50 then 8 else 9) = c' → (c' = 8 ∨ c' = 9) → EQ (eb (pt [if op = 50 then 8 else 9, 6, k] (2 ^ (48 + k % 15), false) r) fun s => .ok (s, l)) (CN K C m (lty u) h) (CE K C W h) → V X K 160 [.ref C, .int (nI op), .int (nI k), .long (enc (2 ^ (48 + k % 15), false)), nov] [.int (nI c'), .ref C] h1 := fun c' ec hc' k5 => by
          rw [ec] at k5
          have k5 := EQ_eb.mp k5
          refine k_X13_resource_160 o ?_
          refine structureOf_ok (by omega) ?_
          refine k_X13_resource_164 o ?_
          refine with_ok hst.tv.1 (by simp) (by omega) (by omega) ?_
          refine k_X13_resource_167 o ?_
          refine cput_ok hs1.1 sk1 (hfs.ref hc') ⟨pw63 (by omega), fun z => by simp [isRf] at z; omega⟩ (by omega) (k5.mono (fun s' _ k6 h' f' sk' => ?_) (fun w t => CE.fq f1 t rfl))
          refine k_X13_resource_171 o ?_
          exact k6 h' (F1.trans (f'.mono (FS.mono rfl))) sk' (hl1.fr f' rfl)
        have key2 : ∀ b, (!liv (lty u) r l (2 ^ (48 + k % 15)) w') = b → V X K 141 [.ref C, .int (nI op), .int (nI k), .long (enc (2 ^ (48 + k % 15), false)), nov] [.int (bI b), .ref C] h1 := fun b hb' => by
          rw [hb'] at k3
          refine k_X13_resource_141 o ?_
          refine cneed_ok hs1.1 (by omega) (k3.mono (fun _ _ k5 => ?_) (fun w t => CE.fq f1 t rfl))
          show V X K 146 [.ref C, .int (nI op), .int (nI k), .long (enc (2 ^ (48 + k % 15), false)), nov] [] h1
          refine k_X13_resource_146 o (fun c => ?_) (fun c => ?_)
          · have c : ¬ op = 50 := fun z => c (by rw [z])
            refine k_X13_resource_158 o ?_
            exact fin 9 (by rw [if_neg c]) (Or.inr rfl) k5
          · have c : op = 50 := (nI_eq (by omega) (by omega)).mp c
            refine k_X13_resource_153 o ?_
            exact fin 8 (by rw [if_pos c]) (Or.inl rfl) k5
        refine k_X13_resource_130 o ?_
        refine cliv_ok hs1 hu sk1 hl1 hbm hw' (by omega) ?_
        cases hh : liv (lty u) r l (2 ^ (48 + k % 15)) w' with
        | true =>
          refine k_X13_resource_133 o (fun _ => ?_) (fun c => absurd (show bI true = 0 from c) (by decide))
          refine k_X13_resource_140 o ?_
          exact key2 false (by rw [hh]; rfl)
        | false =>
          refine k_X13_resource_133 o (fun c => absurd rfl c) (fun _ => ?_)
          refine k_X13_resource_136 o ?_
          exact key2 true (by rw [hh]; rfl)
      refine k_X13_resource_116 o (fun c => ?_) (fun c => ?_)
      · have c : ¬ op = 50 := fun z => c (by rw [z])
        refine k_X13_resource_129 o ?_
        exact wh 0 (by rw [if_neg c]) (by omega)
      · have c : op = 50 := (nI_eq (by omega) (by omega)).mp c
        refine k_X13_resource_125 o ?_
        exact wh 1 (by rw [if_pos c]) (by omega)
  refine k_X13_resource_0 o (fun c => ?_) (fun c => ?_)
  · have c : ¬ op = 47 := fun z => c (by rw [z])
    rw [if_neg c] at kk
    rw [ebit]
    refine k_X13_resource_27 o ?_
    refine ctakeL_ok (t := [5]) rfl hs.1 hk (tOK.pr (m := m) (by omega) (by omega)).tv.1 (by omega) (kk.mono (fun r er k2 h1 f1 tn1 sk1 => ?_) (fun w t => t))
    exact tail r.2 h1 f1 sk1 k2
  · have c : op = 47 := (nI_eq (by omega) (by omega)).mp c
    rw [if_pos c] at kk
    rw [ebit]
    refine k_X13_resource_16 o ?_
    refine structureOf_ok (by omega) ?_
    refine k_X13_resource_21 o ?_
    refine ctakeT_ok hs.1 hk hst.tv.1 (by omega) (kk.mono (fun r er k2 h1 f1 tn1 sk1 => ?_) (fun w t => t))
    refine k_X13_resource_24 o ?_
    exact tail r.2 h1 f1 sk1 k2
theorem ccon_ok {G : Gt} {d : Nat} {h : AH} {K : Outcome → AH → Prop} {C W T F op : Nat} {m : Md} {u : Ux} {s : Sk} {l : Ls} {t : Ty} (hs : CTb h C W T F m u) (hk : SKh h C m s) (hl : LSh h C (lty u) l) (hop : (5 ≤ op ∧ op ≤ 7 ∧ t = [op - 3]) ∨ (8 ≤ op ∧ op < 10 ∧ t = [1]) ∨ (10 ≤ op ∧ op < 60 ∧ t = [5])) (hd : 3 ≤ d) (kk : EQ (eb (pt t (0, false) s) fun s => .ok (s, l)) (CN K C m (lty u) h) (CE K C W h)) : MW G d e_X13_constant [.ref C, .int (nI op)] h K := by
  refine st_X13_constant fun X o hG hD _ => ?_
  subst hG; subst hD
  have t0 := hs.1.1.1
  have kk := EQ_eb.mp kk
  have fin : ∀ x : Int64, x = lN (tyc t) → tOK m t → V X K 49 [.ref C, .int (nI op)] [.long x, .ref C] h := fun x hx ht => by
    refine k_X13_constant_49 o ?_
    refine cput0_ok hx hs.1 hk ht (by omega) (kk.mono (fun s' _ k6 h' f' sk' => ?_) (fun w t => t))
    refine k_X13_constant_53 o ?_
    exact k6 h' (f'.mono (FS.mono rfl)) sk' (hl.fr f' rfl)
  have op60 : op < 60 := by omega
  refine k_X13_constant_0 o (fun c5 => ?_) (fun c => ?_)
  rotate_left
  · have c : op = 5 := (nI_eq (by omega) (by omega)).mp c
    have et : t = [2] := by rcases hop with ⟨_, _, e⟩ | ⟨h1, _⟩ | ⟨h1, _⟩; rw [e, c]; omega; omega
    subst et
    refine k_X13_constant_6 o ?_
    exact fin _ rfl (tOK.pr (by omega) (by omega))
  have c5 : ¬ op = 5 := fun z => c5 (by rw [z])
  refine k_X13_constant_12 o (fun c6 => ?_) (fun c => ?_)
  rotate_left
  · have c : op = 6 := (nI_eq (by omega) (by omega)).mp c
    have et : t = [3] := by rcases hop with ⟨_, _, e⟩ | ⟨h1, _⟩ | ⟨h1, _⟩; rw [e, c]; omega; omega
    subst et
    refine k_X13_constant_18 o ?_
    exact fin _ rfl (tOK.pr (by omega) (by omega))
  have c6 : ¬ op = 6 := fun z => c6 (by rw [z])
  refine k_X13_constant_24 o (fun c7 => ?_) (fun c => ?_)
  rotate_left
  · have c : op = 7 := (nI_eq (by omega) (by omega)).mp c
    have et : t = [4] := by rcases hop with ⟨_, _, e⟩ | ⟨h1, _⟩ | ⟨h1, _⟩; rw [e, c]; omega; omega
    subst et
    refine k_X13_constant_30 o ?_
    exact fin _ rfl (tOK.pr (by omega) (by omega))
  have c7 : ¬ op = 7 := fun z => c7 (by rw [z])
  refine k_X13_constant_36 o (fun c => ?_) (fun c => ?_)
  · have c := (nI_leI (by omega) (by omega)).mp c
    have et : t = [5] := by rcases hop with ⟨_, h2, e⟩ | ⟨_, h2, _⟩ | ⟨_, _, e⟩; omega; omega; exact e
    subst et
    refine k_X13_constant_46 o ?_
    exact fin _ rfl (tOK.pr (by omega) (by omega))
  · have c : ¬ 10 ≤ op := fun z => c ((nI_leI (by omega) (by omega)).mpr z)
    have et : t = [1] := by rcases hop with ⟨_, h2, e⟩ | ⟨_, _, e⟩ | ⟨h2, _⟩; omega; exact e; omega
    subst et
    refine k_X13_constant_42 o ?_
    exact fin _ rfl (tOK.pr (by omega) (by omega))
theorem tOK.vb {m : Md} : tOK m [7, 2] := ⟨fun x hx => by simp at hx; omega, Or.inl ⟨by simp [bas], by simp [nve]⟩, fun j hj => by simp [sidx] at hj⟩
theorem cbyt_ok {G : Gt} {d : Nat} {h : AH} {K : Outcome → AH → Prop} {C W T F : Nat} {m : Md} {u : Ux} {s : Sk} {l : Ls} (hs : CTb h C W T F m u) (hk : SKh h C m s) (hl : LSh h C (lty u) l) (hd : 4 ≤ d) (kk : EQ (eb (tkT [7, 2] s) fun r => eb (pt [7, 2] (0, false) r.2) fun s => .ok (s, l)) (CN K C m (lty u) h) (CE K C W h)) : MW G d e_X13_bytes [.ref C] h K := by
  refine st_X13_bytes fun X o hG hD _ => ?_
  subst hG; subst hD
  have t0 := hs.1.1.1
  have kk := EQ_eb.mp kk
  refine k_X13_bytes_0 o ?_
  refine ctakeL_ok (t := [7, 2]) rfl hs.1 hk (tOK.vb (m := m)).tv.1 (by omega) (kk.mono (fun r er k2 h1 f1 tn1 sk1 => ?_) (fun w t => t))
  have hs1 : CTb h1 C W T F m u := hs.fr f1.1 (FS.no rfl)
  have u0 := hs1.1.1.1
  show V X K 7 [.ref C] [] h1
  refine k_X13_bytes_7 o ?_
  refine cput0_ok (t := [7, 2]) rfl hs1.1 sk1 tOK.vb (by omega) ((EQ_eb.mp k2).mono (fun s' _ k6 h' f' sk' => ?_) (fun w t => CE.fq f1 t rfl))
  refine k_X13_bytes_15 o ?_
  exact k6 h' ((f1.mono (FS.mono rfl)).trans (f'.mono (FS.mono rfl))) sk' ((hl.fr f1 rfl).fr f' rfl)
