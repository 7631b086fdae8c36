/-! functions of the coin's module, whole -/
theorem oCoi_2 {snd : Int64} {env : Pc → Cn} {lim : Nat} {s : Ms} (hne : oCoi snd env lim 2 s ≠ none) : ∃ r k c y, stk s = .inr r :: k ∧ drf s r = some c ∧ cvl c = some y ∧ oCoi snd env lim 2 s = mpay lim 5 s fun s => mgo (sK s (vI 3 0 y :: k)) := by
  have e : oCoi snd env lim 2 s = (match stk s with
    | .inr r :: t => (match drf s r with
      | some c => (match cvl c with
        | some y => mpay lim 5 s fun s => mgo (sK s (vI 3 0 y :: t))
        | none => none)
      | none => none)
    | _ => none) := rfl
  rw [e] at hne ⊢
  cases hs : stk s with
  | nil => rw [hs] at hne; exact absurd rfl hne
  | cons i k =>
    cases i with
    | inl v => rw [hs] at hne; exact absurd rfl hne
    | inr r =>
      rw [hs] at hne
      simp only at hne ⊢
      cases hr : drf s r with
      | none => rw [hr] at hne; exact absurd rfl hne
      | some c =>
        rw [hr] at hne
        simp only at hne ⊢
        cases hc : cvl c with
        | none => rw [hc] at hne; exact absurd rfl hne
        | some y => exact ⟨r, k, c, y, rfl, hr, hc, rfl⟩
theorem oCoi_3 {snd : Int64} {env : Pc → Cn} {lim : Nat} {s : Ms} (hne : oCoi snd env lim 3 s ≠ none) : ∃ b a k x y, stk s = .inl b :: .inl a :: k ∧ cvl a = some x ∧ cvl b = some y ∧ oCoi snd env lim 3 s = mpay lim 5 s fun s => mgo (sK s (vC (x + y) :: k)) := by
  have e : oCoi snd env lim 3 s = (match stk s with
    | .inl b :: .inl a :: t => (match cvl a, cvl b with
      | some x, some y => mpay lim 5 s fun s => mgo (sK s (vC (x + y) :: t))
      | _, _ => none)
    | _ => none) := rfl
  rw [e] at hne ⊢
  split at hne
  · rename_i b a k hs
    simp only [hs]
    cases ha : cvl a with
    | none => rw [ha] at hne; exact absurd rfl hne
    | some x =>
      cases hb : cvl b with
      | none => rw [ha, hb] at hne; exact absurd rfl hne
      | some y => exact ⟨b, a, k, x, y, rfl, ha, hb, by simp⟩
  · exact absurd rfl hne
theorem oCoi_4 {snd : Int64} {env : Pc → Cn} {lim : Nat} {s : Ms} (hne : oCoi snd env lim 4 s ≠ none) : ∃ v c k x, stk s = .inl v :: .inl c :: k ∧ v.1 = 3 ∧ cvl c = some x ∧ oCoi snd env lim 4 s = mpay lim 5 s fun s => if un x < un v.2.1.2 then mst 1 2 s else mgo (sK s (vC v.2.1.2 :: vC (x - v.2.1.2) :: k)) := by
  have e : oCoi snd env lim 4 s = (match stk s with
    | .inl v :: .inl c :: t => mre (v.1 == 3) (match cvl c with
      | some x => mpay lim 5 s fun s => if un x < un v.2.1.2 then mst 1 2 s else mgo (sK s (vC v.2.1.2 :: vC (x - v.2.1.2) :: t))
      | none => none)
    | _ => none) := rfl
  rw [e] at hne ⊢
  split at hne
  · rename_i v c k hs
    simp only [hs]
    obtain ⟨e1, e2⟩ := mre_n hne
    rw [e2]
    rw [e2] at hne
    cases hc : cvl c with
    | none => rw [hc] at hne; exact absurd rfl hne
    | some x => exact ⟨v, c, k, x, rfl, by simpa using e1, hc, rfl⟩
  · exact absurd rfl hne
theorem oCoi_0 {snd : Int64} {env : Pc → Cn} {lim : Nat} {s : Ms} (hne : oCoi snd env lim 0 s ≠ none) : ∃ v k, stk s = .inl v :: k ∧ v.1 = 3 ∧ oCoi snd env lim 0 s = mask env true (1, snd, 0) s (fun e s => coK0 lim v k e s) := by
  have e : oCoi snd env lim 0 s = (match stk s with
    | .inl v :: t => mre (v.1 == 3) (mask env true (1, snd, 0) s (fun e s => coK0 lim v t e s))
    | _ => none) := rfl
  rw [e] at hne ⊢
  split at hne
  · rename_i v k hs
    simp only [hs]
    obtain ⟨e1, e2⟩ := mre_n hne
    rw [e2]
    exact ⟨v, k, rfl, by simpa using e1, rfl⟩
  · exact absurd rfl hne
theorem oCoi_1 {snd : Int64} {env : Pc → Cn} {lim : Nat} {s : Ms} (hne : oCoi snd env lim 1 s ≠ none) : ∃ c a k y, stk s = .inl c :: .inl a :: k ∧ a.1 = 5 ∧ cvl c = some y ∧ oCoi snd env lim 1 s = mask env true (1, a.2.1.2, 0) s (fun e s => coK1 lim y k e s) := by
  have e : oCoi snd env lim 1 s = (match stk s with
    | .inl c :: .inl a :: t => mre (a.1 == 5) (match cvl c with
      | some y => mask env true (1, a.2.1.2, 0) s (fun e s => coK1 lim y t e s)
      | none => none)
    | _ => none) := rfl
  rw [e] at hne ⊢
  split at hne
  · rename_i c a k hs
    simp only [hs]
    obtain ⟨e1, e2⟩ := mre_n hne
    rw [e2]
    rw [e2] at hne
    cases hc : cvl c with
    | none => rw [hc] at hne; exact absurd rfl hne
    | some x => exact ⟨c, a, k, x, rfl, by simpa using e1, hc, rfl⟩
  · exact absurd rfl hne
theorem oCoi_5 {snd : Int64} {env : Pc → Cn} {lim : Nat} {s : Ms} (hne : oCoi snd env lim 5 s ≠ none) : ∃ a k, stk s = .inl a :: k ∧ a.1 = 5 ∧ oCoi snd env lim 5 s = mask env true (1, a.2.1.2, 0) s (fun e s => coK5 lim k e s) := by
  have e : oCoi snd env lim 5 s = (match stk s with
    | .inl a :: t => mre (a.1 == 5) (mask env true (1, a.2.1.2, 0) s (fun e s => coK5 lim t e s))
    | _ => none) := rfl
  rw [e] at hne ⊢
  split at hne
  · rename_i v k hs
    simp only [hs]
    obtain ⟨e1, e2⟩ := mre_n hne
    rw [e2]
    exact ⟨v, k, rfl, by simpa using e1, rfl⟩
  · exact absurd rfl hne
section
variable {G : Gt} {B d : Nat} {h : AH} {l : List Nat} {o : Lc} {wi W A q BA X tt lim SP t : Nat} {snd : Int64} {MA : Ma} {s : Ms} {K : Outcome → AH → Prop} {fs : Nat} {st : Lw} {Lf : Nat → Lw} {RN : Nat → Int32}
theorem RZM.here {n : Nat} {sc : Pc → Option (Int32 × Int32)} {r : Rz} (hn : n = (ens s).length) (pl : rzP (fun s2 => plc s2 = plc s) r) (k : RZM K G B h A W q BA X tt snd lim SP wi MA o n sc r) : RZ K G B h A W q BA X tt snd lim SP wi MA o r :=
  RZM.rz OUT.refl (MAX.refl (by unfold plc; rw [List.length_map, hn]; exact Nat.le_refl _)) rfl pl k
theorem cofCoin_ok {n : Nat} {env : Pc → Cn} (H : OPR G B h A W q BA X tt snd lim SP wi MA l o s) (wd : WRD h o A W BA tt MA fs st Lf RN) (hn : n < 6) (hT : ∀ v, (Sum.inl v : It) ∈ stk s → VW v) (hC : n = 1 ∨ n = 3 ∨ n = 4 → ∀ v y, ((stk s)[0]? = some (.inl v) ∧ n ≠ 4) ∨ ((stk s)[1]? = some (.inl v) ∧ n ≠ 1) → cvl v = some y → v = vCv y) (henv : ∀ p, gss Lf fs tt p = none → env p = vew st Lf fs tt p) (hn2 : (ens s).length < 26) (hak : s.2.2.2.1 ≤ 24) (hv : ∀ p v, (vew st Lf fs tt p).2.2.2 = some v → vsz v ≤ 64 ∧ fdp v.2.2 ≤ 40) (hav : lim + 72 ≤ av G h l + gas s) (hd : 62 ≤ d) (wt : WTS K G B h A W q BA X tt snd lim SP wi o Lf fs s) (hne : oCoi snd env lim n s ≠ none) (kk : RZM K G B h A W q BA X tt snd lim SP wi MA o (ens s).length (sco Lf RN fs tt) (oCoi snd env lim n s)) : MW G d e_X1_ofCoin [.ref A, .int (nI n)] h K := by
  refine st_X1_ofCoin fun XX oo hG hD _ => ?_
  subst hG; subst hD
  obtain ⟨c, vh, w, hf, hgs, hw⟩ := id H
  obtain ⟨t, ht⟩ : ∃ t, t + 1 = s.1 := ⟨s.1 - 1, by have := w.1.2.2.1; omega⟩
  rw [show s.1 - 1 = t by omega] at hf
  have t0 := c.1.1
  have pls : ∀ {lim : Nat} {k : Ms → Rz}, rzP (fun s2 => plc s2 = plc s) (k (sG s (gas s + 5))) → rzP (fun s2 => plc s2 = plc s) (mpay lim 5 s k) := fun hk => rzP.pay (fun _ => rfl) hk
  -- asks
  have asks : ∀ (ad : Int64) (kf : Nat → Ms → Rz), oCoi snd env lim n s = mask env true (1, ad, 0) s kf → (∀ e s1 MA1 h1 l1 o1 x, OUT wi W h h1 o o1 → OPR XX.G B h1 A W q BA X tt snd lim SP wi MA1 l1 o1 s1 → (ens s1)[e]? = some x → x.1.1 = 1 → stk s1 = stk s → lim + 8 ≤ av XX.G h1 l1 + gas s1 → (rzP (fun s2 => plc s2 = plc s1) (kf e s1) → RZ K XX.G B h1 A W q BA X tt snd lim SP wi MA1 o1 (kf e s1)) → V XX K 71 [.ref A, .int (nI n), .ref (Ea W e), nov, nov, nov, nov, nov, nov, nov] [] h1) → ∀ pc, (∀ a h1, V XX K 71 [.ref A, .int (nI n), a, nov, nov, nov, nov, nov, nov, nov] [] h1 → isR a = true → V XX K pc [.ref A, .int (nI n), .null, nov, nov, nov, nov, nov, nov, nov] [a] h1) → MW XX.G (XX.d - 1) e_X1_ask [.ref A, .int (nI 1), .long ad, .int (nI 0), .int (nI 1)] h (kin (V XX K pc) K [.ref A, .int (nI n), .null, nov, nov, nov, nov, nov, nov, nov] []) := by
    intro ad kf eq go pc hpc
    rw [eq] at kk
    refine cask_m (p := (1, ad, 0)) (cb := true) (k := kf) H wd ⟨by show 1 < 16; omega, by show 0 < _; omega⟩ (henv _) hn2 hak (hv _) hav (by omega) (fun a b c d h' l' o' s' MA' u H2 e e1 e2 => wt a b c d h' l' o' s' MA' u H2 e e1 e2) (fun e s1 MA1 h1 l1 o1 x u1 H1 em hx hxo hxp hs1 hav1 mx m3 => ?_) (fun em => ?_)
    · rw [em] at kk
      refine hpc _ h1 (go e s1 MA1 h1 l1 o1 x u1 H1 hx (by rw [hxp]) ?_ hav1 (fun pl => RZM.rz u1 mx m3 pl kk)) rfl
      unfold stk tpf
      rw [hs1.1, hs1.2.1]
    · rw [em] at kk
      exact fun h' l' o' u2 H2 => kk h' l' o' MA u2 H2 (MAX.refl (by unfold plc; rw [List.length_map]; exact Nat.le_refl _))
  -- without asking
  have pass : ∀ m, m < 6 → n = m → m ≠ 0 → m ≠ 1 → m ≠ 5 → V XX K 71 [.ref A, .int (nI n), .null, nov, nov, nov, nov, nov, nov, nov] [] h → V XX K 0 [.ref A, .int (nI n), nov, nov, nov, nov, nov, nov, nov, nov] [] h := fun m hm e n0 n1 n5 hh => by
    refine k_X1_ofCoin_0 oo (fun _ => ?_) (fun c => absurd ((nI_eq (b := 0) (by omega) (by omega)).mp c) (by omega))
    refine k_X1_ofCoin_29 oo (fun _ => ?_) (fun c => absurd ((nI_eq (by omega) (by omega)).mp c) (by omega))
    exact k_X1_ofCoin_50 oo (fun _ => hh) (fun c => absurd ((nI_eq (by omega) (by omega)).mp c) (by omega))
  have cs : n = 0 ∨ n = 1 ∨ n = 2 ∨ n = 3 ∨ n = 4 ∨ n = 5 := by omega
  rcases cs with e | e | e | e | e | e <;> subst e
  · obtain ⟨v, k, hs, h3, eq⟩ := oCoi_0 hne
    have vw := hT v (by rw [hs]; simp)
    refine k_X1_ofCoin_0 oo (fun c => absurd rfl c) (fun _ => ?_)
    obtain ⟨⟨c1, c2, c3, c4, c5⟩, ⟨c6, c7, c8, c9⟩, c10, c11, c12, c13⟩ := id c
    have ix : IX (nI tt) 32 tt := IX.mk (by omega) (by omega)
    have tW := w.1.1.1.1
    refine k_X1_ofCoin_6 oo ?_
    refine asks _ _ eq (fun e s1 MA1 h1 l1 o1 x u1 H1 hx x1 hs1 hav1 kk => ?_) 28 (fun a h1 hh ha => ?_)
    · exact coin_0 oo H1 (by rw [hs1]; exact hs) hx x1 vw.1.2.1 hav1 (by omega) (kk coK0_pl)
    · refine k_X1_ofCoin_28 oo ?_
      refine k_X1_ofCoin_29 oo (fun _ => ?_) (fun c => absurd c (by decide))
      exact k_X1_ofCoin_50 oo (fun _ => hh) (fun c => absurd c (by decide))
  · obtain ⟨cc, a, k, y, hs, h5, hc, eq⟩ := oCoi_1 hne
    have vw := hT a (by rw [hs]; simp)
    have ec := hC (by omega) cc y (Or.inl ⟨by rw [hs]; rfl, by omega⟩) hc
    refine k_X1_ofCoin_0 oo (fun _ => ?_) (fun c => absurd c (by decide))
    refine k_X1_ofCoin_29 oo (fun c => absurd rfl c) (fun _ => ?_)
    refine k_X1_ofCoin_34 oo ?_
    refine ctop_ok (b := 1) c w hf ht (by rw [hs]; rfl) fun z z1 z2 => ?_
    have ez : lvE z = a := z2
    have rz := (vh.2.2.2 _ _ z1).1
    have tz := rz.1
    have lz : h.J 3714 z.1 = a.2.1.2 := by rw [← ez]; exact rz.2.2.2.1
    refine k_X1_ofCoin_41 oo ?_
    refine asks _ _ eq (fun e s1 MA1 h1 l1 o1 x u1 H1 hx x1 hs1 hav1 kk => ?_) 49 (fun a h1 hh ha => ?_)
    · exact coin_1 oo H1 (by rw [hs1, hs, ec]; rfl) hx x1 vw.1.2.1 (by omega) (kk coK1_pl)
    · refine k_X1_ofCoin_49 oo ?_
      exact k_X1_ofCoin_50 oo (fun _ => hh) (fun c => absurd c (by decide))
  · obtain ⟨r, k, cc, y, hs, hr, hc, eq⟩ := oCoi_2 hne
    rw [eq] at kk
    exact pass 2 (by omega) rfl (by omega) (by omega) (by omega) (coin_2 oo H hs hr hc (by omega) (by omega) (RZM.here rfl (pls rfl) kk))
  · obtain ⟨b, a, k, x, y, hs, ha, hb, eq⟩ := oCoi_3 hne
    rw [eq] at kk
    have e1 := hC (by omega) b y (Or.inl ⟨by rw [hs]; rfl, by omega⟩) hb
    have e2 := hC (by omega) a x (Or.inr ⟨by rw [hs]; rfl, by omega⟩) ha
    exact pass 3 (by omega) rfl (by omega) (by omega) (by omega) (coin_3 oo H (by rw [hs, e1, e2]; rfl) (by omega) (RZM.here rfl (pls rfl) kk))
  · obtain ⟨v, cc, k, x, hs, h3, hc, eq⟩ := oCoi_4 hne
    rw [eq] at kk
    have vw := hT v (by rw [hs]; simp)
    have e2 := hC (by omega) cc x (Or.inr ⟨by rw [hs]; rfl, by omega⟩) hc
    refine pass 4 (by omega) rfl (by omega) (by omega) (by omega) (coin_4 oo H (by rw [hs, e2]; rfl) vw.1.2.1 (by omega) (by omega) (RZM.here rfl (pls ?_) kk))
    split <;> rfl
  · obtain ⟨a, k, hs, h5, eq⟩ := oCoi_5 hne
    have vw := hT a (by rw [hs]; simp)
    have v5 := vw.2.1 (by omega)
    refine k_X1_ofCoin_0 oo (fun _ => ?_) (fun c => absurd c (by decide))
    refine k_X1_ofCoin_29 oo (fun _ => ?_) (fun c => absurd c (by decide))
    refine k_X1_ofCoin_50 oo (fun c => absurd rfl c) (fun _ => ?_)
    refine k_X1_ofCoin_55 oo ?_
    refine ctop_ok (b := 0) c w hf ht (by rw [hs]; rfl) fun z z1 z2 => ?_
    have ez : lvE z = a := z2
    have rz := (vh.2.2.2 _ _ z1).1
    have tz := rz.1
    have lz : h.J 3714 z.1 = a.2.1.2 := by rw [← ez]; exact rz.2.2.2.1
    refine k_X1_ofCoin_62 oo ?_
    refine asks _ _ eq (fun e s1 MA1 h1 l1 o1 x u1 H1 hx x1 hs1 hav1 kk => ?_) 70 (fun a h1 hh ha => ?_)
    · exact coin_5 oo H1 (by rw [hs1]; exact hs) hx ⟨v5.1.1.resolve_left (by omega), v5.2⟩ (by omega) (kk coK5_pl)
    · exact k_X1_ofCoin_70 oo hh
end
