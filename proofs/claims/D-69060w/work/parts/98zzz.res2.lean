/-! resources, whole -/
theorem nI_sh8 {v b : Nat} (hv : v < 8388608) (hb : b < 256) : (nI v <<< (nI 8 &&& 31)) ||| nI b = nI (256 * v + b) := by
  refine um_inj ?_
  rw [um_or, um_shl _ (by omega), um_n (by omega), um_n (by omega), um_n (by omega), Nat.shiftLeft_eq, Nat.mod_eq_of_lt (by omega)]
  rw [Nat.mul_comm 256 v, show v * 256 = v <<< 8 by rw [Nat.shiftLeft_eq]]
  rw [Nat.shiftLeft_add_eq_or_of_lt (by omega), Nat.shiftLeft_eq]
theorem rzP.pay {P : Ms → Prop} {lim n : Nat} {s : Ms} {k : Ms → Rz} (h1 : ∀ g, P (sG s g)) (h2 : rzP P (k (sG s (gas s + n)))) : rzP P (mpay lim n s k) := by
  unfold mpay
  split
  · exact h2
  · exact h1 lim
theorem rzP.nd {P : Ms → Prop} {b : Bool} {w : Int64} {s : Ms} {k : Rz} (h1 : P s) (h2 : rzP P k) : rzP P (mnd b w s k) := by
  unfold mnd
  split
  · exact h2
  · exact h1
theorem rzP.re {P : Ms → Prop} {b : Bool} {k : Rz} (h2 : rzP P k) : rzP P (mre b k) := by
  unfold mre
  split
  · exact h2
  · trivial
theorem plc_en {s : Ms} {e : Nat} {f : En → En} (hf : ∀ x, (f x).1 = x.1) : plc (sEn s e f) = plc s := by
  unfold sEn
  split
  · rename_i x hx
    show (((ens s).set e (f x)).map fun x => x.1) = _
    rw [List.map_set, hf]
    unfold plc
    refine List.ext_getElem? fun i => ?_
    by_cases c : i = e
    · subst c
      rw [List.getElem?_set_self (by rw [List.length_map]; exact get_lt hx), List.getElem?_map, hx]; rfl
    · rw [List.getElem?_set_ne (fun z => c z.symm)]
  · rfl
theorem rsK_pl {lim op e : Nat} {v : VL} {t : List It} {s : Ms} : rzP (fun s2 => plc s2 = plc s) (rsK lim op e v t s) := by
  unfold rsK
  split
  · trivial
  · split
    · exact rzP.nd rfl (rzP.pay (fun _ => rfl) (plc_en fun _ => rfl))
    · split
      · exact rzP.pay (fun _ => rfl) rfl
      · refine rzP.nd rfl (rzP.pay (fun _ => rfl) ?_)
        split
        · split
          · exact rzP.re (plc_en fun _ => rfl)
          · trivial
        · exact plc_en fun _ => rfl
section
variable {G : Gt} {B d : Nat} {h : AH} {l : List Nat} {o : Lc} {wi W A q BA X tt lim SP t : Nat} {snd : Int64} {MA : Ma} {s : Ms} {K : Outcome → AH → Prop} {fs : Nat} {st : Lw} {Lf : Nat → Lw} {RN : Nat → Int32}
theorem cres_58 {XX : Xt} (oo : OK e_X1_resource XX) {op e : Nat} {v : VL} {k : List It} {x : En} {l2 l3 l4 l5 l6 : Value} (H : OPR XX.G B h A W q BA X tt snd lim SP wi MA l o s) (hs : stk s = .inl v :: k) (hx : (ens s)[e]? = some x) (h3 : x.1.1 = 3) (ho : 47 ≤ op ∧ op < 52) (hvw : VW v) (hen : x.2.2.1.1 = x.2.2.1.2.2.2.isSome) (hav : lim + 8 ≤ av XX.G h l + gas s) (hd : 60 ≤ XX.d) (hne : rsK lim op e v k s ≠ none) (kk : RZ K XX.G B h A W q BA X tt snd lim SP wi MA o (rsK lim op e v k s)) : V XX K 58 [.ref A, .int (nI op), l2, l3, l4, l5, l6] [.ref (Ea W e)] h := by
  obtain ⟨⟨-, ⟨b1, -⟩, -⟩, tE, -⟩ := H.en hx
  have t0 := H.1.1.1
  unfold rsK at kk hne
  rw [hx] at kk hne
  have go := fun (l2 l3 l4 l6 : Value) => cres_95 (K := K) oo (l2 := l2) (l3 := l3) (l4 := l4) (l6 := l6) H hs hx h3 ho hvw hen
  by_cases c49 : op = 49
  · simp only [if_neg (show ¬ op = 47 by omega), if_pos c49] at kk
    refine k_X1_resource_58 oo (fun _ => ?_) (fun c => absurd (by rw [c49]) c)
    exact go _ _ _ _ (fun c => by omega) (fun _ c => absurd c49 c) hav hd (by rw [if_neg (show ¬ op = 47 by omega), if_pos c49]; exact kk) (fun c => by omega)
  · refine k_X1_resource_58 oo (fun c => absurd ((nI_eq (by omega) (by omega)).mp c) c49) (fun _ => ?_)
    by_cases c47 : op = 47
    · simp only [if_pos c47] at kk
      refine k_X1_resource_66 (r2 := b1) oo (fun c => absurd (by rw [c47]) c) (fun _ => ?_)
      refine k_X1_resource_78 oo ?_
      cases hb : x.2.2.1.1 with
      | true =>
        rw [hb] at kk
        refine k_X1_resource_83 oo (fun _ => ?_) (fun c => absurd rfl c)
        refine k_X1_resource_90 oo ?_
        refine k_X1_resource_91 oo ?_
        exact cneed2_ok (b := false) (w := 3) H.1 (by omega) (by omega) (fun c => by cases c) (fun _ => H.stop kk)
      | false =>
        rw [hb] at kk
        refine k_X1_resource_83 oo (fun c => absurd c (by decide)) (fun _ => ?_)
        refine k_X1_resource_86 oo ?_
        refine k_X1_resource_91 oo ?_
        refine cneed2_ok (b := true) (w := 3) H.1 (by omega) (by omega) (fun _ => ?_) (fun c => by cases c)
        exact go _ _ _ _ (fun _ => hb) (fun c => absurd c47 c) hav hd (by rw [if_pos c47]; exact kk) (fun c => by omega)
    · simp only [if_neg c47, if_neg c49] at kk hne
      refine k_X1_resource_66 (r2 := b1) oo (fun _ => ?_) (fun c => absurd ((nI_eq (by omega) (by omega)).mp c) c47)
      refine k_X1_resource_82 oo ?_
      cases hb : x.2.2.1.1 with
      | false =>
        rw [hb] at kk
        refine k_X1_resource_83 oo (fun _ => ?_) (fun c => absurd rfl c)
        refine k_X1_resource_90 oo ?_
        refine k_X1_resource_91 oo ?_
        exact cneed2_ok (b := false) (w := 3) H.1 (by omega) (by omega) (fun c => by cases c) (fun _ => H.stop kk)
      | true =>
        rw [hb] at kk hne
        refine k_X1_resource_83 oo (fun c => absurd c (by decide)) (fun _ => ?_)
        refine k_X1_resource_86 oo ?_
        refine k_X1_resource_91 oo ?_
        refine cneed2_ok (b := true) (w := 3) H.1 (by omega) (by omega) (fun _ => ?_) (fun c => by cases c)
        refine go _ _ _ _ (fun c => absurd c c47) (fun _ _ => hb) hav hd (by rw [if_neg c47, if_neg c49]; exact kk) (fun c48 hg => ?_)
        unfold mnd mpay at hne
        rw [if_pos rfl, if_pos hg] at hne
        simp only [if_pos c48] at hne
        cases hvv : x.2.2.1.2.2.2 with
        | none => rw [hvv] at hne; exact absurd rfl hne
        | some w =>
          rw [hvv] at hne
          cases hn : nrr s (0, e) with
          | true => rfl
          | false =>
            have : nrr (sG s (gas s + 10)) (0, e) = false := hn
            simp [mre, this] at hne
theorem cresource_ok {op k M : Nat} {m : Md} {v : VL} {kt : List It} {env : Pc → Cn} (H : OPR G B h A W q BA X tt snd lim SP wi MA l o s) (wd : WRD h o A W BA tt MA fs st Lf RN) (hm : MDR h M m) (hM : MA.1 (tpf s).1.1 = M) (hm1 : m.1 < 65536) (hk : k < 256) (hs : stk s = .inl v :: kt) (ho : 47 ≤ op ∧ op < 52) (hvw : VW v) (henv : ∀ p, gss Lf fs tt p = none → env p = vew st Lf fs tt p) (hn2 : (ens s).length < 26) (hak : s.2.2.2.1 ≤ 24) (hv : ∀ p v, (vew st Lf fs tt p).2.2.2 = some v → vsz v ≤ 64 ∧ fdp v.2.2 ≤ 40) (hen : ∀ x ∈ ens s, x.1.1 = 3 → x.2.2.1.1 = x.2.2.1.2.2.2.isSome) (hev : ∀ a i, (env (3, a, i)).1 = (env (3, a, i)).2.2.2.isSome) (hav : lim + 72 ≤ av G h l + gas s) (hd : 62 ≤ d) (wt : WTS K G B h A W q BA X tt snd lim SP wi o Lf fs s) (hne : oRes snd env lim op m k s ≠ none) (kk : RZM K G B h A W q BA X tt snd lim SP wi MA o (ens s).length (sco Lf RN fs tt) (oRes snd env lim op m k s)) : MW G d e_X1_resource [.ref A, .int (nI op), .int (nI k)] h K := by
  refine st_X1_resource fun XX oo hG hD _ => ?_
  subst hG; subst hD
  rw [oRes_k hs] at kk hne
  have ek : (v.1 == if op = 47 then 6 else 5) = true := by
    cases hc : (v.1 == if op = 47 then 6 else 5) with
    | true => rfl
    | false => rw [hc] at hne; exact absurd rfl hne
  rw [ek] at kk hne
  change RZM _ _ _ _ _ _ _ _ _ _ _ _ _ _ _ _ _ _ (mask env true _ s _) at kk
  change mask env true _ s _ ≠ none at hne
  obtain ⟨c, vh, w, hf, hgs, hw⟩ := id H
  obtain ⟨t, ht⟩ : ∃ t, t + 1 = s.1 := ⟨s.1 - 1, by have := w.1.2.2.1; omega⟩
  rw [show s.1 - 1 = t by omega] at hf
  obtain ⟨⟨sf1, sf2, sf3, sf4, sf5⟩, ⟨⟨m1, m2, m3, m4, m5⟩, -, -, -, -⟩, es, el⟩ := w.F ht
  rw [tpt ht] at hM
  rw [hM] at m1
  obtain ⟨d1, d2⟩ := hm.1
  have b1 := hm.2.1.1.1
  have b4 := hm.2.2.2.2.1.1
  have t0 := c.1.1
  have s32 : ∀ (l3 l4 l5 l6 : Value) (ad : Int64), ad = (if op = 47 then snd else v.2.1.2) → V XX K 32 [.ref A, .int (nI op), .int (nI k), l3, l4, l5, l6] [.long ad] h := fun l3 l4 l5 l6 ad had => by
    subst had
    refine k_X1_resource_32 oo ?_
    rw [nI_sh8 (by omega) hk]
    refine cask_m (p := (3, (if op = 47 then snd else v.2.1.2), 256 * m.1 + k)) (cb := true) (k := fun e s => rsK lim op e v kt s) H wd ⟨by show 3 < 16; omega, by show 256 * m.1 + k < _; omega⟩ (henv _) hn2 hak (hv _) hav (by omega) (fun a b c d h' l' o' s' MA' u H2 e e1 e2 => wt a b c d h' l' o' s' MA' u H2 e e1 e2) (fun e s1 MA1 h1 l1 o1 x u1 H1 em hx hxo hxp hs1 hav1 mx m3 => ?_) (fun em => ?_)
    · rw [em] at kk hne
      have hss : stk s1 = .inl v :: kt := by
        unfold stk tpf
        rw [hs1.1, hs1.2.1]; exact hs
      have hx3 : x.1.1 = 3 := by rw [hxp]
      have hxe : x.2.2.1.1 = x.2.2.1.2.2.2.isSome := by
        rcases hxo with z | ⟨z1, z2⟩
        · exact hen x z hx3
        · have := hev (if op = 47 then snd else v.2.1.2) (256 * m.1 + k)
          rw [henv _ z1] at this
          rw [z2]; exact this
      exact cres_58 oo H1 hss hx hx3 ho hvw hxe hav1 (by omega) hne (RZM.rz u1 mx m3 rsK_pl kk)
    · rw [em] at kk
      exact fun h' l' o' u2 H2 => kk h' l' o' MA u2 H2 (MAX.refl (by unfold plc; rw [List.length_map]; exact Nat.le_refl _))
  by_cases c47 : op = 47
  · refine k_X1_resource_0 oo (fun c => absurd (by rw [c47]) c) (fun _ => ?_)
    obtain ⟨⟨c1, c2, c3, c4, c5⟩, ⟨c6, c7, c8, c9⟩, c10, c11, c12, c13⟩ := id c
    have ix : IX (nI tt) 32 tt := IX.mk (by omega) (by omega)
    have tW := w.1.1.1.1
    refine k_X1_resource_6 oo ?_
    exact s32 _ _ _ _ _ (by rw [if_pos c47])
  · refine k_X1_resource_0 oo (fun _ => ?_) (fun c => absurd ((nI_eq (by omega) (by omega)).mp c) c47)
    refine k_X1_resource_24 oo ?_
    refine ctop_ok (b := 0) c w hf ht (by rw [hs]; rfl) fun z z1 z2 => ?_
    have ez : lvE z = v := z2
    have rz := (vh.2.2.2 _ _ z1).1
    have tz := rz.1
    have lz : h.J 3714 z.1 = v.2.1.2 := by rw [← ez]; exact rz.2.2.2.1
    refine k_X1_resource_29 oo ?_
    exact s32 _ _ _ _ _ (by rw [if_neg c47])
end
