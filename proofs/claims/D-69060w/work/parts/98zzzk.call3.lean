/-! calls from their beginning -/
def mcl (Wd' : Wd) (snd : Int64) (env : Pc → Cn) (lim : Nat) (m : Md) (u : Ux) (a : Nat) (s : Ms) : Rz := if a < m.2.2.2.2.2.length then mcall Wd' lim m u (tpf s).2.1 (m.1, a) s
  else match m.2.2.2.1[a - m.2.2.2.2.2.length]? with
    | none => none
    | some c => if c.1 = 0 then rb (oCoi snd env lim c.2.1 s) fun s => mgo (nx m u ((tpf s).2.1 + 1) s)
      else mask env true (2, lN c.1, 0) s fun _ s => mcall Wd' lim m u (tpf s).2.1 (c.1, c.2.1) s
theorem mcall_pl {Wd' : Wd} {lim i : Nat} {m : Md} {u : Ux} {g : Nat × Nat} {s : Ms} : rzP (fun s2 => plc s2 = plc s) (mcall Wd' lim m u i g s) := by
  unfold mcall
  split
  · trivial
  · split
    · trivial
    · exact rzP.nd rfl (rzP.pay (fun _ => rfl) (rzP.re rfl))
theorem mcall_u {Wd' : Wd} {lim i : Nat} {m : Md} {u : Ux} {g : Nat × Nat} {s : Ms} (h : mcall Wd' lim m u i g s ≠ none) : ∃ m' u', Wd' g.1 = some m' ∧ m'.2.2.2.2.2[g.2]? = some u' := by
  unfold mcall at h
  split at h
  · exact absurd rfl h
  · rename_i m' hm
    split at h
    · exact absurd rfl h
    · rename_i u' hu
      exact ⟨m', u', hm, hu⟩
section
variable {G : Gt} {B d : Nat} {h : AH} {l : List Nat} {o : Lc} {wi W A q BA X tt lim SP t : Nat} {snd : Int64} {MA : Ma} {s : Ms} {K : Outcome → AH → Prop} {fs : Nat} {st : Lw} {Lf : Nat → Lw} {RN : Nat → Int32}
theorem RZI.tr {h1 : AH} {o1 : Lc} {MA1 : Ma} {n : Nat} {ps : List Pc} {sc : Pc → Option (Int32 × Int32)} {r : Rz} (u : OUT wi W h h1 o o1) (mx : MAX n MA MA1 ps sc) (hn : n ≤ ps.length) (pl : rzP (fun s2 => plc s2 = ps) r) (k : RZI K G B h A W q BA X tt snd lim SP wi MA o n sc r) : RZI K G B h1 A W q BA X tt snd lim SP wi MA1 o1 ps.length sc r := by
  have tr : ∀ MA' : Ma, MAX ps.length MA1 MA' ps sc → MAX n MA MA' ps sc := fun MA' m2 => ⟨⟨m2.1.1.trans mx.1.1, m2.1.2.trans mx.1.2⟩, fun e he => (m2.2.1 e (by omega)).trans (mx.2.1 e he), fun e p he hp => by rw [m2.2.1 e (get_lt hp)]; exact mx.2.2 e p he hp⟩
  cases r with
  | none => trivial
  | some e =>
    cases e with
    | ok s' =>
      intro h' l' o' MA' u2 H m2
      have pl : plc s' = ps := pl
      rw [pl] at m2
      exact k h' l' o' MA' (u.trans u2) H (by rw [pl]; exact tr MA' m2)
    | error e =>
      intro h' l' o' MA' u2 H m2
      have pl : plc e.2.2 = ps := pl
      rw [pl] at m2
      exact k h' l' o' MA' (u.trans u2) H (by rw [pl]; exact tr MA' m2)
theorem cmodule_ok {n : Nat} {env : Pc → Cn} {k : Nat → Ms → Rz} (H : OPR G B h A W q BA X tt snd lim SP wi MA l o s) (wd : WRD h o A W BA tt MA fs st Lf RN) (hn0 : 0 < n) (hnb : n < 65536) (henv : ∀ p, gss Lf fs tt p = none → env p = vew st Lf fs tt p) (hn2 : (ens s).length < 26) (hak : s.2.2.2.1 ≤ 24) (hv : ∀ p v, (vew st Lf fs tt p).2.2.2 = some v → vsz v ≤ 64 ∧ fdp v.2.2 ≤ 40) (hth : ∀ x ∈ ens s, x.1.1 = 2 → x.2.2.1.1 = true) (hth2 : gss Lf fs tt (2, lN n, 0) = none → (vew st Lf fs tt (2, lN n, 0)).1 = true) (hav : lim + 72 ≤ av G h l + gas s) (hd : 52 ≤ d) (wt : WTS K G B h A W q BA X tt snd lim SP wi o Lf fs s) (kk : ∀ e s1 MA1 h1 l1 o1, OUT wi W h h1 o o1 → OPR G B h1 A W q BA X tt snd lim SP wi MA1 l1 o1 s1 → mask env true (2, lN n, 0) s k = k e s1 → (s1.1 = s.1 ∧ s1.2.1 = s.2.1 ∧ gas s1 = gas s) → MAX (ens s).length MA MA1 (plc s1) (sco Lf RN fs tt) → MA1.2.2.1 = MA.2.2.1 → (ens s).length ≤ (plc s1).length → K (.returned (some (.ref (MA.1 n)))) h1) (ke : mask env true (2, lN n, 0) s k = mst 2 4 s → RZ K G B h A W q BA X tt snd lim SP wi MA o (mst 2 4 s)) : MW G d e_X1_module [.ref A, .int (nI n), .int (nI 1)] h K := by
  refine st_X1_module fun XX oo hG hD _ => ?_
  subst hG; subst hD
  have t0 := H.1.1.1
  refine k_X1_module_0 oo (fun _ => ?_) (fun c => absurd ((nI_eq (b := 0) (by omega) (by omega)).mp c) (by omega))
  refine k_X1_module_9 oo ?_
  rw [nI_64 (by omega)]
  refine cask_m (p := (2, lN n, 0)) (cb := true) (k := k) H wd ⟨by show 2 < 16; omega, by show 0 < _; omega⟩ (henv _) hn2 hak (hv _) hav (by omega) (fun a b c d h' l' o' s' MA' u H2 e e1 e2 => wt a b c d h' l' o' s' MA' u H2 e e1 e2) (fun e s1 MA1 h1 l1 o1 x u1 H1 em hx hxo hxp hs1 hav1 mx m3 => ?_) (fun em => ke em)
  obtain ⟨⟨-, ⟨b1, -⟩, -, ⟨-, -, b3⟩, -⟩, tE, -⟩ := H1.en hx
  have xt : x.2.2.1.1 = true := by
    rcases hxo with z | ⟨z1, z2⟩
    · exact hth x z (by rw [hxp])
    · rw [z2]; exact hth2 z1
  have rm := b3 (by rw [hxp]) xt
  rw [hxp] at rm
  have rm : h1.R 1158 (Ea W e) = some (MA1.1 (un (lN n))) := rm
  rw [un_l (by omega), mx.1.1] at rm
  rw [xt] at b1
  refine k_X1_module_18 (r2 := b1) oo (fun c => absurd c (by decide)) (fun _ => ?_)
  refine k_X1_module_26 (r2 := rm) oo ?_
  refine k_X1_module_34 oo ?_
  exact kk e s1 MA1 h1 l1 o1 u1 H1 em ⟨hs1.1, hs1.2.1, hs1.2.2.1⟩ mx m3 (by unfold plc; rw [List.length_map]; exact hs1.2.2.2)
theorem MW_mod0 {CM : Nat} (t0 : h.tag A = some (0, 0)) (hc : h.R 0 A = some CM) (kk : K (.returned (some (.ref CM))) h) : MW G d e_X1_module [.ref A, .int (nI 0), .int (nI 1)] h K := by
  refine st_X1_module fun XX oo hG hD _ => ?_
  subst hG; subst hD
  refine k_X1_module_0 oo (fun c => absurd rfl c) (fun _ => ?_)
  exact k_X1_module_4 (x3 := some CM) (r2 := hc) oo kk
theorem ccall_ok {a CM : Nat} {env : Pc → Cn} {Wd' : Wd} {m : Md} {u : Ux} (H : OPR G B h A W q BA X tt snd lim SP wi MA l o s) (wd : WRD h o A W BA tt MA fs st Lf RN) (hk1 : (tpf s).1.1 = m.1) (hWm : Wd' m.1 = some m) (ha : a < m.2.2.2.2.2.length + m.2.2.2.1.length) (hat : ∀ j, j + 1 < s.1 → MA.2.2.1 j = (s.2.1 j).2.1) (hat2 : MA.2.2.1 (s.1 - 1) = (tpf s).2.1 + 1) (hWd : ∀ n m', Wd' n = some m' → MDR h (MA.1 n) m' ∧ (∀ k, MA.2.1 (n, k) = MA.1 n + 141 + 4 * k) ∧ (n ≠ 0 → MA.1 n ≠ CM) ∧ n < 65536 ∧ ∀ u' ∈ m'.2.2.2.2.2, u'.2.1.length ≤ 8) (hc : h.R 0 A = some CM) (hcf : ∀ c ∈ m.2.2.2.1, c.1 = 0 → c.2.1 < 6) (hcb : ∀ c ∈ m.2.2.2.1, c.1 < 65536 ∧ c.2.1 < 256) (hT : ∀ v, (Sum.inl v : It) ∈ stk s → VW v) (hC : ∀ c, m.2.2.2.1[a - m.2.2.2.2.2.length]? = some c → m.2.2.2.2.2.length ≤ a → c.1 = 0 → c.2.1 = 1 ∨ c.2.1 = 3 ∨ c.2.1 = 4 → ∀ v y, ((stk s)[0]? = some (.inl v) ∧ c.2.1 ≠ 4) ∨ ((stk s)[1]? = some (.inl v) ∧ c.2.1 ≠ 1) → cvl v = some y → v = vCv y) (henv : ∀ p, gss Lf fs tt p = none → env p = vew st Lf fs tt p) (hn2 : (ens s).length < 26) (hak : s.2.2.2.1 ≤ 24) (hv : ∀ p v, (vew st Lf fs tt p).2.2.2 = some v → vsz v ≤ 64 ∧ fdp v.2.2 ≤ 40) (hth : ∀ x ∈ ens s, x.1.1 = 2 → x.2.2.1.1 = true) (hth2 : ∀ n m', Wd' n = some m' → n ≠ 0 → gss Lf fs tt (2, lN n, 0) = none → (vew st Lf fs tt (2, lN n, 0)).1 = true) (hfw : ∀ c ∈ m.2.2.2.1, c.1 ≠ 0 → ∃ m', Wd' c.1 = some m') (hav : lim + 72 ≤ av G h l + gas s) (hd : 64 ≤ d) (wt : WTS K G B h A W q BA X tt snd lim SP wi o Lf fs s) (hne : mcl Wd' snd env lim m u a s ≠ none) (kk : RZI K G B h A W q BA X tt snd lim SP wi MA o (ens s).length (sco Lf RN fs tt) (mcl Wd' snd env lim m u a s)) : MW G d e_X1_call [.ref A, .int (nI a)] h K := by
  refine st_X1_call fun XX oo hG hD _ => ?_
  subst hG; subst hD
  obtain ⟨c, vh, w, hf, hgs, hw⟩ := id H
  obtain ⟨t, ht⟩ : ∃ t, t + 1 = s.1 := ⟨s.1 - 1, by have := w.1.2.2.1; omega⟩
  rw [show s.1 - 1 = t by omega] at hf
  obtain ⟨⟨sf1, sf2, sf3, sf4, sf5⟩, ⟨⟨m1, m2, m3, m4, m5⟩, -, -, -, -⟩, es, el⟩ := w.F ht
  have hk1' := hk1
  rw [tpt ht] at hk1'
  rw [hk1'] at m1
  obtain ⟨hm, hfa, -, -, h8⟩ := hWd m.1 m hWm
  obtain ⟨d1, d2⟩ := hm.1
  have b1 := hm.2.1.1.1
  have b4 := hm.2.2.2.2.1.2.2.2.2
  have b6 := hm.2.2.2.2.2.1
  have t0 := c.1.1
  have hpl : (plc s).length = (ens s).length := by unfold plc; rw [List.length_map]
  unfold mcl at kk hne
  refine k_X1_call_0 oo ?_
  refine fat2_ok hm.2.1 hm.2.2.2.2 ha ?_
  by_cases ca : a < m.2.2.2.2.2.length
  · rw [if_pos ca] at kk hne ⊢
    refine k_X1_call_24 (r2 := b4) oo (fun _ => ?_) (fun c => absurd ((nI_ltI (by omega) (by omega)).mpr ca) c)
    have eF : MA.2.1 (m.1, a) = MA.1 m.1 + 1 + 140 + 4 * a := by rw [hfa]
    rw [← eF]
    exact call_78 oo (g := (m.1, a)) (u' := m.2.2.2.2.2[a]) H hat hat2 hWm (List.getElem?_eq_getElem ca) hm (hfa a) (by omega) (h8 _ (List.getElem_mem ca)) (by omega) hne kk
  · rw [if_neg ca] at kk hne ⊢
    obtain ⟨cc, hcc⟩ : ∃ cc, m.2.2.2.1[a - m.2.2.2.2.2.length]? = some cc := ⟨_, List.getElem?_eq_getElem (by omega)⟩
    simp only [hcc] at kk hne
    have hcm := List.mem_of_getElem? hcc
    obtain ⟨cb1, cb2⟩ := hcb cc hcm
    obtain ⟨g1, g2, g3, g4, g5⟩ := hm.2.2.2.2.2.2.2.2.1 _ cc hcc
    have ea : MA.1 m.1 + 1 + 396 + 4 * (a - m.2.2.2.2.2.length) = MA.1 m.1 + 1 + 140 + 4 * (64 + a - m.2.2.2.2.2.length) := by omega
    rw [ea] at g1 g2
    have tg := (hm.2.1.2.2.2.2 (64 + a - m.2.2.2.2.2.length) (by omega)).2.1
    refine k_X1_call_24 (r2 := b4) oo (fun c => absurd ((nI_ltI (by omega) (by omega)).mp c) ca) (fun _ => ?_)
    refine k_X1_call_34 oo ?_
    by_cases c0 : cc.1 = 0
    · rw [if_pos c0] at kk hne
      rw [c0]
      refine MW_mod0 (CM := CM) t0 hc ?_
      refine k_X1_call_44 (p_s0 := some CM) (r2 := hc) oo (fun c => absurd rfl c) (fun _ => ?_)
      refine k_X1_call_53 oo ?_
      have hne2 : oCoi snd env lim cc.2.1 s ≠ none := fun z => by rw [z] at hne; exact hne rfl
      refine cofCoin_ok H wd (hcf cc hcm c0) hT (hC cc hcc (by omega) c0) henv hn2 hak hv hav (by omega) (fun a b c d h' l' o' s' MA' u H2 e e1 e2 => wt a b c d h' l' o' s' MA' u H2 e e1 e2) hne2 ?_
      have rz := RZI.op pcE_coi hat hat2 kk
      cases hr : oCoi snd env lim cc.2.1 s with
      | none => trivial
      | some e =>
        rw [hr] at rz
        cases e with
        | error e => exact rz
        | ok s' => exact fun h' l' o' MA' u2 H2 mx m3 => k_X1_call_62 oo (rz h' l' o' MA' u2 H2 mx m3)
    · rw [if_neg c0] at kk hne
      obtain ⟨m'', hm''⟩ := hfw cc hcm c0
      refine cmodule_ok (n := cc.1) (k := fun _ s => mcall Wd' lim m u (tpf s).2.1 (cc.1, cc.2.1) s) H wd (by omega) cb1 henv hn2 hak hv hth (hth2 _ _ hm'' c0) hav (by omega) (fun a b c d h' l' o' s' MA' u H2 e e1 e2 => wt a b c d h' l' o' s' MA' u H2 e e1 e2) (fun e s1 MA1 h1 l1 o1 u1 H1 em hs1 mx m3 hle => ?_) (fun em => ?_)
      · rw [em] at kk hne
        obtain ⟨m', u', hm', hu'⟩ := mcall_u hne
        obtain ⟨hmm, hff, hcn, -, h88⟩ := hWd _ _ hm'
        have hm1 := hmm.ip u1.1
        have hcm1 : h1.R 0 A = some CM := by rw [u1.1.R (IP.no (l := [0]) rfl _ _ rfl)]; exact hc
        have t1 := H1.1.1.1
        refine k_X1_call_44 (p_s0 := some (MA.1 cc.1)) (r2 := hcm1) oo (fun _ => ?_) (fun c => absurd (Option.some.inj c) (hcn c0))
        obtain ⟨d1', d2'⟩ := hm1.1
        have b1' := hm1.2.1.1.1
        have b2' := hm1.2.1.1.2.2.1
        have b3' := hm1.2.1.2.1.2.1
        have k64 := get_lt hu'
        have l64 := hm1.2.2.2.2.2.1.2.2.2.2.2
        have ix : IX (nI cc.2.1) 96 cc.2.1 := IX.mk (by omega) (by omega)
        have er := (hm1.2.1.2.2.2.2 cc.2.1 (by omega)).1
        have tg1 := u1.1.tag tg
        have g21 : h1.I 903 (MA.1 m.1 + 1 + 140 + 4 * (64 + a - m.2.2.2.2.2.length)) = nI cc.2.1 := by rw [u1.1.I (IP.no (l := [903]) rfl _ _ rfl)]; exact g2
        refine k_X1_call_63 oo ?_
        have eF : MA1.2.1 (cc.1, cc.2.1) = MA.1 cc.1 + 1 + 140 + 4 * cc.2.1 := by rw [mx.1.2, hff]
        have eM : MA1.1 cc.1 = MA.1 cc.1 := by rw [mx.1.1]
        rw [← eF, ← eM]
        have et : tpf s1 = tpf s := by unfold tpf; rw [hs1.1, hs1.2.1]
        refine call_78 oo (g := (cc.1, cc.2.1)) (n := (plc s1).length) H1 (fun j hj => ?_) ?_ hm' hu' (by rw [eM]; exact hm1) (by rw [mx.1.2, hff, mx.1.1]) (Nat.le_refl _) (h88 _ (List.mem_of_getElem? hu')) (by omega) hne (RZI.tr u1 mx hle mcall_pl kk)
        · rw [m3, hs1.2.1]; exact hat j (by rw [← hs1.1]; exact hj)
        · rw [m3, et, hs1.1]; exact hat2
      · rw [em] at kk
        exact fun h' l' o' u2 H2 e1 e2 => kk h' l' o' MA u2 H2.ipr (MAX.refl (by show (plc s).length ≤ _; omega)) e1 e2
end
