/-- the same frames and entries -/
def sme (s s' : Ms) : Prop := s'.1 = s.1 ∧ s'.2.1 = s.2.1 ∧ ens s' = ens s
/-- one that has to wait for another -/
def WTS (K : Outcome → AH → Prop) (G : Gt) (B : Nat) (h : AH) (A W q BA X tt : Nat) (snd : Int64) (lim SP wi : Nat) (o : Lc) (Lf : Nat → Lw) (fs : Nat) (s : Ms) : Prop := ∀ k p, PB p → gss Lf fs tt p = some k → ∀ h' l' o' s' MA', OUT wi W h h' o o' → OPR G B h' A W q BA X tt snd lim SP wi MA' l' o' s' → sme s s' → h'.I 24 A = nI 9 → h'.J 25 A = lN k → K (.threw SP) h'
section
variable {G : Gt} {B d : Nat} {h : AH} {l : List Nat} {o : Lc} {wi W A q BA X tt lim SP t : Nat} {snd : Int64} {MA : Ma} {s : Ms} {K : Outcome → AH → Prop} {fs z : Nat} {fx : Option Nat} {st : Lw} {Lf : Nat → Lw} {RN : Nat → Int32}
theorem WTS.out {h1 : AH} {o1 : Lc} (u : OUT wi W h h1 o o1) (k : WTS K G B h A W q BA X tt snd lim SP wi o Lf fs s) : WTS K G B h1 A W q BA X tt snd lim SP wi o1 Lf fs s := fun a b c d h' l' o' s' MA' u2 => k a b c d h' l' o' s' MA' (u.trans u2)
def WTQ (z : Nat) (fx : Option Nat) (dep : Ms) (K : Outcome → AH → Prop) (G : Gt) (B : Nat) (h : AH) (A W q BA X tt : Nat) (snd : Int64) (lim SP wi : Nat) (o : Lc) (Lf : Nat → Lw) (fs : Nat) : Prop := ∀ k p, PB p → gss Lf fs tt p = some k → ∀ h' l' o' s' MA', OUT wi W h h' o o' → OPQ z fx G B h' A W q BA X tt snd lim SP wi MA' l' o' s' → sme dep s' → h'.I 24 A = nI 9 → h'.J 25 A = lN k → K (.threw SP) h'
theorem WTQ.out {dep : Ms} {h1 : AH} {o1 : Lc} (u : OUT wi W h h1 o o1) (k : WTQ z fx dep K G B h A W q BA X tt snd lim SP wi o Lf fs) : WTQ z fx dep K G B h1 A W q BA X tt snd lim SP wi o1 Lf fs := fun a b c d h' l' o' s' MA' u2 => k a b c d h' l' o' s' MA' (u.trans u2)
theorem WTQ.stop {dep : Ms} {k : Nat} {p : Pc} (H : OPQ z fx G B h A W q BA X tt snd lim SP wi MA l o s) (hd : sme dep s) (wt : WTQ z fx dep K G B h A W q BA X tt snd lim SP wi o Lf fs) (hp : PB p) (hg : gss Lf fs tt p = some k) : STP K A SP h 9 (lN k) :=
  H.stop (fun h' l' o' u H2 e1 e2 => wt k p hp hg h' l' o' s MA u H2 hd e1 e2)
theorem ask_64 {XX : Xt} (oo : OK e_X1_ask XX) {p : Pc} {n : Nat} {cnt : Int32} {l6 l7 l8 : Value} (H : OPQ z fx XX.G B h A W q BA X tt snd lim SP wi MA l o s) (wd : WRD h o A W BA tt MA fs st Lf RN) (hn : n = (ens s).length) (hn2 : n < 26) (hp : PB p) (hv : ∀ v, (vew st Lf fs tt p).2.2.2 = some v → vsz v ≤ av XX.G h l ∧ fdp v.2.2 ≤ 40) (hd : 50 ≤ XX.d) (wt : WTQ z fx s K XX.G B h A W q BA X tt snd lim SP wi o Lf fs) (kk : gss Lf fs tt p = none → ∀ h' l' o', OUT wi W h h' o o' → OPQ z fx XX.G B h' A W q BA X tt snd lim SP wi (maU MA n (sce Lf RN fs tt p)) l' o' (s.1, s.2.1, ens s ++ [(p, vew st Lf fs tt p, vew st Lf fs tt p, false)], s.2.2.2.1, gas s) → av XX.G h' l' + csz (vew st Lf fs tt p) = av XX.G h l → K (.returned (some (.ref (Ea W n)))) h') : V XX K 64 [.ref A, .int (nI p.1), .long p.2.1, nov, .int (nI p.2.2), .int cnt, l6, l7, l8] [] h := by
  have ⟨cx, v, w, hf, hg, hw⟩ := H
  obtain ⟨⟨c1, c2, c3, c4, c5⟩, ⟨c6, c7, c8, -⟩, -⟩ := id cx
  have tW := w.1.1.1.1
  refine k_X1_ask_64 oo ?_
  refine before_ok c1 c4 c6 wd c8 hp (by omega) ?_
  cases hb : bfr Lf p fs tt with
  | none =>
    have ev : vew st Lf fs tt p = acf st (-1) p (lfc st p) := by unfold vew; rw [hb]
    have eg : gss Lf fs tt p = none := by unfold gss; rw [hb]
    have es : sce Lf RN fs tt p = (-1, 0) := by unfold sce; rw [hb]
    rw [ev, es] at kk
    refine k_X1_ask_79 (s0 := -1) oo (fun c => absurd c (by decide)) (fun _ => ?_)
    obtain ⟨⟨SA, w1, w2, w3⟩, w4, -⟩ := id wd
    have tS := w2.1.1.1.1
    refine k_X1_ask_86 oo ?_
    refine find_ok w2.1 hp (by omega) ?_
    rw [fidx_map]
    refine k_X1_ask_97 oo ?_
    refine k_X1_ask_117 oo (fun _ => ?_) (fun c => absurd (by decide) c)
    cases hfi : st.findIdx? fun x => x.1 == p with
    | none =>
      have el : lfc st p = (false, 0, 0, none) := by unfold lfc lfd; rw [hfi]
      exact ask_141 oo (fr := -1) (rn := 0) (src := none) (c := lfc st p) H wd hn hn2 hp (Or.inl ⟨by decide, rfl⟩) el (fun _ _ => rfl) (fun v hv' => by rw [el] at hv'; cases hv') hd (kk eg)
    | some e =>
      obtain ⟨x, hx⟩ := fidx_at hfi
      have el : lfc st p = nrm x.1 := by unfold lfc lfd; rw [hfi]; simp only [hx]; rfl
      have p4 : p.1 < 4 := w4.2.2 (p, x) (List.mem_of_getElem? hx)
      have ea : acf st (-1) p (lfc st p) = lfc st p := if_neg (fun z => absurd z.2 (by omega))
      obtain ⟨y1, y2, y3⟩ := w2.src (wi := wi) (n := n) hx w3 hn2 (by decide)
      rw [← el] at y1
      exact ask_141 oo (fr := -1) (rn := 0) (src := some (SA + 2 + e)) (c := lfc st p) H wd hn hn2 hp (Or.inl ⟨by decide, rfl⟩) y1 (fun _ z => absurd z (by omega)) (fun v hv' => hv v (by rw [ev, ea]; exact hv')) hd (kk eg)
  | some k =>
    obtain ⟨hk1, hk2, e, he⟩ := bfr_b hb
    obtain ⟨x, hx⟩ := fidx_at he
    have el : lfd (Lf k) p = some x := by unfold lfd; rw [he]; simp only [hx]; rfl
    have ec : lfc (Lf k) p = nrm x.1 := by unfold lfc; rw [el]
    have ev : vew st Lf fs tt p = nrm x.1 := by unfold vew; rw [hb]; exact ec
    have eg : gss Lf fs tt p = if x.2 then some k else none := by unfold gss; rw [hb]; simp only [el]
    have es : sce Lf RN fs tt p = (nI k, RN k) := by unfold sce; rw [hb]
    have ea : acf st (nI k) p (nrm x.1) = nrm x.1 := if_neg (fun z => z.1 (nn_I (by omega)))
    rw [ev, es, ← ea] at kk
    have k0 := nn_I (k := k) (by omega)
    refine k_X1_ask_79 (s0 := nI k) oo (fun _ => ?_) (fun c => absurd k0 c)
    obtain ⟨XA, LA, x1, x2, x3, x4, x5, x6⟩ := wd.2.2 k (by omega)
    have tS := x5.1.1.1.1
    have ix2 : IX (nI k) 32 k := IX.mk (by omega) (by omega)
    refine k_X1_ask_100 oo ?_
    refine find_ok x5.1 hp (by omega) ?_
    rw [fidx_map, he]
    obtain ⟨y1, y2, y3⟩ := x5.src (wi := wi) (n := n) hx x6 hn2 (by decide)
    refine k_X1_ask_117 oo (fun c => absurd c (nI_nn (by omega))) (fun _ => ?_)
    cases hx2 : x.2 with
    | true =>
      rw [hx2] at eg y2
      refine k_X1_ask_124 (l8 := LA + 2 + e) (r2 := y2) oo (fun c => absurd c (by decide)) (fun _ => ?_)
      refine k_X1_ask_132 oo ?_
      rw [nI_64 (by omega)]
      exact cstop_ok (w := 9) cx (wt.stop H ⟨rfl, rfl, rfl⟩ hp eg)
    | false =>
      rw [hx2] at eg y2
      refine k_X1_ask_124 (l8 := LA + 2 + e) (r2 := y2) oo (fun _ => ?_) (fun c => absurd rfl c)
      exact ask_141 oo (fr := nI k) (rn := RN k) (src := some (LA + 2 + e)) (c := nrm x.1) H wd hn hn2 hp (Or.inr ⟨k, by omega, rfl, rfl⟩) y1 (fun z _ => absurd k0 z) (fun v hv' => hv v (by rw [ev]; exact hv')) hd (kk eg)
theorem cask_q {p : Pc} {cb : Bool} (H : OPQ z fx G B h A W q BA X tt snd lim SP wi MA l o s) (wd : WRD h o A W BA tt MA fs st Lf RN) (hp : PB p) (hn2 : ((ens s).findIdx? fun x => x.1 == p) = none → (ens s).length < 26) (hak : s.2.2.2.1 ≤ 24) (hv : ∀ v, (vew st Lf fs tt p).2.2.2 = some v → vsz v ≤ av G h l ∧ fdp v.2.2 ≤ 40) (hd : 50 ≤ d) (wt : WTQ z fx s K G B h A W q BA X tt snd lim SP wi o Lf fs) (k1 : ∀ i, ((ens s).findIdx? fun x => x.1 == p) = some i → K (.returned (some (.ref (Ea W i)))) h) (k2 : ((ens s).findIdx? fun x => x.1 == p) = none → (cb && s.2.2.2.1 == 24) = true → ∀ h' l' o', OUT wi W h h' o o' → OPQ z fx G B h' A W q BA X tt snd lim SP wi MA l' o' s → h'.I 24 A = nI 2 → h'.J 25 A = 4 → K (.threw SP) h') (k4 : ((ens s).findIdx? fun x => x.1 == p) = none → (cb && s.2.2.2.1 == 24) = false → gss Lf fs tt p = none → ∀ h' l' o', OUT wi W h h' o o' → OPQ z fx G B h' A W q BA X tt snd lim SP wi (maU MA (ens s).length (sce Lf RN fs tt p)) l' o' (s.1, s.2.1, ens s ++ [(p, vew st Lf fs tt p, vew st Lf fs tt p, false)], (if cb then s.2.2.2.1 + 1 else s.2.2.2.1), gas s) → av G h' l' + csz (vew st Lf fs tt p) = av G h l → K (.returned (some (.ref (Ea W (ens s).length)))) h') : MW G d e_X1_ask [.ref A, .int (nI p.1), .long p.2.1, .int (nI p.2.2), .int (bI cb)] h K := by
  refine st_X1_ask fun XX oo hG hD _ => ?_
  subst hG; subst hD
  have ⟨cx, v, w, hf, hg, hw⟩ := H
  obtain ⟨⟨c1, c2, c3, c4, c5⟩, ⟨c6, c7, c8, -⟩, -⟩ := id cx
  obtain ⟨⟨⟨w1, -⟩, ⟨w2, w3, -⟩, -⟩, -, -, -, -, w6⟩ := w.1
  refine k_X1_ask_0 oo ?_
  refine find_ok w.etp hp (by omega) ?_
  rw [show (((ens s).map fun x => x.1).findIdx? fun y => y == p) = (ens s).findIdx? fun x => x.1 == p from by rw [List.findIdx?_map]; rfl]
  cases hfi : (ens s).findIdx? fun x => x.1 == p with
  | some i =>
    refine k_X1_ask_14 (s0 := some (W + 2 + 2 + i)) oo (fun c => by cases c) (fun a ca => ?_)
    refine k_X1_ask_21 oo ?_
    rw [← Option.some.inj ca]
    exact k1 i hfi
  | none =>
    refine k_X1_ask_14 (s0 := none) oo (fun _ => ?_) (fun a c => by cases c)
    cases cb with
    | false =>
      refine k_X1_ask_24 oo (fun _ => ?_) (fun c => absurd rfl c)
      exact ask_64 oo H wd rfl (hn2 hfi) hp hv hd wt (k4 hfi rfl)
    | true =>
      refine k_X1_ask_24 oo (fun c => absurd c (by decide)) (fun _ => ?_)
      by_cases c24 : s.2.2.2.1 = 24
      · refine k_X1_ask_29 (r5 := w6) oo (fun _ => ?_) (fun c => absurd ((nI_leI (by omega) (by omega)).mpr (by omega)) c)
        refine k_X1_ask_46 oo ?_
        refine k_X1_ask_47 oo ?_
        refine cneed2_ok (b := false) (w := 4) cx (by omega) (by omega) (fun c => by cases c) (fun _ => H.stop (k2 hfi (by simp [c24])))
      · refine k_X1_ask_29 (r5 := w6) oo (fun c => absurd ((nI_leI (by omega) (by omega)).mp c) (by omega)) (fun _ => ?_)
        refine k_X1_ask_42 oo ?_
        refine k_X1_ask_47 oo ?_
        refine cneed2_ok (b := true) (w := 4) cx (by omega) (by omega) (fun _ => ?_) (fun c => by cases c)
        refine k_X1_ask_51 (r5 := w6) oo ?_
        rw [nI_add]
        obtain ⟨u, H2, a2⟩ := H.ak (h' := h.sI 2441 W (nI (s.2.2.2.1 + 1))) (g := s.2.2.2.1 + 1) (Fq.sI (Fq.refl h) ⟨rfl, rfl⟩) (by simp [n_sI, z_sI, tag_sI, I_sI, J_sI, R_sI, EI_sI, EJ_sI, ER_sI, n_sJ, z_sJ, tag_sJ, I_sJ, J_sJ, R_sJ, EI_sJ, EJ_sJ, ER_sJ, n_sR, z_sR, tag_sR, I_sR, J_sR, R_sR, EI_sR, EJ_sR, ER_sR, n_sEI, z_sEI, tag_sEI, I_sEI, J_sEI, R_sEI, EI_sEI, EJ_sEI, ER_sEI, n_sEJ, z_sEJ, tag_sEJ, I_sEJ, J_sEJ, R_sEJ, EI_sEJ, EJ_sEJ, ER_sEJ, n_sER, z_sER, tag_sER, I_sER, J_sER, R_sER, EI_sER, EJ_sER, ER_sER, n_nw, z_nw, tag_nw, I_nw, J_nw, R_nw, EI_nw, EJ_nw, ER_nw])
        exact ask_64 oo H2 (wd.out u) rfl (hn2 hfi) hp (fun v hv' => by rw [a2]; exact hv v hv') hd (wt.out u) (fun g h' l' o' u2 H3 a3 => k4 hfi (by simp [c24]) g h' l' o' (u.trans u2) H3 (by rw [← a2]; exact a3))
theorem cask_ok {p : Pc} {cb : Bool} (H : OPR G B h A W q BA X tt snd lim SP wi MA l o s) (wd : WRD h o A W BA tt MA fs st Lf RN) (hp : PB p) (hn2 : ((ens s).findIdx? fun x => x.1 == p) = none → (ens s).length < 26) (hak : s.2.2.2.1 ≤ 24) (hv : ∀ v, (vew st Lf fs tt p).2.2.2 = some v → vsz v ≤ av G h l ∧ fdp v.2.2 ≤ 40) (hd : 50 ≤ d) (wt : WTS K G B h A W q BA X tt snd lim SP wi o Lf fs s) (k1 : ∀ i, ((ens s).findIdx? fun x => x.1 == p) = some i → K (.returned (some (.ref (Ea W i)))) h) (k2 : ((ens s).findIdx? fun x => x.1 == p) = none → (cb && s.2.2.2.1 == 24) = true → RZ K G B h A W q BA X tt snd lim SP wi MA o (mst 2 4 s)) (k4 : ((ens s).findIdx? fun x => x.1 == p) = none → (cb && s.2.2.2.1 == 24) = false → gss Lf fs tt p = none → ∀ h' l' o', OUT wi W h h' o o' → OPR G B h' A W q BA X tt snd lim SP wi (maU MA (ens s).length (sce Lf RN fs tt p)) l' o' (s.1, s.2.1, ens s ++ [(p, vew st Lf fs tt p, vew st Lf fs tt p, false)], (if cb then s.2.2.2.1 + 1 else s.2.2.2.1), gas s) → av G h' l' + csz (vew st Lf fs tt p) = av G h l → K (.returned (some (.ref (Ea W (ens s).length)))) h') : MW G d e_X1_ask [.ref A, .int (nI p.1), .long p.2.1, .int (nI p.2.2), .int (bI cb)] h K := by
  refine cask_q (z := 1) (fx := some (Fa W (s.1 - 1))) H wd hp hn2 hak hv hd (fun k p hp hg h' l' o' s' MA' u H2 e e1 e2 => wt k p hp hg h' l' o' s' MA' u ⟨H2.1, H2.2.1, H2.2.2.1, by rw [e.1]; exact H2.2.2.2.1, H2.2.2.2.2⟩ e e1 e2) k1 (fun a b h' l' o' u H2 e1 e2 => k2 a b h' l' o' u H2 e1 e2) k4
end
