/-! instructions: the join -/
section
variable {G : Gt} {B d : Nat} {h : AH} {l : List Nat} {o : Lc} {wi W A q BA X tt lim SP t : Nat} {snd : Int64} {MA : Ma} {s : Ms} {K : Outcome → AH → Prop} {fs : Nat} {st : Lw} {Lf : Nat → Lw} {RN : Nat → Int32}
theorem WkQ.z0 {z : Nat} (w : WkQ z h o wi W MA s) : WkQ 0 h o wi W MA s := ⟨⟨w.1.1, w.1.2.1, Nat.zero_le _, w.1.2.2.2⟩, w.2⟩
theorem IPR.opq (H : IPR G B h A W q BA X tt snd lim SP wi MA l o s) : OPQ 0 (h.R 28 A) G B h A W q BA X tt snd lim SP wi MA l o s := ⟨H.1, H.2.1, H.2.2.1.z0, rfl, H.2.2.2.1, H.2.2.2.2⟩
theorem OPR.opq (H : OPR G B h A W q BA X tt snd lim SP wi MA l o s) : OPQ 0 (h.R 28 A) G B h A W q BA X tt snd lim SP wi MA l o s := H.ipr.opq
theorem OUT.x {RT RH RL : Nat} {h1 : AH} {o1 : Lc} (a : OUT wi W h h1 o o1) : OUX wi W X RT RH RL h h1 o o1 := ⟨a.1.mono fun f a z => Or.inl z, a.2⟩
/-- what a stop owes -/
def STK (K : Outcome → AH → Prop) (G : Gt) (B : Nat) (h : AH) (A W q BA X tt : Nat) (snd : Int64) (lim SP wi : Nat) (MA : Ma) (o : Lc) (n : Nat) (sc : Pc → Option (Int32 × Int32)) (RT RH RL : Nat) (e : Nat × Int64 × Ms) : Prop := ∀ h' l' o' MA' s' fx c, OUX wi W X RT RH RL h h' o o' → OPQ 0 fx G B h' A W q BA X tt snd lim SP wi MA' l' o' s' → ens s' = ens e.2.2 ∧ gas s' = gas e.2.2 → CLR s' → MAX n MA MA' (plc s') sc → (e.1 = 0 → RSL h' X RT RH RL (rsv e.2.2) ∧ c = -1) → (e.1 ≠ 0 → c = e.2.1) → h'.I 24 A = nI e.1 → h'.J 25 A = c → K (.threw SP) h'
/-- what waiting owes -/
def WTK (K : Outcome → AH → Prop) (G : Gt) (B : Nat) (h : AH) (A W q BA X tt : Nat) (snd : Int64) (lim SP wi : Nat) (o : Lc) (RT RH RL : Nat) (Lf : Nat → Lw) (fs : Nat) : Prop := ∀ k p, PB p → gss Lf fs tt p = some k → ∀ h' l' o' MA' s' fx, OUX wi W X RT RH RL h h' o o' → OPQ 0 fx G B h' A W q BA X tt snd lim SP wi MA' l' o' s' → CLR s' → h'.I 24 A = nI 9 → h'.J 25 A = lN k → K (.threw SP) h'
theorem msq_0 {env : Pc → Cn} {s : Ms} : rzP (fun s2 => s2.1 = s.1 ∧ gas s2 = gas s) (msq env s) ∧ rzE (fun o _ => o ≠ 0) (msq env s) := by
  constructor
  · unfold msq
    split
    · exact ⟨rfl, rfl⟩
    · split
      · exact ⟨rfl, rfl⟩
      · refine rzP.msk ⟨rfl, rfl⟩ (fun i => ?_) (fun i es n => ?_)
        · unfold msK
          split
          · trivial
          · split
            · exact ⟨(sEn_n).2.2, (sEn_n).1⟩
            · exact ⟨rfl, rfl⟩
        · unfold msK
          split
          · trivial
          · split
            · exact ⟨(sEn_n).2.2, (sEn_n).1⟩
            · exact ⟨rfl, rfl⟩
  · unfold msq
    split
    · exact (by decide : (2 : Nat) ≠ 0)
    · split
      · trivial
      · refine rzE.msk (by decide : (2 : Nat) ≠ 0) (fun i => ?_) (fun i es n => ?_)
        · unfold msK
          split
          · trivial
          · split
            · trivial
            · exact (by decide : (2 : Nat) ≠ 0)
        · unfold msK
          split
          · trivial
          · split
            · trivial
            · exact (by decide : (2 : Nat) ≠ 0)
theorem szs_Edr {s : Ms} {n : Nat} (h1 : 1 ≤ s.1) : szs (Edr s n) ≤ szs s := by
  unfold Edr
  have a := szs_LK (s := s) (l := lcD (lcs s) n) (k := stk s) h1
  have b : szL (lcD (lcs s) n) ≤ szL (lcs s) := sum_le fun j _ => by
    show szO (lcD (lcs s) n j) ≤ szO (lcs s j)
    unfold lcD lcR
    repeat' (first | exact Nat.zero_le _ | exact Nat.le_refl _ | split)
    all_goals (first | (rename_i e; rw [e]; exact Nat.le_refl _) | (rename_i e _; rw [e]; exact Nat.le_refl _))
  omega
theorem VT.hv {Wd' : Wd} {D : Nat → Nat} {env : Pc → Cn} (hE : EVW Wd' env) (hD : DW Wd' D) : ∀ p v, (env p).2.2.2 = some v → vsz v ≤ 64 ∧ fdp v.2.2 ≤ 40 := fun p v hv => by
  obtain ⟨-, c2, c3⟩ := hE.1 p
  by_cases c : p.1 = 3
  · obtain ⟨a, b⟩ := (c3 c).2.2.2 v hv
    have := a.dp hD
    exact ⟨b, by omega⟩
  · rw [c2 c] at hv; cases hv
theorem inst_ok {XX : Xt} (oo : OK e_X1_instruction XX) {Wd' : Wd} {D : Nat → Nat} {CM RT RH RL : Nat} {l1 l2 l3 l4 : Value} (H : IPR XX.G B h A W q BA X tt snd lim SP wi MA l o s) (hat : ∀ j, j < s.1 → MA.2.2.1 j = (s.2.1 j).2.1) (hy : WHY h A CM MA Wd') (hcl : ∀ n m, Wd' n = some m → (mcs m).length ≤ 2048) (hW : WV Wd') (hDp : DW Wd' D) (hE : EVW Wd' (vew st Lf fs tt)) (hp : PIq Wd' lim snd s) (hDg : ∀ h2, Fr (IP W) h h2 → DGR XX.G h2 A) (wd : WRD h o A W BA tt MA fs st Lf RN) (tx : TXS h X RT RH RL) (oth : OTH XX.G B o wi) (hd : 72 ≤ XX.d) (wt : WTK K XX.G B h A W q BA X tt snd lim SP wi o RT RH RL Lf fs) (kO : ∀ s2, mstp Wd' snd lim (vew st Lf fs tt) s = some (.ok s2) → ∀ h' l' o' MA', OUT wi W h h' o o' → IPR XX.G B h' A W q BA X tt snd lim SP wi MA' l' o' s2 → MAX (ens s).length MA MA' (plc s2) (sco Lf RN fs tt) → (∀ j, j < s2.1 → MA'.2.2.1 j = (s2.2.1 j).2.1) → K (.returned none) h') (kE : ∀ e, mstp Wd' snd lim (vew st Lf fs tt) s = some (.error e) → STK K XX.G B h A W q BA X tt snd lim SP wi MA o (ens s).length (sco Lf RN fs tt) RT RH RL e) : V XX K 0 [.ref A, l1, l2, l3, l4] [] h := by
  have hl : lim ≤ 20000 := H.1.2.2.2.2.1
  have hz := hp.sz hl
  have clr := hp.clr hW hDp hl
  obtain ⟨m, u, x, T⟩ := Inv.top hW hDp hp.1 (by omega)
  obtain ⟨fe1, fe2⟩ := fe_mst (snd := snd) (lim := lim) (env := vew st Lf fs tt) T
  obtain ⟨step, -⟩ := hp.step (env := vew st Lf fs tt) hW hDp hE hl
  obtain ⟨⟨t1, t2, t3⟩, ⟨t4, t5, t6, t6'⟩, ⟨t7, t8, t9⟩, t10, t11, t12⟩ := id T
  obtain ⟨hm, hFf, -, -, -⟩ := hy.2 _ _ t1
  have hv := VT.hv hE hDp
  have hn2 : (ens s).length < 26 := by have := hp.2.2.1; omega
  have hak := hp.2.2.1.2
  have hav : lim + 72 ≤ av XX.G h l + gas s := by
    have := oth.av (fun _ _ => rfl) H.2.1 H.2.2.1 (by omega)
    omega
  have hen : ∀ x ∈ ens s, x.1.1 = 3 → x.2.2.1.1 = x.2.2.1.2.2.2.isSome := fun x hx h3 => by
    obtain ⟨A', MM, UU, SS, LL, KK, SJ, hc, -⟩ := hp.1
    exact (hc.2.1 x hx h3).2.1
  have hev := fun a i => (hE.ev a i).1
  have hne : mstp Wd' snd lim (vew st Lf fs tt) s ≠ none := fun z => by rw [z] at step; exact step
  have wts : WTS K XX.G B h A W q BA X tt snd lim SP wi o Lf fs s := fun k p h1 h2 h' l' o' s' MA' u H2 e e1 e2 => wt k p h1 h2 h' l' o' MA' s' _ u.x H2.opq (clr.of ⟨e.1, e.2.1⟩ (by rw [e.2.2]; exact clr.2)) e1 e2
  have erc : ∀ e, mstp Wd' snd lim (vew st Lf fs tt) s = some (.error e) → CLR e.2.2 := fun e he => by
    rw [he] at fe1 step
    exact clr.of fe1 (step.1.en hW hDp hl)
  have kk : x.1 ≠ 1 → RZI K XX.G B h A W q BA X tt snd lim SP wi MA o (ens s).length (sco Lf RN fs tt) (mstp Wd' snd lim (vew st Lf fs tt) s) := fun hx1 => by
    have f2 := fe2 hx1
    cases hr : mstp Wd' snd lim (vew st Lf fs tt) s with
    | none => trivial
    | some r =>
      cases r with
      | ok s2 => exact fun h' l' o' MA' u H2 mx a => kO s2 hr h' l' o' MA' u H2 mx a
      | error e =>
        rw [hr] at f2
        have f2 : e.1 ≠ 0 ∧ frE s e.2.2 := f2
        exact fun h' l' o' MA' u H2 mx e1 e2 => kE e hr h' l' o' MA' e.2.2 _ e.2.1 u.x H2.opq ⟨rfl, rfl⟩ (erc e hr) mx (fun z => absurd z f2.1) (fun _ => rfl) e1 e2
  by_cases c1 : x.1 = 1
  · by_cases cs : s.1 = 1
    · obtain ⟨pl, l8⟩ := i_elo hW hp.1 hp.2.2.2.2.2.1 cs t1 t2 t3 c1
      have hst := rsv_i pl
      have hst : stk s = ((rsv s).map Sum.inl).reverse := hst
      have hT : ∀ v ∈ rsv s, VW v := fun v hv => t11.1.1 v (by rw [hst, List.mem_reverse]; exact List.mem_map_of_mem hv)
      have h8 : (rsv s).length ≤ 8 := by
        have := congrArg List.length hst
        rw [List.length_reverse, List.length_map] at this
        omega
      have hb : ∀ x ∈ ens s, x.1 = (4, 0, 0) → -100000 ≤ x.2.2.1.2.1.toInt ∧ x.2.2.1.2.1.toInt ≤ 100000 := fun x hx h4 => by
        have := hp.2.2.2.2.2.2 x hx
        rw [h4] at this
        exact absurd this (by decide)
      refine inst_elo oo (env := vew st Lf fs tt) (CM := CM) H hat t1 t2 t3 (hcl _ _ t1) hy cs (fun k v hv => t11.1.2.1 k v hv) hst h8 hT tx wd hen (fun x hx v hv => clr.2 x hx v hv) (fun _ _ => rfl) hn2 hak hv hb (fun _ => hE.2.2.2) (fun h' l' o' MA' u2 H2 => ?_) (by omega) (fun k p h1 h2 h' l' o' s' MA' u H2 e e1 e2 => wt k p h1 h2 h' l' o' MA' s' _ u H2 ⟨fun j hj => by omega, by rw [e.2]; exact clr.2⟩ e1 e2) c1 hne (fun em h' l' o' MA' u H2 mx e1 e2 => ?_) ?_
      · have := oth.av (fun p hp => (u2.2 p hp).1) H2.2.1 H2.2.2.1 (by
          have := szs_Edr (s := sG s (gas s + 1)) (n := 40) t4.1
          have e : szs (sG s (gas s + 1)) = szs s := rfl
          omega)
        omega
      · exact kE (2, 5, sG s lim) em h' l' o' MA' _ _ 5 u.x H2.opq ⟨rfl, rfl⟩ (clr.of ⟨rfl, rfl⟩ clr.2) mx (fun z => by cases z) (fun _ => rfl) e1 e2
      · obtain ⟨q0, q1⟩ := msq_0 (env := vew st Lf fs tt) (s := s00 (sG s (gas s + 1)))
        have ms : ∀ r, msq (vew st Lf fs tt) (s00 (sG s (gas s + 1))) = r → gas s + 1 ≤ lim → mstp Wd' snd lim (vew st Lf fs tt) s = rq 1 r := fun r hr hg => by
          have hne2 := hne
          rw [mstp_1 t1 t2 t3] at hne2 ⊢
          unfold mpay at hne2 ⊢
          rw [if_pos hg] at hne2 ⊢
          unfold mst1 mend at hne2 ⊢
          rw [if_pos c1] at hne2 ⊢
          obtain ⟨-, b2⟩ := mre_n hne2
          rw [b2, if_pos (by exact cs), mset_q, hr]
          show rq s.1 r = rq 1 r
          rw [cs]
        cases hr : msq (vew st Lf fs tt) (s00 (sG s (gas s + 1))) with
        | none => trivial
        | some r =>
          rw [hr] at q0 q1
          cases r with
          | ok s' =>
            intro h' l' o' MA' u H2 mx rs e1 e2
            have q0 : s'.1 = 0 ∧ gas s' = gas s + 1 := q0
            have hg : gas s + 1 ≤ lim := by have := H2.2.2.2.2.1; omega
            have hm' := ms _ hr hg
            have fr := fe1
            rw [hm'] at fr
            have fr : frE s (1, s'.2) := fr
            have er : rsv ((1, s'.2) : Ms) = rsv s := by
              have es : stk ((1, s'.2) : Ms) = stk s := by
                show (s'.2.1 (1 - 1)).2.2.2 = (s.2.1 (s.1 - 1)).2.2.2
                rw [cs, fr.2]
              unfold rsv
              rw [es]
            exact kE (0, 0, (1, s'.2)) hm' h' l' o' MA' s' _ (-1) u H2 ⟨rfl, rfl⟩ ⟨fun j hj => by omega, (erc _ hm').2⟩ mx (fun _ => ⟨by rw [er]; exact rs, rfl⟩) (fun z => absurd rfl z) e1 e2
          | error e =>
            intro h' l' o' MA' u H2 mx e1 e2
            have q0 : e.2.2.1 = 0 ∧ gas e.2.2 = gas s + 1 := q0
            have q1 : e.1 ≠ 0 := q1
            have hg : gas s + 1 ≤ lim := by have := H2.2.2.2.2.1; omega
            have hm' := ms _ hr hg
            exact kE (e.1, e.2.1, (1, e.2.2.2)) hm' h' l' o' MA' e.2.2 _ e.2.1 u H2 ⟨rfl, rfl⟩ ⟨fun j hj => by omega, (erc _ hm').2⟩ mx (fun z => absurd z q1) (fun _ => rfl) e1 e2
    · obtain ⟨t1', ht1⟩ : ∃ t1', t1' + 2 = s.1 := ⟨s.1 - 2, by omega⟩
      have h64 := i_ehi hp.1 ht1 t1 t2 t3 c1
      have f2 : rzE (frO s) (mstp Wd' snd lim (vew st Lf fs tt) s) := by
        rw [mstp_1 t1 t2 t3]
        refine rzE.py ⟨by decide, rfl, rfl⟩ ?_
        unfold mst1 mend
        rw [if_pos c1]
        refine rzE.re ?_
        rw [if_neg (by exact cs)]
        exact rzE.re rzE.go
      refine inst_ehi oo (env := vew st Lf fs tt) (CM := CM) (n := (ens s).length) (sc := sco Lf RN fs tt) H hat t1 t2 t3 (hcl _ _ t1) hy ht1 (fun k v hv => t11.1.2.1 k v hv) h64 (Nat.le_refl _) (by omega) c1 hne ?_
      cases hr : mstp Wd' snd lim (vew st Lf fs tt) s with
      | none => trivial
      | some r =>
        cases r with
        | ok s2 => exact fun h' l' o' MA' u H2 mx a => kO s2 hr h' l' o' MA' u H2 mx a
        | error e =>
          rw [hr] at f2
          have f2 : e.1 ≠ 0 ∧ frE s e.2.2 := f2
          exact fun h' l' o' MA' u H2 mx e1 e2 => kE e hr h' l' o' MA' e.2.2 _ e.2.1 u.x H2.opq ⟨rfl, rfl⟩ (erc e hr) mx (fun z => absurd z f2.1) (fun _ => rfl) e1 e2
  by_cases c23 : x.1 = 23
  · have w6 := (hW.2 _ _ t1).2.2.2.2.2
    refine inst_call oo (env := vew st Lf fs tt) (CM := CM) H hat t1 t5.symm t2 t3 (hcl _ _ t1) hy (t8.fu c23) (fun c hc c0 => by have := w6 c hc; rw [if_pos c0] at this; exact this.1) (fun c hc => ?_) t11.1.1 (fun c hc hn c0 hk v y hv hy => i_coi hW hp.1 t1 t2 t3 c23 hc hn c0 hk hv hy) wd (fun _ _ => rfl) hn2 hak hv (fun x hx h2 => ?_) (fun n m' hm' hn0 _ => hE.2.1 n m' hm' hn0) (fun c hc c0 => by have := w6 c hc; rw [if_neg c0] at this; obtain ⟨m', u', e1, -⟩ := this; exact ⟨m', e1⟩) hav (by omega) wts c23 hne (kk c1)
    · have := w6 c hc
      by_cases c0 : c.1 = 0
      · rw [if_pos c0] at this
        exact ⟨by omega, by have := this.1; omega⟩
      · rw [if_neg c0] at this
        obtain ⟨m', u', e1, e2, -⟩ := this
        obtain ⟨v1, v2, v3, v4, v5⟩ := hW.2 _ _ e1
        obtain ⟨hm', -⟩ := hy.2 _ _ e1
        have l64 := hm'.2.2.2.2.2.1.2.2.2.2.2
        have := get_lt e2
        exact ⟨v4, by omega⟩
    · obtain ⟨i, hi, ei⟩ := List.mem_iff_getElem.mp hx
      have hq := hp.2.2.2.2.1
      obtain ⟨a, b, c, dd⟩ := hq.2.2 i x (by rw [List.getElem?_eq_getElem hi, ei])
      have i0 : i ≠ 0 := fun z => by
        obtain ⟨x0, x1, x2, x3⟩ := hq.2.1
        subst z
        rw [List.getElem?_eq_getElem hi] at x1
        rw [← Option.some.inj x1, ei] at x2
        rw [x2] at h2; cases h2
      have eb : bsE lim i x = (x.1, x.2.1, x.2.1, false) := by unfold bsE; rw [if_neg i0]
      rw [eb] at c
      have := c.2.2.2.2.1 h2
      rw [congrArg (fun z => z.1.1) this]
      exact dd h2
  · exact inst_mop oo (env := vew st Lf fs tt) H hat t1 hm t2 (hFf _) t3 (hcl _ _ t1) t7 t11 hDg wd (fun _ _ => rfl) hn2 hak hv hen hev hav (by omega) wts ⟨t8.2.1, c1, c23⟩ hne (kk c1)
end
