/-! the twin's machine: reckoning -/
section
variable {G : Gt} {d : Nat} {h h' : AH} {o o' : Lc} {tx UX at' : Nat → Nat} {A n n' lim : Nat} {snd : Int64} {s : Ms} {K : Outcome → AH → Prop}
/-- whether, as the comparisons tell it -/
def cmo (op a b : Nat) : Bool := if op = 38 then decide (a < b) else if op = 39 then decide (a ≤ b) else if op = 40 then decide (b < a) else decide (b ≤ a)
theorem treck_ok {op : Nat} (k : TK h A tx UX at' o n s) (t5 : T5 o) (cx : TCX h A snd lim) (cy : TCY h A) (h1 : 1 ≤ s.1) (hN : n + 1 ≤ gas s + 64 * (ens s).length + 8) (hg : gas s ≤ lim) (hop : 24 ≤ op ∧ op < 42 ∧ ¬ (32 ≤ op ∧ op < 36)) (vw : ∀ v, (Sum.inl v : It) ∈ stk s → VW v) (heq : 36 ≤ op → op < 38 → ∀ a b t, stk s = .inl b :: .inl a :: t → TEQ a b) (hne : oNum lim op s ≠ none) (hd : 50 ≤ d) (kk : RZT K h A tx UX at' (oNum lim op s)) : MW G d e_X23_reckon [.ref A, .int (nI op)] h K := by
  refine st_X23_reckon fun X oo hG hD _ => ?_
  subst hG; subst hD
  have t0 := k.t0
  have l2 := cx.2.2
  have le24 := k.2.2.1.2.1
  have ev : ∀ j, j < 100 → (nI op = nI j ↔ op = j) := fun j hj => nI_eq (by omega) (by omega)
  have el : ∀ j, j < 100 → (nI j ≤ nI op ↔ j ≤ op) := fun j hj => nI_leI (by omega) (by omega)
  obtain ⟨-, -, e3, -⟩ := k.hgt h1
  unfold oNum at kk hne
  rw [if_neg (by omega), if_neg (by omega), if_neg (by omega)] at kk hne
  cases hs : stk s with
  | nil => rw [hs] at hne; exact absurd rfl hne
  | cons x t =>
    rw [hs] at kk hne e3
    cases x with
    | inr r => exact absurd rfl hne
    | inl b =>
      cases t with
      | nil => exact absurd rfl hne
      | cons x t =>
        have e3 : t.length + 1 + 1 ≤ 64 := e3
        cases x with
        | inr r => exact absurd rfl hne
        | inl a =>
          simp only at kk hne
          have eab : a.1 = b.1 := by
            by_cases c1 : op < 29
            · rw [if_pos c1] at hne
              have := (mre_n hne).1
              rw [Bool.and_eq_true] at this
              simpa using this.1
            · rw [if_neg c1] at hne
              by_cases c2 : op < 32
              · rw [if_pos c2] at hne
                have := (mre_n hne).1
                rw [Bool.and_eq_true] at this
                simpa using this.1
              · rw [if_neg c2, if_neg (by omega)] at hne
                by_cases c3 : op < 38
                · rw [if_pos c3] at hne
                  simpa using (mre_n hne).1
                · rw [if_neg c3] at hne
                  have := (mre_n hne).1
                  rw [Bool.and_eq_true] at this
                  simpa using this.1
          have va := vw a (by rw [hs]; simp)
          have vb := vw b (by rw [hs]; simp)
          refine k_X23_reckon_0 oo ?_
          refine tktv_ok (sl := 0) k h1 hs (t5 0 0 0) (by omega) (fun h2 yb q2 hyb k2 _ => ?_)
          have t02 := k2.t0
          refine k_X23_reckon_5 oo ?_
          refine tktv_ok (sl := 1) k2 h1 stk_K (by rw [uO_n (by decide), uO_n (by intro e; cases e)]; exact t5 0 1 0) (by omega) (fun h3 ya q3 hya k3 _ => ?_)
          have t03 := k3.t0
          obtain ⟨ixa, a1, a2, a3, tva, yal⟩ := k3.rd (p := (5, 0, 1, 0)) uO_s
          obtain ⟨ixb, b1, b2, b3, tvb, ybl⟩ := k3.rd (p := (5, 0, 0, 0)) (by rw [uO_n (by decide), uO_n (by intro e; cases e), uO_s])
          obtain ⟨-, -, ka⟩ := k3.1.2.2.2 (5, 0, 1, 0) ya uO_s
          obtain ⟨-, -, kb⟩ := k3.1.2.2.2 (5, 0, 0, 0) yb (by rw [uO_n (by decide), uO_n (by intro e; cases e), uO_s])
          have ea : ya.2.1 = a.1 := by rw [← hya]; rfl
          have ea2 : ya.2.2.1 = a.2.1 := by rw [← hya]; rfl
          have ea3 : fer ya.2.2.2 = a.2.2 := by rw [← hya]; rfl
          have eb : yb.2.1 = b.1 := by rw [← hyb]; rfl
          have eb2 : yb.2.2.1 = b.2.1 := by rw [← hyb]; rfl
          have eb3 : fer yb.2.2.2 = b.2.2 := by rw [← hyb]; rfl
          rw [ea] at a1
          rw [eb] at b1
          rw [ea, ea2] at a2 a3
          rw [eb, eb2] at b2 b3
          have rT := k3.1.1.1.2
          have sT := k3.1.2.1.1
          obtain ⟨⟨s1, s2, s3, s4, s5, s6⟩, s7, s8, s9, s10, s11⟩ := id sT
          have cx3 := (cx.fs q2 (by decide)).fs q3 (by decide)
          obtain ⟨w, wa, wb, wr, D, ⟨rw', sw⟩, -⟩ := (cy.fs q2 (by decide)).fs q3 (by decide)
          have q23 : Fq (FS twF) h h3 := (twq q2 (by decide)).trans (twq q3 (by decide))
          refine k_X23_reckon_11 oo ?_
          refine goes_ok t03 k3.2.1.1 ?_
          refine k_X23_reckon_16 oo (fun q => absurd q (by decide)) (fun _ => ?_)
          refine k_X23_reckon_19 (r2 := rT) (r5 := s2) (r11 := a1) (r13 := rT) (r16 := s2) (r22 := b1) oo (fun _ => ?_) (fun q => absurd (by rw [eab]) q)
          refine k_X23_reckon_44 oo ?_
          refine goes_ok t03 k3.2.1.1 ?_
          refine k_X23_reckon_48 oo (fun _ => ?_) (fun q => absurd q (by decide))
          -- what is made at the end
          have mk : ∀ (kd : Nat) (p q : Int64) (h4 : AH) (o4 : Lc) (t4 : T5 o4) (g : Nat) (pc : Nat) (L : List Value) (K2 : Outcome → AH → Prop), kd < 6 → Fq (FS twF) h h4 → TK h4 A tx UX at' o4 n (sG (sK s t) g) → gas s ≤ g → (∀ h', K (.returned none) h' → K2 (.returned none) h') → (∀ h' o' n', Fq (FS twF) h h' → TK h' A tx UX at' o' n' (sK (sG s g) (vI kd p q :: t)) → T5 o' → NB n' (sK (sG s g) (vI kd p q :: t)) → K (.returned none) h') → MW X.G (X.d - 1) e_X23_make [.ref A, .int (nI kd), .long p, .long q] h4 K2 := fun kd p q h4 o4 t4 g pc L K2 hk q4 k4 hgg hK kx =>
            tkmk_ok k4 t4 h1 (by show (stk (sK s t)).length < 64; rw [stk_K]; omega) (by omega) hk (by omega) (fun h5 o5 q5 k5 t55 => hK h5 (by
              have es : mpu (sG (sK s t) g) (vI kd p q) = sK (sG s g) (vI kd p q :: t) := by
                show sG (mpu (sK s t) (vI kd p q)) g = _
                rw [mpu_K]; rfl
              rw [es] at k5
              exact kx h5 o5 (n + 1) (q4.trans q5) k5 t55 (show n + 1 ≤ g + 64 * (ens s).length + 8 by omega)))
          have e415 : ∀ h' L, L.length = 15 → K (.returned none) h' → V X K 415 L [] h' := fun h' L hL hk => by
            match L, hL with
            | [v0, v1, v2, v3, v4, v5, v6, v7, v8, v9, v10, v11, v12, v13, v14], _ => exact k_X23_reckon_415 oo hk
          have k3c := k3.cl
          rw [sK_K] at k3c
          have k3g : TK h3 A tx UX at' _ n (sG (sK s t) (gas s)) := k3c
          by_cases c29 : op < 29
          · rw [if_pos c29] at kk hne
            obtain ⟨hm, he⟩ := mre_n hne
            rw [he] at kk
            rw [Bool.and_eq_true] at hm
            have ha := of_decide_eq_true hm.2
            rw [tn_6 (by omega)] at a2 a3 b2 b3
            refine k_X23_reckon_52 (r2 := rT) (r5 := s2) (r11 := a1) (r13 := rT) (r16 := s3) (r22 := a2) (r24 := rT) (r27 := s4) (r33 := a3) (r35 := rT) (r38 := s3) (r44 := b2) (r46 := rT) (r49 := s4) (r55 := b3) oo (fun q => absurd ((el 29 (by omega)).mp q) (by omega)) (fun _ => ?_)
            refine k_X23_reckon_113 (r2 := rw') oo ?_
            refine bitsOf_ok (by omega) ?_
            have tw := sw.1
            refine k_X23_reckon_131 oo ?_
            refine mreckon_ok (bits := mbits a.1) sw (by omega) (by unfold mbits; split <;> (try split) <;> simp) (by omega) (fun h4 q4 hj => ?_)
            have k4 : TK h4 A tx UX at' _ n _ := k3g.fr q4.1 (FS.no (by decide))
            have t04 := k4.t0
            cases hr : rkb (mbits a.1) (rkn op a.2.1.1 a.2.1.2 b.2.1.1 b.2.1.2) with
            | none =>
              rw [hr] at kk
              refine k_X23_reckon_134 oo (fun _ => ?_) (fun q => absurd rfl q)
              refine k_X23_reckon_160 oo ?_
              refine tkend_ok k4 (fun h5 q5 x5 => ?_)
              refine k_X23_reckon_166 oo ?_
              refine e415 _ _ rfl ?_
              exact kk h5 (q23.trans ((twq q4 (by decide)).trans q5)) x5
            | some x =>
              rw [hr] at kk
              obtain ⟨j1, j2⟩ := hj x.1 x.2 hr
              refine k_X23_reckon_134 oo (fun q => absurd q (by show ¬ bI true = _; decide)) (fun _ => ?_)
              have rw4 : h4.R 2833 A = some w := by rw [q4.1.R (FS.n (by decide))]; exact rw'
              have tw4 : h4.tag w = some (25, 0) := q4.1.tag tw
              refine k_X23_reckon_137 (r2 := rw4) (r5 := j1) (r7 := rw4) (r10 := j2) oo ?_
              refine mk a.1 x.1 x.2 h4 _ T5.clr (gas s) 0 [] _ (by omega) (q23.trans (twq q4 (by decide))) k4 (Nat.le_refl _) (fun h' hk => ?_) kk
              refine k_X23_reckon_157 oo ?_
              exact e415 _ _ rfl hk
          rw [if_neg c29] at kk hne
          refine k_X23_reckon_52 (r2 := rT) (r5 := s2) (r11 := a1) (r13 := rT) (r16 := s3) (r22 := a2) (r24 := rT) (r27 := s4) (r33 := a3) (r35 := rT) (r38 := s3) (r44 := b2) (r46 := rT) (r49 := s4) (r55 := b3) oo (fun _ => ?_) (fun q => absurd ((el 29 (by omega)).mpr (by omega)) q)
          by_cases c32 : op < 32
          · rw [if_pos c32] at kk hne
            obtain ⟨hm, he⟩ := mre_n hne
            rw [he] at kk
            rw [Bool.and_eq_true] at hm
            have ha := of_decide_eq_true hm.2
            rw [tn_6 (by omega), tn_6 (by omega)]
            refine k_X23_reckon_169 oo (fun q => absurd ((el 32 (by omega)).mp q) (by omega)) (fun _ => ?_)
            have fin : ∀ p q : Int64, p = (if op = 29 then a.2.1.1 &&& b.2.1.1 else if op = 30 then a.2.1.1 ||| b.2.1.1 else a.2.1.1 ^^^ b.2.1.1) → q = (if op = 29 then a.2.1.2 &&& b.2.1.2 else if op = 30 then a.2.1.2 ||| b.2.1.2 else a.2.1.2 ^^^ b.2.1.2) → ∀ L, L.length = 15 → V X K 244 L [.long q, .long p, .int (nI a.1), .ref A] h3 := fun p q hp hq L hL => by
              match L, hL with
              | [v0, v1, v2, v3, v4, v5, v6, v7, v8, v9, v10, v11, v12, v13, v14], _ =>
                refine k_X23_reckon_244 oo ?_
                refine mk a.1 p q h3 _ T5.clr (gas s) 0 [] _ (by omega) q23 k3g (Nat.le_refl _) (fun h' hk => ?_) (by rw [hp, hq]; exact kk)
                refine k_X23_reckon_247 oo ?_
                exact e415 _ _ rfl hk
            by_cases c0 : op = 29
            · refine k_X23_reckon_175 oo (fun q => absurd ((ev 29 (by omega)).mpr c0) q) (fun _ => ?_)
              refine k_X23_reckon_184 oo ?_
              refine k_X23_reckon_211 oo (fun q => absurd ((ev 29 (by omega)).mpr c0) q) (fun _ => ?_)
              refine k_X23_reckon_217 oo ?_
              exact fin _ _ (by rw [if_pos c0]) (by rw [if_pos c0]) _ rfl
            · refine k_X23_reckon_175 oo (fun _ => ?_) (fun q => absurd ((ev 29 (by omega)).mp q) c0)
              by_cases c1 : op = 30
              · refine k_X23_reckon_192 oo (fun q => absurd ((ev 30 (by omega)).mpr c1) q) (fun _ => ?_)
                refine k_X23_reckon_198 oo ?_
                refine k_X23_reckon_211 oo (fun _ => ?_) (fun q => absurd ((ev 29 (by omega)).mp q) c0)
                refine k_X23_reckon_225 oo (fun q => absurd ((ev 30 (by omega)).mpr c1) q) (fun _ => ?_)
                refine k_X23_reckon_231 oo ?_
                exact fin _ _ (by rw [if_neg c0, if_pos c1]) (by rw [if_neg c0, if_pos c1]) _ rfl
              · refine k_X23_reckon_192 oo (fun _ => ?_) (fun q => absurd ((ev 30 (by omega)).mp q) c1)
                refine k_X23_reckon_206 oo ?_
                refine k_X23_reckon_211 oo (fun _ => ?_) (fun q => absurd ((ev 29 (by omega)).mp q) c0)
                refine k_X23_reckon_225 oo (fun _ => ?_) (fun q => absurd ((ev 30 (by omega)).mp q) c1)
                refine k_X23_reckon_239 oo ?_
                exact fin _ _ (by rw [if_neg c0, if_neg c1]) (by rw [if_neg c0, if_neg c1]) _ rfl
          rw [if_neg c32, if_neg (by omega)] at kk hne
          refine k_X23_reckon_169 oo (fun _ => ?_) (fun q => absurd ((el 32 (by omega)).mpr (by omega)) q)
          by_cases c38 : op < 38
          · rw [if_pos c38] at kk hne
            obtain ⟨hm, he⟩ := mre_n hne
            rw [he] at kk
            refine k_X23_reckon_250 oo (fun q => absurd ((el 38 (by omega)).mp q) (by omega)) (fun _ => ?_)
            have da : fdp ya.2.2.2 ≤ 40 := by have := va.1.2.1; rw [← ea3, fer_dp] at this; exact this
            have db : fdp yb.2.2.2 ≤ 40 := by have := vb.1.2.1; rw [← eb3, fer_dp] at this; exact this
            have fa : fsz ya.2.2.2 = fsz a.2.2 := by rw [← ea3]; exact (fer_sz _).symm
            have fb : fsz yb.2.2.2 = fsz b.2.2 := by rw [← eb3]; exact (fer_sz _).symm
            refine k_X23_reckon_256 (r2 := rT) oo ?_
            refine tsize_ok sT tva (by rw [fdp_tn]; omega) ?_
            refine k_X23_reckon_265 (r2 := rT) oo ?_
            refine tsize_ok sT tvb (by rw [fdp_tn]; omega) ?_
            refine k_X23_reckon_273 oo ?_
            rw [fsz_tn, fsz_tn, fa, fb, nI_add]
            have va2 := va.2.2
            have vb2 := vb.2.2
            unfold mpay at kk
            refine spend_ok t03 k3.2.1.1 k3g.2.1.2.1 cx3.2.1 ⟨by show gas s + _ < _; omega, by omega⟩ (by omega) (fun hle h4 q4 g4 => ?_) (fun hlt h4 q4 x4 => ?_)
            · have hle : gas s + (vsz a + vsz b) ≤ lim := hle
              rw [if_pos hle] at kk
              have k4' := k3.gas q4 g4
              have t04 := k4'.t0
              obtain ⟨-, -, -, -, tva4, -⟩ := k4'.rd (p := (5, 0, 1, 0)) uO_s
              obtain ⟨-, -, -, -, tvb4, -⟩ := k4'.rd (p := (5, 0, 0, 0)) (by rw [uO_n (by decide), uO_n (by intro e; cases e), uO_s])
              have rT4 := k4'.1.1.1.2
              have sT4 := k4'.1.2.1.1
              have tT4 := sT4.1.1
              refine k_X23_reckon_277 oo (fun q => absurd q (by decide)) (fun _ => ?_)
              refine k_X23_reckon_280 (r2 := rT4) oo ?_
              refine tisAlike_ok sT4 tva4 tvb4 ⟨ka.1, kb.1⟩ ⟨fbk_tn ka.2, fbk_tn kb.2⟩ (by rw [fdp_tn]; omega) ?_
              rw [fer_tn, fer_tn, ea, eb, ea2, eb2, ea3, eb3, heq (by omega) c38 a b t hs]
              generalize vsm a.1 b.1 a.2.1 b.2.1 a.2.2 b.2.2 = vv at kk
              have k4 := k4'.cl
              rw [sK_K] at k4
              have e311 : ∀ bb : Bool, (vv == (op == 36)) = bb → ∀ L, L.length = 15 → V X K 311 L [.long (if bb then 1 else 0), .long 0, .int (nI 1), .ref A] h4 := fun bb hb L hL => by
                match L, hL with
                | [v0, v1, v2, v3, v4, v5, v6, v7, v8, v9, v10, v11, v12, v13, v14], _ =>
                  refine k_X23_reckon_311 oo ?_
                  rw [hb] at kk
                  refine mk 1 0 (if bb then 1 else 0) h4 _ T5.clr (gas s + (vsz a + vsz b)) 0 [] _ (by omega) (q23.trans (twq q4 (by decide))) k4 (by omega) (fun h' hk => ?_) kk
                  refine k_X23_reckon_314 oo ?_
                  exact e415 _ _ rfl hk
              by_cases c36 : op = 36
              · have e6 : (op == 36) = true := by simpa using c36
                rw [e6] at e311
                refine k_X23_reckon_292 oo (fun q => absurd ((ev 36 (by omega)).mpr c36) q) (fun _ => ?_)
                refine k_X23_reckon_298 oo ?_
                cases vv with
                | true =>
                  refine k_X23_reckon_303 oo (fun q => absurd rfl q) (fun _ => ?_)
                  refine k_X23_reckon_306 oo ?_
                  exact e311 true rfl _ rfl
                | false =>
                  refine k_X23_reckon_303 oo (fun _ => ?_) (fun q => absurd q (by decide))
                  refine k_X23_reckon_310 oo ?_
                  exact e311 false rfl _ rfl
              · have e6 : (op == 36) = false := by simpa using c36
                rw [e6] at e311
                refine k_X23_reckon_292 oo (fun _ => ?_) (fun q => absurd ((ev 36 (by omega)).mp q) c36)
                refine k_X23_reckon_302 oo ?_
                cases vv with
                | true =>
                  refine k_X23_reckon_303 oo (fun _ => ?_) (fun q => absurd q (by decide))
                  refine k_X23_reckon_310 oo ?_
                  exact e311 false rfl _ rfl
                | false =>
                  refine k_X23_reckon_303 oo (fun q => absurd rfl q) (fun _ => ?_)
                  refine k_X23_reckon_306 oo ?_
                  exact e311 true rfl _ rfl
            · have hlt : lim < gas s + (vsz a + vsz b) := hlt
              rw [if_neg (by omega)] at kk
              refine k_X23_reckon_277 oo (fun _ => ?_) (fun q => absurd rfl q)
              exact e415 _ _ rfl (kk h4 (q23.trans (twq q4 (by decide))) x4)
          · rw [if_neg c38] at kk hne
            obtain ⟨hm, he⟩ := mre_n hne
            rw [he] at kk
            rw [Bool.and_eq_true] at hm
            have ha := of_decide_eq_true hm.2
            rw [tn_6 (by omega), tn_6 (by omega)]
            refine k_X23_reckon_250 oo (fun _ => ?_) (fun q => absurd ((el 38 (by omega)).mpr (by omega)) q)
            refine k_X23_reckon_317 oo ?_
            refine mcompare_ok ?_
            have kk : RZT K h A tx UX at' (mgo (sK s (vT (cmo op (w128 a.2.1.1 a.2.1.2) (w128 b.2.1.1 b.2.1.2)) :: t))) := kk
            generalize w128 a.2.1.1 a.2.1.2 = p at kk
            generalize w128 b.2.1.1 b.2.1.2 = q at kk
            have e397 : ∀ bb : Bool, cmo op p q = bb → ∀ L, L.length = 15 → L[0]? = some (.ref A) → V X K 397 L [.int (bI bb)] h3 := fun bb hb L hL h0 => by
              match L, hL with
              | [v0, v1, v2, v3, v4, v5, v6, v7, v8, v9, v10, v11, v12, v13, v14], _ =>
                have h0 : v0 = .ref A := Option.some.inj h0
                subst h0
                rw [hb] at kk
                have fin : ∀ L, L.length = 15 → V X K 412 L [.long (if bb then 1 else 0), .long 0, .int (nI 1), .ref A] h3 := fun L hL => by
                  match L, hL with
                  | [v0, v1, v2, v3, v4, v5, v6, v7, v8, v9, v10, v11, v12, v13, v14], _ =>
                    refine k_X23_reckon_412 oo ?_
                    exact mk 1 0 (if bb then 1 else 0) h3 _ T5.clr (gas s) 0 [] _ (by omega) q23 k3g (Nat.le_refl _) (fun h' hk => e415 _ _ rfl hk) kk
                cases bb with
                | true =>
                  refine k_X23_reckon_397 oo (fun q => absurd q (by decide)) (fun _ => ?_)
                  refine k_X23_reckon_407 oo ?_
                  exact fin _ rfl
                | false =>
                  refine k_X23_reckon_397 oo (fun _ => ?_) (fun q => absurd rfl q)
                  refine k_X23_reckon_411 oo ?_
                  exact fin _ rfl
            have n0 : (0 ≤ cmw p q) ↔ ¬ p < q := by rw [← cmw_neg]; exact Int32.not_lt.symm
            have p0 : (cmw p q ≤ 0) ↔ ¬ q < p := by rw [← cmw_pos]; exact Int32.not_lt.symm
            unfold cmo at e397
            by_cases d38 : op = 38
            · rw [if_pos d38] at e397
              refine k_X23_reckon_328 oo (fun q => absurd ((ev 38 (by omega)).mpr d38) q) (fun _ => ?_)
              by_cases c : p < q
              · refine k_X23_reckon_336 oo (fun z => absurd c (n0.mp z)) (fun _ => ?_)
                refine k_X23_reckon_341 oo ?_
                exact e397 true (decide_eq_true c) _ rfl rfl
              · refine k_X23_reckon_336 oo (fun _ => ?_) (fun z => absurd (n0.mpr c) z)
                refine k_X23_reckon_345 oo ?_
                exact e397 false (decide_eq_false c) _ rfl rfl
            rw [if_neg d38] at e397
            refine k_X23_reckon_328 oo (fun _ => ?_) (fun q => absurd ((ev 38 (by omega)).mp q) d38)
            by_cases d39 : op = 39
            · rw [if_pos d39] at e397
              refine k_X23_reckon_349 oo (fun q => absurd ((ev 39 (by omega)).mpr d39) q) (fun _ => ?_)
              by_cases c : p ≤ q
              · refine k_X23_reckon_355 oo (fun z => absurd (cmw_pos.mp z) (by omega)) (fun _ => ?_)
                refine k_X23_reckon_360 oo ?_
                exact e397 true (decide_eq_true c) _ rfl rfl
              · refine k_X23_reckon_355 oo (fun _ => ?_) (fun z => absurd (cmw_pos.mpr (by omega)) z)
                refine k_X23_reckon_364 oo ?_
                exact e397 false (decide_eq_false c) _ rfl rfl
            rw [if_neg d39] at e397
            refine k_X23_reckon_349 oo (fun _ => ?_) (fun q => absurd ((ev 39 (by omega)).mp q) d39)
            by_cases d40 : op = 40
            · rw [if_pos d40] at e397
              refine k_X23_reckon_368 oo (fun q => absurd ((ev 40 (by omega)).mpr d40) q) (fun _ => ?_)
              by_cases c : q < p
              · refine k_X23_reckon_374 oo (fun z => absurd c (p0.mp z)) (fun _ => ?_)
                refine k_X23_reckon_379 oo ?_
                exact e397 true (decide_eq_true c) _ rfl rfl
              · refine k_X23_reckon_374 oo (fun _ => ?_) (fun z => absurd (p0.mpr c) z)
                refine k_X23_reckon_383 oo ?_
                exact e397 false (decide_eq_false c) _ rfl rfl
            rw [if_neg d40] at e397
            refine k_X23_reckon_368 oo (fun _ => ?_) (fun q => absurd ((ev 40 (by omega)).mp q) d40)
            by_cases c : q ≤ p
            · refine k_X23_reckon_387 oo (fun z => absurd (cmw_neg.mp z) (by omega)) (fun _ => ?_)
              refine k_X23_reckon_392 oo ?_
              exact e397 true (decide_eq_true c) _ rfl rfl
            · refine k_X23_reckon_387 oo (fun _ => ?_) (fun z => absurd (cmw_neg.mpr (by omega)) z)
              refine k_X23_reckon_396 oo ?_
              exact e397 false (decide_eq_false c) _ rfl rfl
end
