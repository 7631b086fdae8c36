/-! execute: a publication, and what it has left is taken over -/
section
variable {W : Wd} {cm : Md} {dw : Nat → Nat → Nat} {st : Lw} {x : TxC} {n : Nat} {rd : Except (Nat × Nat) Md}
theorem pub_no (hS : STI W st) (h : (mpx W cm dw (vsw st) x n rd).1 ≠ 0) : ((∀ y ∈ lR1 x.2.2.1 true (mpx W cm dw (vsw st) x n rd), y.1.1 = 1) ∧ (plw (lR1 x.2.2.1 true (mpx W cm dw (vsw st) x n rd))).Nodup) ∧ STI W (tkOv st (lR1 x.2.2.1 true (mpx W cm dw (vsw st) x n rd))) := by
  obtain ⟨⟨w, h256⟩, hE, hsz⟩ := hS
  obtain ⟨⟨p1, p2⟩, -⟩ := mpx_pen (W := W) (cm := cm) (dw := dw) (env := vsw st) (x := x) (n := n) (rd := rd) (fun p hp => (hE.1 p).2.1 hp)
  have s1 : (mpx W cm dw (vsw st) x n rd).1 ≠ 3 → (vsw st (1, x.1, 0)).1 = true := fun q => by
    unfold mpx at q
    cases hb : (vsw st (1, x.1, 0)).1 with
    | true => rfl
    | false => rw [if_pos hb] at q; exact absurd rfl q
  generalize mpx W cm dw (vsw st) x n rd = r at h p1 p2 s1 ⊢
  cases hr : r.2.2.1 with
  | nil => rw [hr] at p1; simp at p1
  | cons e0 es =>
    rw [hr] at p1 p2
    rw [List.getElem?_cons_zero] at p1
    have e0e := Option.some.inj p1
    by_cases c3 : r.1 = 3
    · have : lR1 x.2.2.1 true r = [] := by
        unfold lR1 lfE
        rw [hr]
        simp only
        rw [if_pos c3]
      rw [this]
      exact ⟨⟨fun y hy => by simp at hy, List.nodup_nil⟩, ⟨w, h256⟩, hE, hsz⟩
    · have s1 := s1 c3
      have pn := (hE.1 (1, x.1, 0)).2.1 (show (1 : Nat) ≠ 3 by decide)
      have el : ∃ a b, lR1 x.2.2.1 true r = [((1, x.1, 0), (true, a, b, none), false)] := by
        have f : es.filter (fun x => false && x.2.2.2) = [] := List.filter_eq_nil_iff.mpr (fun a _ => by simp)
        unfold lR1 lfE lvB lfl
        rw [hr]
        simp only
        rw [if_neg c3, decide_eq_false h, f, e0e]
        simp only [s1, pn]
        exact ⟨_, _, rfl⟩
      obtain ⟨a, b, el⟩ := el
      rw [el]
      have nd : (plw [(((1, x.1, 0) : Pc), ((true, a, b, none) : Cn), false)]).Nodup := by simp [plw]
      have k1 : (((1, x.1, 0) : Pc)).1 < 4 := by show 1 < 4; omega
      have hl : (tkOv st [((1, x.1, 0), (true, a, b, none), false)]).length ≤ 256 := by
        have tl := tkO_len w nd
        have tn : tn1 st (1, x.1, 0) = 1 := by
          rw [tn1_c w, ← vsw_3 k1, if_pos s1]
        have : dl1 st ((1, x.1, 0), (true, a, b, none), false) = 0 := by
          unfold dl1
          rw [if_pos ⟨k1, rfl⟩, if_pos k1, tn]
          rfl
        rw [List.map_cons, List.map_nil, List.sum_cons, List.sum_nil, this] at tl
        omega
      refine ⟨⟨fun y hy => ?_, nd⟩, ⟨(tkO_w w nd).1, hl⟩, EVW.tk (lo := 0) w nd hE (fun y hy => ?_) hl, tkO_sz hsz (fun y hy v hv => ?_)⟩
      · rw [List.mem_singleton] at hy; rw [hy]
      · rw [List.mem_singleton] at hy
        subst hy
        refine ⟨CKn.nr (show (1 : Nat) ≠ 3 by decide), show (1 : Nat) ≠ 2 by decide, fun e => absurd (congrArg Prod.fst e) (show (1 : Nat) ≠ 4 by decide), fun v hv => by cases hv⟩
      · rw [List.mem_singleton] at hy
        subst hy
        cases hv
theorem mpx_us {env : Pc → Cn} : (mpx W cm dw env x n rd).2.2.2.1 ≤ x.2.2.1 := by
  unfold mpx
  split
  · exact Nat.zero_le _
  split
  · exact Nat.zero_le _
  split
  · exact Nat.zero_le _
  unfold mpb
  by_cases c1 : x.2.2.1 < pgas n
  · rw [if_pos c1]; exact Nat.le_refl _
  rw [if_neg c1]
  have : pgas n ≤ x.2.2.1 := by omega
  repeat' (first | exact this | split)
/-- the one place of a module that is left -/
theorem pub_km (hE : EVW W (vsw st)) (h : (mpx W cm dw (vsw st) x n rd).1 = 0) : ∃ m km xm, rd = .ok m ∧ (lR1 x.2.2.1 true (mpx W cm dw (vsw st) x n rd))[km]? = some xm ∧ xm.1 = (2, lN m.1, 0) ∧ xm.2.1.1 = true ∧ ∀ (e : Nat) (y : Pc × Cn × Bool), e ≠ km → (lR1 x.2.2.1 true (mpx W cm dw (vsw st) x n rd))[e]? = some y → y.1.1 ≠ 2 := by
  obtain ⟨m, a1, nd, mem⟩ := mpx_ls h ((hE.1 (1, x.1, 0)).2.1 (by show (1 : Nat) ≠ 3; decide))
  have q0 : ¬ ((2, lN m.1, 0) : Pc) = (1, x.1, 0) := fun z => absurd (congrArg Prod.fst z) (show ¬ ((2 : Nat) = 1) by decide)
  have q1 : ¬ ((2, lN m.1, 0) : Pc) = (4, 0, 0) := fun z => absurd (congrArg Prod.fst z) (show (2 : Nat) ≠ 4 by decide)
  have q2 : ¬ ((2, lN m.1, 0) : Pc) = (5, 0, 0) := fun z => absurd (congrArg Prod.fst z) (show (2 : Nat) ≠ 5 by decide)
  have hm : ((2, lN m.1, 0), onT (vsw st (2, lN m.1, 0)), false) ∈ lR1 x.2.2.1 true (mpx W cm dw (vsw st) x n rd) := (mem _ _ _).mpr ⟨rfl, by
    unfold pbL pbc
    rw [if_neg q0, if_pos (by unfold pbs; simp), if_neg q1, if_neg q2, if_pos rfl]⟩
  obtain ⟨km, hk⟩ := List.getElem?_of_mem hm
  refine ⟨m, km, _, a1, hk, rfl, rfl, fun e y hne hy k2 => hne ?_⟩
  have k2p : y.1 = (2, lN m.1, 0) := by
    obtain ⟨p, cc, b⟩ := y
    obtain ⟨-, z⟩ := (mem p cc b).mp (List.mem_of_getElem? hy)
    have k2 : p.1 = 2 := k2
    unfold pbL at z
    by_cases c1 : p = (1, x.1, 0)
    · rw [c1] at k2; exact absurd k2 (show ¬ ((1 : Nat) = 2) by decide)
    · rw [if_neg c1] at z
      by_cases c2 : pbs m.1 p = true
      · unfold pbs at c2
        simp only [Bool.or_eq_true, beq_iff_eq] at c2
        rcases c2 with (q | q) | q
        · rw [q] at k2; exact absurd k2 (show ¬ ((4 : Nat) = 2) by decide)
        · rw [q] at k2; exact absurd k2 (show ¬ ((5 : Nat) = 2) by decide)
        · exact q
      · rw [if_neg c2] at z; cases z
  have h1 : (plw (lR1 x.2.2.1 true (mpx W cm dw (vsw st) x n rd)))[e]? = some (2, lN m.1, 0) := by
    unfold plw
    rw [List.getElem?_map, hy, ← k2p]; rfl
  have h2 : (plw (lR1 x.2.2.1 true (mpx W cm dw (vsw st) x n rd)))[km]? = some (2, lN m.1, 0) := by
    unfold plw
    rw [List.getElem?_map, hk]; rfl
  exact (List.getElem?_inj (List.getElem?_eq_some_iff.mp h1).1 nd).mp (h1.trans h2.symm)
end
/-- the result of the publication f -/
abbrev rp (c : Cy) (st : Lw) (f : Nat) (p : Pv) : TxR := mpx c.2.2.1 p.2.2.1 p.2.2.2.2 (vsw st) (c.2.2.2.1 f) p.1.2.2.2.2 p.2.1
/-- for a publication -/
def zpu (c : Cy) (st : Lw) (f n : Nat) (p : Pv) : Cz := ((st, f, f + 1, n), (fun _ r => r = rp c st f p ∧ r.2.2.1.length ≤ 26), (fun _ _ => False), fun _ r => lR1 (c.2.2.2.1 f).2.2.1 true r)
section
variable {c : Cy} {B n : Nat} {K : Outcome → AH → Prop} {p : Pv} {ms : List Nat} {bs : List Pc}
theorem PGP.no {z : Cz} {DP : Nat} {l : List Nat} (h : l.all (fun f => !((3712 ≤ f && f ≤ 3718) || f == 1280 || pgL.contains f)) = true) (h2 : l.all (fun f => !((pgW ++ pgT ++ pgX).contains f)) = true) (h3 : l.all (fun f => !(f == 10000 + 192 || f == 2709 || ccF.contains f)) = true) : ∀ f a, l.contains f = true → ¬ PGP c z DP f a := fun f a hf y => y.elim (PGU.no h h2 f a hf) (EPb.no h3 f a hf)
theorem exe_pub {XX : Xt} (oo : OK e_X1_execute XX) {f dn VA nv wn u tn sp SR NM : Nat} {wv : Nat → Nat} {bn : Int64} {st : Lw} {g : Gg} {h : AH} {l : List Nat} {o : Lc} {v2 : Value} (r : CML c n XX.G B st g h l o) (hL : ∀ k, k < 32 → xL g k = []) (e1 : h.I 5 (yA c.1) = nI f) (e2 : h.I 6 (yA c.1) = nI (f + 1)) (hf : f < 32) (hdn : dn ≤ 1000) (hpb : c.2.2.2.2 f = true ∧ (c.2.2.2.1 f).2.2.1 ≤ 20000) (hn : 0 < n) (hn8 : n ≤ 8) (hS : STI c.2.2.1 st) (pq : PUQ c (zpu c st f n p) p ms bs) (pb : PUB c (zpu c st f n p) p h) (wf : WVF h (yA c.1) VA nv wn wv) (hu : h.I 29 (yA c.1) = nI u ∧ u < 150000) (htn : h.I 30 (yA c.1) = nI tn ∧ tn < n) (hbn : h.J 18 (yA c.1) = bn) (hsp : h.I 32 (yA c.1) = nI sp ∧ h.R 31 (yA c.1) = some SR ∧ h.tag SR = some (152, 8)) (hs8 : (rp c st f p).1 = 0 → sp < 8 ∧ h.ER 152 SR sp = some NM) (hd : 79 ≤ XX.d)
    (kk : ∀ h' l' o' g', CML c n XX.G B (tkOv st (lR1 (c.2.2.2.1 f).2.2.1 true (rp c st f p))) g' h' l' o' → (∀ k, k < 32 → xL g' k = []) → TXO h' c.1 f true (rp c st f p) → h'.I 2701 (yX c.1 f) = nI 1 → h'.J 18 (yA c.1) = bn + lN (if (rp c st f p).1 = 3 then 0 else (rp c st f p).2.2.2.1) → Fr (PEX (PGP c (zpu c st f n p) p.1.2.1) c.1 f (f + 1)) h h' → (∃ u tn, h'.I 29 (yA c.1) = nI u ∧ u < 150000 ∧ h'.I 30 (yA c.1) = nI tn ∧ tn < n) → (if (rp c st f p).1 = 0 then h'.R 2698 (yX c.1 f) = some NM ∧ h'.I 32 (yA c.1) = nI (sp + 1) else h'.R 2698 (yX c.1 f) = some p.1.1 ∧ h'.I 32 (yA c.1) = nI sp) → (∀ m, p.2.1 = .ok m → LKS h' (yA c.1) (yC c.1) p.1.1 p.1.2.1 p.1.2.2.1 p.1.2.2.2.1 c.2.1 c.2.2.1 p.2.2.1 m p.2.2.2.1 p.2.2.2.2) → (∃ dp, DPR h' p.1.1 p.1.2.1 dp ∧ ((rp c st f p).1 = 0 → ∀ m, p.2.1 = .ok m → dag m dp (mdw m p.2.2.2.2))) → V XX K 164 [.ref (yA c.1), .int (nI (dn + if (rp c st f p).1 = 0 then 1 else 0)), .int (nI (f + 1))] [] h') : V XX K 101 [.ref (yA c.1), .int (nI dn), v2] [] h := by
  obtain ⟨⟨sx, ly⟩, -, -, -, -, -, -, so⟩ := id r
  have t0 := sx.1.1.1
  obtain ⟨⟨w, h256⟩, hE, hsz⟩ := id hS
  have st4 : ∀ x ∈ st, x.1.1 < 4 := fun x hx => (w.2 x hx).2
  refine k_X1_execute_101 oo ?_
  have gm : GRM c (zpu c st f n p) XX.G B f g h l o := CML.grm (z := zpu c st f n p) r hL e1 e2 (by show f + 1 ≤ 32; omega)
  have zp : ZCP c (zpu c st f n p) p := ⟨fun _ _ => Iff.rfl, fun _ _ q => q, fun _ _ => rfl, rfl, hpb⟩
  refine tog_pub (z := zpu c st f n p) gm zp st4 hn8 (by show f + 1 ≤ 32; omega) hE pq pb hn (by omega) wf hu htn (fun h1 g1 l1 o1 r1 xlo tg fr idl ut => ?_)
  obtain ⟨x1, x2, x3, x4, x5⟩ := tg
  have x1 : xO g1 f = rp c st f p := x1
  have x2 : xL g1 f = lR1 (c.2.2.2.1 f).2.2.1 true (rp c st f p) := x2
  have x3 : TXO h1 c.1 f true (rp c st f p) := x3
  have nPT : ∀ l : List Nat, l.all (fun f => !((3712 ≤ f && f ≤ 3718) || f == 1280 || pgL.contains f)) = true → l.all (fun f => !((pgW ++ pgT ++ pgX).contains f)) = true → l.all (fun f => !(f == 10000 + 192 || f == 2709 || ccF.contains f)) = true → l.all (fun f => !([29, 30, 2703, 1025, 2702, 10, 11, 12].contains f)) = true → ∀ f' a, l.contains f' = true → ¬ (PTg (PGP c (zpu c st f n p) p.1.2.1) c.1 f' a ∨ [2703, 1025, 2702, 10, 11, 12].contains f' = true) := fun l h1 h2 h4 h3 f' a hf y => by
    rw [List.all_eq_true] at h3
    have h3 := h3 f' (List.contains_iff_mem.mp hf)
    rw [Bool.not_eq_true', Bool.eq_false_iff] at h3
    rcases y with (y | ⟨y, -⟩) | y
    · exact PGP.no h1 h2 h4 f' a hf y
    · apply h3
      rw [List.contains_iff_mem]
      rcases y with y | y <;> (rw [y]; decide)
    · apply h3
      rw [List.contains_iff_mem] at y ⊢
      exact List.mem_cons_of_mem _ (List.mem_cons_of_mem _ y)
  have sx1 : GSX c n XX.G h1 := sx.fr fr (nPT _ (by decide) (by decide) (by decide) (by decide))
  have so1 : STO h1 (yE c.1) st := STO.pg (z := zpu c st f n p) ly (by show f + 1 ≤ 32; omega) (fun f a y => y.imp id (fun y e => EPb.no (l := [1164]) (by decide) f a (by rw [e]; rfl) y)) fr so
  have m1 : CML c n XX.G B st g1 h1 l1 o1 := GRL.cml (z := zpu c st f n p) r1 idl sx1 so1
  have f1 : h1.I 5 (yA c.1) = nI f := by rw [fr.I (nPT [5] rfl rfl rfl rfl _ _ rfl)]; exact e1
  have la1 : h1.I 6 (yA c.1) = nI (f + 1) := by rw [fr.I (nPT [6] rfl rfl rfl rfl _ _ rfl)]; exact e2
  have b1 : h1.J 18 (yA c.1) = bn := by rw [fr.J (nPT [18] rfl rfl rfl rfl _ _ rfl)]; exact hbn
  have sp1 : h1.I 32 (yA c.1) = nI sp := by rw [fr.I (nPT [32] rfl rfl rfl rfl _ _ rfl)]; exact hsp.1
  have sr1 : h1.R 31 (yA c.1) = some SR := by rw [fr.R (nPT [31] rfl rfl rfl rfl _ _ rfl)]; exact hsp.2.1
  have sg1 : h1.tag SR = some (152, 8) := fr.tag hsp.2.2
  have t01 := sx1.1.1.1
  refine k_X1_execute_105 (r2 := f1) oo ?_
  have pen := mpx_pen (W := c.2.2.1) (cm := p.2.2.1) (dw := p.2.2.2.2) (env := vsw st) (x := c.2.2.2.1 f) (n := p.1.2.2.2.2) (rd := p.2.1) (fun q hq => (hE.1 q).2.1 hq)
  have lnv : ∀ y ∈ lR1 (c.2.2.2.1 f).2.2.1 true (rp c st f p), y.2.1.2.2.2 = none := lR1_nv pen.1
  have len : (tkOv st (lR1 (c.2.2.2.1 f).2.2.1 true (rp c st f p))).length ≤ 256 := by
    by_cases c0 : (rp c st f p).1 = 0
    · obtain ⟨m, -, -, q, -⟩ := pub_st w h256 hE c0
      exact q
    · exact (pub_no hS c0).2.1.2
  have us : (if (rp c st f p).1 = 3 then 0 else (rp c st f p).2.2.2.1) < 2147483648 := by
    have : (rp c st f p).2.2.2.1 ≤ (c.2.2.2.1 f).2.2.1 := mpx_us
    have h2 := hpb.2
    split <;> omega
  refine exe_110 (sq := ssq st (xL g1) f) (Lf := xL g1) (rr := xO g1) (pub := fun _ => true) (bn := bnS bn (xO g1) f) (J := fun i h' => (i = 0 → h'.R 2698 (yX c.1 f) = some p.1.1 ∧ h'.I 32 (yA c.1) = nI sp ∧ h'.R 31 (yA c.1) = some SR ∧ h'.tag SR = some (152, 8) ∧ ∀ q, h.ER 152 SR sp = some q → h'.ER 152 SR sp = some q) ∧ (i = 1 → if (rp c st f p).1 = 0 then h'.R 2698 (yX c.1 f) = some NM ∧ h'.I 32 (yA c.1) = nI (sp + 1) else h'.R 2698 (yX c.1 f) = some p.1.1 ∧ h'.I 32 (yA c.1) = nI sp)) (h0 := h1) oo (by omega) (Nat.le_succ f) hf hdn la1 (fun k k1 k2 => ?_) (fun i h2 l2 o2 g2 K2 hi m2 xl2 tx2 fr2 hb2 j2 k2 => ?_) (fun i h2 h3 q3 j2 => ?_) (fun h2 l2 o2 g2 m2 xl2 dn2 fr2 hb2 j2 => ?_) (f + 1 - f) 0 (by omega) h1 l1 o1 g1 m1 (fun k => by rw [if_neg (by omega)]) (fun k k1 k2 => by omega) (Fr.refl h1) b1 ⟨fun _ => ⟨x4.1.1.1, sp1, sr1, sg1, fun q hq => by rw [fr.ER (nPT [10000 + 152] rfl rfl rfl rfl _ _ rfl)]; exact hq⟩, fun q => absurd q (by decide)⟩
  · have e : k = f := by omega
    subst e
    rw [x1]
    exact ⟨x3, pen.2⟩
  · have e : i = 0 := by omega
    subst e
    rw [Nat.add_zero] at xl2 tx2 k2 ⊢
    have hb2 : h2.J 18 (yA c.1) = bn := hb2
    rw [x2] at xl2
    rw [x1] at tx2
    obtain ⟨⟨⟨⟨⟨d1, d2, d3, d4, d5, d6⟩, -⟩, bk2, -⟩, ly2⟩, gt2, -, et2, -, v2', -, so2⟩ := id m2
    obtain ⟨y1, y2, y3, y4⟩ := bk2.2.2 f hf
    obtain ⟨z1, z2, z3, z4⟩ := gt2 f hf
    rw [xl2] at z3
    have far := (ly2.2.2 f hf).1
    obtain ⟨j21, j22, j23, j24, j25⟩ := j2.1 rfl
    have m2 : CML c n XX.G B st g2 h2 l2 o2 := m2
    have esq : ssq st (xL g1) f (0 + 1) = tkOv st (lR1 (c.2.2.2.1 f).2.2.1 true (rp c st f p)) := by
      show tkOv st (xL g1 (f + 0)) = _
      rw [Nat.add_zero, x2]
    have ebn : bnS bn (xO g1) f (0 + 1) = bn + lN (if (rp c st f p).1 = 3 then 0 else (rp c st f p).2.2.2.1) := by
      show bn + lN (if (xO g1 (f + 0)).1 = 3 then 0 else (xO g1 (f + 0)).2.2.2.1) = _
      rw [Nat.add_zero, x1]
    have hv : ∀ x ∈ lR1 (c.2.2.2.1 f).2.2.1 true (rp c st f p), ∀ v, x.2.1.2.2.2 = some v → (x.1.1 < 4 ∧ x.2.1.1 = true) ∧ fdp v.2.2 ≤ 40 := fun x hx v hv => by rw [lnv x hx] at hv; cases hv
    by_cases c0 : (rp c st f p).1 = 0
    · obtain ⟨m, km, xm, -, k1, k3, k4, k5⟩ := pub_km hE c0
      obtain ⟨s8, sE⟩ := hs8 c0
      refine takeOverM_ok (t := f) (MA := c.2.1) (st := st) (km := km) (xm := xm) (NM := NM) d1 d2 d5 y2 y3 (by omega) v2' et2 z3 so2 hb2 tx2.1.2.2 us k1 (by rw [k3]) k4 k5 j22 j23 j24 s8 (j25 _ sE) hv len (by omega) (fun h3 l3 o3 f3 v3 e3 e4 o33 tg3 st3 b3 m3 s3 => ?_)
      refine k2 h3 l3 o3 ?_ f3 (by rw [ebn]; exact b3) ⟨fun q => absurd q (by decide), fun _ => ?_⟩
      · rw [esq]; exact m2.ov hf f3 v3 e3 e4 o33 tg3 st3
      · rw [if_pos c0]; exact ⟨m3, s3⟩
    · refine takeOver_ok (t := f) (MA := c.2.1) (st := st) d1 d2 d5 y2 y3 (by omega) v2' et2 z3 so2 hb2 tx2.1.2.2 us (fun x hx => by rw [(pub_no hS c0).1.1 x hx]; decide) hv len (by omega) (fun h3 l3 o3 f3 v3 e3 e4 o33 tg3 st3 b3 => ?_)
      have f3' : Fr (PTm (yA c.1) (yX c.1 f) (yE c.1) (yL c.1 f)) h2 h3 := f3.mono fun f a z => Or.inl z
      refine k2 h3 l3 o3 ?_ f3' (by rw [ebn]; exact b3) ⟨fun q => absurd q (by decide), fun _ => ?_⟩
      · rw [esq]; exact m2.ov hf f3' v3 e3 e4 o33 tg3 st3
      · rw [if_neg c0]
        have nb : ∀ l : List Nat, l.all (fun f => !((3712 ≤ f && f ≤ 3718) || f == 1280 || (1025 :: etE).contains f)) = true → l.all (fun f => !(f == 18)) = true → ∀ f' a, l.contains f' = true → ¬ PTb (yA c.1) (yE c.1) (yL c.1 f) f' a := fun l h1 h2 => PTb.no h1 h2
        exact ⟨by rw [f3.R (nb [2698] rfl rfl _ _ rfl)]; exact j21, by rw [f3.I (nb [32] rfl rfl _ _ rfl)]; exact j22⟩
  · refine ⟨fun q => ?_, fun q => ?_⟩
    · obtain ⟨a1, a2, a3, a4, a5⟩ := j2.1 q
      exact ⟨by rw [q3.R (fun z => absurd z (by decide))]; exact a1, by rw [q3.I (fun z => absurd z (by decide))]; exact a2, by rw [q3.R (fun z => absurd z (by decide))]; exact a3, q3.tag a4, fun y hy => by rw [q3.ER (fun z => absurd z (by decide))]; exact a5 y hy⟩
    · have := j2.2 q
      rw [q3.R (fun z => absurd z (by decide)), q3.I (fun z => absurd z (by decide))]
      exact this
  · have e1' : f + 1 - f = 1 := by omega
    rw [e1'] at m2 hb2 j2 ⊢
    have ed : dn + dnc (xO g1) f 1 = dn + if (rp c st f p).1 = 0 then 1 else 0 := by
      show dn + (0 + if (xO g1 (f + 0)).1 = 0 then 1 else 0) = _
      rw [Nat.add_zero, x1]; omega
    rw [ed]
    have esq : ssq st (xL g1) f 1 = tkOv st (lR1 (c.2.2.2.1 f).2.2.1 true (rp c st f p)) := by
      show tkOv st (xL g1 (f + 0)) = _
      rw [Nat.add_zero, x2]
    have ebn : bnS bn (xO g1) f 1 = bn + lN (if (rp c st f p).1 = 3 then 0 else (rp c st f p).2.2.2.1) := by
      show bn + lN (if (xO g1 (f + 0)).1 = 3 then 0 else (xO g1 (f + 0)).2.2.2.1) = _
      rw [Nat.add_zero, x1]
    rw [esq] at m2
    rw [ebn] at hb2
    refine kk h2 l2 o2 g2 m2 (fun k hk => ?_) (x3.fr fr2 (fun f hf a _ => PXE.no (l := txF ++ resF) rfl rfl f a hf)) (dn2 f (Nat.le_refl _) (by omega)) hb2 ((fr.mono fun f a z => Or.inl z).trans (fr2.mono fun f a z => Or.inr z)) ?_ (j2.2 rfl) (fun m hm => (x4.2.2 m hm).fr fr2 (PXE.no rfl rfl) (fun a _ => PXE.no (l := [10000 + 192]) rfl rfl _ _ rfl)) ?_
    · rw [xl2]
      split
      · rfl
      · rename_i q
        exact xlo k hk q
    · obtain ⟨u', tn', z1, z2, z3, z4⟩ := ut
      exact ⟨u', tn', by rw [fr2.I (PXE.no (l := [29]) rfl rfl _ _ rfl)]; exact z1, z2, by rw [fr2.I (PXE.no (l := [30]) rfl rfl _ _ rfl)]; exact z3, z4⟩
    · have nd := PXE.no (y := c.1) (lo := f) (hi := f + 1) (l := [131, 10000 + 192]) rfl rfl
      by_cases c0 : (rp c st f p).1 = 0
      · obtain ⟨dp, q1, q2⟩ := x5 c0
        exact ⟨dp, q1.ou fr2 (nd _ _ rfl) (nd _ _ rfl), fun _ => q2⟩
      · obtain ⟨dp, q1⟩ := x4.2.1
        exact ⟨dp, q1.ou fr2 (nd _ _ rfl) (nd _ _ rfl), fun q => absurd q c0⟩
end
