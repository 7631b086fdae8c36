/-! the ledger's face: the root -/
/-- the tree, and whether it stands for the state -/
def TRE (G : Gt) (y : Ly) (T O : Nat) (a : Ab) (h : AH) : Prop := (h.R 19 (yA y) = some T ∧ SHt h T ∧ r4 h (T + 23) 0 = z4 ∧ CR G h) ∧ (h.R 33 (yA y) = some O ∧ h.tag O = some (160, 256)) ∧ (h.I 20 (yA y) = nI 0 ∨ h.I 20 (yA y) = nI 1 ∧ ∃ ot r, TR h T ot r ∧ (elo ot).length < 400 ∧ RTS (lsS a.2.2.2.2.2.1.2.2.1 a.2.2.2.2.2.1.2.2.2) r)
def rtF : List Nat := [20, 1794, 1795, 2057, 2058, 10000 + 160, 10000 + 528] ++ plF
section
variable {n B : Nat} {G : Gt} {cm : Md} {y : Ly} {lx : Lx} {a : Ab} {h h' : AH} {d : Nat} {K : Outcome → AH → Prop} {P : Nat → Nat → Prop}
def rcyF : List Nat := [5, 4, 17, 15, 16, 10000 + 113, 9, 8, 10000 + 97, 2701, 13, 14096] ++ txF ++ resF ++ srF
theorem RCm.fs {l2 : List Nat} (q : Fq (FS l2) h h') (np : (exvF ++ rcyF).all (fun f => !(l2.contains f)) = true) (nv : l2.all (fun f => !((3712 ≤ f && f ≤ 3718) || f == 1280)) = true) (r : RCm n G B cm y lx a h) (sw : SHW h' (yA y) lx.2.2.1 a.2.2.2.2.2.2) : RCm n G B cm y lx a h' := by
  have q : Fq (FS l2) h h' := q
  have np' := nol np
  have sub : ∀ l' : List Nat, l'.all (fun f => (exvF ++ rcyF).contains f) = true → ∀ f a, l'.contains f = true → ¬ FS l2 f a := fun l' hl f a hf => np' f a (by rw [List.all_eq_true] at hl; exact hl f (List.contains_iff_mem.mp hf))
  obtain ⟨⟨r1, ⟨r2, r3, r4⟩, r5⟩, ⟨r6, r7, ⟨wv, r8⟩, r9, r9'⟩, ⟨r10, r11⟩, ⟨r12, r13, r14, r15⟩, r16⟩ := r
  refine ⟨⟨r1.fr q (fun f a hf => np' f a (by rw [List.contains_iff_mem] at hf ⊢; exact List.mem_append_left _ hf)) (nov_l nv) (Nat.le_refl _), ⟨by rw [q.1.I (sub [5] (by decide) _ _ rfl)]; exact r2, by rw [q.1.I (sub [4] (by decide) _ _ rfl)]; exact r3, r4⟩, r5⟩, ⟨by rw [q.1.J (sub [17] (by decide) _ _ rfl)]; exact r6, r7.fr q.1 (sub _ (by decide)), ⟨wv, r8.fr q.1 (sub _ (by decide))⟩, sw, r9'⟩, ⟨fun k k1 k2 => ?_, fun k k1 k2 => ?_⟩, ⟨by rw [q.1.R (sub [13] (by decide) _ _ rfl)]; exact r12, r13.fr q.1 (sub _ (by decide)), q.1.tag r14, r15.fr q.1 (sub [14096] (by decide) _ _ rfl)⟩, r16⟩
  · obtain ⟨x1, x2⟩ := r10 k k1 k2
    exact ⟨x1.fr q.1 (fun f hf a _ => sub (txF ++ resF) (by decide) f a hf), by rw [q.1.I (sub [2701] (by decide) _ _ rfl)]; exact x2⟩
  · rw [q.1.I (sub [2701] (by decide) _ _ rfl)]; exact r11 k k1 k2
/-- the state's entries, as they are planted -/
theorem RCm.enp (r : RCm n G B cm y lx a h) : (h.R 1 (yA y) = some (yE y) ∧ EtP h (yE y) 256 (a.2.2.2.2.2.1.2.2.1.map fun x => x.1)) ∧ STW a.2.2.2.2.2.1.2.2.1 ∧ ∀ e x, a.2.2.2.2.2.1.2.2.1[e]? = some x → ENP h (yE y + 2 + e) a.2.2.2.2.2.1.2.2.2 x := by
  obtain ⟨MA, mw, dx, ms, g, l, o, ⟨e1, -⟩, e3, e4, e5, e6, -⟩ := r.1.1
  have et := e1.2.2.2.1
  have vh := e1.2.2.2.2.2.1
  have so := e1.2.2.2.2.2.2.2
  refine ⟨⟨e1.1.1.1.1.2.2.2.2.1, et.1⟩, e3.1.1.1.1, fun e x hx => ?_⟩
  have hm := List.mem_of_getElem? hx
  have el := (List.getElem?_eq_some_iff.mp hx).1
  have n256 := e3.1.1.1.2
  obtain ⟨⟨kx, ax, bx⟩, px⟩ := et.1.2.2 e x.1 (by rw [List.getElem?_map, hx]; rfl)
  obtain ⟨⟨y1, y2, y3⟩, ⟨y4, y5⟩, yv⟩ := et.2.1 e x hx
  have x4 := (e3.1.1.1.1.2 x hm).2
  have xt := (e3.1.1.1.1.2 x hm).1.1
  obtain ⟨-, v3, vn⟩ := e3.val hm
  refine ⟨⟨(et.1.1.2 e (by omega)).2, kx, ax, bx⟩, ⟨y2, y3⟩, ⟨e3.1.2 x hm, x4⟩, fun k2 => ?_, fun k3 => ?_⟩
  · have hM := y5 k2 xt
    obtain ⟨m, hW⟩ := e3.2.1.uw hm k2
    have hin : x.1 ∈ k2s a.2.2.2.2.2.1.2.2.1 := List.mem_filter.mpr ⟨List.mem_map.mpr ⟨x, hm, rfl⟩, by rw [k2]; rfl⟩
    obtain ⟨nn, n1, n2⟩ := (e3.2.1.2.2.2 x.1).mp hin
    have n16 := e3.2.1.2.2.1 nn n1
    have eu : un x.1.2.1 = nn := by rw [n2]; exact un_l (by omega)
    have n0 := ((e3.2.1.2.1 nn).mp n1).1
    obtain ⟨a1, b, ⟨c1, c2, c3, c4⟩, ⟨d1, d2⟩, -⟩ := e6
    rw [eu] at hM hW ⊢
    obtain ⟨z1, z2, -⟩ := c4 nn m hW n0
    obtain ⟨w1, w2, -⟩ := d1 nn m hW n0
    have b5 := b.2.2.2.2
    obtain ⟨⟨⟨u1, u2⟩, u3, u4⟩, -⟩ := a1.1 (mw.2.2.1 nn) (by omega)
    have z2 : MA.1 nn = mw.1 (mw.2.2.1 nn) := z2
    exact ⟨mw.1 (mw.2.2.1 nn), by rw [← z2]; exact hM, ⟨u1, u3, u4⟩, w1⟩
  · obtain ⟨v, hv, vt, v64⟩ := v3 k3
    rw [hv] at yv
    obtain ⟨w, w1, w2, w3⟩ := yv
    obtain ⟨rv, -⟩ := vh.2.2.2 _ w w1
    have f40 := so.2.1 x hm v hv
    have lnv := vt.ln e3.2.2.1
    subst w3
    have bdv := FT_bd e3.2.2.1 vt.2
    refine ⟨w, w2, rv, hv, ⟨by have := lnv.1; exact Nat.lt_of_lt_of_le this (by omega), by rw [← fer_ln]; exact Nat.lt_of_le_of_lt lnv.2 (by omega)⟩, bdv, by have : fdp (fer w.2.2.2) = fdp w.2.2.2 := fer_dp _; have f40 : fdp (fer w.2.2.2) ≤ 40 := f40; omega, vwB_le vt v64⟩
theorem HQ.fs {T f a : Nat} (z : HQ T f a) : FS rtF f a := by
  have sb : ∀ l : List Nat, l.all (fun f => rtF.contains f) = true → l.contains f = true → FS rtF f a := fun l hl hf => by
    rw [List.all_eq_true] at hl
    exact hl f (List.contains_iff_mem.mp hf)
  rcases z with (z | z) | z | z
  · exact sb dgF (by decide) z
  · exact sb [10000 + 691] (by decide) (by rw [z.1]; rfl)
  · exact sb [10000 + 674] (by decide) (by rw [z]; rfl)
  · exact sb [10000 + 528] (by decide) (by rw [z]; rfl)
theorem lroot_ok {i : Int32} {T O : Nat} (r : RCm n G B cm y lx a h) (tr : TRE G y T O a h) (hd : 48 ≤ d) (kk : ∀ h' rr, RTS (lsS a.2.2.2.2.2.1.2.2.1 a.2.2.2.2.2.1.2.2.2) rr → RCm n G B cm y lx a h' → TRE G y T O a h' → Fq (FS rtF) h h' → K (.returned (some (.long (rta rr i)))) h') : MW G d e_X1_root [.ref (yA y), .int i] h K := by
  refine st_X1_root fun X o hG hD _ => ?_
  subst hG; subst hD
  have t0 := r.t0
  obtain ⟨⟨rT, sh, hz, hc⟩, ⟨rO, tO⟩, hr⟩ := id tr
  have sb : ∀ l : List Nat, l.all (fun f => rtF.contains f) = true → ∀ f a, FS l f a → FS rtF f a := fun l hl f a hf => by
    rw [List.all_eq_true] at hl
    exact hl f (List.contains_iff_mem.mp hf)
  -- the tree stands
  have fin : ∀ h1 ot rr, RCm n X.G B cm y lx a h1 → Fq (FS rtF) h h1 → h1.I 20 (yA y) = nI 1 → r4 h1 (T + 23) 0 = z4 → TR h1 T ot rr → (elo ot).length < 400 → RTS (lsS a.2.2.2.2.2.1.2.2.1 a.2.2.2.2.2.1.2.2.2) rr → V X K 23 [.ref (yA y), .int i] [] h1 := fun h1 ot rr rc1 q1 ro1 z1 tr1 le1 rt1 => by
    have t1 := q1.1.tag t0
    have sh1 : SHt h1 T := sh.fr q1.1 (FS.no (by decide))
    have rT1 : h1.R 19 (yA y) = some T := by rw [q1.1.R (FS.n (by decide))]; exact rT
    have tT1 := sh1.1.1
    have hc1 : CR X.G h1 := hc.fr q1.1 (FS.n (by decide))
    refine k_X1_root_23 (r2 := rT1) o ?_
    refine hroot_ok sh1 hc1 tr1 le1 (by omega) (fun h2 q2 tr2 => ?_)
    refine k_X1_root_31 o ?_
    have q2' : Fq (FS rtF) h1 h2 := q2.mono fun f a z => HQ.fs z
    have nH : ∀ l : List Nat, l.all (fun f => !((dgF ++ [10000 + 691, 10000 + 674, 10000 + 528]).contains f)) = true → ∀ f a, l.contains f = true → ¬ HQ T f a := fun l hl f a hf z => by
      rw [List.all_eq_true] at hl
      have := hl f (List.contains_iff_mem.mp hf)
      rw [Bool.not_eq_true', Bool.eq_false_iff] at this
      apply this
      rw [List.contains_iff_mem]
      rcases z with (z | z) | z | z
      · exact List.mem_append_left _ (List.contains_iff_mem.mp z)
      · rw [z.1]; decide
      · rw [z]; decide
      · rw [z]; decide
    have sw2 : SHW h2 (yA y) lx.2.2.1 a.2.2.2.2.2.2 := rc1.2.1.2.2.2.1.fr q2.1 (nH _ (by decide))
    refine kk h2 rr rt1 (RCm.fs q2' (by decide +kernel) (by decide +kernel) rc1 sw2) ⟨⟨by rw [q2'.1.R (FS.n (by decide))]; exact rT1, sh1.fr q2'.1 (FS.no (by decide)), ?_, hc1.fr q2'.1 (FS.n (by decide))⟩, ⟨by rw [q2'.1.R (FS.n (by decide)), q1.1.R (FS.n (by decide))]; exact rO, q2'.1.tag (q1.1.tag tO)⟩, Or.inr ⟨by rw [q2.1.I (nH [20] (by decide) _ _ rfl)]; exact ro1, ot, rr, tr2, le1, rt1⟩⟩ (q1.trans q2')
    rw [r4_fr q2.1 (fun z => ?_)]
    · exact z1
    · rcases z with (z | z) | z | z
      · exact FS.n rfl z
      · have := z.2
        simp only [List.mem_cons, List.mem_nil_iff, or_false] at this
        omega
      · exact absurd z (by decide)
      · exact absurd z (by decide)
  rcases hr with hr | ⟨hr, ot, rr, t1, t2, t3⟩
  · refine k_X1_root_0 (r2 := hr) o (fun q => absurd rfl q) (fun _ => ?_)
    have tT := sh.1.1
    refine k_X1_root_7 (r2 := rT) o ?_
    refine hbegin_ok sh hz (fun h1 q1 tt1 => ?_)
    have q1' : Fq (FS rtF) h h1 := q1.mono (sb _ (by decide))
    have t01 := q1.1.tag t0
    refine k_X1_root_14 o ?_
    have sw1 : SHW h1 (yA y) lx.2.2.1 a.2.2.2.2.2.2 := r.2.1.2.2.2.1.fr q1.1 (FS.no (by decide))
    have rc1 := RCm.fs q1' (by decide +kernel) (by decide +kernel) r sw1
    obtain ⟨⟨rE, et⟩, w, en⟩ := rc1.enp
    refine plantAll_ok w t01 rE et ⟨by rw [q1.1.R (FS.n rfl)]; exact rO, q1.1.tag tO⟩ (by rw [q1.1.R (FS.n rfl)]; exact rT) (sh.fr q1.1 (FS.no (by decide))) (hc.fr q1.1 (FS.n rfl)) en tt1 sw1 rc1.2.1.2.2.2.2 (by omega) (fun h2 ot q2 sw2 tt2 le2 rt2 => ?_)
    have q2' : Fq (FS rtF) h1 h2 := q2.mono (sb _ (by decide))
    have t02 := q2.1.tag t01
    refine k_X1_root_18 o ?_
    have q3 : Fq (FS [20]) h2 (h2.sI 20 (yA y) (nI 1)) := Fq.sI (Fq.refl h2) (fsr rfl)
    have q3' : Fq (FS rtF) h2 (h2.sI 20 (yA y) (nI 1)) := q3.mono (sb _ (by decide))
    refine fin _ ot _ (RCm.fs q3' (by decide +kernel) (by decide +kernel) (RCm.fs q2' (by decide +kernel) (by decide +kernel) rc1 sw2) (sw2.fr q3.1 (FS.no (by decide)))) (q1'.trans (q2'.trans q3')) (by simp [n_sI, z_sI, tag_sI, I_sI, J_sI, R_sI, EI_sI, EJ_sI, ER_sI, n_sJ, z_sJ, tag_sJ, I_sJ, J_sJ, R_sJ, EI_sJ, EJ_sJ, ER_sJ, n_sR, z_sR, tag_sR, I_sR, J_sR, R_sR, EI_sR, EJ_sR, ER_sR, n_sEI, z_sEI, tag_sEI, I_sEI, J_sEI, R_sEI, EI_sEI, EJ_sEI, ER_sEI, n_sEJ, z_sEJ, tag_sEJ, I_sEJ, J_sEJ, R_sEJ, EI_sEJ, EJ_sEJ, ER_sEJ, n_sER, z_sER, tag_sER, I_sER, J_sER, R_sER, EI_sER, EJ_sER, ER_sER, n_nw, z_nw, tag_nw, I_nw, J_nw, R_nw, EI_nw, EJ_nw, ER_nw]) (by rw [r4_fr q3.1 (FS.n rfl)]; exact tt2.2.1) (Or.inl ⟨tt2.fr q3.1 (fun f a hf _ => FS.no (m := ttF) (by decide) f a hf) (fun a _ => FS.n rfl), rfl⟩) le2 rt2
  · refine k_X1_root_0 (r2 := hr) o (fun _ => ?_) (fun q => absurd q (by decide))
    exact fin h ot rr r (Fq.refl h) hr hz t1 t2 t3
end
