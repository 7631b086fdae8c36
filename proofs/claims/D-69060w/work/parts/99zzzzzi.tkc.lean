/-! the twin's values: contents exchanged -/
theorem TF.all {h h' : AH} {T : Nat} : ∀ {c : LF} {l : List LV} {p : Int32}, TF h T (tnF c) p → l.length = (llo c).length → (∀ (i : Nat) (x y : LV), (llo c)[i]? = some x → l[i]? = some y → y.1 = x.1 ∧ TVL h' T y ∧ h'.EI 1696 (T + 5) x.1 = h.EI 1696 (T + 5) x.1) → TF h' T (tnF (lof l)) p
  | .leaf, l, p, hr, hl, _ => by
    have : l = [] := List.length_eq_zero_iff.mp hl
    subst this; exact hr
  | .inner k x u c n, l, p, hr, hl, hi => by
    obtain ⟨⟨e1, e2⟩, e3, e4, e5, e6, e7⟩ := hr
    cases l with
    | nil => simp [llo] at hl
    | cons y l =>
      obtain ⟨g1, ⟨g2, g3, g4, g5, g6⟩, g8⟩ := hi 0 (x.1, k, x.2, c) y rfl rfl
      have g1 : y.1 = x.1 := g1
      refine ⟨⟨by show p = nI y.1; rw [g1]; exact e1, g2⟩, g3, g4, g5, g6, ?_⟩
      show TF h' T (tnF (lof l)) (h'.EI 1696 (T + 5) y.1)
      have g8 : h'.EI 1696 (T + 5) x.1 = h.EI 1696 (T + 5) x.1 := g8
      rw [g1, g8]
      exact TF.all e7 (by simpa [llo] using hl) fun i a b ha hb => hi (i + 1) a b ha hb
section
variable {G : Gt} {d T n : Nat} {h : AH} {o : Lc} {K : Outcome → AH → Prop}
theorem thswap_ok {p : Sl} {x y a b : LV} {pa : List Nat} {i j : Nat} (v : TH h T n o) (hp : o p = some x) (hy : lva x pa = some y) (hi : (llo y.2.2.2)[i]? = some a) (hj : (llo y.2.2.2)[j]? = some b) (hij : i ≠ j) (hd : 1 ≤ d) (kk : ∀ h', Fq (FS tFl) h h' → TH h' T n (uO o p (some (lvw x pa (y.1, y.2.1, y.2.2.1, lof (((llo y.2.2.2).set i (a.1, b.2)).set j (b.1, a.2)))))) → K (.returned none) h') : MW G d e_X24_swap [.ref T, .int (nI a.1), .int (nI b.1)] h K := by
  obtain ⟨⟨v1, v2, v3⟩, v4, v5⟩ := id v
  obtain ⟨g1, g2, g3⟩ := v5 p x hp
  have yin := adr_in hy
  have ndx := v4.1 p x hp
  have ndy := ndp hy ndx
  have ry : TVL h T y := TVL.sub g1 hy
  have ra := TF.at ry.2.2.2.2 hi
  have rb' := TF.at ry.2.2.2.2 hj
  have ndy' : (y.1 :: fad y.2.2.2).Nodup := ndy
  obtain ⟨ny1, ny2⟩ := List.nodup_cons.mp ndy'
  have kby := fbk_sub g3 hy
  have kl := fbk_llo.mp kby.2
  rw [fad_llo] at ny2
  generalize hl0 : llo y.2.2.2 = l0 at *
  have ka := kl a (List.mem_of_getElem? hi)
  have kb := kl b (List.mem_of_getElem? hj)
  have hj1 : (l0.set i (a.1, b.2))[j]? = some b := by rw [List.getElem?_set_ne hij]; exact hj
  have c1 := fun z => cnt_set (y := (a.1, b.2)) hi z
  have c2 := fun z => cnt_set (y := (b.1, a.2)) hj1 z
  have pm : (((l0.set i (a.1, b.2)).set j (b.1, a.2)).flatMap adr).Perm (l0.flatMap adr) := by
    rw [List.perm_iff_count]
    intro z
    have h1 := c1 z
    have h2 := c2 z
    simp only [adr, List.count_cons] at h1 h2
    simp only [adr] at *
    omega
  have nab : (adr a).Nodup ∧ (adr b).Nodup ∧ ∀ z ∈ adr a, z ∉ adr b := by
    obtain ⟨A, B, e1, -⟩ := fm_set (f := adr) (y := a) hi
    obtain ⟨A', B', e1', -⟩ := fm_set (f := adr) (y := b) hj
    refine ⟨?_, ?_, fun z hz hz2 => ?_⟩
    · rw [e1] at ny2; exact (List.nodup_append.mp (List.nodup_append.mp ny2).2.1).1
    · rw [e1'] at ny2; exact (List.nodup_append.mp (List.nodup_append.mp ny2).2.1).1
    · exact cnt_2 hi hj hij hz hz2 ny2
  have hnd : (a.1 :: b.1 :: (fad (tnF a.2.2.2) ++ fad (tnF b.2.2.2))).Nodup := by
    rw [fad_tn, fad_tn]
    obtain ⟨n1, n2, n3⟩ := nab
    simp only [adr, List.nodup_cons, List.nodup_append, List.mem_append, List.mem_cons] at n1 n2 n3 ⊢
    grind
  have ai : ∀ z ∈ adr a, z ∈ fad y.2.2.2 := fun z hz => by rw [fad_llo, hl0]; exact List.mem_flatMap.mpr ⟨a, List.mem_of_getElem? hi, hz⟩
  have bi : ∀ z ∈ adr b, z ∈ fad y.2.2.2 := fun z hz => by rw [fad_llo, hl0]; exact List.mem_flatMap.mpr ⟨b, List.mem_of_getElem? hj, hz⟩
  have ya : y.1 ≠ a.1 := fun e => ny1 (e ▸ ai a.1 (adr_1 a))
  have yb : y.1 ≠ b.1 := fun e => ny1 (e ▸ bi b.1 (adr_1 b))
  refine tswpX_ok v1 ra rb' ⟨ka.1, kb.1⟩ hnd hd (fun h' q hz r1 r2 nx1 nx2 => ?_)
  have nO : ∀ z, z ≠ a.1 → z ≠ b.1 → ¬ (z = a.1 ∨ z = b.1) := fun z h1 h2 h3 => by
    rcases h3 with e | e
    · exact h1 e
    · exact h2 e
  obtain ⟨w1, w2, w3, w4, w5⟩ := q.2 y.1 (nO _ ya yb)
  have hw : TVL h' T (y.1, y.2.1, y.2.2.1, lof ((l0.set i (a.1, b.2)).set j (b.1, a.2))) := by
    obtain ⟨q1, q2, q3, q4, q5⟩ := ry
    refine ⟨q1, by rw [w1]; exact q2, by rw [w2]; exact q3, by rw [w3]; exact q4, ?_⟩
    show TF h' T (tnF (lof _)) (h'.EI 1680 (T + 4) y.1)
    rw [w4]
    refine TF.all q5 (by rw [hl0, List.length_set, List.length_set]) fun k u w hu hw => ?_
    rw [hl0] at hu
    by_cases ej : j = k
    · subst ej
      rw [List.getElem?_set_self (by rw [List.length_set]; exact get_lt hj)] at hw
      rw [hj] at hu
      cases hu; cases hw
      exact ⟨rfl, r2, nx2⟩
    · rw [List.getElem?_set_ne ej] at hw
      by_cases ei : i = k
      · subst ei
        rw [List.getElem?_set_self (get_lt hi)] at hw
        rw [hi] at hu
        cases hu; cases hw
        exact ⟨rfl, r1, nx1⟩
      · rw [List.getElem?_set_ne ei, hu] at hw
        cases hw
        have nu : ∀ z ∈ adr u, ¬ (z = a.1 ∨ z = b.1) := fun z hz h3 => by
          rcases h3 with e | e
          · exact cnt_2 hi hu ei (by rw [e]; exact adr_1 a) hz ny2
          · exact cnt_2 hj hu ej (by rw [e]; exact adr_1 b) hz ny2
        exact ⟨rfl, TVL.tu q (TF.at q5 (by rw [hl0]; exact hu)) nu, (q.2 u.1 (nu _ (adr_1 u))).2.2.2.2⟩
  have adw : ∀ z, z ∈ adr ((y.1, y.2.1, y.2.2.1, lof ((l0.set i (a.1, b.2)).set j (b.1, a.2))) : LV) ↔ z ∈ adr y := fun z => by
    show z ∈ y.1 :: fad (lof _) ↔ z ∈ y.1 :: fad y.2.2.2
    rw [fad_lof, fad_llo y.2.2.2, hl0, List.mem_cons, List.mem_cons, pm.mem_iff]
  refine kk h' q.1 (TH.same v hp hy rfl q hz (fun z hz => ?_) ?_ (fun z hz => (adw z).mp hz) hw ⟨kby.1, fbk_llo.mpr fun z hz => ?_⟩ w5)
  · rcases hz with e | e
    · rw [e]; exact adr_2 (ai _ (adr_1 a))
    · rw [e]; exact adr_2 (bi _ (adr_1 b))
  · show (y.1 :: fad (lof _)).Nodup
    rw [fad_lof, List.nodup_cons]
    refine ⟨fun z => ny1 (by rw [fad_llo, hl0]; exact pm.mem_iff.mp z), pm.nodup_iff.mpr ny2⟩
  · rw [llo_lof] at hz
    rcases List.mem_or_eq_of_mem_set hz with z2 | z2
    · rcases List.mem_or_eq_of_mem_set z2 with z3 | z3
      · exact kl z z3
      · rw [z3]; exact kb
    · rw [z2]; exact ka
theorem thswp1_ok {p : Sl} {x a : LV} {pa : List Nat} (v : TH h T n o) (hp : o p = some x) (ha : lva x pa = some a) (hd : 1 ≤ d) (kk : ∀ h', Fq (FS tFl) h h' → TH h' T n o → K (.returned none) h') : MW G d e_X24_swap [.ref T, .int (nI a.1), .int (nI a.1)] h K := by
  refine st_X24_swap fun X oo hG hD _ => ?_
  subst hG; subst hD
  obtain ⟨⟨v1, v2, v3⟩, v4, v5⟩ := id v
  obtain ⟨g1, g2, g3⟩ := v5 p x hp
  have tv := TVL.sub g1 ha
  have kb := fbk_sub g3 ha
  have nda : (a.1 :: fad a.2.2.2).Nodup := ndp ha (v4.1 p x hp)
  have na : a.1 ∉ fad (tnF a.2.2.2) := by rw [fad_tn]; exact (List.nodup_cons.mp nda).1
  obtain ⟨a1, a2, a3, a4, a5⟩ := id tv
  obtain ⟨⟨i1, i2, i3, i4, i5, i6⟩, i7, i8, i9, i10, i11⟩ := id v1
  have ix : IX (nI a.1) 24576 a.1 := IX.mk a1 (by omega)
  have ek : (nI a.2.1).toInt8.toInt32 = nI a.2.1 := i8_n kb.1
  refine k_X24_swap_0 (r2 := i2) (r8 := a2) (r10 := i3) (r16 := a3) (r18 := i4) (r24 := a4) (r26 := i5) (r32 := rfl) oo ?_
  refine tbecX_ok v1 tv tv kb.1 na fun h1 f1 z1 u1 nx1 => ?_
  have hs1 := v1.fs f1.1.1 rfl
  obtain ⟨⟨j1, j2, j3, j4, j5, j6⟩, j7, j8, j9, j10, j11⟩ := id hs1
  refine k_X24_swap_37 (r2 := j2) (r8 := j3) (r14 := j4) (r20 := j5) oo ?_
  rw [ek]
  have f2 : TU T (fun j => j = a.1) h1 ((((h1.sEI 1633 (T + 1) a.1 (nI a.2.1)).sEJ 1651 (T + 2) a.1 (tn a.2.1 a.2.2.1).1).sEJ 1667 (T + 3) a.1 (tn a.2.1 a.2.2.1).2).sEI 1680 (T + 4) a.1 (h.EI 1680 (T + 4) a.1)) := (by refine (TU.fi (TU.lo (TU.hi (TU.kd (TU.refl h1) ?_) ?_) ?_) ?_) <;> exact rfl)
  have F := f1.trans f2
  have tw : TVL ((((h1.sEI 1633 (T + 1) a.1 (nI a.2.1)).sEJ 1651 (T + 2) a.1 (tn a.2.1 a.2.2.1).1).sEJ 1667 (T + 3) a.1 (tn a.2.1 a.2.2.1).2).sEI 1680 (T + 4) a.1 (h.EI 1680 (T + 4) a.1)) T a := by
    refine ⟨a1, by simp [n_sI, z_sI, tag_sI, I_sI, J_sI, R_sI, EI_sI, EJ_sI, ER_sI, n_sJ, z_sJ, tag_sJ, I_sJ, J_sJ, R_sJ, EI_sJ, EJ_sJ, ER_sJ, n_sR, z_sR, tag_sR, I_sR, J_sR, R_sR, EI_sR, EJ_sR, ER_sR, n_sEI, z_sEI, tag_sEI, I_sEI, J_sEI, R_sEI, EI_sEI, EJ_sEI, ER_sEI, n_sEJ, z_sEJ, tag_sEJ, I_sEJ, J_sEJ, R_sEJ, EI_sEJ, EJ_sEJ, ER_sEJ, n_sER, z_sER, tag_sER, I_sER, J_sER, R_sER, EI_sER, EJ_sER, ER_sER, n_nw, z_nw, tag_nw, I_nw, J_nw, R_nw, EI_nw, EJ_nw, ER_nw], by simp [n_sI, z_sI, tag_sI, I_sI, J_sI, R_sI, EI_sI, EJ_sI, ER_sI, n_sJ, z_sJ, tag_sJ, I_sJ, J_sJ, R_sJ, EI_sJ, EJ_sJ, ER_sJ, n_sR, z_sR, tag_sR, I_sR, J_sR, R_sR, EI_sR, EJ_sR, ER_sR, n_sEI, z_sEI, tag_sEI, I_sEI, J_sEI, R_sEI, EI_sEI, EJ_sEI, ER_sEI, n_sEJ, z_sEJ, tag_sEJ, I_sEJ, J_sEJ, R_sEJ, EI_sEJ, EJ_sEJ, ER_sEJ, n_sER, z_sER, tag_sER, I_sER, J_sER, R_sER, EI_sER, EJ_sER, ER_sER, n_nw, z_nw, tag_nw, I_nw, J_nw, R_nw, EI_nw, EJ_nw, ER_nw], by simp [n_sI, z_sI, tag_sI, I_sI, J_sI, R_sI, EI_sI, EJ_sI, ER_sI, n_sJ, z_sJ, tag_sJ, I_sJ, J_sJ, R_sJ, EI_sJ, EJ_sJ, ER_sJ, n_sR, z_sR, tag_sR, I_sR, J_sR, R_sR, EI_sR, EJ_sR, ER_sR, n_sEI, z_sEI, tag_sEI, I_sEI, J_sEI, R_sEI, EI_sEI, EJ_sEI, ER_sEI, n_sEJ, z_sEJ, tag_sEJ, I_sEJ, J_sEJ, R_sEJ, EI_sEJ, EJ_sEJ, ER_sEJ, n_sER, z_sER, tag_sER, I_sER, J_sER, R_sER, EI_sER, EJ_sER, ER_sER, n_nw, z_nw, tag_nw, I_nw, J_nw, R_nw, EI_nw, EJ_nw, ER_nw], ?_⟩
    rw [EI_same]
    exact TF.tu F a5 (fun b hb z => na (by rw [← show b = a.1 from z]; exact hb))
  have th := TH.same (w := a) v hp ha rfl F z1 (fun b hb => by rw [show b = a.1 from hb]; exact adr_1 a) nda (fun b hb => hb) tw kb (by rw [← nx1]; simp [n_sI, z_sI, tag_sI, I_sI, J_sI, R_sI, EI_sI, EJ_sI, ER_sI, n_sJ, z_sJ, tag_sJ, I_sJ, J_sJ, R_sJ, EI_sJ, EJ_sJ, ER_sJ, n_sR, z_sR, tag_sR, I_sR, J_sR, R_sR, EI_sR, EJ_sR, ER_sR, n_sEI, z_sEI, tag_sEI, I_sEI, J_sEI, R_sEI, EI_sEI, EJ_sEI, ER_sEI, n_sEJ, z_sEJ, tag_sEJ, I_sEJ, J_sEJ, R_sEJ, EI_sEJ, EJ_sEJ, ER_sEJ, n_sER, z_sER, tag_sER, I_sER, J_sER, R_sER, EI_sER, EJ_sER, ER_sER, n_nw, z_nw, tag_nw, I_nw, J_nw, R_nw, EI_nw, EJ_nw, ER_nw])
  rw [lvw_self ha, uO_e hp] at th
  exact kk _ F.1 th
end
