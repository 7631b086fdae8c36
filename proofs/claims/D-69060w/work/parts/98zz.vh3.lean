/-! the component's values: numbers written, contents exchanged -/
theorem RF.all {h h' : AH} : ∀ {c : LF} {l : List LV} {p : Option Nat}, RF h c p → l.length = (llo c).length → (∀ (i : Nat) (x y : LV), (llo c)[i]? = some x → l[i]? = some y → y.1 = x.1 ∧ RVL h' y ∧ h'.R 3716 x.1 = h.R 3716 x.1) → RF h' (lof l) p
  | .leaf, l, p, hr, hl, _ => by
    have : l = [] := List.length_eq_zero_iff.mp hl
    subst this; exact hr
  | .inner k x u c n, l, p, hr, hl, hi => by
    obtain ⟨e1, e2, e3, e4, e5, e6, e7, e8⟩ := hr
    cases l with
    | nil => simp [llo] at hl
    | cons y l =>
      obtain ⟨g1, ⟨g2, g3, g4, g5, g6, g7⟩, g8⟩ := hi 0 (x.1, k, x.2, c) y rfl rfl
      have g1 : y.1 = x.1 := g1
      refine ⟨by rw [g1]; exact e1, g2, g3, g4, g5, g6, g7, ?_⟩
      show RF h' (lof l) (h'.R 3716 y.1)
      have g8 : h'.R 3716 x.1 = h.R 3716 x.1 := g8
      rw [g1, g8]
      exact RF.all e8 (by simpa [llo] using hl) fun i a b ha hb => hi (i + 1) a b ha hb
theorem cnt_set {l : List LV} {i : Nat} {x y : LV} (h : l[i]? = some x) (z : Nat) : (l.flatMap adr).count z + (adr y).count z = ((l.set i y).flatMap adr).count z + (adr x).count z := by
  obtain ⟨a, b, e1, e2⟩ := fm_set (f := adr) (y := y) h
  rw [e1, e2]
  simp only [List.count_append]
  omega
theorem cnt_2 {l : List LV} {i j : Nat} {a b : LV} (hi : l[i]? = some a) (hj : l[j]? = some b) (hij : i ≠ j) {z : Nat} (ha : z ∈ adr a) (hb : z ∈ adr b) (hn : (l.flatMap adr).Nodup) : False := by
  have h1 := cnt_set (y := (z + 1, 0, (0, 0), .leaf)) hi z
  have hj2 : (l.set i (z + 1, 0, (0, 0), .leaf))[j]? = some b := by rw [List.getElem?_set_ne hij]; exact hj
  have h2 := cnt_set (y := (z + 1, 0, (0, 0), .leaf)) hj2 z
  have h0 : (adr (z + 1, 0, (0, 0), .leaf)).count z = 0 := by simp [adr, fad]
  have h3 : (l.flatMap adr).count z ≤ 1 := List.nodup_iff_count.mp hn z
  have h4 : 1 ≤ (adr a).count z := List.count_pos_iff.mpr ha
  have h5 : 1 ≤ (adr b).count z := List.count_pos_iff.mpr hb
  omega
section
variable {G : Gt} {B d q : Nat} {h : AH} {l : List Nat} {o : Lc} {K : Outcome → AH → Prop}
/-- two parts change their contents -/
theorem vswap_ok {p : Sl} {x y a b : LV} {pa : List Nat} {i j : Nat} (v : VH G B h q l o) (hp : o p = some x) (hy : lva x pa = some y) (hi : (llo y.2.2.2)[i]? = some a) (hj : (llo y.2.2.2)[j]? = some b) (hij : i ≠ j) (kk : ∀ h', Fr VQ h h' → h'.n = h.n → VH G B h' q l (uO o p (some (lvw x pa (y.1, y.2.1, y.2.2.1, lof (((llo y.2.2.2).set i (a.1, a.2.1, b.2.2)).set j (b.1, b.2.1, a.2.2)))))) → TG o [] h h' → K (.returned none) h') : MW G d e_X11_swap [.ref q, .ref a.1, .ref b.1] h K := by
  obtain ⟨v1, v2, ⟨v3, v5⟩, v4⟩ := id v
  obtain ⟨g1, g2, g3⟩ := v4 p x hp
  have yin := adr_in hy
  have ndx := v2.1 p x hp
  have ndy := ndp hy ndx
  have ry : RV h y.1 y.2.1 y.2.2.1 y.2.2.2 := g1.sub hy
  have ra := RF.at ry.2.2.2.2.2 hi
  have rb' := RF.at ry.2.2.2.2.2 hj
  have ndy' : (y.1 :: fad y.2.2.2).Nodup := ndy
  obtain ⟨ny1, ny2⟩ := List.nodup_cons.mp ndy'
  rw [fad_llo] at ny2
  generalize hl0 : llo y.2.2.2 = l0 at *
  have hj1 : (l0.set i (a.1, a.2.1, b.2.2))[j]? = some b := by rw [List.getElem?_set_ne hij]; exact hj
  have c1 := fun z => cnt_set (y := (a.1, a.2.1, b.2.2)) hi z
  have c2 := fun z => cnt_set (y := (b.1, b.2.1, a.2.2)) hj1 z
  have pm : (((l0.set i (a.1, a.2.1, b.2.2)).set j (b.1, b.2.1, a.2.2)).flatMap adr).Perm (l0.flatMap adr) := by
    rw [List.perm_iff_count]
    intro z
    have h1 := c1 z
    have h2 := c2 z
    simp only [adr, List.count_cons] at h1 h2
    simp only [adr] at *
    omega
  -- a and b are apart
  have nab : (adr a).Nodup ∧ (adr b).Nodup ∧ ∀ z ∈ adr a, z ∉ adr b := by
    obtain ⟨A, B, e1, -⟩ := fm_set (f := adr) (y := a) hi
    obtain ⟨A', B', e1', -⟩ := fm_set (f := adr) (y := b) hj
    refine ⟨?_, ?_, fun z hz hz2 => ?_⟩
    · rw [e1] at ny2; exact (List.nodup_append.mp (List.nodup_append.mp ny2).2.1).1
    · rw [e1'] at ny2; exact (List.nodup_append.mp (List.nodup_append.mp ny2).2.1).1
    · exact cnt_2 hi hj hij hz hz2 ny2
  have hnd : (a.1 :: b.1 :: (fad a.2.2.2 ++ fad b.2.2.2)).Nodup := by
    obtain ⟨n1, n2, n3⟩ := nab
    simp only [adr, List.nodup_cons, List.nodup_append, List.mem_append, List.mem_cons] at n1 n2 n3 ⊢
    grind
  have ai : ∀ z ∈ adr a, z ∈ fad y.2.2.2 := fun z hz => by rw [fad_llo, hl0]; exact List.mem_flatMap.mpr ⟨a, List.mem_of_getElem? hi, hz⟩
  have bi : ∀ z ∈ adr b, z ∈ fad y.2.2.2 := fun z hz => by rw [fad_llo, hl0]; exact List.mem_flatMap.mpr ⟨b, List.mem_of_getElem? hj, hz⟩
  refine swap_ok ra rb' hnd fun h' f1 n1 z1 fr1 nx1 r1 r2 => ?_
  have lty : ∀ z, z ∈ adr y → z < h.n := fun z hz => g3 z (yin z hz)
  have noO : ∀ f z, z ∈ adr y → z ≠ a.1 → z ≠ b.1 → 3712 ≤ f → f ≤ 3718 → ¬ VP [a.1, b.1] h.n f z := fun f z hz za zb h1 h2 => VP.no h1 h2 (by simp [za, zb]) (lty z hz)
  have ya : y.1 ≠ a.1 := fun e => ny1 (e ▸ ai a.1 (adr_1 a))
  have yb : y.1 ≠ b.1 := fun e => ny1 (e ▸ bi b.1 (adr_1 b))
  have ny : ∀ f, 3712 ≤ f → f ≤ 3718 → ¬ VP [a.1, b.1] h.n f y.1 := fun f h1 h2 => noO f y.1 (adr_1 y) ya yb h1 h2
  have hw : RVL h' (y.1, y.2.1, y.2.2.1, lof ((l0.set i (a.1, a.2.1, b.2.2)).set j (b.1, b.2.1, a.2.2))) := by
    obtain ⟨q1, q2, q3, q4, q5, q6⟩ := ry
    refine ⟨f1.tag q1, ?_, ?_, ?_, ?_, ?_⟩
    · rw [f1.I (ny _ (by decide) (by decide))]; exact q2
    · rw [f1.J (ny _ (by decide) (by decide))]; exact q3
    · rw [f1.J (ny _ (by decide) (by decide))]; exact q4
    · rw [f1.I (ny _ (by decide) (by decide)), q5, ← llo_len, hl0]
      show _ = nI (fln (lof _))
      rw [← llo_len, llo_lof, List.length_set, List.length_set]
    · show RF h' (lof _) (h'.R 3715 y.1)
      rw [f1.R (ny _ (by decide) (by decide))]
      refine RF.all q6 (by rw [hl0, List.length_set, List.length_set]) fun k u w hu hw => ?_
      rw [hl0] at hu
      have nxt : h'.R 3716 u.1 = h.R 3716 u.1 := by rw [nx1]
      by_cases ej : j = k
      · subst ej
        rw [List.getElem?_set_self (by rw [List.length_set]; exact get_lt hj)] at hw
        rw [hj] at hu
        cases hu; cases hw
        exact ⟨rfl, r2, nxt⟩
      · rw [List.getElem?_set_ne ej] at hw
        by_cases ei : i = k
        · subst ei
          rw [List.getElem?_set_self (get_lt hi)] at hw
          rw [hi] at hu
          cases hu; cases hw
          exact ⟨rfl, r1, nxt⟩
        · rw [List.getElem?_set_ne ei, hu] at hw
          cases hw
          refine ⟨rfl, RVL.fr f1 (RF.at q6 (by rw [hl0]; exact hu)) fun f z hz h1 h2 => ?_, nxt⟩
          -- another part
          have uz : z ∈ fad y.2.2.2 := by rw [fad_llo, hl0]; exact List.mem_flatMap.mpr ⟨u, List.mem_of_getElem? hu, hz⟩
          have twice : ∀ (m : Nat) (c : LV), l0[m]? = some c → m ≠ k → z ∉ adr c := fun m c hm hmk hz2 => cnt_2 hm hu hmk hz2 hz ny2
          refine noO f z (List.mem_cons_of_mem _ uz) (fun e => twice i a hi ei (e ▸ adr_1 a)) (fun e => twice j b hj ej (e ▸ adr_1 b)) h1 h2
  obtain ⟨w1, w2⟩ := v.same (w := (y.1, y.2.1, y.2.2.1, lof ((l0.set i (a.1, a.2.1, b.2.2)).set j (b.1, b.2.1, a.2.2)))) hp hy rfl f1 n1 z1 fr1 (fun z hz => by
    simp only [List.mem_cons, List.not_mem_nil, or_false] at hz
    rcases hz with z1 | z1
    · rw [z1]; exact List.mem_cons_of_mem _ (ai a.1 (adr_1 a))
    · rw [z1]; exact List.mem_cons_of_mem _ (bi b.1 (adr_1 b))) (by
    show (y.1 :: fad (lof _)).Nodup
    rw [fad_lof, List.nodup_cons]
    refine ⟨fun z => ny1 ?_, pm.nodup_iff.mpr ny2⟩
    rw [fad_llo, hl0]; exact pm.mem_iff.mp z) (fun z hz => by
    have hz : z ∈ y.1 :: fad (lof _) := hz
    rw [fad_lof, List.mem_cons] at hz
    rcases hz with z1 | z1
    · rw [z1]; exact adr_1 y
    · refine List.mem_cons_of_mem _ ?_
      rw [fad_llo, hl0]; exact pm.mem_iff.mp z1) (fun z hz => by
    have hz : z ∈ y.1 :: fad y.2.2.2 := hz
    show z ∈ y.1 :: fad (lof _)
    rw [fad_lof]
    rw [fad_llo, hl0, List.mem_cons] at hz
    rw [List.mem_cons]
    rcases hz with z1 | z1
    · exact Or.inl z1
    · exact Or.inr (pm.mem_iff.mpr z1)) hw (by rw [nx1]) (f1.R (ny _ (by decide) (by decide)))
  exact kk h' (f1.mono VP.q) n1 w1 w2
/-- a number, or a kind, is written -/
def NP (b f a : Nat) : Prop := (f = 3712 ∨ f = 3713 ∨ f = 3714) ∧ a = b
theorem VH.num {h' : AH} {p : Sl} {x y : LV} {pa : List Nat} {k : Nat} {n : Int64 × Int64} (v : VH G B h q l o) (hp : o p = some x) (hy : lva x pa = some y) (f1 : Fq (NP y.1) h h') (e1 : h'.I 3712 y.1 = nI k) (e2 : h'.J 3713 y.1 = n.1) (e3 : h'.J 3714 y.1 = n.2) : VH G B h' q l (uO o p (some (lvw x pa (y.1, k, n, y.2.2.2)))) ∧ TG o [] h h' := by
  obtain ⟨v1, v2, ⟨v3, v5⟩, v4⟩ := id v
  obtain ⟨g1, g2, g3⟩ := v4 p x hp
  have ndx := v2.1 p x hp
  have ndy := ndp hy ndx
  have ry : RV h y.1 y.2.1 y.2.2.1 y.2.2.2 := g1.sub hy
  have ndy' : (y.1 :: fad y.2.2.2).Nodup := ndy
  have f2 : Fr (VP [y.1] h.n) h h' := f1.1.mono fun f a z => by
    obtain ⟨z1, z2⟩ := z
    rw [z2]
    rcases z1 with z1 | z1 | z1 <;> (rw [z1]; exact VP.inn (by simp) rfl rfl)
  have nR : ∀ f a, f ≠ 3712 → f ≠ 3713 → f ≠ 3714 → ¬ NP y.1 f a := fun f a h1 h2 h3 z => by
    rcases z.1 with z | z | z
    · exact h1 z
    · exact h2 z
    · exact h3 z
  refine v.same (w := (y.1, k, n, y.2.2.2)) hp hy rfl f2 f1.2.1 f1.2.2 ?_ (fun a ha => ?_) ndy (fun a ha => ha) (fun a ha => ha) ?_ (f1.1.R (nR _ _ (by decide) (by decide) (by decide))) (f1.1.R (nR _ _ (by decide) (by decide) (by decide)))
  · funext a
    exact f1.1.R (nR _ _ (by decide) (by decide) (by decide))
  · have : a = y.1 := by simpa using ha
    rw [this]; exact adr_1 y
  · obtain ⟨q1, q2, q3, q4, q5, q6⟩ := ry
    refine ⟨f1.1.tag q1, e1, e2, e3, ?_, ?_⟩
    · rw [f1.1.I (nR _ _ (by decide) (by decide) (by decide))]; exact q5
    · show RF h' y.2.2.2 (h'.R 3715 y.1)
      rw [f1.1.R (nR _ _ (by decide) (by decide) (by decide))]
      refine RF.fr f1.1 q6 fun f a ha _ _ z => ?_
      rw [z.2] at ha
      exact (List.nodup_cons.mp ndy').1 ha
end
