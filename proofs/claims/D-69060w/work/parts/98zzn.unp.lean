/-! a worker of the component's: parts become values -/
theorem RF.chn {h : AH} : ∀ {c : LF} {p : Option Nat}, RF h c p → CHN h (llo c) ∧ p = (llo c).head?.map fun y => y.1
  | .leaf, p, r => ⟨trivial, r⟩
  | .inner k x _ c r, p, ⟨e1, e2, e3, e4, e5, e6, e7, e8⟩ => by
    obtain ⟨i1, i2⟩ := RF.chn e8
    exact ⟨⟨i2, i1⟩, e1⟩
theorem CHN.at {h : AH} : ∀ {ps : List LV} {j : Nat} {x : LV}, CHN h ps → ps[j]? = some x → h.R 3716 x.1 = (ps[j + 1]?).map fun y => y.1
  | [], j, x, _, hj => by simp at hj
  | y :: r, 0, x, c, hj => by
    cases hj
    rw [c.1]
    cases r <;> rfl
  | y :: r, j + 1, x, c, hj => CHN.at (ps := r) (j := j) c.2 hj
theorem StR.ap {h : AH} {o : Lc} {wi j F : Nat} {ps : List LV} {k : List It} (s : StR h o wi j F k) (hp : ∀ (i : Nat) (x : LV), ps[i]? = some x → o (1, wi, j, k.length + i) = some x ∧ h.ER 747 (F + 2) (k.length + i) = some x.1) : ∀ m, m ≤ ps.length → StR h o wi j F (((ps.take m).map lvE).reverse.map .inl ++ k)
  | 0, _ => s
  | m + 1, hm => by
    obtain ⟨x, hx⟩ : ∃ x, ps[m]? = some x := ⟨_, List.getElem?_eq_getElem (by omega)⟩
    have e : ((ps.take (m + 1)).map lvE).reverse.map (Sum.inl : VL → It) ++ k = .inl (lvE x) :: (((ps.take m).map lvE).reverse.map .inl ++ k) := by
      rw [List.take_add_one, hx]
      simp
    rw [e]
    have el : (((ps.take m).map lvE).reverse.map (Sum.inl : VL → It) ++ k).length = k.length + m := by
      simp [List.length_take]; omega
    refine ⟨⟨x, ?_, ?_, rfl⟩, StR.ap s hp m (by omega)⟩
    · rw [el]; exact (hp m x hx).1
    · rw [el]; exact (hp m x hx).2
theorem cpush_lo {G : Gt} {d : Nat} {h : AH} {A : Nat} {K : Outcome → AH → Prop} {F n a : Nat} (t0 : h.tag A = some (0, 0)) (hf : h.R 28 A = some F) (s : SFr h F) (hh : h.I 2565 F = nI n) (hn : n < 64) (ha : h.tag a = some (29, 0)) (kk : K (.returned none) ((h.sER 747 (F + 2) n (some a)).sI 2565 F (nI (n + 1)))) : MW G d e_X1_push [.ref A, .ref a] h K := by
  refine st_X1_push fun XX oo hG hD _ => ?_
  subst hG; subst hD
  obtain ⟨f1, f2, f3, f4, f5⟩ := s
  have ix : IX (nI n) 64 n := IX.mk (by omega) (by omega)
  have ft : fitE h 11 (some a) := ha
  refine k_X1_push_0 oo ?_
  rw [nI_add]
  exact kk
/-- parts on the stack from some height on, something aside -/
def upO (o : Lc) (wi t n sl : Nat) (z : LV) (ps : List LV) : Lc := fun p => if p = (5, wi, sl, 1) then some z else if p.1 = 1 ∧ p.2.1 = wi ∧ p.2.2.1 = t ∧ n ≤ p.2.2.2 then ps[p.2.2.2 - n]? else o p
section
variable {G : Gt} {B d : Nat} {h : AH} {l : List Nat} {o : Lc} {wi W A q BA X tt lim SP t : Nat} {snd : Int64} {MA : Ma} {s : Ms} {K : Outcome → AH → Prop}
theorem upO_i {n sl : Nat} {z y : LV} {p : Sl} {ps : List LV} (hp : upO o wi t n sl z ps p = some y) : (p = (5, wi, sl, 1) ∧ y = z) ∨ (∃ j, p = (1, wi, t, n + j) ∧ ps[j]? = some y) ∨ (p ≠ (5, wi, sl, 1) ∧ ¬ (p.1 = 1 ∧ p.2.1 = wi ∧ p.2.2.1 = t ∧ n ≤ p.2.2.2) ∧ o p = some y) := by
  unfold upO at hp
  by_cases c : p = (5, wi, sl, 1)
  · rw [if_pos c] at hp
    exact Or.inl ⟨c, (Option.some.inj hp).symm⟩
  · rw [if_neg c] at hp
    by_cases c2 : p.1 = 1 ∧ p.2.1 = wi ∧ p.2.2.1 = t ∧ n ≤ p.2.2.2
    · rw [if_pos c2] at hp
      obtain ⟨p1, p2, p3, p4⟩ := p
      obtain ⟨d1, d2, d3, d4⟩ : p1 = 1 ∧ p2 = wi ∧ p3 = t ∧ n ≤ p4 := c2
      subst d1; subst d2; subst d3
      exact Or.inr (Or.inl ⟨p4 - n, by rw [show n + (p4 - n) = p4 by omega], hp⟩)
    · rw [if_neg c2] at hp; exact Or.inr (Or.inr ⟨c, c2, hp⟩)
theorem upO_n {n sl : Nat} {z : LV} {p : Sl} {ps : List LV} (h1 : p ≠ (5, wi, sl, 1)) (h2 : ¬ (p.1 = 1 ∧ p.2.1 = wi ∧ p.2.2.1 = t ∧ n ≤ p.2.2.2)) : upO o wi t n sl z ps p = o p := by
  unfold upO; rw [if_neg h1, if_neg h2]
theorem upO_s {n sl : Nat} {z : LV} {ps : List LV} : upO o wi t n sl z ps (5, wi, sl, 1) = some z := if_pos rfl
theorem upO_p {n sl j : Nat} {z : LV} {ps : List LV} : upO o wi t n sl z ps (1, wi, t, n + j) = ps[j]? := by
  unfold upO
  rw [if_neg (fun e => by cases e), if_pos ⟨rfl, rfl, rfl, by show n ≤ n + j; omega⟩]
  show ps[n + j - n]? = _
  rw [Nat.add_sub_cancel_left]
theorem DJ.unp {n sl a kd : Nat} {x : Int64 × Int64} {ps : List LV} (dj : DJ o) (hz : o (1, wi, t, n) = some (a, kd, x, lof ps)) : DJ (upO o wi t n sl (a, kd, x, .leaf) ps) := by
  obtain ⟨dj1, dj2⟩ := dj
  have nd := dj1 _ _ hz
  have nd : (a :: fad (lof ps)).Nodup := nd
  rw [fad_lof, List.nodup_cons] at nd
  have inz : ∀ (j : Nat) (y : LV), ps[j]? = some y → ∀ b ∈ adr y, b ∈ adr (a, kd, x, lof ps) := fun j y hy b hb => by
    show b ∈ a :: fad (lof ps)
    rw [fad_lof]
    exact List.mem_cons_of_mem _ (List.mem_flatMap.mpr ⟨y, List.mem_iff_getElem?.mpr ⟨j, hy⟩, hb⟩)
  have ndp : ∀ (j : Nat) (y : LV), ps[j]? = some y → (adr y).Nodup := fun j y hy => by
    obtain ⟨u1, u2, e1, -⟩ := fm_set (f := adr) (y := y) hy
    have := nd.2
    rw [e1] at this
    exact (List.nodup_append.mp (List.nodup_append.mp this).2.1).1
  have ap : ∀ (j : Nat) (y : LV), ps[j]? = some y → a ∉ adr y := fun j y hy ha => nd.1 (List.mem_flatMap.mpr ⟨y, List.mem_iff_getElem?.mpr ⟨j, hy⟩, ha⟩)
  have oth : ∀ p y, ¬ (p.1 = 1 ∧ p.2.1 = wi ∧ p.2.2.1 = t ∧ n ≤ p.2.2.2) → o p = some y → ∀ b ∈ adr (a, kd, x, lof ps), b ∉ adr y := fun p y hp hy b hb => dj2 _ p _ y (fun e => by subst e; exact hp ⟨rfl, rfl, rfl, Nat.le_refl _⟩) hz hy b hb
  have a_in : a ∈ adr (a, kd, x, lof ps) := adr_1 (a, kd, x, lof ps)
  refine ⟨fun p y hp => ?_, fun p r y u hpr hp hr b hb hb2 => ?_⟩
  · rcases upO_i hp with ⟨-, e⟩ | ⟨j, -, e⟩ | ⟨-, -, e⟩
    · rw [e]; show [a].Nodup; simp
    · exact ndp j y e
    · exact dj1 p y e
  · rcases upO_i hp with ⟨e1, e2⟩ | ⟨j, e1, e2⟩ | ⟨e1, e2, e3⟩
    · rw [e2] at hb
      have hb : b ∈ [a] := hb
      have hb := List.mem_singleton.mp hb
      subst hb
      rcases upO_i hr with ⟨e4, e5⟩ | ⟨j', e4, e5⟩ | ⟨e4, e5, e6⟩
      · exact hpr (e1.trans e4.symm)
      · exact ap j' u e5 hb2
      · exact oth r u e5 e6 b a_in hb2
    · rcases upO_i hr with ⟨e4, e5⟩ | ⟨j', e4, e5⟩ | ⟨e4, e5, e6⟩
      · rw [e5] at hb2
        have hb2 : b ∈ [a] := hb2
        have hb2 := List.mem_singleton.mp hb2
        subst hb2
        exact ap j y e2 hb
      · exact cnt_2 e2 e5 (fun e => hpr (by rw [e1, e4, e])) hb hb2 nd.2
      · exact oth r u e5 e6 b (inz j y e2 b hb) hb2
    · rcases upO_i hr with ⟨e4, e5⟩ | ⟨j', e4, e5⟩ | ⟨e4, e5, e6⟩
      · rw [e5] at hb2
        have hb2 : b ∈ [a] := hb2
        have hb2 := List.mem_singleton.mp hb2
        subst hb2
        exact oth p y e2 e3 b a_in hb
      · exact oth p y e2 e3 b (inz j' u e5 b hb2) hb
      · exact dj2 p r y u hpr e3 e6 b hb hb2
def UP (F a : Nat) (ps : List LV) (g b : Nat) : Prop := (g = 3716 ∧ ∃ x ∈ ps, b = x.1) ∨ ((g = 3715 ∨ g = 3717) ∧ b = a) ∨ PH F g b
theorem cunpack_ok {m : Md} {kd : Nat} (H : OPR G B h A W q BA X tt snd lim SP wi MA l o s) (hT : ∀ v k, stk s = .inl v :: k → VW v ∧ (flo v.2.2).length + k.length ≤ 64) (hd : 10 ≤ d) (hne : oUnp m kd s ≠ none) (kk : RZ K G B h A W q BA X tt snd lim SP wi MA o (oUnp m kd s)) : MW G d e_X1_unpack [.ref A] h K := by
  refine st_X1_unpack fun XX oo hG hD _ => ?_
  subst hG; subst hD
  unfold oUnp at hne kk
  cases hst : stk s with
  | nil => rw [hst] at hne; exact absurd rfl hne
  | cons i k =>
    cases i with
    | inr r => rw [hst] at hne; exact absurd rfl hne
    | inl vv =>
      rw [hst] at hne kk
      obtain ⟨e1, e2⟩ := mre_n hne
      have kk : RZ K XX.G B h A W q BA X tt snd lim SP wi MA o (mre (vv.1 == 6 && (vv.2.1.1 == lN m.1 && vv.2.1.2 == lN kd)) (mgo (sK s ((flo vv.2.2).reverse.map .inl ++ k)))) := kk
      rw [e2] at kk
      have kk : ∀ h' l' o', OUT wi W h h' o o' → OPR XX.G B h' A W q BA X tt snd lim SP wi MA l' o' (sK s ((flo vv.2.2).reverse.map .inl ++ k)) → K (.returned none) h' := kk
      obtain ⟨hVW, h64⟩ := hT vv k hst
      obtain ⟨c, v, w, hf, hg, hw⟩ := id H
      obtain ⟨t, ht⟩ : ∃ t, t + 1 = s.1 := ⟨s.1 - 1, by have := w.1.2.2.1; omega⟩
      rw [show s.1 - 1 = t by omega] at hf
      have t32 : t < 32 := by have := w.1.2.2.2.1; omega
      obtain ⟨sf, mm, es, el⟩ := w.F ht
      obtain ⟨⟨m1, m2, m3, m4, m5⟩, m6, m7, m8, m9⟩ := id mm
      rw [← es, hst] at m4 m5 m6 m7
      obtain ⟨⟨x, x1, x2, x3⟩, s2⟩ := m6
      have m5 : k.length + 1 ≤ 64 := m5
      have x3 : lvE x = vv := x3
      obtain ⟨sl, hsl⟩ := v.slot wi
      obtain ⟨a, kx, nx', cx⟩ := x
      obtain ⟨r1, r2, r3⟩ := v.2.2.2 _ _ x1
      obtain ⟨ra, rb', rc, rd, re, rf⟩ := id r1
      obtain ⟨ch, fs⟩ := RF.chn rf
      generalize hps : llo cx = ps at *
      have ecx : cx = lof ps := by rw [← hps, lof_llo]
      have efl : flo vv.2.2 = ps.map lvE := by
        rw [← x3]
        show flo (fer cx) = _
        rw [flo_fer, hps]
      have hlen : ps.length + k.length ≤ 64 := by rw [efl, List.length_map] at h64; exact h64
      have t0 := c.1.1
      -- what is about parts
      have nd := v.2.1.1 _ _ x1
      have nd : (a :: fad cx).Nodup := nd
      rw [fad_llo, hps, List.nodup_cons] at nd
      have rvp : ∀ (j : Nat) (y : LV), ps[j]? = some y → RVL h y := fun j y hy => RF.at rf (by rw [hps]; exact hy)
      have apn : ∀ (j : Nat) (y : LV), ps[j]? = some y → a ∉ adr y := fun j y hy ha => nd.1 (List.mem_flatMap.mpr ⟨y, List.mem_iff_getElem?.mpr ⟨j, hy⟩, ha⟩)
      have pd : ∀ (i j : Nat) (y u : LV), i ≠ j → ps[i]? = some y → ps[j]? = some u → y.1 ≠ u.1 := fun i j y u hij hy hu e => cnt_2 hy hu hij (adr_1 y) (by rw [e]; exact adr_1 u) nd.2
      have np : ∀ g b, g ≠ 3716 → g ≠ 3715 → g ≠ 3717 → g ≠ 2565 → g ≠ 10000 + 747 → ¬ UP (Fa W t) a ps g b := fun g b h1 h2 h3 h4 h5 z => by
        rcases z with z | ⟨z | z, -⟩ | ⟨z | z, -⟩
        · exact h1 z.1
        · exact h2 z
        · exact h3 z
        · exact h4 z
        · exact h5 z
      -- the end
      have fin : ∀ h2 vq, Fq (UP (Fa W t) a ps) h h2 → h2.I 2565 (Fa W t) = nI (k.length + ps.length) → (∀ (j : Nat) (y : LV), ps[j]? = some y → h2.ER 747 (Fa W t + 2) (k.length + j) = some y.1) → (∀ j, j < k.length → h2.ER 747 (Fa W t + 2) j = h.ER 747 (Fa W t + 2) j) → V XX K 34 [.ref A, .ref a, .null, vq] [] h2 := fun h2 vq fq hh he hk => by
        have t2 := fq.1.tag t0
        have ta2 := fq.1.tag ra
        have p2 : h2.R 2 A = some q := by rw [fq.1.R (np _ _ (by decide) (by decide) (by decide) (by decide) (by decide))]; exact c.1.2.1
        refine k_X1_unpack_34 oo ?_
        have f3 : Fq (UP (Fa W t) a ps) h2 ((h2.sR 3715 a none).sI 3717 a (nI 0)) := ((Fq.refl h2).sR (f := 3715) (a := a) (Or.inr (Or.inl ⟨Or.inl rfl, rfl⟩))).sI (f := 3717) (a := a) (Or.inr (Or.inl ⟨Or.inr rfl, rfl⟩))
        have g1 : ((h2.sR 3715 a none).sI 3717 a (nI 0)).R 3715 a = none := by simp [n_sI, z_sI, tag_sI, I_sI, J_sI, R_sI, EI_sI, EJ_sI, ER_sI, n_sJ, z_sJ, tag_sJ, I_sJ, J_sJ, R_sJ, EI_sJ, EJ_sJ, ER_sJ, n_sR, z_sR, tag_sR, I_sR, J_sR, R_sR, EI_sR, EJ_sR, ER_sR, n_sEI, z_sEI, tag_sEI, I_sEI, J_sEI, R_sEI, EI_sEI, EJ_sEI, ER_sEI, n_sEJ, z_sEJ, tag_sEJ, I_sEJ, J_sEJ, R_sEJ, EI_sEJ, EJ_sEJ, ER_sEJ, n_sER, z_sER, tag_sER, I_sER, J_sER, R_sER, EI_sER, EJ_sER, ER_sER, n_nw, z_nw, tag_nw, I_nw, J_nw, R_nw, EI_nw, EJ_nw, ER_nw]
        have g2 : ((h2.sR 3715 a none).sI 3717 a (nI 0)).I 3717 a = nI 0 := I_same ..
        have g3 : ((h2.sR 3715 a none).sI 3717 a (nI 0)).I 2565 (Fa W t) = nI (k.length + ps.length) := by simp [n_sI, z_sI, tag_sI, I_sI, J_sI, R_sI, EI_sI, EJ_sI, ER_sI, n_sJ, z_sJ, tag_sJ, I_sJ, J_sJ, R_sJ, EI_sJ, EJ_sJ, ER_sJ, n_sR, z_sR, tag_sR, I_sR, J_sR, R_sR, EI_sR, EJ_sR, ER_sR, n_sEI, z_sEI, tag_sEI, I_sEI, J_sEI, R_sEI, EI_sEI, EJ_sEI, ER_sEI, n_sEJ, z_sEJ, tag_sEJ, I_sEJ, J_sEJ, R_sEJ, EI_sEJ, EJ_sEJ, ER_sEJ, n_sER, z_sER, tag_sER, I_sER, J_sER, R_sER, EI_sER, EJ_sER, ER_sER, n_nw, z_nw, tag_nw, I_nw, J_nw, R_nw, EI_nw, EJ_nw, ER_nw]; exact hh
        have g4 : ∀ j, ((h2.sR 3715 a none).sI 3717 a (nI 0)).ER 747 (Fa W t + 2) j = h2.ER 747 (Fa W t + 2) j := fun j => rfl
        have fqa := fq.trans f3
        generalize (h2.sR 3715 a none).sI 3717 a (nI 0) = h3 at *
        -- values
        have rvz : RVL h3 (a, kx, nx', .leaf) := by
          refine ⟨fqa.1.tag ra, ?_, ?_, ?_, g2, g1⟩
          · rw [fqa.1.I (np _ _ (by decide) (by decide) (by decide) (by decide) (by decide))]; exact rb'
          · rw [fqa.1.J (np _ _ (by decide) (by decide) (by decide) (by decide) (by decide))]; exact rc
          · rw [fqa.1.J (np _ _ (by decide) (by decide) (by decide) (by decide) (by decide))]; exact rd
        have phv : ∀ g b, 3712 ≤ g → g ≤ 3718 → ¬ PH (Fa W t) g b := fun g b h1 h2 => PH.v g b (Or.inl ⟨h1, h2⟩)
        have x1' : o (1, wi, t, k.length) = some (a, kx, nx', lof ps) := by rw [← ecx]; exact x1
        have v3 : VH XX.G B h3 q l (upO o wi t k.length sl (a, kx, nx', .leaf) ps) := by
          refine v.gen fqa (fun b => np _ _ (by decide) (by decide) (by decide) (by decide) (by decide)) (fun b hb z => ?_) (v.2.1.unp x1') (fun p y hy b hb => ?_) (fun p y hy => ?_)
          · rcases z with z | ⟨z | z, -⟩ | z
            · obtain ⟨-, u, u1, u2⟩ := z
              refine r2 b ?_ hb
              show b ∈ a :: fad cx
              rw [fad_llo, hps]
              exact List.mem_cons_of_mem _ (List.mem_flatMap.mpr ⟨u, u1, by rw [u2]; exact adr_1 u⟩)
            · exact absurd z (by decide)
            · exact absurd z (by decide)
            · exact phv _ _ (by decide) (by decide) z
          · by_cases c1 : p = (1, wi, t, k.length)
            · rw [c1, x1] at hy
              cases hy
              have hb : b ∈ a :: fad cx := hb
              rw [fad_llo, hps] at hb
              rcases List.mem_cons.mp hb with e | e
              · exact ⟨_, _, upO_s, by rw [e]; exact adr_1 (a, kx, nx', .leaf)⟩
              · obtain ⟨u, u1, u2⟩ := List.mem_flatMap.mp e
                obtain ⟨j, hj⟩ := List.mem_iff_getElem?.mp u1
                exact ⟨(1, wi, t, k.length + j), u, by rw [upO_p]; exact hj, u2⟩
            · refine ⟨p, y, ?_, hb⟩
              rw [upO_n (fun e => by rw [e, hsl] at hy; cases hy) (fun z => ?_)]
              · exact hy
              · obtain ⟨p1, p2, p3, p4⟩ := p
                obtain ⟨d1, d2, d3, d4⟩ : p1 = 1 ∧ p2 = wi ∧ p3 = t ∧ k.length ≤ p4 := z
                subst d1; subst d2; subst d3
                have : p4 ≠ k.length := fun e => c1 (by rw [e])
                rw [m7 p4 (by show k.length + 1 ≤ p4; omega)] at hy
                cases hy
          · rcases upO_i hy with ⟨e1, e2⟩ | ⟨j, e1, e2⟩ | ⟨e1, e2, e3⟩
            · rw [e2]
              refine ⟨rvz, fun b hb => ⟨_, _, x1, ?_⟩⟩
              have hb : b ∈ [a] := hb
              rw [List.mem_singleton.mp hb]
              exact adr_1 (a, kx, nx', cx)
            · refine ⟨(rvp j y e2).nx fqa.1 (fun f h1 h2 h3 z => ?_) (fun f b hb h1 h2 z => ?_), fun b hb => ⟨_, _, x1, ?_⟩⟩
              · rcases z with z | ⟨-, z⟩ | z
                · exact h3 z.1
                · exact apn j y e2 (by rw [← z]; exact adr_1 y)
                · exact phv _ _ h1 h2 z
              · rcases z with z | ⟨-, z⟩ | z
                · obtain ⟨-, u, u1, u2⟩ := z
                  obtain ⟨j', hj'⟩ := List.mem_iff_getElem?.mp u1
                  by_cases e : j = j'
                  · subst e
                    rw [e2] at hj'
                    cases hj'
                    obtain ⟨w1, w2, w3, -⟩ := fm_set (f := adr) (y := y) e2
                    have n2 := nd.2
                    rw [w3] at n2
                    have n3 : (y.1 :: fad y.2.2.2).Nodup := (List.nodup_append.mp (List.nodup_append.mp n2).2.1).1
                    rw [List.nodup_cons] at n3
                    exact n3.1 (by rw [← u2]; exact hb)
                  · exact cnt_2 e2 hj' e (adr_2 hb) (by rw [u2]; exact adr_1 u) nd.2
                · exact apn j y e2 (by rw [← z]; exact adr_2 hb)
                · exact phv _ _ h1 h2 z
              · show b ∈ a :: fad cx
                rw [fad_llo, hps]
                exact List.mem_cons_of_mem _ (List.mem_flatMap.mpr ⟨y, List.mem_iff_getElem?.mpr ⟨j, e2⟩, hb⟩)
            · have hpn : (1, wi, t, k.length) ≠ p := fun e => by subst e; exact e2 ⟨rfl, rfl, rfl, Nat.le_refl _⟩
              have ob : ∀ b ∈ a :: ps.flatMap adr, b ∉ adr y := fun b hb => v.2.1.2 _ p _ y hpn x1 e3 b (by show b ∈ a :: fad cx; rw [fad_llo, hps]; exact hb)
              refine ⟨(v.2.2.2 p y e3).1.fr fqa.1 fun f b hb h1 h2 z => ?_, fun b hb => ⟨p, y, e3, hb⟩⟩
              rcases z with z | ⟨-, z⟩ | z
              · obtain ⟨-, u, u1, u2⟩ := z
                exact ob b (List.mem_cons_of_mem _ (List.mem_flatMap.mpr ⟨u, u1, by rw [u2]; exact adr_1 u⟩)) hb
              · exact ob b (by rw [z]; simp) hb
              · exact phv _ _ h1 h2 z
        refine vdrop_ok v3 upO_s (by show fdp (.leaf : LF) ≤ _; simp [fdp]) fun h4 l4 f4 n4 v4 tg4 a4 => ?_
        have fpt : Fr (PTF (Fa W t)) h h4 := (fqa.1.mono fun g b z => ?_).trans (f4.mono VQ.pt)
        · have fi : Fr (IP W) h h4 := fpt.mono (PTF.ip t32)
          have ftg : ∀ p y, p ≠ (1, wi, t, k.length) → o p = some y → h4.R 3718 y.1 = h.R 3718 y.1 := fun p y hp hy => by
            have n1 : p ≠ (5, wi, sl, 1) := fun e => by rw [e, hsl] at hy; cases hy
            have n2 : ¬ (p.1 = 1 ∧ p.2.1 = wi ∧ p.2.2.1 = t ∧ k.length ≤ p.2.2.2) := fun z => by
              obtain ⟨p1, p2, p3, p4⟩ := p
              obtain ⟨d1, d2, d3, d4⟩ : p1 = 1 ∧ p2 = wi ∧ p3 = t ∧ k.length ≤ p4 := z
              subst d1; subst d2; subst d3
              have : p4 ≠ k.length := fun e => hp (by rw [e])
              rw [m7 p4 (by show k.length + 1 ≤ p4; omega)] at hy
              cases hy
            rw [tg4 p y (by simpa using n1) (by rw [upO_n n1 n2]; exact hy), fqa.1.R (np _ _ (by decide) (by decide) (by decide) (by decide) (by decide))]
          have rk : ∀ r, rad (uO (upO o wi t k.length sl (a, kx, nx', .leaf) ps) (5, wi, sl, 1) none) wi r = rad o wi r := rdk fun r => by
            rw [uO_n rsl_3, upO_n rsl_3 (fun z => ?_)]
            obtain ⟨i, n⟩ := r
            cases i with
            | zero => exact absurd z.1 (by show (3 : Nat) ≠ 1; omega)
            | succ j => exact absurd z.1 (by show (2 : Nat) ≠ 1; omega)
          have nq := VQ.no (l := fmF) rfl
          refine k_X1_unpack_52 oo (kk h4 l4 _ ⟨fi, fun p hp => ?_⟩ ⟨c.ip fi, v4, ?_, ?_, hg, ?_⟩)
          · by_cases n1 : p = (5, wi, sl, 1)
            · subst n1
              exact ⟨by rw [uO_s, hsl], fun u hu => by rw [hsl] at hu; cases hu⟩
            have n2 : ¬ (p.1 = 1 ∧ p.2.1 = wi ∧ p.2.2.1 = t ∧ k.length ≤ p.2.2.2) := fun z => by
              obtain ⟨p1, p2, p3, p4⟩ := p
              obtain ⟨z1, z2, -, -⟩ := z
              rcases hp with hp | hp
              · have hp : p1 = 0 ∨ 3 < p1 := hp
                have z1 : p1 = 1 := z1
                omega
              · exact hp z2
            exact ⟨by rw [uO_n n1, upO_n n1 n2], fun u hu => ftg p u (OUT.ne hp (by omega)) hu⟩
          · unfold sK
            refine w.top ht fpt (fun p hp => ?_) (fun p y hp1 hp2 hp3 hy => ftg p y (fun e => by subst e; exact hp3 rfl) hy) (fun j hj r _ a' ha => by rw [rk]; exact ha) ?_
            · by_cases e : p = (5, wi, sl, 1)
              · rw [e, uO_s, hsl]
              · rw [uO_n e, upO_n e (fun z => ?_)]
                rcases hp with y | y
                · rw [z.1] at y; omega
                · exact y.2.2 z.2.2.1
            · rw [tpt ht, efl]
              have tk : ps.take ps.length = ps := List.take_length
              refine ⟨⟨?_, ?_, ?_, ?_, ?_⟩, ?_, fun i hi => ?_, ?_, fun i hi => ?_⟩
              · rw [f4.R (nq _ _ rfl), fqa.1.R (np _ _ (by decide) (by decide) (by decide) (by decide) (by decide))]; exact m1
              · rw [f4.R (nq _ _ rfl), fqa.1.R (np _ _ (by decide) (by decide) (by decide) (by decide) (by decide))]; exact m2
              · rw [f4.I (nq _ _ rfl), fqa.1.I (np _ _ (by decide) (by decide) (by decide) (by decide) (by decide))]; exact m3
              · rw [f4.I (nq _ _ rfl), g3]
                show _ = nI (((ps.map lvE).reverse.map (Sum.inl : VL → It)) ++ k).length
                simp [Nat.add_comm]
              · show (((ps.map lvE).reverse.map (Sum.inl : VL → It)) ++ k).length ≤ 64
                simp; omega
              · have := StR.ap (h := h4) (o := uO (upO o wi t k.length sl (a, kx, nx', .leaf) ps) (5, wi, sl, 1) none) (wi := wi) (j := t) (F := Fa W t) (ps := ps) (k := k) (s2.keep (fun i hi => ?_) (fun i hi => ?_) (fun i y hi hy => ftg _ y (fun e => by have : i = k.length := congrArg (fun p : Sl => p.2.2.2) e; omega) hy) (fun r _ a' ha => by rw [rk]; exact ha)) (fun i y hy => ⟨?_, ?_⟩) ps.length (Nat.le_refl _)
                · rw [tk] at this; exact this
                · rw [uO_n (fun e => by cases e), upO_n (fun e => by cases e) (fun z => by have : k.length ≤ i := z.2.2.2; omega)]
                · rw [f4.ER (nq _ _ rfl), g4, hk i hi]
                · rw [uO_n (fun e => by cases e), upO_p]; exact hy
                · rw [f4.ER (nq _ _ rfl), g4, he i y hy]
              · have hi : (((ps.map lvE).reverse.map (Sum.inl : VL → It)) ++ k).length ≤ i := hi
                simp at hi
                rw [uO_n (fun e => by cases e), show i = k.length + (i - k.length) by omega, upO_p]
                exact List.getElem?_eq_none (by omega)
              · refine m8.keep (fun i _ => ?_) (fun i _ => ?_) (fun i y hy => ftg _ y (fun e => by cases e) hy) (fun i r _ _ a' ha => by rw [rk]; exact ha)
                · rw [uO_n (fun e => by cases e), upO_n (fun e => by cases e) (fun z => absurd z.1 (by show (2 : Nat) ≠ 1; omega))]
                · rw [f4.ER (nq _ _ rfl), fqa.1.ER (np _ _ (by decide) (by decide) (by decide) (by decide) (by decide))]
              · rw [uO_n (fun e => by cases e), upO_n (fun e => by cases e) (fun z => absurd z.1 (by show (2 : Nat) ≠ 1; omega))]
                exact m9 i hi
          · show h4.R 28 A = some (Fa W (s.1 - 1))
            rw [show s.1 - 1 = t by omega, fpt.R (PTF.no (l := [28]) rfl _ _ rfl)]; exact hf
          · exact hw.fr fpt (fun _ => PTF.no (l := [27]) rfl _ _ rfl) (fun _ => PTF.no (l := [2306]) rfl _ _ rfl)
        · rcases z with z | ⟨z | z, -⟩ | z
          · exact Or.inr (Or.inl (by rw [z.1]; decide))
          · exact Or.inr (Or.inl (by rw [z]; decide))
          · exact Or.inr (Or.inl (by rw [z]; decide))
          · exact PH.pt g b z
      -- the loop
      have key : ∀ (n i : Nat) (hi : AH) (vq : Value), n + i = ps.length → Fq (UP (Fa W t) a ps) h hi → hi.I 2565 (Fa W t) = nI (k.length + i) → (∀ (j : Nat) (y : LV), j < i → ps[j]? = some y → hi.ER 747 (Fa W t + 2) (k.length + j) = some y.1) → (∀ j, j < k.length → hi.ER 747 (Fa W t + 2) j = h.ER 747 (Fa W t + 2) j) → (∀ (j : Nat) (y : LV), i ≤ j → ps[j]? = some y → hi.R 3716 y.1 = h.R 3716 y.1) → V XX K 10 [.ref A, .ref a, va_rf ((ps[i]?).map fun y => y.1), vq] [] hi := by
        intro n
        induction n with
        | zero =>
          intro i hi vq hn fq hh he hk hx
          rw [List.getElem?_eq_none (by omega)]
          refine k_X1_unpack_10 oo (fun _ => ?_) (fun a c => by cases c)
          exact fin hi vq fq (by rw [hh]; congr 1; omega) (fun j y hy => he j y (by have := get_lt hy; omega) hy) hk
        | succ n ih =>
          intro i hi vq hn fq hh he hk hx
          obtain ⟨y, hy⟩ : ∃ y, ps[i]? = some y := ⟨_, List.getElem?_eq_getElem (by omega)⟩
          rw [hy]
          have ty := fq.1.tag (rvp i y hy).1
          have t1 := fq.1.tag t0
          have nx1 : hi.R 3716 y.1 = (ps[i + 1]?).map (fun y => y.1) := by rw [hx i y (Nat.le_refl _) hy]; exact ch.at hy
          refine k_X1_unpack_10 oo (fun c => by cases c) (fun b c => ?_)
          have c : y.1 = b := Option.some.inj c
          rw [← c]
          refine k_X1_unpack_14 oo ?_
          have f1 : Fq (UP (Fa W t) a ps) h (hi.sR 3716 y.1 none) := fq.sR (f := 3716) (a := y.1) (Or.inl ⟨rfl, y, List.mem_iff_getElem?.mpr ⟨i, hy⟩, rfl⟩)
          have g1 : ∀ b, b ≠ y.1 → (hi.sR 3716 y.1 none).R 3716 b = hi.R 3716 b := fun b hb => by simp [n_sI, z_sI, tag_sI, I_sI, J_sI, R_sI, EI_sI, EJ_sI, ER_sI, n_sJ, z_sJ, tag_sJ, I_sJ, J_sJ, R_sJ, EI_sJ, EJ_sJ, ER_sJ, n_sR, z_sR, tag_sR, I_sR, J_sR, R_sR, EI_sR, EJ_sR, ER_sR, n_sEI, z_sEI, tag_sEI, I_sEI, J_sEI, R_sEI, EI_sEI, EJ_sEI, ER_sEI, n_sEJ, z_sEJ, tag_sEJ, I_sEJ, J_sEJ, R_sEJ, EI_sEJ, EJ_sEJ, ER_sEJ, n_sER, z_sER, tag_sER, I_sER, J_sER, R_sER, EI_sER, EJ_sER, ER_sER, n_nw, z_nw, tag_nw, I_nw, J_nw, R_nw, EI_nw, EJ_nw, ER_nw, hb]
          have g2 : (hi.sR 3716 y.1 none).I 2565 (Fa W t) = hi.I 2565 (Fa W t) := rfl
          have g3 : ∀ j, (hi.sR 3716 y.1 none).ER 747 (Fa W t + 2) j = hi.ER 747 (Fa W t + 2) j := fun j => rfl
          generalize hi.sR 3716 y.1 none = h1 at *
          have sf1 : SFr h1 (Fa W t) := by
            obtain ⟨q1, q2, q3, q4, q5⟩ := sf
            exact ⟨f1.1.tag q1, by rw [f1.1.R (np _ _ (by decide) (by decide) (by decide) (by decide) (by decide))]; exact q2, by rw [f1.1.R (np _ _ (by decide) (by decide) (by decide) (by decide) (by decide))]; exact q3, f1.1.tag q4, f1.1.tag q5⟩
          refine cpush_lo (F := Fa W t) (n := k.length + i) (a := y.1) (f1.1.tag t0) (by rw [f1.1.R (np _ _ (by decide) (by decide) (by decide) (by decide) (by decide))]; exact hf) sf1 (by rw [g2, hh]) (by omega) (f1.1.tag (rvp i y hy).1) ?_
          have f2 : Fq (UP (Fa W t) a ps) h ((h1.sER 747 (Fa W t + 2) (k.length + i) (some y.1)).sI 2565 (Fa W t) (nI (k.length + i + 1))) := (f1.sER (t := 747) (a := Fa W t + 2) (Or.inr (Or.inr ⟨Or.inr rfl, by omega, by omega⟩))).sI (f := 2565) (a := Fa W t) (Or.inr (Or.inr ⟨Or.inl rfl, by omega, by omega⟩))
          have g4 : ((h1.sER 747 (Fa W t + 2) (k.length + i) (some y.1)).sI 2565 (Fa W t) (nI (k.length + i + 1))).I 2565 (Fa W t) = nI (k.length + i + 1) := I_same ..
          have g5 : ∀ j, ((h1.sER 747 (Fa W t + 2) (k.length + i) (some y.1)).sI 2565 (Fa W t) (nI (k.length + i + 1))).ER 747 (Fa W t + 2) j = if j = k.length + i then some y.1 else h1.ER 747 (Fa W t + 2) j := fun j => by
            by_cases e : j = k.length + i
            · rw [if_pos e, e]; simp [n_sI, z_sI, tag_sI, I_sI, J_sI, R_sI, EI_sI, EJ_sI, ER_sI, n_sJ, z_sJ, tag_sJ, I_sJ, J_sJ, R_sJ, EI_sJ, EJ_sJ, ER_sJ, n_sR, z_sR, tag_sR, I_sR, J_sR, R_sR, EI_sR, EJ_sR, ER_sR, n_sEI, z_sEI, tag_sEI, I_sEI, J_sEI, R_sEI, EI_sEI, EJ_sEI, ER_sEI, n_sEJ, z_sEJ, tag_sEJ, I_sEJ, J_sEJ, R_sEJ, EI_sEJ, EJ_sEJ, ER_sEJ, n_sER, z_sER, tag_sER, I_sER, J_sER, R_sER, EI_sER, EJ_sER, ER_sER, n_nw, z_nw, tag_nw, I_nw, J_nw, R_nw, EI_nw, EJ_nw, ER_nw]
            · rw [if_neg e]; simp [n_sI, z_sI, tag_sI, I_sI, J_sI, R_sI, EI_sI, EJ_sI, ER_sI, n_sJ, z_sJ, tag_sJ, I_sJ, J_sJ, R_sJ, EI_sJ, EJ_sJ, ER_sJ, n_sR, z_sR, tag_sR, I_sR, J_sR, R_sR, EI_sR, EJ_sR, ER_sR, n_sEI, z_sEI, tag_sEI, I_sEI, J_sEI, R_sEI, EI_sEI, EJ_sEI, ER_sEI, n_sEJ, z_sEJ, tag_sEJ, I_sEJ, J_sEJ, R_sEJ, EI_sEJ, EJ_sEJ, ER_sEJ, n_sER, z_sER, tag_sER, I_sER, J_sER, R_sER, EI_sER, EJ_sER, ER_sER, n_nw, z_nw, tag_nw, I_nw, J_nw, R_nw, EI_nw, EJ_nw, ER_nw, e]
          have g6 : ∀ b, ((h1.sER 747 (Fa W t + 2) (k.length + i) (some y.1)).sI 2565 (Fa W t) (nI (k.length + i + 1))).R 3716 b = h1.R 3716 b := fun b => rfl
          generalize (h1.sER 747 (Fa W t + 2) (k.length + i) (some y.1)).sI 2565 (Fa W t) (nI (k.length + i + 1)) = h2 at *
          refine k_X1_unpack_29 oo ?_
          refine ih (i + 1) h2 _ (by omega) f2 g4 (fun j u hj hu => ?_) (fun j hj => ?_) (fun j u hj hu => ?_)
          · rw [g5]
            by_cases e : j = i
            · subst e
              rw [if_pos rfl]
              rw [hy] at hu
              cases hu
              rfl
            · rw [if_neg (by omega), g3]
              exact he j u (by omega) hu
          · rw [g5, if_neg (by omega), g3]; exact hk j hj
          · rw [g6, g1 u.1 (pd j i u y (by omega) hu hy)]
            exact hx j u (by omega) hu
      refine k_X1_unpack_0 oo ?_
      refine cpop_lo (F := Fa W t) (n := k.length) (a := a) t0 hf sf m4 (by omega) x2 ?_
      have f1 : Fq (UP (Fa W t) a ps) h (h.sI 2565 (Fa W t) (nI k.length)) := (Fq.refl h).sI (f := 2565) (a := Fa W t) (Or.inr (Or.inr ⟨Or.inl rfl, by omega, by omega⟩))
      have g1 : (h.sI 2565 (Fa W t) (nI k.length)).I 2565 (Fa W t) = nI k.length := I_same ..
      have g2 : ∀ j, (h.sI 2565 (Fa W t) (nI k.length)).ER 747 (Fa W t + 2) j = h.ER 747 (Fa W t + 2) j := fun j => rfl
      have g3 : ∀ b, (h.sI 2565 (Fa W t) (nI k.length)).R 3716 b = h.R 3716 b := fun b => rfl
      have g4 : (h.sI 2565 (Fa W t) (nI k.length)).R 3715 a = (ps[0]?).map (fun y => y.1) := by
        show h.R 3715 a = _
        rw [show h.R 3715 a = ps.head?.map (fun y => y.1) from fs]
        cases ps <;> rfl
      generalize h.sI 2565 (Fa W t) (nI k.length) = h1 at *
      have ta1 := f1.1.tag ra
      refine k_X1_unpack_4 oo ?_
      exact key ps.length 0 h1 _ (by omega) f1 g1 (fun j y hj => by omega) (fun j _ => g2 j) (fun j y _ _ => g3 _)
end
