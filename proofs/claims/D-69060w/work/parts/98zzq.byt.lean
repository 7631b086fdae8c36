/-! a worker of the component's: digests of bytes -/
/-- the digest at hand -/
def DGR (G : Gt) (h : AH) (A : Nat) : Prop := ∃ TR D, h.R 19 A = some TR ∧ h.tag TR = some (14, 0) ∧ h.R 1792 TR = some D ∧ SDg h D ∧ CR G h
def dgvF : List Nat := [2, 1920, 1921, 1922, 1923, 10000 + 576]
theorem dgv_no : ∀ f a, dgvF.contains f = true → ¬ VQ f a := VQ.no rfl
theorem dgf_v : ∀ g a, VQ g a → ¬ FS dgF g a := FS.vq rfl
section
variable {G : Gt} {B d : Nat} {h : AH} {l : List Nat} {o : Lc} {wi W A q BA X tt lim SP t : Nat} {snd : Int64} {MA : Ma} {s : Ms} {K : Outcome → AH → Prop}
theorem OPR.dgq {h' : AH} (H : OPR G B h A W q BA X tt snd lim SP wi MA l o s) (f : Fq (FS dgF) h h') : OPR G B h' A W q BA X tt snd lim SP wi MA l o s ∧ OUT wi W h h' o o ∧ av G h' l = av G h l := by
  obtain ⟨a, v, w1, hf, hg, hw⟩ := H
  obtain ⟨v1, tg⟩ := v.oth f dgf_v
  have fi : Fr (IP W) h h' := f.1.mono (FS.ipl rfl)
  exact ⟨⟨a.ip fi, v1, w1.oth f.1 (FS.no rfl), by rw [f.1.R (FS.n rfl)]; exact hf, hg, hw.fr f.1 (fun _ => FS.n rfl) (fun _ => FS.n rfl)⟩, OUT.mk0 fi tg, by unfold av; rw [f.2.1]⟩
theorem OW.cat {n n1 n2 a b : Nat} {l l1 l2 B : List Nat} (p : OW n n1 l (a :: (B ++ l1))) (r : OW n1 n2 l1 (b :: l2)) (hl : ∀ x ∈ l, x < n) (h1 : n ≤ n1) (h2 : n1 ≤ n2) : OW n n2 l (a :: ((B ++ [b]) ++ l2)) := by
  obtain ⟨p1, p2⟩ := p
  obtain ⟨r1, r2⟩ := r
  have lt : ∀ x, x ∈ a :: (B ++ l1) → x < n1 := fun x hx => by
    rcases (p2 x).mp hx with z | z
    · have := hl x z; omega
    · exact z.2
  have hB : ∀ x, x ∈ a :: B → x ∉ b :: l2 := fun x hx hx2 => by
    have hx1 : x ∈ a :: (B ++ l1) := by
      rcases List.mem_cons.mp hx with e | e
      · rw [e]; simp
      · exact List.mem_cons_of_mem _ (List.mem_append_left _ e)
    rcases (r2 x).mp hx2 with z | z
    · rw [← List.cons_append] at p1
      exact (List.nodup_append.mp p1).2.2 x hx x z rfl
    · have := lt x hx1; omega
  rw [← List.cons_append] at p1
  obtain ⟨q1, q2, q3⟩ := List.nodup_append.mp p1
  refine ⟨?_, fun x => ?_⟩
  · rw [List.append_assoc, ← List.cons_append]
    refine List.nodup_append.mpr ⟨q1, r1, fun x hx y hy e => ?_⟩
    subst e
    exact hB x hx hy
  · have e : x ∈ a :: ((B ++ [b]) ++ l2) ↔ x ∈ a :: B ∨ x ∈ b :: l2 := by simp; grind
    rw [e, r2 x]
    have e2 : x ∈ a :: (B ++ l1) ↔ x ∈ a :: B ∨ x ∈ l1 := by simp; grind
    have := p2 x
    rw [e2] at this
    constructor
    · rintro (z | z | z)
      · rcases this.mp (Or.inl z) with u | u
        · exact Or.inl u
        · exact Or.inr (by omega)
      · rcases this.mp (Or.inr z) with u | u
        · exact Or.inl u
        · exact Or.inr (by omega)
      · exact Or.inr (by omega)
    · rintro (z | z)
      · rcases this.mpr (Or.inl z) with u | u
        · exact Or.inl u
        · exact Or.inr (Or.inl u)
      · rcases Nat.lt_or_ge x n1 with u | u
        · rcases this.mpr (Or.inr ⟨z.1, u⟩) with u | u
          · exact Or.inl u
          · exact Or.inr (Or.inl u)
        · exact Or.inr (Or.inr ⟨u, z.2⟩)
theorem cbytes_ok {vv : VL} {ks : List It} (H : OPR G B h A W q BA X tt snd lim SP wi MA l o s) (hD : DGR G h A) (hst : stk s = .inl vv :: ks) (hVW : VW vv) (hav : lim + 8 ≤ av G h l + gas s) (hd : 50 ≤ d) (kk : RZ K G B h A W q BA X tt snd lim SP wi MA o (mpay lim (32 + fln vv.2.2) s fun s => mgo (sK s (.inl (7, (0, 0), fof (hby vv.2.2)) :: ks)))) : MW G d e_X1_bytes [.ref A] h K := by
  refine st_X1_bytes fun XX oo hG hDd _ => ?_
  subst hG; subst hDd
  obtain ⟨c, v, w, hf, hg, hw⟩ := id H
  obtain ⟨t, ht⟩ : ∃ t, t + 1 = s.1 := ⟨s.1 - 1, by have := w.1.2.2.1; omega⟩
  rw [show s.1 - 1 = t by omega] at hf
  have t0 := c.1.1
  obtain ⟨x, x1, x2, x3⟩ := H.at ht (b := 0) (v := vv) (by rw [hst]; rfl)
  rw [hst] at x1
  have x1 : o (1, wi, t, ks.length) = some x := x1
  have tx : h.tag x.1 = some (29, 0) := x3.1
  have cx : h.I 3717 x.1 = nI (fln x.2.2.2) := x3.2.2.2.2.1
  have el : fln vv.2.2 = fln x.2.2.2 := by rw [← x2]; exact fer_ln _
  have hl := hVW.1.2.2.1
  refine k_X1_bytes_0 oo ?_
  refine ctop_ok (b := 0) (i := .inl vv) c w hf ht (by rw [hst]; rfl) fun x' q1 _ => ?_
  have : x = x' := by
    rw [hst] at q1
    have q1 : o (1, wi, t, ks.length) = some x' := q1
    rw [x1] at q1; exact Option.some.inj q1
  subst this
  refine k_X1_bytes_5 oo ?_
  rw [nI_add, ← el]
  refine cpay_ok (k := fun s => mgo (sK s (.inl (7, (0, 0), fof (hby vv.2.2)) :: ks))) H (by omega) (by omega) (fun h1 s1 u1 H1 es1 av1 em => ?_) (fun em => by rw [em] at kk; exact kk)
  rw [em] at kk
  subst es1
  have kk : ∀ h' l' o', OUT wi W h h' o o' → OPR XX.G B h' A W q BA X tt snd lim SP wi MA l' o' (sK (sG s (gas s + (32 + fln vv.2.2))) (.inl (7, (0, 0), fof (hby vv.2.2)) :: ks)) → K (.returned none) h' := kk
  have hg1 : gas s + (32 + fln vv.2.2) ≤ lim := H1.2.2.2.2.1
  have hst1 : stk (sG s (gas s + (32 + fln vv.2.2))) = .inl vv :: ks := hst
  have ht1 : t + 1 = (sG s (gas s + (32 + fln vv.2.2))).1 := ht
  generalize sG s (gas s + (32 + fln vv.2.2)) = s1 at *
  have hg1' : gas s1 ≤ lim := H1.2.2.2.2.1
  obtain ⟨TR, D, d1, d2, d3, d4, d5⟩ := hD
  have ui : ∀ g a, [19, 1792, 1920, 1921, 1922, 1923, 10000 + 4096].contains g = true → ¬ IP W g a := IP.no rfl
  have t1 := H1.1.1.1
  have d1' : h1.R 19 A = some TR := by rw [u1.1.R (ui _ _ rfl)]; exact d1
  have d2' := u1.1.tag d2
  have d3' : h1.R 1792 TR = some D := by rw [u1.1.R (ui _ _ rfl)]; exact d3
  have sdf : ∀ h', Fr (IP W) h h' → SDg h' D := fun h' f => by
    obtain ⟨⟨b1, b2, b3, b4, b5⟩, b6, b7, b8, b9⟩ := d4
    exact ⟨⟨f.tag b1, by rw [f.R (ui _ _ rfl)]; exact b2, by rw [f.R (ui _ _ rfl)]; exact b3, by rw [f.R (ui _ _ rfl)]; exact b4, by rw [f.R (ui _ _ rfl)]; exact b5⟩, f.tag b6, f.tag b7, f.tag b8, f.tag b9⟩
  have crf : ∀ h', Fr (IP W) h h' → CR XX.G h' := fun h' f => ⟨f.tag d5.1, fun t ht => by rw [f.EI (ui _ _ rfl)]; exact d5.2 t ht⟩
  have tD := (sdf h1 u1.1).1.1
  refine k_X1_bytes_17 oo ?_
  refine dbegin_ok (sdf h1 u1.1) fun h2 f2 dg2 => ?_
  -- bytes go into the digest
  have x3' : RVL h1 x := (H1.2.1.2.2.2 _ x x1).1
  obtain ⟨ch, fs⟩ := RF.chn x3'.2.2.2.2.2
  generalize hps : llo x.2.2.2 = ps at *
  have efl : flo vv.2.2 = ps.map lvE := by rw [← x2]; show flo (fer x.2.2.2) = _; rw [flo_fer, hps]
  have epl : ps.length = fln vv.2.2 := by rw [← flo_len, efl, List.length_map]
  have rvp : ∀ (j : Nat) (y : LV), ps[j]? = some y → RVL h1 y := fun j y hy => RF.at x3'.2.2.2.2.2 (by rw [hps]; exact hy)
  generalize hBB : ps.map (fun y : LV => i8 y.2.2.1.2.toInt32) = BB at *
  have hBl : BB.length = ps.length := by rw [← hBB]; simp
  have eBB : (flo vv.2.2).map (fun v => i8 v.2.1.2.toInt32) = BB := by rw [efl, List.map_map, ← hBB]; rfl
  have key1 : ∀ (n i : Nat) (hi : AH), n + i = ps.length → Fq (FS dgF) h1 hi → DG hi D (BB.take i) → (∀ h3, Fq (FS dgF) h1 h3 → DG h3 D BB → V XX K 55 [.ref A, .ref x.1, .ref D, .null, nov, nov, nov] [] h3) → V XX K 34 [.ref A, .ref x.1, .ref D, va_rf ((ps[i]?).map fun y => y.1), nov, nov, nov] [] hi := by
    intro n
    induction n with
    | zero =>
      intro i hi hn fq dg fin
      rw [List.getElem?_eq_none (by omega)]
      refine k_X1_bytes_34 oo (fun _ => ?_) (fun a c => by cases c)
      rw [List.take_of_length_le (by omega)] at dg
      exact fin hi fq dg
    | succ n ih =>
      intro i hi hn fq dg fin
      obtain ⟨y, hy⟩ : ∃ y, ps[i]? = some y := ⟨_, List.getElem?_eq_getElem (by omega)⟩
      rw [hy]
      have ty := fq.1.tag (rvp i y hy).1
      have ly : hi.J 3714 y.1 = y.2.2.1.2 := by rw [fq.1.J (FS.n rfl)]; exact (rvp i y hy).2.2.2.1
      have nxt : h1.R 3716 y.1 = (ps[i + 1]?).map (fun y => y.1) := ch.at hy
      have tDi := fq.1.tag tD
      refine k_X1_bytes_34 oo (fun c => by cases c) (fun b cc => ?_)
      have cc : y.1 = b := Option.some.inj cc
      rw [← cc]
      refine k_X1_bytes_38 oo ?_
      refine dadd_ok dg (crf hi (u1.1.trans (fq.1.mono (FS.ipl rfl)))) (by rw [List.length_take]; omega) (by omega) fun h3 f3 dg3 => ?_
      have fq3 := fq.trans f3
      have ty3 := fq3.1.tag (rvp i y hy).1
      have nx3 : h3.R 3716 y.1 = (ps[i + 1]?).map (fun y => y.1) := by rw [fq3.1.R (FS.n rfl)]; exact nxt
      refine k_X1_bytes_47 oo ?_
      refine ih (i + 1) h3 (by omega) fq3 ?_ fin
      have : BB.take (i + 1) = BB.take i ++ [i8 y.2.2.1.2.toInt32] := by
        rw [List.take_add_one, ← hBB, List.getElem?_map, hy]; rfl
      rw [this]; exact dg3
  have f2h : h2.R 3715 x.1 = (ps[0]?).map (fun y => y.1) := by
    rw [f2.1.R (FS.n rfl), show h1.R 3715 x.1 = ps.head?.map (fun y => y.1) from fs]
    cases ps <;> rfl
  have tx2 := f2.1.tag x3'.1
  refine k_X1_bytes_29 oo ?_
  refine key1 ps.length 0 h2 (by omega) f2 dg2 fun h3 f3 dg3 => ?_
  -- the digest ends
  have tD3 := f3.1.tag tD
  refine k_X1_bytes_55 oo ?_
  refine dend_ok dg3 (crf h3 (u1.1.trans (f3.1.mono (FS.ipl rfl)))) (by omega) (by omega) fun h4 f4 sd4 wd4 => ?_
  have f34 := f3.trans f4
  obtain ⟨H4, u4, av4⟩ := H1.dgq f34
  obtain ⟨sl, hsl⟩ := H4.2.1.slot wi
  have t4 := H4.1.1.1
  have r4 := H4.1.1.2.1
  have p4 := H4.2.1.1
  have hl4 := H4.2.1.2.2.1.1
  have tq4 := p4.1
  refine k_X1_bytes_59 oo ?_
  refine take_ok p4 (by omega) (by omega) fun h5 a l5 f5 w5 p5 v5 r5 n5 tg5 => ?_
  refine k_X1_bytes_68 oo ?_
  have vpn : ∀ g b, VP l h4.n g b → VQ g b := fun g b z => VP.q g b z
  -- bytes of the digest
  have fin2 : ∀ h6 l6 last (bs : List LV) v6, Fr (VP l h4.n) h4 h6 → OW h4.n h6.n l (a :: (bs.map (fun y => y.1) ++ l6)) → PL XX.G h6 q l6 → av XX.G h6 l6 + (1 + 32) = av XX.G h4 l → bs.length = 32 → (∀ (j : Nat) (y : LV), bs[j]? = some y → y.2 = (2, (0, lN (dby BB j)), .leaf) ∧ RVL h6 y) → CHN h6 bs → h6.R 3715 a = bs.head?.map (fun y => y.1) → (h6.tag a = some (29, 0) ∧ h6.I 3712 a = nI 7 ∧ h6.J 3713 a = 0 ∧ h6.J 3714 a = 0) → V XX K 151 [.ref A, .ref x.1, .ref D, .ref a, last, .int (nI 32), v6] [] h6 := fun h6 l6 last bs v6 g1 g2 g3 g4 g5 g6 g7 g8 g9 => by
    have tA : h6.tag A = some (0, 0) := g1.tag t4
    have ta := g9.1
    refine k_X1_bytes_151 oo ?_
    have f7 : Fq (P1 3717 a) h6 (h6.sI 3717 a (nI 32)) := (Fq.refl h6).sI P1.i
    have e7 : (h6.sI 3717 a (nI 32)).I 3717 a = nI 32 := I_same ..
    have e8 : ∀ b, (h6.sI 3717 a (nI 32)).R 3716 b = h6.R 3716 b := fun b => rfl
    have e9 : (h6.sI 3717 a (nI 32)).R 3715 a = h6.R 3715 a := rfl
    generalize h6.sI 3717 a (nI 32) = h7 at *
    have np : ∀ g b, g ≠ 3717 → ¬ P1 3717 a g b := fun g b h1 z => h1 z.1
    have npa : ∀ g b, b ≠ a → ¬ P1 3717 a g b := fun g b h1 z => h1 z.2
    have amem : a ∈ l ∨ h4.n ≤ a := by
      rcases (g2.2 a).mp (by simp) with z | z
      · exact Or.inl z
      · exact Or.inr z.1
    have vp7 : Fr (VP l h4.n) h4 h7 := g1.trans (f7.1.mono fun g b z => Or.inl (by rw [z.1, z.2]; exact ⟨by decide, by decide, amem⟩))
    have bna : ∀ (j : Nat) (y : LV), bs[j]? = some y → y.1 ≠ a := fun j y hy e => by
      have := g2.1
      rw [List.nodup_cons] at this
      exact this.1 (List.mem_append_left _ (List.mem_map.mpr ⟨y, List.mem_iff_getElem?.mpr ⟨j, hy⟩, e⟩))
    have rv7 : ∀ y ∈ bs, RVL h7 y := fun y hy => by
      obtain ⟨j, hj⟩ := List.mem_iff_getElem?.mp hy
      obtain ⟨q1, q2⟩ := g6 j y hj
      refine q2.fr f7.1 fun f b hb _ _ => npa f b fun e => ?_
      have hb : b ∈ y.1 :: fad y.2.2.2 := hb
      rw [show y.2.2.2 = .leaf from (by rw [q1])] at hb
      have hb : b ∈ [y.1] := hb
      exact bna j y hj (by rw [← List.mem_singleton.mp hb, e])
    have ch7 : CHN h7 bs := by
      have : ∀ l : List LV, CHN h6 l → CHN h7 l := fun l => by
        induction l with
        | nil => exact fun _ => trivial
        | cons y r ih => exact fun hh => ⟨by rw [e8]; exact hh.1, ih hh.2⟩
      exact this bs g7
    have rv : RV h7 a 7 (0, 0) (lof bs) := by
      refine ⟨f7.1.tag ta, ?_, ?_, ?_, ?_, ?_⟩
      · rw [f7.1.I (np _ _ (by decide))]; exact g9.2.1
      · rw [f7.1.J (np _ _ (by decide))]; exact g9.2.2.1
      · rw [f7.1.J (np _ _ (by decide))]; exact g9.2.2.2
      · rw [e7, ← llo_len, llo_lof, g5]
      · rw [e9, g8]
        exact CHN.rf rv7 ch7
    have efa : fad (lof bs) = bs.map (fun y => y.1) := by
      rw [fad_lof]
      have : ∀ (l : List LV), (∀ y ∈ l, y.2.2.2 = .leaf) → l.flatMap adr = l.map (fun y => y.1) := fun l => by
        induction l with
        | nil => exact fun _ => rfl
        | cons y r ih =>
          intro hh
          rw [List.flatMap_cons, List.map_cons, ih (fun u hu => hh u (List.mem_cons_of_mem _ hu))]
          show (y.1 :: fad y.2.2.2) ++ _ = _
          rw [hh y (by simp)]
          rfl
      exact this bs fun y hy => by
        obtain ⟨j, hj⟩ := List.mem_iff_getElem?.mp hy
        rw [(g6 j y hj).1]
    have pl7 : PL XX.G h7 q l6 := by
      obtain ⟨b1, b2, b3, b4, b5⟩ := g3
      refine ⟨f7.1.tag b1, ?_, b3, ?_, by rw [f7.2.1]; exact b5⟩
      · rw [f7.1.R (np _ _ (by decide))]
        exact FL.fr f7.1 b2 fun b _ => np _ _ (by decide)
      · unfold RM at *
        rw [f7.2.1, f7.2.2]; exact b4
    obtain ⟨v7, tg7⟩ := H4.2.1.new hsl vp7 (by rw [efa, f7.2.1]; exact g2) pl7 rv
    have fq7 : Fr VQ h4 h7 := vp7.mono vpn
    have fi7 : Fr (IP W) h4 h7 := fq7.mono VQ.ip
    have H7 : OPR XX.G B h7 A W q BA X tt snd lim SP wi MA l6 (uO o (5, wi, sl, 1) (some (a, 7, (0, 0), lof bs))) s1 := ⟨H4.1.ip fi7, v7, (H4.2.2.1.vq fq7 tg7).tmp, by rw [fq7.R (VQ.no (l := [28]) rfl _ _ rfl)]; exact H4.2.2.2.1, hg1', H4.2.2.2.2.2.vq fq7⟩
    have u7 : OUW [(5, wi, sl, 1)] wi W h4 h7 o (uO o (5, wi, sl, 1) (some (a, 7, (0, 0), lof bs))) := OUW.mk1 fi7 fun p y _ hy => tg7 p y (by simp) hy
    refine cdropTop_ok H7 (i := .inl vv) (k := ks) hst1 (fun v hv => by cases hv; have := hVW.1.2.1; omega) (by omega) fun h8 l8 o8 u8 H8 a8 f8 o8e => ?_
    have t8 := H8.1.1.1
    have o8t : o8 (5, wi, sl, 1) = some (a, 7, (0, 0), lof bs) := by rw [o8e _ (fun e => by cases e), uO_s]
    refine k_X1_bytes_161 oo ?_
    have hk64 : ks.length < 64 := by have := H.hd; rw [hst] at this; simp at this; omega
    refine H8.pushT (z := (a, 7, (0, 0), lof bs)) (by rw [stk_K]; exact hk64) o8t fun h9 o9 u9 H9 _ => ?_
    have ev : lvE (a, 7, (0, 0), lof bs) = (7, (0, 0), fof (hby vv.2.2)) := by
      show ((7, (0, 0), fer (lof bs)) : VL) = _
      rw [fer_lof]
      have : bs.map lvE = hby vv.2.2 := by
        unfold hby
        rw [eBB]
        refine List.ext_getElem? fun j => ?_
        rw [List.getElem?_map, List.getElem?_map]
        rcases Nat.lt_or_ge j 32 with cj | cj
        · obtain ⟨y, hy⟩ : ∃ y, bs[j]? = some y := ⟨_, List.getElem?_eq_getElem (by omega)⟩
          rw [hy, List.getElem?_range cj]
          show some ((y.2.1, y.2.2.1, fer y.2.2.2) : VL) = some _
          rw [(g6 j y hy).1]
          rfl
        · rw [List.getElem?_eq_none (by omega), List.getElem?_eq_none (by simp; omega)]
          rfl
      rw [this]
    rw [ev] at H9
    have em' : mpu (sK s1 ks) (.inl (7, (0, 0), fof (hby vv.2.2))) = sK s1 (.inl (7, (0, 0), fof (hby vv.2.2)) :: ks) := by unfold mpu; rw [stk_K, stkK]
    rw [em'] at H9
    exact k_X1_bytes_166 oo (kk h9 l8 o9 (((((u1.trans u4).ouw u7).out u8).trans u9.1).cl1 hsl u9.2) H9)
  have key2 : ∀ (n i : Nat) (hi : AH) (li : List Nat) (bs : List LV) (v6 : Value), n + i = 32 → Fr (VP l h4.n) h4 hi → OW h4.n hi.n l (a :: (bs.map (fun y => y.1) ++ li)) → PL XX.G hi q li → av XX.G hi li + (1 + i) = av XX.G h4 l → bs.length = i → (∀ (j : Nat) (y : LV), bs[j]? = some y → y.2 = (2, (0, lN (dby BB j)), .leaf) ∧ RVL hi y) → CHN hi bs → hi.R 3715 a = bs.head?.map (fun y => y.1) → (hi.tag a = some (29, 0) ∧ hi.I 3712 a = nI 7 ∧ hi.J 3713 a = 0 ∧ hi.J 3714 a = 0) → V XX K 75 [.ref A, .ref x.1, .ref D, .ref a, va_rf (bs.getLast?.map fun y => y.1), .int (nI i), v6] [] hi := by
    intro n
    induction n with
    | zero =>
      intro i hi li bs v6 hn g1 g2 g3 g4 g5 g6 g7 g8 g9
      have : i = 32 := by omega
      subst this
      refine k_X1_bytes_75 oo (fun _ => ?_) (fun cc => absurd ((nI_leI (by omega) (by omega)).mpr (Nat.le_refl _)) cc)
      exact fin2 hi li _ bs v6 g1 g2 g3 g4 g5 g6 g7 g8 g9
    | succ n ih =>
      intro i hi li bs v6 hn g1 g2 g3 g4 g5 g6 g7 g8 g9
      refine k_X1_bytes_75 oo (fun cc => absurd ((nI_leI (by omega) (by omega)).mp cc) (by omega)) (fun _ => ?_)
      have tA : hi.tag A = some (0, 0) := g1.tag t4
      have nvq : ∀ g b, dgvF.contains g = true → ¬ VP l h4.n g b := fun g b hg z => dgv_no g b hg (vpn g b z)
      have pA : hi.R 2 A = some q := by rw [g1.R (nvq _ _ rfl)]; exact r4
      have tDi := g1.tag sd4.1.1
      have sdi : SDg hi D := by
        obtain ⟨⟨b1, b2, b3, b4, b5⟩, b6, b7, b8, b9⟩ := sd4
        exact ⟨⟨g1.tag b1, by rw [g1.R (nvq _ _ rfl)]; exact b2, by rw [g1.R (nvq _ _ rfl)]; exact b3, by rw [g1.R (nvq _ _ rfl)]; exact b4, by rw [g1.R (nvq _ _ rfl)]; exact b5⟩, g1.tag b6, g1.tag b7, g1.tag b8, g1.tag b9⟩
      have e8 : ¬ nI 8 = 0 := by decide
      refine k_X1_bytes_82 oo ?_
      rw [nI_div (by omega) (by omega) (by omega)]
      refine dnumber_ok (bs := BB) sdi (fun j hj => by rw [g1.EI (nvq _ _ rfl)]; exact wd4 j hj) (by omega) ?_
      have tqi := g3.1
      refine k_X1_bytes_99 oo ?_
      rw [nI_mod (by omega) (by omega) (by omega), nI_mul, nI_sub (by omega)]
      have eby : ((digq BB (i / 8) >>> ((nI (56 - 8 * (i % 8))).toInt64 &&& 63)) &&& (255 : Int64)) = lN (dby BB i) := un_inj (by
        rw [dby_c BB (by omega), un_l (by unfold dby; have := Nat.mod_lt (um (dig BB (i / 4)) / 2 ^ (24 - 8 * (i % 4))) (show 0 < 256 by omega); omega)])
      rw [eby]
      refine number_ok (kd := 2) rfl g3 (by omega) (by omega) fun h6 b l6 f6 w6 p6 a6 r6 n6 tg6 => ?_
      have f6' : Fr (VP l h4.n) h4 h6 := g1.trans (f6.mono (VP.mono fun z hz => by
        rcases hz with hz | hz
        · have : z ∈ a :: (bs.map (fun y => y.1) ++ li) := List.mem_cons_of_mem _ (List.mem_append_right _ hz)
          rcases (g2.2 z).mp this with u | u
          · exact Or.inl u
          · exact Or.inr u.1
        · exact Or.inr (by have := g1.n; omega)))
      have w6' := OW.cat g2 w6 hl4 g1.n f6.n
      have amem : a ∈ l ∨ h4.n ≤ a := by
        rcases (g2.2 a).mp (by simp) with z | z
        · exact Or.inl z
        · exact Or.inr z.1
      have lt : ∀ z, z ∈ a :: (bs.map (fun y => y.1) ++ li) → z < hi.n := fun z hz => by
        rcases (g2.2 z).mp hz with u | u
        · have := hl4 z u; have := g1.n; omega
        · exact u.2
      have nd2 := g2.1
      rw [← List.cons_append] at nd2
      obtain ⟨nd3, nd4, nd5⟩ := List.nodup_append.mp nd2
      -- what was there is as it was
      have stay : ∀ g z, 3712 ≤ g → g ≤ 3718 → z ∈ a :: bs.map (fun y => y.1) → ¬ VP li hi.n g z := fun g z h1 h2 hz => VP.no h1 h2 (fun hz2 => nd5 z hz z hz2 rfl) (lt z (by rw [← List.cons_append]; exact List.mem_append_left _ hz))
      have bmem : ∀ (j : Nat) (y : LV), bs[j]? = some y → y.1 ∈ a :: bs.map (fun y => y.1) := fun j y hy => List.mem_cons_of_mem _ (List.mem_map.mpr ⟨y, List.mem_iff_getElem?.mpr ⟨j, hy⟩, rfl⟩)
      have adl : ∀ (j : Nat) (y : LV), bs[j]? = some y → adr y = [y.1] := fun j y hy => by
        show y.1 :: fad y.2.2.2 = _
        rw [(g6 j y hy).1]; rfl
      have rv6 : ∀ (j : Nat) (y : LV), bs[j]? = some y → RVL h6 y := fun j y hy => (g6 j y hy).2.fr f6 fun f z hz h1 h2 => by
        rw [adl j y hy] at hz
        rw [List.mem_singleton.mp hz]
        exact stay f _ h1 h2 (bmem j y hy)
      have bn : b ∉ a :: bs.map (fun y => y.1) := fun hz => by
        rcases (w6.2 b).mp (by simp) with u | u
        · exact nd5 b hz b u rfl
        · have := lt b (by rw [← List.cons_append]; exact List.mem_append_left _ hz); omega
      have nx6 : ∀ (j : Nat) (y : LV), bs[j]? = some y → h6.R 3716 y.1 = hi.R 3716 y.1 := fun j y hy => f6.R (stay _ _ (by decide) (by decide) (bmem j y hy))
      have a6' : h6.tag a = some (29, 0) ∧ h6.I 3712 a = nI 7 ∧ h6.J 3713 a = 0 ∧ h6.J 3714 a = 0 := ⟨f6.tag g9.1, by rw [f6.I (stay _ _ (by decide) (by decide) (by simp))]; exact g9.2.1, by rw [f6.J (stay _ _ (by decide) (by decide) (by simp))]; exact g9.2.2.1, by rw [f6.J (stay _ _ (by decide) (by decide) (by simp))]; exact g9.2.2.2⟩
      have fa6 : h6.R 3715 a = hi.R 3715 a := f6.R (stay _ _ (by decide) (by decide) (by simp))
      have ch6 : CHN h6 bs := by
        have : ∀ l : List LV, (∀ y ∈ l, y ∈ bs) → CHN hi l → CHN h6 l := fun l => by
          induction l with
          | nil => exact fun _ _ => trivial
          | cons y r ih =>
            intro hh hc
            obtain ⟨j, hj⟩ := List.mem_iff_getElem?.mp (hh y (by simp))
            exact ⟨by rw [nx6 j y hj]; exact hc.1, ih (fun u hu => hh u (List.mem_cons_of_mem _ hu)) hc.2⟩
        exact this bs (fun _ h => h) g7
      have tb6 : h6.tag b = some (29, 0) := r6.1
      -- on
      have go : ∀ h7 u z v7, Fq (P1 u z) h6 h7 → (u = 3715 ∧ z = a ∨ u = 3716 ∧ z ∈ bs.map (fun y => y.1)) → CHN h7 (bs ++ [(b, 2, (0, lN (dby BB i)), .leaf)]) → h7.R 3715 a = (bs ++ [((b, 2, (0, lN (dby BB i)), .leaf) : LV)]).head?.map (fun y => y.1) → V XX K 141 [.ref A, .ref x.1, .ref D, .ref a, v7, .int (nI i), .ref b] [] h7 := fun h7 u z v7 f7 huz ch7 fs7 => by
        refine k_X1_bytes_141 oo ?_
        rw [nI_add]
        have hz : z ∈ a :: bs.map (fun y => y.1) := by
          rcases huz with e | e
          · rw [e.2]; simp
          · exact List.mem_cons_of_mem _ e.2
        have hu : 3712 ≤ u ∧ u ≤ 3718 ∧ u ≠ 3712 ∧ u ≠ 3713 ∧ u ≠ 3714 ∧ u ≠ 1280 := by
          rcases huz with e | e <;> (rw [e.1]; decide)
        have zl : z ∉ l6 := fun e => by
          have := w6'.1
          rw [List.append_assoc, ← List.cons_append] at this
          exact (List.nodup_append.mp this).2.2 z hz z (List.mem_append_right _ e) rfl
        have np : ∀ g, g ≠ u → ∀ z', ¬ P1 u z g z' := fun g h1 z' h2 => h1 h2.1
        have lt6 : ∀ z, z ∈ l6 → z < h6.n := fun z hz => by
          rcases (w6.2 z).mp (List.mem_cons_of_mem _ hz) with u | u
          · have := lt z (List.mem_cons_of_mem _ (List.mem_append_right _ u)); have := f6.n; omega
          · exact u.2
        have zm : z ∈ l ∨ h4.n ≤ z := by
          have : z ∈ a :: (bs.map (fun y => y.1) ++ li) := by rw [← List.cons_append]; exact List.mem_append_left _ hz
          rcases (g2.2 z).mp this with u | u
          · exact Or.inl u
          · exact Or.inr u.1
        have pl7 : PL XX.G h7 q l6 := by
          obtain ⟨b1, b2, b3, b4, b5⟩ := p6
          refine ⟨f7.1.tag b1, ?_, b3, ?_, by rw [f7.2.1]; exact b5⟩
          · rw [f7.1.R (np _ (fun e => hu.2.2.2.2.2 e.symm) _)]
            exact FL.fr f7.1 b2 fun b' hb' e => zl (by rw [← e.2]; exact hb')
          · unfold RM at *
            rw [f7.2.1, f7.2.2]; exact b4
        have sub7 : ∀ y : LV, RVL h6 y → y.2.2.2 = .leaf → (u = 3715 → y.1 ≠ z) → RVL h7 y := fun y ry hlf hne => by
          obtain ⟨c1, c2, c3, c4, c5, c6⟩ := ry
          have hcnt : u ≠ 3717 := by rcases huz with e | e <;> (rw [e.1]; decide)
          refine ⟨f7.1.tag c1, by rw [f7.1.I (np _ (fun e => hu.2.2.1 e.symm) _)]; exact c2, by rw [f7.1.J (np _ (fun e => hu.2.2.2.1 e.symm) _)]; exact c3, by rw [f7.1.J (np _ (fun e => hu.2.2.2.2.1 e.symm) _)]; exact c4, by rw [f7.1.I (np _ (fun e => hcnt e.symm) _)]; exact c5, ?_⟩
          rw [f7.1.R (fun e => hne e.1.symm e.2)]
          rw [hlf] at c6 ⊢
          exact c6
        have av7 : av XX.G h7 l6 = av XX.G h6 l6 := by unfold av; rw [f7.2.1]
        have e7 : (bs ++ [((b, 2, (0, lN (dby BB i)), .leaf) : LV)]).getLast?.map (fun y => y.1) = some b := by rw [List.getLast?_append]; rfl
        have := ih (i + 1) h7 l6 (bs ++ [(b, 2, (0, lN (dby BB i)), .leaf)]) (.ref b) (by omega) (f6'.trans (f7.1.mono fun g z' e => Or.inl (by rw [e.1, e.2]; exact ⟨hu.1, hu.2.1, zm⟩))) (by rw [f7.2.1, List.map_append]; exact w6') pl7 (by omega) (by simp [g5]) (fun j y hy => ?_) ch7 fs7 ⟨f7.1.tag a6'.1, by rw [f7.1.I (np _ (fun e => hu.2.2.1 e.symm) _)]; exact a6'.2.1, by rw [f7.1.J (np _ (fun e => hu.2.2.2.1 e.symm) _)]; exact a6'.2.2.1, by rw [f7.1.J (np _ (fun e => hu.2.2.2.2.1 e.symm) _)]; exact a6'.2.2.2⟩
        · rw [e7] at this
          exact this
        · rcases Nat.lt_or_ge j bs.length with cj | cj
          · rw [List.getElem?_append_left cj] at hy
            refine ⟨(g6 j y hy).1, sub7 y (rv6 j y hy) (by rw [(g6 j y hy).1]) fun hu' e => ?_⟩
            rcases huz with e' | e'
            · have := nd3
              rw [List.nodup_cons] at this
              exact this.1 (by rw [← e'.2, ← e]; exact List.mem_map.mpr ⟨y, List.mem_iff_getElem?.mpr ⟨j, hy⟩, rfl⟩)
            · rw [e'.1] at hu'; exact absurd hu' (by decide)
          · rw [List.getElem?_append_right cj] at hy
            have hj : j - bs.length = 0 := by
              rcases Nat.eq_zero_or_pos (j - bs.length) with z | z
              · exact z
              · rw [List.getElem?_eq_none (by simp; omega)] at hy; cases hy
            rw [hj] at hy
            cases hy
            rw [show j = i by omega]
            exact ⟨rfl, sub7 (b, 2, (0, lN (dby BB i)), .leaf) r6 rfl fun _ e => bn (by rw [show b = z from e]; exact hz)⟩
      refine k_X1_bytes_118 oo (fun hln => ?_) (fun y' hln => ?_)
      · have e0 : bs = [] := by
          cases hgl : bs.getLast? with
          | none => exact List.getLast?_eq_none_iff.mp hgl
          | some y => rw [hgl] at hln; cases hln
        have ta6 := a6'.1
        refine k_X1_bytes_125 oo ?_
        refine go _ 3715 a _ ((Fq.refl h6).sR P1.i) (Or.inl ⟨rfl, rfl⟩) ?_ ?_
        · rw [e0]
          refine ⟨?_, trivial⟩
          show (h6.sR 3715 a (some b)).R 3716 b = none
          simp [n_sI, z_sI, tag_sI, I_sI, J_sI, R_sI, EI_sI, EJ_sI, ER_sI, n_sJ, z_sJ, tag_sJ, I_sJ, J_sJ, R_sJ, EI_sJ, EJ_sJ, ER_sJ, n_sR, z_sR, tag_sR, I_sR, J_sR, R_sR, EI_sR, EJ_sR, ER_sR, n_sEI, z_sEI, tag_sEI, I_sEI, J_sEI, R_sEI, EI_sEI, EJ_sEI, ER_sEI, n_sEJ, z_sEJ, tag_sEJ, I_sEJ, J_sEJ, R_sEJ, EI_sEJ, EJ_sEJ, ER_sEJ, n_sER, z_sER, tag_sER, I_sER, J_sER, R_sER, EI_sER, EJ_sER, ER_sER, n_nw, z_nw, tag_nw, I_nw, J_nw, R_nw, EI_nw, EJ_nw, ER_nw]; exact n6
        · rw [e0]
          show (h6.sR 3715 a (some b)).R 3715 a = some b
          simp [n_sI, z_sI, tag_sI, I_sI, J_sI, R_sI, EI_sI, EJ_sI, ER_sI, n_sJ, z_sJ, tag_sJ, I_sJ, J_sJ, R_sJ, EI_sJ, EJ_sJ, ER_sJ, n_sR, z_sR, tag_sR, I_sR, J_sR, R_sR, EI_sR, EJ_sR, ER_sR, n_sEI, z_sEI, tag_sEI, I_sEI, J_sEI, R_sEI, EI_sEI, EJ_sEI, ER_sEI, n_sEJ, z_sEJ, tag_sEJ, I_sEJ, J_sEJ, R_sEJ, EI_sEJ, EJ_sEJ, ER_sEJ, n_sER, z_sER, tag_sER, I_sER, J_sER, R_sER, EI_sER, EJ_sER, ER_sER, n_nw, z_nw, tag_nw, I_nw, J_nw, R_nw, EI_nw, EJ_nw, ER_nw]
      · obtain ⟨u, u1, u2⟩ := Option.map_eq_some_iff.mp hln
        have umem : u ∈ bs := by
          rw [List.getLast?_eq_getElem?] at u1
          exact List.mem_iff_getElem?.mpr ⟨_, u1⟩
        obtain ⟨ju, hju⟩ := List.mem_iff_getElem?.mp umem
        have u2 : u.1 = y' := u2
        rw [← u2]
        have tu6 := (rv6 ju u hju).1
        have ubn : u.1 ≠ b := fun e => bn (by rw [← e]; exact bmem ju u hju)
        refine k_X1_bytes_134 oo ?_
        refine go _ 3716 u.1 _ ((Fq.refl h6).sR P1.i) (Or.inr ⟨rfl, List.mem_map.mpr ⟨u, umem, rfl⟩⟩) ?_ ?_
        · refine ch6.snoc (fun y hy => ?_) (fun y hy => ?_) ?_
          · obtain ⟨n', hn'⟩ := List.mem_iff_getElem?.mp hy
            rw [List.getElem?_dropLast] at hn'
            split at hn'
            · rename_i hlt
              have hne : y.1 ≠ u.1 := fun e => by
                have := nd3
                rw [List.nodup_cons] at this
                have nd6 := this.2
                rw [List.getLast?_eq_getElem?] at u1
                have i1 : (bs.map (fun y => y.1))[n']? = some y.1 := by rw [List.getElem?_map, hn']; rfl
                have i2 : (bs.map (fun y => y.1))[bs.length - 1]? = some u.1 := by rw [List.getElem?_map, u1]; rfl
                have := (List.getElem?_inj (i := n') (j := bs.length - 1) (by simp; omega) nd6).mp (by rw [i1, i2, e])
                omega
              show (h6.sR 3716 u.1 (some b)).R 3716 y.1 = _
              simp [n_sI, z_sI, tag_sI, I_sI, J_sI, R_sI, EI_sI, EJ_sI, ER_sI, n_sJ, z_sJ, tag_sJ, I_sJ, J_sJ, R_sJ, EI_sJ, EJ_sJ, ER_sJ, n_sR, z_sR, tag_sR, I_sR, J_sR, R_sR, EI_sR, EJ_sR, ER_sR, n_sEI, z_sEI, tag_sEI, I_sEI, J_sEI, R_sEI, EI_sEI, EJ_sEI, ER_sEI, n_sEJ, z_sEJ, tag_sEJ, I_sEJ, J_sEJ, R_sEJ, EI_sEJ, EJ_sEJ, ER_sEJ, n_sER, z_sER, tag_sER, I_sER, J_sER, R_sER, EI_sER, EJ_sER, ER_sER, n_nw, z_nw, tag_nw, I_nw, J_nw, R_nw, EI_nw, EJ_nw, ER_nw, hne]
            · cases hn'
          · rw [u1] at hy
            cases hy
            show (h6.sR 3716 u.1 (some b)).R 3716 u.1 = some b
            simp [n_sI, z_sI, tag_sI, I_sI, J_sI, R_sI, EI_sI, EJ_sI, ER_sI, n_sJ, z_sJ, tag_sJ, I_sJ, J_sJ, R_sJ, EI_sJ, EJ_sJ, ER_sJ, n_sR, z_sR, tag_sR, I_sR, J_sR, R_sR, EI_sR, EJ_sR, ER_sR, n_sEI, z_sEI, tag_sEI, I_sEI, J_sEI, R_sEI, EI_sEI, EJ_sEI, ER_sEI, n_sEJ, z_sEJ, tag_sEJ, I_sEJ, J_sEJ, R_sEJ, EI_sEJ, EJ_sEJ, ER_sEJ, n_sER, z_sER, tag_sER, I_sER, J_sER, R_sER, EI_sER, EJ_sER, ER_sER, n_nw, z_nw, tag_nw, I_nw, J_nw, R_nw, EI_nw, EJ_nw, ER_nw]
          · show (h6.sR 3716 u.1 (some b)).R 3716 b = none
            simp [n_sI, z_sI, tag_sI, I_sI, J_sI, R_sI, EI_sI, EJ_sI, ER_sI, n_sJ, z_sJ, tag_sJ, I_sJ, J_sJ, R_sJ, EI_sJ, EJ_sJ, ER_sJ, n_sR, z_sR, tag_sR, I_sR, J_sR, R_sR, EI_sR, EJ_sR, ER_sR, n_sEI, z_sEI, tag_sEI, I_sEI, J_sEI, R_sEI, EI_sEI, EJ_sEI, ER_sEI, n_sEJ, z_sEJ, tag_sEJ, I_sEJ, J_sEJ, R_sEJ, EI_sEJ, EJ_sEJ, ER_sEJ, n_sER, z_sER, tag_sER, I_sER, J_sER, R_sER, EI_sER, EJ_sER, ER_sER, n_nw, z_nw, tag_nw, I_nw, J_nw, R_nw, EI_nw, EJ_nw, ER_nw, ubn.symm]; exact n6
        · show (h6.sR 3716 u.1 (some b)).R 3715 a = _
          rw [show (h6.sR 3716 u.1 (some b)).R 3715 a = h6.R 3715 a from by simp [n_sI, z_sI, tag_sI, I_sI, J_sI, R_sI, EI_sI, EJ_sI, ER_sI, n_sJ, z_sJ, tag_sJ, I_sJ, J_sJ, R_sJ, EI_sJ, EJ_sJ, ER_sJ, n_sR, z_sR, tag_sR, I_sR, J_sR, R_sR, EI_sR, EJ_sR, ER_sR, n_sEI, z_sEI, tag_sEI, I_sEI, J_sEI, R_sEI, EI_sEI, EJ_sEI, ER_sEI, n_sEJ, z_sEJ, tag_sEJ, I_sEJ, J_sEJ, R_sEJ, EI_sEJ, EJ_sEJ, ER_sEJ, n_sER, z_sER, tag_sER, I_sER, J_sER, R_sER, EI_sER, EJ_sER, ER_sER, n_nw, z_nw, tag_nw, I_nw, J_nw, R_nw, EI_nw, EJ_nw, ER_nw], fa6, g8]
          cases hb0 : bs with
          | nil => rw [hb0] at umem; cases umem
          | cons y r => rfl
  obtain ⟨ra, rb', rc, rd, re, rf⟩ := r5
  exact key2 32 0 h5 l5 [] nov (by omega) f5 w5 p5 (by omega) rfl (fun j y hy => by simp at hy) trivial rf ⟨ra, rb', rc, rd⟩
end
