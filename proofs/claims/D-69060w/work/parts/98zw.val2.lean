/-! the component's values, once more: what lies beside a changed value stays -/
theorem replace_ok2 {G : Gt} {d q a b kd kb : Nat} {x y : Int64 × Int64} {c cb : LF} {h : AH} {l : List Nat} {K : Outcome → AH → Prop} (hp : PL G h q l) (hv : RV h a kd x c) (hw : RV h b kb y cb) (hn : (a :: b :: (fad c ++ (fad cb ++ l))).Nodup) (hd : fdp c + 1 ≤ d)
    (kk : ∀ h' l', Fr (VP (a :: b :: (fad c ++ l)) h.n) h h' → OW h.n h'.n (b :: (fad c ++ l)) l' → PL G h' q l' → h'.n = h.n → RV h' a kd y cb → h'.R 3716 a = h.R 3716 a → h'.R 3718 a = h.R 3718 a → K (.returned none) h') : MW G d e_X11_replace [.ref q, .ref a, .ref b] h K := by
  refine st_X11_replace fun X o hG hD hf => ?_
  subst hG; subst hD
  obtain ⟨e2, e3, e4, e5, e6, e7⟩ := id hv
  simp only [List.nodup_cons, List.nodup_append, List.mem_append, List.mem_cons] at hn
  have han := hf.lt hv.1
  have hbn := hf.lt hw.1
  have hcn := RF.lt hf hv.2.2.2.2.2
  have hdn := RF.lt hf hw.2.2.2.2.2
  refine k_X11_replace_0 o ?_
  refine replace_loop c o hp e7 (by simp only [List.nodup_append]; grind) (by omega) fun h1 l1 v g1 w1 r1 m1 => ?_
  have w2 := w1.2
  have w3 := w1.1
  simp only [List.mem_append, m1] at w2
  have na : ∀ f y', (y' = a ∨ y' = b ∨ y' ∈ fad cb) → f ≠ 1280 → ¬ VP (fad c ++ l) h.n f y' := fun f y' hy hf' => VP.out (by simp only [List.mem_append]; grind) (by grind) hf'
  obtain ⟨i2, i3, i4, i5, i6, i7⟩ := RV.fr g1 hw fun f y' hy _ _ => na f y' (by simp only [List.mem_cons] at hy; grind) (by omega)
  have t2 := g1.tag e2
  have j3 : h1.I 3712 a = nI kd := by rw [g1.I (na _ _ (by grind) (by decide))]; exact e3
  have hq := r1.1
  refine k_X11_replace_26 o ?_
  refine k_X11_replace_66 o ?_
  generalize hh : ((((((h1.sJ 3713 a y.1).sJ 3714 a y.2).sR 3715 a (h1.R 3715 b)).sI 3717 a (nI (fln cb))).sR 3716 b (h1.R 1280 q)).sR 1280 q (some b)) = h2
  have f2 : Fr (PO (PO (P1 3713 a) (PO (P1 3714 a) (PO (P1 3715 a) (P1 3717 a)))) (PO (P1 3716 b) (PF 1280))) h1 h2 := by
    rw [← hh]; exact ((((((Fr.refl h1).sJ (PO.l (PO.l P1.i))).sJ (PO.l (PO.r (PO.l P1.i)))).sR (PO.l (PO.r (PO.r (PO.l P1.i))))).sI (PO.l (PO.r (PO.r (PO.r P1.i))))).sR (PO.r (PO.l P1.i))).sR (PO.r (PO.r PF.i))
  have m2 : h2.n = h1.n := by rw [← hh]; rfl
  have z2 : h2.z = h1.z := by rw [← hh]; rfl
  have hab : a ≠ b := by grind
  have q1 : h2.J 3713 a = y.1 := by rw [← hh]; simp [n_sI, z_sI, tag_sI, I_sI, J_sI, R_sI, EI_sI, EJ_sI, ER_sI, n_sJ, z_sJ, tag_sJ, I_sJ, J_sJ, R_sJ, EI_sJ, EJ_sJ, ER_sJ, n_sR, z_sR, tag_sR, I_sR, J_sR, R_sR, EI_sR, EJ_sR, ER_sR, n_sEI, z_sEI, tag_sEI, I_sEI, J_sEI, R_sEI, EI_sEI, EJ_sEI, ER_sEI, n_sEJ, z_sEJ, tag_sEJ, I_sEJ, J_sEJ, R_sEJ, EI_sEJ, EJ_sEJ, ER_sEJ, n_sER, z_sER, tag_sER, I_sER, J_sER, R_sER, EI_sER, EJ_sER, ER_sER, n_nw, z_nw, tag_nw, I_nw, J_nw, R_nw, EI_nw, EJ_nw, ER_nw]
  have q2 : h2.J 3714 a = y.2 := by rw [← hh]; simp [n_sI, z_sI, tag_sI, I_sI, J_sI, R_sI, EI_sI, EJ_sI, ER_sI, n_sJ, z_sJ, tag_sJ, I_sJ, J_sJ, R_sJ, EI_sJ, EJ_sJ, ER_sJ, n_sR, z_sR, tag_sR, I_sR, J_sR, R_sR, EI_sR, EJ_sR, ER_sR, n_sEI, z_sEI, tag_sEI, I_sEI, J_sEI, R_sEI, EI_sEI, EJ_sEI, ER_sEI, n_sEJ, z_sEJ, tag_sEJ, I_sEJ, J_sEJ, R_sEJ, EI_sEJ, EJ_sEJ, ER_sEJ, n_sER, z_sER, tag_sER, I_sER, J_sER, R_sER, EI_sER, EJ_sER, ER_sER, n_nw, z_nw, tag_nw, I_nw, J_nw, R_nw, EI_nw, EJ_nw, ER_nw]
  have q3 : h2.R 3715 a = h1.R 3715 b := by rw [← hh]; simp [n_sI, z_sI, tag_sI, I_sI, J_sI, R_sI, EI_sI, EJ_sI, ER_sI, n_sJ, z_sJ, tag_sJ, I_sJ, J_sJ, R_sJ, EI_sJ, EJ_sJ, ER_sJ, n_sR, z_sR, tag_sR, I_sR, J_sR, R_sR, EI_sR, EJ_sR, ER_sR, n_sEI, z_sEI, tag_sEI, I_sEI, J_sEI, R_sEI, EI_sEI, EJ_sEI, ER_sEI, n_sEJ, z_sEJ, tag_sEJ, I_sEJ, J_sEJ, R_sEJ, EI_sEJ, EJ_sEJ, ER_sEJ, n_sER, z_sER, tag_sER, I_sER, J_sER, R_sER, EI_sER, EJ_sER, ER_sER, n_nw, z_nw, tag_nw, I_nw, J_nw, R_nw, EI_nw, EJ_nw, ER_nw]
  have q4 : h2.I 3717 a = nI (fln cb) := by rw [← hh]; simp [n_sI, z_sI, tag_sI, I_sI, J_sI, R_sI, EI_sI, EJ_sI, ER_sI, n_sJ, z_sJ, tag_sJ, I_sJ, J_sJ, R_sJ, EI_sJ, EJ_sJ, ER_sJ, n_sR, z_sR, tag_sR, I_sR, J_sR, R_sR, EI_sR, EJ_sR, ER_sR, n_sEI, z_sEI, tag_sEI, I_sEI, J_sEI, R_sEI, EI_sEI, EJ_sEI, ER_sEI, n_sEJ, z_sEJ, tag_sEJ, I_sEJ, J_sEJ, R_sEJ, EI_sEJ, EJ_sEJ, ER_sEJ, n_sER, z_sER, tag_sER, I_sER, J_sER, R_sER, EI_sER, EJ_sER, ER_sER, n_nw, z_nw, tag_nw, I_nw, J_nw, R_nw, EI_nw, EJ_nw, ER_nw]
  have q5 : h2.R 3716 b = h1.R 1280 q := by rw [← hh]; simp [n_sI, z_sI, tag_sI, I_sI, J_sI, R_sI, EI_sI, EJ_sI, ER_sI, n_sJ, z_sJ, tag_sJ, I_sJ, J_sJ, R_sJ, EI_sJ, EJ_sJ, ER_sJ, n_sR, z_sR, tag_sR, I_sR, J_sR, R_sR, EI_sR, EJ_sR, ER_sR, n_sEI, z_sEI, tag_sEI, I_sEI, J_sEI, R_sEI, EI_sEI, EJ_sEI, ER_sEI, n_sEJ, z_sEJ, tag_sEJ, I_sEJ, J_sEJ, R_sEJ, EI_sEJ, EJ_sEJ, ER_sEJ, n_sER, z_sER, tag_sER, I_sER, J_sER, R_sER, EI_sER, EJ_sER, ER_sER, n_nw, z_nw, tag_nw, I_nw, J_nw, R_nw, EI_nw, EJ_nw, ER_nw]
  have q6 : h2.R 1280 q = some b := by rw [← hh]; simp [n_sI, z_sI, tag_sI, I_sI, J_sI, R_sI, EI_sI, EJ_sI, ER_sI, n_sJ, z_sJ, tag_sJ, I_sJ, J_sJ, R_sJ, EI_sJ, EJ_sJ, ER_sJ, n_sR, z_sR, tag_sR, I_sR, J_sR, R_sR, EI_sR, EJ_sR, ER_sR, n_sEI, z_sEI, tag_sEI, I_sEI, J_sEI, R_sEI, EI_sEI, EJ_sEI, ER_sEI, n_sEJ, z_sEJ, tag_sEJ, I_sEJ, J_sEJ, R_sEJ, EI_sEJ, EJ_sEJ, ER_sEJ, n_sER, z_sER, tag_sER, I_sER, J_sER, R_sER, EI_sER, EJ_sER, ER_sER, n_nw, z_nw, tag_nw, I_nw, J_nw, R_nw, EI_nw, EJ_nw, ER_nw]
  have hbl : b ∉ l1 := fun z => by have := (w2 b).mp z; grind
  refine kk h2 (b :: l1) ?_ ⟨?_, fun z => ?_⟩ ⟨f2.tag hq, ⟨q6, f2.tag i2, ?_⟩, ?_, ?_, ?_⟩ (by omega) ⟨f2.tag t2, ?_, q1, q2, q4, ?_⟩ (by rw [f2.R (by simp [PO, P1, PF, hab]), g1.R (na _ _ (by grind) (by decide))]) (by rw [f2.R (by simp [PO, P1, PF]), g1.R (na _ _ (by grind) (by decide))])
  · refine (g1.mono (VP.mono fun z hz => ?_)).trans (f2.mono fun f z hz => ?_)
    · simp only [List.mem_append, List.mem_cons] at hz ⊢; grind
    · simp only [PO, P1, PF] at hz
      have ia : a ∈ a :: b :: (fad c ++ l) := by simp
      have ib : b ∈ a :: b :: (fad c ++ l) := by simp
      rcases hz with (⟨rfl, rfl⟩ | ⟨rfl, rfl⟩ | ⟨rfl, rfl⟩ | ⟨rfl, rfl⟩) | ⟨rfl, rfl⟩ | rfl
      · exact VP.inn ia rfl rfl
      · exact VP.inn ia rfl rfl
      · exact VP.inn ia rfl rfl
      · exact VP.inn ia rfl rfl
      · exact VP.inn ib rfl rfl
      · exact Or.inr rfl
  · exact List.nodup_cons.mpr ⟨hbl, w3⟩
  · simp only [List.mem_cons, List.mem_append, w2, m2, m1]; grind
  · rw [q5]; exact FL.fr f2 r1.2.1 fun z hz w => by
      simp only [PO, P1, PF] at w
      grind
  · exact List.nodup_cons.mpr ⟨hbl, w3⟩
  · have := r1.2.2.2.1; unfold RM at *; rw [m2, z2]; exact this
  · rw [m2]; exact r1.2.2.2.2
  · rw [f2.I (by simp [PO, P1, PF])]; exact j3
  · rw [q3]; exact RF.fr f2 i7 fun f z hz _ _ w => by
      simp only [PO, P1, PF] at w
      grind
theorem add_ok2 {G : Gt} {d a b kd kb : Nat} {x y : Int64 × Int64} {c cb : LF} {h : AH} {K : Outcome → AH → Prop} (hv : RV h a kd x c) (hw : RV h b kb y cb) (hn : (a :: (fad c ++ b :: fad cb)).Nodup) (hb : fln c < 2147483647) (hd : 2 ≤ d)
    (kk : ∀ h', Fr (VP (a :: (fad c ++ [b])) h.n) h h' → h'.n = h.n → h'.z = h.z → h'.R 1280 = h.R 1280 → RV h' a kd x (fap c (.inner kb (b, y) () cb .leaf)) → h'.R 3716 a = h.R 3716 a → h'.R 3718 a = h.R 3718 a → K (.returned none) h') : MW G d e_X30_add [.ref a, .ref b] h K := by
  refine st_X30_add fun X o hG hD hf => ?_
  subst hG; subst hD
  obtain ⟨e2, e3, e4, e5, e6, e7⟩ := hv
  obtain ⟨u2, u3, u4, u5, u6, u7⟩ := hw
  simp only [List.nodup_cons, List.nodup_append, List.mem_append, List.mem_cons] at hn
  have f1 : Fr (P1 3716 b) h (h.sR 3716 b none) := (Fr.refl h).sR P1.i
  have nd : RF (h.sR 3716 b none) (.inner kb (b, y) () cb .leaf) (some b) := ⟨rfl, u2, u3, u4, u5, u6, RF.fr f1 u7 fun f z hz _ _ q => by have := q.2; grind, by simp [n_sI, z_sI, tag_sI, I_sI, J_sI, R_sI, EI_sI, EJ_sI, ER_sI, n_sJ, z_sJ, tag_sJ, I_sJ, J_sJ, R_sJ, EI_sJ, EJ_sJ, ER_sJ, n_sR, z_sR, tag_sR, I_sR, J_sR, R_sR, EI_sR, EJ_sR, ER_sR, n_sEI, z_sEI, tag_sEI, I_sEI, J_sEI, R_sEI, EI_sEI, EJ_sEI, ER_sEI, n_sEJ, z_sEJ, tag_sEJ, I_sEJ, J_sEJ, R_sEJ, EI_sEJ, EJ_sEJ, ER_sEJ, n_sER, z_sER, tag_sER, I_sER, J_sER, R_sER, EI_sER, EJ_sER, ER_sER, n_nw, z_nw, tag_nw, I_nw, J_nw, R_nw, EI_nw, EJ_nw, ER_nw, RF]⟩
  have c1 : RF (h.sR 3716 b none) c (h.R 3715 a) := RF.fr f1 e7 fun f z hz _ _ q => by have := q.2; grind
  have fin : ∀ h2, Fr (VP (a :: (fad c ++ [b])) h.n) h h2 → h2.n = h.n → h2.z = h.z → h2.R 1280 = h.R 1280 → h2.tag a = some (29, 0) → h2.I 3712 a = nI kd → h2.J 3713 a = x.1 → h2.J 3714 a = x.2 → h2.I 3717 a = nI (fln c) → RF h2 (fap c (.inner kb (b, y) () cb .leaf)) (h2.R 3715 a) → h2.R 3716 a = h.R 3716 a → h2.R 3718 a = h.R 3718 a → V X K 34 [.ref a, .ref b] [] h2 := by
    intro h2 f2 m2 z2 p2 t2 i1 i2 i3 i4 i5 i6 i7
    refine k_X30_add_34 o ?_
    have f3 : Fr (P1 3717 a) h2 (h2.sI 3717 a (nI (fln c) + nI 1)) := (Fr.refl h2).sI P1.i
    refine kk _ (f2.sI (VP.inn (by simp) rfl rfl)) m2 z2 p2 ⟨t2, ?_, i2, i3, ?_, ?_⟩ (by simpa [n_sI, z_sI, tag_sI, I_sI, J_sI, R_sI, EI_sI, EJ_sI, ER_sI, n_sJ, z_sJ, tag_sJ, I_sJ, J_sJ, R_sJ, EI_sJ, EJ_sJ, ER_sJ, n_sR, z_sR, tag_sR, I_sR, J_sR, R_sR, EI_sR, EJ_sR, ER_sR, n_sEI, z_sEI, tag_sEI, I_sEI, J_sEI, R_sEI, EI_sEI, EJ_sEI, ER_sEI, n_sEJ, z_sEJ, tag_sEJ, I_sEJ, J_sEJ, R_sEJ, EI_sEJ, EJ_sEJ, ER_sEJ, n_sER, z_sER, tag_sER, I_sER, J_sER, R_sER, EI_sER, EJ_sER, ER_sER, n_nw, z_nw, tag_nw, I_nw, J_nw, R_nw, EI_nw, EJ_nw, ER_nw] using i6) (by simpa [n_sI, z_sI, tag_sI, I_sI, J_sI, R_sI, EI_sI, EJ_sI, ER_sI, n_sJ, z_sJ, tag_sJ, I_sJ, J_sJ, R_sJ, EI_sJ, EJ_sJ, ER_sJ, n_sR, z_sR, tag_sR, I_sR, J_sR, R_sR, EI_sR, EJ_sR, ER_sR, n_sEI, z_sEI, tag_sEI, I_sEI, J_sEI, R_sEI, EI_sEI, EJ_sEI, ER_sEI, n_sEJ, z_sEJ, tag_sEJ, I_sEJ, J_sEJ, R_sEJ, EI_sEJ, EJ_sEJ, ER_sEJ, n_sER, z_sER, tag_sER, I_sER, J_sER, R_sER, EI_sER, EJ_sER, ER_sER, n_nw, z_nw, tag_nw, I_nw, J_nw, R_nw, EI_nw, EJ_nw, ER_nw] using i7)
    · rw [f3.I (by simp [P1])]; exact i1
    · rw [I_same, nI_add, fln_ap]; rfl
    · refine RF.fr f3 i5 fun f z hz _ _ q => ?_
      have := q.2
      rw [fad_ap] at hz
      simp only [fad, List.append_nil, List.mem_append, List.mem_cons] at hz
      grind
  refine k_X30_add_0 o (fun c0 => ?_) (fun c0 => ?_)
  · have hcl : c ≠ .leaf := fun q => by subst q; exact c0 rfl
    obtain ⟨z, hz⟩ := flst_some (d := none) hcl
    have hzc : z ∈ fad c := (flst_in hz).elim id fun q => nomatch q
    have tz := RF.tg c1 z hzc
    have haz : a ≠ z := fun e => hn.1 (Or.inl (e ▸ hzc))
    have hab : a ≠ b := fun e => hn.1 (Or.inr (Or.inl e))
    have hpos : fln c ≠ 0 := fun q => hcl (fln_0 q)
    refine k_X30_add_20 o ?_
    rw [nI_sub (by omega)]
    refine part_ok (kd := kd) (x := x) ⟨e2, e3, e4, e5, e6, c1⟩ (flst_fat hcl hz) (by omega) ?_
    refine k_X30_add_30 o ?_
    refine fin _ (((Fr.refl h).sR (VP.inn (by simp) rfl rfl)).sR (VP.inn (by simp [hzc]) rfl rfl)) rfl rfl ?_ e2 e3 e4 e5 e6 ?_ (by simp [n_sI, z_sI, tag_sI, I_sI, J_sI, R_sI, EI_sI, EJ_sI, ER_sI, n_sJ, z_sJ, tag_sJ, I_sJ, J_sJ, R_sJ, EI_sJ, EJ_sJ, ER_sJ, n_sR, z_sR, tag_sR, I_sR, J_sR, R_sR, EI_sR, EJ_sR, ER_sR, n_sEI, z_sEI, tag_sEI, I_sEI, J_sEI, R_sEI, EI_sEI, EJ_sEI, ER_sEI, n_sEJ, z_sEJ, tag_sEJ, I_sEJ, J_sEJ, R_sEJ, EI_sEJ, EJ_sEJ, ER_sEJ, n_sER, z_sER, tag_sER, I_sER, J_sER, R_sER, EI_sER, EJ_sER, ER_sER, n_nw, z_nw, tag_nw, I_nw, J_nw, R_nw, EI_nw, EJ_nw, ER_nw, hab, haz]) (by simp [n_sI, z_sI, tag_sI, I_sI, J_sI, R_sI, EI_sI, EJ_sI, ER_sI, n_sJ, z_sJ, tag_sJ, I_sJ, J_sJ, R_sJ, EI_sJ, EJ_sJ, ER_sJ, n_sR, z_sR, tag_sR, I_sR, J_sR, R_sR, EI_sR, EJ_sR, ER_sR, n_sEI, z_sEI, tag_sEI, I_sEI, J_sEI, R_sEI, EI_sEI, EJ_sEI, ER_sEI, n_sEJ, z_sEJ, tag_sEJ, I_sEJ, J_sEJ, R_sEJ, EI_sEJ, EJ_sEJ, ER_sEJ, n_sER, z_sER, tag_sER, I_sER, J_sER, R_sER, EI_sER, EJ_sER, ER_sER, n_nw, z_nw, tag_nw, I_nw, J_nw, R_nw, EI_nw, EJ_nw, ER_nw])
    · funext w; simp [n_sI, z_sI, tag_sI, I_sI, J_sI, R_sI, EI_sI, EJ_sI, ER_sI, n_sJ, z_sJ, tag_sJ, I_sJ, J_sJ, R_sJ, EI_sJ, EJ_sJ, ER_sJ, n_sR, z_sR, tag_sR, I_sR, J_sR, R_sR, EI_sR, EJ_sR, ER_sR, n_sEI, z_sEI, tag_sEI, I_sEI, J_sEI, R_sEI, EI_sEI, EJ_sEI, ER_sEI, n_sEJ, z_sEJ, tag_sEJ, I_sEJ, J_sEJ, R_sEJ, EI_sEJ, EJ_sEJ, ER_sEJ, n_sER, z_sER, tag_sER, I_sER, J_sER, R_sER, EI_sER, EJ_sER, ER_sER, n_nw, z_nw, tag_nw, I_nw, J_nw, R_nw, EI_nw, EJ_nw, ER_nw]
    · have : ((h.sR 3716 b none).sR 3716 z (some b)).R 3715 a = h.R 3715 a := by simp [n_sI, z_sI, tag_sI, I_sI, J_sI, R_sI, EI_sI, EJ_sI, ER_sI, n_sJ, z_sJ, tag_sJ, I_sJ, J_sJ, R_sJ, EI_sJ, EJ_sJ, ER_sJ, n_sR, z_sR, tag_sR, I_sR, J_sR, R_sR, EI_sR, EJ_sR, ER_sR, n_sEI, z_sEI, tag_sEI, I_sEI, J_sEI, R_sEI, EI_sEI, EJ_sEI, ER_sEI, n_sEJ, z_sEJ, tag_sEJ, I_sEJ, J_sEJ, R_sEJ, EI_sEJ, EJ_sEJ, ER_sEJ, n_sER, z_sER, tag_sER, I_sER, J_sER, R_sER, EI_sER, EJ_sER, ER_sER, n_nw, z_nw, tag_nw, I_nw, J_nw, R_nw, EI_nw, EJ_nw, ER_nw]
      rw [this]
      exact RF.snoc nd (by simp only [fad, List.append_nil, List.mem_cons]; grind) c1 hz hn.2.1
  · have hcl : c = .leaf := by
      refine fln_0 ?_
      by_cases q : fln c = 0
      · exact q
      · exact absurd c0 (nI_ne0 (by omega) (by omega))
    subst hcl
    refine k_X30_add_12 o ?_
    refine fin _ (((Fr.refl h).sR (VP.inn (by simp) rfl rfl)).sR (VP.inn (by simp) rfl rfl)) rfl rfl ?_ e2 e3 e4 e5 e6 ?_ (by simp [n_sI, z_sI, tag_sI, I_sI, J_sI, R_sI, EI_sI, EJ_sI, ER_sI, n_sJ, z_sJ, tag_sJ, I_sJ, J_sJ, R_sJ, EI_sJ, EJ_sJ, ER_sJ, n_sR, z_sR, tag_sR, I_sR, J_sR, R_sR, EI_sR, EJ_sR, ER_sR, n_sEI, z_sEI, tag_sEI, I_sEI, J_sEI, R_sEI, EI_sEI, EJ_sEI, ER_sEI, n_sEJ, z_sEJ, tag_sEJ, I_sEJ, J_sEJ, R_sEJ, EI_sEJ, EJ_sEJ, ER_sEJ, n_sER, z_sER, tag_sER, I_sER, J_sER, R_sER, EI_sER, EJ_sER, ER_sER, n_nw, z_nw, tag_nw, I_nw, J_nw, R_nw, EI_nw, EJ_nw, ER_nw, show a ≠ b from fun e => hn.1 (Or.inr (Or.inl e))]) (by simp [n_sI, z_sI, tag_sI, I_sI, J_sI, R_sI, EI_sI, EJ_sI, ER_sI, n_sJ, z_sJ, tag_sJ, I_sJ, J_sJ, R_sJ, EI_sJ, EJ_sJ, ER_sJ, n_sR, z_sR, tag_sR, I_sR, J_sR, R_sR, EI_sR, EJ_sR, ER_sR, n_sEI, z_sEI, tag_sEI, I_sEI, J_sEI, R_sEI, EI_sEI, EJ_sEI, ER_sEI, n_sEJ, z_sEJ, tag_sEJ, I_sEJ, J_sEJ, R_sEJ, EI_sEJ, EJ_sEJ, ER_sEJ, n_sER, z_sER, tag_sER, I_sER, J_sER, R_sER, EI_sER, EJ_sER, ER_sER, n_nw, z_nw, tag_nw, I_nw, J_nw, R_nw, EI_nw, EJ_nw, ER_nw])
    · funext w; simp [n_sI, z_sI, tag_sI, I_sI, J_sI, R_sI, EI_sI, EJ_sI, ER_sI, n_sJ, z_sJ, tag_sJ, I_sJ, J_sJ, R_sJ, EI_sJ, EJ_sJ, ER_sJ, n_sR, z_sR, tag_sR, I_sR, J_sR, R_sR, EI_sR, EJ_sR, ER_sR, n_sEI, z_sEI, tag_sEI, I_sEI, J_sEI, R_sEI, EI_sEI, EJ_sEI, ER_sEI, n_sEJ, z_sEJ, tag_sEJ, I_sEJ, J_sEJ, R_sEJ, EI_sEJ, EJ_sEJ, ER_sEJ, n_sER, z_sER, tag_sER, I_sER, J_sER, R_sER, EI_sER, EJ_sER, ER_sER, n_nw, z_nw, tag_nw, I_nw, J_nw, R_nw, EI_nw, EJ_nw, ER_nw]
    · rw [R_same]
      exact RF.fr (P := P1 3715 a) ((Fr.refl _).sR P1.i) nd fun f z hz _ _ q => by
        have q := q.2
        have hz : z = b ∨ z ∈ fad cb := by simpa [fap, fad] using hz
        rw [q] at hz
        exact hn.1 (Or.inr hz)
theorem removeLast_ok2 {G : Gt} {d a b kd kb : Nat} {x y : Int64 × Int64} {c0 cb : LF} {h : AH} {K : Outcome → AH → Prop} (hv : RV h a kd x (fap c0 (.inner kb (b, y) () cb .leaf))) (hn : (a :: (fad c0 ++ b :: fad cb)).Nodup) (hb : fln c0 < 2147483647) (hd : 2 ≤ d)
    (kk : ∀ h', Fr (VP (a :: fad c0) h.n) h h' → h'.n = h.n → h'.z = h.z → h'.R 1280 = h.R 1280 → RV h' a kd x c0 → RV h' b kb y cb → h'.R 3716 a = h.R 3716 a → h'.R 3718 a = h.R 3718 a → K (.returned (some (.ref b))) h') : MW G d e_X30_removeLast [.ref a] h K := by
  refine st_X30_removeLast fun X o hG hD hf => ?_
  subst hG; subst hD
  have hv0 := hv
  obtain ⟨e2, e3, e4, e5, e6, e7⟩ := hv
  rw [fln_pos_ap] at e6
  obtain ⟨v1, v2⟩ := RF.nth e7
  simp only [List.nodup_cons, List.nodup_append, List.mem_append, List.mem_cons] at hn
  refine k_X30_removeLast_0 o ?_
  rw [nI_sub (by omega), Nat.add_sub_cancel]
  refine part_ok hv0 (fat_last c0) (by omega) ?_
  have fin : ∀ h2, Fr (VP (a :: fad c0) h.n) h h2 → h2.n = h.n → h2.z = h.z → h2.R 1280 = h.R 1280 → h2.tag a = some (29, 0) → h2.I 3712 a = nI kd → h2.J 3713 a = x.1 → h2.J 3714 a = x.2 → h2.I 3717 a = nI (fln c0 + 1) → RF h2 c0 (h2.R 3715 a) → RV h2 b kb y cb → h2.R 3716 a = h.R 3716 a → h2.R 3718 a = h.R 3718 a → V X K 41 [.ref a, .ref b] [] h2 := by
    intro h2 f2 m2 z2 p2 t2 i1 i2 i3 i4 i5 i6 i7 i8
    refine k_X30_removeLast_41 o ?_
    have f3 : Fr (P1 3717 a) h2 (h2.sI 3717 a (nI (fln c0 + 1) - nI 1)) := (Fr.refl h2).sI P1.i
    refine kk _ (f2.sI (VP.inn (by simp) rfl rfl)) m2 z2 p2 ⟨t2, ?_, i2, i3, ?_, ?_⟩ (i6.fr f3 fun f z hz _ _ q => ?_) (by simpa [n_sI, z_sI, tag_sI, I_sI, J_sI, R_sI, EI_sI, EJ_sI, ER_sI, n_sJ, z_sJ, tag_sJ, I_sJ, J_sJ, R_sJ, EI_sJ, EJ_sJ, ER_sJ, n_sR, z_sR, tag_sR, I_sR, J_sR, R_sR, EI_sR, EJ_sR, ER_sR, n_sEI, z_sEI, tag_sEI, I_sEI, J_sEI, R_sEI, EI_sEI, EJ_sEI, ER_sEI, n_sEJ, z_sEJ, tag_sEJ, I_sEJ, J_sEJ, R_sEJ, EI_sEJ, EJ_sEJ, ER_sEJ, n_sER, z_sER, tag_sER, I_sER, J_sER, R_sER, EI_sER, EJ_sER, ER_sER, n_nw, z_nw, tag_nw, I_nw, J_nw, R_nw, EI_nw, EJ_nw, ER_nw] using i7) (by simpa [n_sI, z_sI, tag_sI, I_sI, J_sI, R_sI, EI_sI, EJ_sI, ER_sI, n_sJ, z_sJ, tag_sJ, I_sJ, J_sJ, R_sJ, EI_sJ, EJ_sJ, ER_sJ, n_sR, z_sR, tag_sR, I_sR, J_sR, R_sR, EI_sR, EJ_sR, ER_sR, n_sEI, z_sEI, tag_sEI, I_sEI, J_sEI, R_sEI, EI_sEI, EJ_sEI, ER_sEI, n_sEJ, z_sEJ, tag_sEJ, I_sEJ, J_sEJ, R_sEJ, EI_sEJ, EJ_sEJ, ER_sEJ, n_sER, z_sER, tag_sER, I_sER, J_sER, R_sER, EI_sER, EJ_sER, ER_sER, n_nw, z_nw, tag_nw, I_nw, J_nw, R_nw, EI_nw, EJ_nw, ER_nw] using i8)
    · rw [f3.I (by simp [P1])]; exact i1
    · rw [I_same, nI_sub (by omega)]; rfl
    · exact RF.fr f3 i5 fun f z hz _ _ q => by have := q.2; grind
    · have q := q.2; simp only [List.mem_cons] at hz; grind
  refine k_X30_removeLast_10 o (fun c1 => ?_) (fun c1 => ?_)
  · have hcl : c0 ≠ .leaf := fun q => by subst q; exact c1 rfl
    obtain ⟨z, z1, z2, z3⟩ := RF.ap e7 hcl
    have hzc : z ∈ fad c0 := (flst_in z1).elim id fun q => nomatch q
    have tz := RF.tg e7 z (by rw [fad_ap]; simp [hzc])
    have haz : a ≠ z := fun e => hn.1 (Or.inl (e ▸ hzc))
    have hpos : fln c0 ≠ 0 := fun q => hcl (fln_0 q)
    refine k_X30_removeLast_27 o ?_
    rw [nI_sub (by omega), show fln c0 + 1 - 2 = fln c0 - 1 by omega]
    refine part_ok hv0 (fat_ap (flst_fat hcl z1)) (by omega) ?_
    refine k_X30_removeLast_37 o ?_
    have f1 : Fr (P1 3716 z) h (h.sR 3716 z none) := (Fr.refl h).sR P1.i
    refine fin _ ((Fr.refl h).sR (VP.inn (by simp [hzc]) rfl rfl)) rfl rfl ?_ e2 e3 e4 e5 e6 ?_ (v1.fr f1 fun f w hw _ _ q => ?_) (by simp [n_sI, z_sI, tag_sI, I_sI, J_sI, R_sI, EI_sI, EJ_sI, ER_sI, n_sJ, z_sJ, tag_sJ, I_sJ, J_sJ, R_sJ, EI_sJ, EJ_sJ, ER_sJ, n_sR, z_sR, tag_sR, I_sR, J_sR, R_sR, EI_sR, EJ_sR, ER_sR, n_sEI, z_sEI, tag_sEI, I_sEI, J_sEI, R_sEI, EI_sEI, EJ_sEI, ER_sEI, n_sEJ, z_sEJ, tag_sEJ, I_sEJ, J_sEJ, R_sEJ, EI_sEJ, EJ_sEJ, ER_sEJ, n_sER, z_sER, tag_sER, I_sER, J_sER, R_sER, EI_sER, EJ_sER, ER_sER, n_nw, z_nw, tag_nw, I_nw, J_nw, R_nw, EI_nw, EJ_nw, ER_nw, haz]) (by simp [n_sI, z_sI, tag_sI, I_sI, J_sI, R_sI, EI_sI, EJ_sI, ER_sI, n_sJ, z_sJ, tag_sJ, I_sJ, J_sJ, R_sJ, EI_sJ, EJ_sJ, ER_sJ, n_sR, z_sR, tag_sR, I_sR, J_sR, R_sR, EI_sR, EJ_sR, ER_sR, n_sEI, z_sEI, tag_sEI, I_sEI, J_sEI, R_sEI, EI_sEI, EJ_sEI, ER_sEI, n_sEJ, z_sEJ, tag_sEJ, I_sEJ, J_sEJ, R_sEJ, EI_sEJ, EJ_sEJ, ER_sEJ, n_sER, z_sER, tag_sER, I_sER, J_sER, R_sER, EI_sER, EJ_sER, ER_sER, n_nw, z_nw, tag_nw, I_nw, J_nw, R_nw, EI_nw, EJ_nw, ER_nw])
    · funext w; simp [n_sI, z_sI, tag_sI, I_sI, J_sI, R_sI, EI_sI, EJ_sI, ER_sI, n_sJ, z_sJ, tag_sJ, I_sJ, J_sJ, R_sJ, EI_sJ, EJ_sJ, ER_sJ, n_sR, z_sR, tag_sR, I_sR, J_sR, R_sR, EI_sR, EJ_sR, ER_sR, n_sEI, z_sEI, tag_sEI, I_sEI, J_sEI, R_sEI, EI_sEI, EJ_sEI, ER_sEI, n_sEJ, z_sEJ, tag_sEJ, I_sEJ, J_sEJ, R_sEJ, EI_sEJ, EJ_sEJ, ER_sEJ, n_sER, z_sER, tag_sER, I_sER, J_sER, R_sER, EI_sER, EJ_sER, ER_sER, n_nw, z_nw, tag_nw, I_nw, J_nw, R_nw, EI_nw, EJ_nw, ER_nw]
    · have : (h.sR 3716 z none).R 3715 a = h.R 3715 a := by simp [n_sI, z_sI, tag_sI, I_sI, J_sI, R_sI, EI_sI, EJ_sI, ER_sI, n_sJ, z_sJ, tag_sJ, I_sJ, J_sJ, R_sJ, EI_sJ, EJ_sJ, ER_sJ, n_sR, z_sR, tag_sR, I_sR, J_sR, R_sR, EI_sR, EJ_sR, ER_sR, n_sEI, z_sEI, tag_sEI, I_sEI, J_sEI, R_sEI, EI_sEI, EJ_sEI, ER_sEI, n_sEJ, z_sEJ, tag_sEJ, I_sEJ, J_sEJ, R_sEJ, EI_sEJ, EJ_sEJ, ER_sEJ, n_sER, z_sER, tag_sER, I_sER, J_sER, R_sER, EI_sER, EJ_sER, ER_sER, n_nw, z_nw, tag_nw, I_nw, J_nw, R_nw, EI_nw, EJ_nw, ER_nw]
      rw [this]
      refine z3 ?_
      rw [fad_ap]; simp only [fad, List.append_nil, List.nodup_append, List.nodup_cons, List.mem_cons]
      grind
    · have q := q.2; simp only [List.mem_cons] at hw; grind
  · have hcl : c0 = .leaf := by
      refine fln_0 ?_
      have := (nI_eq (a := fln c0 + 1) (b := 1) (by omega) (by omega)).mp c1
      omega
    subst hcl
    refine k_X30_removeLast_19 o ?_
    have f1 : Fr (P1 3715 a) h (h.sR 3715 a none) := (Fr.refl h).sR P1.i
    refine fin _ ((Fr.refl h).sR (VP.inn (by simp) rfl rfl)) rfl rfl ?_ e2 e3 e4 e5 e6 ?_ (v1.fr f1 fun f w hw _ _ q => ?_) (by simp [n_sI, z_sI, tag_sI, I_sI, J_sI, R_sI, EI_sI, EJ_sI, ER_sI, n_sJ, z_sJ, tag_sJ, I_sJ, J_sJ, R_sJ, EI_sJ, EJ_sJ, ER_sJ, n_sR, z_sR, tag_sR, I_sR, J_sR, R_sR, EI_sR, EJ_sR, ER_sR, n_sEI, z_sEI, tag_sEI, I_sEI, J_sEI, R_sEI, EI_sEI, EJ_sEI, ER_sEI, n_sEJ, z_sEJ, tag_sEJ, I_sEJ, J_sEJ, R_sEJ, EI_sEJ, EJ_sEJ, ER_sEJ, n_sER, z_sER, tag_sER, I_sER, J_sER, R_sER, EI_sER, EJ_sER, ER_sER, n_nw, z_nw, tag_nw, I_nw, J_nw, R_nw, EI_nw, EJ_nw, ER_nw]) (by simp [n_sI, z_sI, tag_sI, I_sI, J_sI, R_sI, EI_sI, EJ_sI, ER_sI, n_sJ, z_sJ, tag_sJ, I_sJ, J_sJ, R_sJ, EI_sJ, EJ_sJ, ER_sJ, n_sR, z_sR, tag_sR, I_sR, J_sR, R_sR, EI_sR, EJ_sR, ER_sR, n_sEI, z_sEI, tag_sEI, I_sEI, J_sEI, R_sEI, EI_sEI, EJ_sEI, ER_sEI, n_sEJ, z_sEJ, tag_sEJ, I_sEJ, J_sEJ, R_sEJ, EI_sEJ, EJ_sEJ, ER_sEJ, n_sER, z_sER, tag_sER, I_sER, J_sER, R_sER, EI_sER, EJ_sER, ER_sER, n_nw, z_nw, tag_nw, I_nw, J_nw, R_nw, EI_nw, EJ_nw, ER_nw])
    · funext w; simp [n_sI, z_sI, tag_sI, I_sI, J_sI, R_sI, EI_sI, EJ_sI, ER_sI, n_sJ, z_sJ, tag_sJ, I_sJ, J_sJ, R_sJ, EI_sJ, EJ_sJ, ER_sJ, n_sR, z_sR, tag_sR, I_sR, J_sR, R_sR, EI_sR, EJ_sR, ER_sR, n_sEI, z_sEI, tag_sEI, I_sEI, J_sEI, R_sEI, EI_sEI, EJ_sEI, ER_sEI, n_sEJ, z_sEJ, tag_sEJ, I_sEJ, J_sEJ, R_sEJ, EI_sEJ, EJ_sEJ, ER_sEJ, n_sER, z_sER, tag_sER, I_sER, J_sER, R_sER, EI_sER, EJ_sER, ER_sER, n_nw, z_nw, tag_nw, I_nw, J_nw, R_nw, EI_nw, EJ_nw, ER_nw]
    · rw [R_same]; rfl
    · have q := q.2; simp only [List.mem_cons] at hw; grind
