/-! a call begins: its arguments -/
/-- what a transaction asks for -/
def TXI (h : AH) (X TT TH TL : Nat) (x : TxC) : Prop := (h.J 2690 X = x.2.1 ∧ h.I 2692 X = nI x.2.2.2.1 ∧ x.2.2.2.1 < 65536 ∧ h.I 2693 X = nI x.2.2.2.2.1 ∧ x.2.2.2.2.1 < 64) ∧ (h.I 2697 X = nI x.2.2.2.2.2.length ∧ x.2.2.2.2.2.length ≤ 8) ∧ ((h.R 2694 X = some TT ∧ h.tag TT = some (752, 8)) ∧ (h.R 2695 X = some TH ∧ h.tag TH = some (771, 8)) ∧ h.R 2696 X = some TL ∧ h.tag TL = some (787, 8)) ∧ ∀ (i : Nat) (a : Nat × Int64 × Int64), x.2.2.2.2.2[i]? = some a → h.EI 752 TT i = nI a.1 ∧ h.EJ 771 TH i = a.2.1 ∧ h.EJ 787 TL i = a.2.2
def txiF : List Nat := [2690, 2692, 2693, 2697, 2694, 2695, 2696, 10000 + 752, 10000 + 771, 10000 + 787]
theorem TXI.fr {P : Nat → Nat → Prop} {h h' : AH} {X TT TH TL : Nat} {x : TxC} (q : Fr P h h') (np : ∀ f a, txiF.contains f = true → ¬ P f a) (s : TXI h X TT TH TL x) : TXI h' X TT TH TL x := by
  obtain ⟨⟨a1, a2, a3, a4, a5⟩, ⟨b1, b2⟩, ⟨⟨c1, c2⟩, ⟨c3, c4⟩, c5, c6⟩, d⟩ := s
  refine ⟨⟨by rw [q.J (np _ _ rfl)]; exact a1, by rw [q.I (np _ _ rfl)]; exact a2, a3, by rw [q.I (np _ _ rfl)]; exact a4, a5⟩, ⟨by rw [q.I (np _ _ rfl)]; exact b1, b2⟩, ⟨⟨by rw [q.R (np _ _ rfl)]; exact c1, q.tag c2⟩, ⟨by rw [q.R (np _ _ rfl)]; exact c3, q.tag c4⟩, by rw [q.R (np _ _ rfl)]; exact c5, q.tag c6⟩, fun i a ha => ?_⟩
  obtain ⟨d1, d2, d3⟩ := d i a ha
  exact ⟨by rw [q.EI (np _ _ rfl)]; exact d1, by rw [q.EJ (np _ _ rfl)]; exact d2, by rw [q.EJ (np _ _ rfl)]; exact d3⟩
def PAr (W g a : Nat) : Prop := VQ g a ∨ (g = 10000 + 731 ∧ a = Fa W 0 + 1)
theorem PAr.no {W : Nat} {l : List Nat} (h : l.all (fun f => !((3712 ≤ f && f ≤ 3718) || f == 1280 || f == 10000 + 731)) = true) : ∀ f a, l.contains f = true → ¬ PAr W f a := fun f a hf z => by
  rw [List.all_eq_true] at h
  have := h f (List.contains_iff_mem.mp hf)
  simp only [Bool.not_eq_true', Bool.or_eq_false_iff] at this
  obtain ⟨⟨t1, t2⟩, t3⟩ := this
  rcases z with z | ⟨z, -⟩
  · exact VQ.no (l := [f]) (by simp only [List.all_cons, List.all_nil, Bool.and_true]; rw [t1, t2]; rfl) f a (by simp) z
  · rw [z] at t3; simp at t3
theorem PAr.ip {W : Nat} : ∀ g a, PAr W g a → IP W g a := fun g a z => by
  rcases z with z | ⟨z1, z2⟩
  · exact Or.inl z
  · rw [z1, z2]; exact Or.inr (Or.inl ⟨rfl, by unfold Fa; omega, by unfold Fa; omega⟩)
section
variable {G : Gt} {B d : Nat} {h : AH} {l : List Nat} {o : Lc} {wi W A q BA X tt lim SP t : Nat} {snd : Int64} {MA : Ma} {s : Ms} {K : Outcome → AH → Prop}
theorem WkR.arg {h' : AH} {i : Nat} {y : LV} {v : VL} (w : WkR h o wi W MA s) (h1 : s.1 = 1) (hn : o (2, wi, 0, i) = none) (f : Fr (PAr W) h h') (tg : TG o [] h h') (hs : lvE y = v) (e1 : h'.ER 731 (Fa W 0 + 1) i = some y.1) (e2 : ∀ k, k ≠ i → h'.ER 731 (Fa W 0 + 1) k = h.ER 731 (Fa W 0 + 1) k) (hi : i < 40) : WkR h' (uO o (2, wi, 0, i) (some y)) wi W MA (s.1, uF s.2.1 0 ((s.2.1 0).1, (s.2.1 0).2.1, uLc (s.2.1 0).2.2.1 i (some (.inl v)), (s.2.1 0).2.2.2), s.2.2) := by
  obtain ⟨⟨w1, w2, w3, w4, w5, w6⟩, w7, w8, w9⟩ := w
  have np := PAr.no (W := W) (l := swF ++ enF ++ [2438, 2439, 2441, 2560, 2561, 2562, 2565, 10000 + 747]) rfl
  have sub : ∀ l' : List Nat, l'.all (fun f => (swF ++ enF ++ [2438, 2439, 2441, 2560, 2561, 2562, 2565, 10000 + 747]).contains f) = true → ∀ f a, l'.contains f = true → ¬ PAr W f a := fun l' hl f a hf => np f a (by rw [List.all_eq_true] at hl; exact hl f (List.contains_iff_mem.mp hf))
  have hr : ∀ (r : Rx) a, rad o wi r = some a → rad (uO o (2, wi, 0, i) (some y)) wi r = some a := fun r a ha => by
    have : rsl' wi r.1 ≠ (2, wi, 0, i) := fun e => by
      unfold rad at ha
      rw [e, hn] at ha; cases ha
    rw [rad_u this]; exact ha
  have fj : ∀ {a b c d e f g : Nat}, ((a, b, c, d) : Sl) = (e, b, f, g) → a = e ∧ c = f ∧ d = g := fun e => ⟨congrArg Prod.fst e, congrArg (fun p : Sl => p.2.2.1) e, congrArg (fun p : Sl => p.2.2.2) e⟩
  have tgt : ∀ (p : Sl) (x : LV), o p = some x → h'.R 3718 x.1 = h.R 3718 x.1 := fun p x hx => tg p x (by simp) hx
  refine ⟨⟨w1.fr f (sub swF rfl), by rw [f.I (np _ _ rfl)]; exact w2, w3, w4, by show h'.I 2439 W = nI (gas s); rw [f.I (np _ _ rfl)]; exact w5, by show h'.I 2441 W = nI s.2.2.2.1; rw [f.I (np _ _ rfl)]; exact w6⟩, fun j hj => ?_, fun j hj i' => ?_, ?_⟩
  · have hj : j < s.1 := hj
    have j0 : j = 0 := by omega
    subst j0
    show FmR h' _ wi 0 (Fa W 0) MA (uF s.2.1 0 _ 0)
    unfold uF
    rw [if_pos rfl]
    obtain ⟨⟨m1, m2, m3, m4, m5⟩, m6, m7, m8, m9⟩ := w7 0 hj
    refine ⟨⟨by rw [f.R (np _ _ rfl)]; exact m1, by rw [f.R (np _ _ rfl)]; exact m2, by rw [f.I (np _ _ rfl)]; exact m3, by rw [f.I (np _ _ rfl)]; exact m4, m5⟩, m6.keep (fun n _ => uO_n (fun e => by have := fj e; omega)) (fun n _ => f.ER (np _ _ rfl) n) (fun n x _ hx => tgt _ x hx) (fun r _ a ha => hr r a ha), fun n hn => ?_, fun n hn => ?_, fun n hn => ?_⟩
    · rw [uO_n (fun e => by have := fj e; omega)]; exact m7 n hn
    · show match uLc _ i (some (.inl v)) n with
        | some i => _
        | none => _
      unfold uLc
      by_cases e : n = i
      · subst e
        rw [if_pos rfl]
        exact ⟨y, uO_s, e1, hs⟩
      · rw [if_neg e, e2 n e]
        have := m8 n hn
        rw [uO_n (fun q => by have := fj q; omega)]
        cases hl : (s.2.1 0).2.2.1 n with
        | none => rw [hl] at this; exact this
        | some i2 =>
          rw [hl] at this
          obtain ⟨z, y1, y2, y3⟩ := this
          exact ⟨z, y1, y2, y3.keep (tgt _ z y1) fun r _ a ha => hr r a ha⟩
    · rw [uO_n (fun e => by have := fj e; omega)]; exact m9 n hn
  · have hj : s.1 ≤ j := hj
    rw [uO_n (fun e => by have := fj e; omega), uO_n (fun e => by have := fj e; omega)]
    exact w8 j hj i'
  · exact w9.keep f (fun g a hg _ _ => sub enF rfl g a hg) (fun e _ => uO_n (fun q => by have := fj q; omega))
/-- only the frames below the depth matter -/
theorem WkQ.fms {z : Nat} {F F' : Nat → Fm} {n ak : Nat} {es : List En} {gs : Nat} (w : WkQ z h o wi W MA (n, F, es, ak, gs)) (e : ∀ j, j < n → F' j = F j) : WkQ z h o wi W MA (n, F', es, ak, gs) := by
  obtain ⟨w1, w7, w8⟩ := w
  exact ⟨w1, fun j hj => by show FmR h o wi j (Fa W j) MA (F' j); rw [e j hj]; exact w7 j hj, w8⟩
theorem bg_433 {XX : Xt} (oo : OK e_X1_beginTransaction XX) {x : TxC} {TT TH TL : Nat} {g : Nat × Nat} {es : List En} {ak : Nat} {l2 l3 l4 l5 l6 : Value} (ha : AGv x.2.2.2.2.2) (hd : 4 ≤ XX.d) (kk : ∀ h' l' o', OUT wi W h h' o o' → CTX h' A W q BA X tt snd lim SP → VH XX.G B h' q l' o' → WkR h' o' wi W MA (1, fun _ => ent g (agi x.2.2.2.2.2), es, ak, 0) → WDR h' A → K (.returned none) h') : ∀ (r i : Nat), r + i = x.2.2.2.2.2.length → ∀ h1 l1 o1, OUT wi W h h1 o o1 → CTX h1 A W q BA X tt snd lim SP → VH XX.G B h1 q l1 o1 → WkR h1 o1 wi W MA (1, fun _ => (g, 0, fun k => (agi (x.2.2.2.2.2.take i))[k]?, []), es, ak, 0) → TXI h1 X TT TH TL x → WDR h1 A → (∀ k, i ≤ k → o1 (2, wi, 0, k) = none) → r ≤ av XX.G h1 l1 → V XX K 433 [.ref A, .ref X, l2, l3, l4, l5, l6, .ref (Fa W 0), .int (nI i)] [] h1 := by
  intro r
  induction r with
  | zero =>
    intro i hi h1 l1 o1 u1 c1 v1 w1 x1 wd1 hn hav
    obtain ⟨⟨t0, rq, rW, rB, rS⟩, ⟨tB, wt, ht32, eX⟩, tX, -⟩ := id c1
    obtain ⟨-, ⟨b1, b2⟩, -, -⟩ := id x1
    refine k_X1_beginTransaction_433 (r2 := b1) oo (fun _ => ?_) (fun c => absurd ((nI_leI (by omega) (by omega)).mpr (by omega)) c)
    refine k_X1_beginTransaction_485 oo ?_
    refine kk h1 l1 o1 u1 c1 v1 ?_ wd1
    rw [List.take_of_length_le (by omega)] at w1
    exact w1
  | succ r ih =>
    intro i hi h1 l1 o1 u1 c1 v1 w1 x1 wd1 hn hav
    obtain ⟨⟨t0, rq, rW, rB, rS⟩, ⟨tB, wt, ht32, eX⟩, tX, -⟩ := id c1
    obtain ⟨a0, ⟨b1, b2⟩, ⟨⟨a1, a2⟩, ⟨a3, a4⟩, a5, a6⟩, a7⟩ := id x1
    have hlt : i < x.2.2.2.2.2.length := by omega
    obtain ⟨y, hy⟩ : ∃ y, x.2.2.2.2.2[i]? = some y := ⟨_, List.getElem?_eq_getElem hlt⟩
    obtain ⟨d1, d2, d3⟩ := a7 i y hy
    obtain ⟨y1, y2⟩ := (ha.2 y (List.mem_of_getElem? hy)).1
    refine k_X1_beginTransaction_433 (r2 := b1) oo (fun c => absurd ((nI_leI (by omega) (by omega)).mp c) (by omega)) (fun _ => ?_)
    obtain ⟨-, sF, rL, rSk, tL, tS⟩ := w1.1.1.2.2.1 0 (by omega)
    have ix : IX (nI i) 8 i := IX.mk (by omega) (by omega)
    have tq : h1.tag q = some (10, 0) := v1.1.1
    refine k_X1_beginTransaction_442 (r2 := rL) (r14 := d1) (r22 := d2) (r30 := d3) oo ?_
    rw [nI_64 (by omega)]
    refine vnumber_ok (p := (2, wi, 0, i)) (kd := y.1) v1 (hn i (Nat.le_refl _)) (uI (by rw [um_32, un_l (by omega)]; omega)) (by omega) (by omega) fun h2 a l2 f2 v2 tg2 av2 => ?_
    have tL2 := f2.tag tL
    have ix2 : IX (nI i) 40 i := IX.mk (by omega) (by omega)
    have ft : fitE h2 11 (some a) := (v2.2.2.2 (2, wi, 0, i) _ uO_s).1.1
    refine k_X1_beginTransaction_478 oo ?_
    generalize hh3 : h2.sER 731 (Fa W 0 + 1) i (some a) = h3
    have q3 : Fq (fun g b => g = 10000 + 731 ∧ b = Fa W 0 + 1) h2 h3 := by rw [← hh3]; exact Fq.sER (Fq.refl h2) ⟨rfl, rfl⟩
    have f3 : Fr (PAr W) h1 h3 := (f2.mono fun g b z => Or.inl z).trans (q3.1.mono fun g b z => Or.inr z)
    obtain ⟨v3, tg3⟩ := v2.oth q3 (fun g b z z2 => VQ.no (l := fmF) rfl g b (by rw [z2.1]; rfl) z)
    have tg13 : TG o1 [] h1 h3 := fun p z hp hz => by
      rw [q3.1.R (fun w => absurd w.1 (by decide))]; exact tg2 p z hp hz
    have w3 := w1.arg (i := i) (y := (a, y.1, (y.2.1, y.2.2), .leaf)) (v := (y.1, y.2, .leaf)) rfl (hn i (Nat.le_refl _)) f3 tg13 rfl (by rw [← hh3]; simp [n_sI, z_sI, tag_sI, I_sI, J_sI, R_sI, EI_sI, EJ_sI, ER_sI, n_sJ, z_sJ, tag_sJ, I_sJ, J_sJ, R_sJ, EI_sJ, EJ_sJ, ER_sJ, n_sR, z_sR, tag_sR, I_sR, J_sR, R_sR, EI_sR, EJ_sR, ER_sR, n_sEI, z_sEI, tag_sEI, I_sEI, J_sEI, R_sEI, EI_sEI, EJ_sEI, ER_sEI, n_sEJ, z_sEJ, tag_sEJ, I_sEJ, J_sEJ, R_sEJ, EI_sEJ, EJ_sEJ, ER_sEJ, n_sER, z_sER, tag_sER, I_sER, J_sER, R_sER, EI_sER, EJ_sER, ER_sER, n_nw, z_nw, tag_nw, I_nw, J_nw, R_nw, EI_nw, EJ_nw, ER_nw]) (fun k hk => by rw [← hh3]; simp [n_sI, z_sI, tag_sI, I_sI, J_sI, R_sI, EI_sI, EJ_sI, ER_sI, n_sJ, z_sJ, tag_sJ, I_sJ, J_sJ, R_sJ, EI_sJ, EJ_sJ, ER_sJ, n_sR, z_sR, tag_sR, I_sR, J_sR, R_sR, EI_sR, EJ_sR, ER_sR, n_sEI, z_sEI, tag_sEI, I_sEI, J_sEI, R_sEI, EI_sEI, EJ_sEI, ER_sEI, n_sEJ, z_sEJ, tag_sEJ, I_sEJ, J_sEJ, R_sEJ, EI_sEJ, EJ_sEJ, ER_sEJ, n_sER, z_sER, tag_sER, I_sER, J_sER, R_sER, EI_sER, EJ_sER, ER_sER, n_nw, z_nw, tag_nw, I_nw, J_nw, R_nw, EI_nw, EJ_nw, ER_nw, hk]; exact f2.ER (VQ.no (l := fmF) rfl _ _ rfl) k) (by omega)
    rw [nI_add]
    refine ih (i + 1) (by omega) h3 l2 _ (u1.trans (OUT.mk1 (p := (2, wi, 0, i)) (f3.mono PAr.ip) ⟨⟨by show 1 ≤ 2; omega, by show 2 ≤ 3; omega⟩, rfl⟩ (fun p z hp hz => tg13 p z (by simp) hz))) (c1.fr f3 (PAr.no rfl)) v3 (WkQ.fms w3 fun j hj => ?_) (x1.fr f3 (PAr.no rfl)) (wd1.fr f3 (fun a => PAr.no (l := [27]) rfl _ a rfl) (fun a => PAr.no (l := [2306]) rfl _ a rfl)) (fun k hk => ?_) (by unfold av at av2 hav ⊢; rw [q3.2.1]; omega)
    · have j0 : j = 0 := by omega
      subst j0
      show _ = uF _ 0 _ 0
      unfold uF
      rw [if_pos rfl]
      refine congrArg (fun f => (g, 0, f, [])) (funext fun k => ?_)
      show _ = uLc _ i _ k
      unfold uLc agi
      rw [List.take_add_one, hy]
      by_cases e : k = i
      · subst e
        rw [if_pos rfl, List.map_append, List.getElem?_append_right (by rw [List.length_map, List.length_take]; omega)]
        rw [List.length_map, List.length_take, Nat.min_eq_left (by omega), Nat.sub_self]
        rfl
      · rw [if_neg e]
        show (List.map _ (x.2.2.2.2.2.take i ++ [y]))[k]? = (List.map _ (x.2.2.2.2.2.take i))[k]?
        rw [List.map_append]
        rcases Nat.lt_or_ge k i with z | z
        · rw [List.getElem?_append_left (by rw [List.length_map, List.length_take]; omega)]
        · rw [List.getElem?_eq_none_iff.mpr (by rw [List.length_append, List.length_map, List.length_take, List.length_map]; simp; omega), List.getElem?_eq_none_iff.mpr (by rw [List.length_map, List.length_take]; omega)]
    · rw [uO_n (fun e => by have := congrArg (fun p : Sl => p.2.2.2) e; have : k = i := this; omega)]
      exact hn k (by omega)
end
