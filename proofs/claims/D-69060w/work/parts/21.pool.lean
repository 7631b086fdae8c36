theorem vinit_ok {G : Gt} {d : Nat} {h : AH} {a : Nat} {K : Outcome → AH → Prop} (hd : 1 ≤ d) (k : K (.returned none) h) : MW G d e_X30_init [.ref a] h K :=
  st_X30_init fun X o hG hD _ => k_X30_init_0 o (hd := by omega) k
/-- the pool: its free values; how many values may still come -/
def PL (G : Gt) (h : AH) (q : Nat) (l : List Nat) : Prop := h.tag q = some (10, 0) ∧ FL h l (h.R 1280 q) ∧ l.Nodup ∧ RM G h ∧ h.n ≤ G.ln
def av (G : Gt) (h : AH) (l : List Nat) : Nat := l.length + (G.ln - h.n)
/-- a value comes out of the pool -/
theorem take_ok {G : Gt} {d q kd : Nat} {h : AH} {l : List Nat} {K : Outcome → AH → Prop} (hp : PL G h q l) (ha : 1 ≤ av G h l) (hd : 2 ≤ d)
    (kk : ∀ h' a l', Fr (VP l h.n) h h' → OW h.n h'.n l (a :: l') → PL G h' q l' → av G h' l' + 1 = av G h l → RV h' a kd (0, 0) .leaf → h'.R 3716 a = none → h'.R 3718 a = none → K (.returned (some (.ref a))) h') : MW G d e_X11_take [.ref q, .int (nI kd)] h K := by
  refine st_X11_take fun X o hG hD hf => ?_
  subst hG; subst hD
  obtain ⟨hq, hl, hn, hr, hm⟩ := hp
  unfold RM at hr
  unfold av at ha kk
  cases l with
  | nil =>
    have hl' : h.R 1280 q = none := hl
    simp only [List.length_nil] at ha
    have hq2 : (h.nw 29 0 7).tag q = some (10, 0) := by have := hf.lt hq; rw [tag_nw, if_neg (by omega)]; exact hq
    have ha2 : (h.nw 29 0 7).tag h.n = some (29, 0) := if_pos rfl
    refine k_X11_take_0 o (fun _ => ?_) (fun a c => ?_)
    · refine k_X11_take_7 o (vinit_ok (by omega) ?_)
      refine k_X11_take_14 o ?_
      refine k_X11_take_21 o (fun _ => ?_) (fun a c => ?_)
      · refine k_X11_take_40 o ?_
        refine k_X11_take_65 o ?_
        refine kk _ h.n [] ?_ ?_ ⟨hq2, hl', List.nodup_nil, ?_, ?_⟩ ?_ ?_ ?_ ?_
        · exact (((((((Fr.refl h).nwV hf).sI (VP.new (Nat.le_refl _) rfl rfl)).sJ (VP.new (Nat.le_refl _) rfl rfl)).sJ (VP.new (Nat.le_refl _) rfl rfl)).sR (VP.new (Nat.le_refl _) rfl rfl)).sR (VP.new (Nat.le_refl _) rfl rfl)).sI (VP.new (Nat.le_refl _) rfl rfl) |>.sR (VP.new (Nat.le_refl _) rfl rfl)
        · refine ⟨by simp, fun x => ?_⟩
          show x ∈ [h.n] ↔ (x ∈ [] ∨ (h.n ≤ x ∧ x < h.n + 1))
          simp; omega
        · show h.z + 7 + 7 * (X.G.ln - (h.n + 1)) ≤ X.G.ls; omega
        · show h.n + 1 ≤ X.G.ln; omega
        · show 0 + (X.G.ln - (h.n + 1)) + 1 = _; simp only [List.length_nil]; omega
        · refine ⟨ha2, ?_, ?_, ?_, ?_, ?_⟩ <;> simp [n_sI, z_sI, tag_sI, I_sI, J_sI, R_sI, EI_sI, EJ_sI, ER_sI, n_sJ, z_sJ, tag_sJ, I_sJ, J_sJ, R_sJ, EI_sJ, EJ_sJ, ER_sJ, n_sR, z_sR, tag_sR, I_sR, J_sR, R_sR, EI_sR, EJ_sR, ER_sR, n_sEI, z_sEI, tag_sEI, I_sEI, J_sEI, R_sEI, EI_sEI, EJ_sEI, ER_sEI, n_sEJ, z_sEJ, tag_sEJ, I_sEJ, J_sEJ, R_sEJ, EI_sEJ, EJ_sEJ, ER_sEJ, n_sER, z_sER, tag_sER, I_sER, J_sER, R_sER, EI_sER, EJ_sER, ER_sER, n_nw, z_nw, tag_nw, I_nw, J_nw, R_nw, EI_nw, EJ_nw, ER_nw, RF, fln]
        · simp [n_sI, z_sI, tag_sI, I_sI, J_sI, R_sI, EI_sI, EJ_sI, ER_sI, n_sJ, z_sJ, tag_sJ, I_sJ, J_sJ, R_sJ, EI_sJ, EJ_sJ, ER_sJ, n_sR, z_sR, tag_sR, I_sR, J_sR, R_sR, EI_sR, EJ_sR, ER_sR, n_sEI, z_sEI, tag_sEI, I_sEI, J_sEI, R_sEI, EI_sEI, EJ_sEI, ER_sEI, n_sEJ, z_sEJ, tag_sEJ, I_sEJ, J_sEJ, R_sEJ, EI_sEJ, EJ_sEJ, ER_sEJ, n_sER, z_sER, tag_sER, I_sER, J_sER, R_sER, EI_sER, EJ_sER, ER_sER, n_nw, z_nw, tag_nw, I_nw, J_nw, R_nw, EI_nw, EJ_nw, ER_nw]
        · simp [n_sI, z_sI, tag_sI, I_sI, J_sI, R_sI, EI_sI, EJ_sI, ER_sI, n_sJ, z_sJ, tag_sJ, I_sJ, J_sJ, R_sJ, EI_sJ, EJ_sJ, ER_sJ, n_sR, z_sR, tag_sR, I_sR, J_sR, R_sR, EI_sR, EJ_sR, ER_sR, n_sEI, z_sEI, tag_sEI, I_sEI, J_sEI, R_sEI, EI_sEI, EJ_sEI, ER_sEI, n_sEJ, z_sEJ, tag_sEJ, I_sEJ, J_sEJ, R_sEJ, EI_sEJ, EJ_sEJ, ER_sEJ, n_sER, z_sER, tag_sER, I_sER, J_sER, R_sER, EI_sER, EJ_sER, ER_sER, n_nw, z_nw, tag_nw, I_nw, J_nw, R_nw, EI_nw, EJ_nw, ER_nw]
      · cases c
    · cases c
  | cons a l =>
    obtain ⟨e1, e2, e3⟩ := hl
    refine k_X11_take_0 o (fun c => ?_) (fun b c => ?_)
    · cases c
    cases c
    refine k_X11_take_17 o ?_
    refine k_X11_take_21 o (fun c => ?_) (fun b c => ?_)
    · cases c
    refine k_X11_take_29 o ?_
    refine k_X11_take_40 o ?_
    refine k_X11_take_65 o ?_
    have hm' : a ∈ a :: l := List.mem_cons_self
    have hal : a ∉ l := (List.nodup_cons.mp hn).1
    refine kk _ a l ?_ ?_ ⟨hq, ?_, (List.nodup_cons.mp hn).2, hr, hm⟩ ?_ ?_ ?_ ?_
    · exact ((((((((Fr.refl h).sR (Or.inr rfl)).sI (VP.inn hm' rfl rfl)).sJ (VP.inn hm' rfl rfl)).sJ (VP.inn hm' rfl rfl)).sR (VP.inn hm' rfl rfl)).sR (VP.inn hm' rfl rfl)).sI (VP.inn hm' rfl rfl)).sR (VP.inn hm' rfl rfl)
    · exact ⟨hn, fun x => ⟨Or.inl, fun z => z.elim id fun z => by have : x < h.n := z.2; omega⟩⟩
    · refine FL.fr (h := h) (P := fun f x => ¬ (f = 3716 ∧ x ∈ l)) ?_ ?_ (fun x hx hp => hp ⟨rfl, hx⟩)
      · refine ((((((((Fr.refl h).sR ?_).sI ?_).sJ ?_).sJ ?_).sR ?_).sR ?_).sI ?_).sR ?_ <;> (intro z; first | exact absurd z.1 (by decide) | exact hal z.2)
      · simpa [n_sI, z_sI, tag_sI, I_sI, J_sI, R_sI, EI_sI, EJ_sI, ER_sI, n_sJ, z_sJ, tag_sJ, I_sJ, J_sJ, R_sJ, EI_sJ, EJ_sJ, ER_sJ, n_sR, z_sR, tag_sR, I_sR, J_sR, R_sR, EI_sR, EJ_sR, ER_sR, n_sEI, z_sEI, tag_sEI, I_sEI, J_sEI, R_sEI, EI_sEI, EJ_sEI, ER_sEI, n_sEJ, z_sEJ, tag_sEJ, I_sEJ, J_sEJ, R_sEJ, EI_sEJ, EJ_sEJ, ER_sEJ, n_sER, z_sER, tag_sER, I_sER, J_sER, R_sER, EI_sER, EJ_sER, ER_sER, n_nw, z_nw, tag_nw, I_nw, J_nw, R_nw, EI_nw, EJ_nw, ER_nw] using e3
    · show l.length + (X.G.ln - h.n) + 1 = _; simp only [List.length_cons]; omega
    · refine ⟨e2, ?_, ?_, ?_, ?_, ?_⟩ <;> simp [n_sI, z_sI, tag_sI, I_sI, J_sI, R_sI, EI_sI, EJ_sI, ER_sI, n_sJ, z_sJ, tag_sJ, I_sJ, J_sJ, R_sJ, EI_sJ, EJ_sJ, ER_sJ, n_sR, z_sR, tag_sR, I_sR, J_sR, R_sR, EI_sR, EJ_sR, ER_sR, n_sEI, z_sEI, tag_sEI, I_sEI, J_sEI, R_sEI, EI_sEI, EJ_sEI, ER_sEI, n_sEJ, z_sEJ, tag_sEJ, I_sEJ, J_sEJ, R_sEJ, EI_sEJ, EJ_sEJ, ER_sEJ, n_sER, z_sER, tag_sER, I_sER, J_sER, R_sER, EI_sER, EJ_sER, ER_sER, n_nw, z_nw, tag_nw, I_nw, J_nw, R_nw, EI_nw, EJ_nw, ER_nw, RF, fln]
    · simp [n_sI, z_sI, tag_sI, I_sI, J_sI, R_sI, EI_sI, EJ_sI, ER_sI, n_sJ, z_sJ, tag_sJ, I_sJ, J_sJ, R_sJ, EI_sJ, EJ_sJ, ER_sJ, n_sR, z_sR, tag_sR, I_sR, J_sR, R_sR, EI_sR, EJ_sR, ER_sR, n_sEI, z_sEI, tag_sEI, I_sEI, J_sEI, R_sEI, EI_sEI, EJ_sEI, ER_sEI, n_sEJ, z_sEJ, tag_sEJ, I_sEJ, J_sEJ, R_sEJ, EI_sEJ, EJ_sEJ, ER_sEJ, n_sER, z_sER, tag_sER, I_sER, J_sER, R_sER, EI_sER, EJ_sER, ER_sER, n_nw, z_nw, tag_nw, I_nw, J_nw, R_nw, EI_nw, EJ_nw, ER_nw]
    · simp [n_sI, z_sI, tag_sI, I_sI, J_sI, R_sI, EI_sI, EJ_sI, ER_sI, n_sJ, z_sJ, tag_sJ, I_sJ, J_sJ, R_sJ, EI_sJ, EJ_sJ, ER_sJ, n_sR, z_sR, tag_sR, I_sR, J_sR, R_sR, EI_sR, EJ_sR, ER_sR, n_sEI, z_sEI, tag_sEI, I_sEI, J_sEI, R_sEI, EI_sEI, EJ_sEI, ER_sEI, n_sEJ, z_sEJ, tag_sEJ, I_sEJ, J_sEJ, R_sEJ, EI_sEJ, EJ_sEJ, ER_sEJ, n_sER, z_sER, tag_sER, I_sER, J_sER, R_sER, EI_sER, EJ_sER, ER_sER, n_nw, z_nw, tag_nw, I_nw, J_nw, R_nw, EI_nw, EJ_nw, ER_nw]
theorem number_ok {G : Gt} {d q kd : Nat} {t x y : Int64} {h : AH} {l : List Nat} {K : Outcome → AH → Prop} (ht : t.toInt32 = nI kd) (hp : PL G h q l) (ha : 1 ≤ av G h l) (hd : 3 ≤ d)
    (kk : ∀ h' a l', Fr (VP l h.n) h h' → OW h.n h'.n l (a :: l') → PL G h' q l' → av G h' l' + 1 = av G h l → RV h' a kd (x, y) .leaf → h'.R 3716 a = none → h'.R 3718 a = none → K (.returned (some (.ref a))) h') : MW G d e_X11_number [.ref q, .long t, .long x, .long y] h K := by
  refine st_X11_number fun X o hG hD hf => ?_
  subst hG; subst hD
  have hq := hp.1
  refine k_X11_number_0 o ?_
  rw [ht]
  refine take_ok hp ha (by omega) fun h' a l' f1 w1 p1 v1 r1 n1 t1 => ?_
  obtain ⟨e2, e3, e4, e5, e6, e7⟩ := r1
  have ha : a ∈ l ∨ h.n ≤ a := ((w1.2 a).mp List.mem_cons_self).imp id And.left
  refine k_X11_number_6 o (kk _ a l' ?_ w1 ⟨p1.1, ?_, p1.2.2⟩ v1 ?_ n1 t1)
  · exact (f1.sJ (ha.elim (fun z => VP.inn z rfl rfl) fun z => VP.new z rfl rfl)).sJ (ha.elim (fun z => VP.inn z rfl rfl) fun z => VP.new z rfl rfl)
  · exact FL.fr (P := fun f x => f = 3713 ∨ f = 3714) (((Fr.refl h').sJ (Or.inl rfl)).sJ (Or.inr rfl)) p1.2.1 (fun x _ z => by omega)
  · exact ⟨e2, e3, by simp [n_sI, z_sI, tag_sI, I_sI, J_sI, R_sI, EI_sI, EJ_sI, ER_sI, n_sJ, z_sJ, tag_sJ, I_sJ, J_sJ, R_sJ, EI_sJ, EJ_sJ, ER_sJ, n_sR, z_sR, tag_sR, I_sR, J_sR, R_sR, EI_sR, EJ_sR, ER_sR, n_sEI, z_sEI, tag_sEI, I_sEI, J_sEI, R_sEI, EI_sEI, EJ_sEI, ER_sEI, n_sEJ, z_sEJ, tag_sEJ, I_sEJ, J_sEJ, R_sEJ, EI_sEJ, EJ_sEJ, ER_sEJ, n_sER, z_sER, tag_sER, I_sER, J_sER, R_sER, EI_sER, EJ_sER, ER_sER, n_nw, z_nw, tag_nw, I_nw, J_nw, R_nw, EI_nw, EJ_nw, ER_nw], by simp [n_sI, z_sI, tag_sI, I_sI, J_sI, R_sI, EI_sI, EJ_sI, ER_sI, n_sJ, z_sJ, tag_sJ, I_sJ, J_sJ, R_sJ, EI_sJ, EJ_sJ, ER_sJ, n_sR, z_sR, tag_sR, I_sR, J_sR, R_sR, EI_sR, EJ_sR, ER_sR, n_sEI, z_sEI, tag_sEI, I_sEI, J_sEI, R_sEI, EI_sEI, EJ_sEI, ER_sEI, n_sEJ, z_sEJ, tag_sEJ, I_sEJ, J_sEJ, R_sEJ, EI_sEJ, EJ_sEJ, ER_sEJ, n_sER, z_sER, tag_sER, I_sER, J_sER, R_sER, EI_sER, EJ_sER, ER_sER, n_nw, z_nw, tag_nw, I_nw, J_nw, R_nw, EI_nw, EJ_nw, ER_nw], e6, e7⟩
def P1 (f0 a0 f a : Nat) : Prop := f = f0 ∧ a = a0
def PF (f0 f _a : Nat) : Prop := f = f0
def PO (P Q : Nat → Nat → Prop) (f a : Nat) : Prop := P f a ∨ Q f a
theorem P1.i {f a : Nat} : P1 f a f a := ⟨rfl, rfl⟩
theorem PF.i {f a : Nat} : PF f f a := rfl
theorem PO.l {P Q : Nat → Nat → Prop} {f a : Nat} (h : P f a) : PO P Q f a := Or.inl h
theorem PO.r {P Q : Nat → Nat → Prop} {f a : Nat} (h : Q f a) : PO P Q f a := Or.inr h
/-- a value and its parts go -/
theorem drop_loop {q : Nat} : ∀ (g : LF) {X : Xt} (o : OK e_X11_drop X) {K : Outcome → AH → Prop} {h : AH} {l : List Nat} {p : Option Nat} {v1 v3 : Value}, PL X.G h q l → RF h g p → (fad g ++ l).Nodup → fdp g ≤ X.d →
    (∀ h' l' v, Fr (VP (fad g ++ l) h.n) h h' → OW h.n h'.n (fad g ++ l) l' → PL X.G h' q l' → h'.n = h.n → V X K 24 [.ref q, v1, .null, v] [] h') → V X K 5 [.ref q, v1, va_rf p, v3] [] h
  | .leaf, X, o, K, h, l, p, v1, v3, hp, hr, hn, hd, k => by
    cases hr
    refine k_X11_drop_5 o (fun _ => ?_) (fun a c => nomatch c)
    exact k h l v3 (Fr.refl h) ⟨hn, fun x => ⟨Or.inl, fun z => z.elim id fun z => by omega⟩⟩ hp rfl
  | .inner kk x _ c r, X, o, K, h, l, p, v1, v3, ⟨hq, hl, hl2, hl3, hl4⟩, ⟨e1, e2, e3, e4, e5, e6, e7, e8⟩, hn, hd, k => by
    refine V.fr fun hf => ?_
    subst e1
    simp only [fdp] at hd
    simp only [fad, List.cons_append, List.append_assoc, List.nodup_cons, List.nodup_append, List.mem_append] at hn
    have hxn := hf.lt e2
    have hrn := RF.lt hf e8
    refine k_X11_drop_5 o (fun c => nomatch c) (fun a c => ?_)
    cases c
    refine k_X11_drop_9 o ?_
    refine st_X11_drop fun X' o' hG hD _ => ?_
    refine k_X11_drop_0 o' ?_
    refine drop_loop c o' ⟨hq, hl, hl2, hG ▸ hl3, hG ▸ hl4⟩ e7 (by simp only [List.nodup_append]; grind) (by omega) fun h1 l1 v g1 w1 r1 m1 => ?_
    have t1 := g1.tag hq
    have t2 := g1.tag e2
    have w2 := w1.2
    have w3 := w1.1
    simp only [List.mem_append, m1] at w2
    refine k_X11_drop_24 o' ?_
    refine k_X11_drop_19 o ?_
    have G1 : Fr (VP (fad (.inner kk x () c r) ++ l) h.n) h ((h1.sR 3716 x.1 (h1.R 1280 q)).sR 1280 q (some x.1)) :=
      ((g1.mono (VP.mono fun a z => by simp only [fad, List.cons_append, List.mem_cons, List.mem_append] at z ⊢; grind)).sR (VP.inn (by simp [fad]) rfl rfl)).sR (Or.inr rfl)
    refine drop_loop r o (l := x.1 :: l1) ⟨t1, ?_, ?_, ?_, ?_⟩ (RF.fr (P := PO (VP (fad c ++ l) h.n) (PO (P1 3716 x.1) (PF 1280))) (((g1.mono fun f a z => PO.l z).sR (PO.r (PO.l P1.i))).sR (PO.r (PO.r PF.i))) e8 fun f a ha b1 b2 z => ?_) ?_ (by omega) fun h2 l2 v g2 u2 r2 m2 => ?_
    · refine ⟨by simp [n_sI, z_sI, tag_sI, I_sI, J_sI, R_sI, EI_sI, EJ_sI, ER_sI, n_sJ, z_sJ, tag_sJ, I_sJ, J_sJ, R_sJ, EI_sJ, EJ_sJ, ER_sJ, n_sR, z_sR, tag_sR, I_sR, J_sR, R_sR, EI_sR, EJ_sR, ER_sR, n_sEI, z_sEI, tag_sEI, I_sEI, J_sEI, R_sEI, EI_sEI, EJ_sEI, ER_sEI, n_sEJ, z_sEJ, tag_sEJ, I_sEJ, J_sEJ, R_sEJ, EI_sEJ, EJ_sEJ, ER_sEJ, n_sER, z_sER, tag_sER, I_sER, J_sER, R_sER, EI_sER, EJ_sER, ER_sER, n_nw, z_nw, tag_nw, I_nw, J_nw, R_nw, EI_nw, EJ_nw, ER_nw], t2, FL.fr (h := h1) (P := PO (P1 3716 x.1) (PF 1280)) (((Fr.refl h1).sR (PO.l P1.i)).sR (PO.r PF.i)) ?_ (fun a ha z => ?_)⟩
      · have : (((h1.sR 3716 x.1 (h1.R 1280 q)).sR 1280 q (some x.1)).R 3716 x.1) = h1.R 1280 q := by simp [n_sI, z_sI, tag_sI, I_sI, J_sI, R_sI, EI_sI, EJ_sI, ER_sI, n_sJ, z_sJ, tag_sJ, I_sJ, J_sJ, R_sJ, EI_sJ, EJ_sJ, ER_sJ, n_sR, z_sR, tag_sR, I_sR, J_sR, R_sR, EI_sR, EJ_sR, ER_sR, n_sEI, z_sEI, tag_sEI, I_sEI, J_sEI, R_sEI, EI_sEI, EJ_sEI, ER_sEI, n_sEJ, z_sEJ, tag_sEJ, I_sEJ, J_sEJ, R_sEJ, EI_sEJ, EJ_sEJ, ER_sEJ, n_sER, z_sER, tag_sER, I_sER, J_sER, R_sER, EI_sER, EJ_sER, ER_sER, n_nw, z_nw, tag_nw, I_nw, J_nw, R_nw, EI_nw, EJ_nw, ER_nw]
        rw [this]; exact r1.2.1
      · have := (w2 a).mp ha
        simp only [PO, P1, PF] at z
        grind
    · simp only [List.nodup_cons]; grind
    · exact hG ▸ r1.2.2.2.1
    · exact hG ▸ r1.2.2.2.2
    · have := hrn a ha
      simp only [VP, PO, P1, PF, List.mem_append] at z
      grind
    · simp only [List.nodup_append, List.nodup_cons, List.mem_cons]
      grind
    · have m2' : h2.n = h1.n := m2
      have m3 : ((h1.sR 3716 x.1 (h1.R 1280 q)).sR 1280 q (some x.1)).n = h1.n := rfl
      have u3 := u2.2
      simp only [m2', m3, m1, List.mem_append, List.mem_cons, w2] at u3
      refine k h2 l2 v (G1.trans (g2.mono (VP.mono fun a z => ?_))) ⟨u2.1, fun a => ?_⟩ r2 (by omega)
      · simp only [fad, List.cons_append, List.mem_cons, List.mem_append, w2, m3, m1] at z ⊢
        grind
      · simp only [fad, List.cons_append, List.mem_cons, List.mem_append, m2', m1]
        grind
