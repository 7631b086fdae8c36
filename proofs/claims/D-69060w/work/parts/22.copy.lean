theorem OW.len {n n' : Nat} {O O' : List Nat} (w : OW n n' O O') (hO : O.Nodup) (hlt : ∀ x ∈ O, x < n) (hn : n ≤ n') : O'.length = O.length + (n' - n) := by
  have h2 : (O ++ List.range' n (n' - n)).Nodup := by
    refine List.nodup_append.mpr ⟨hO, List.nodup_range', fun a ha b hb e => ?_⟩
    have := hlt a ha
    have := (List.mem_range'_1.mp hb).1
    omega
  have h3 : O'.Perm (O ++ List.range' n (n' - n)) := (List.perm_ext_iff_of_nodup w.1 h2).mpr fun x => by
    rw [w.2, List.mem_append, List.mem_range'_1]
    constructor <;> (rintro (z | z); exact Or.inl z; exact Or.inr (by omega))
  rw [h3.length_eq]; simp
theorem drop_ok {G : Gt} {d q a kd : Nat} {x : Int64 × Int64} {c : LF} {h : AH} {l : List Nat} {K : Outcome → AH → Prop} (hp : PL G h q l) (hv : RV h a kd x c) (hn : (a :: (fad c ++ l)).Nodup) (hd : fdp c ≤ d)
    (kk : ∀ h' l', Fr (VP (a :: (fad c ++ l)) h.n) h h' → OW h.n h'.n (a :: (fad c ++ l)) l' → PL G h' q l' → h'.n = h.n → av G h' l' = av G h l + 1 + fsz c → K (.returned none) h') : MW G d e_X11_drop [.ref q, .ref a] h K := by
  refine st_X11_drop fun X o hG hD hf => ?_
  subst hG; subst hD
  obtain ⟨e2, e3, e4, e5, e6, e7⟩ := hv
  have hn' := hn
  simp only [List.nodup_cons, List.mem_append] at hn
  have hx := hf.lt e2
  have hc := RF.lt hf e7
  have hll := FL.lt hf hp.2.1
  refine k_X11_drop_0 o (drop_loop c o hp e7 hn.2 (by omega) fun h1 l1 v g1 w1 r1 m1 => ?_)
  have t1 := g1.tag hp.1
  have t2 := g1.tag e2
  have w2 := w1.2
  have w3 := w1.1
  simp only [List.mem_append, m1] at w2
  have hw : OW h.n h.n (a :: (fad c ++ l)) (a :: l1) := ⟨by simp only [List.nodup_cons]; grind, fun b => by simp only [List.mem_cons, List.mem_append, w2]; grind⟩
  have hlen := hw.len hn' (by simp only [List.mem_cons, List.mem_append]; grind) (Nat.le_refl _)
  refine k_X11_drop_24 o ?_
  refine kk _ (a :: l1) ?_ ?_ ⟨t1, ⟨by simp [n_sI, z_sI, tag_sI, I_sI, J_sI, R_sI, EI_sI, EJ_sI, ER_sI, n_sJ, z_sJ, tag_sJ, I_sJ, J_sJ, R_sJ, EI_sJ, EJ_sJ, ER_sJ, n_sR, z_sR, tag_sR, I_sR, J_sR, R_sR, EI_sR, EJ_sR, ER_sR, n_sEI, z_sEI, tag_sEI, I_sEI, J_sEI, R_sEI, EI_sEI, EJ_sEI, ER_sEI, n_sEJ, z_sEJ, tag_sEJ, I_sEJ, J_sEJ, R_sEJ, EI_sEJ, EJ_sEJ, ER_sEJ, n_sER, z_sER, tag_sER, I_sER, J_sER, R_sER, EI_sER, EJ_sER, ER_sER, n_nw, z_nw, tag_nw, I_nw, J_nw, R_nw, EI_nw, EJ_nw, ER_nw], t2, FL.fr (h := h1) (P := PO (P1 3716 a) (PF 1280)) (((Fr.refl h1).sR (PO.l P1.i)).sR (PO.r PF.i)) ?_ (fun b hb z => ?_)⟩, hw.1, r1.2.2.2.1, r1.2.2.2.2⟩ m1 ?_
  · exact ((g1.mono (VP.mono fun b z => by simp only [List.mem_cons]; grind)).sR (VP.inn (by simp) rfl rfl)).sR (Or.inr rfl)
  · have m3 : ((h1.sR 3716 a (h1.R 1280 q)).sR 1280 q (some a)).n = h.n := m1
    rw [m3]; exact hw
  · have : (((h1.sR 3716 a (h1.R 1280 q)).sR 1280 q (some a)).R 3716 a) = h1.R 1280 q := by simp [n_sI, z_sI, tag_sI, I_sI, J_sI, R_sI, EI_sI, EJ_sI, ER_sI, n_sJ, z_sJ, tag_sJ, I_sJ, J_sJ, R_sJ, EI_sJ, EJ_sJ, ER_sJ, n_sR, z_sR, tag_sR, I_sR, J_sR, R_sR, EI_sR, EJ_sR, ER_sR, n_sEI, z_sEI, tag_sEI, I_sEI, J_sEI, R_sEI, EI_sEI, EJ_sEI, ER_sEI, n_sEJ, z_sEJ, tag_sEJ, I_sEJ, J_sEJ, R_sEJ, EI_sEJ, EJ_sEJ, ER_sEJ, n_sER, z_sER, tag_sER, I_sER, J_sER, R_sER, EI_sER, EJ_sER, ER_sER, n_nw, z_nw, tag_nw, I_nw, J_nw, R_nw, EI_nw, EJ_nw, ER_nw]
    rw [this]; exact r1.2.1
  · have := (w2 b).mp hb
    simp only [PO, P1, PF] at z
    grind
  · show (a :: l1).length + (X.G.ln - h1.n) = _
    unfold av
    simp only [List.length_cons, List.length_append, fad_len] at hlen ⊢
    omega
/-! forests put together -/
def fap {α : Type} : Std.DTreeMap.Internal.Impl α (fun _ => Unit) → Std.DTreeMap.Internal.Impl α (fun _ => Unit) → Std.DTreeMap.Internal.Impl α (fun _ => Unit)
  | .leaf, g => g
  | .inner k x u c r, g => .inner k x u c (fap r g)
def flst : LF → Option Nat → Option Nat
  | .leaf, d => d
  | .inner _ x _ _ r, _ => flst r (some x.1)
theorem fad_ap : ∀ b g : LF, fad (fap b g) = fad b ++ fad g
  | .leaf, g => rfl
  | .inner _ _ _ c r, g => by simp only [fap, fad, fad_ap r g, List.cons_append, List.append_assoc]
theorem fer_ap : ∀ b g : LF, fer (fap b g) = fap (fer b) (fer g)
  | .leaf, g => rfl
  | .inner _ _ _ c r, g => by simp only [fap, fer, fer_ap r g]
theorem fln_ap {α : Type} : ∀ b g : Std.DTreeMap.Internal.Impl α (fun _ => Unit), fln (fap b g) = fln b + fln g
  | .leaf, g => by simp [fap, fln]
  | .inner _ _ _ c r, g => by simp only [fap, fln, fln_ap r g]; omega
theorem fap_leaf {α : Type} : ∀ b : Std.DTreeMap.Internal.Impl α (fun _ => Unit), fap b .leaf = b
  | .leaf => rfl
  | .inner _ _ _ c r => by simp only [fap, fap_leaf r]
theorem fap_assoc {α : Type} : ∀ a b c : Std.DTreeMap.Internal.Impl α (fun _ => Unit), fap (fap a b) c = fap a (fap b c)
  | .leaf, b, c => rfl
  | .inner _ _ _ _ r, b, c => by simp only [fap, fap_assoc r b c]
theorem flst_ap : ∀ (b : LF) (g : LF) (d : Option Nat), flst (fap b g) d = flst g (flst b d)
  | .leaf, g, d => rfl
  | .inner _ x _ c r, g, d => by simp only [fap, flst, flst_ap r g]
theorem flst_in : ∀ {b : LF} {d : Option Nat} {z : Nat}, flst b d = some z → z ∈ fad b ∨ d = some z
  | .leaf, d, z, h => Or.inr h
  | .inner _ x _ c r, d, z, h => by
    rcases flst_in (b := r) (d := some x.1) (z := z) h with q | q
    · left; simp [fad, q]
    · left; cases q; simp [fad]
/-- the last one's next: what lies behind it now -/
theorem RF.snoc {h : AH} {g : LF} {p' : Option Nat} {z : Nat} (hg : RF h g p') (hz : z ∉ fad g) : ∀ {b : LF} {p : Option Nat}, RF h b p → flst b none = some z → (fad b).Nodup → RF (h.sR 3716 z p') (fap b g) p
  | .leaf, p, _, e, _ => nomatch e
  | .inner k x _ c .leaf, p, ⟨e1, e2, e3, e4, e5, e6, e7, e8⟩, e, hn => by
    cases e
    have hc : x.1 ∉ fad c := by simp only [fad, List.nodup_cons, List.mem_append] at hn; grind
    have f : Fr (P1 3716 x.1) h (h.sR 3716 x.1 p') := (Fr.refl h).sR P1.i
    refine ⟨e1, e2, e3, e4, e5, e6, ?_, ?_⟩
    · exact RF.fr f e7 fun f a ha _ _ q => hc (q.2 ▸ ha)
    · rw [R_same]; exact RF.fr f hg fun f a ha _ _ q => hz (q.2 ▸ ha)
  | .inner k x _ c (.inner k2 x2 u2 c2 r2), p, ⟨e1, e2, e3, e4, e5, e6, e7, e8⟩, e, hn => by
    have hn2 : (fad (.inner k2 x2 u2 c2 r2)).Nodup := by simp only [fad, List.nodup_cons, List.nodup_append, List.mem_append] at hn ⊢; grind
    have hin : z ∈ fad (.inner k2 x2 u2 c2 r2) := by
      rcases flst_in (b := .inner k2 x2 u2 c2 r2) (d := none) (z := z) e with q | q
      · exact q
      · cases q
    have hzx : ¬ (x.1 = z) := fun q => by subst q; rw [fad] at hn; exact (List.nodup_cons.mp hn).1 (List.mem_append_right _ hin)
    have hc : z ∉ fad c := fun q => by rw [fad] at hn; exact (List.nodup_append.mp (List.nodup_cons.mp hn).2).2.2 z q z hin rfl
    have f : Fr (P1 3716 z) h (h.sR 3716 z p') := (Fr.refl h).sR P1.i
    refine ⟨e1, e2, e3, e4, e5, e6, RF.fr f e7 fun f a ha _ _ q => hc (q.2 ▸ ha), ?_⟩
    rw [R_sR, if_neg fun q => hzx q.2]
    exact RF.snoc hg hz (b := .inner k2 x2 u2 c2 r2) e8 e hn2

theorem RF.tg {h : AH} : ∀ {g : LF} {p : Option Nat}, RF h g p → ∀ a ∈ fad g, h.tag a = some (29, 0)
  | .leaf, _, _ => fun a m => by cases m
  | .inner k x _ c r, p, ⟨_, e2, _, _, _, _, e7, e8⟩ => fun a m => by
    rcases List.mem_cons.mp m with e | m
    · subst e; exact e2
    · rcases List.mem_append.mp m with m | m
      · exact RF.tg e7 a m
      · exact RF.tg e8 a m
def CopyOk (c : LF) : Prop := ∀ {G : Gt} {d q a kd : Nat} {x : Int64 × Int64} {h : AH} {l : List Nat} {K : Outcome → AH → Prop}, PL G h q l → RV h a kd x c → (∀ y ∈ a :: fad c, y ∉ l) → 1 + fsz c ≤ av G h l → fdp c + 3 ≤ d →
  (∀ h' a' c' l', Fr (VP l h.n) h h' → OW h.n h'.n l (a' :: (fad c' ++ l')) → PL G h' q l' → av G h' l' + (1 + fsz c) = av G h l → RV h' a' kd x c' → fer c' = fer c → h'.R 3718 a' = h.R 3718 a → h'.R 3716 a' = none → K (.returned (some (.ref a'))) h') → MW G d e_X11_copy [.ref q, .ref a] h K
def CopyLoop (g : LF) : Prop := ∀ {q a a1 : Nat} {X : Xt} (_ : OK e_X11_copy X) {K : Outcome → AH → Prop} {h : AH} {l : List Nat} {b : LF} {p : Option Nat} {v5 : Value}, PL X.G h q l → h.tag a1 = some (29, 0) → RF h g p → RF h b (h.R 3715 a1) → (a1 :: (fad b ++ l)).Nodup → (∀ y ∈ fad g, y ∉ a1 :: (fad b ++ l)) → fsz g ≤ av X.G h l → fdp g + 3 ≤ X.d →
  (∀ h' b' l' v w, Fr (VP (a1 :: (fad b ++ l)) h.n) h h' → OW h.n h'.n (a1 :: (fad b ++ l)) (a1 :: (fad b' ++ l')) → PL X.G h' q l' → av X.G h' l' + fsz g = av X.G h l → RF h' b' (h'.R 3715 a1) → fer b' = fap (fer b) (fer g) →
    (h'.I 3712 a1 = h.I 3712 a1 ∧ h'.J 3713 a1 = h.J 3713 a1 ∧ h'.J 3714 a1 = h.J 3714 a1 ∧ h'.R 3718 a1 = h.R 3718 a1 ∧ h'.R 3716 a1 = h.R 3716 a1) → V X K 86 [.ref q, .ref a, .ref a1, w, .null, v] [] h') →
  V X K 41 [.ref q, .ref a, .ref a1, va_rf (flst b none), va_rf p, v5] [] h
theorem copy_of {c : LF} (L : CopyLoop c) : CopyOk c := by
  intro G d q a kd x h l K hp hv hdis hav hd kk
  refine st_X11_copy fun X o hG hD hf => ?_
  subst hG; subst hD
  obtain ⟨e2, e3, e4, e5, e6, e7⟩ := hv
  have hq := hp.1
  have hxn := hf.lt e2
  have hcn := RF.lt hf e7
  refine k_X11_copy_0 o ?_
  refine take_ok hp (by omega) (by omega) fun h1 a1 l1 f1 w1 p1 v1 r1 n1 t1 => ?_
  have w2 := w1.2
  have w3 := w1.1
  simp only [List.mem_cons] at w2 hdis
  have ha1 : a1 ∈ l ∨ h.n ≤ a1 := ((w2 a1).mp (Or.inl rfl)).imp id And.left
  have hq1 := p1.1
  have t2 := f1.tag e2
  obtain ⟨u2, u3, u4, u5, u6, u7⟩ := r1
  have nv : ∀ y f, (y = a ∨ y ∈ fad c) → f ≠ 1280 → ¬ VP l h.n f y := fun y f hy hf' => VP.out (hdis y hy) (by grind) hf'
  have j1 : h1.J 3713 a = x.1 := by rw [f1.J (nv a _ (Or.inl rfl) (by decide))]; exact e4
  have j2 : h1.J 3714 a = x.2 := by rw [f1.J (nv a _ (Or.inl rfl) (by decide))]; exact e5
  have j3 : h1.R 3718 a = h.R 3718 a := f1.R (nv a _ (Or.inl rfl) (by decide))
  have j4 : h1.R 3715 a = h.R 3715 a := f1.R (nv a _ (Or.inl rfl) (by decide))
  have j5 : h1.I 3717 a = nI (fln c) := by rw [f1.I (nv a _ (Or.inl rfl) (by decide))]; exact e6
  have c1 : RF h1 c (h.R 3715 a) := RF.fr f1 e7 fun f y hy b1 b2 => nv y f (Or.inr hy) (by omega)
  refine k_X11_copy_8 o ?_
  generalize hh : ((h1.sJ 3713 a1 x.1).sJ 3714 a1 x.2).sR 3718 a1 (h.R 3718 a) = h2
  have f2 : Fr (PO (P1 3713 a1) (PO (P1 3714 a1) (P1 3718 a1))) h1 h2 := by rw [← hh]; exact (((Fr.refl h1).sJ (PO.l P1.i)).sJ (PO.r (PO.l P1.i))).sR (PO.r (PO.r P1.i))
  have f2' : Fr (VP l h.n) h h2 := by rw [← hh]; exact ((f1.sJ (ha1.elim (fun z => VP.inn z rfl rfl) fun z => VP.new z rfl rfl)).sJ (ha1.elim (fun z => VP.inn z rfl rfl) fun z => VP.new z rfl rfl)).sR (ha1.elim (fun z => VP.inn z rfl rfl) fun z => VP.new z rfl rfl)
  have m2 : h2.n = h1.n := by rw [← hh]; rfl
  have z2 : h2.z = h1.z := by rw [← hh]; rfl
  have g1 : h2.I 3712 a1 = nI kd := by rw [f2.I (by simp [PO, P1])]; exact u3
  have g2 : h2.J 3713 a1 = x.1 := by rw [← hh]; simp [n_sI, z_sI, tag_sI, I_sI, J_sI, R_sI, EI_sI, EJ_sI, ER_sI, n_sJ, z_sJ, tag_sJ, I_sJ, J_sJ, R_sJ, EI_sJ, EJ_sJ, ER_sJ, n_sR, z_sR, tag_sR, I_sR, J_sR, R_sR, EI_sR, EJ_sR, ER_sR, n_sEI, z_sEI, tag_sEI, I_sEI, J_sEI, R_sEI, EI_sEI, EJ_sEI, ER_sEI, n_sEJ, z_sEJ, tag_sEJ, I_sEJ, J_sEJ, R_sEJ, EI_sEJ, EJ_sEJ, ER_sEJ, n_sER, z_sER, tag_sER, I_sER, J_sER, R_sER, EI_sER, EJ_sER, ER_sER, n_nw, z_nw, tag_nw, I_nw, J_nw, R_nw, EI_nw, EJ_nw, ER_nw]
  have g3 : h2.J 3714 a1 = x.2 := by rw [← hh]; simp [n_sI, z_sI, tag_sI, I_sI, J_sI, R_sI, EI_sI, EJ_sI, ER_sI, n_sJ, z_sJ, tag_sJ, I_sJ, J_sJ, R_sJ, EI_sJ, EJ_sJ, ER_sJ, n_sR, z_sR, tag_sR, I_sR, J_sR, R_sR, EI_sR, EJ_sR, ER_sR, n_sEI, z_sEI, tag_sEI, I_sEI, J_sEI, R_sEI, EI_sEI, EJ_sEI, ER_sEI, n_sEJ, z_sEJ, tag_sEJ, I_sEJ, J_sEJ, R_sEJ, EI_sEJ, EJ_sEJ, ER_sEJ, n_sER, z_sER, tag_sER, I_sER, J_sER, R_sER, EI_sER, EJ_sER, ER_sER, n_nw, z_nw, tag_nw, I_nw, J_nw, R_nw, EI_nw, EJ_nw, ER_nw]
  have g4 : h2.R 3718 a1 = h.R 3718 a := by rw [← hh]; simp [n_sI, z_sI, tag_sI, I_sI, J_sI, R_sI, EI_sI, EJ_sI, ER_sI, n_sJ, z_sJ, tag_sJ, I_sJ, J_sJ, R_sJ, EI_sJ, EJ_sJ, ER_sJ, n_sR, z_sR, tag_sR, I_sR, J_sR, R_sR, EI_sR, EJ_sR, ER_sR, n_sEI, z_sEI, tag_sEI, I_sEI, J_sEI, R_sEI, EI_sEI, EJ_sEI, ER_sEI, n_sEJ, z_sEJ, tag_sEJ, I_sEJ, J_sEJ, R_sEJ, EI_sEJ, EJ_sEJ, ER_sEJ, n_sER, z_sER, tag_sER, I_sER, J_sER, R_sER, EI_sER, EJ_sER, ER_sER, n_nw, z_nw, tag_nw, I_nw, J_nw, R_nw, EI_nw, EJ_nw, ER_nw]
  have g5 : h2.R 3716 a1 = none := by rw [f2.R (by simp [PO, P1])]; exact n1
  have g6 : h2.R 3715 a1 = none := by rw [f2.R (by simp [PO, P1])]; exact u7
  have g7 : h2.R 3715 a = h.R 3715 a := by rw [f2.R (by simp [PO, P1])]; exact j4
  have pl2 : PL X.G h2 q l1 := by
    refine ⟨f2.tag hq1, ?_, p1.2.2.1, ?_, by rw [m2]; exact p1.2.2.2.2⟩
    · rw [f2.R (by simp [PO, P1])]; exact FL.fr f2 p1.2.1 fun y _ z => by simp [PO, P1] at z
    · have := p1.2.2.2.1; unfold RM at *; rw [m2, z2]; exact this
  have av2 : av X.G h2 l1 = av X.G h1 l1 := by unfold av; rw [m2]
  have disj : ∀ y ∈ fad c, y ∉ a1 :: (fad (.leaf : LF) ++ l1) := fun y hy => by simp only [fad, List.nil_append, List.mem_cons]; grind
  refine L o (b := .leaf) pl2 (f2.tag u2) (RF.fr f2 c1 fun f y hy _ _ z => ?_) g6 (by simpa [fad] using w3) disj (by omega) (by omega) fun h3 b3 l3 v w f3 w4 p3 v3 r3 s3 i3 => ?_
  · simp only [PO, P1] at z; grind
  simp only [fad, List.nil_append] at f3 w4
  have w5 := w4.2
  have w6 := w4.1
  simp only [List.mem_cons, List.mem_append] at w5
  have na : ∀ f, f ≠ 1280 → ¬ VP (a1 :: l1) h2.n f a := fun f hf' => VP.out (by simp only [List.mem_cons]; grind) (by have := f1.n; omega) hf'
  have k1 : h3.I 3717 a = nI (fln c) := by rw [f3.I (na _ (by decide)), f2.I (by simp [PO, P1])]; exact j5
  have k2 := f3.tag (f2.tag t2)
  have k3 := f3.tag (f2.tag u2)
  have hb3 : fer b3 = fer c := s3
  have hlen : fln b3 = fln c := by rw [← fer_ln, hb3, fer_ln]
  have fm : h1.n ≤ h3.n := by have := f3.n; omega
  have ha3 : a1 ∉ fad b3 ∧ a1 ∉ l3 := by simp only [List.nodup_cons, List.mem_append] at w6; grind
  refine k_X11_copy_86 o ?_
  have f4 : Fr (P1 3717 a1) h3 (h3.sI 3717 a1 (nI (fln c))) := (Fr.refl h3).sI P1.i
  refine kk _ a1 b3 l3 ?_ ?_ ⟨p3.1, ?_, p3.2.2⟩ ?_ ⟨k3, ?_, ?_, ?_, ?_, ?_⟩ hb3 ?_ ?_
  · refine (f2'.trans (f3.mono (VP.mono fun y z => ?_))).sI (ha1.elim (fun z => VP.inn z rfl rfl) fun z => VP.new z rfl rfl)
    have := f1.n
    simp only [List.mem_cons] at z
    grind
  · refine ⟨w6, fun y => ?_⟩
    show _ ↔ y ∈ l ∨ (h.n ≤ y ∧ y < h3.n)
    simp only [List.mem_cons, List.mem_append]
    have := f1.n
    have := w5 y
    grind
  · exact FL.fr f4 p3.2.1 fun y _ z => absurd z.1 (by decide)
  · show l3.length + (X.G.ln - h3.n) + (1 + fsz c) = _
    unfold av at *
    omega
  · rw [f4.I (by simp [P1]), i3.1]; exact g1
  · rw [f4.J (by simp [P1]), i3.2.1]; exact g2
  · rw [f4.J (by simp [P1]), i3.2.2.1]; exact g3
  · rw [I_same, hlen]
  · rw [f4.R (by simp [P1])]; exact RF.fr f4 r3 fun f y hy _ _ z => ha3.1 (z.2 ▸ hy)
  · rw [f4.R (by simp [P1]), i3.2.2.2.1]; exact g4
  · rw [f4.R (by simp [P1]), i3.2.2.2.2]; exact g5
theorem copy_loop : ∀ g : LF, CopyLoop g
  | .leaf => by
    rename_i q a a1 X
    intro o K h l b p v5 hp h1 hr hb hn hdis hav hd k
    cases hr
    refine k_X11_copy_41 o (fun _ => ?_) (fun a c => nomatch c)
    exact k h b l v5 _ (Fr.refl h) ⟨hn, fun x => ⟨Or.inl, fun z => z.elim id fun z => by omega⟩⟩ hp rfl hb (by rw [fer, fap_leaf]) ⟨rfl, rfl, rfl, rfl, rfl⟩
  | .inner kd x uu c r => by
    rename_i q a a1 X
    intro o K h l b p v5 hp h1 hr hb hn hdis hav hd k
    refine V.fr fun hf => ?_
    obtain ⟨e1, e2, e3, e4, e5, e6, e7, e8⟩ := hr
    subst e1
    simp only [fdp] at hd
    simp only [fsz] at hav k
    simp only [fad, List.mem_cons, List.mem_append] at hdis
    have hn' := hn
    simp only [List.nodup_cons, List.nodup_append, List.mem_append] at hn
    have hxn := hf.lt e2
    have hcn := RF.lt hf e7
    have hrn := RF.lt hf e8
    have hbn := RF.lt hf hb
    have h1n := hf.lt h1
    refine k_X11_copy_41 o (fun c => nomatch c) (fun a' c' => ?_)
    cases c'
    refine k_X11_copy_46 o ?_
    refine copy_of (copy_loop c) hp ⟨e2, e3, e4, e5, e6, e7⟩ (by simp only [List.mem_cons]; grind) (by omega) (by omega) fun h2 a2 c2 l2 f2 w2 p2 v2 r2 s2 t2 n2 => ?_
    obtain ⟨u2, u3, u4, u5, u6, u7⟩ := r2
    have w3 := w2.2
    have w4 := w2.1
    simp only [List.mem_cons, List.mem_append] at w3
    simp only [List.nodup_cons, List.nodup_append, List.mem_append] at w4
    have f2n := f2.n
    have nb : ∀ y f, (y = a1 ∨ y ∈ fad b ∨ y = x.1 ∨ y ∈ fad r) → f ≠ 1280 → ¬ VP l h.n f y := fun y f hy hf' => VP.out (by grind) (by grind) hf'
    have b2 : RF h2 b (h.R 3715 a1) := RF.fr f2 hb fun f y hy _ _ => nb y f (by grind) (by omega)
    have rr2 : RF h2 r (h.R 3716 x.1) := RF.fr f2 e8 fun f y hy _ _ => nb y f (by grind) (by omega)
    have j1 : h2.R 3715 a1 = h.R 3715 a1 := f2.R (nb _ _ (by grind) (by decide))
    have j2 : h2.R 3716 x.1 = h.R 3716 x.1 := f2.R (nb _ _ (by grind) (by decide))
    have t3 := f2.tag h1
    have t4 := f2.tag e2
    have ha2 : a2 ∈ l ∨ (h.n ≤ a2 ∧ a2 < h2.n) := (w3 a2).mp (by simp)
    have hc2 : ∀ y ∈ fad c2, y ∈ l ∨ (h.n ≤ y ∧ y < h2.n) := fun y hy => (w3 y).mp (by simp [hy])
    have hl2 : ∀ y ∈ l2, y ∈ l ∨ (h.n ≤ y ∧ y < h2.n) := fun y hy => (w3 y).mp (by simp [hy])
    have na2 : a1 ≠ a2 := by grind
    have nc2 : a1 ∉ fad c2 := fun z => by have := hc2 _ z; grind
    have nb2 : a2 ∉ fad b ∧ ∀ y ∈ fad c2, y ∉ fad b := by grind
    have nd : RF h2 (.inner kd (a2, x.2) () c2 .leaf) (some a2) := ⟨rfl, u2, u3, u4, u5, u6, u7, n2⟩
    have key : ∀ h3 : AH, Fr (PO (P1 3715 a1) (fun f y => f = 3716 ∧ flst b none = some y)) h2 h3 → h3.n = h2.n → h3.z = h2.z → RF h3 (fap b (.inner kd (a2, x.2) () c2 .leaf)) (h3.R 3715 a1) → V X K 73 [.ref q, .ref a, .ref a1, va_rf (flst b none), .ref x.1, .ref a2] [] h3 := by
      intro h3 f3 m3 z3 r3
      have nx : ∀ y f, (y = x.1 ∨ y ∈ fad r) → ¬ PO (P1 3715 a1) (fun f y => f = 3716 ∧ flst b none = some y) f y := fun y f hy z => by
        rcases z with z | z
        · have := z.2; grind
        · rcases flst_in z.2 with q | q
          · grind
          · cases q
      have t5 := f3.tag t4
      have j3 : h3.R 3716 x.1 = h.R 3716 x.1 := by rw [f3.R (nx _ _ (Or.inl rfl))]; exact j2
      refine k_X11_copy_73 o ?_
      have e : va_rf (flst (fap b (.inner kd (a2, x.2) () c2 .leaf)) none) = .ref a2 := by rw [flst_ap]; rfl
      rw [← e]
      have pl3 : PL X.G h3 q l2 := by
        refine ⟨f3.tag p2.1, ?_, p2.2.2.1, ?_, by rw [m3]; exact p2.2.2.2.2⟩
        · rw [f3.R (by simp [PO, P1])]
          refine FL.fr f3 p2.2.1 fun y hy z => ?_
          rcases z with z | z
          · exact absurd z.1 (by decide)
          · rcases flst_in z.2 with q | q
            · have := hl2 y hy; grind
            · cases q
        · have := p2.2.2.2.1; unfold RM at *; rw [m3, z3]; exact this
      have avv : av X.G h3 l2 = av X.G h2 l2 := by unfold av; rw [m3]
      refine copy_loop r o (b := fap b (.inner kd (a2, x.2) () c2 .leaf)) pl3 (f3.tag t3) (RF.fr f3 rr2 fun f y hy _ _ => nx y f (Or.inr hy)) r3 ?_ ?_ (by omega) (by omega) fun h4 b4 l4 v w f4 w5 p4 v4 r4 s4 i4 => ?_
      · rw [fad_ap]; simp only [fad, List.append_nil, List.nodup_cons, List.nodup_append, List.mem_append, List.mem_cons]
        grind
      · intro y hy
        rw [fad_ap]; simp only [fad, List.append_nil, List.mem_append, List.mem_cons]
        have := hrn y hy
        grind
      · have w6 := w5.2
        rw [fad_ap] at w6
        simp only [fad, List.append_nil, List.mem_append, List.mem_cons, m3] at w6
        have f4n := f4.n
        refine k h4 b4 l4 v w ?_ ⟨w5.1, fun y => ?_⟩ p4 (by omega) r4 ?_ ?_
        · refine ((f2.mono (VP.mono fun y z => by simp only [List.mem_cons, List.mem_append]; grind)).trans (f3.mono fun f y z => ?_)).trans (f4.mono (VP.mono fun y z => ?_))
          · rcases z with ⟨z1, z2⟩ | ⟨z1, z2⟩
            · subst z1; subst z2; exact VP.inn (by simp) rfl rfl
            · subst z1; rcases flst_in z2 with q | q
              · exact VP.inn (by simp [q]) rfl rfl
              · cases q
          · rw [fad_ap] at z
            simp only [fad, List.append_nil, List.mem_append, List.mem_cons, m3] at z ⊢
            grind
        · have := w6 y
          have := w3 y
          simp only [List.mem_append, List.mem_cons]
          grind
        · rw [s4, fer_ap]; simp only [fer, s2, fap_assoc, fap]
        · have nq : ∀ f, f ≠ 1280 → f ≠ 3715 → f ≠ 3716 → ¬ PO (P1 3715 a1) (fun f y => f = 3716 ∧ flst b none = some y) f a1 := fun f _ n1 n2 z => by
            rcases z with z | z
            · exact n1 z.1
            · exact n2 z.1
          refine ⟨?_, ?_, ?_, ?_, ?_⟩
          · rw [i4.1, f3.I (nq _ (by decide) (by decide) (by decide)), f2.I (nb _ _ (by grind) (by decide))]
          · rw [i4.2.1, f3.J (nq _ (by decide) (by decide) (by decide)), f2.J (nb _ _ (by grind) (by decide))]
          · rw [i4.2.2.1, f3.J (nq _ (by decide) (by decide) (by decide)), f2.J (nb _ _ (by grind) (by decide))]
          · rw [i4.2.2.2.1, f3.R (nq _ (by decide) (by decide) (by decide)), f2.R (nb _ _ (by grind) (by decide))]
          · rw [i4.2.2.2.2, f3.R (fun z => ?_), f2.R (nb _ _ (by grind) (by decide))]
            rcases z with z | z
            · exact absurd z.1 (by decide)
            · rcases flst_in z.2 with q | q
              · grind
              · cases q
    refine k_X11_copy_52 o (fun c3 => ?_) (fun z c3 => ?_)
    · have hbl : b = .leaf := by
        cases b with
        | leaf => rfl
        | inner k1 x1 u1 c1 r1 =>
          exfalso
          have : ∀ (g : LF) (w : Nat), flst g (some w) ≠ none := by
            intro g
            induction g with
            | leaf => intro w; simp [flst]
            | inner _ x _ _ r _ ih => intro w; exact ih _
          exact this r1 _ c3
      subst hbl
      refine k_X11_copy_58 o ?_
      refine key _ ((Fr.refl h2).sR (PO.l P1.i)) rfl rfl ?_
      rw [R_same]
      exact RF.fr (P := P1 3715 a1) ((Fr.refl h2).sR P1.i) nd fun f y hy _ _ q => by
        have q := q.2; subst q
        rcases List.mem_cons.mp hy with z | z
        · exact na2 z
        · simp only [fad, List.append_nil] at z; exact nc2 z
    · have hz : z ∈ fad b := (flst_in c3).elim id fun q => nomatch q
      have t6 := RF.tg b2 z hz
      refine k_X11_copy_67 o ?_
      have := key _ ((Fr.refl h2).sR (PO.r ⟨rfl, c3⟩)) rfl rfl (by
        rw [R_sR, if_neg (by simp), j1]
        exact RF.snoc nd (by simp only [fad, List.mem_cons, List.append_nil]; grind) b2 c3 hn.2.1)
      rw [c3] at this
      exact this
theorem copy_ok (c : LF) : CopyOk c := copy_of (copy_loop c)
