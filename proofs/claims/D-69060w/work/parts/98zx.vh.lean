/-! the component's values: all that there are, and who owns them -/
def RVL (h : AH) (x : LV) : Prop := RV h x.1 x.2.1 x.2.2.1 x.2.2.2
def VQ (f _a : Nat) : Prop := (3712 ≤ f ∧ f ≤ 3718) ∨ f = 1280
theorem VP.q {O : List Nat} {n : Nat} : ∀ f a, VP O n f a → VQ f a := fun f a h => by
  rcases h with ⟨h1, h2, -⟩ | h
  · exact Or.inl ⟨h1, h2⟩
  · exact Or.inr h
theorem RVL.fr {P : Nat → Nat → Prop} {h h' : AH} {x : LV} (q : Fr P h h') (r : RVL h x) (hp : ∀ f b, b ∈ adr x → 3712 ≤ f → f ≤ 3718 → ¬ P f b) : RVL h' x := RV.fr q r hp
/-- one of a row of values -/
theorem RF.at {h : AH} : ∀ {c : LF} {p : Option Nat} {i : Nat} {y : LV}, RF h c p → (llo c)[i]? = some y → RVL h y
  | .leaf, p, i, y, _, hy => by simp [llo] at hy
  | .inner k x u c n, p, i, y, hr, hy => by
    obtain ⟨e1, e2, e3, e4, e5, e6, e7, e8⟩ := hr
    cases i with
    | zero => cases hy; exact ⟨e2, e3, e4, e5, e6, e7⟩
    | succ i => exact RF.at e8 hy
theorem RVL.sub {h : AH} : ∀ {p : List Nat} {x y : LV}, RVL h x → lva x p = some y → RVL h y
  | [], x, y, hr, hy => by cases hy; exact hr
  | i :: p, x, y, hr, hy => by
    have hy : (match (llo x.2.2.2)[i]? with | some w => lva w p | none => none) = some y := hy
    cases ha : (llo x.2.2.2)[i]? with
    | none => rw [ha] at hy; cases hy
    | some a =>
      rw [ha] at hy
      exact RVL.sub (RF.at hr.2.2.2.2.2 ha) hy
/-- one of a row becomes another one -/
theorem RF.set {P : Nat → Nat → Prop} {h h' : AH} (q : Fr P h h') : ∀ {c : LF} {p : Option Nat} {i : Nat} {y b : LV}, RF h c p → (llo c)[i]? = some y → b.1 = y.1 → RVL h' b → h'.R 3716 y.1 = h.R 3716 y.1 → (fad c).Nodup → (∀ f a, a ∈ fad c → a ∉ adr y → 3712 ≤ f → f ≤ 3718 → ¬ P f a) → RF h' (lof ((llo c).set i b)) p
  | .leaf, p, i, y, b, _, hy, _, _, _, _, _ => by simp [llo] at hy
  | .inner k x u c n, p, i, y, b, hr, hy, hb, hv, hn, hd, hP => by
    obtain ⟨e1, e2, e3, e4, e5, e6, e7, e8⟩ := hr
    have hd : (x.1 :: (fad c ++ fad n)).Nodup := hd
    simp only [List.nodup_cons, List.nodup_append, List.mem_append] at hd
    cases i with
    | zero =>
      have hy : some (x.1, k, x.2, c) = some y := hy
      cases hy
      show RF h' (.inner b.2.1 (b.1, b.2.2.1) () b.2.2.2 (lof (llo n))) p
      rw [lof_llo]
      obtain ⟨g1, g2, g3, g4, g5, g6⟩ := hv
      have hb : b.1 = x.1 := hb
      refine ⟨by rw [hb]; exact e1, g1, g2, g3, g4, g5, g6, ?_⟩
      show RF h' n (h'.R 3716 b.1)
      rw [hb]
      have hn : h'.R 3716 x.1 = h.R 3716 x.1 := hn
      rw [hn]
      refine RF.fr q e8 fun f a ha h1 h2 => hP f a ?_ ?_ h1 h2
      · show a ∈ x.1 :: (fad c ++ fad n)
        simp [ha]
      · show a ∉ x.1 :: fad c
        rw [List.mem_cons]
        rintro (z | z)
        · exact hd.1 (Or.inr (z ▸ ha))
        · exact hd.2.2.2 a z a ha rfl
    | succ i =>
      have hy : (llo n)[i]? = some y := hy
      have hyn : ∀ a ∈ adr y, a ∈ fad n := fun a ha => by rw [fad_llo]; exact List.mem_flatMap.mpr ⟨y, List.mem_of_getElem? hy, ha⟩
      have nx : ∀ f, 3712 ≤ f → f ≤ 3718 → ¬ P f x.1 := fun f h1 h2 => hP f x.1 (by show x.1 ∈ x.1 :: _; simp) (fun z => hd.1 (Or.inr (hyn _ z))) h1 h2
      show RF h' (.inner k (x.1, x.2) () c (lof ((llo n).set i b))) p
      refine ⟨e1, q.tag e2, ?_, ?_, ?_, ?_, ?_, ?_⟩
      · rw [q.I (nx _ (by decide) (by decide))]; exact e3
      · rw [q.J (nx _ (by decide) (by decide))]; exact e4
      · rw [q.J (nx _ (by decide) (by decide))]; exact e5
      · rw [q.I (nx _ (by decide) (by decide))]; exact e6
      · rw [q.R (nx _ (by decide) (by decide))]
        exact RF.fr q e7 fun f a ha h1 h2 => hP f a (by show a ∈ x.1 :: (fad c ++ fad n); simp [ha]) (fun z => hd.2.2.2 a ha a (hyn a z) rfl) h1 h2
      · rw [q.R (nx _ (by decide) (by decide))]
        exact RF.set q e8 hy hb hv hn hd.2.2.1 fun f a ha hz h1 h2 => hP f a (by show a ∈ x.1 :: (fad c ++ fad n); simp [ha]) hz h1 h2
theorem RVL.set {P : Nat → Nat → Prop} {h h' : AH} (q : Fr P h h') : ∀ {p : List Nat} {x y w : LV}, RVL h x → lva x p = some y → w.1 = y.1 → RVL h' w → h'.R 3716 y.1 = h.R 3716 y.1 → (adr x).Nodup → (∀ f a, a ∈ adr x → a ∉ adr y → 3712 ≤ f → f ≤ 3718 → ¬ P f a) → RVL h' (lvw x p w)
  | [], x, y, w, hr, hy, hw, hv, hn, hd, hP => by cases hy; exact hv
  | i :: p, x, y, w, hr, hy, hw, hv, hn, hd, hP => by
    have hy : (match (llo x.2.2.2)[i]? with | some w => lva w p | none => none) = some y := hy
    cases ha : (llo x.2.2.2)[i]? with
    | none => rw [ha] at hy; cases hy
    | some a =>
      rw [ha] at hy
      have ra := RF.at hr.2.2.2.2.2 ha
      have hd' : (x.1 :: fad x.2.2.2).Nodup := hd
      rw [List.nodup_cons] at hd'
      have ain : ∀ z ∈ adr a, z ∈ fad x.2.2.2 := fun z hz => by rw [fad_llo]; exact List.mem_flatMap.mpr ⟨a, List.mem_of_getElem? ha, hz⟩
      have yin := adr_in hy
      have nda : (adr a).Nodup := by
        have := hd'.2
        rw [fad_llo] at this
        obtain ⟨u1, u2, e1, -⟩ := fm_set (f := adr) (y := a) ha
        rw [e1] at this
        exact (List.nodup_append.mp (List.nodup_append.mp this).2.1).1
      have rs := RVL.set q ra hy hw hv hn nda fun f z hz hz2 h1 h2 => hP f z (by show z ∈ x.1 :: _; exact List.mem_cons_of_mem _ (ain z hz)) hz2 h1 h2
      rw [lvs_c ha]
      obtain ⟨g1, g2, g3, g4, g5, g6⟩ := hr
      have nx : ∀ f, 3712 ≤ f → f ≤ 3718 → ¬ P f x.1 := fun f h1 h2 => hP f x.1 (by show x.1 ∈ x.1 :: _; simp) (fun z => hd'.1 (ain _ (yin _ z))) h1 h2
      refine ⟨q.tag g1, ?_, ?_, ?_, ?_, ?_⟩
      · rw [q.I (nx _ (by decide) (by decide))]; exact g2
      · rw [q.J (nx _ (by decide) (by decide))]; exact g3
      · rw [q.J (nx _ (by decide) (by decide))]; exact g4
      · rw [q.I (nx _ (by decide) (by decide)), g5]
        show nI (fln x.2.2.2) = nI (fln (lof ((llo x.2.2.2).set i (lvw a p w))))
        rw [← llo_len, ← llo_len, llo_lof, List.length_set]
      · show RF h' (lof ((llo x.2.2.2).set i (lvw a p w))) (h'.R 3715 x.1)
        rw [q.R (nx _ (by decide) (by decide))]
        refine RF.set q g6 ha (lvs_1 hy hw) rs ?_ hd'.2 fun f z hz hz2 h1 h2 => hP f z (List.mem_cons_of_mem _ hz) (fun z3 => hz2 (yin z z3)) h1 h2
        -- what lies beside the part that holds it
        by_cases c : y.1 = a.1
        · rw [← c]; exact hn
        · refine q.R (hP _ _ (List.mem_cons_of_mem _ (ain _ (by show a.1 ∈ a.1 :: _; simp))) (fun z => ?_) (by decide) (by decide))
          -- a's own address is none of y's, or y is a
          cases p with
          | nil => cases hy; exact c rfl
          | cons i' p =>
            have hy : (match (llo a.2.2.2)[i']? with | some w => lva w p | none => none) = some y := hy
            cases hb : (llo a.2.2.2)[i']? with
            | none => rw [hb] at hy; cases hy
            | some b =>
              rw [hb] at hy
              have : a.1 ∈ fad a.2.2.2 := by rw [fad_llo]; exact List.mem_flatMap.mpr ⟨b, List.mem_of_getElem? hb, adr_in hy _ z⟩
              have nda' : (a.1 :: fad a.2.2.2).Nodup := nda
              exact (List.nodup_cons.mp nda').1 this
/-- all values: the pool, its free ones, and those that are owned -/
def CV (B : Nat) (h : AH) (l : List Nat) (o : Lc) : Prop := ∀ a, B ≤ a → a < h.n → a ∈ l ∨ ∃ p x, o p = some x ∧ a ∈ adr x
def VH (G : Gt) (B : Nat) (h : AH) (q : Nat) (l : List Nat) (o : Lc) : Prop := PL G h q l ∧ DJ o ∧ ((∀ a ∈ l, a < h.n) ∧ CV B h l o) ∧ ∀ p x, o p = some x → RVL h x ∧ (∀ a ∈ adr x, a ∉ l) ∧ ∀ a ∈ adr x, a < h.n
/-- targets of references that are not touched stay -/
def TG (o : Lc) (ps : List Sl) (h h' : AH) : Prop := ∀ p x, p ∉ ps → o p = some x → h'.R 3718 x.1 = h.R 3718 x.1
section
variable {G : Gt} {B d q : Nat} {h : AH} {l : List Nat} {o : Lc} {K : Outcome → AH → Prop}
theorem VP.no {O : List Nat} {n f a : Nat} (h1 : 3712 ≤ f) (h2 : f ≤ 3718) (h : a ∉ O) (h3 : a < n) : ¬ VP O n f a := VP.out h h3 (fun e => by rw [e] at h1; exact absurd h1 (by decide))
/-- a change that concerns some slots alone -/
theorem VH.chg {h' : AH} {O : List Nat} {l' : List Nat} {o' : Lc} (v : VH G B h q l o) (f1 : Fr (VP O h.n) h h') (p1 : PL G h' q l') (hl : ∀ a ∈ l', a < h'.n) (hcv : CV B h' l' o') (dj : DJ o') (hs : ∀ p x, o' p = some x → (o p = some x ∧ (∀ a ∈ adr x, a ∉ O) ∧ ∀ a ∈ adr x, a ∉ l') ∨ (RVL h' x ∧ (∀ a ∈ adr x, a ∉ l') ∧ ∀ a ∈ adr x, a < h'.n)) : VH G B h' q l' o' := by
  obtain ⟨v1, v2, v3, v4⟩ := v
  refine ⟨p1, dj, ⟨hl, hcv⟩, fun p x hx => ?_⟩
  rcases hs p x hx with ⟨z1, z2, z3⟩ | z
  · obtain ⟨g1, g2, g3⟩ := v4 p x z1
    exact ⟨g1.fr f1 fun f b hb h1 h2 => VP.no h1 h2 (z2 b hb) (g3 b hb), z3, fun a ha => Nat.lt_of_lt_of_le (g3 a ha) f1.n⟩
  · exact z
theorem VH.tg {h' : AH} {O : List Nat} {ps : List Sl} (v : VH G B h q l o) (f1 : Fr (VP O h.n) h h') (hs : ∀ p x, p ∉ ps → o p = some x → x.1 ∉ O) : TG o ps h h' := fun p x hp hx => by
  obtain ⟨-, g2, g3⟩ := v.2.2.2 p x hx
  exact f1.R (VP.no (by decide) (by decide) (hs p x hp hx) (g3 x.1 (by show x.1 ∈ x.1 :: _; simp)))
/-- a new value, of what was free -/
theorem VH.new {h' : AH} {p : Sl} {a : Nat} {kd : Nat} {x : Int64 × Int64} {c : LF} {l' : List Nat} (v : VH G B h q l o) (hp : o p = none) (f1 : Fr (VP l h.n) h h') (w1 : OW h.n h'.n l (a :: (fad c ++ l'))) (p1 : PL G h' q l') (r1 : RV h' a kd x c) : VH G B h' q l' (uO o p (some (a, kd, x, c))) ∧ TG o [] h h' := by
  obtain ⟨v1, v2, ⟨v3, v5⟩, v4⟩ := id v
  have hm := f1.n
  have hnd := w1.1
  rw [← List.cons_append] at hnd
  have hap := List.nodup_append.mp hnd
  have lt : ∀ z, z ∈ a :: (fad c ++ l') → z < h'.n := fun z hz => by
    rcases (w1.2 z).mp hz with z1 | z1
    · have := v3 z z1; omega
    · exact z1.2
  have out : ∀ r y, o r = some y → ∀ z ∈ adr y, z ∉ a :: (fad c ++ l') := fun r y hy z hz hz2 => by
    obtain ⟨-, g2, g3⟩ := v4 r y hy
    rcases (w1.2 z).mp hz2 with z1 | z1
    · exact g2 z hz z1
    · have := g3 z hz; omega
  have il : ∀ z, z ∈ l' → z ∈ a :: (fad c ++ l') := fun z hz => List.mem_cons_of_mem _ (List.mem_append_right _ hz)
  have ic : ∀ z, z ∈ adr (a, kd, x, c) → z ∈ a :: (fad c ++ l') := fun z hz => by
    have hz : z ∈ a :: fad c := hz
    rw [← List.cons_append]; exact List.mem_append_left _ hz
  have cv : CV B h' l' (uO o p (some (a, kd, x, c))) := fun z hz hz2 => by
    have key : z ∈ a :: (fad c ++ l') ∨ ∃ r y, o r = some y ∧ z ∈ adr y := by
      rcases Nat.lt_or_ge z h.n with q1 | q1
      · rcases v5 z hz q1 with q2 | q2
        · exact Or.inl ((w1.2 z).mpr (Or.inl q2))
        · exact Or.inr q2
      · exact Or.inl ((w1.2 z).mpr (Or.inr ⟨q1, hz2⟩))
    rcases key with q1 | ⟨r, y, q1, q2⟩
    · rw [← List.cons_append, List.mem_append] at q1
      rcases q1 with q1 | q1
      · exact Or.inr ⟨p, _, uO_s, q1⟩
      · exact Or.inl q1
    · refine Or.inr ⟨r, y, ?_, q2⟩
      rw [uO_n (fun e => by rw [e, hp] at q1; cases q1)]; exact q1
  refine ⟨v.chg f1 p1 (fun z hz => lt z (il z hz)) cv (v2.put hap.1 fun r y _ hy z hz hz2 => out r y hy z hz2 (ic z hz)) fun r y hy => ?_, v.tg f1 fun r y _ hy => (v4 r y hy).2.1 y.1 (by show y.1 ∈ y.1 :: _; simp)⟩
  by_cases e : r = p
  · rw [e, uO_s] at hy
    cases hy
    exact Or.inr ⟨r1, fun z hz hz2 => hap.2.2 z hz z hz2 rfl, fun z hz => lt z (ic z hz)⟩
  · rw [uO_n e] at hy
    exact Or.inl ⟨hy, (v4 r y hy).2.1, fun z hz hz2 => out r y hy z hz (il z hz2)⟩
theorem vtake_ok {p : Sl} {kd : Nat} (v : VH G B h q l o) (hp : o p = none) (ha : 1 ≤ av G h l) (hd : 2 ≤ d) (kk : ∀ h' a l', Fr VQ h h' → VH G B h' q l' (uO o p (some (a, kd, (0, 0), .leaf))) → TG o [] h h' → av G h' l' + 1 = av G h l → h'.R 3718 a = none → K (.returned (some (.ref a))) h') : MW G d e_X11_take [.ref q, .int (nI kd)] h K := by
  refine take_ok v.1 ha hd fun h' a l' f1 w1 p1 a1 r1 n1 t1 => ?_
  obtain ⟨z1, z2⟩ := v.new (c := .leaf) hp f1 w1 p1 r1
  exact kk h' a l' (f1.mono VP.q) z1 z2 a1 t1
theorem vnumber_ok {p : Sl} {kd : Nat} {t x y : Int64} (v : VH G B h q l o) (hp : o p = none) (ht : t.toInt32 = nI kd) (ha : 1 ≤ av G h l) (hd : 3 ≤ d) (kk : ∀ h' a l', Fr VQ h h' → VH G B h' q l' (uO o p (some (a, kd, (x, y), .leaf))) → TG o [] h h' → av G h' l' + 1 = av G h l → K (.returned (some (.ref a))) h') : MW G d e_X11_number [.ref q, .long t, .long x, .long y] h K := by
  refine number_ok ht v.1 ha hd fun h' a l' f1 w1 p1 a1 r1 n1 t1 => ?_
  obtain ⟨z1, z2⟩ := v.new (c := .leaf) hp f1 w1 p1 r1
  exact kk h' a l' (f1.mono VP.q) z1 z2 a1
theorem vdrop_ok {p : Sl} {x : LV} (v : VH G B h q l o) (hp : o p = some x) (hd : fdp x.2.2.2 ≤ d) (kk : ∀ h' l', Fr VQ h h' → h'.n = h.n → VH G B h' q l' (uO o p none) → TG o [p] h h' → av G h' l' = av G h l + 1 + fsz x.2.2.2 → K (.returned none) h') : MW G d e_X11_drop [.ref q, .ref x.1] h K := by
  obtain ⟨v1, v2, ⟨v3, v5⟩, v4⟩ := id v
  obtain ⟨g1, g2, g3⟩ := v4 p x hp
  have hnd : (x.1 :: (fad x.2.2.2 ++ l)).Nodup := by
    rw [← List.cons_append]
    refine List.nodup_append.mpr ⟨v2.1 p x hp, v1.2.2.1, fun a ha b hb e => g2 a ha (e ▸ hb)⟩
  refine drop_ok v1 g1 hnd hd fun h' l' f1 w1 p1 n1 a1 => ?_
  have il : ∀ z, z ∈ l' → z ∈ x.1 :: (fad x.2.2.2 ++ l) := fun z hz => by
    rcases (w1.2 z).mp hz with z1 | z1
    · exact z1
    · omega
  have out : ∀ r y, r ≠ p → o r = some y → ∀ z ∈ adr y, z ∉ x.1 :: (fad x.2.2.2 ++ l) := fun r y hr hy z hz hz2 => by
    rw [← List.cons_append, List.mem_append] at hz2
    rcases hz2 with z1 | z1
    · exact v.2.1.2 r p y x hr hy hp z hz z1
    · exact (v4 r y hy).2.1 z hz z1
  have cv : CV B h' l' (uO o p none) := fun z hz hz2 => by
    rw [n1] at hz2
    rcases v5 z hz hz2 with q1 | ⟨r, y, q1, q2⟩
    · exact Or.inl ((w1.2 z).mpr (Or.inl (List.mem_cons_of_mem _ (List.mem_append_right _ q1))))
    · by_cases e : r = p
      · rw [e, hp] at q1
        cases q1
        refine Or.inl ((w1.2 z).mpr (Or.inl ?_))
        rw [← List.cons_append]; exact List.mem_append_left _ q2
      · exact Or.inr ⟨r, y, by rw [uO_n e]; exact q1, q2⟩
  refine kk h' l' (f1.mono VP.q) n1 (v.chg f1 p1 (fun z hz => ?_) cv (v2.del p) fun r y hy => ?_) (v.tg f1 fun r y hr hy => out r y (by simpa using hr) hy y.1 (by show y.1 ∈ y.1 :: _; simp)) a1
  · have := il z hz
    rw [← List.cons_append, List.mem_append] at this
    rw [n1]
    rcases this with z1 | z1
    · exact g3 z z1
    · exact v3 z z1
  · by_cases e : r = p
    · rw [e, uO_s] at hy; cases hy
    · rw [uO_n e] at hy
      exact Or.inl ⟨hy, out r y e hy, fun z hz hz2 => out r y e hy z hz (il z hz2)⟩
/-- a copy of a part -/
theorem vcopy_ok {p r : Sl} {x y : LV} {pa : List Nat} (v : VH G B h q l o) (hp : o p = some x) (hy : lva x pa = some y) (hr : o r = none) (ha : 1 + fsz y.2.2.2 ≤ av G h l) (hd : fdp y.2.2.2 + 3 ≤ d) (kk : ∀ h' w l', Fr VQ h h' → VH G B h' q l' (uO o r (some w)) → TG o [] h h' → av G h' l' + (1 + fsz y.2.2.2) = av G h l → lvE w = lvE y → h'.R 3718 w.1 = h.R 3718 y.1 → K (.returned (some (.ref w.1))) h') : MW G d e_X11_copy [.ref q, .ref y.1] h K := by
  obtain ⟨v1, v2, v3, v4⟩ := id v
  obtain ⟨g1, g2, g3⟩ := v4 p x hp
  refine copy_ok y.2.2.2 v1 (g1.sub hy) (fun z hz => g2 z (adr_in hy z hz)) ha hd fun h' a' c' l' f1 w1 p1 a1 r1 e1 t1 n1 => ?_
  obtain ⟨z1, z2⟩ := v.new hr f1 w1 p1 r1
  exact kk h' (a', y.2.1, y.2.2.1, c') l' (f1.mono VP.q) z1 z2 a1 (by show (y.2.1, y.2.2.1, fer c') = _; rw [e1]; rfl) t1
/-- a part becomes what another one is -/
theorem vrepl_ok {p r : Sl} {x y w : LV} {pa : List Nat} (v : VH G B h q l o) (hp : o p = some x) (hy : lva x pa = some y) (hr : o r = some w) (hpr : p ≠ r) (hd : fdp y.2.2.2 + 1 ≤ d) (kk : ∀ h' l', Fr VQ h h' → h'.n = h.n → VH G B h' q l' (uO (uO o r none) p (some (lvw x pa (y.1, y.2.1, w.2.2)))) → TG o [r] h h' → av G h' l' = av G h l + 1 + fsz y.2.2.2 → K (.returned none) h') : MW G d e_X11_replace [.ref q, .ref y.1, .ref w.1] h K := by
  obtain ⟨v1, v2, ⟨v3, v5⟩, v4⟩ := id v
  obtain ⟨g1, g2, g3⟩ := v4 p x hp
  obtain ⟨k1, k2, k3⟩ := v4 r w hr
  have yin := adr_in hy
  have ndx := v2.1 p x hp
  have ndw := v2.1 r w hr
  have ndy : (adr y).Nodup := by
    obtain ⟨a, b, e1, -⟩ := adr_s (w := y) hy
    rw [e1] at ndx
    exact (List.nodup_append.mp (List.nodup_append.mp ndx).2.1).1
  have dxw := v2.2 p r x w hpr hp hr
  have ndl := v1.2.2.1
  have hnd : (y.1 :: w.1 :: (fad y.2.2.2 ++ (fad w.2.2.2 ++ l))).Nodup := by
    have a1 : (y.1 :: fad y.2.2.2).Nodup := ndy
    have a2 : (w.1 :: fad w.2.2.2).Nodup := ndw
    have b1 : ∀ a, a ∈ y.1 :: fad y.2.2.2 → a ∉ w.1 :: fad w.2.2.2 := fun a ha => dxw a (yin a ha)
    have b2 : ∀ a, a ∈ y.1 :: fad y.2.2.2 → a ∉ l := fun a ha => g2 a (yin a ha)
    have b3 : ∀ a, a ∈ w.1 :: fad w.2.2.2 → a ∉ l := fun a ha => k2 a ha
    simp only [List.nodup_cons, List.nodup_append, List.mem_append, List.mem_cons] at a1 a2 b1 b2 b3 ⊢
    grind
  refine replace_ok2 v1 (g1.sub hy) k1 hnd hd fun h' l' f1 w1 p1 n1 r1 x1 t1 => ?_
  have il : ∀ z, z ∈ l' → z ∈ w.1 :: (fad y.2.2.2 ++ l) := fun z hz => by
    rcases (w1.2 z).mp hz with z1 | z1
    · exact z1
    · omega
  have yw : ∀ a, a ∈ adr (y.1, y.2.1, w.2.2) ↔ a = y.1 ∨ a ∈ fad w.2.2.2 := fun a => by
    show a ∈ y.1 :: fad w.2.2.2 ↔ _
    rw [List.mem_cons]
  have nyw : (adr (y.1, y.2.1, w.2.2)).Nodup := by
    show (y.1 :: fad w.2.2.2).Nodup
    have a2 : (w.1 :: fad w.2.2.2).Nodup := ndw
    rw [List.nodup_cons] at a2 ⊢
    exact ⟨fun z => dxw y.1 (yin y.1 (by show y.1 ∈ y.1 :: _; simp)) (List.mem_cons_of_mem _ z), a2.2⟩
  obtain ⟨s1, s2⟩ := adr_nd (w := (y.1, y.2.1, w.2.2)) hy ndx nyw fun a ha => by
    rcases (yw a).mp ha with z | z
    · exact Or.inl (by rw [z]; show y.1 ∈ y.1 :: _; simp)
    · exact Or.inr fun z2 => dxw a z2 (List.mem_cons_of_mem _ z)
  have hrl : RVL h' (lvw x pa (y.1, y.2.1, w.2.2)) := by
    refine RVL.set f1 g1 hy rfl r1 x1 ndx fun f a ha hay h1 h2 => VP.no h1 h2 (fun z => ?_) (g3 a ha)
    simp only [List.mem_cons, List.mem_append] at z
    rcases z with z | z | z | z
    · exact hay (by rw [z]; show y.1 ∈ y.1 :: _; simp)
    · exact dxw a ha (by rw [z]; show w.1 ∈ w.1 :: _; simp)
    · exact hay (List.mem_cons_of_mem _ z)
    · exact g2 a ha z
  have out : ∀ u c, u ≠ p → u ≠ r → o u = some c → ∀ z ∈ adr c, z ∉ adr x ∧ z ∉ adr w ∧ z ∉ l := fun u c h1 h2 hc z hz => ⟨v2.2 u p c x h1 hc hp z hz, v2.2 u r c w h2 hc hr z hz, (v4 u c hc).2.1 z hz⟩
  have eav : av G h' l' = av G h l + 1 + fsz y.2.2.2 := by
    have hO : (w.1 :: (fad y.2.2.2 ++ l)).Nodup := by
      simp only [List.nodup_cons, List.nodup_append, List.mem_append, List.mem_cons] at hnd ⊢
      grind
    have := w1.len hO (fun z hz => by
      simp only [List.mem_cons, List.mem_append] at hz
      rcases hz with z1 | z1 | z1
      · rw [z1]; exact k3 w.1 (by show w.1 ∈ w.1 :: _; simp)
      · exact g3 z (yin z (List.mem_cons_of_mem _ z1))
      · exact v3 z z1) (by omega)
    rw [n1, List.length_cons, List.length_append, fad_len] at this
    unfold av
    rw [n1]
    omega
  have cv : CV B h' l' (uO (uO o r none) p (some (lvw x pa (y.1, y.2.1, w.2.2)))) := fun z hz hz2 => by
    rw [n1] at hz2
    have fl : z ∈ w.1 :: (fad y.2.2.2 ++ l) → z ∈ l' := fun q1 => (w1.2 z).mpr (Or.inl q1)
    rcases v5 z hz hz2 with q1 | ⟨u, c, q1, q2⟩
    · exact Or.inl (fl (List.mem_cons_of_mem _ (List.mem_append_right _ q1)))
    · by_cases e : u = p
      · rw [e, hp] at q1
        cases q1
        by_cases ey : z ∈ adr y
        · have ey : z ∈ y.1 :: fad y.2.2.2 := ey
          rw [List.mem_cons] at ey
          rcases ey with q3 | q3
          · exact Or.inr ⟨p, _, uO_s, (s2 z).mpr (Or.inr ((yw z).mpr (Or.inl q3)))⟩
          · exact Or.inl (fl (List.mem_cons_of_mem _ (List.mem_append_left _ q3)))
        · exact Or.inr ⟨p, _, uO_s, (s2 z).mpr (Or.inl ⟨q2, ey⟩)⟩
      · by_cases e2 : u = r
        · rw [e2, hr] at q1
          cases q1
          have q2 : z ∈ w.1 :: fad w.2.2.2 := q2
          rw [List.mem_cons] at q2
          rcases q2 with q3 | q3
          · exact Or.inl (fl (by rw [q3]; simp))
          · exact Or.inr ⟨p, _, uO_s, (s2 z).mpr (Or.inr ((yw z).mpr (Or.inr q3)))⟩
        · exact Or.inr ⟨u, c, by rw [uO_n e, uO_n e2]; exact q1, q2⟩
  refine kk h' l' (f1.mono VP.q) n1 (v.chg f1 p1 (fun z hz => ?_) cv ((v2.del r).put s1 fun u c hu hc z hz hz2 => ?_) fun u c hc => ?_) (fun u c hu hc => ?_) eav
  · have := il z hz
    simp only [List.mem_cons, List.mem_append] at this
    rw [n1]
    rcases this with z1 | z1 | z1
    · rw [z1]; exact k3 w.1 (by show w.1 ∈ w.1 :: _; simp)
    · exact g3 z (yin z (List.mem_cons_of_mem _ z1))
    · exact v3 z z1
  · by_cases e : u = r
    · rw [e, uO_s] at hc; cases hc
    · rw [uO_n e] at hc
      obtain ⟨o1, o2, o3⟩ := out u c hu e hc z hz2
      rcases (s2 z).mp hz with z1 | z1
      · exact o1 z1.1
      · rcases (yw z).mp z1 with z1 | z1
        · exact o1 (yin z (by rw [z1]; show y.1 ∈ y.1 :: _; simp))
        · exact o2 (List.mem_cons_of_mem _ z1)
  · by_cases e : u = p
    · rw [e, uO_s] at hc
      cases hc
      refine Or.inr ⟨hrl, fun z hz hz2 => ?_, fun z hz => ?_⟩
      · have hm := il z hz2
        simp only [List.mem_cons, List.mem_append] at hm
        rcases (s2 z).mp hz with ⟨y1, y2⟩ | y1
        · rcases hm with m1 | m1 | m1
          · exact dxw z y1 (by rw [m1]; show w.1 ∈ w.1 :: _; simp)
          · exact y2 (List.mem_cons_of_mem _ m1)
          · exact g2 z y1 m1
        · rcases (yw z).mp y1 with y1 | y1
          · subst y1
            have a1 : (y.1 :: fad y.2.2.2).Nodup := ndy
            rcases hm with m1 | m1 | m1
            · exact dxw y.1 (yin y.1 (by show y.1 ∈ y.1 :: _; simp)) (by rw [m1]; show w.1 ∈ w.1 :: _; simp)
            · exact (List.nodup_cons.mp a1).1 m1
            · exact g2 y.1 (yin y.1 (by show y.1 ∈ y.1 :: _; simp)) m1
          · have a2 : (w.1 :: fad w.2.2.2).Nodup := ndw
            rcases hm with m1 | m1 | m1
            · exact (List.nodup_cons.mp a2).1 (m1 ▸ y1)
            · exact dxw z (yin z (List.mem_cons_of_mem _ m1)) (List.mem_cons_of_mem _ y1)
            · exact k2 z (List.mem_cons_of_mem _ y1) m1
      · rw [n1]
        rcases (s2 z).mp hz with ⟨y1, y2⟩ | y1
        · exact g3 z y1
        · rcases (yw z).mp y1 with y1 | y1
          · exact g3 z (yin z (by rw [y1]; show y.1 ∈ y.1 :: _; simp))
          · exact k3 z (List.mem_cons_of_mem _ y1)
    · rw [uO_n e] at hc
      by_cases e2 : u = r
      · rw [e2, uO_s] at hc; cases hc
      · rw [uO_n e2] at hc
        refine Or.inl ⟨hc, fun z hz hz2 => ?_, fun z hz hz2 => ?_⟩
        · obtain ⟨o1, o2, o3⟩ := out u c e e2 hc z hz
          simp only [List.mem_cons, List.mem_append] at hz2
          rcases hz2 with m1 | m1 | m1 | m1
          · exact o1 (yin z (by rw [m1]; show y.1 ∈ y.1 :: _; simp))
          · exact o2 (by rw [m1]; show w.1 ∈ w.1 :: _; simp)
          · exact o1 (yin z (List.mem_cons_of_mem _ m1))
          · exact o3 m1
        · obtain ⟨o1, o2, o3⟩ := out u c e e2 hc z hz
          have hm := il z hz2
          simp only [List.mem_cons, List.mem_append] at hm
          rcases hm with m1 | m1 | m1
          · exact o2 (by rw [m1]; show w.1 ∈ w.1 :: _; simp)
          · exact o1 (yin z (List.mem_cons_of_mem _ m1))
          · exact o3 m1
  · -- targets
    have hu : u ≠ r := by simpa using hu
    by_cases e : u = p
    · subst e
      rw [hp] at hc
      cases hc
      by_cases ey : y.1 = x.1
      · rw [← ey]; exact t1
      · refine f1.R (VP.no (by decide) (by decide) (fun z => ?_) (g3 x.1 (by show x.1 ∈ x.1 :: _; simp)))
        simp only [List.mem_cons, List.mem_append] at z
        have nx : (x.1 :: fad x.2.2.2).Nodup := ndx
        have ix : x.1 ∈ adr x := by show x.1 ∈ x.1 :: _; simp
        rcases z with z | z | z | z
        · exact ey z.symm
        · exact dxw x.1 ix (by rw [z]; show w.1 ∈ w.1 :: _; simp)
        · -- x's own address would lie below it
          cases pa with
          | nil => cases hy; exact ey rfl
          | cons i pa =>
            have hy : (match (llo x.2.2.2)[i]? with | some w => lva w pa | none => none) = some y := hy
            cases hb : (llo x.2.2.2)[i]? with
            | none => rw [hb] at hy; cases hy
            | some b =>
              rw [hb] at hy
              have : x.1 ∈ fad x.2.2.2 := by rw [fad_llo]; exact List.mem_flatMap.mpr ⟨b, List.mem_of_getElem? hb, adr_in hy _ (List.mem_cons_of_mem _ z)⟩
              exact (List.nodup_cons.mp nx).1 this
        · exact g2 x.1 ix z
    · obtain ⟨o1, o2, o3⟩ := out u c e hu hc c.1 (by show c.1 ∈ c.1 :: _; simp)
      refine f1.R (VP.no (by decide) (by decide) (fun z => ?_) ((v4 u c hc).2.2 c.1 (by show c.1 ∈ c.1 :: _; simp)))
      simp only [List.mem_cons, List.mem_append] at z
      rcases z with m1 | m1 | m1 | m1
      · exact o1 (yin c.1 (by rw [m1]; show y.1 ∈ y.1 :: _; simp))
      · exact o2 (by rw [m1]; show w.1 ∈ w.1 :: _; simp)
      · exact o1 (yin c.1 (List.mem_cons_of_mem _ m1))
      · exact o3 m1
end
