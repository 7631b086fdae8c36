/-! a worker of the component's: what lies aside; gathering, packing -/
/-- a module in its tables -/
def MDR (h : AH) (M : Nat) (m : Md) : Prop := (h.tag M = some (1, 0) ∧ h.R 128 M = some (M + 1)) ∧ STb h (M + 1) ∧ TY h (M + 1) (mts m) ∧ CO h (M + 1) (mcs m) ∧ MX h (M + 1) (mts m) (mcs m) m
def mdlF : List Nat := [128] ++ stF ++ tcF ++ tbF
theorem MDR.fr {P : Nat → Nat → Prop} {h h' : AH} {M : Nat} {m : Md} (q : Fr P h h') (np : ∀ f a, mdlF.contains f = true → ¬ P f a) (s : MDR h M m) : MDR h' M m := by
  have np' : ∀ l : List Nat, l.all (fun f => mdlF.contains f) = true → ∀ f a, l.contains f = true → ¬ P f a := fun l hl f a hf => np f a (by
    rw [List.all_eq_true] at hl
    exact hl f (List.contains_iff_mem.mp hf))
  obtain ⟨⟨s1, s2⟩, s4, s5, s6, s7⟩ := s
  exact ⟨⟨q.tag s1, by rw [q.R (np _ _ rfl)]; exact s2⟩, s4.fr q (np' stF rfl), s5.fr q (np _ _ rfl) (np _ _ rfl) (np _ _ rfl), s6.fr q (np _ _ rfl) (np _ _ rfl) (np _ _ rfl) (np _ _ rfl) (np _ _ rfl), s7.fr q fun f a hf _ _ => np' tbF rfl f a hf⟩
theorem MDR.ip {h h' : AH} {W M : Nat} {m : Md} (q : Fr (IP W) h h') (s : MDR h M m) : MDR h' M m := s.fr q (IP.no rfl)
section
variable {G : Gt} {B d : Nat} {h : AH} {l : List Nat} {o : Lc} {wi W A q BA X tt lim SP t : Nat} {snd : Int64} {MA : Ma} {s : Ms} {K : Outcome → AH → Prop}
theorem rsl_3 {r : Nat × Nat} {sl : Nat} : rsl' wi r ≠ (5, wi, sl, 1) := fun e => by
  obtain ⟨i, n⟩ := r
  cases i with
  | zero => exact absurd (congrArg (fun p : Sl => p.1) e) (by show (3 : Nat) ≠ 5; omega)
  | succ j => exact absurd (congrArg (fun p : Sl => p.1) e) (by show (2 : Nat) ≠ 5; omega)
/-- what lies aside does not concern the worker -/
theorem WkR.tmp {sl : Nat} {y : Option LV} (w : WkR h o wi W MA s) : WkR h (uO o (5, wi, sl, 1) y) wi W MA s := by
  obtain ⟨q1, q2, q3, q4⟩ := w
  exact ⟨q1, fun j hj => (q2 j hj).keep (Fr.refl h) (P := fun _ _ => False) (fun _ _ _ _ _ z => z) (fun c k hc => uO_n (by rcases hc with e | e <;> (subst e; intro e; cases e))) (fun _ _ _ _ _ => rfl) (fun q hq a ha => by rw [rdk fun r => uO_n rsl_3]; exact ha), fun j hj k => by rw [uO_n (by intro e; cases e), uO_n (by intro e; cases e)]; exact q3 j hj k, q4.keep (Fr.refl h) (P := fun _ _ => False) (fun _ _ _ _ _ z => z) (fun e _ => uO_n (by intro e; cases e))⟩
theorem OUT.ne {p : Sl} (hp : (p.1 = 0 ∨ 3 < p.1) ∨ p.2.1 ≠ wi) {a b c : Nat} (ha : 1 ≤ a ∧ a ≤ 3) : p ≠ (a, wi, b, c) := fun e => by
  subst e
  rcases hp with z | z
  · revert z; show (a = 0 ∨ 3 < a) → False; omega
  · exact z rfl
/-- a new value, aside -/
theorem wtake_ok {kd : Nat} (H : OPR G B h A W q BA X tt snd lim SP wi MA l o s) (ha : 1 ≤ av G h l) (hd : 2 ≤ d) (kk : ∀ h' a l' sl, OUW [(5, wi, sl, 1)] wi W h h' o (uO o (5, wi, sl, 1) (some (a, kd, (0, 0), .leaf))) ∧ o (5, wi, sl, 1) = none → OPR G B h' A W q BA X tt snd lim SP wi MA l' (uO o (5, wi, sl, 1) (some (a, kd, (0, 0), .leaf))) s → av G h' l' + 1 = av G h l → h'.tag a = some (29, 0) → K (.returned (some (.ref a))) h') : MW G d e_X11_take [.ref q, .int (nI kd)] h K := by
  obtain ⟨c, v, w, hf, hg, hw⟩ := H
  obtain ⟨sl, hsl⟩ := v.slot wi
  refine vtake_ok (kd := kd) v hsl ha hd fun h1 a l1 g1 v1 tg1 a1 e1 => ?_
  have fi : Fr (IP W) h h1 := g1.mono VQ.ip
  exact kk h1 a l1 sl ⟨OUW.mk1 fi fun p y _ hy => tg1 p y (by simp) hy, hsl⟩ ⟨c.ip fi, v1, (w.vq g1 tg1).tmp, by rw [g1.R (VQ.no (l := [28]) rfl _ _ rfl)]; exact hf, hg, hw.vq g1⟩ a1 (v1.2.2.2 _ _ uO_s).1.1
/-- numbers of what lies aside -/
theorem OPR.numT {sl kd : Nat} {z : LV} {h' : AH} {n : Int64 × Int64} (H : OPR G B h A W q BA X tt snd lim SP wi MA l o s) (hT : o (5, wi, sl, 1) = some z) (f1 : Fq (NP z.1) h h') (e1 : h'.I 3712 z.1 = nI kd) (e2 : h'.J 3713 z.1 = n.1) (e3 : h'.J 3714 z.1 = n.2) : OUW [(5, wi, sl, 1)] wi W h h' o (uO o (5, wi, sl, 1) (some (z.1, kd, n, z.2.2.2))) ∧ OPR G B h' A W q BA X tt snd lim SP wi MA l (uO o (5, wi, sl, 1) (some (z.1, kd, n, z.2.2.2))) s ∧ av G h' l = av G h l := by
  obtain ⟨c, v, w, hf, hg, hw⟩ := H
  obtain ⟨v1, tg1⟩ := v.num (k := kd) (n := n) hT (pa := []) rfl f1 e1 e2 e3
  have v1 : VH G B h' q l (uO o (5, wi, sl, 1) (some (z.1, kd, n, z.2.2.2))) := v1
  have pv : ∀ g a, NP z.1 g a → VQ g a := fun g a hz => Or.inl (by rcases hz.1 with e | e | e <;> (rw [e]; decide))
  have fi : Fr (IP W) h h' := (f1.1.mono pv).mono VQ.ip
  exact ⟨OUW.mk1 fi fun p y _ hy => tg1 p y (by simp) hy, ⟨c.ip fi, v1, (w.oth f1.1 np_wk).tmp, by rw [(f1.1.mono pv).R (VQ.no (l := [28]) rfl _ _ rfl)]; exact hf, hg, hw.vq (f1.1.mono pv)⟩, by unfold av; rw [f1.2.1]⟩
/-- what lies aside comes onto the stack -/
theorem OPR.pushT {sl : Nat} {z : LV} (H : OPR G B h A W q BA X tt snd lim SP wi MA l o s) (hn : (stk s).length < 64) (hT : o (5, wi, sl, 1) = some z) (kk : ∀ h' o', OUW [(5, wi, sl, 1)] wi W h h' o o' ∧ o' (5, wi, sl, 1) = none → OPR G B h' A W q BA X tt snd lim SP wi MA l o' (mpu s (.inl (lvE z))) → av G h' l = av G h l → K (.returned none) h') : MW G d e_X1_push [.ref A, .ref z.1] h K := by
  obtain ⟨t, ht⟩ : ∃ t, t + 1 = s.1 := ⟨s.1 - 1, by have := H.2.2.1.1.2.2.1; omega⟩
  have hfr := H.free ht
  obtain ⟨c, v, w, hf, hg, hw⟩ := H
  have t32 : t < 32 := by have := w.1.2.2.2.1; omega
  rw [show s.1 - 1 = t by omega] at hf
  have vm := v.mov hT hfr
  refine cpush_ok (x := z) (i := .inl (lvE z)) c (w.tmp (sl := sl) (y := none)) hf ht hn (v.2.2.2 _ z hT).1.1 rfl fun h4 f4 w4 => ?_
  obtain ⟨v4, tg4⟩ := vm.oth f4 PH.v
  have fi4 : Fr (IP W) h h4 := f4.1.mono (PH.ip t32)
  refine kk h4 _ ⟨⟨fi4, fun p hp hn => ?_⟩, by rw [uO_n (fun e => by cases e), uO_s]⟩ ⟨c.ip fi4, v4, w4, ?_, hg, hw.ph f4.1⟩ (by unfold av; rw [f4.2.1])
  · have n1 := OUT.ne hp (a := 1) (b := t) (c := (stk s).length) (by omega)
    have n2 : p ≠ (5, wi, sl, 1) := by simpa using hn
    exact ⟨by rw [uO_n n1, uO_n n2], fun u hu => tg4 p u (by simp) (by rw [uO_n n1, uO_n n2]; exact hu)⟩
  · rw [f4.1.R PH.f]
    show h.R 28 A = some (Fa W (s.1 - 1))
    rw [show s.1 - 1 = t by omega]; exact hf
/-- stack slots from some height on go, something lies aside -/
def gtO (o : Lc) (wi t n sl : Nat) (z : LV) : Lc := fun p => if p = (5, wi, sl, 1) then some z else if p.1 = 1 ∧ p.2.1 = wi ∧ p.2.2.1 = t ∧ n ≤ p.2.2.2 then none else o p
theorem gtO_i {n sl : Nat} {z y : LV} {p : Sl} (hp : gtO o wi t n sl z p = some y) : (p = (5, wi, sl, 1) ∧ y = z) ∨ (p ≠ (5, wi, sl, 1) ∧ ¬ (p.1 = 1 ∧ p.2.1 = wi ∧ p.2.2.1 = t ∧ n ≤ p.2.2.2) ∧ o p = some y) := by
  unfold gtO at hp
  by_cases c : p = (5, wi, sl, 1)
  · rw [if_pos c] at hp
    exact Or.inl ⟨c, (Option.some.inj hp).symm⟩
  · rw [if_neg c] at hp
    by_cases c2 : p.1 = 1 ∧ p.2.1 = wi ∧ p.2.2.1 = t ∧ n ≤ p.2.2.2
    · rw [if_pos c2] at hp; cases hp
    · rw [if_neg c2] at hp; exact Or.inr ⟨c, c2, hp⟩
theorem gtO_n {n sl : Nat} {z : LV} {p : Sl} (h1 : p ≠ (5, wi, sl, 1)) (h2 : ¬ (p.1 = 1 ∧ p.2.1 = wi ∧ p.2.2.1 = t ∧ n ≤ p.2.2.2)) : gtO o wi t n sl z p = o p := by
  unfold gtO; rw [if_neg h1, if_neg h2]
theorem gtO_s {n sl : Nat} {z : LV} : gtO o wi t n sl z (5, wi, sl, 1) = some z := if_pos rfl
theorem cgather_ok {sl a kd n : Nat} {x : Int64 × Int64} {vs : List VL} {k : List It} (H : OPR G B h A W q BA X tt snd lim SP wi MA l o s) (hT : o (5, wi, sl, 1) = some (a, kd, x, .leaf)) (hs : tkV n (stk s) = some (vs, k)) (kk : ∀ h' o' z, OUW [(5, wi, sl, 1)] wi W h h' o o' → OPR G B h' A W q BA X tt snd lim SP wi MA l o' (sK s k) → o' (5, wi, sl, 1) = some z → z.1 = a → lvE z = (kd, x, fof vs.reverse) → av G h' l = av G h l → K (.returned none) h') : MW G d e_X1_gather [.ref A, .ref a, .int (nI n)] h K := by
  obtain ⟨c, v, w, hf, hg, hw⟩ := H
  obtain ⟨t, ht⟩ : ∃ t, t + 1 = s.1 := ⟨s.1 - 1, by have := w.1.2.2.1; omega⟩
  rw [show s.1 - 1 = t by omega] at hf
  have t32 : t < 32 := by have := w.1.2.2.2.1; omega
  obtain ⟨sf, m, es, el⟩ := w.F ht
  obtain ⟨⟨m1, m2, m3, m4, m5⟩, m6, m7, m8, m9⟩ := id m
  rw [← es] at m4 m5 m6 m7
  obtain ⟨xs, a1, a2, a3, a4, a5⟩ := m6.top hs
  rw [a3] at m4 m5
  obtain ⟨r1, r2, r3⟩ := v.2.2.2 _ _ hT
  obtain ⟨dj1, dj2⟩ := v.2.1
  have xd : ∀ (i j : Nat) (x y : LV), i ≠ j → xs[i]? = some x → xs[j]? = some y → ∀ b ∈ adr x, b ∉ adr y := fun i j x y hij hx hy => dj2 _ _ x y (fun e => hij (by have : k.length + i = k.length + j := congrArg (fun p : Sl => p.2.2.2) e; omega)) (a5 i x hx).1 (a5 j y hy).1
  have ax : ∀ y ∈ xs, a ∉ adr y := fun y hy hay => by
    obtain ⟨j, hj⟩ := List.mem_iff_getElem?.mp hy
    exact dj2 _ _ _ _ (fun e => by cases e) hT (a5 j y hj).1 a (adr_1 (a, kd, x, .leaf)) hay
  have xmem : ∀ y ∈ xs, ∃ i, o (1, wi, t, k.length + i) = some y := fun y hy => by
    obtain ⟨j, hj⟩ := List.mem_iff_getElem?.mp hy
    exact ⟨j, (a5 j y hj).1⟩
  refine gather_lo (hh := k.length) (xs := xs) c.1.1 hf sf m4 (by omega) r1.1 r1.2.2.2.2.2 a1 (fun i x hx => ⟨(a5 i x hx).2, (v.2.2.2 _ _ (a5 i x hx).1).1.1⟩) (fun i j x y hij hx hy e => xd i j x y hij hx hy x.1 (adr_1 x) (by rw [e]; exact adr_1 y)) fun h1 fq ch fs => ?_
  -- what changed
  have fq2 : Fq (fun g b => GP a xs g b ∨ (g = 3717 ∧ b = a)) h1 (h1.sI 3717 a (nI n)) := (Fq.refl h1).sI (f := 3717) (a := a) (Or.inr ⟨rfl, rfl⟩)
  have g1 : ∀ b, b ≠ a → (h1.sI 3717 a (nI n)).I 3717 b = h1.I 3717 b := fun b hb => by simp [n_sI, z_sI, tag_sI, I_sI, J_sI, R_sI, EI_sI, EJ_sI, ER_sI, n_sJ, z_sJ, tag_sJ, I_sJ, J_sJ, R_sJ, EI_sJ, EJ_sJ, ER_sJ, n_sR, z_sR, tag_sR, I_sR, J_sR, R_sR, EI_sR, EJ_sR, ER_sR, n_sEI, z_sEI, tag_sEI, I_sEI, J_sEI, R_sEI, EI_sEI, EJ_sEI, ER_sEI, n_sEJ, z_sEJ, tag_sEJ, I_sEJ, J_sEJ, R_sEJ, EI_sEJ, EJ_sEJ, ER_sEJ, n_sER, z_sER, tag_sER, I_sER, J_sER, R_sER, EI_sER, EJ_sER, ER_sER, n_nw, z_nw, tag_nw, I_nw, J_nw, R_nw, EI_nw, EJ_nw, ER_nw, hb]
  have g2 : (h1.sI 3717 a (nI n)).I 3717 a = nI n := I_same ..
  have g3 : ∀ b, (h1.sI 3717 a (nI n)).R 3716 b = h1.R 3716 b := fun b => rfl
  have g4 : (h1.sI 3717 a (nI n)).R 3715 a = h1.R 3715 a := rfl
  have fqa : Fq (fun g b => GP a xs g b ∨ (g = 3717 ∧ b = a)) h (h1.sI 3717 a (nI n)) := (fq.mono fun g b z => Or.inl z).trans fq2
  generalize h1.sI 3717 a (nI n) = h2 at *
  have np : ∀ g b, g ≠ 3716 → g ≠ 3715 → g ≠ 3717 → ¬ (GP a xs g b ∨ (g = 3717 ∧ b = a)) := fun g b h1 h2 h3 z => by
    rcases z with (z | z) | z
    · exact h1 z.1
    · exact h2 z.1
    · exact h3 z.1
  have pv : ∀ g b, (GP a xs g b ∨ (g = 3717 ∧ b = a)) → VQ g b := fun g b z => by
    rcases z with (z | z) | z
    · exact Or.inl (by rw [z.1]; decide)
    · exact Or.inl (by rw [z.1]; decide)
    · exact Or.inl (by rw [z.1]; decide)
  -- the parts are as they were
  have ndx : (xs.flatMap adr).Nodup := nd_fm (fun y hy => by obtain ⟨i, hi⟩ := xmem y hy; exact dj1 _ y hi) xd
  have rvx : ∀ y ∈ xs, RVL h2 y := fun y hy => by
    obtain ⟨i, hi⟩ := List.mem_iff_getElem?.mp hy
    refine (v.2.2.2 _ _ (a5 i y hi).1).1.nx fqa.1 (fun f h1 h2 h3 z => ?_) (fun f b hb h1 h2 z => ?_)
    · rcases z with (z | z) | z
      · exact h3 z.1
      · exact ax y hy (by rw [← z.2]; exact adr_1 y)
      · exact ax y hy (by rw [← z.2]; exact adr_1 y)
    · rcases z with (z | z) | z
      · obtain ⟨-, u, u1, u2⟩ := z
        obtain ⟨j, hj⟩ := List.mem_iff_getElem?.mp u1
        by_cases e : i = j
        · subst e
          rw [hi] at hj
          cases hj
          have := dj1 _ y (a5 i y hi).1
          have this : (y.1 :: fad y.2.2.2).Nodup := this
          rw [List.nodup_cons] at this
          exact this.1 (by rw [← u2]; exact hb)
        · exact xd i j y u e hi hj b (adr_2 hb) (by rw [u2]; exact adr_1 u)
      · exact ax y hy (by rw [← z.2]; exact adr_2 hb)
      · exact ax y hy (by rw [← z.2]; exact adr_2 hb)
  have chn : CHN h2 xs := by
    have : ∀ l : List LV, CHN h1 l → CHN h2 l := fun l => by
      induction l with
      | nil => exact fun _ => trivial
      | cons y r ih => exact fun hh => ⟨by rw [g3]; exact hh.1, ih hh.2⟩
    exact this xs ch
  have rvz : RVL h2 (a, kd, x, lof xs) := by
    obtain ⟨e2, e3, e4, e5, e6, e7⟩ := r1
    refine ⟨fqa.1.tag e2, ?_, ?_, ?_, ?_, ?_⟩
    · rw [fqa.1.I (np _ _ (by decide) (by decide) (by decide))]; exact e3
    · rw [fqa.1.J (np _ _ (by decide) (by decide) (by decide))]; exact e4
    · rw [fqa.1.J (np _ _ (by decide) (by decide) (by decide))]; exact e5
    · show h2.I 3717 a = nI (fln (lof xs))
      rw [g2, ← llo_len, llo_lof, a1]
    · show RF h2 (lof xs) (h2.R 3715 a)
      rw [g4, fs]
      exact CHN.rf rvx chn
  -- owners
  have ndz : (adr (a, kd, x, lof xs)).Nodup := by
    show (a :: fad (lof xs)).Nodup
    rw [fad_lof, List.nodup_cons]
    refine ⟨fun z => ?_, ndx⟩
    obtain ⟨y, y1, y2⟩ := List.mem_flatMap.mp z
    exact ax y y1 y2
  have mz : ∀ b, b ∈ adr (a, kd, x, lof xs) → ∃ p y, o p = some y ∧ b ∈ adr y ∧ (p = (5, wi, sl, 1) ∨ (p.1 = 1 ∧ p.2.1 = wi ∧ p.2.2.1 = t ∧ k.length ≤ p.2.2.2)) := fun b hb => by
    have hb : b ∈ a :: fad (lof xs) := hb
    rw [fad_lof] at hb
    rcases List.mem_cons.mp hb with e | e
    · exact ⟨_, _, hT, by rw [e]; exact adr_1 (a, kd, x, .leaf), Or.inl rfl⟩
    · obtain ⟨y, y1, y2⟩ := List.mem_flatMap.mp e
      obtain ⟨i, hi⟩ := xmem y y1
      exact ⟨_, y, hi, y2, Or.inr ⟨rfl, rfl, rfl, by show k.length ≤ k.length + i; omega⟩⟩
  have djn : DJ (gtO o wi t k.length sl (a, kd, x, lof xs)) := by
    refine ⟨fun p y hp => ?_, fun p r y u hpr hp hr b hb hb2 => ?_⟩
    · rcases gtO_i hp with ⟨-, e⟩ | ⟨-, -, e⟩
      · rw [e]; exact ndz
      · exact dj1 p y e
    · rcases gtO_i hp with ⟨e1, e2⟩ | ⟨e1, e2, e3⟩
      · rcases gtO_i hr with ⟨e4, e5⟩ | ⟨e4, e5, e6⟩
        · exact hpr (e1.trans e4.symm)
        · rw [e2] at hb
          obtain ⟨p', y', b1, b2, b3⟩ := mz b hb
          refine dj2 p' r y' u (fun e => ?_) b1 e6 b b2 hb2
          subst e
          rcases b3 with z | z
          · exact e4 z
          · exact e5 z
      · rcases gtO_i hr with ⟨e4, e5⟩ | ⟨e4, e5, e6⟩
        · rw [e5] at hb2
          obtain ⟨p', y', b1, b2, b3⟩ := mz b hb2
          refine dj2 p' p y' y (fun e => ?_) b1 e3 b b2 hb
          subst e
          rcases b3 with z | z
          · exact e1 z
          · exact e2 z
        · exact dj2 p r y u hpr e3 e6 b hb hb2
  have v2 : VH G B h2 q l (gtO o wi t k.length sl (a, kd, x, lof xs)) := by
    refine v.gen fqa (fun b => np _ _ (by decide) (by decide) (by decide)) (fun b hb z => ?_) djn (fun p y hy b hb => ?_) (fun p y hy => ?_)
    · rcases z with (z | z) | z
      · obtain ⟨-, u, u1, u2⟩ := z
        obtain ⟨i, hi⟩ := xmem u u1
        exact (v.2.2.2 _ u hi).2.1 u.1 (adr_1 u) (by rw [← u2]; exact hb)
      · exact absurd z.1 (by decide)
      · exact absurd z.1 (by decide)
    · by_cases c1 : p = (5, wi, sl, 1)
      · rw [c1, hT] at hy
        cases hy
        have hb : b ∈ [a] := hb
        exact ⟨_, _, gtO_s, by rw [List.mem_singleton.mp hb]; exact adr_1 (a, kd, x, lof xs)⟩
      · by_cases c2 : p.1 = 1 ∧ p.2.1 = wi ∧ p.2.2.1 = t ∧ k.length ≤ p.2.2.2
        · obtain ⟨p1, p2, p3, p4⟩ := p
          obtain ⟨d1, d2, d3, d4⟩ : p1 = 1 ∧ p2 = wi ∧ p3 = t ∧ k.length ≤ p4 := c2
          subst d1; subst d2; subst d3
          have hlt : p4 < k.length + n := Nat.lt_of_not_le fun cc => by
            rw [m7 p4 (by rw [a3]; exact cc)] at hy; cases hy
          obtain ⟨y', hy'⟩ : ∃ y', xs[p4 - k.length]? = some y' := ⟨_, List.getElem?_eq_getElem (by omega)⟩
          have h5 := (a5 _ y' hy').1
          rw [show k.length + (p4 - k.length) = p4 by omega, hy] at h5
          cases h5
          refine ⟨_, _, gtO_s, ?_⟩
          show b ∈ a :: fad (lof xs)
          rw [fad_lof]
          exact List.mem_cons_of_mem _ (List.mem_flatMap.mpr ⟨y, List.mem_iff_getElem?.mpr ⟨_, hy'⟩, hb⟩)
        · exact ⟨p, y, by rw [gtO_n c1 c2]; exact hy, hb⟩
    · rcases gtO_i hy with ⟨e1, e2⟩ | ⟨e1, e2, e3⟩
      · rw [e2]
        exact ⟨rvz, fun b hb => by obtain ⟨p', y', b1, b2, -⟩ := mz b hb; exact ⟨p', y', b1, b2⟩⟩
      · refine ⟨(v.2.2.2 p y e3).1.fr fqa.1 fun f b hb h1 h2 z => ?_, fun b hb => ⟨p, y, e3, hb⟩⟩
        have ha : b ≠ a := fun e => dj2 _ _ _ _ (fun e' => e1 e'.symm) hT e3 a (adr_1 (a, kd, x, .leaf)) (by rw [← e]; exact hb)
        rcases z with (z | z) | z
        · obtain ⟨-, u, u1, u2⟩ := z
          obtain ⟨j, hj⟩ := List.mem_iff_getElem?.mp u1
          refine dj2 _ p u y (fun e => ?_) (a5 j u hj).1 e3 u.1 (adr_1 u) (by rw [← u2]; exact hb)
          subst e
          exact e2 ⟨rfl, rfl, rfl, by show k.length ≤ k.length + j; omega⟩
        · exact ha z.2
        · exact ha z.2
  -- the frame
  have fq3 : Fq (PH (Fa W t)) h2 (h2.sI 2565 (Fa W t) (nI k.length)) := (Fq.refl h2).sI ⟨Or.inl rfl, by omega, by omega⟩
  have g5 : (h2.sI 2565 (Fa W t) (nI k.length)).I 2565 (Fa W t) = nI k.length := I_same ..
  have g6 : ∀ b i, (h2.sI 2565 (Fa W t) (nI k.length)).ER 747 b i = h2.ER 747 b i := fun b i => rfl
  generalize h2.sI 2565 (Fa W t) (nI k.length) = h3 at *
  obtain ⟨v3, tg3⟩ := v2.oth fq3 PH.v
  have ftg : ∀ b, h3.R 3718 b = h.R 3718 b := fun b => by
    rw [fq3.1.R (fun z => by rcases z.1 with z | z <;> exact absurd z (by decide)), fqa.1.R (np _ _ (by decide) (by decide) (by decide))]
  have fpt : Fr (PTF (Fa W t)) h h3 := ((fqa.1.mono pv).mono VQ.pt).trans (fq3.1.mono PH.pt)
  have fi : Fr (IP W) h h3 := fpt.mono (PTF.ip t32)
  have nf : ∀ g b, fmF.contains g = true → g ≠ 2565 → g ≠ 10000 + 747 → h3.I g b = h.I g b ∧ h3.R g b = h.R g b := fun g b hg h1 h2 => by
    have n1 : ¬ PH (Fa W t) g b := fun z => by rcases z.1 with z | z; exact h1 z; exact h2 z
    have n2 : ¬ (GP a xs g b ∨ (g = 3717 ∧ b = a)) := fun z => VQ.no (l := fmF) rfl g b hg (pv g b z)
    exact ⟨by rw [fq3.1.I n1, fqa.1.I n2], by rw [fq3.1.R n1, fqa.1.R n2]⟩
  have er : ∀ b i, h3.ER 747 b i = h.ER 747 b i := fun b i => by rw [g6, fqa.1.ER (fun z => VQ.no (l := fmF) rfl _ _ rfl (pv _ _ z))]
  have el3 : ∀ b i, h3.ER 731 b i = h.ER 731 b i := fun b i => by
    rw [fq3.1.ER (fun z => by rcases z.1 with z | z <;> exact absurd z (by decide)), fqa.1.ER (fun z => VQ.no (l := fmF) rfl _ _ rfl (pv _ _ z))]
  have rk : ∀ r, rad (gtO o wi t k.length sl (a, kd, x, lof xs)) wi r = rad o wi r := rdk fun r => gtO_n rsl_3 (fun z => by
    obtain ⟨i, n⟩ := r
    cases i with
    | zero => exact absurd z.1 (by show (3 : Nat) ≠ 1; omega)
    | succ j => exact absurd z.1 (by show (2 : Nat) ≠ 1; omega))
  refine kk h3 _ (a, kd, x, lof xs) ⟨fi, fun p hp hn => ?_⟩ ⟨c.ip fi, v3, ?_, ?_, hg, (hw.vq (fqa.1.mono pv)).ph fq3.1⟩ gtO_s rfl ?_ ?_
  · refine ⟨gtO_n (by simpa using hn) (fun z => ?_), fun u hu => ftg u.1⟩
    obtain ⟨p1, p2, p3, p4⟩ := p
    obtain ⟨z1, z2, -, -⟩ := z
    rcases hp with hp | hp
    · have hp : p1 = 0 ∨ 3 < p1 := hp
      have z1 : p1 = 1 := z1
      omega
    · exact hp z2
  · unfold sK
    have w' : WkR h (uO o (5, wi, sl, 1) (some (a, kd, x, lof xs))) wi W MA s := w.tmp
    refine w'.top ht fpt (fun p hp => ?_) (fun p y _ _ _ _ => ftg y.1) (fun j hj r _ a' ha => by rw [rk]; rw [rdk fun r => uO_n rsl_3] at ha; exact ha) ?_
    · by_cases e : p = (5, wi, sl, 1)
      · rw [e, gtO_s, uO_s]
      · rw [uO_n e]
        refine gtO_n e fun z => ?_
        rcases hp with y | y
        · rw [z.1] at y; omega
        · exact y.2.2 z.2.2.1
    · rw [tpt ht]
      refine ⟨⟨by rw [(nf _ _ rfl (by decide) (by decide)).2]; exact m1, by rw [(nf _ _ rfl (by decide) (by decide)).2]; exact m2, by rw [(nf _ _ rfl (by decide) (by decide)).1]; exact m3, g5, by show k.length ≤ 64; omega⟩, a4.keep (fun i hi => gtO_n (fun e => by cases e) (fun z => by have : k.length ≤ i := z.2.2.2; omega)) (fun i _ => er _ i) (fun i y _ _ => ftg y.1) (fun r _ a' ha => by rw [rk]; exact ha), fun i hi => ?_, m8.keep (fun i _ => gtO_n (fun e => by cases e) (fun z => absurd z.1 (by show (2 : Nat) ≠ 1; omega))) (fun i _ => el3 _ i) (fun i y _ => ftg y.1) (fun i r _ _ a' ha => by rw [rk]; exact ha), fun i hi => ?_⟩
      · have hi : k.length ≤ i := hi
        unfold gtO
        rw [if_neg (fun e => by cases e), if_pos ⟨rfl, rfl, rfl, hi⟩]
      · rw [gtO_n (fun e => by cases e) (fun z => absurd z.1 (by show (2 : Nat) ≠ 1; omega))]
        exact m9 i hi
  · show h3.R 28 A = some (Fa W (s.1 - 1))
    rw [show s.1 - 1 = t by omega, fpt.R (PTF.no (l := [28]) rfl _ _ rfl)]; exact hf
  · show ((kd, x, fer (lof xs)) : VL) = _
    rw [fer_lof, a2]
  · unfold av; rw [fq3.2.1, fqa.2.1]
theorem cpack_ok {kd : Nat} {m : Md} {st : Sx} {M : Nat} (H : OPR G B h A W q BA X tt snd lim SP wi MA l o s) (hm : MDR h M m) (hM : MA.1 (tpf s).1.1 = M) (hk : m.2.1[kd]? = some st) (hg : gM m) (ha : 1 ≤ av G h l) (h64 : ∀ k vs, tkV (fdl m kd).length (stk s) = some (vs, k) → k.length < 64) (hd : 10 ≤ d) (hne : oPck m kd s ≠ none) (kk : RZ K G B h A W q BA X tt snd lim SP wi MA o (oPck m kd s)) : MW G d e_X1_pack [.ref A, .int (nI kd)] h K := by
  refine st_X1_pack fun XX oo hG hD _ => ?_
  subst hG; subst hD
  unfold oPck at hne kk
  cases htk : tkV (fdl m kd).length (stk s) with
  | none => rw [htk] at hne; exact absurd rfl hne
  | some p =>
    obtain ⟨vs, k⟩ := p
    rw [htk] at kk
    have kk : ∀ h' l' o', OUT wi W h h' o o' → OPR XX.G B h' A W q BA X tt snd lim SP wi MA l' o' (sK s (.inl (6, (lN m.1, lN kd), fof vs.reverse) :: k)) → K (.returned none) h' := kk
    have hk64 := h64 k vs htk
    obtain ⟨c, v, w, hf, hgs, hw⟩ := id H
    obtain ⟨t, ht⟩ : ∃ t, t + 1 = s.1 := ⟨s.1 - 1, by have := w.1.2.2.1; omega⟩
    rw [show s.1 - 1 = t by omega] at hf
    obtain ⟨⟨sf1, sf2, sf3, sf4, sf5⟩, ⟨⟨m1, m2, m3, m4, m5⟩, -, -, -, -⟩, es, el⟩ := w.F ht
    rw [tpt ht] at hM
    rw [hM] at m1
    have t0 := c.1.1
    have r1 := c.1.2.1
    have tq := v.1.1
    obtain ⟨d1, d2⟩ := hm.1
    refine k_X1_pack_0 oo ?_
    refine wtake_ok H ha (by omega) fun h1 a l1 sl u1 H1 a1 ta => ?_
    have hm1 := hm.ip u1.1.1
    have t1 := H1.1.1.1
    have hk32 : kd < 32 := by have := get_lt hk; have := hm.2.2.2.2.2.1.2.1; omega
    obtain ⟨e1, e2, e3, e4⟩ := hm1.2.1.2.2.2.1 kd (by omega)
    have b1 := hm1.2.1.1.1
    have b2 := hm1.2.1.1.2.1
    have b3 := hm1.2.1.2.1.1
    have b4 := hm1.2.2.2.2.1.1
    have sx := hm1.2.2.2.2.2.2.1 kd st hk
    obtain ⟨pre, post, p1, p2, p3⟩ := sx.2.2
    have ix : IX (nI kd) 64 kd := IX.mk (by omega) (by omega)
    rw [show M + 1 + 13 + 2 * kd = M + 1 + 12 + 2 * kd + 1 by omega] at e3 e4
    have e5 : h1.I 513 (M + 1 + 12 + 2 * kd + 1) = nI st.2.2.length := p3
    refine k_X1_pack_20 oo ?_
    have fl : (fdl m kd).length = st.2.2.length := fdl_len hk
    rw [nI_l (by have := hm.2.2.2.2.2.1.1; omega), nI_l (by omega)]
    have f2 : Fq (NP a) h1 ((h1.sJ 3713 a (lN m.1)).sJ 3714 a (lN kd)) := ((Fq.refl h1).sJ (f := 3713) (a := a) ⟨Or.inr (Or.inl rfl), rfl⟩).sJ (f := 3714) (a := a) ⟨Or.inr (Or.inr rfl), rfl⟩
    have q1 : ((h1.sJ 3713 a (lN m.1)).sJ 3714 a (lN kd)).I 3712 a = h1.I 3712 a := rfl
    have q2 : ((h1.sJ 3713 a (lN m.1)).sJ 3714 a (lN kd)).J 3713 a = lN m.1 := by simp [n_sI, z_sI, tag_sI, I_sI, J_sI, R_sI, EI_sI, EJ_sI, ER_sI, n_sJ, z_sJ, tag_sJ, I_sJ, J_sJ, R_sJ, EI_sJ, EJ_sJ, ER_sJ, n_sR, z_sR, tag_sR, I_sR, J_sR, R_sR, EI_sR, EJ_sR, ER_sR, n_sEI, z_sEI, tag_sEI, I_sEI, J_sEI, R_sEI, EI_sEI, EJ_sEI, ER_sEI, n_sEJ, z_sEJ, tag_sEJ, I_sEJ, J_sEJ, R_sEJ, EI_sEJ, EJ_sEJ, ER_sEJ, n_sER, z_sER, tag_sER, I_sER, J_sER, R_sER, EI_sER, EJ_sER, ER_sER, n_nw, z_nw, tag_nw, I_nw, J_nw, R_nw, EI_nw, EJ_nw, ER_nw]
    have q3 : ((h1.sJ 3713 a (lN m.1)).sJ 3714 a (lN kd)).J 3714 a = lN kd := by simp [n_sI, z_sI, tag_sI, I_sI, J_sI, R_sI, EI_sI, EJ_sI, ER_sI, n_sJ, z_sJ, tag_sJ, I_sJ, J_sJ, R_sJ, EI_sJ, EJ_sJ, ER_sJ, n_sR, z_sR, tag_sR, I_sR, J_sR, R_sR, EI_sR, EJ_sR, ER_sR, n_sEI, z_sEI, tag_sEI, I_sEI, J_sEI, R_sEI, EI_sEI, EJ_sEI, ER_sEI, n_sEJ, z_sEJ, tag_sEJ, I_sEJ, J_sEJ, R_sEJ, EI_sEJ, EJ_sEJ, ER_sEJ, n_sER, z_sER, tag_sER, I_sER, J_sER, R_sER, EI_sER, EJ_sER, ER_sER, n_nw, z_nw, tag_nw, I_nw, J_nw, R_nw, EI_nw, EJ_nw, ER_nw]
    generalize (h1.sJ 3713 a (lN m.1)).sJ 3714 a (lN kd) = h2 at *
    have kd1 : h1.I 3712 a = nI 6 := (H1.2.1.2.2.2 _ _ uO_s).1.2.1
    obtain ⟨u2, H2, a2⟩ := H1.numT (sl := sl) (z := (a, 6, (0, 0), .leaf)) (kd := 6) (n := (lN m.1, lN kd)) uO_s f2 (by rw [q1]; exact kd1) q2 q3
    rw [uO_u] at u2 H2
    rw [← fl]
    refine cgather_ok H2 uO_s htk fun h3 o3 z u3 H3 z1 z2 z3 a3 => ?_
    have t3 := H3.1.1.1
    refine k_X1_pack_57 oo ?_
    rw [← z2]
    refine H3.pushT (by rw [stk_K]; exact hk64) z1 fun h4 o4 u4 H4 _ => ?_
    refine k_X1_pack_62 oo ?_
    rw [z3] at H4
    have em : mpu (sK s k) (.inl (6, (lN m.1, lN kd), fof vs.reverse)) = sK s (.inl (6, (lN m.1, lN kd), fof vs.reverse) :: k) := by unfold mpu; rw [stk_K, stkK]
    rw [em] at H4
    exact kk h4 l1 o4 ((((u1.1.trans u2).trans u3).trans u4.1).cl1 u1.2 u4.2) H4
end
