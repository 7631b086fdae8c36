/-! the twin's machine: packing and unpacking -/
theorem LX.st1p {wd : List Nat} {ml : Nat} {ls ls' : Array Slot} {L : List Value} {i : Nat} {v : Value} (h : LX wd ml ls L) (hc : v.category = 1) (hp : ∀ j w, j + 1 = i → L[j]? = some w → w.category ≠ 2)
    (h' : lv_has ls' L.length ((i, v) :: (asc L).filter (fun q => !(q.1 == i) && !(q.1 + 1 == i && q.2.category == 2)))) : LX wd ml ls' (L.set i v) := by
  have at_ : ∀ j w, (L.set i v)[j]? = some w → w ≠ nov → (j = i ∧ w = v) ∨ (j ≠ i ∧ L[j]? = some w) := by
    intro j w hj hw
    by_cases e : j = i
    · subst e; exact Or.inl ⟨rfl, set_is hj⟩
    · rw [List.getElem?_set_ne (Ne.symm e)] at hj
      exact Or.inr ⟨e, hj⟩
  refine ⟨⟨?_, fun j w hj hw => ?_⟩, by simp [h.2]⟩
  · rw [show (L.set i v).length = L.length by simp]
    refine h'.of fun q hq => ?_
    obtain ⟨j, w⟩ := q
    obtain ⟨h1, h2⟩ := mem_asc.mp hq
    rcases at_ j w h1 h2 with ⟨e1, e2⟩ | ⟨e1, e2⟩
    · subst e1; subst e2; exact List.mem_cons_self
    · refine List.mem_cons_of_mem _ (List.mem_filter.mpr ⟨mem_asc.mpr ⟨e2, h2⟩, ?_⟩)
      simp only [Bool.and_eq_true, Bool.not_eq_true', beq_eq_false_iff_ne, ne_eq, Bool.and_eq_false_iff]
      refine ⟨e1, ?_⟩
      by_cases q1 : j + 1 = i
      · exact Or.inr (hp j w q1 e2)
      · exact Or.inl q1
  · have hwn : w ≠ nov := fun e => by rw [e, nov_cat] at hw; cases hw
    rcases at_ j w hj hwn with ⟨e1, e2⟩ | ⟨e1, e2⟩
    · rw [e2, hc] at hw; cases hw
    · exact h.1.2 j w e2 hw
theorem v_isp {E : Et} {X : Xt} (o : OK E X) {K : Outcome → AH → Prop} {pc i j : Nat} {L r : List Value} {h : AH} {x y : Int32} {L2 : List Value} (hd : decode E.cc pc = .ok (.istore i, 2)) (hi : Nat.ble (i + 1) L.length = true) (hj : j + 1 = i ∧ L[j]? = some (.int y)) (hl : L.set i (.int x) = L2) (H : V X K (pc + 2) L2 r h) : V X K pc L (.int x :: r) h := by
  subst hl
  intro H' locs cells slots ls h1 h2 h3 h4 h5
  refine lv_istore o.1.1 o.1.2.1 hd h2.1.1 (Nat.le_of_ble_eq_true hi) rfl (fun ls' h' => H H' locs cells slots ls' h1 (h2.st1p rfl (fun j' w e1 e2 => ?_) h') h3 h4 h5)
  have : j' = j := by omega
  subst this
  rw [hj.2] at e2; cases e2; exact (show (1 : Nat) ≠ 2 by decide)
theorem v_incp {E : Et} {X : Xt} (o : OK E X) {K : Outcome → AH → Prop} {pc i j : Nat} {n : Int} {L r : List Value} {h : AH} {x y d : Int32} {L2 : List Value} (hd : decode E.cc pc = .ok (.iinc i n, 3)) (hv : Int32.ofInt n = d) (hL : L[i]? = some (.int x)) (hj : j + 1 = i ∧ L[j]? = some (.int y)) (hl : L.set i (.int (x + d)) = L2) (H : V X K (pc + 3) L2 r h) : V X K pc L r h := by
  subst hl
  intro H' locs cells slots ls h1 h2 h3 h4 h5
  have hm : (i, Value.int x) ∈ asc L := mem_asc.mpr ⟨hL, by simp [nov]⟩
  obtain ⟨k, hk⟩ := List.getElem?_of_mem hm
  refine lv_iinc o.1.1 o.1.2.1 hd h2.1.1 hk (by rw [hv]) (List.getElem?_eq_some_iff.mp hL).1 rfl (fun ls' h' => H H' locs cells slots ls' h1 (h2.st1p rfl (fun j' w e1 e2 => ?_) h') h3 h4 h5)
  have : j' = j := by omega
  subst this
  rw [hj.2] at e2; cases e2; exact (show (1 : Nat) ≠ 2 by decide)
section
variable {G : Gt} {d : Nat} {h h' : AH} {o o' : Lc} {tx UX at' : Nat → Nat} {A n n' lim : Nat} {snd : Int64} {s : Ms} {K : Outcome → AH → Prop}
/-- the unit that is run -/
def UNC (h : AH) (A : Nat) (m : Md) : Prop := ∃ U nb B, h.R 2864 A = some U ∧ SU h U nb B ∧ UM h U nb B m ∧ m.1 = 256 * B 4 + B 5
theorem UNC.fs {l : List Nat} {m : Md} (q : Fq (FS l) h h') (hl : (2864 :: sbF ++ umF).all (fun f => !(l.contains f)) = true) (u : UNC h A m) : UNC h' A m := by
  obtain ⟨U, nb, B, u1, u2, u3, u4⟩ := u
  have np : ∀ l' : List Nat, l'.all (fun f => (2864 :: sbF ++ umF).contains f) = true → ∀ f a, l'.contains f = true → ¬ FS l f a := fun l' h' f a hf => FS.no hl f a (by rw [List.all_eq_true] at h'; exact h' f (List.contains_iff_mem.mp hf))
  exact ⟨U, nb, B, by rw [q.1.R (np [2864] (by decide) _ _ rfl)]; exact u1, u2.fr q.1 (fun f a hf _ _ => np sbF (by decide) f a hf), u3.fr q.1 (np umF (by decide)), u4⟩
theorem tkV_e : ∀ {n : Nat} {k t : List It} {l : List VL}, tkV n k = some (l, t) → k = l.map .inl ++ t ∧ l.length = n
  | 0, k, t, l, h => by
    have h : some (([] : List VL), k) = some (l, t) := h
    cases h
    exact ⟨rfl, rfl⟩
  | n + 1, [], t, l, h => by cases h
  | n + 1, .inr r :: k, t, l, h => by cases h
  | n + 1, .inl v :: k, t, l, h => by
    have h : (match tkV n k with | some (l, r) => some (v :: l, r) | none => none) = some (l, t) := h
    cases hk : tkV n k with
    | none => rw [hk] at h; cases h
    | some p =>
      rw [hk] at h
      obtain ⟨l1, t1⟩ := p
      cases h
      obtain ⟨e1, e2⟩ := tkV_e hk
      exact ⟨by rw [e1]; rfl, by rw [← e2]; rfl⟩
theorem TKS.gat {b : Nat} {t : List It} : ∀ {l : List VL}, TKS h o tx b (l.map .inl ++ t) → ∃ ys : List LV, ys.map lvE = l.reverse ∧ ∀ (i : Nat) (y : LV), ys[i]? = some y → o (1, 0, 0, b + t.length + i) = some y ∧ h.EI 1216 (tx 1) (b + t.length + i) = nI y.1
  | [], _ => ⟨[], rfl, fun i y hy => by cases hy⟩
  | v :: l, hs => by
    have hs : TKS h o tx b (.inl v :: (l.map Sum.inl ++ t)) := hs
    obtain ⟨⟨y, y1, y2, y3, y4⟩, hs⟩ := hs
    obtain ⟨ys, e1, e2⟩ := TKS.gat hs
    have el : ys.length = l.length := by
      have := congrArg List.length e1
      rw [List.length_map, List.length_reverse] at this; exact this
    have ep : b + (l.map Sum.inl ++ t : List It).length = b + t.length + ys.length := by
      rw [List.length_append, List.length_map, el]; omega
    rw [ep] at y1 y3
    refine ⟨ys ++ [y], by rw [List.map_append, e1, List.reverse_cons]; show _ ++ [lvE y] = _; rw [y2], fun i z hz => ?_⟩
    by_cases c : i < ys.length
    · rw [List.getElem?_append_left c] at hz
      exact e2 i z hz
    · rw [List.getElem?_append_right (by omega)] at hz
      have : i - ys.length = 0 := by
        cases hi : i - ys.length with
        | zero => rfl
        | succ j => rw [hi] at hz; cases hz
      rw [this] at hz
      cases hz
      have : i = ys.length := by omega
      rw [this]
      exact ⟨y1, y3⟩
/-- values of the stack are gathered below a new one -/
def GTH (h h1 : AH) (o o1 : Lc) (tx : Nat → Nat) (n kd : Nat) (x : Int64 × Int64) (p0 : Nat) (ys : List LV) (i : Nat) : Prop := Fq (FS tFl) h h1 ∧ TH h1 (tx 0) (n + 1) o1 ∧ o1 (5, 0, 0, 0) = some (n, kd, x, lof (ys.take i)) ∧ (∀ j, j < i → o1 (1, 0, 0, p0 + j) = none) ∧ (∀ p : Sl, p.1 ≠ 5 → (∀ j, j < i → p ≠ (1, 0, 0, p0 + j)) → o1 p = o p) ∧ ∀ a b c, ((5, a, b, c) : Sl) ≠ (5, 0, 0, 0) → o1 (5, a, b, c) = none
theorem gth_ok {h1 : AH} {o1 : Lc} {kd p0 i : Nat} {x : Int64 × Int64} {ys : List LV} {y : LV} (g : GTH h h1 o o1 tx n kd x p0 ys i) (hy : ys[i]? = some y) (ho : o (1, 0, 0, p0 + i) = some y) (kk : ∀ h2 o2, GTH h h2 o o2 tx n kd x p0 ys (i + 1) → K (.returned none) h2) : MW G d e_X24_add [.ref (tx 0), .int (nI n), .int (nI y.1)] h1 K := by
  obtain ⟨g1, g2, g3, g4, g5, g6⟩ := g
  have hr : o1 (1, 0, 0, p0 + i) = some y := by
    rw [g5 _ (by show (1 : Nat) ≠ 5; decide) (fun j hj e => by have : p0 + i = p0 + j := congrArg (fun p : Sl => p.2.2.2) e; omega)]
    exact ho
  refine thadd_ok (p := (5, 0, 0, 0)) (r := (1, 0, 0, p0 + i)) (pa := []) (y := (n, kd, x, lof (ys.take i))) g2 g3 rfl hr (by intro e; cases e) (fun h2 q2 th2 => ?_)
  have et : lof (llo (lof (ys.take i)) ++ [y]) = lof (ys.take (i + 1)) := by
    rw [llo_lof, List.take_add_one, hy]; rfl
  refine kk h2 _ ⟨g1.trans q2, th2, ?_, fun j hj => ?_, fun p p5 hp => ?_, fun a b c e => ?_⟩
  · rw [uO_s]
    show some (n, kd, x, lof (llo (lof (ys.take i)) ++ [y])) = _
    rw [et]
  · rw [uO_n (by intro e; cases e)]
    by_cases e : j = i
    · rw [e, uO_s]
    · rw [uO_n (fun z => e (by have : p0 + j = p0 + i := congrArg (fun p : Sl => p.2.2.2) z; omega))]
      exact g4 j (by omega)
  · rw [uO_n (fun e => p5 (by rw [e])), uO_n (hp i (by omega))]
    exact g5 p p5 (fun j hj => hp j (by omega))
  · rw [uO_n e, uO_n (by intro e; cases e)]
    exact g6 a b c e
/-- at the end it is pushed -/
theorem gth_end {h1 h2 : AH} {o1 : Lc} {kd : Nat} {x : Int64 × Int64} {ys : List LV} {l : List VL} {t : List It} (k : TK h A tx UX at' o n s) (e1 : 1 ≤ s.1) (hs : stk s = l.map .inl ++ t) (ey : ys.map lvE = l.reverse) (g : GTH h h1 o o1 tx n kd x (bsf s.2.1 (s.1 - 1) + t.length) ys ys.length) (q2 : Fq (FS [2861]) h1 h2) (hh : h2.I 2861 A = nI (bsf s.2.1 (s.1 - 1) + t.length)) : TK h2 A tx UX at' o1 (n + 1) (sK s t) ∧ o1 (5, 0, 0, 0) = some (n, kd, x, lof ys) ∧ lvE (n, kd, x, lof ys) = (kd, x, fof l.reverse) := by
  obtain ⟨g1, g2, g3, g4, g5, g6⟩ := g
  rw [List.take_length] at g3
  obtain ⟨b1, b2, b3, b4⟩ := k.hgt e1
  rw [hs] at b1 b3 b4
  have el : ys.length = l.length := by
    have := congrArg List.length ey
    rw [List.length_map, List.length_reverse] at this; exact this
  rw [List.length_append, List.length_map] at b1 b3
  have q : Fq (FS (2861 :: tFl)) h h2 := (g1.mono fun f a z => by
    unfold FS at z ⊢
    rw [List.contains_iff_mem] at z ⊢
    exact List.mem_cons_of_mem _ z).trans (q2.mono fun f a z => by
    unfold FS at z ⊢
    rw [List.contains_iff_mem] at z ⊢
    rcases List.mem_cons.mp z with z | z
    · rw [z]; exact List.mem_cons_self ..
    · cases z)
  have o1p : ∀ p, p < bsf s.2.1 (s.1 - 1) + t.length → o1 (1, 0, 0, p) = o (1, 0, 0, p) := fun p hp => g5 _ (by show (1 : Nat) ≠ 5; decide) (fun j _ e => by have : p = bsf s.2.1 (s.1 - 1) + t.length + j := congrArg (fun p : Sl => p.2.2.2) e; omega)
  have ho : ∀ c a b e, c = 2 ∨ c = 3 → o1 (c, a, b, e) = o (c, a, b, e) := fun c a b e hc => g5 _ (by show c ≠ 5; omega) (fun j _ z => by have : c = 1 := congrArg (fun p : Sl => p.1) z; omega)
  have er : ∀ r : Rx, rad o1 0 r = rad o 0 r := rad_k (fun c i j hc => ho c 0 i j hc)
  have TKn : ∀ th, TK h A tx UX at' o n s → TK h2 A tx UX at' o1 (n + 1) (sK s t) := fun (th : TH h2 (tx 0) (n + 1) o1) k0 => by
    have k1 : TK h2 A tx UX at' o1 (n + 1) (sK s t) := by
      obtain ⟨⟨c1, c2⟩, ⟨c3, c4, c5, c6, c7⟩, c8, c9, c10, c11, c12, c13⟩ := k0
      have bf : ∀ j, j ≤ s.1 - 1 → bsf (sK s t).2.1 j = bsf s.2.1 j := fun j hj => bsf_c fun i hi => by
        show (uF s.2.1 (s.1 - 1) _ i).2.2.2 = _
        rw [uF_n (by omega)]
      have bt : bsf (sK s t).2.1 (sK s t).1 = bsf s.2.1 (s.1 - 1) + t.length := by
        show bsf (sK s t).2.1 s.1 = _
        have : s.1 = (s.1 - 1) + 1 := by omega
        rw [this]
        show bsf (sK s t).2.1 (s.1 - 1) + ((sK s t).2.1 (s.1 - 1)).2.2.2.length = _
        rw [bf _ (Nat.le_refl _)]
        show _ + (uF s.2.1 (s.1 - 1) _ (s.1 - 1)).2.2.2.length = _
        rw [uF_s]
        simp only [Nat.add_sub_cancel]
      refine ⟨⟨c1.fr q.1 (FS.no (by decide)), th⟩, ⟨by rw [q.1.I (FS.n rfl)]; exact c3, by rw [q.1.I (FS.n rfl)]; exact c4, by rw [q.1.I (FS.n rfl)]; exact c5, by rw [bt]; exact hh, by rw [q.1.I (FS.n rfl)]; exact c7⟩, c8, fun j hj => ?_, fun e x hx => (c10 e x hx).kp (fun f hf a => q.1.EI (FS.n (by
        simp only [List.mem_cons, List.mem_nil_iff, or_false] at hf
        rcases hf with e | e | e | e <;> (rw [e]; decide))) _) (fun f hf a => q.1.EJ (FS.n (by
        simp only [List.mem_cons, List.mem_nil_iff, or_false] at hf
        rcases hf with e | e <;> (rw [e]; decide))) _) (ho 3 0 e 0 (Or.inr rfl)), fun p hp => ?_, fun j k hj => by rw [ho 2 0 j k (Or.inl rfl)]; exact c12 j k hj, fun e b he => by rw [ho 3 0 e b (Or.inr rfl)]; exact c13 e b he⟩
      · have hj : j < s.1 := hj
        obtain ⟨⟨f1, f2, f3, f4⟩, ⟨f5, f6⟩, f7⟩ := c9 j hj
        have lc : ∀ k, if k < 40 then TKL h2 o1 tx j k ((s.2.1 j).2.2.1 k) else o1 (2, 0, j, k) = none := fun k => by
          have := f7 k
          by_cases c : k < 40
          · rw [if_pos c] at this ⊢
            exact this.kp (q.1.EI (FS.n (by decide)) _) (q.1.EI (FS.n (by decide)) _) (ho 2 0 j k (Or.inl rfl)) (fun r _ a ha => by rw [er]; exact ha)
          · rw [if_neg c] at this ⊢
            rw [ho 2 0 j k (Or.inl rfl)]; exact this
        have rw4 : h2.EI 1168 (tx 5) j = nI (bsf s.2.1 j) ∧ h2.EI 1120 (tx 7) j = nI (UX (s.2.1 j).1.1) ∧ h2.EI 1136 (tx 8) j = nI (s.2.1 j).1.2 ∧ h2.EI 1152 (tx 6) j = nI (at' j) := ⟨by rw [q.1.EI (FS.n (by decide))]; exact f1, by rw [q.1.EI (FS.n (by decide))]; exact f2, by rw [q.1.EI (FS.n (by decide))]; exact f3, by rw [q.1.EI (FS.n (by decide))]; exact f4⟩
        by_cases e : j = s.1 - 1
        · have ef : (sK s t).2.1 j = ((s.2.1 j).1, (s.2.1 j).2.1, (s.2.1 j).2.2.1, t) := by
            rw [e]
            exact uF_s
          rw [ef, bf j (by omega)]
          refine ⟨rw4, ⟨?_, by show t.length ≤ 64; omega⟩, lc⟩
          show TKS h2 o1 tx (bsf s.2.1 j) t
          rw [e]
          have ap : ∀ (l : List VL), TKS h o tx (bsf s.2.1 (s.1 - 1)) (l.map .inl ++ t) → TKS h o tx (bsf s.2.1 (s.1 - 1)) t := fun l => by
            induction l with
            | nil => exact id
            | cons v l ih => exact fun z => ih z.2
          exact (ap l b4).kp (fun p _ p2 => ⟨q.1.EI (FS.n (by decide)) _, q.1.EI (FS.n (by decide)) _, o1p p (by omega)⟩) (fun r _ a ha => by rw [er]; exact ha)
        · have ef : (sK s t).2.1 j = s.2.1 j := uF_n e
          rw [ef, bf j (by omega)]
          refine ⟨rw4, ⟨f5.kp (fun p _ p2 => ⟨q.1.EI (FS.n (by decide)) _, q.1.EI (FS.n (by decide)) _, o1p p (by
            have : bsf s.2.1 (j + 1) ≤ bsf s.2.1 (s.1 - 1) := bsf_m (by omega)
            have e2 : bsf s.2.1 (j + 1) = bsf s.2.1 j + (s.2.1 j).2.2.2.length := rfl
            omega)⟩) (fun r _ a ha => by rw [er]; exact ha), f6⟩, lc⟩
      · rw [bt] at hp
        by_cases c : p < bsf s.2.1 (s.1 - 1) + t.length + ys.length
        · have := g4 (p - (bsf s.2.1 (s.1 - 1) + t.length)) (by omega)
          rw [show bsf s.2.1 (s.1 - 1) + t.length + (p - (bsf s.2.1 (s.1 - 1) + t.length)) = p by omega] at this
          exact this
        · rw [g5 _ (by show (1 : Nat) ≠ 5; decide) (fun j hj e => by have : p = bsf s.2.1 (s.1 - 1) + t.length + j := congrArg (fun p : Sl => p.2.2.2) e; omega)]
          exact c11 p (by omega)
    exact k1
  refine ⟨TKn (g2.fr q2.1 (FS.no (by decide))) k, g3, ?_⟩
  show (kd, x, fer (lof ys)) = _
  rw [fer_lof, ey]
end
