/-! the root by levels, of keys in their order -/
theorem un_lt_bit {x y m : Nat} (hx : x.testBit m = false) (hy : y.testBit m = true) (h : ∀ j, m < j → x.testBit j = y.testBit j) : x < y := by
  have e : x / 2 ^ (m + 1) = y / 2 ^ (m + 1) := Nat.eq_of_testBit_eq fun i => by rw [Nat.testBit_div_two_pow, Nat.testBit_div_two_pow]; exact h _ (by omega)
  rw [Nat.testBit_eq_decide_div_mod_eq] at hx hy
  have h1 : ¬ x / 2 ^ m % 2 = 1 := of_decide_eq_false hx
  have h2 : y / 2 ^ m % 2 = 1 := of_decide_eq_true hy
  rw [Nat.pow_succ, ← Nat.div_div_eq_div_mul, ← Nat.div_div_eq_div_mul] at e
  have : x / 2 ^ m < y / 2 ^ m := by omega
  exact Nat.lt_of_div_lt_div this
/-- one key before another one: by the first bit in which they differ -/
def lt4 (q q' : F4) : Prop := ∃ l, l < 256 ∧ agr l q q' ∧ bt q l = 0 ∧ bt q' l = 1
theorem lt4_or (q q' : F4) : q = q' ∨ lt4 q q' ∨ lt4 q' q := by
  obtain ⟨p1, p2, p3, p4⟩ := frk_spec q q' 4 0 rfl (fun j hj => by omega)
  generalize frk q q' 4 0 = l at *
  rcases Nat.lt_or_ge l 256 with c | c
  · right
    have h1 := bt_lt q l
    have h2 := bt_lt q' l
    have h3 := p2 c
    by_cases z : bt q l = 0
    · exact Or.inl ⟨l, c, fun i hi => p1 i hi (by omega), z, by omega⟩
    · exact Or.inr ⟨l, c, fun i hi => (p1 i hi (by omega)).symm, by omega, by omega⟩
  · exact Or.inl (p3 (by omega))
theorem lt4_irr {q : F4} : ¬ lt4 q q := fun ⟨l, _, _, h1, h2⟩ => by omega
theorem lt4_asym {q q' : F4} (h : lt4 q q') : ¬ lt4 q' q := fun ⟨l', c', a', h1', h2'⟩ => by
  obtain ⟨l, c, a, h1, h2⟩ := h
  rcases Nat.lt_trichotomy l l' with z | z | z
  · have := a' l z; omega
  · subst z; omega
  · have := a l' z; omega
theorem lt4_trans {a b c : F4} (h : lt4 a b) (h' : lt4 b c) : lt4 a c := by
  obtain ⟨l, c1, a1, h1, h2⟩ := h
  obtain ⟨l', c1', a1', h1', h2'⟩ := h'
  rcases Nat.lt_trichotomy l l' with z | z | z
  · exact ⟨l, c1, fun i hi => (a1 i hi).trans (a1' i (by omega)), h1, by rw [← a1' l z]; exact h2⟩
  · subst z; omega
  · exact ⟨l', c1', fun i hi => (a1 i (by omega)).trans (a1' i hi), by rw [a1 l' z]; exact h1', h2'⟩
/-- what lies between two that agree agrees with them -/
theorem agr_mid {a b c : F4} {l : Nat} (hl : l ≤ 256) (h : lt4 a b) (h' : lt4 b c) (hac : agr l a c) : agr l a b ∧ agr l b c := by
  obtain ⟨m, c1, a1, h1, h2⟩ := h
  obtain ⟨m', c1', a1', h1', h2'⟩ := h'
  have hm : l ≤ m := by
    rcases Nat.lt_or_ge m l with z | z
    · exfalso
      have q := hac m z
      rcases Nat.lt_trichotomy m m' with y | y | y
      · have := a1' m y; omega
      · subst y; omega
      · have := hac m' (by omega); have := a1 m' y; omega
    · exact z
  have hm' : l ≤ m' := by
    rcases Nat.lt_or_ge m' l with z | z
    · exfalso
      have := hac m' z; have := a1 m' (by omega); omega
    · exact z
  exact ⟨fun i hi => a1 i (by omega), fun i hi => a1' i (by omega)⟩
/-- keys in their order -/
def so4 (S : List (F4 × F4)) : Prop := S.Pairwise fun x y => lt4 x.1 y.1
/-- groups of a level: together all; in each keys agree in so many bits, in two they don't -/
def GR (l : Nat) (S : List (F4 × F4)) (gs : List (List (F4 × F4))) : Prop := gs.flatten = S ∧ (∀ g ∈ gs, g ≠ []) ∧ (∀ g ∈ gs, ∀ x ∈ g, ∀ y ∈ g, agr l x.1 y.1) ∧ gs.Pairwise fun g g' => ∀ x ∈ g, ∀ y ∈ g', lt4 x.1 y.1 ∧ ¬ agr l x.1 y.1
def hd4 (g : List (F4 × F4)) : F4 := match g with
  | [] => z4
  | x :: _ => x.1
theorem hd4_in {g : List (F4 × F4)} (h : g ≠ []) : ∃ x ∈ g, x.1 = hd4 g := by
  cases g with
  | nil => exact absurd rfl h
  | cons x r => exact ⟨x, by simp, rfl⟩
theorem agr_s {l : Nat} {q q' : F4} : agr (l + 1) q q' ↔ agr l q q' ∧ bt q l = bt q' l :=
  ⟨fun h => ⟨fun i hi => h i (by omega), h l (by omega)⟩, fun h i hi => by
    rcases Nat.lt_or_ge i l with z | z
    · exact h.1 i z
    · rw [show i = l by omega]; exact h.2⟩
theorem agr.sym {l : Nat} {q q' : F4} (h : agr l q q') : agr l q' q := fun i hi => (h i hi).symm
theorem agr.tr {l : Nat} {q q' q'' : F4} (h : agr l q q') (h' : agr l q' q'') : agr l q q'' := fun i hi => (h i hi).trans (h' i hi)
/-- two groups of level d + 1 whose keys agree in d bits: the first has 0 there, the second 1 -/
theorem two_bits {d : Nat} {x y : F4} (h1 : lt4 x y) (h2 : agr d x y) (h3 : ¬ agr (d + 1) x y) : bt x d = 0 ∧ bt y d = 1 := by
  obtain ⟨m, c1, a1, b1, b2⟩ := h1
  have hm : m = d := by
    rcases Nat.lt_trichotomy m d with z | z | z
    · have := h2 m z; omega
    · exact z
    · exact absurd (fun i hi => a1 i (by omega)) h3
  subst hm; exact ⟨b1, b2⟩
/-- the hash of two groups together; of one alone -/
theorem Rt_join {d : Nat} (hd : d < 256) {g g' : List (F4 × F4)} (h0 : g ≠ []) (h0' : g' ≠ []) (h : ∀ x ∈ g, bt x.1 d = 0) (h' : ∀ x ∈ g', bt x.1 d = 1) : Rt (256 - d) (g ++ g') = hsh 1 (Rt (255 - d) g) (Rt (255 - d) g') := by
  have l1 : 1 ≤ g.length := by cases g; exact absurd rfl h0; simp
  have l2 : 1 ≤ g'.length := by cases g'; exact absurd rfl h0'; simp
  rw [show 256 - d = 255 - d + 1 by omega, Rt_two (by simp; omega), show 255 - (255 - d) = d by omega, List.filter_append, List.filter_append]
  rw [List.filter_eq_self.mpr (fun e he => by rw [h e he]; rfl), List.filter_eq_nil_iff.mpr (fun e he => by rw [h' e he]; simp), List.filter_eq_nil_iff.mpr (fun e he => by rw [h e he]; simp), List.filter_eq_self.mpr (fun e he => by rw [h' e he]; rfl), List.append_nil, List.nil_append]
theorem Rt_alone {d : Nat} (hd : d < 256) {g : List (F4 × F4)} (h : ∀ x ∈ g, ∀ y ∈ g, agr (d + 1) x.1 y.1) (h0 : g ≠ []) : Rt (256 - d) g = if g.length ≤ 1 then Rt (255 - d) g else if bt (hd4 g) d = 1 then hsh 1 z4 (Rt (255 - d) g) else hsh 1 (Rt (255 - d) g) z4 := by
  match g, h0 with
  | [x], _ => simp [Rt_one]
  | x :: y :: r, _ =>
    rw [if_neg (by simp), show 256 - d = 255 - d + 1 by omega]
    rw [Rt_same (b := bt x.1 d) (by simp) (fun e he => by rw [show 255 - (255 - d) = d by omega]; exact h e he x (by simp) d (by omega))]
    have := bt_lt x.1 d
    show _ = if bt x.1 d = 1 then _ else _
    by_cases c : bt x.1 d = 0
    · rw [if_pos c, if_neg (by omega)]
    · rw [if_neg c, if_pos (by omega), if_pos (by omega)]
/-- a level up: neighbours that agree in d bits come together -/
def lvs (d : Nat) : List (List (F4 × F4)) → List (List (F4 × F4)) → Prop
  | [], o => o = []
  | [g], o => o = [g]
  | g :: g' :: r, o => (agr d (hd4 g) (hd4 g') ∧ ∃ o', o = (g ++ g') :: o' ∧ lvs d r o') ∨ (¬ agr d (hd4 g) (hd4 g') ∧ ∃ o', o = g :: o' ∧ lvs d (g' :: r) o')
theorem lvs_flat {d : Nat} : ∀ {gs o : List (List (F4 × F4))}, lvs d gs o → o.flatten = gs.flatten
  | [], o, h => by have h : o = [] := h; rw [h]
  | [g], o, h => by have h : o = [g] := h; rw [h]
  | g :: g' :: r, o, h => by
    rcases h with ⟨_, o', h1, h2⟩ | ⟨_, o', h1, h2⟩
    · rw [h1, List.flatten_cons, lvs_flat h2]; simp
    · rw [h1, List.flatten_cons, lvs_flat h2]; simp
theorem lvs_mem {d : Nat} : ∀ {gs o : List (List (F4 × F4))}, lvs d gs o → ∀ g ∈ o, ∀ x ∈ g, ∃ g' ∈ gs, x ∈ g'
  | [], o, h => by have h : o = [] := h; rw [h]; intro g hg; cases hg
  | [g], o, h => by have h : o = [g] := h; rw [h]; intro g' hg x hx; exact ⟨g', hg, hx⟩
  | g :: g' :: r, o, h => by
    rcases h with ⟨_, o', h1, h2⟩ | ⟨_, o', h1, h2⟩
    · rw [h1]
      intro a ha x hx
      rcases List.mem_cons.mp ha with q | q
      · rw [q] at hx
        rcases List.mem_append.mp hx with z | z
        · exact ⟨g, by simp, z⟩
        · exact ⟨g', by simp, z⟩
      · obtain ⟨b, hb, hxb⟩ := lvs_mem h2 a q x hx
        exact ⟨b, by simp [hb], hxb⟩
    · rw [h1]
      intro a ha x hx
      rcases List.mem_cons.mp ha with q | q
      · rw [q] at hx; exact ⟨g, by simp, hx⟩
      · obtain ⟨b, hb, hxb⟩ := lvs_mem h2 a q x hx
        exact ⟨b, List.mem_cons_of_mem _ hb, hxb⟩
theorem lvs_ok {d : Nat} (hd : d < 256) : ∀ {gs o : List (List (F4 × F4))} {S : List (F4 × F4)}, GR (d + 1) S gs → lvs d gs o → GR d S o
  | [], o, S, ⟨h1, h2, h3, h4⟩, h => by have h : o = [] := h; subst h; exact ⟨h1, (fun g hg => by cases hg), (fun g hg => by cases hg), List.Pairwise.nil⟩
  | [g], o, S, ⟨h1, h2, h3, h4⟩, h => by
    have h : o = [g] := h
    subst h
    exact ⟨h1, h2, fun a ha x hx y hy => (agr_s.mp (h3 a ha x hx y hy)).1, List.pairwise_singleton _ _⟩
  | g :: g' :: r, o, S, ⟨h1, h2, h3, h4⟩, h => by
    have p1 := List.pairwise_cons.mp h4
    have p2 := List.pairwise_cons.mp p1.2
    obtain ⟨x0, hx0, ex0⟩ := hd4_in (h2 g (by simp))
    obtain ⟨y0, hy0, ey0⟩ := hd4_in (h2 g' (by simp))
    rcases h with ⟨ha, o', e, hl⟩ | ⟨ha, o', e, hl⟩
    · subst e
      have G' : GR (d + 1) r.flatten r := ⟨rfl, fun a ha => h2 a (by simp [ha]), fun a ha => h3 a (by simp [ha]), p2.2⟩
      obtain ⟨q1, q2, q3, q4⟩ := lvs_ok hd G' hl
      rw [← ex0, ← ey0] at ha
      have hb := two_bits (p1.1 g' (by simp) x0 hx0 y0 hy0).1 ha (p1.1 g' (by simp) x0 hx0 y0 hy0).2
      have gx : ∀ x ∈ g, agr d x.1 x0.1 ∧ bt x.1 d = 0 := fun x hx => by
        have := agr_s.mp (h3 g (by simp) x hx x0 hx0)
        exact ⟨this.1, this.2.trans hb.1⟩
      have gy : ∀ y ∈ g', agr d y.1 x0.1 ∧ bt y.1 d = 1 := fun y hy => by
        have := agr_s.mp (h3 g' (by simp) y hy y0 hy0)
        exact ⟨this.1.tr ha.sym, this.2.trans hb.2⟩
      have all : ∀ x ∈ g ++ g', agr d x.1 x0.1 := fun x hx => by
        rcases List.mem_append.mp hx with z | z
        · exact (gx x z).1
        · exact (gy x z).1
      refine ⟨by rw [← h1, List.flatten_cons, q1]; simp, fun a ha2 => ?_, fun a ha2 x hx y hy => ?_, List.pairwise_cons.mpr ⟨fun a ha2 x hx y hy => ?_, q4⟩⟩
      · rcases List.mem_cons.mp ha2 with z | z
        · rw [z]; intro q; rw [List.append_eq_nil_iff] at q; exact h2 g (by simp) q.1
        · exact q2 a z
      · rcases List.mem_cons.mp ha2 with z | z
        · rw [z] at hx hy; exact (all x hx).tr (all y hy).sym
        · exact q3 a z x hx y hy
      · obtain ⟨b, hb2, hyb⟩ := lvs_mem hl a ha2 y hy
        have l1 : lt4 x.1 y.1 := by
          rcases List.mem_append.mp hx with z | z
          · exact (p1.1 b (by simp [hb2]) x z y hyb).1
          · exact (p2.1 b hb2 x z y hyb).1
        refine ⟨l1, fun q => ?_⟩
        -- three groups cannot agree in d bits
        have ay : agr d y.1 x0.1 := q.sym.tr (all x hx)
        have n1 := (p1.1 b (by simp [hb2]) x0 hx0 y hyb).2
        have n2 := (p2.1 b hb2 y0 hy0 y hyb).2
        have hbt := bt_lt y.1 d
        by_cases c : bt y.1 d = 0
        · exact n1 (agr_s.mpr ⟨ay.sym, by rw [hb.1, c]⟩)
        · exact n2 (agr_s.mpr ⟨ha.sym.tr ay.sym, by rw [hb.2]; omega⟩)
    · subst e
      have G' : GR (d + 1) (g' :: r).flatten (g' :: r) := ⟨rfl, fun a ha => h2 a (List.mem_cons_of_mem _ ha), fun a ha => h3 a (List.mem_cons_of_mem _ ha), p1.2⟩
      obtain ⟨q1, q2, q3, q4⟩ := lvs_ok hd G' hl
      rw [← ex0, ← ey0] at ha
      refine ⟨by rw [← h1, List.flatten_cons, q1]; simp, fun a ha2 => ?_, fun a ha2 x hx y hy => ?_, List.pairwise_cons.mpr ⟨fun a ha2 x hx y hy => ?_, q4⟩⟩
      · rcases List.mem_cons.mp ha2 with z | z
        · rw [z]; exact h2 g (by simp)
        · exact q2 a z
      · rcases List.mem_cons.mp ha2 with z | z
        · rw [z] at hx hy; exact (agr_s.mp (h3 g (by simp) x hx y hy)).1
        · exact q3 a z x hx y hy
      · obtain ⟨b, hb2, hyb⟩ := lvs_mem hl a ha2 y hy
        have l1 := (p1.1 b hb2 x hx y hyb).1
        refine ⟨l1, fun q => ?_⟩
        have gx := (agr_s.mp (h3 g (by simp) x hx x0 hx0)).1
        -- y0 lies between x0 and y, or is beside y
        rcases List.mem_cons.mp hb2 with z | z
        · rw [z] at hyb
          exact ha (gx.sym.tr (q.tr (agr_s.mp (h3 g' (by simp) y hyb y0 hy0)).1))
        · have m1 := (p1.1 g' (by simp) x hx y0 hy0).1
          have m2 := (p2.1 b z y0 hy0 y hyb).1
          exact ha (gx.sym.tr (agr_mid (by omega) m1 m2 q).1)
