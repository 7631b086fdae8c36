/-! what is known of a module that was read -/
theorem bas_len : ∀ {t : Ty}, bas t = true → t.length ≤ nve t + 2
  | [], h => by cases h
  | [_], _ => by simp
  | [_, _], _ => by simp
  | a :: b :: c :: t, h => by
    have e : a = 7 := by
      unfold bas at h
      split at h <;> simp_all
    subst e
    rw [bas_7] at h
    have := bas_len h
    show _ ≤ 1 + nve (b :: c :: t) + 2
    simp only [List.length_cons] at this ⊢; omega
theorem wty_len {r : Bool} {t : Ty} (h : wty r t) : t.length ≤ 7 := by
  cases t with
  | nil => exact h.elim
  | cons b t =>
    have h : if b = 8 ∨ b = 9 then r = true ∧ bas t = true ∧ nve t ≤ 4 else bas (b :: t) = true ∧ nve (b :: t) ≤ 4 := h
    split at h
    · have := bas_len h.2.1
      simp only [List.length_cons]; omega
    · have := bas_len h.1; omega
def LQ (p q : Nat) (l : TL) : Prop := ∀ x ∈ l, (tby x.1 ∧ x.1.length ≤ 7) ∧ p ≤ x.2 ∧ x.2 < q
theorem LQ.mono {p q p' q' : Nat} {l : TL} (h : LQ p q l) (h1 : p' ≤ p) (h2 : q ≤ q') : LQ p' q' l := fun x hx => by obtain ⟨a, b, c⟩ := h x hx; exact ⟨a, by omega, by omega⟩
theorem LQ.app {p q : Nat} {l r : TL} (h : LQ p q l) (h2 : LQ p q r) : LQ p q (l ++ r) := fun x hx => by rcases List.mem_append.mp hx with z | z; exact h x z; exact h2 x z
theorem bts_by {B : Nat → Nat} (hB : ∀ i, B i < 256) (p k : Nat) : tby (bts B p k) := fun b hb => by
  obtain ⟨i, -, e⟩ := List.mem_map.mp hb
  rw [← e]; exact hB _
theorem rdT_q {n : Nat} {B : Nat → Nat} (hB : ∀ i, B i < 256) {r : Bool} {p : Nat} {x : Ty × Nat} {q : Nat} (h : rdT n B r p = .ok (x, q)) : p < q ∧ q ≤ n ∧ (tby x.1 ∧ x.1.length ≤ 7) ∧ p ≤ x.2 ∧ x.2 < q ∧ wty r x.1 := by
  obtain ⟨h1, h2, h3, h4, h5, h6⟩ := rdT_ok h
  refine ⟨by omega, h5, ⟨?_, wty_len h6⟩, by omega, by omega, h6⟩
  rw [h1]; exact bts_by hB _ _
theorem rep_q {α : Type} {f : Nat → Pz α} (hm : ∀ p a q, f p = .ok (a, q) → p ≤ q) : ∀ {k p : Nat} {l : List α} {q : Nat}, rep f k p = .ok (l, q) → p ≤ q ∧ ∀ a ∈ l, ∃ p1 q1, f p1 = .ok (a, q1) ∧ p ≤ p1 ∧ q1 ≤ q
  | 0, p, l, q, h => by cases h; exact ⟨Nat.le_refl _, fun a ha => by cases ha⟩
  | k + 1, p, l, q, h => by
    obtain ⟨a, p1, h1, h2⟩ := bd_ok h
    obtain ⟨l', p2, h3, h4⟩ := bd_ok h2
    cases h4
    obtain ⟨e1, e2⟩ := rep_q hm h3
    have e3 := hm _ _ _ h1
    refine ⟨by omega, fun b hb => ?_⟩
    rcases List.mem_cons.mp hb with z | z
    · subst z; exact ⟨p, p1, h1, Nat.le_refl _, e1⟩
    · obtain ⟨x, y, f1, f2, f3⟩ := e2 b z
      exact ⟨x, y, f1, by omega, f3⟩
theorem repT_q {n : Nat} {B : Nat → Nat} (hB : ∀ i, B i < 256) {r : Bool} {k p : Nat} {l : TL} {q : Nat} (h : rep (rdT n B r) k p = .ok (l, q)) (hp : p ≤ n) : p ≤ q ∧ q ≤ n ∧ LQ p q l ∧ ∀ x ∈ l, wty r x.1 := by
  obtain ⟨h1, h2⟩ := rep_q (fun p a q hh => by have := rdT_q hB hh; omega) h
  refine ⟨h1, ?_, fun x hx => ?_, fun x hx => ?_⟩
  · revert h hp; clear h1 h2
    induction k generalizing p l with
    | zero => intro h hp; cases h; exact hp
    | succ k ih =>
      intro h hp
      obtain ⟨a, p1, h1, h2⟩ := bd_ok h
      obtain ⟨l', p2, h3, h4⟩ := bd_ok h2
      cases h4
      exact ih h3 (rdT_q hB h1).2.1
  · obtain ⟨p1, q1, f1, f2, f3⟩ := h2 x hx
    have := rdT_q hB f1
    exact ⟨this.2.2.1, by omega, by omega⟩
  · obtain ⟨p1, q1, f1, f2, f3⟩ := h2 x hx
    exact (rdT_q hB f1).2.2.2.2.2
theorem rdL_q {n : Nat} {B : Nat → Nat} (hB : ∀ i, B i < 256) {hi p : Nat} {l : TL} {q : Nat} (h : rdL n B hi p = .ok (l, q)) : p < q ∧ q ≤ n ∧ LQ p q l ∧ l.length ≤ hi ∧ ∀ x ∈ l, wty true x.1 := by
  obtain ⟨k, p1, h1, h2⟩ := bd_ok h
  obtain ⟨e1, e2, e3, e4, e5⟩ := rdC_ok h1
  obtain ⟨f1, f2, f3, f4⟩ := repT_q hB h2 (by omega)
  exact ⟨by omega, f2, f3.mono (by omega) (Nat.le_refl _), by rw [rep_len h2]; exact e5, f4⟩
theorem rdSt_q {n : Nat} {B : Nat → Nat} (hB : ∀ i, B i < 256) {p : Nat} {s : Sx} {q : Nat} (h : rdSt n B p = .ok (s, q)) : p < q ∧ q ≤ n ∧ LQ p q s.2.2 ∧ s.1 = p ∧ s.2.1 ≤ 15 ∧ 1 ≤ s.2.2.length ∧ s.2.2.length ≤ 16 ∧ ∀ x ∈ s.2.2, wty false x.1 := by
  obtain ⟨a, p1, h1, h2⟩ := bd_ok h
  obtain ⟨k, p2, h3, h4⟩ := bd_ok h2
  obtain ⟨fs, p3, h5, h6⟩ := bd_ok h4
  cases h6
  obtain ⟨e1, e2, e3, e4, e5⟩ := rdC_ok h1
  obtain ⟨c1, c2, c3, c4, c5⟩ := rdC_ok h3
  obtain ⟨f1, f2, f3, f4⟩ := repT_q hB h5 (by omega)
  exact ⟨by omega, f2, f3.mono (by omega) (Nat.le_refl _), rfl, e5, by show 1 ≤ fs.length; rw [rep_len h5]; exact c4, by show fs.length ≤ 16; rw [rep_len h5]; exact c5, f4⟩
theorem rdFo_q {n : Nat} {B : Nat → Nat} (hB : ∀ i, B i < 256) {p : Nat} {s : Fx} {q : Nat} (h : rdFo n B p = .ok (s, q)) : p < q ∧ q ≤ n ∧ s.1 < 65536 ∧ s.2.1 < 256 ∧ s.2.2 ≤ 15 := by
  obtain ⟨a, p1, h1, h2⟩ := bd_ok h
  obtain ⟨k, p2, h3, h4⟩ := bd_ok h2
  obtain ⟨fs, p3, h5, h6⟩ := bd_ok h4
  cases h6
  have := rdN2_lt hB h1
  obtain ⟨e1, e2, e3⟩ := rdN_ok h1
  obtain ⟨c1, c2, c3⟩ := rdB_ok h3
  obtain ⟨f1, f2, f3, f4, f5⟩ := rdC_ok h5
  exact ⟨by omega, by omega, this, by show k < 256; rw [c1]; exact hB _, f5⟩
theorem rdCa_q {n : Nat} {B : Nat → Nat} (hB : ∀ i, B i < 256) {p : Nat} {s : Cx} {q : Nat} (h : rdCa n B p = .ok (s, q)) : p < q ∧ q ≤ n ∧ LQ p q (cct s) ∧ s.1 < 65536 ∧ s.2.1 < 256 ∧ s.2.2.1 ≤ 7 ∧ s.2.2.2.1.length ≤ 8 ∧ s.2.2.2.2.length ≤ 8 ∧ ∀ x ∈ cct s, wty true x.1 := by
  obtain ⟨a, p1, h1, h2⟩ := bd_ok h
  obtain ⟨k, p2, h3, h4⟩ := bd_ok h2
  obtain ⟨fl, p3, h5, h6⟩ := bd_ok h4
  obtain ⟨t, p4, h7, h8⟩ := bd_ok h6
  obtain ⟨g, p5, h9, h10⟩ := bd_ok h8
  cases h10
  have := rdN2_lt hB h1
  obtain ⟨e1, e2, e3⟩ := rdN_ok h1
  obtain ⟨c1, c2, c3⟩ := rdB_ok h3
  obtain ⟨f1, f2, f3, f4, f5⟩ := rdC_ok h5
  obtain ⟨t1, t2, t3, t4, t5⟩ := rdL_q hB h7
  obtain ⟨g1, g2, g3, g4, g5⟩ := rdL_q hB h9
  refine ⟨by omega, g2, (t3.mono (by omega) (by omega)).app (g3.mono (by omega) (Nat.le_refl _)), this, by show k < 256; rw [c1]; exact hB _, f5, t4, g4, fun x hx => ?_⟩
  rcases List.mem_append.mp hx with z | z
  · exact t5 x z
  · exact g5 x z
theorem rdI_q {n : Nat} {B : Nat → Nat} (hB : ∀ i, B i < 256) (hn : n ≤ 2048) {p : Nat} {s : Ix} {q : Nat} (h : rdI n B p = .ok (s, q)) : p < q ∧ q ≤ n ∧ ixw s ∧ s.2.2.2 = p := by
  obtain ⟨o, p1, h1, h2⟩ := bd_ok h
  obtain ⟨_, p2, h3, h4⟩ := bd_ok h2
  obtain ⟨x, p3, h5, h6⟩ := bd_ok h4
  obtain ⟨_, p4, h7, h8⟩ := bd_ok h6
  obtain ⟨y, p5, h9, h10⟩ := bd_ok h8
  cases h10
  obtain ⟨c1, c2, c3⟩ := rdB_ok h1
  obtain ⟨d1, d2⟩ := nd_ok h3
  obtain ⟨e1, e2, e3⟩ := rdN_ok h5
  obtain ⟨f1, f2⟩ := nd_ok h7
  obtain ⟨g1, g2, g3⟩ := rdN_ok h9
  have b1 := bn_lt hB (k := fq1 o) (v := 0) (p := p2)
  have b2 := bn_lt hB (k := fq2 o) (v := 0) (p := p4)
  refine ⟨by omega, g3 (by omega), ⟨of_decide_eq_true d1, ?_, ?_, by show p < 2048; omega⟩, rfl⟩
  · show x < 256 ^ fq1 o
    rw [e1]; simpa using b1
  · show y < 256 ^ fq2 o
    rw [g1]; simpa using b2
theorem repI_q {n : Nat} {B : Nat → Nat} (hB : ∀ i, B i < 256) (hn : n ≤ 2048) : ∀ {k p : Nat} {l : List Ix} {q : Nat}, rep (rdI n B) k p = .ok (l, q) → p ≤ n → p + k ≤ q ∧ q ≤ n ∧ (∀ x ∈ l, ixw x) ∧ (1 ≤ k → ∃ y r, l = y :: r ∧ y.2.2.2 = p)
  | 0, p, l, q, h, hp => by cases h; exact ⟨Nat.le_refl _, hp, (fun a ha => by cases ha), (fun h => by omega)⟩
  | k + 1, p, l, q, h, hp => by
    obtain ⟨a, p1, h1, h2⟩ := bd_ok h
    obtain ⟨l', p2, h3, h4⟩ := bd_ok h2
    cases h4
    obtain ⟨c1, c2, c3, c4⟩ := rdI_q hB hn h1
    obtain ⟨e1, e2, e3, e4⟩ := repI_q hB hn h3 c2
    exact ⟨by omega, e2, fun x hx => by rcases List.mem_cons.mp hx with z | z; (subst z; exact c3); exact e3 x z, fun _ => ⟨a, l', rfl, c4⟩⟩
theorem rdU_q {n : Nat} {B : Nat → Nat} (hB : ∀ i, B i < 256) (hn : n ≤ 2048) {p : Nat} {u : Ux} {q : Nat} (h : rdU n B p = .ok (u, q)) : (∃ r, p < r ∧ r < q ∧ LQ p r (ut u) ∧ (∃ y l, ui u = y :: l ∧ y.2.2.2 = r)) ∧ q ≤ n ∧ (∀ x ∈ ui u, ixw x) ∧ u.1 ≤ 7 ∧ (u.2.1.length ≤ 8 ∧ u.2.2.1.length ≤ 8 ∧ u.2.2.2.1.length ≤ 32) ∧ ((ui u).length ≤ 1024 ∧ 1 ≤ (ui u).length) ∧ ∀ x ∈ ut u, wty true x.1 := by
  obtain ⟨a, p1, h1, h2⟩ := bd_ok h
  obtain ⟨t, p2, h3, h4⟩ := bd_ok h2
  obtain ⟨g, p3, h5, h6⟩ := bd_ok h4
  obtain ⟨l, p4, h7, h8⟩ := bd_ok h6
  obtain ⟨k, p5, h9, h10⟩ := bd_ok h8
  obtain ⟨_, p6, h11, h12⟩ := bd_ok h10
  obtain ⟨is, p7, h13, h14⟩ := bd_ok h12
  cases h14
  obtain ⟨b1, b2, b3, b4, b5⟩ := rdC_ok h1
  obtain ⟨t1, t2, t3, t4, t5⟩ := rdL_q hB h3
  obtain ⟨g1, g2, g3, g4, g5⟩ := rdL_q hB h5
  obtain ⟨l1, l2, l3, l4, l5⟩ := rdL_q hB h7
  obtain ⟨k1, k2, k3⟩ := rdN_ok h9
  obtain ⟨n1, n2⟩ := nd_ok h11
  have n1 := of_decide_eq_true n1
  obtain ⟨i1, i2, i3, i4⟩ := repI_q hB hn h13 (by have := k3 l2; omega)
  refine ⟨⟨p6, by omega, by omega, ((t3.mono (by omega) (by omega)).app (g3.mono (by omega) (by omega))).app (l3.mono (by omega) (by omega)), i4 n1.1⟩, i2, i3, b5, ⟨t4, g4, l4⟩, ⟨?_, ?_⟩, fun x hx => ?_⟩
  · show is.length ≤ 1024
    rw [rep_len h13]; exact n1.2
  · show 1 ≤ is.length
    rw [rep_len h13]; exact n1.1
  · rcases List.mem_append.mp hx with z | z
    · rcases List.mem_append.mp z with z | z
      · exact t5 x z
      · exact g5 x z
    · exact l5 x z
/-- lists of parts: types between two places -/
theorem reps_q {α : Type} {f : Nat → Pz α} {n : Nat} (g : α → TL) (hf : ∀ p a q, f p = .ok (a, q) → p < q ∧ q ≤ n ∧ LQ p q (g a)) : ∀ {k p : Nat} {l : List α} {q : Nat}, rep f k p = .ok (l, q) → p ≤ n → p ≤ q ∧ q ≤ n ∧ LQ p q (l.flatMap g)
  | 0, p, l, q, h, hp => by cases h; exact ⟨Nat.le_refl _, hp, fun x hx => by simp at hx⟩
  | k + 1, p, l, q, h, hp => by
    obtain ⟨a, p1, h1, h2⟩ := bd_ok h
    obtain ⟨l', p2, h3, h4⟩ := bd_ok h2
    cases h4
    obtain ⟨c1, c2, c3⟩ := hf _ _ _ h1
    obtain ⟨e1, e2, e3⟩ := reps_q g hf h3 c2
    refine ⟨by omega, e2, ?_⟩
    rw [List.flatMap_cons]
    exact (c3.mono (Nat.le_refl _) (by omega)).app (e3.mono (by omega) (Nat.le_refl _))
theorem repU_q {n : Nat} {B : Nat → Nat} (hB : ∀ i, B i < 256) (hn : n ≤ 2048) : ∀ {k p : Nat} {l : List Ux} {q : Nat}, rep (rdU n B) k p = .ok (l, q) → p ≤ n → p ≤ q ∧ q ≤ n ∧ LQ p q (uts l) ∧ FP p l ∧ (∀ x ∈ uis l, ixw x) ∧ ∀ u ∈ l, nlo u < 256 ∧ (ui u).length ≤ 1024
  | 0, p, l, q, h, hp => by cases h; exact ⟨Nat.le_refl _, hp, fun x hx => by simp [uts] at hx, trivial, fun x hx => by simp [uis] at hx, fun u hu => by cases hu⟩
  | k + 1, p, l, q, h, hp => by
    obtain ⟨a, p1, h1, h2⟩ := bd_ok h
    obtain ⟨l', p2, h3, h4⟩ := bd_ok h2
    cases h4
    obtain ⟨⟨r, c1, c2, c3, c4⟩, c5, c6, c7, c8, c9, c10⟩ := rdU_q hB hn h1
    obtain ⟨e1, e2, e3, e4, e5, e6⟩ := repU_q hB hn h3 c5
    have fpm : FP (r + 1) l' := by
      cases l' with
      | nil => trivial
      | cons v l'' =>
        obtain ⟨q', z1, z2, z3, z4, z5⟩ := e4
        exact ⟨q', by omega, fun x hx => ⟨by have := (z2 x hx).1; omega, (z2 x hx).2⟩, z3, z4, z5⟩
    refine ⟨by omega, e2, ?_, ⟨r, by omega, fun x hx => (c3 x hx).2, c4, by omega, fpm⟩, fun x hx => ?_, fun u hu => ?_⟩
    · show LQ p q (uts (a :: l'))
      unfold uts
      rw [List.flatMap_cons]
      exact (c3.mono (Nat.le_refl _) (by omega)).app (LQ.mono (l := uts l') e3 (by omega) (Nat.le_refl _))
    · unfold uis at hx
      rw [List.flatMap_cons] at hx
      rcases List.mem_append.mp hx with z | z
      · exact c6 x z
      · exact e5 x z
    · rcases List.mem_cons.mp hu with z | z
      · subst z; exact ⟨by unfold nlo; omega, c9.1⟩
      · exact e6 u z
theorem rdM_wm {n : Nat} {B : Nat → Nat} (hB : ∀ i, B i < 256) (hn : n ≤ 2048) {m : Md} {q : Nat} (h : rdM n B = .ok (m, q)) : WM n m ∧ q = n := by
  obtain ⟨_, p0, h0, h⟩ := bd_ok h
  obtain ⟨num, p1, h1, h⟩ := bd_ok h
  obtain ⟨ss, p2, h2, h⟩ := bd_ok h
  obtain ⟨k2, p2', h2a, h2b⟩ := bd_ok h2
  obtain ⟨fs, p3, h3, h⟩ := bd_ok h
  obtain ⟨k3, p3', h3a, h3b⟩ := bd_ok h3
  obtain ⟨cs, p4, h4, h⟩ := bd_ok h
  obtain ⟨k4, p4', h4a, h4b⟩ := bd_ok h4
  obtain ⟨es, p5, h5, h⟩ := bd_ok h
  obtain ⟨k5, p5', h5a, h5b⟩ := bd_ok h5
  obtain ⟨us, p6, h6, h⟩ := bd_ok h
  obtain ⟨k6, p6', h6a, h6b⟩ := bd_ok h6
  obtain ⟨_, p7, h7, h⟩ := bd_ok h
  cases h
  obtain ⟨a1, a2, a3, -⟩ := rdC_ok h2a
  obtain ⟨s1, s2, s3⟩ := reps_q (n := n) (fun s : Sx => s.2.2) (fun p a q hh => by have := rdSt_q hB hh; exact ⟨this.1, this.2.1, this.2.2.1⟩) h2b (by omega)
  obtain ⟨b1, b2, b3, -⟩ := rdC_ok h3a
  obtain ⟨f1, f2, -⟩ := reps_q (n := n) (fun _ : Fx => ([] : TL)) (fun p a q hh => by have := rdFo_q hB hh; exact ⟨this.1, this.2.1, fun x hx => by cases hx⟩) h3b (by omega)
  obtain ⟨c1, c2, c3, -⟩ := rdC_ok h4a
  obtain ⟨g1, g2, g3⟩ := reps_q (n := n) cct (fun p a q hh => by have := rdCa_q hB hh; exact ⟨this.1, this.2.1, this.2.2.1⟩) h4b (by omega)
  obtain ⟨d1, d2, d3, -⟩ := rdC_ok h5a
  obtain ⟨t1, t2, t3, -⟩ := repT_q hB h5b (by omega)
  obtain ⟨e1, e2, e3, -⟩ := rdC_ok h6a
  obtain ⟨u1, u2, u3, u4, u5, u6⟩ := repU_q hB hn h6b (by omega)
  obtain ⟨v1, v2⟩ := nd_ok h7
  have v1 := of_decide_eq_true v1
  have base : LQ 0 p6' (sst ss ++ ccs cs ++ es) := ((LQ.mono (l := sst ss) s3 (Nat.zero_le _) (by omega)).app (LQ.mono (l := ccs cs) g3 (Nat.zero_le _) (by omega))).app (t3.mono (Nat.zero_le _) (by omega))
  have all : LQ 0 n (mts (num, ss, fs, cs, es, us)) := (base.mono (Nat.zero_le _) (by omega)).app (u3.mono (Nat.zero_le _) (by omega))
  exact ⟨⟨fun x hx => by obtain ⟨⟨z1, z2⟩, z3, z4⟩ := all x hx; exact ⟨z1, z2, by omega⟩, u5, ⟨p6', fun x hx => (base x hx).2.2, u4⟩, fun x hx => (all x hx).2.2, u6⟩, by omega⟩
