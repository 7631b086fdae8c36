/-! what is known of a module that was read -/
theorem rep_n {α : Type} {f : Nat → Pz α} (g : α → Nat) (hf : ∀ p a q, f p = .ok (a, q) → g a + p ≤ q) : ∀ {k p : Nat} {l : List α} {q : Nat}, rep f k p = .ok (l, q) → (l.map g).sum + p ≤ q
  | 0, p, l, q, h => by cases h; simp
  | k + 1, p, l, q, h => by
    obtain ⟨a, p1, h1, h2⟩ := bd_ok h
    obtain ⟨l', p2, h3, h4⟩ := bd_ok h2
    cases h4
    have e1 := hf _ _ _ h1
    have e2 := rep_n g hf h3
    simp only [List.map_cons, List.sum_cons]
    omega
theorem sum_1 {α : Type} : ∀ l : List α, (l.map fun _ => 1).sum = l.length
  | [] => rfl
  | a :: l => by simp only [List.map_cons, List.sum_cons, List.length_cons, sum_1 l]; omega
theorem repT_n {n : Nat} {B : Nat → Nat} (hB : ∀ i, B i < 256) {r : Bool} {k p : Nat} {l : TL} {q : Nat} (h : rep (rdT n B r) k p = .ok (l, q)) : l.length + p ≤ q := by
  have := rep_n (fun _ => 1) (fun p a q hh => by have := (rdT_q hB hh).1; omega) h
  rw [sum_1] at this; exact this
theorem rdL_n {n : Nat} {B : Nat → Nat} (hB : ∀ i, B i < 256) {hi p : Nat} {l : TL} {q : Nat} (h : rdL n B hi p = .ok (l, q)) : l.length + p < q := by
  obtain ⟨k, p1, h1, h2⟩ := bd_ok h
  obtain ⟨c1, c2, -⟩ := rdC_ok h1
  have := repT_n hB h2
  omega
theorem rdSt_n {n : Nat} {B : Nat → Nat} (hB : ∀ i, B i < 256) {p : Nat} {s : Sx} {q : Nat} (h : rdSt n B p = .ok (s, q)) : s.2.2.length + p ≤ q := by
  obtain ⟨a, p1, h1, h2⟩ := bd_ok h
  obtain ⟨k, p2, h3, h4⟩ := bd_ok h2
  obtain ⟨fs, p3, h5, h6⟩ := bd_ok h4
  cases h6
  obtain ⟨e1, e2, -⟩ := rdC_ok h1
  obtain ⟨c1, c2, -⟩ := rdC_ok h3
  have := repT_n hB h5
  show fs.length + p ≤ q
  omega
theorem rdCa_n {n : Nat} {B : Nat → Nat} (hB : ∀ i, B i < 256) {p : Nat} {s : Cx} {q : Nat} (h : rdCa n B p = .ok (s, q)) : (cct s).length + p ≤ q := by
  obtain ⟨a, p1, h1, h2⟩ := bd_ok h
  obtain ⟨k, p2, h3, h4⟩ := bd_ok h2
  obtain ⟨fl, p3, h5, h6⟩ := bd_ok h4
  obtain ⟨t, p4, h7, h8⟩ := bd_ok h6
  obtain ⟨g, p5, h9, h10⟩ := bd_ok h8
  cases h10
  obtain ⟨e1, e2, e3⟩ := rdN_ok h1
  obtain ⟨c1, c2, c3⟩ := rdB_ok h3
  obtain ⟨f1, f2, -⟩ := rdC_ok h5
  have t1 := rdL_n hB h7
  have g1 := rdL_n hB h9
  show (t ++ g).length + p ≤ q
  rw [List.length_append]
  omega
theorem rdU_n {n : Nat} {B : Nat → Nat} (hB : ∀ i, B i < 256) (hn : n ≤ 2048) {p : Nat} {u : Ux} {q : Nat} (h : rdU n B p = .ok (u, q)) : (ut u).length + p ≤ q ∧ (ui u).length + p ≤ q := by
  obtain ⟨a, p1, h1, h2⟩ := bd_ok h
  obtain ⟨t, p2, h3, h4⟩ := bd_ok h2
  obtain ⟨g, p3, h5, h6⟩ := bd_ok h4
  obtain ⟨l, p4, h7, h8⟩ := bd_ok h6
  obtain ⟨k, p5, h9, h10⟩ := bd_ok h8
  obtain ⟨_, p6, h11, h12⟩ := bd_ok h10
  obtain ⟨is, p7, h13, h14⟩ := bd_ok h12
  cases h14
  obtain ⟨b1, b2, -⟩ := rdC_ok h1
  have t1 := rdL_n hB h3
  have g1 := rdL_n hB h5
  have l1 := rdL_n hB h7
  obtain ⟨k1, k2, k3⟩ := rdN_ok h9
  obtain ⟨n1, n2⟩ := nd_ok h11
  have i1 := rep_n (fun _ => 1) (fun p a q hh => by have := (rdI_q hB hn hh).1; omega) h13
  rw [sum_1] at i1
  show (t ++ g ++ l).length + p ≤ q ∧ is.length + p ≤ q
  rw [List.length_append, List.length_append]
  omega
theorem flm_n {α β : Type} (f : α → List β) : ∀ l : List α, (l.flatMap f).length = (l.map fun a => (f a).length).sum
  | [] => rfl
  | a :: l => by rw [List.flatMap_cons, List.length_append, flm_n f l]; rfl
theorem tck_n {n : Nat} {x : Ty × Nat} (h : tck n x = none) : ∀ k, sidx x.1 = some k → k < n := fun k hk => by
  unfold tck at h
  rw [hk] at h
  simp only at h
  split at h
  · assumption
  · cases h
theorem bfs_n {m : Md} : ∀ {us : List Ux}, bfs m us = none → ∀ u ∈ us, (∀ x ∈ ut u, tck (nst m) x = none) ∧ ∀ x ∈ ui u, ick m u x = none
  | [], _, u, hu => by cases hu
  | v :: us, h, u, hu => by
    obtain ⟨h1, h2⟩ := or_n h
    obtain ⟨h2, h3⟩ := or_n h2
    rcases List.mem_cons.mp hu with z | z
    · subst z
      exact ⟨List.findSome?_eq_none_iff.mp h1, List.findSome?_eq_none_iff.mp h2⟩
    · exact bfs_n h3 u z
theorem wty.f {m : Md} {t : Ty} (h : wty false t) (hb : tby t) (hs : ∀ k, sidx t = some k → k < nst m) : fT m t := by
  cases t with
  | nil => exact h.elim
  | cons b t =>
    have h : if b = 8 ∨ b = 9 then false = true ∧ bas t = true ∧ nve t ≤ 4 else bas (b :: t) = true ∧ nve (b :: t) ≤ 4 := h
    split at h
    · cases h.1
    · exact ⟨hb, h.1, h.2, hs⟩
/-- all that is asked of a module that was read, and of its functions -/
theorem rdM_g {n : Nat} {B : Nat → Nat} (hB : ∀ i, B i < 256) (hn : n ≤ 2048) {m : Md} {q : Nat} (h : rdM n B = .ok (m, q)) (hb : bds m = none) : gM m ∧ (mcs m).length ≤ 2048 ∧ (∀ u ∈ m.2.2.2.2.2, (∀ x ∈ ui u, gX m u x) ∧ (ui u).length ≤ 1024 ∧ 1 ≤ (ui u).length) ∧ (m.1 < 65536 ∧ m.2.1.length ≤ 32 ∧ m.2.2.1.length ≤ 32 ∧ m.2.2.2.1.length ≤ 32 ∧ m.2.2.2.2.1.length ≤ 32 ∧ m.2.2.2.2.2.length ≤ 64) ∧ (∀ s ∈ m.2.1, 1 ≤ s.2.2.length) ∧ (∀ s ∈ m.2.2.1, s.1 < 65536 ∧ s.2.1 < 256) ∧ ∀ c ∈ m.2.2.2.1, c.1 < 65536 ∧ c.2.1 < 256 := by
  obtain ⟨_, p0, h0, h⟩ := bd_ok h
  obtain ⟨num, p1, h1, h⟩ := bd_ok h
  obtain ⟨ss, p2, h2, h⟩ := bd_ok h
  obtain ⟨k2, p2', h2a, h2b⟩ := bd_ok h2
  obtain ⟨fs, p3, h3, h⟩ := bd_ok h
  obtain ⟨k3, p3', h3a, h3b⟩ := bd_ok h3
  obtain ⟨cs, p4, h4, h⟩ := bd_ok h
  obtain ⟨k4, p4', h4a, h4b⟩ := bd_ok h4
  obtain ⟨es, p5, h5, h⟩ := bd_ok h
  obtain ⟨k5, p5', h5a, h5b⟩ := bd_ok h5
  obtain ⟨us, p6, h6, h⟩ := bd_ok h
  obtain ⟨k6, p6', h6a, h6b⟩ := bd_ok h6
  obtain ⟨_, p7, h7, h⟩ := bd_ok h
  cases h
  have num2 := rdN2_lt hB h1
  obtain ⟨a1, a2, a3, a4, a5⟩ := rdC_ok h2a
  obtain ⟨s1, s2⟩ := rep_q (fun p a q hh => by have := (rdSt_q hB hh).1; omega) h2b
  have s3 := rep_n (fun s : Sx => s.2.2.length) (fun p a q hh => rdSt_n hB hh) h2b
  obtain ⟨b1, b2, b3, b4, b5⟩ := rdC_ok h3a
  obtain ⟨f1, f2⟩ := rep_q (fun p a q hh => by have := (rdFo_q hB hh).1; omega) h3b
  obtain ⟨c1, c2, c3, c4, c5⟩ := rdC_ok h4a
  obtain ⟨g1, g2⟩ := rep_q (fun p a q hh => by have := (rdCa_q hB hh).1; omega) h4b
  have g3 := rep_n (fun s : Cx => (cct s).length) (fun p a q hh => rdCa_n hB hh) h4b
  obtain ⟨d1, d2, d3, d4, d5⟩ := rdC_ok h5a
  obtain ⟨t1, t2⟩ := rep_q (fun p a q hh => by have := (rdT_q hB hh).1; omega) h5b
  have t3 := repT_n hB h5b
  obtain ⟨e1, e2, e3, e4, e5⟩ := rdC_ok h6a
  obtain ⟨u1, u2⟩ := rep_q (fun p a q hh => by have := rdU_q hB hn hh; obtain ⟨⟨r, r1, r2, -⟩, -⟩ := this; omega) h6b
  have u3 := rep_n (fun s : Ux => (ut s).length) (fun p a q hh => (rdU_n hB hn hh).1) h6b
  have u4 := rep_n (fun s : Ux => (ui s).length) (fun p a q hh => (rdU_n hB hn hh).2) h6b
  obtain ⟨v1, v2⟩ := nd_ok h7
  have v1 := of_decide_eq_true v1
  obtain ⟨hb1, hb2⟩ := or_n hb
  have hb1 : ∀ x ∈ sst ss ++ ccs cs ++ es, tck (nst (num, ss, fs, cs, es, us)) x = none := List.findSome?_eq_none_iff.mp hb1
  have hb2 := bfs_n hb2
  have l2 := rep_len h2b
  have l3 := rep_len h3b
  have l4 := rep_len h4b
  have l5 := rep_len h5b
  have l6 := rep_len h6b
  have hmt : (mts (num, ss, fs, cs, es, us)).length ≤ 2048 := by
    show (sst ss ++ ccs cs ++ es ++ uts us).length ≤ 2048
    rw [List.length_append, List.length_append, List.length_append]
    have z1 : (sst ss).length = (ss.map fun s => s.2.2.length).sum := flm_n _ _
    have z2 : (ccs cs).length = (cs.map fun s => (cct s).length).sum := flm_n _ _
    have z3 : (uts us).length = (us.map fun s => (ut s).length).sum := flm_n _ _
    omega
  have hmc : (mcs (num, ss, fs, cs, es, us)).length ≤ 2048 := by
    show (uis us).length ≤ 2048
    have z3 : (uis us).length = (us.map fun s => (ui s).length).sum := flm_n _ _
    omega
  have ab : ab4 (num, ss, fs, cs, es, us) := ⟨fun s hs => by obtain ⟨x, y, z, -⟩ := s2 s hs; exact (rdSt_q hB z).2.2.2.2.1, fun s hs => by obtain ⟨x, y, z, -⟩ := f2 s hs; exact (rdFo_q hB z).2.2.2.2⟩
  have gTt : ∀ x : Ty × Nat, wty true x.1 → tby x.1 → tck (nst (num, ss, fs, cs, es, us)) x = none → gT (num, ss, fs, cs, es, us) x.1 := fun x z1 z2 z3 => ⟨z2, z1, tck_n z3⟩
  refine ⟨⟨ab, fun s hs => ?_, fun x hx => ?_, fun c hc => ?_, fun u hu => ?_, ?_, hmt⟩, hmc, fun u hu => ?_, ⟨num2, by show ss.length ≤ 32; omega, by show fs.length ≤ 32; omega, by show cs.length ≤ 32; omega, by show es.length ≤ 32; omega, by show us.length ≤ 64; omega⟩, fun s hs => ?_, fun s hs => ?_, fun c hc => ?_⟩
  · obtain ⟨x, y, z, -⟩ := s2 s hs
    obtain ⟨q1, q2, q3, q4, q5, q6, q7, q8⟩ := rdSt_q hB z
    refine ⟨q7, fun x hx => (q8 x hx).f (q3 x hx).1.1 (tck_n (hb1 x ?_))⟩
    exact List.mem_append_left _ (List.mem_append_left _ (List.mem_flatMap.mpr ⟨s, hs, hx⟩))
  · obtain ⟨p, q, z, -⟩ := t2 x hx
    obtain ⟨q1, q2, q3, q4, q5, q6⟩ := rdT_q hB z
    exact q6.f q3.1 (tck_n (hb1 x (List.mem_append_right _ hx)))
  · obtain ⟨x, y, z, -⟩ := g2 c hc
    obtain ⟨q1, q2, q3, q4, q5, q6, q7, q8, q9⟩ := rdCa_q hB z
    have mm : ∀ x ∈ cct c, gT (num, ss, fs, cs, es, us) x.1 := fun x hx => gTt x (q9 x hx) (q3 x hx).1.1 (hb1 x (List.mem_append_left _ (List.mem_append_right _ (List.mem_flatMap.mpr ⟨c, hc, hx⟩))))
    exact ⟨q6, q7, q8, fun x hx => mm x (List.mem_append_left _ hx), fun x hx => mm x (List.mem_append_right _ hx)⟩
  · obtain ⟨x, y, z, -⟩ := u2 u hu
    obtain ⟨⟨r, r1, r2, r3, -⟩, q2, q3, q4, ⟨q5, q6, q7⟩, q8, q9⟩ := rdU_q hB hn z
    have mm : ∀ x ∈ ut u, gT (num, ss, fs, cs, es, us) x.1 := fun x hx => gTt x (q9 x hx) (r3 x hx).1.1 ((hb2 u hu).1 x hx)
    exact ⟨q4, q5, q6, q7, fun x hx => mm x (List.mem_append_left _ (List.mem_append_left _ hx)), fun x hx => mm x (List.mem_append_left _ (List.mem_append_right _ hx)), fun x hx => mm x (List.mem_append_right _ hx), hmt⟩
  · show ss.length + fs.length ≤ 64
    omega
  · obtain ⟨x, y, z, -⟩ := u2 u hu
    obtain ⟨-, q2, q3, q4, -, q8, q9⟩ := rdU_q hB hn z
    exact ⟨fun x hx => ⟨(hb2 u hu).2 x hx, q3 x hx⟩, q8.1, q8.2⟩
  · obtain ⟨x, y, z, -⟩ := s2 s hs
    exact (rdSt_q hB z).2.2.2.2.2.1
  · obtain ⟨x, y, z, -⟩ := f2 s hs
    obtain ⟨q1, q2, q3, q4, -⟩ := rdFo_q hB z
    exact ⟨q3, q4⟩
  · obtain ⟨x, y, z, -⟩ := g2 c hc
    obtain ⟨q1, q2, q3, q4, q5, -⟩ := rdCa_q hB z
    exact ⟨q4, q5⟩
theorem rdi_g {n : Nat} {B : Nat → Nat} (hB : ∀ i, B i < 256) (hn : n ≤ 2048) {m : Md} (h : rdi n B = .ok m) : gM m ∧ (mcs m).length ≤ 2048 ∧ (∀ u ∈ m.2.2.2.2.2, (∀ x ∈ ui u, gX m u x) ∧ (ui u).length ≤ 1024 ∧ 1 ≤ (ui u).length) ∧ (m.1 < 65536 ∧ m.2.1.length ≤ 32 ∧ m.2.2.1.length ≤ 32 ∧ m.2.2.2.1.length ≤ 32 ∧ m.2.2.2.2.1.length ≤ 32 ∧ m.2.2.2.2.2.length ≤ 64) ∧ (∀ s ∈ m.2.1, 1 ≤ s.2.2.length) ∧ (∀ s ∈ m.2.2.1, s.1 < 65536 ∧ s.2.1 < 256) ∧ ∀ c ∈ m.2.2.2.1, c.1 < 65536 ∧ c.2.1 < 256 := by
  unfold rdi at h
  split at h
  · cases h
  · next x e =>
    split at h
    · cases h
    · next e2 =>
      cases h
      exact rdM_g hB hn (q := x.2) e (or_n e2).1
