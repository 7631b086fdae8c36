/-! faults of reading are numbers from 1 on -/
def EP {α : Type} (r : Pz α) : Prop := ∀ e, r = .error e → 1 ≤ e.1 ∧ e.1 < 100
theorem EP.bnd {α β : Type} {r : Pz α} {f : α → Nat → Pz β} (h : EP r) (hf : ∀ a p, EP (f a p)) : EP (bd r f) := by
  cases r with
  | ok x => exact hf _ _
  | error e =>
    intro e' he
    have he : (Except.error e : Pz β) = .error e' := he
    have : e = e' := by injection he
    rw [← this]; exact h e rfl
theorem EP.ok {α : Type} {x : α × Nat} : EP (.ok x : Pz α) := fun e he => by cases he
theorem EP.er {α : Type} {w q : Nat} (h : 1 ≤ w ∧ w < 100) : EP (.error (w, q) : Pz α) := fun e he => by
  have : (w, q) = e := by injection he
  rw [← this]; exact h
theorem EP.ned {b : Bool} {w q p : Nat} (h : 1 ≤ w ∧ w < 100) : EP (nd b w q p) := by
  cases b with
  | true => exact EP.ok
  | false => exact EP.er h
section
variable {n : Nat} {B : Nat → Nat}
theorem EP.bB {p : Nat} : EP (rdB n B p) := by
  unfold rdB
  split
  · exact EP.ok
  · exact EP.er (by decide)
theorem EP.N : ∀ {k v p : Nat}, EP (rdN n B k v p)
  | 0, _, _ => EP.ok
  | _ + 1, _, _ => (EP.bB).bnd fun _ _ => EP.N
theorem EP.C {lo hi p : Nat} : EP (rdC n B lo hi p) := (EP.bB).bnd fun _ _ => (EP.ned (by decide)).bnd fun _ _ => EP.ok
theorem EP.V : ∀ {k b : Nat} {t : Ty} {p : Nat}, EP (rdV n B k b t p) := by
  intro k
  induction k with
  | zero =>
    intro b t p
    unfold rdV
    split
    · exact EP.er (by decide)
    · split
      · split
        · exact (EP.bB).bnd fun _ _ => EP.ok
        · exact EP.ok
      · exact EP.er (by decide)
  | succ k ih =>
    intro b t p
    unfold rdV
    split
    · exact (EP.bB).bnd fun _ _ => ih
    · split
      · split
        · exact (EP.bB).bnd fun _ _ => EP.ok
        · exact EP.ok
      · exact EP.er (by decide)
theorem EP.T {r : Bool} {p : Nat} : EP (rdT n B r p) := ((EP.bB).bnd fun b p1 => by
  split
  · split
    · exact (EP.bB).bnd fun _ _ => EP.V
    · exact EP.er (by decide)
  · exact EP.V).bnd fun _ _ => EP.ok
theorem EP.rpt {α : Type} {f : Nat → Pz α} (hf : ∀ p, EP (f p)) : ∀ {k p : Nat}, EP (rep f k p)
  | 0, _ => EP.ok
  | _ + 1, _ => (hf _).bnd fun _ _ => (EP.rpt hf).bnd fun _ _ => EP.ok
theorem EP.L {hi p : Nat} : EP (rdL n B hi p) := (EP.C).bnd fun _ _ => EP.rpt fun _ => EP.T
theorem EP.H : ∀ {j k p : Nat}, EP (rdH n B j k p)
  | 0, _, _ => EP.ok
  | _ + 1, _, _ => (EP.bB).bnd fun _ _ => (EP.ned (by decide)).bnd fun _ _ => EP.H
theorem EP.M : EP (rdM n B) :=
  (EP.H).bnd fun _ _ => (EP.N).bnd fun _ _ => ((EP.C).bnd fun _ _ => EP.rpt fun _ => (EP.C).bnd fun _ _ => (EP.C).bnd fun _ _ => (EP.rpt fun _ => EP.T).bnd fun _ _ => EP.ok).bnd fun _ _ =>
  ((EP.C).bnd fun _ _ => EP.rpt fun _ => (EP.N).bnd fun _ _ => (EP.bB).bnd fun _ _ => (EP.C).bnd fun _ _ => EP.ok).bnd fun _ _ =>
  ((EP.C).bnd fun _ _ => EP.rpt fun _ => (EP.N).bnd fun _ _ => (EP.bB).bnd fun _ _ => (EP.C).bnd fun _ _ => (EP.L).bnd fun _ _ => (EP.L).bnd fun _ _ => EP.ok).bnd fun _ _ =>
  ((EP.C).bnd fun _ _ => EP.rpt fun _ => EP.T).bnd fun _ _ =>
  ((EP.C).bnd fun _ _ => EP.rpt fun _ => (EP.C).bnd fun _ _ => (EP.L).bnd fun _ _ => (EP.L).bnd fun _ _ => (EP.L).bnd fun _ _ => (EP.N).bnd fun _ _ => (EP.ned (by decide)).bnd fun _ _ => (EP.rpt fun _ => (EP.bB).bnd fun _ _ => (EP.ned (by decide)).bnd fun _ _ => (EP.N).bnd fun _ _ => (EP.ned (by decide)).bnd fun _ _ => (EP.N).bnd fun _ _ => EP.ok).bnd fun _ _ => EP.ok).bnd fun _ _ =>
  (EP.ned (by decide)).bnd fun _ _ => EP.ok
def EO (r : Option (Nat × Nat)) : Prop := ∀ e, r = some e → 1 ≤ e.1 ∧ e.1 < 100
theorem EO.or {a b : Option (Nat × Nat)} (h1 : EO a) (h2 : EO b) : EO (a.or b) := by
  cases a with
  | none => exact h2
  | some x => exact h1
theorem EO.nn : EO none := fun _ h => by cases h
theorem EO.s {w q : Nat} (h : 1 ≤ w ∧ w < 100) : EO (some (w, q)) := fun e he => by rw [← Option.some.inj he]; exact h
theorem EO.i {b : Bool} {w q : Nat} (h : 1 ≤ w ∧ w < 100) : EO (ife b w q) := by
  unfold ife
  split
  · exact EO.nn
  · exact EO.s h
theorem EO.f {α : Type} {g : α → Option (Nat × Nat)} (hg : ∀ a, EO (g a)) : ∀ {l : List α}, EO (l.findSome? g)
  | [] => EO.nn
  | a :: l => by
    rw [List.findSome?_cons]
    cases h : g a with
    | none => exact EO.f hg
    | some x => intro e he; exact hg a e (by rw [h]; exact he)
theorem EO.t {k : Nat} {x : Ty × Nat} : EO (tck k x) := by
  unfold tck
  split
  · split
    · exact EO.nn
    · exact EO.s (by decide)
  · exact EO.nn
theorem EO.p {own k j q : Nat} : EO (sop own k j q) := by
  unfold sop
  split
  · split
    · exact EO.nn
    · exact EO.s (by decide)
  · exact EO.s (by decide)
theorem EO.k {m : Md} {u : Ux} {x : Ix} : EO (ick m u x) := by
  unfold ick
  split
  · exact EO.p
  · exact (EO.p).or (EO.i (by decide))
  · exact EO.i (by decide)
  · exact EO.i (by decide)
  · exact EO.i (by decide)
  · exact EO.i (by decide)
  · exact EO.i (by decide)
  · exact EO.nn
theorem EO.b {m : Md} : ∀ {us : List Ux}, EO (bfs m us)
  | [] => EO.nn
  | _ :: _ => (EO.f fun _ => EO.t).or ((EO.f fun _ => EO.k).or EO.b)
theorem EO.r {m : Md} : ∀ {j k : Nat}, EO (rnf m j k)
  | 0, _ => EO.nn
  | _ + 1, _ => (EO.i (by decide)).or EO.r
theorem rdi_e {e : Nat × Nat} (h : rdi n B = .error e) : 1 ≤ e.1 ∧ e.1 < 100 := by
  unfold rdi at h
  cases hm : rdM n B with
  | error x =>
    rw [hm] at h
    have : x = e := by injection h
    rw [← this]
    exact EP.M x hm
  | ok x =>
    rw [hm] at h
    simp only at h
    cases ho : (bds x.1).or (rond x.1) with
    | none => rw [ho] at h; cases h
    | some z =>
      rw [ho] at h
      have : z = e := by injection h
      rw [← this]
      exact ((EO.f fun _ => EO.t).or EO.b).or EO.r z ho
end
