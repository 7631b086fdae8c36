/-! a module's bytes: n of them, B tells each; reading from a place on gives a thing and the place behind it, or a fault and its place -/
abbrev Pz (α : Type) : Type := Except (Nat × Nat) (α × Nat)
def PQ {α : Type} (r : Pz α) (ok : α → Nat → Prop) (er : Nat → Nat → Prop) : Prop := match r with
  | .ok x => ok x.1 x.2
  | .error e => er e.1 e.2
def bd {α β : Type} (r : Pz α) (f : α → Nat → Pz β) : Pz β := match r with
  | .ok x => f x.1 x.2
  | .error e => .error e
theorem PQ_bd {α β : Type} {r : Pz α} {f : α → Nat → Pz β} {ok : β → Nat → Prop} {er : Nat → Nat → Prop} : PQ (bd r f) ok er ↔ PQ r (fun a p => PQ (f a p) ok er) er := by cases r <;> exact Iff.rfl
theorem PQ.mono {α : Type} {r : Pz α} {ok ok' : α → Nat → Prop} {er er' : Nat → Nat → Prop} (h : PQ r ok er) (h1 : ∀ a p, r = .ok (a, p) → ok a p → ok' a p) (h2 : ∀ w q, er w q → er' w q) : PQ r ok' er' := by
  cases r with
  | ok x => exact h1 _ _ rfl h
  | error e => exact h2 _ _ h
def nd (b : Bool) (w q p : Nat) : Pz Unit := if b then .ok ((), p) else .error (w, q)
def rdB (n : Nat) (B : Nat → Nat) (p : Nat) : Pz Nat := if p < n then .ok (B p, p + 1) else .error (2, n)
def rdN (n : Nat) (B : Nat → Nat) : Nat → Nat → Nat → Pz Nat
  | 0, v, p => .ok (v, p)
  | k + 1, v, p => bd (rdB n B p) fun b p' => rdN n B k (256 * v + b) p'
def rdC (n : Nat) (B : Nat → Nat) (lo hi p : Nat) : Pz Nat := bd (rdB n B p) fun v p' => bd (nd (decide (lo ≤ v ∧ v ≤ hi)) 3 p p') fun _ p' => .ok (v, p')
/-- what comes behind the vectors: b is the byte read latest, t all bytes -/
def rdV (n : Nat) (B : Nat → Nat) : Nat → Nat → Ty → Nat → Pz Ty
  | k, b, t, p => if b = 7 then (match k with
      | 0 => .error (4, p - 1)
      | k + 1 => bd (rdB n B p) fun b' p' => rdV n B k b' (t ++ [b']) p')
    else if 1 ≤ b ∧ b ≤ 6 then (if b = 6 then bd (rdB n B p) fun c p' => .ok (t ++ [c], p') else .ok (t, p)) else .error (4, p - 1)
def rdT (n : Nat) (B : Nat → Nat) (r : Bool) (p : Nat) : Pz (Ty × Nat) := bd (bd (rdB n B p) fun b p1 => if b = 8 ∨ b = 9 then (if r then bd (rdB n B p1) fun b2 p2 => rdV n B 4 b2 [b, b2] p2 else .error (4, p)) else rdV n B 4 b [b] p1) fun t p' => .ok ((t, p' - 1), p')
def rep {α : Type} (f : Nat → Pz α) : Nat → Nat → Pz (List α)
  | 0, p => .ok ([], p)
  | k + 1, p => bd (f p) fun a p1 => bd (rep f k p1) fun l p2 => .ok (a :: l, p2)
abbrev TL : Type := List (Ty × Nat)
def rdL (n : Nat) (B : Nat → Nat) (hi p : Nat) : Pz TL := bd (rdC n B 0 hi p) fun k p1 => rep (rdT n B true) k p1
/-- a structure of its own: its place, abilities, fields -/
abbrev Sx : Type := Nat × Nat × TL
/-- a foreign one: module, number, abilities -/
abbrev Fx : Type := Nat × Nat × Nat
/-- a foreign function: module, number, flags, takes, gives -/
abbrev Cx : Type := Nat × Nat × Nat × TL × TL
/-- an instruction: operation, operands, place -/
abbrev Ix : Type := Nat × Nat × Nat × Nat
/-- a function: flags, takes, gives, locals, instructions -/
abbrev Ux : Type := Nat × TL × TL × TL × List Ix
/-- a module: number, structures, foreign ones, foreign functions, elements, functions -/
abbrev Md : Type := Nat × List Sx × List Fx × List Cx × TL × List Ux
def rdSt (n : Nat) (B : Nat → Nat) (p : Nat) : Pz Sx := bd (rdC n B 0 15 p) fun a p1 => bd (rdC n B 1 16 p1) fun k p2 => bd (rep (rdT n B false) k p2) fun fs p3 => .ok ((p, a, fs), p3)
def rdFo (n : Nat) (B : Nat → Nat) (p : Nat) : Pz Fx := bd (rdN n B 2 0 p) fun m p1 => bd (rdB n B p1) fun k p2 => bd (rdC n B 0 15 p2) fun a p3 => .ok ((m, k, a), p3)
def rdCa (n : Nat) (B : Nat → Nat) (p : Nat) : Pz Cx := bd (rdN n B 2 0 p) fun m p1 => bd (rdB n B p1) fun k p2 => bd (rdC n B 0 7 p2) fun a p3 => bd (rdL n B 8 p3) fun t p4 => bd (rdL n B 8 p4) fun g p5 => .ok ((m, k, a, t, g), p5)
/-- an operation's form, by its number -/
def fmo (o : Nat) : Nat := ([0, 0, 8, 8, 8, 1, 9, 10, 0, 0, 9, 2, 2, 2, 2, 2, 6, 6, 0, 0, 0, 3, 3, 4, 0, 0, 0, 0, 0, 0, 0, 0, 0, 0, 0, 0, 0, 0, 0, 0, 0, 0, 0, 0, 0, 0, 0, 3, 3, 3, 3, 3, 7, 5, 5, 5, 5, 5, 5] : List Nat).getD o 0
def fq1 (o : Nat) : Nat := ([0, 1, 1, 1, 1, 1, 1, 1, 2, 8, 8] : List Nat).getD (fmo o) 0
def fq2 (o : Nat) : Nat := ([0, 0, 0, 0, 0, 0, 1, 1, 0, 0, 8] : List Nat).getD (fmo o) 0
def rdI (n : Nat) (B : Nat → Nat) (p : Nat) : Pz Ix := bd (rdB n B p) fun o p1 => bd (nd (decide (o < 60)) 5 p p1) fun _ p1 => bd (rdN n B (fq1 o) 0 p1) fun x p2 =>
  bd (nd (decide (o ≠ 52 ∨ n ≤ p2 ∨ B p2 ≤ 64)) 3 p2 p2) fun _ p2 => bd (rdN n B (fq2 o) 0 p2) fun y p3 => .ok ((o, x, y, p), p3)
def rdU (n : Nat) (B : Nat → Nat) (p : Nat) : Pz Ux := bd (rdC n B 0 7 p) fun a p1 => bd (rdL n B 8 p1) fun t p2 => bd (rdL n B 8 p2) fun g p3 => bd (rdL n B 32 p3) fun l p4 =>
  bd (rdN n B 2 0 p4) fun k p5 => bd (nd (decide (1 ≤ k ∧ k ≤ 1024)) 3 p4 p5) fun _ p5 => bd (rep (rdI n B) k p5) fun is p6 => .ok ((a, t, g, l, is), p6)
def hdb (k : Nat) : Nat := ([82, 76, 77, 49] : List Nat).getD k 0
/-- the head's bytes from the k-th on -/
def rdH (n : Nat) (B : Nat → Nat) : Nat → Nat → Nat → Pz Unit
  | 0, _, p => .ok ((), p)
  | j + 1, k, p => bd (rdB n B p) fun b p' => bd (nd (decide (b = hdb k)) 1 p p') fun _ p' => rdH n B j (k + 1) p'
def rdM (n : Nat) (B : Nat → Nat) : Pz Md := bd (rdH n B 4 0 0) fun _ p0 => bd (rdN n B 2 0 p0) fun num p1 =>
  bd (bd (rdC n B 0 32 p1) fun k p => rep (rdSt n B) k p) fun ss p2 => bd (bd (rdC n B 0 32 p2) fun k p => rep (rdFo n B) k p) fun fs p3 =>
  bd (bd (rdC n B 0 32 p3) fun k p => rep (rdCa n B) k p) fun cs p4 => bd (bd (rdC n B 0 32 p4) fun k p => rep (rdT n B false) k p) fun es p5 =>
  bd (bd (rdC n B 0 64 p5) fun k p => rep (rdU n B) k p) fun us p6 => bd (nd (decide (p6 = n)) 6 p6 p6) fun _ p6 => .ok ((num, ss, fs, cs, es, us), p6)
/-! where reading ends -/
theorem bd_ok {α β : Type} {r : Pz α} {f : α → Nat → Pz β} {b : β} {q : Nat} (h : bd r f = .ok (b, q)) : ∃ a p, r = .ok (a, p) ∧ f a p = .ok (b, q) := by
  cases r with
  | ok x => exact ⟨x.1, x.2, rfl, h⟩
  | error e => cases h
theorem rdB_ok {n : Nat} {B : Nat → Nat} {p a q : Nat} (h : rdB n B p = .ok (a, q)) : a = B p ∧ q = p + 1 ∧ p < n := by
  unfold rdB at h
  split at h
  · cases h; exact ⟨rfl, rfl, by assumption⟩
  · cases h
theorem nd_ok {b : Bool} {w q p p' : Nat} {u : Unit} (h : nd b w q p = .ok (u, p')) : b = true ∧ p' = p := by
  unfold nd at h
  split at h
  · cases h; exact ⟨by assumption, rfl⟩
  · cases h
theorem rdC_ok {n : Nat} {B : Nat → Nat} {lo hi p a q : Nat} (h : rdC n B lo hi p = .ok (a, q)) : a = B p ∧ q = p + 1 ∧ p < n ∧ lo ≤ a ∧ a ≤ hi := by
  obtain ⟨v, p1, h1, h2⟩ := bd_ok h
  obtain ⟨u, p2, h3, h4⟩ := bd_ok h2
  obtain ⟨e1, e2, e3⟩ := rdB_ok h1
  obtain ⟨e4, e5⟩ := nd_ok h3
  cases h4
  exact ⟨e1, by omega, e3, of_decide_eq_true e4⟩
/-- bytes from a place on -/
def bts (B : Nat → Nat) (p k : Nat) : List Nat := (List.range k).map fun i => B (p + i)
theorem bts_0 (B : Nat → Nat) (p : Nat) : bts B p 0 = [] := rfl
theorem bts_len (B : Nat → Nat) (p k : Nat) : (bts B p k).length = k := by simp [bts]
theorem bts_s (B : Nat → Nat) (p k : Nat) : bts B p (k + 1) = bts B p k ++ [B (p + k)] := by simp [bts, List.range_succ]
theorem bts_c (B : Nat → Nat) (p k : Nat) : bts B p (k + 1) = B p :: bts B (p + 1) k := by
  simp only [bts, List.range_succ_eq_map, List.map_cons, List.map_map, Nat.add_zero]
  congr 1
  refine List.map_congr_left fun i _ => ?_
  show B (p + (i + 1)) = B (p + 1 + i)
  congr 1; omega
/-- a type without a reference: vectors, then what they hold -/
def bas : Ty → Bool
  | [b] => decide (1 ≤ b ∧ b ≤ 5)
  | [6, _] => true
  | 7 :: t => bas t
  | _ => false
theorem bas_7 (b : Nat) (t : Ty) : bas (7 :: b :: t) = bas (b :: t) := by cases t <;> rfl
/-- how many vectors -/
def nve : Ty → Nat
  | 7 :: t => 1 + nve t
  | _ => 0
def wty (r : Bool) : Ty → Prop
  | b :: t => if b = 8 ∨ b = 9 then r = true ∧ bas t = true ∧ nve t ≤ 4 else bas (b :: t) = true ∧ nve (b :: t) ≤ 4
  | [] => False
theorem rdV_ok {n : Nat} {B : Nat → Nat} : ∀ {k b : Nat} {t t' : Ty} {p q : Nat}, rdV n B k b t p = .ok (t', q) → ∃ j, t' = t ++ bts B p j ∧ q = p + j ∧ (p ≤ n → q ≤ n) ∧ bas (b :: bts B p j) = true ∧ nve (b :: bts B p j) ≤ k := by
  intro k
  induction k with
  | zero =>
    intro b t t' p q h
    unfold rdV at h
    split at h
    · cases h
    · next hb =>
      split at h
      · next hb2 =>
        split at h
        · next e =>
          subst e
          obtain ⟨c, p1, h1, h2⟩ := bd_ok h
          obtain ⟨e1, e2, e3⟩ := rdB_ok h1
          cases h2
          refine ⟨1, by rw [e1]; rfl, by omega, fun _ => by omega, rfl, by simp [nve]⟩
        · next e =>
          cases h
          refine ⟨0, by rw [bts_0, List.append_nil], rfl, fun h => h, ?_, ?_⟩
          · rw [bts_0]; simp only [bas]; exact decide_eq_true (by omega)
          · rw [bts_0]; unfold nve; split
            · next e2 => simp at e2; omega
            · omega
      · cases h
  | succ k ih =>
    intro b t t' p q h
    unfold rdV at h
    split at h
    · next hb =>
      subst hb
      obtain ⟨c, p1, h1, h2⟩ := bd_ok h
      obtain ⟨e1, e2, e3⟩ := rdB_ok h1
      obtain ⟨j, f1, f2, f3, f4, f5⟩ := ih h2
      subst e1; subst e2
      refine ⟨j + 1, by rw [f1, bts_c]; simp, by omega, fun _ => f3 (by omega), ?_, ?_⟩
      · rw [bts_c, bas_7]; exact f4
      · rw [bts_c]; show 1 + nve _ ≤ _; omega
    · next hb =>
      split at h
      · next hb2 =>
        split at h
        · next e =>
          subst e
          obtain ⟨c, p1, h1, h2⟩ := bd_ok h
          obtain ⟨e1, e2, e3⟩ := rdB_ok h1
          cases h2
          refine ⟨1, by rw [e1]; rfl, by omega, fun _ => by omega, rfl, by simp [nve]⟩
        · next e =>
          cases h
          refine ⟨0, by rw [bts_0, List.append_nil], rfl, fun h => h, ?_, ?_⟩
          · rw [bts_0]; simp only [bas]; exact decide_eq_true (by omega)
          · rw [bts_0]; unfold nve; split
            · next e2 => simp at e2; omega
            · omega
      · cases h
/-- a type was read: its bytes, where it ends -/
theorem rdT_ok {n : Nat} {B : Nat → Nat} {r : Bool} {p : Nat} {x : Ty × Nat} {q : Nat} (h : rdT n B r p = .ok (x, q)) : x.1 = bts B p x.1.length ∧ 0 < x.1.length ∧ q = p + x.1.length ∧ x.2 = q - 1 ∧ q ≤ n ∧ wty r x.1 := by
  obtain ⟨t, p1, h1, h2⟩ := bd_ok h
  cases h2
  obtain ⟨b, p2, h3, h4⟩ := bd_ok h1
  obtain ⟨rfl, rfl, e3⟩ := rdB_ok h3
  split at h4
  · next hb =>
    split at h4
    · next hr =>
      obtain ⟨b2, p3, h5, h6⟩ := bd_ok h4
      obtain ⟨rfl, rfl, e5⟩ := rdB_ok h5
      obtain ⟨j, f1, f2, f3, f4, f5⟩ := rdV_ok h6
      have el : t.length = j + 2 := by rw [f1]; simp [bts_len]
      have et : t = bts B p (j + 2) := by rw [f1, bts_c, bts_c]; rfl
      refine ⟨by simp only [el]; exact et, by simp only; omega, by simp only; omega, rfl, f3 (by omega), ?_⟩
      rw [et, bts_c]
      show if B p = 8 ∨ B p = 9 then r = true ∧ bas (bts B (p + 1) (j + 1)) = true ∧ nve (bts B (p + 1) (j + 1)) ≤ 4 else _
      rw [if_pos hb, bts_c]
      exact ⟨hr, f4, f5⟩
    · cases h4
  · next hb =>
    obtain ⟨j, f1, f2, f3, f4, f5⟩ := rdV_ok h4
    have el : t.length = j + 1 := by rw [f1]; simp [bts_len]
    have et : t = bts B p (j + 1) := by rw [f1, bts_c]; rfl
    refine ⟨by simp only [el]; exact et, by simp only; omega, by simp only; omega, rfl, f3 (by omega), ?_⟩
    rw [et, bts_c]
    show if B p = 8 ∨ B p = 9 then _ else bas (B p :: bts B (p + 1) j) = true ∧ nve (B p :: bts B (p + 1) j) ≤ 4
    rw [if_neg hb]
    exact ⟨f4, f5⟩
