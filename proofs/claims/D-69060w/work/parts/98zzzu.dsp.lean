/-! instructions: which operation -/
def kvd (K : Outcome → AH → Prop) : Outcome → AH → Prop := fun o h' => match o with
  | .returned none => K (.returned none) h'
  | .threw a => K (.threw a) h'
  | _ => False
section
variable {h : AH} {A : Nat} {K : Outcome → AH → Prop}
theorem inst_89 {XX : Xt} (oo : OK e_X1_instruction XX) {C k op : Nat} {a : Int32} {y z : Int64} (tA : h.tag A = some (0, 0)) (tC : h.tag C = some (5, 0)) (r1 : h.R 641 C = some (C + 2)) (r2 : h.R 642 C = some (C + 3)) (g1 : h.tag (C + 2) = some (291, 2048)) (g2 : h.tag (C + 3) = some (307, 2048)) (hk : k < 2048) (e1 : h.EJ 291 (C + 2) k = y) (e2 : h.EJ 307 (C + 3) k = z) (ho : op < 60) (hd : 1 ≤ XX.d)
    (h1 : op = 1 → MW XX.G (XX.d - 1) e_X1_end [.ref A] h (kvd K))
    (h2 : 2 ≤ op ∧ op < 5 → MW XX.G (XX.d - 1) e_X1_branch [.ref A, .int (nI op), .int a] h (kvd K))
    (h3 : (5 ≤ op ∧ op < 11) ∨ op = 46 → MW XX.G (XX.d - 1) e_X1_constant [.ref A, .int (nI op), .long y, .long z] h (kvd K))
    (h4 : 11 ≤ op ∧ op < 16 → MW XX.G (XX.d - 1) e_X1_useLocal [.ref A, .int (nI op), .int a] h (kvd K))
    (h5 : 16 ≤ op ∧ op < 21 → MW XX.G (XX.d - 1) e_X1_reference [.ref A, .int (nI op), .int z.toInt32] h (kvd K))
    (h6 : op = 21 → MW XX.G (XX.d - 1) e_X1_pack [.ref A, .int a] h (kvd K))
    (h7 : op = 22 → MW XX.G (XX.d - 1) e_X1_unpack [.ref A] h (kvd K))
    (h8 : op = 23 → MW XX.G (XX.d - 1) e_X1_call [.ref A, .int a] h (kvd K))
    (h9 : 24 ≤ op ∧ op < 45 → MW XX.G (XX.d - 1) e_X1_number [.ref A, .int (nI op)] h (kvd K))
    (h10 : op = 45 → V XX K 248 [.ref A, .ref C, .int (nI k), .int (nI op), .int a] [] h)
    (h11 : 47 ≤ op ∧ op < 52 → MW XX.G (XX.d - 1) e_X1_resource [.ref A, .int (nI op), .int a] h (kvd K))
    (h12 : 52 ≤ op ∧ op < 59 → MW XX.G (XX.d - 1) e_X1_vector [.ref A, .int (nI op), .int z.toInt32] h (kvd K))
    (h13 : op = 59 → MW XX.G (XX.d - 1) e_X1_bytes [.ref A] h (kvd K)) (h0 : op ≠ 0) : V XX K 89 [.ref A, .ref C, .int (nI k), .int (nI op), .int a] [] h := by
  have ix : IX (nI k) 2048 k := IX.mk (by omega) (by omega)
  have fin : ∀ (L : List Value) pc, (∀ h', K (.returned none) h' → V XX K pc L [] h') → ∀ o h', kvd K o h' → kin (V XX K pc) K L [] o h' := fun L pc hp o h' hk => by
    cases o with
    | returned v =>
      cases v with
      | none => exact hp h' hk
      | some v => exact absurd hk (fun z => z)
    | threw a => exact hk
  have e305 : ∀ h', K (.returned none) h' → V XX K 305 [.ref A, .ref C, .int (nI k), .int (nI op), .int a] [] h' := fun h' hk => k_X1_instruction_305 oo hk
  have ni : ∀ c, c < 64 → (nI op = nI c ↔ op = c) := fun c hc => nI_eq (by omega) (by omega)
  have le : ∀ c, c < 64 → (nI c ≤ nI op ↔ c ≤ op) := fun c hc => nI_leI (by omega) (by omega)
  have lt : ∀ c, c < 64 → (nI op < nI c ↔ op < c) := fun c hc => nI_ltI (by omega) (by omega)
  by_cases c1 : op = 1
  · refine k_X1_instruction_89 oo (fun c => absurd ((ni 1 (by omega)).mpr c1) c) (fun _ => ?_)
    exact k_X1_instruction_94 oo ((h1 c1).mono (fin _ 98 fun h' hk => k_X1_instruction_98 oo (e305 h' hk)))
  refine k_X1_instruction_89 oo (fun _ => ?_) (fun c => absurd ((ni 1 (by omega)).mp c) c1)
  by_cases c2 : op < 5
  · refine k_X1_instruction_101 oo (fun c => absurd ((le 5 (by omega)).mp c) (by omega)) (fun _ => ?_)
    exact k_X1_instruction_106 oo ((h2 (by omega)).mono (fin _ 113 fun h' hk => k_X1_instruction_113 oo (e305 h' hk)))
  refine k_X1_instruction_101 oo (fun _ => ?_) (fun c => absurd ((le 5 (by omega)).mpr (by omega)) c)
  have s128 : (5 ≤ op ∧ op < 11) ∨ op = 46 → V XX K 128 [.ref A, .ref C, .int (nI k), .int (nI op), .int a] [] h := fun hh => by
    refine k_X1_instruction_128 (r8 := e1) (r16 := e2) oo ?_
    exact (h3 hh).mono (fin _ 145 fun h' hk => k_X1_instruction_145 oo (e305 h' hk))
  by_cases c3 : op < 11
  · exact k_X1_instruction_116 oo (fun _ => s128 (by omega)) (fun c => absurd ((lt 11 (by omega)).mpr c3) c)
  refine k_X1_instruction_116 oo (fun c => absurd ((lt 11 (by omega)).mp c) c3) (fun _ => ?_)
  by_cases c46 : op = 46
  · exact k_X1_instruction_122 oo (fun c => absurd ((ni 46 (by omega)).mpr c46) c) (fun _ => s128 (by omega))
  refine k_X1_instruction_122 oo (fun _ => ?_) (fun c => absurd ((ni 46 (by omega)).mp c) c46)
  by_cases c4 : op < 16
  · refine k_X1_instruction_148 oo (fun c => absurd ((le 16 (by omega)).mp c) (by omega)) (fun _ => ?_)
    exact k_X1_instruction_154 oo ((h4 (by omega)).mono (fin _ 161 fun h' hk => k_X1_instruction_161 oo (e305 h' hk)))
  refine k_X1_instruction_148 oo (fun _ => ?_) (fun c => absurd ((le 16 (by omega)).mpr (by omega)) c)
  by_cases c5 : op < 21
  · refine k_X1_instruction_164 oo (fun c => absurd ((le 21 (by omega)).mp c) (by omega)) (fun _ => ?_)
    exact k_X1_instruction_170 (r8 := e2) oo ((h5 (by omega)).mono (fin _ 182 fun h' hk => k_X1_instruction_182 oo (e305 h' hk)))
  refine k_X1_instruction_164 oo (fun _ => ?_) (fun c => absurd ((le 21 (by omega)).mpr (by omega)) c)
  by_cases c6 : op = 21
  · refine k_X1_instruction_185 oo (fun c => absurd ((ni 21 (by omega)).mpr c6) c) (fun _ => ?_)
    exact k_X1_instruction_191 oo ((h6 c6).mono (fin _ 197 fun h' hk => k_X1_instruction_197 oo (e305 h' hk)))
  refine k_X1_instruction_185 oo (fun _ => ?_) (fun c => absurd ((ni 21 (by omega)).mp c) c6)
  by_cases c7 : op = 22
  · refine k_X1_instruction_200 oo (fun c => absurd ((ni 22 (by omega)).mpr c7) c) (fun _ => ?_)
    exact k_X1_instruction_206 oo ((h7 c7).mono (fin _ 210 fun h' hk => k_X1_instruction_210 oo (e305 h' hk)))
  refine k_X1_instruction_200 oo (fun _ => ?_) (fun c => absurd ((ni 22 (by omega)).mp c) c7)
  by_cases c8 : op = 23
  · refine k_X1_instruction_213 oo (fun c => absurd ((ni 23 (by omega)).mpr c8) c) (fun _ => ?_)
    exact k_X1_instruction_219 oo ((h8 c8).mono (fin _ 225 fun h' hk => k_X1_instruction_225 oo (e305 h' hk)))
  refine k_X1_instruction_213 oo (fun _ => ?_) (fun c => absurd ((ni 23 (by omega)).mp c) c8)
  by_cases c9 : op < 45
  · refine k_X1_instruction_228 oo (fun c => absurd ((le 45 (by omega)).mp c) (by omega)) (fun _ => ?_)
    exact k_X1_instruction_234 oo ((h9 (by omega)).mono (fin _ 239 fun h' hk => k_X1_instruction_239 oo (e305 h' hk)))
  refine k_X1_instruction_228 oo (fun _ => ?_) (fun c => absurd ((le 45 (by omega)).mpr (by omega)) c)
  by_cases c10 : op = 45
  · exact k_X1_instruction_242 oo (fun c => absurd ((ni 45 (by omega)).mpr c10) c) (fun _ => h10 c10)
  refine k_X1_instruction_242 oo (fun _ => ?_) (fun c => absurd ((ni 45 (by omega)).mp c) c10)
  by_cases c11 : op < 52
  · refine k_X1_instruction_264 oo (fun c => absurd ((le 52 (by omega)).mp c) (by omega)) (fun _ => ?_)
    exact k_X1_instruction_270 oo ((h11 (by omega)).mono (fin _ 277 fun h' hk => k_X1_instruction_277 oo (e305 h' hk)))
  refine k_X1_instruction_264 oo (fun _ => ?_) (fun c => absurd ((le 52 (by omega)).mpr (by omega)) c)
  by_cases c12 : op < 59
  · refine k_X1_instruction_280 oo (fun c => absurd ((le 59 (by omega)).mp c) (by omega)) (fun _ => ?_)
    exact k_X1_instruction_286 (r8 := e2) oo ((h12 (by omega)).mono (fin _ 298 fun h' hk => k_X1_instruction_298 oo (e305 h' hk)))
  refine k_X1_instruction_280 oo (fun _ => ?_) (fun c => absurd ((le 59 (by omega)).mpr (by omega)) c)
  exact k_X1_instruction_301 oo ((h13 (by omega)).mono (fin _ 305 e305))
end
