/-! instructions: operations -/
section
variable {G : Gt} {B d : Nat} {h : AH} {l : List Nat} {o : Lc} {wi W A q BA X tt lim SP t : Nat} {snd : Int64} {MA : Ma} {s : Ms} {K : Outcome → AH → Prop} {fs : Nat} {st : Lw} {Lf : Nat → Lw} {RN : Nat → Int32}
theorem RZ.kvd {r : Rz} (k : RZ K G B h A W q BA X tt snd lim SP wi MA o r) : RZ (kvd K) G B h A W q BA X tt snd lim SP wi MA o r := by
  cases r with
  | none => trivial
  | some e => cases e <;> exact k
theorem RZM.kvd {n : Nat} {sc : Pc → Option (Int32 × Int32)} {r : Rz} (k : RZM K G B h A W q BA X tt snd lim SP wi MA o n sc r) : RZM (kvd K) G B h A W q BA X tt snd lim SP wi MA o n sc r := by
  cases r with
  | none => trivial
  | some e => cases e <;> exact k
/-- what is known of an operation's state -/
def IHY (m : Md) (x : Ix) (s : Ms) : Prop := ((∀ v, (Sum.inl v : It) ∈ stk s → VW v) ∧ (∀ k v, lcs s k = some (.inl v) → VW v) ∧ ∀ r, (Sum.inr r : It) ∈ stk s → ∀ v, drf s r = some v → VW v ∧ (v.1 = 7 → ∀ w ∈ flo v.2.2, ∀ w' ∈ flo v.2.2, w.1 = w'.1)) ∧
  ((x.1 < 11 ∧ 5 ≤ x.1) ∨ x.1 = 46 → (stk s).length < 64) ∧ (11 ≤ x.1 ∧ x.1 < 16 → x.2.1 < 40 ∧ (x.1 ≠ 13 → (stk s).length < 64) ∧ (x.1 = 13 → ∀ r t', stk s = .inr r :: t' → r.1 ≠ (s.1, x.2.1))) ∧
  (x.1 = 21 → (∃ z, m.2.1[x.2.1]? = some z) ∧ ∀ k vs, tkV (fdl m x.2.1).length (stk s) = some (vs, k) → k.length < 64) ∧ (x.1 = 22 → ∀ v k, stk s = .inl v :: k → (flo v.2.2).length + k.length ≤ 64) ∧ (x.1 = 52 → ∀ k vs, tkV x.2.2.1 (stk s) = some (vs, k) → k.length < 64) ∧ ((16 ≤ x.1 ∧ x.1 < 21) ∨ (52 ≤ x.1 ∧ x.1 < 59) → x.2.2.1 < 256) ∧ (47 ≤ x.1 ∧ x.1 < 52 → x.2.1 < 256)
theorem inst_op {XX : Xt} (oo : OK e_X1_instruction XX) {m : Md} {x : Ix} {C k : Nat} {env : Pc → Cn} (H : OPR XX.G B h A W q BA X tt snd lim SP wi MA l o s) (cd : CDF h C k x) (ih : IHY m x s) (hm : MDR h (MA.1 (tpf s).1.1) m) (hg : gM m) (hD : DGR XX.G h A) (wd : WRD h o A W BA tt MA fs st Lf RN) (henv : ∀ p, gss Lf fs tt p = none → env p = vew st Lf fs tt p) (hn2 : (ens s).length < 26) (hak : s.2.2.2.1 ≤ 24) (hv : ∀ p v, (vew st Lf fs tt p).2.2.2 = some v → vsz v ≤ 64 ∧ fdp v.2.2 ≤ 40) (hen : ∀ x ∈ ens s, x.1.1 = 3 → x.2.2.1.1 = x.2.2.1.2.2.2.isSome) (hev : ∀ a i, (env (3, a, i)).1 = (env (3, a, i)).2.2.2.isSome) (hav : lim + 72 ≤ av XX.G h l + gas s) (hd : 70 ≤ XX.d) (wt : WTS K XX.G B h A W q BA X tt snd lim SP wi o Lf fs s) (hx : x.1 < 60 ∧ x.1 ≠ 1 ∧ ¬ (2 ≤ x.1 ∧ x.1 < 5) ∧ x.1 ≠ 23 ∧ x.1 ≠ 45) (hne : mop snd env lim m x s ≠ none) (kk : RZM K XX.G B h A W q BA X tt snd lim SP wi MA o (ens s).length (sco Lf RN fs tt) (mop snd env lim m x s)) : (x.1 = 0 → V XX K 82 [.ref A, .ref C, .int (nI k), .int (nI x.1), .int (lN x.2.1).toInt32] [] h) ∧ (x.1 ≠ 0 → V XX K 89 [.ref A, .ref C, .int (nI k), .int (nI x.1), .int (lN x.2.1).toInt32] [] h) := by
  obtain ⟨⟨i1, i2, i3⟩, i4, i5, i6, i7, i8, i9, i10⟩ := ih
  obtain ⟨⟨c1, c2, c3, c4, c5⟩, c6, c7, c8⟩ := cd
  have hgs := H.2.2.2.2.1
  have t0 := H.1.1.1
  have here : ∀ {r : Rz}, rzP (plQ s) r → RZM K XX.G B h A W q BA X tt snd lim SP wi MA o (ens s).length (sco Lf RN fs tt) r → RZ (kvd K) XX.G B h A W q BA X tt snd lim SP wi MA o r := fun p z => (RZM.here (s := s) rfl p z).kvd
  constructor
  · intro e0
    unfold mop at kk hne
    rw [if_pos e0] at kk hne
    cases hs : stk s with
    | nil => rw [hs] at hne; exact absurd rfl hne
    | cons i t =>
      rw [hs] at kk
      refine k_X1_instruction_82 oo ?_
      refine cdropTop_ok H hs (fun v hv => by have := (i1 v (by rw [hs, hv]; simp)).1.2.1; omega) (by omega) fun h' l' o' u H' _ _ _ => ?_
      refine k_X1_instruction_86 oo ?_
      refine k_X1_instruction_305 oo ?_
      exact kk h' l' o' MA u H' (MAX.refl (by show (plc s).length ≤ _; unfold plc; rw [List.length_map]; exact Nat.le_refl _)) rfl
  · intro n0
    rw [lN_32]
    unfold mop at kk hne
    rw [if_neg n0] at kk hne
    refine inst_89 oo t0 c1 c2 c3 c4 c5 c6 c7 c8 hx.1 (by omega) (fun e => absurd e hx.2.1) (fun e => absurd e hx.2.2.1) (fun e => ?_) (fun e => ?_) (fun e => ?_) (fun e => ?_) (fun e => ?_) (fun e => absurd e hx.2.2.2.1) (fun e => ?_) (fun e => absurd e hx.2.2.2.2) (fun e => ?_) (fun e => ?_) (fun e => ?_) n0
    · rw [if_pos (by omega)] at kk
      exact cconst_ok H (by omega) (i4 (by omega)) (by omega) (by omega) (here plQ_con kk)
    · rw [if_neg (by omega), if_pos (by omega)] at kk hne
      obtain ⟨j1, j2, j3⟩ := i5 e
      exact cuseLocal_ok H e j1 (fun v hv => i2 _ v hv) j2 j3 (by omega) (by omega) hne (here plQ_loc kk)
    · rw [if_neg (by omega), if_neg (by omega), if_pos (by omega)] at kk hne
      rw [lN_32]
      exact creference_ok H e (i9 (by omega)) (fun r t' hs v hv => (i3 r (by rw [hs]; simp) v hv).1) (by omega) (by omega) hne (here plQ_ref kk)
    · rw [if_neg (by omega), if_neg (by omega), if_neg (by omega), if_pos (by omega)] at kk hne
      obtain ⟨⟨z, j1⟩, j2⟩ := i6 e
      exact cpack_ok H hm rfl j1 hg (by omega) j2 (by omega) hne (here plQ_pck kk)
    · rw [if_neg (by omega), if_neg (by omega), if_neg (by omega), if_neg (by omega), if_pos (by omega)] at kk hne
      exact cunpack_ok H (fun v k hs => ⟨i1 v (by rw [hs]; simp), i7 e v k hs⟩) (by omega) hne (here plQ_unp kk)
    · rw [if_neg (by omega), if_neg (by omega), if_neg (by omega), if_neg (by omega), if_neg (by omega), if_pos (by omega)] at kk hne
      exact cnumber_ok H e i1 hne (by omega) (by omega) (here plQ_num kk)
    · rw [if_neg (by omega), if_neg (by omega), if_neg (by omega), if_neg (by omega), if_neg (by omega), if_neg (by omega), if_pos (by omega)] at kk hne
      cases hs : stk s with
      | nil => unfold oRes at hne; rw [hs] at hne; exact absurd rfl hne
      | cons i t =>
        cases i with
        | inr r => unfold oRes at hne; rw [hs] at hne; exact absurd rfl hne
        | inl v =>
          exact cresource_ok H wd hm rfl hm.2.2.2.2.2.1.1 (i10 e) hs e (i1 v (by rw [hs]; simp)) henv hn2 hak hv hen hev hav (by omega) (fun a b c d h' l' o' s' MA' u H2 e e1 e2 => wt a b c d h' l' o' s' MA' u H2 e e1 e2) hne kk.kvd
    · rw [if_neg (by omega), if_neg (by omega), if_neg (by omega), if_neg (by omega), if_neg (by omega), if_neg (by omega), if_neg (by omega)] at kk hne
      rw [lN_32]
      exact cvector_ok H e (i9 (by omega)) i1 i3 (fun e2 => i8 e2) (by omega) (by omega) hne (here plQ_vec kk)
    · rw [if_neg (by omega), if_neg (by omega), if_neg (by omega), if_neg (by omega), if_neg (by omega), if_neg (by omega), if_neg (by omega), e] at kk hne
      have rz := here plQ_vec kk
      cases hs : stk s with
      | nil => unfold oVec at hne; rw [hs] at hne; exact absurd rfl hne
      | cons i t =>
        cases i with
        | inr r => unfold oVec at hne; rw [hs] at hne; exact absurd rfl hne
        | inl v =>
          have ev : oVec lim 59 x.2.2.1 s = mre (v.1 == 7) (mpay lim (32 + fln v.2.2) s fun s => mgo (sK s (.inl (7, (0, 0), fof (hby v.2.2)) :: t))) := by
            unfold oVec
            rw [hs]; rfl
          rw [ev] at rz hne
          obtain ⟨-, em⟩ := mre_n hne
          rw [em] at rz
          exact cbytes_ok H hD hs (i1 v (by rw [hs]; simp)) (by omega) (by omega) rz
end
