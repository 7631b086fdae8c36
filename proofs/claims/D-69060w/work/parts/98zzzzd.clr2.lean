/-! a worker is cleared: stacks -/
section
variable {G : Gt} {B d q wi W : Nat} {h : AH} {l : List Nat} {o : Lc} {K : Outcome → AH → Prop}
theorem clear_54 {XX : Xt} (oo : OK e_X20_clear XX) {j hh : Nat} {oB : Lc} {hS : AH} (sf : SFr h (Fa W j)) (b1 : hh ≤ 64) (b2 : h.I 2565 (Fa W j) = nI hh) (b3 : ∀ i, i < hh → ∃ x, oB (1, wi, j, i) = some x ∧ h.ER 747 (Fa W j + 2) i = some x.1 ∧ fdp x.2.2.2 ≤ 40) (b4 : ∀ i, hh ≤ i → oB (1, wi, j, i) = none) (hd : 60 ≤ XX.d) (kk : ∀ h1 l1 o1, CST XX.G B q wi W h l o h1 l1 o1 → Fr VQ hS h1 → (∀ p : Sl, ¬ (p.1 = 1 ∧ p.2.1 = wi ∧ p.2.2.1 = j) → o1 p = oB p) → (∀ k, o1 (1, wi, j, k) = none) → V XX K 78 [.ref W, .ref q, .ref (Fa W j), .int (nI hh)] [] h1) : ∀ (r i : Nat), r + i = hh → ∀ h1 l1 o1, CST XX.G B q wi W h l o h1 l1 o1 → Fr VQ hS h1 → (∀ p : Sl, ¬ (p.1 = 1 ∧ p.2.1 = wi ∧ p.2.2.1 = j ∧ p.2.2.2 < i) → o1 p = oB p) → (∀ k, k < i → o1 (1, wi, j, k) = none) → V XX K 54 [.ref W, .ref q, .ref (Fa W j), .int (nI i)] [] h1 := by
  intro r
  induction r with
  | zero =>
    intro i hi h1 l1 o1 c1 cf c2 c3
    have e : i = hh := by omega
    subst e
    have tF := c1.1.tag sf.1
    have eh : h1.I 2565 (Fa W j) = nI i := by rw [c1.1.I (PCl.no (l := [2565]) rfl _ _ rfl)]; exact b2
    refine k_X20_clear_54 (r2 := eh) oo (fun _ => kk h1 l1 o1 c1 cf (fun p hp => c2 p (fun z => hp ⟨z.1, z.2.1, z.2.2.1⟩)) (fun k => ?_)) (fun c => absurd (Int32.le_refl _) c)
    by_cases ck : k < i
    · exact c3 k ck
    · rw [c2 _ (fun z => ck z.2.2.2)]; exact b4 k (by omega)
  | succ r ih =>
    intro i hi h1 l1 o1 c1 cf c2 c3
    obtain ⟨x, z1, z2, z3⟩ := b3 i (by omega)
    have tF := c1.1.tag sf.1
    have tS := c1.1.tag sf.2.2.2.2
    have eh : h1.I 2565 (Fa W j) = nI hh := by rw [c1.1.I (PCl.no (l := [2565]) rfl _ _ rfl)]; exact b2
    have rS : h1.R 2564 (Fa W j) = some (Fa W j + 2) := by rw [c1.1.R (PCl.no (l := [2564]) rfl _ _ rfl)]; exact sf.2.2.1
    have nf : ¬ PCl W (10000 + 747) (Fa W j + 2) := fun z => by
      rcases z with z | z
      · exact VQ.no (l := fmF) rfl _ _ rfl z
      · exact absurd z.1 (by decide)
    have eS : h1.ER 747 (Fa W j + 2) i = some x.1 := by rw [c1.1.ER nf]; exact z2
    have ix : IX (nI i) 64 i := IX.mk (by omega) (by omega)
    have oi : o1 (1, wi, j, i) = some x := by rw [c2 _ (fun z => by have : i < i := z.2.2.2; omega)]; exact z1
    refine k_X20_clear_54 (r2 := eh) oo (fun c => absurd ((nI_leI (by omega) (by omega)).mp c) (by omega)) (fun _ => ?_)
    refine k_X20_clear_62 oo ?_
    refine c1.drop (p := (1, wi, j, i)) oi ⟨rfl, by show 1 ≤ 1; omega, by show 1 ≤ 3; omega⟩ (by omega) fun h2 l2 f2 d2 => ?_
    refine k_X20_clear_72 oo ?_
    rw [nI_add]
    refine ih (i + 1) (by omega) h2 l2 _ d2 (cf.trans f2) (fun p hp => ?_) (fun k hk => ?_)
    · rw [uO_n (fun e => hp (by rw [e]; exact ⟨rfl, rfl, rfl, by show i < i + 1; omega⟩))]
      exact c2 p (fun z => hp ⟨z.1, z.2.1, z.2.2.1, by have := z.2.2.2; omega⟩)
    · by_cases ck : k = i
      · rw [ck]; exact uO_s
      · rw [uO_n (fun e => ck (congrArg (fun p : Sl => p.2.2.2) e))]; exact c3 k (by omega)
end
