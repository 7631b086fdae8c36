/-! a worker is cleared -/
def crF : List Nat := [10000 + 731, 2438, 1159, 1025]
def PCl (W g a : Nat) : Prop := VQ g a ∨ (crF.contains g = true ∧ W ≤ a ∧ a < W + 130)
theorem PCl.ip {W : Nat} : ∀ g a, PCl W g a → IP W g a := fun g a z => by
  rcases z with z | ⟨z, z2⟩
  · exact Or.inl z
  · refine Or.inr (Or.inl ⟨?_, z2⟩)
    have : crF.all (fun f => ipM.contains f) = true := rfl
    rw [List.all_eq_true] at this
    exact this g (List.contains_iff_mem.mp z)
theorem PCl.no {W : Nat} {l : List Nat} (h : l.all (fun f => !((3712 ≤ f && f ≤ 3718) || f == 1280 || crF.contains f)) = true) : ∀ f a, l.contains f = true → ¬ PCl W f a := fun f a hf z => by
  rw [List.all_eq_true] at h
  have := h f (List.contains_iff_mem.mp hf)
  simp only [Bool.not_eq_true', Bool.or_eq_false_iff, Bool.and_eq_false_iff] at this
  obtain ⟨⟨t1, t2⟩, t3⟩ := this
  rcases z with (z | z) | z
  · rcases t1 with t | t
    · exact absurd z.1 (by simpa using t)
    · exact absurd z.2 (by simpa using t)
  · rw [z] at t2; simp at t2
  · rw [t3] at z; exact absurd z.1 (by decide)
/-- values go, nothing else -/
def CST (G : Gt) (B q wi W : Nat) (h : AH) (l : List Nat) (o : Lc) (h1 : AH) (l1 : List Nat) (o1 : Lc) : Prop := Fr (PCl W) h h1 ∧ VH G B h1 q l1 o1 ∧ (∀ p : Sl, o1 p = o p ∨ (o1 p = none ∧ p.2.1 = wi ∧ 1 ≤ p.1 ∧ p.1 ≤ 3)) ∧ (∀ p x, o1 p = some x → h1.R 3718 x.1 = h.R 3718 x.1) ∧ av G h l ≤ av G h1 l1
section
variable {G : Gt} {B d q wi W : Nat} {h : AH} {l : List Nat} {o : Lc} {K : Outcome → AH → Prop}
theorem CST.refl (v : VH G B h q l o) : CST G B q wi W h l o h l o := ⟨Fr.refl h, v, fun _ => Or.inl rfl, fun _ _ _ => rfl, Nat.le_refl _⟩
/-- one value goes -/
theorem CST.drop {h1 : AH} {l1 : List Nat} {o1 : Lc} {p : Sl} {x : LV} (s : CST G B q wi W h l o h1 l1 o1) (hp : o1 p = some x) (hs : p.2.1 = wi ∧ 1 ≤ p.1 ∧ p.1 ≤ 3) (hd : fdp x.2.2.2 ≤ d) (kk : ∀ h2 l2, Fr VQ h1 h2 → CST G B q wi W h l o h2 l2 (uO o1 p none) → K (.returned none) h2) : MW G d e_X11_drop [.ref q, .ref x.1] h1 K := by
  obtain ⟨s1, s2, s3, s4, s5⟩ := s
  refine vdrop_ok s2 hp hd fun h2 l2 f2 n2 v2 tg2 a2 => ?_
  refine kk h2 l2 f2 ⟨s1.trans (f2.mono fun g a z => Or.inl z), v2, fun r => ?_, fun r y hy => ?_, by omega⟩
  · by_cases c : r = p
    · rw [c, uO_s]; exact Or.inr ⟨rfl, hs⟩
    · rw [uO_n c]; exact s3 r
  · by_cases c : r = p
    · rw [c, uO_s] at hy; cases hy
    · rw [uO_n c] at hy
      rw [tg2 r y (by simpa using c) hy]; exact s4 r y hy
/-- something of the worker's own is written -/
theorem CST.wr {P : Nat → Nat → Prop} {h1 h2 : AH} {l1 : List Nat} {o1 : Lc} (s : CST G B q wi W h l o h1 l1 o1) (f : Fq P h1 h2) (hp : ∀ g a, P g a → crF.contains g = true ∧ W ≤ a ∧ a < W + 130) : CST G B q wi W h l o h2 l1 o1 := by
  obtain ⟨s1, s2, s3, s4, s5⟩ := s
  obtain ⟨v2, tg⟩ := s2.oth f (fun g a z z2 => VQ.no (l := crF) rfl g a (hp g a z2).1 z)
  exact ⟨s1.trans (f.1.mono fun g a z => Or.inr (hp g a z)), v2, s3, fun p x hx => by rw [tg p x (by simp) hx]; exact s4 p x hx, by unfold av at s5 ⊢; rw [f.2.1]; exact s5⟩
/-- a frame whose values can go -/
def FDR (h : AH) (o : Lc) (wi W j : Nat) : Prop := ∃ hh, hh ≤ 64 ∧ h.I 2565 (Fa W j) = nI hh ∧ (∀ i, i < hh → ∃ x, o (1, wi, j, i) = some x ∧ h.ER 747 (Fa W j + 2) i = some x.1 ∧ fdp x.2.2.2 ≤ 40) ∧ (∀ i, hh ≤ i → o (1, wi, j, i) = none) ∧ (∀ k, k < 40 → (o (2, wi, j, k) = none ∧ h.ER 731 (Fa W j + 1) k = none) ∨ ∃ x, o (2, wi, j, k) = some x ∧ h.ER 731 (Fa W j + 1) k = some x.1 ∧ fdp x.2.2.2 ≤ 40) ∧ ∀ k, 40 ≤ k → o (2, wi, j, k) = none
theorem FmR.fdr {j : Nat} {MA : Ma} {f : Fm} (m : FmR h o wi j (Fa W j) MA f) (h1 : ∀ v, (Sum.inl v : It) ∈ f.2.2.2 → fdp v.2.2 ≤ 40) (h2 : ∀ k v, f.2.2.1 k = some (.inl v) → fdp v.2.2 ≤ 40) : FDR h o wi W j := by
  obtain ⟨⟨-, -, -, m4, m5⟩, m6, m7, m8, m9⟩ := m
  have dp : ∀ (i : It) (x : LV), ItL h o wi i x → (∀ v, i = .inl v → fdp v.2.2 ≤ 40) → fdp x.2.2.2 ≤ 40 := fun i x hi hv => by
    cases i with
    | inl v =>
      have := hv v rfl
      have e : lvE x = v := hi
      rw [← e] at this
      have e2 : fdp (lvE x).2.2 = fdp x.2.2.2 := fer_dp _
      omega
    | inr r => rw [hi.2.1]; simp [fdp]
  refine ⟨f.2.2.2.length, m5, m4, fun i hi => ?_, m7, fun k hk => ?_, m9⟩
  · obtain ⟨it, hit⟩ : ∃ it, (f.2.2.2)[f.2.2.2.length - 1 - i]? = some it := ⟨_, List.getElem?_eq_getElem (by omega)⟩
    obtain ⟨x, x1, x2, x3⟩ := m6.nth hit
    rw [show f.2.2.2.length - 1 - (f.2.2.2.length - 1 - i) = i by omega] at x1 x2
    exact ⟨x, x1, x2, dp it x x3 (fun v e => h1 v (by rw [← e]; exact List.mem_of_getElem? hit))⟩
  · have := m8 k hk
    cases hl : f.2.2.1 k with
    | none =>
      rw [hl] at this
      rcases this with z | ⟨x, x1, x2, x3, x4⟩
      · exact Or.inl z
      · exact Or.inr ⟨x, x1, x2, by rw [x4]; simp [fdp]⟩
    | some i =>
      rw [hl] at this
      obtain ⟨x, x1, x2, x3⟩ := this
      exact Or.inr ⟨x, x1, x2, dp i x x3 (fun v e => h2 k v (by rw [hl, e]))⟩
def PLj (W j g a : Nat) : Prop := VQ g a ∨ (g = 10000 + 731 ∧ a = Fa W j + 1)
/-- locals go -/
theorem clear_14 {XX : Xt} (oo : OK e_X20_clear XX) {j : Nat} (hj : j < 32) (sf : SFr h (Fa W j)) (fd : FDR h o wi W j) (hd : 60 ≤ XX.d) (kk : ∀ h1 l1 o1, CST XX.G B q wi W h l o h1 l1 o1 → Fr (PLj W j) h h1 → (∀ p : Sl, ¬ (p.1 = 2 ∧ p.2.1 = wi ∧ p.2.2.1 = j) → o1 p = o p) → (∀ k, o1 (2, wi, j, k) = none) → V XX K 52 [.ref W, .ref q, .ref (Fa W j), .int (nI 40)] [] h1) : ∀ (r i : Nat), r + i = 40 → ∀ h1 l1 o1, CST XX.G B q wi W h l o h1 l1 o1 → Fr (PLj W j) h h1 → (∀ p : Sl, ¬ (p.1 = 2 ∧ p.2.1 = wi ∧ p.2.2.1 = j ∧ p.2.2.2 < i) → o1 p = o p) → (∀ k, k < i → o1 (2, wi, j, k) = none) → (∀ k, i ≤ k → h1.ER 731 (Fa W j + 1) k = h.ER 731 (Fa W j + 1) k) → V XX K 14 [.ref W, .ref q, .ref (Fa W j), .int (nI i)] [] h1 := by
  obtain ⟨hh, b1, b2, b3, b4, b5, b6⟩ := fd
  intro r
  induction r with
  | zero =>
    intro i hi h1 l1 o1 c1 cf c2 c3 c4
    have e : i = 40 := by omega
    subst e
    refine k_X20_clear_14 oo (fun _ => kk h1 l1 o1 c1 cf (fun p hp => c2 p (fun z => hp ⟨z.1, z.2.1, z.2.2.1⟩)) (fun k => ?_)) (fun c => absurd (Int32.le_refl _) c)
    by_cases ck : k < 40
    · exact c3 k ck
    · rw [c2 _ (fun z => ck z.2.2.2)]; exact b6 k (by omega)
  | succ r ih =>
    intro i hi h1 l1 o1 c1 cf c2 c3 c4
    have ix : IX (nI i) 40 i := IX.mk (by omega) (by omega)
    have go : ∀ h2 l2 o2, CST XX.G B q wi W h l o h2 l2 o2 → Fr VQ h1 h2 → (∀ p, p ≠ (2, wi, j, i) → o2 p = o1 p) → o2 (2, wi, j, i) = none → V XX K 39 [.ref W, .ref q, .ref (Fa W j), .int (nI i)] [] h2 := fun h2 l2 o2 d1 d2 d3 d4 => by
      have tF := d1.1.tag sf.1
      have tL := d1.1.tag sf.2.2.2.1
      have rL : h2.R 2563 (Fa W j) = some (Fa W j + 1) := by rw [d1.1.R (PCl.no (l := [2563]) rfl _ _ rfl)]; exact sf.2.1
      refine k_X20_clear_39 oo ?_
      rw [nI_add]
      refine ih (i + 1) (by omega) _ l2 o2 (d1.wr (P := fun g a => g = 10000 + 731 ∧ a = Fa W j + 1) (Fq.sER (Fq.refl h2) ⟨rfl, rfl⟩) (fun g a z => ⟨by rw [z.1]; rfl, by rw [z.2]; unfold Fa; omega, by rw [z.2]; unfold Fa; omega⟩)) ((cf.trans (d2.mono fun g a z => Or.inl z)).sER (Or.inr ⟨rfl, rfl⟩)) (fun p hp => ?_) (fun k hk => ?_) (fun k hk => ?_)
      · rw [d3 p (fun e => hp (by rw [e]; exact ⟨rfl, rfl, rfl, by show i < i + 1; omega⟩))]
        exact c2 p (fun z => hp ⟨z.1, z.2.1, z.2.2.1, by have := z.2.2.2; omega⟩)
      · by_cases ck : k = i
        · rw [ck]; exact d4
        · rw [d3 _ (fun e => ck (congrArg (fun p : Sl => p.2.2.2) e))]; exact c3 k (by omega)
      · have ck : k ≠ i := by omega
        simp [n_sI, z_sI, tag_sI, I_sI, J_sI, R_sI, EI_sI, EJ_sI, ER_sI, n_sJ, z_sJ, tag_sJ, I_sJ, J_sJ, R_sJ, EI_sJ, EJ_sJ, ER_sJ, n_sR, z_sR, tag_sR, I_sR, J_sR, R_sR, EI_sR, EJ_sR, ER_sR, n_sEI, z_sEI, tag_sEI, I_sEI, J_sEI, R_sEI, EI_sEI, EJ_sEI, ER_sEI, n_sEJ, z_sEJ, tag_sEJ, I_sEJ, J_sEJ, R_sEJ, EI_sEJ, EJ_sEJ, ER_sEJ, n_sER, z_sER, tag_sER, I_sER, J_sER, R_sER, EI_sER, EJ_sER, ER_sER, n_nw, z_nw, tag_nw, I_nw, J_nw, R_nw, EI_nw, EJ_nw, ER_nw, ck]
        rw [d2.ER (VQ.no (l := fmF) rfl _ _ rfl)]
        exact c4 k (by omega)
    have tF := c1.1.tag sf.1
    have tL := c1.1.tag sf.2.2.2.1
    have rL : h1.R 2563 (Fa W j) = some (Fa W j + 1) := by rw [c1.1.R (PCl.no (l := [2563]) rfl _ _ rfl)]; exact sf.2.1
    refine k_X20_clear_14 oo (fun c => absurd ((nI_leI (by omega) (by omega)).mp c) (by omega)) (fun _ => ?_)
    have oi : o1 (2, wi, j, i) = o (2, wi, j, i) := c2 _ (fun z => by have : i < i := z.2.2.2; omega)
    rcases b5 i (by omega) with ⟨z1, z2⟩ | ⟨x, z1, z2, z3⟩
    · have z2' : h1.ER 731 (Fa W j + 1) i = none := by rw [c4 i (Nat.le_refl _)]; exact z2
      refine k_X20_clear_20 (r8 := z2') oo (fun _ => ?_) (fun a c => by cases c)
      exact go h1 l1 o1 c1 (Fr.refl h1) (fun _ _ => rfl) (by rw [oi]; exact z1)
    · have z2' : h1.ER 731 (Fa W j + 1) i = some x.1 := by rw [c4 i (Nat.le_refl _)]; exact z2
      refine k_X20_clear_20 (r8 := z2') oo (fun c => by cases c) (fun a _ => ?_)
      refine k_X20_clear_29 oo ?_
      refine c1.drop (p := (2, wi, j, i)) (by rw [oi]; exact z1) ⟨rfl, by show 1 ≤ 2; omega, by show 2 ≤ 3; omega⟩ (by omega) fun h2 l2 f2 d2 => ?_
      exact go h2 l2 _ d2 f2 (fun p hp => uO_n hp) uO_s
end
