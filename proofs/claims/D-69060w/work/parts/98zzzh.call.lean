/-! calls -/
def IPR (G : Gt) (B : Nat) (h : AH) (A W q BA X tt : Nat) (snd : Int64) (lim SP wi : Nat) (MA : Ma) (l : List Nat) (o : Lc) (s : Ms) : Prop := CTX h A W q BA X tt snd lim SP ∧ VH G B h q l o ∧ WkR h o wi W MA s ∧ gas s ≤ lim ∧ WDR h A
theorem OPR.ipr {G : Gt} {B : Nat} {h : AH} {A W q BA X tt : Nat} {snd : Int64} {lim SP wi : Nat} {MA : Ma} {l : List Nat} {o : Lc} {s : Ms} (H : OPR G B h A W q BA X tt snd lim SP wi MA l o s) : IPR G B h A W q BA X tt snd lim SP wi MA l o s := ⟨H.1, H.2.1, H.2.2.1, H.2.2.2.2.1, H.2.2.2.2.2⟩
/-- what an instruction owes -/
def RZI (K : Outcome → AH → Prop) (G : Gt) (B : Nat) (h : AH) (A W q BA X tt : Nat) (snd : Int64) (lim SP wi : Nat) (MA : Ma) (o : Lc) (n : Nat) (sc : Pc → Option (Int32 × Int32)) (r : Rz) : Prop := match r with
  | none => True
  | some (.ok s') => ∀ h' l' o' MA', OUT wi W h h' o o' → IPR G B h' A W q BA X tt snd lim SP wi MA' l' o' s' → MAX n MA MA' (plc s') sc → (∀ j, j < s'.1 → MA'.2.2.1 j = (s'.2.1 j).2.1) → K (.returned none) h'
  | some (.error e) => ∀ h' l' o' MA', OUT wi W h h' o o' → IPR G B h' A W q BA X tt snd lim SP wi MA' l' o' e.2.2 → MAX n MA MA' (plc e.2.2) sc → h'.I 24 A = nI e.1 → h'.J 25 A = e.2.1 → K (.threw SP) h'
def cst (s : Ms) (g : Nat × Nat) (n j : Nat) : Ms := (s.1 + 1, uF (uF s.2.1 (s.1 - 1) ((tpf s).1, (tpf s).2.1, (tpf s).2.2.1, (stk s).drop j)) s.1 (g, 0, (fun k => if n ≤ k + j ∧ k < n then (stk s)[n - 1 - k]? else none), []), s.2.2)
section
variable {G : Gt} {B d : Nat} {h : AH} {l : List Nat} {o : Lc} {wi W A q BA X tt lim SP t : Nat} {snd : Int64} {MA : Ma} {s : Ms} {K : Outcome → AH → Prop}
theorem uF_self {F : Nat → Fm} {j : Nat} {f : Fm} (h : f = F j) : uF F j f = F := by
  funext i
  unfold uF
  by_cases c : i = j
  · rw [if_pos c, c, h]
  · rw [if_neg c]
theorem cst_0 {g : Nat × Nat} {n : Nat} (h1 : 1 ≤ s.1) : cst s g n 0 = (s.1 + 1, uF s.2.1 s.1 (g, 0, fun _ => none, []), s.2.2) := by
  unfold cst
  rw [List.drop_zero, uF_self (F := s.2.1) (j := s.1 - 1) (f := ((tpf s).1, (tpf s).2.1, (tpf s).2.2.1, stk s)) rfl]
  congr 6
  funext k
  rw [if_neg (by omega)]
theorem cst_s {g : Nat × Nat} {n j : Nat} {i : It} (ht : t + 1 = s.1) (hj : j < n) (hi : (stk s)[j]? = some i) : cst s g n (j + 1) = ((cst s g n j).1, uF (uF (cst s g n j).2.1 t (((cst s g n j).2.1 t).1, ((cst s g n j).2.1 t).2.1, ((cst s g n j).2.1 t).2.2.1, (stk s).drop (j + 1))) (t + 1) (((cst s g n j).2.1 (t + 1)).1, ((cst s g n j).2.1 (t + 1)).2.1, uLc ((cst s g n j).2.1 (t + 1)).2.2.1 (n - 1 - j) (some i), ((cst s g n j).2.1 (t + 1)).2.2.2), (cst s g n j).2.2) := by
  have e1 : s.1 - 1 = t := by omega
  have ft : (cst s g n j).2.1 t = ((tpf s).1, (tpf s).2.1, (tpf s).2.2.1, (stk s).drop j) := by
    show uF (uF s.2.1 (s.1 - 1) _) s.1 _ t = _
    rw [uF_e (by omega), e1]
    unfold uF; rw [if_pos rfl]
  have ft1 : (cst s g n j).2.1 (t + 1) = (g, 0, (fun k => if n ≤ k + j ∧ k < n then (stk s)[n - 1 - k]? else none), []) := by
    show uF (uF s.2.1 (s.1 - 1) _) s.1 _ (t + 1) = _
    rw [ht]
    unfold uF; rw [if_pos rfl]
  rw [ft, ft1]
  refine Prod.ext rfl (Prod.ext ?_ rfl)
  show uF (uF s.2.1 (s.1 - 1) _) s.1 _ = uF (uF (uF (uF s.2.1 (s.1 - 1) _) s.1 _) t _) (t + 1) _
  rw [e1, ← ht, uF_c (i := t + 1) (j := t) (by omega), uF_u, uF_u]
  congr 4
  funext k
  unfold uLc
  by_cases c : k = n - 1 - j
  · rw [if_pos c, if_pos (by omega), ← hi]
    congr 1; omega
  · rw [if_neg c]
    show (if n ≤ k + (j + 1) ∧ k < n then (stk s)[n - 1 - k]? else none) = (if n ≤ k + j ∧ k < n then (stk s)[n - 1 - k]? else none)
    by_cases c2 : n ≤ k + j ∧ k < n
    · rw [if_pos c2, if_pos (by omega)]
    · rw [if_neg c2, if_neg (by omega)]
theorem cst_n {g : Nat × Nat} {n i : Nat} {m : Md} {u : Ux} (ht : t + 1 = s.1) (hn : n ≤ (stk s).length) : (let s1 := nx m u (i + 1) (sK s ((stk s).drop n)); ((s1.1 + 1, uF s1.2.1 s1.1 (ent g ((stk s).take n).reverse), s1.2.2) : Ms)) = ((cst s g n n).1, uF (cst s g n n).2.1 t (((cst s g n n).2.1 t).1, i + 1, fgl (lnt m u (i + 1)) ((cst s g n n).2.1 t).2.2.1, ((cst s g n n).2.1 t).2.2.2), (cst s g n n).2.2) := by
  have e1 : s.1 - 1 = t := by omega
  have ft : (cst s g n n).2.1 t = ((tpf s).1, (tpf s).2.1, (tpf s).2.2.1, (stk s).drop n) := by
    show uF (uF s.2.1 (s.1 - 1) _) s.1 _ t = _
    rw [uF_e (by omega), e1]
    unfold uF; rw [if_pos rfl]
  rw [ft]
  refine Prod.ext rfl (Prod.ext ?_ rfl)
  show uF (uF (uF s.2.1 (s.1 - 1) _) (s.1 - 1) ((tpf (sK s ((stk s).drop n))).1, i + 1, fgl (lnt m u (i + 1)) (lcs (sK s ((stk s).drop n))), stk (sK s ((stk s).drop n)))) s.1 _ = uF (uF (uF s.2.1 (s.1 - 1) _) s.1 _) t _
  have tp : tpf (sK s ((stk s).drop n)) = ((tpf s).1, (tpf s).2.1, (tpf s).2.2.1, (stk s).drop n) := by
    show uF s.2.1 (s.1 - 1) _ (s.1 - 1) = _
    unfold uF; rw [if_pos rfl]
  have lk : lcs (sK s ((stk s).drop n)) = (tpf s).2.2.1 := by unfold lcs; rw [tp]
  rw [stk_K, lk, tp, uF_u, e1, ← ht, uF_c (i := t + 1) (j := t) (by omega), uF_u]
  congr 1
  unfold ent
  congr 3
  funext k
  by_cases c : k < n
  · rw [if_pos (by omega), List.getElem?_reverse (by rw [List.length_take]; omega), List.length_take, List.getElem?_take]
    rw [if_pos (by omega), Nat.min_eq_left hn]
  · rw [if_neg (by omega), List.getElem?_eq_none (by rw [List.length_reverse, List.length_take]; omega)]
/-- arguments go over -/
theorem call_136 {XX : Xt} (oo : OK e_X1_call XX) {g : Nat × Nat} {n : Nat} {l1 l2 l3 l4 l5 : Value} (ht : t + 1 = s.1) (hn : n ≤ (stk s).length) (hn8 : n ≤ 40) (h32 : s.1 < 32) (kk : ∀ h' o', OUT wi W h h' o o' → VH XX.G B h' q l o' → WkR h' o' wi W MA (cst s g n n) → h'.n = h.n → WDR h' A → K (.returned none) h') : ∀ (r j : Nat), r + j = n → ∀ h1 o1, OUT wi W h h1 o o1 → VH XX.G B h1 q l o1 → WkR h1 o1 wi W MA (cst s g n j) → h1.n = h.n → WDR h1 A → (∀ k, k + j < n ∨ n ≤ k → o1 (2, wi, t + 1, k) = none) → V XX K 136 [.ref A, l1, l2, l3, l4, l5, .ref (Fa W t), .ref (Fa W (t + 1)), .int (nI r - nI 1)] [] h1 := by
  intro r
  have am : ∀ x : Int32, x + (-1) = x - nI 1 := fun x => by rw [Int32.sub_eq_add_neg]; rfl
  induction r with
  | zero =>
    intro j hj h1 o1 u1 v1 w1 n1 z1 f1
    refine k_X1_call_136 oo (fun _ => ?_) (fun c => absurd (show nI 0 - nI 1 < 0 by decide) c)
    refine k_X1_call_177 oo ?_
    rw [show j = n by omega] at w1
    exact kk h1 o1 u1 v1 w1 n1 z1
  | succ r ih =>
    intro j hj h1 o1 u1 v1 w1 n1 z1 f1
    have er : nI (r + 1) - nI 1 = nI r := by rw [nI_sub (by omega)]; rfl
    rw [er]
    refine k_X1_call_136 oo (fun c => absurd c (nI_nn (by omega))) (fun _ => ?_)
    have e1 : s.1 - 1 = t := by omega
    obtain ⟨i, hi⟩ : ∃ i, (stk s)[j]? = some i := ⟨_, List.getElem?_eq_getElem (by omega)⟩
    have ft : (cst s g n j).2.1 t = ((tpf s).1, (tpf s).2.1, (tpf s).2.2.1, (stk s).drop j) := by
      show uF (uF s.2.1 (s.1 - 1) _) s.1 _ t = _
      rw [uF_e (by omega), e1]
      unfold uF; rw [if_pos rfl]
    have hk : ((cst s g n j).2.1 t).2.2.2 = i :: (stk s).drop (j + 1) := by
      rw [ft]
      show (stk s).drop j = _
      rw [List.drop_eq_getElem_cons (by omega)]
      rw [List.getElem?_eq_getElem (by omega)] at hi
      rw [Option.some.inj hi]
    have s1 : (cst s g n j).1 = s.1 + 1 := rfl
    obtain ⟨⟨m1, m2, m3, m4, m5⟩, m6, -⟩ := w1.2.1 t (by omega)
    rw [hk] at m4 m6 m5
    obtain ⟨⟨x, x1, x2, x3⟩, -⟩ := m6
    have m4 : h1.I 2565 (Fa W t) = nI (((stk s).drop (j + 1)).length + 1) := m4
    have m5 : ((stk s).drop (j + 1)).length + 1 ≤ 64 := m5
    obtain ⟨-, a1, a2, a3, a4, a5⟩ := w1.1.1.2.2.1 t (by omega)
    obtain ⟨-, b1, b2, b3, b4, b5⟩ := w1.1.1.2.2.1 (t + 1) (by omega)
    have eh : nI (((stk s).drop (j + 1)).length + 1) - nI 1 = nI ((stk s).drop (j + 1)).length := by rw [nI_sub (by omega)]; rfl
    have ix : IX (nI (((stk s).drop (j + 1)).length + 1) - nI 1) 64 ((stk s).drop (j + 1)).length := by rw [eh]; exact IX.mk (by omega) (by omega)
    have ix2 : IX (nI r) 40 r := IX.mk (by omega) (by omega)
    have tx := (v1.2.2.2 _ _ x1).1.1
    have ft2 : fitE (h1.sI 2565 (Fa W t) (nI (((stk s).drop (j + 1)).length + 1) - nI 1)) 11 (some x.1) := tx
    refine k_X1_call_141 (r2 := m4) oo ?_
    rw [am, eh]
    have hfree := f1 r (by omega)
    have w2 := w1.mv (t := t) (c := r) (x := x) (by rw [s1]; omega) hk (by omega) hfree x1
    have e2 := cst_s (g := g) (n := n) ht (by omega) hi
    rw [show n - 1 - j = r by omega] at e2
    rw [← e2] at w2
    have fq : Fq (PMv W t) h1 ((h1.sI 2565 (Fa W t) (nI ((stk s).drop (j + 1)).length)).sER 731 (Fa W (t + 1) + 1) r (some x.1)) := by
      refine Fq.sER (Fq.sI (Fq.refl h1) ?_) ?_
      · exact Or.inl ⟨rfl, rfl⟩
      · exact Or.inr ⟨rfl, rfl⟩
    obtain ⟨v2, tg2⟩ := v1.oth fq PMv.vq
    refine ih (j + 1) (by omega) _ _ (u1.trans ⟨fq.1.mono (PMv.ip (by omega)), fun p hp => ⟨?_, fun y hy => tg2 p y (by simp) hy⟩⟩) (v2.mov x1 hfree) w2 (by rw [fq.2.1]; exact n1) (z1.fr fq.1 (fun a => PMv.no (l := [27]) rfl _ a rfl) (fun a => PMv.no (l := [2306]) rfl _ a rfl)) (fun k hk2 => ?_)
    · rw [uO_n (OUT.ne hp (by omega)), uO_n (OUT.ne hp (by omega))]
    · rw [uO_n (fun e => by
        have := congrArg (fun p : Sl => p.2.2.2) e
        have : k = r := this
        omega), uO_n (fun e => by
        have : (2 : Nat) = 1 := congrArg Prod.fst e
        omega)]
      exact f1 k (by omega)
end
