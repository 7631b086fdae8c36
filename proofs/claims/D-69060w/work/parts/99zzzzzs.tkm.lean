/-! the twin's machine: calls -/
section
variable {G : Gt} {d : Nat} {h h' : AH} {o o' : Lc} {tx ax UX at' at2 : Nat → Nat} {A n n' lim : Nat} {snd : Int64} {s : Ms} {K : Outcome → AH → Prop} {t : Tst} {env : Pc → Cn}
theorem TKS.get : ∀ {l : List It} {b i : Nat} {x : It}, TKS h o tx b l → l[i]? = some x → TKI h o tx (b + (l.length - 1 - i)) x
  | [], b, i, x, _, hi => by cases hi
  | y :: l, b, 0, x, hs, hi => by
    cases hi
    have : b + ((y :: l).length - 1 - 0) = b + l.length := by show b + (l.length + 1 - 1 - 0) = _; omega
    rw [this]; exact hs.1
  | y :: l, b, i + 1, x, hs, hi => by
    have hi : l[i]? = some x := hi
    have := TKS.get hs.2 hi
    have e : b + ((y :: l).length - 1 - (i + 1)) = b + (l.length - 1 - i) := by show b + (l.length + 1 - 1 - (i + 1)) = _; omega
    rw [e]; exact this
theorem TKS.drp : ∀ {l : List It} {b : Nat} (m : Nat), TKS h o tx b l → TKS h o tx b (l.drop m)
  | l, b, 0, hs => hs
  | [], b, m + 1, hs => trivial
  | y :: l, b, m + 1, hs => TKS.drp m hs.2
/-- values change their places -/
theorem TH.re {T : Nat} (v : TH h T n o) (f : Sl → Sl) (h1 : ∀ p x, o' p = some x → o (f p) = some x) (h2 : ∀ p q x y, o' p = some x → o' q = some y → p ≠ q → f p ≠ f q) : TH h T n o' := by
  obtain ⟨v1, v4, v5⟩ := v
  exact ⟨v1, ⟨fun p x hx => v4.1 _ x (h1 p x hx), fun u p c x hu hc hx => v4.2 (f u) (f p) c x (h2 u p c x hc hx hu) (h1 u c hc) (h1 p x hx)⟩, fun p x hx => v5 _ x (h1 p x hx)⟩
/-- arguments become locals -/
def crg (o : Lc) (j P nn : Nat) : Lc := fun p => if p.1 = 2 ∧ p.2.1 = 0 ∧ p.2.2.1 = j then (if p.2.2.2 < nn then o (1, 0, 0, P + p.2.2.2) else none) else if p.1 = 1 ∧ p.2.1 = 0 ∧ p.2.2.1 = 0 ∧ P ≤ p.2.2.2 then none else o p
theorem tkcall {g : Nat × Nat} {nn : Nat} (k : TK h A tx UX at' o n s) (h1 : 1 ≤ s.1) (s32 : s.1 < 32) (hn : nn ≤ (stk s).length ∧ nn ≤ 40) (q : Fq (FS tenF) h h') (te : TEN h h' A tx s.1 (bsf s.2.1 s.1) nn (UX g.1) g.2) : TK h' A tx UX (fun j => if j = s.1 then 0 else at' j) (crg o s.1 (bsf s.2.1 s.1 - nn) nn) n (s.1 + 1, uF (sK s ((stk s).drop nn)).2.1 s.1 (ent g ((stk s).take nn).reverse), s.2.2) := by
  obtain ⟨e1, e2, e3, e4⟩ := k.hgt h1
  obtain ⟨⟨k1, k2⟩, ⟨k3, k4, k5, k6, k7⟩, ⟨k8, k8', k8''⟩, k9, k10, k11, k12, k13⟩ := k
  obtain ⟨⟨a1, a2⟩, ⟨a3, a4, a5, a6⟩, a7, a8, a9⟩ := te
  have eP : bsf s.2.1 s.1 - nn = bsf s.2.1 (s.1 - 1) + ((stk s).drop nn).length := by rw [List.length_drop]; omega
  generalize hP : bsf s.2.1 s.1 - nn = P at *
  have o1 : ∀ p, P ≤ p → crg o s.1 P nn (1, 0, 0, p) = none := fun p hp => by
    unfold crg
    rw [if_neg (fun z => by have : (1 : Nat) = 2 := z.1; omega), if_pos ⟨rfl, rfl, rfl, hp⟩]
  have o1' : ∀ p, p < P → crg o s.1 P nn (1, 0, 0, p) = o (1, 0, 0, p) := fun p hp => by
    unfold crg
    rw [if_neg (fun z => by have : (1 : Nat) = 2 := z.1; omega), if_neg (fun z => by have : P ≤ p := z.2.2.2; omega)]
  have o2 : ∀ k, k < nn → crg o s.1 P nn (2, 0, s.1, k) = o (1, 0, 0, P + k) := fun k hk => by
    unfold crg
    rw [if_pos ⟨rfl, rfl, rfl⟩, if_pos hk]
  have o2' : ∀ k, ¬ k < nn → crg o s.1 P nn (2, 0, s.1, k) = none := fun k hk => by
    unfold crg
    rw [if_pos ⟨rfl, rfl, rfl⟩, if_neg hk]
  have o3 : ∀ j k, j ≠ s.1 → crg o s.1 P nn (2, 0, j, k) = o (2, 0, j, k) := fun j k hj => by
    unfold crg
    rw [if_neg (fun z => hj z.2.2), if_neg (fun z => by have : (2 : Nat) = 1 := z.1; omega)]
  have o4 : ∀ e b, crg o s.1 P nn (3, 0, e, b) = o (3, 0, e, b) := fun e b => by
    unfold crg
    rw [if_neg (fun z => by have : (3 : Nat) = 2 := z.1; omega), if_neg (fun z => by have : (3 : Nat) = 1 := z.1; omega)]
  have er : ∀ r : Rx, ∀ a, rad o 0 r = some a → rad (crg o s.1 P nn) 0 r = some a := fun r a ha => by
    have e : crg o s.1 P nn (rsl' 0 r.1) = o (rsl' 0 r.1) := by
      obtain ⟨⟨i, m⟩, p⟩ := r
      cases i with
      | zero => exact o4 m 0
      | succ j =>
        refine o3 j m (fun z => ?_)
        unfold rad at ha
        have : o (rsl' 0 (j + 1, m)) = none := k12 j m (by omega)
        rw [show o (rsl' 0 (((j + 1, m), p) : Rx).1) = none from this] at ha
        cases ha
    unfold rad at ha ⊢
    rw [e]; exact ha
  have th : TH h' (tx 0) n (crg o s.1 P nn) := by
    refine (k2.fr q.1 (FS.no (by decide))).re (fun p => if p.1 = 2 ∧ p.2.1 = 0 ∧ p.2.2.1 = s.1 then (1, 0, 0, P + p.2.2.2) else p) (fun p x hx => ?_) (fun p r x y hx hy hne => ?_)
    · unfold crg at hx
      by_cases c : p.1 = 2 ∧ p.2.1 = 0 ∧ p.2.2.1 = s.1
      · rw [if_pos c] at hx ⊢
        by_cases c2 : p.2.2.2 < nn
        · rw [if_pos c2] at hx; exact hx
        · rw [if_neg c2] at hx; cases hx
      · rw [if_neg c] at hx ⊢
        by_cases c2 : p.1 = 1 ∧ p.2.1 = 0 ∧ p.2.2.1 = 0 ∧ P ≤ p.2.2.2
        · rw [if_pos c2] at hx; cases hx
        · rw [if_neg c2] at hx; exact hx
    · have key : ∀ (p : Sl) x, crg o s.1 P nn p = some x → ¬ (p.1 = 1 ∧ p.2.1 = 0 ∧ p.2.2.1 = 0 ∧ P ≤ p.2.2.2) := fun p x hx c => by
        unfold crg at hx
        rw [if_neg (fun z => by have := z.1; have := c.1; omega), if_pos c] at hx
        cases hx
      obtain ⟨p1, p2, p3, p4⟩ := p
      obtain ⟨r1, r2, r3, r4⟩ := r
      by_cases c : p1 = 2 ∧ p2 = 0 ∧ p3 = s.1
      · by_cases c' : r1 = 2 ∧ r2 = 0 ∧ r3 = s.1
        · show (if p1 = 2 ∧ p2 = 0 ∧ p3 = s.1 then _ else _) ≠ (if r1 = 2 ∧ r2 = 0 ∧ r3 = s.1 then _ else _)
          rw [if_pos c, if_pos c']
          intro z
          have z4 : P + p4 = P + r4 := congrArg (fun p : Sl => p.2.2.2) z
          exact hne (by rw [c.1, c.2.1, c.2.2, c'.1, c'.2.1, c'.2.2, show p4 = r4 by omega])
        · show (if p1 = 2 ∧ p2 = 0 ∧ p3 = s.1 then _ else _) ≠ (if r1 = 2 ∧ r2 = 0 ∧ r3 = s.1 then _ else _)
          rw [if_pos c, if_neg c']
          intro z
          refine key _ y hy ?_
          rw [← z]
          exact ⟨rfl, rfl, rfl, by show P ≤ P + p4; omega⟩
      · by_cases c' : r1 = 2 ∧ r2 = 0 ∧ r3 = s.1
        · show (if p1 = 2 ∧ p2 = 0 ∧ p3 = s.1 then _ else _) ≠ (if r1 = 2 ∧ r2 = 0 ∧ r3 = s.1 then _ else _)
          rw [if_neg c, if_pos c']
          intro z
          refine key _ x hx ?_
          rw [z]
          exact ⟨rfl, rfl, rfl, by show P ≤ P + r4; omega⟩
        · show (if p1 = 2 ∧ p2 = 0 ∧ p3 = s.1 then _ else _) ≠ (if r1 = 2 ∧ r2 = 0 ∧ r3 = s.1 then _ else _)
          rw [if_neg c, if_neg c']
          exact hne
  -- frames
  have sf : ∀ j, j ≠ s.1 → j ≠ s.1 - 1 → uF (sK s ((stk s).drop nn)).2.1 s.1 (ent g ((stk s).take nn).reverse) j = s.2.1 j := fun j h1 h2 => by
    rw [uF_n h1]; exact uF_n h2
  have st : uF (sK s ((stk s).drop nn)).2.1 s.1 (ent g ((stk s).take nn).reverse) (s.1 - 1) = ((tpf s).1, (tpf s).2.1, (tpf s).2.2.1, (stk s).drop nn) := by
    rw [uF_n (by omega)]; exact uF_s
  have bf : ∀ j, j ≤ s.1 - 1 → bsf (uF (sK s ((stk s).drop nn)).2.1 s.1 (ent g ((stk s).take nn).reverse)) j = bsf s.2.1 j := fun j hj => bsf_c fun i hi => by rw [sf i (by omega) (by omega)]
  have bt : bsf (uF (sK s ((stk s).drop nn)).2.1 s.1 (ent g ((stk s).take nn).reverse)) s.1 = P := by
    have ee : ∀ F : Nat → Fm, bsf F s.1 = bsf F (s.1 - 1) + (F (s.1 - 1)).2.2.2.length := fun F => by
      have : s.1 = (s.1 - 1) + 1 := by omega
      conv => lhs; rw [this]
      rfl
    rw [ee, bf _ (Nat.le_refl _), st]
    exact eP.symm
  have bt1 : bsf (uF (sK s ((stk s).drop nn)).2.1 s.1 (ent g ((stk s).take nn).reverse)) (s.1 + 1) = P := by
    show bsf _ s.1 + (uF (sK s ((stk s).drop nn)).2.1 s.1 (ent g ((stk s).take nn).reverse) s.1).2.2.2.length = P
    rw [bt, uF_s]; rfl
  refine ⟨⟨k1.fr q.1 (FS.no (by decide)), th⟩, ⟨by rw [q.1.I (FS.n (by decide))]; exact k3, by rw [q.1.I (FS.n (by decide))]; exact k4, a1, by show _ = nI (bsf _ (s.1 + 1)); rw [bt1]; exact a2, by rw [q.1.I (FS.n (by decide))]; exact k7⟩, ⟨by show s.1 + 1 ≤ 32; omega, k8', k8''⟩, fun j hj => ?_, fun e x hx => (k10 e x hx).kp (fun f hf a => q.1.EI (FS.n ?_) _) (fun f hf a => q.1.EJ (FS.n ?_) _) (o4 e 0), fun p hp => ?_, fun j m hj => ?_, fun e b he => by rw [o4]; exact k13 e b he⟩
  · have hj : j < s.1 + 1 := hj
    show TKF h' _ tx UX _ (bsf (uF (sK s ((stk s).drop nn)).2.1 s.1 (ent g ((stk s).take nn).reverse)) j) j (uF (sK s ((stk s).drop nn)).2.1 s.1 (ent g ((stk s).take nn).reverse) j)
    by_cases ej : j = s.1
    · subst ej
      rw [bt, uF_s]
      refine ⟨⟨a6, a3, a4, by show _ = nI (if s.1 = s.1 then 0 else at' s.1); rw [if_pos rfl]; exact a5⟩, ⟨trivial, Nat.zero_le _⟩, fun x => ?_⟩
      show if x < 40 then TKL h' (crg o s.1 P nn) tx s.1 x (((stk s).take nn).reverse[x]?) else _
      by_cases c : x < 40
      · rw [if_pos c]
        by_cases cx : x < nn
        · have lt : ((stk s).take nn).length = nn := by rw [List.length_take]; omega
          have ge : ((stk s).take nn).reverse[x]? = (stk s)[nn - 1 - x]? := by
            rw [List.getElem?_reverse (by rw [lt]; exact cx), lt, List.getElem?_take, if_pos (by omega)]
          rw [ge]
          obtain ⟨it, hit⟩ : ∃ it, (stk s)[nn - 1 - x]? = some it := ⟨_, List.getElem?_eq_getElem (by omega)⟩
          rw [hit]
          have ti := e4.get hit
          have ep : bsf s.2.1 (s.1 - 1) + ((stk s).length - 1 - (nn - 1 - x)) = P + x := by omega
          rw [ep] at ti
          obtain ⟨b1, b2⟩ := a9 x cx
          cases it with
          | inl v =>
            obtain ⟨y, y1, y2, y3, y4⟩ := ti
            exact ⟨y, by rw [o2 x cx]; exact y1, y2, by rw [b1]; exact y3, by rw [b2]; exact y4⟩
          | inr r =>
            obtain ⟨a, y1, y2, y3, y4⟩ := ti
            exact ⟨by rw [o2 x cx]; exact y4, a, er r a y1, by rw [b1]; exact y2, by rw [b2]; exact y3⟩
        · rw [List.getElem?_eq_none (by rw [List.length_reverse, List.length_take]; omega)]
          exact o2' x cx
      · rw [if_neg c]; exact o2' x (by omega)
    · obtain ⟨⟨f1, f2, f3, f4⟩, ⟨f5, f6⟩, f7⟩ := k9 j (by omega)
      have rw4 : h'.EI 1168 (tx 5) j = nI (bsf s.2.1 j) ∧ h'.EI 1120 (tx 7) j = nI (UX (s.2.1 j).1.1) ∧ h'.EI 1136 (tx 8) j = nI (s.2.1 j).1.2 ∧ h'.EI 1152 (tx 6) j = nI (if j = s.1 then 0 else at' j) := ⟨by rw [a7 _ (by decide) _ _ ej]; exact f1, by rw [a7 _ (by decide) _ _ ej]; exact f2, by rw [a7 _ (by decide) _ _ ej]; exact f3, by rw [a7 _ (by decide) _ _ ej, if_neg ej]; exact f4⟩
      have lc : ∀ x, if x < 40 then TKL h' (crg o s.1 P nn) tx j x ((s.2.1 j).2.2.1 x) else crg o s.1 P nn (2, 0, j, x) = none := fun x => by
        have := f7 x
        by_cases c : x < 40
        · rw [if_pos c] at this ⊢
          obtain ⟨b1, b2⟩ := a8 (40 * j + x) (by omega)
          exact this.kp b1 b2 (o3 j x ej) (fun r _ => er r)
        · rw [if_neg c] at this ⊢
          rw [o3 j x ej]; exact this
      have kp1 : ∀ (b : Nat) (l : List It), TKS h o tx b l → b + l.length ≤ P → TKS h' (crg o s.1 P nn) tx b l := fun b l hl hb => hl.kp (fun p _ p2 => ⟨q.1.EI (FS.n (by decide)) _, q.1.EI (FS.n (by decide)) _, o1' p (by omega)⟩) (fun r _ => er r)
      by_cases e : j = s.1 - 1
      · subst e
        rw [st, bf _ (Nat.le_refl _)]
        exact ⟨rw4, ⟨kp1 _ _ (e4.drp nn) (Nat.le_of_eq eP.symm), by show ((stk s).drop nn).length ≤ 64; rw [List.length_drop]; omega⟩, lc⟩
      · rw [sf j ej e, bf j (by omega)]
        refine ⟨rw4, ⟨kp1 _ _ f5 ?_, f6⟩, lc⟩
        have : bsf s.2.1 (j + 1) ≤ bsf s.2.1 (s.1 - 1) := bsf_m (by omega)
        have e2 : bsf s.2.1 (j + 1) = bsf s.2.1 j + (s.2.1 j).2.2.2.length := rfl
        omega
  · simp only [List.mem_cons, List.mem_nil_iff, or_false] at hf
    rcases hf with e | e | e | e <;> (rw [e]; decide)
  · simp only [List.mem_cons, List.mem_nil_iff, or_false] at hf
    rcases hf with e | e <;> (rw [e]; decide)
  · have hp : bsf _ (s.1 + 1) ≤ p := hp
    rw [bt1] at hp
    exact o1 p hp
  · have hj : s.1 + 1 ≤ j := hj
    rw [o3 j m (by omega)]; exact k12 j m (by omega)
theorem T5.crg {j P nn : Nat} (t5 : T5 o) : T5 (crg o j P nn) := fun a b c => by
  show (if (5 : Nat) = 2 ∧ _ then _ else if (5 : Nat) = 1 ∧ _ then none else o (5, a, b, c)) = none
  rw [if_neg (fun z => by have := z.1; omega), if_neg (fun z => by have := z.1; omega)]
  exact t5 a b c
end
