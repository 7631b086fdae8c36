/-! branches -/
def mbr (m : Md) (u : Ux) (op a : Nat) (s : Ms) : Rz := if op = 2 then mgo (nx m u a s) else match stk s with
  | .inl v :: t => mre (v.1 == 1) (mgo (nx m u (if (v.2.1.2 == 1) == (op == 3) then a else (tpf s).2.1 + 1) (sK s t)))
  | _ => none
section
variable {G : Gt} {B d : Nat} {h : AH} {l : List Nat} {o : Lc} {wi W A q BA X tt lim SP t : Nat} {snd : Int64} {MA : Ma} {s : Ms} {K : Outcome → AH → Prop}
theorem WkR.at {p : Nat} (w : WkR h o wi W MA s) (ht : t + 1 = s.1) : WkR (h.sI 2562 (Fa W t) (nI p)) o wi W (maA MA t p) s := by
  have fq : Fq (P1 2562 (Fa W t)) h (h.sI 2562 (Fa W t) (nI p)) := Fq.sI (Fq.refl h) ⟨rfl, rfl⟩
  have ea : (h.sI 2562 (Fa W t) (nI p)).I 2562 (Fa W t) = nI p := by simp [n_sI, z_sI, tag_sI, I_sI, J_sI, R_sI, EI_sI, EJ_sI, ER_sI, n_sJ, z_sJ, tag_sJ, I_sJ, J_sJ, R_sJ, EI_sJ, EJ_sJ, ER_sJ, n_sR, z_sR, tag_sR, I_sR, J_sR, R_sR, EI_sR, EJ_sR, ER_sR, n_sEI, z_sEI, tag_sEI, I_sEI, J_sEI, R_sEI, EI_sEI, EJ_sEI, ER_sEI, n_sEJ, z_sEJ, tag_sEJ, I_sEJ, J_sEJ, R_sEJ, EI_sEJ, EJ_sEJ, ER_sEJ, n_sER, z_sER, tag_sER, I_sER, J_sER, R_sER, EI_sER, EJ_sER, ER_sER, n_nw, z_nw, tag_nw, I_nw, J_nw, R_nw, EI_nw, EJ_nw, ER_nw]
  generalize hh : h.sI 2562 (Fa W t) (nI p) = h' at fq ea
  obtain ⟨⟨w1, w2, w3, w4, w5, w6⟩, w7, w8, w9⟩ := w
  have np : ∀ g a, g ≠ 2562 → ¬ P1 2562 (Fa W t) g a := fun g a h1 z => h1 z.1
  have sub : ∀ l' : List Nat, l'.all (fun f => !(f == 2562)) = true → ∀ f a, l'.contains f = true → ¬ P1 2562 (Fa W t) f a := fun l' hl f a hf => np f a (fun e => by
    rw [List.all_eq_true] at hl
    have := hl f (List.contains_iff_mem.mp hf)
    rw [e] at this; simp at this)
  refine ⟨⟨w1.fr fq.1 (sub swF rfl), by rw [fq.1.I (np _ _ (by decide))]; exact w2, w3, w4, by rw [fq.1.I (np _ _ (by decide))]; exact w5, by rw [fq.1.I (np _ _ (by decide))]; exact w6⟩, fun j hj => ?_, w8, w9.keep fq.1 (fun g a hg _ _ => sub enF rfl g a hg) (fun _ _ => rfl)⟩
  by_cases c : j = t
  · subst c
    obtain ⟨⟨m1, m2, m3, m4, m5⟩, m6, m7, m8, m9⟩ := w7 j hj
    refine ⟨⟨by rw [fq.1.R (np _ _ (by decide))]; exact m1, by rw [fq.1.R (np _ _ (by decide))]; exact m2, ?_, by rw [fq.1.I (np _ _ (by decide))]; exact m4, m5⟩, m6.keep (fun _ _ => rfl) (fun n _ => fq.1.ER (np _ _ (by decide)) n) (fun n x _ hx => fq.1.R (np _ _ (by decide))) (fun r _ a ha => ha), m7, m8.keep (fun _ _ => rfl) (fun n _ => fq.1.ER (np _ _ (by decide)) n) (fun n x hx => fq.1.R (np _ _ (by decide))) (fun n r _ _ a ha => ha), m9⟩
    rw [ea]
    show nI p = nI (if j = j then p else MA.2.2.1 j)
    rw [if_pos rfl]
  · refine FmR.ma (MA := MA) (MA' := maA MA t p) rfl rfl ?_ ((w7 j hj).keep fq.1 (fun g a hg h1 h2 z => ?_) (fun _ _ _ => rfl) (fun c i x _ hx => fq.1.R (np _ _ (by decide))) (fun r _ a ha => ha))
    · show (if j = t then p else MA.2.2.1 j) = _
      rw [if_neg c]
    · have := z.2
      unfold Fa at *
      omega
theorem OPR.sat {p : Nat} (H : OPR G B h A W q BA X tt snd lim SP wi MA l o s) (ht : t + 1 = s.1) : OUT wi W h (h.sI 2562 (Fa W t) (nI p)) o o ∧ OPR G B (h.sI 2562 (Fa W t) (nI p)) A W q BA X tt snd lim SP wi (maA MA t p) l o s ∧ av G (h.sI 2562 (Fa W t) (nI p)) l = av G h l := by
  obtain ⟨c, v, w, hf, hg, hw⟩ := H
  have t32 : t < 32 := by have := w.1.2.2.2.1; omega
  have w2 := w.at (p := p) ht
  have fq : Fq (P1 2562 (Fa W t)) h (h.sI 2562 (Fa W t) (nI p)) := Fq.sI (Fq.refl h) ⟨rfl, rfl⟩
  have np : ∀ g a, g ≠ 2562 → ¬ P1 2562 (Fa W t) g a := fun g a h1 z => h1 z.1
  have fi : Fr (IP W) h (h.sI 2562 (Fa W t) (nI p)) := fq.1.mono fun g a z => PTF.ip (W := W) (j := t) t32 g a (Or.inl ⟨by rw [z.1]; rfl, by rw [z.2]; omega, by rw [z.2]; omega⟩)
  obtain ⟨v1, tg⟩ := v.oth fq (fun g a z z2 => VQ.no (l := fmF) rfl g a (by rw [z2.1]; rfl) z)
  exact ⟨OUT.mk0 fi tg, ⟨c.ip fi, v1, w2, by rw [fq.1.R (np _ _ (by decide))]; exact hf, hg, hw.fr fq.1 (fun _ => np _ _ (by decide)) (fun _ => np _ _ (by decide))⟩, by unfold av; rw [fq.2.1]⟩
theorem cbranch_ok {op a n : Nat} {m : Md} {u : Ux} {sc : Pc → Option (Int32 × Int32)} (H : OPR G B h A W q BA X tt snd lim SP wi MA l o s) (ho : 2 ≤ op ∧ op < 5) (hat : ∀ j, j + 1 < s.1 → MA.2.2.1 j = (s.2.1 j).2.1) (hat2 : MA.2.2.1 (s.1 - 1) = (tpf s).2.1 + 1) (hn : (plc s).length ≤ n) (hT : ∀ v, (Sum.inl v : It) ∈ stk s → VW v) (hd : 50 ≤ d) (hne : mbr m u op a s ≠ none) (kk : RZI K G B h A W q BA X tt snd lim SP wi MA o n sc (mbr m u op a s)) : MW G d e_X1_branch [.ref A, .int (nI op), .int (nI a)] h K := by
  refine st_X1_branch fun XX oo hG hD _ => ?_
  subst hG; subst hD
  obtain ⟨t, ht⟩ : ∃ t, t + 1 = s.1 := ⟨s.1 - 1, by have := H.2.2.1.1.2.2.1; omega⟩
  -- the end
  have fin : ∀ (b : Bool) h1 l1 o1 s1, OUT wi W h h1 o o1 → OPR XX.G B h1 A W q BA X tt snd lim SP wi MA l1 o1 s1 → s1.1 = s.1 → (∀ j, (s1.2.1 j).2.1 = (s.2.1 j).2.1) → plc s1 = plc s → RZI K XX.G B h A W q BA X tt snd lim SP wi MA o n sc (mgo (nx m u (if b then a else (tpf s).2.1 + 1) s1)) → V XX K 57 [.ref A, .int (nI op), .int (nI a), .int (bI b)] [] h1 := by
    intro b h1 l1 o1 s1 u1 H1 e1 e2 e3 k1
    have k1 : ∀ h' l' o' MA', OUT wi W h h' o o' → IPR XX.G B h' A W q BA X tt snd lim SP wi MA' l' o' (nx m u (if b then a else (tpf s).2.1 + 1) s1) → MAX n MA MA' (plc s1) sc → (∀ j, j < s1.1 → MA'.2.2.1 j = ((nx m u (if b then a else (tpf s).2.1 + 1) s1).2.1 j).2.1) → K (.returned none) h' := k1
    have t1 := H1.1.1.1
    have hf1 : h1.R 28 A = some (Fa W t) := by rw [H1.2.2.2.1, e1, show s.1 - 1 = t by omega]
    have t32 : t < 32 := by have := H1.2.2.1.1.2.2.2.1; omega
    have tF := (H1.2.2.1.1.1.2.2.1 t t32).2.1
    cases b with
    | true =>
      refine k_X1_branch_57 oo (fun c => absurd c (by decide)) (fun _ => ?_)
      refine k_X1_branch_61 oo ?_
      refine k_X1_branch_69 oo ?_
      obtain ⟨u2, H2, -⟩ := H1.sat (p := a) (t := t) (by omega)
      refine k1 _ l1 o1 (maA MA t a) (u1.trans u2) ⟨H2.1, H2.2.1, H2.2.2.1.nx, H2.2.2.2.2.1, H2.2.2.2.2.2⟩ ⟨⟨rfl, rfl⟩, fun _ _ => rfl, fun e p he hp => ?_⟩ (fun j hj => ?_)
      · have := get_lt hp
        rw [e3] at this; omega
      · rw [nx_at hj]
        show (if j = t then a else MA.2.2.1 j) = _
        by_cases c : j = t
        · rw [if_pos c, if_pos (by omega)]; rfl
        · rw [if_neg c, if_neg (by omega), e2]; exact hat j (by omega)
    | false =>
      refine k_X1_branch_57 oo (fun _ => ?_) (fun c => absurd rfl c)
      refine k_X1_branch_69 oo ?_
      refine k1 _ l1 o1 MA u1 ⟨H1.1, H1.2.1, H1.2.2.1.nx, H1.2.2.2.2.1, H1.2.2.2.2.2⟩ ⟨⟨rfl, rfl⟩, fun _ _ => rfl, fun e p he hp => ?_⟩ (fun j hj => ?_)
      · have := get_lt hp
        rw [e3] at this; omega
      · rw [nx_at hj]
        by_cases c : j + 1 = s1.1
        · rw [if_pos c, show j = s.1 - 1 by omega, hat2]; rfl
        · rw [if_neg c, e2]; exact hat j (by omega)
  unfold mbr at kk hne
  by_cases c2 : op = 2
  · rw [if_pos c2] at kk
    refine k_X1_branch_0 oo (fun c => absurd (by rw [c2]) c) (fun _ => ?_)
    refine k_X1_branch_5 oo ?_
    refine k_X1_branch_10 oo (fun _ => ?_) (fun c => absurd (by rw [c2]; exact Int32.le_refl _) c)
    exact fin true h l o s OUT.refl H rfl (fun _ => rfl) rfl kk
  · rw [if_neg c2] at kk hne
    cases hs : stk s with
    | nil => rw [hs] at hne; exact absurd rfl hne
    | cons it k =>
      cases it with
      | inr r => rw [hs] at hne; exact absurd rfl hne
      | inl v =>
        rw [hs] at kk hne
        simp only at kk hne
        obtain ⟨v1, em⟩ := mre_n hne
        rw [em] at kk
        have v1 : v.1 = 1 := by simpa using v1
        have vw := hT v (by rw [hs]; simp)
        have t0 := H.1.1.1
        refine k_X1_branch_0 oo (fun _ => ?_) (fun c => absurd ((nI_eq (by omega) (by omega)).mp c) c2)
        refine k_X1_branch_9 oo ?_
        refine k_X1_branch_10 oo (fun c => absurd ((nI_leI (by omega) (by omega)).mp c) (by omega)) (fun _ => ?_)
        refine k_X1_branch_16 oo ?_
        refine ctop_ok (b := 0) (t := t) H.1 H.2.2.1 (by rw [H.2.2.2.1, show s.1 - 1 = t by omega]) ht (by rw [hs]; rfl) fun z z1 z2 => ?_
        have ez : lvE z = v := z2
        have rz := (H.2.1.2.2.2 _ _ z1).1
        have tz := rz.1
        have lz : h.J 3714 z.1 = v.2.1.2 := by rw [← ez]; exact rz.2.2.2.1
        -- behind the comparison
        have s52 : ∀ (l3 : Value) (b : Bool), b = ((v.2.1.2 == 1) == (op == 3)) → V XX K 52 [.ref A, .int (nI op), .int (nI a), l3] [.int (bI b)] h := fun l3 b hb => by
          refine k_X1_branch_52 oo ?_
          refine cdropTop_ok H hs (fun v' hv' => by cases hv'; have := vw.1.2.1; omega) (by omega) fun h1 l1 o1 u1 H1 av1 _ _ => ?_
          refine fin b h1 l1 o1 (sK s k) u1 H1 rfl (fun j => (pcE.K (k := k) pcE.refl).2 j |>.2) rfl ?_
          rw [hb]; exact kk
        have s34 : ∀ (l3 : Value) (b : Bool), b = (v.2.1.2 == 1) → V XX K 34 [.ref A, .int (nI op), .int (nI a), l3] [.int (bI b)] h := fun l3 b hb => by
          have s44 : ∀ c : Bool, c = (op == 3) → V XX K 44 [.ref A, .int (nI op), .int (nI a), l3] [.int (bI c), .int (bI b)] h := fun c hc => by
            by_cases e : b = c
            · refine k_X1_branch_44 oo (fun q => absurd (by rw [e]) q) (fun _ => ?_)
              refine k_X1_branch_47 oo ?_
              exact s52 _ true (by rw [← hb, ← hc, e]; simp)
            · refine k_X1_branch_44 oo (fun _ => ?_) (fun q => ?_)
              · refine k_X1_branch_51 oo ?_
                exact s52 _ false (by rw [← hb, ← hc]; exact (beq_eq_false_iff_ne.mpr e).symm)
              · exfalso
                apply e
                cases b <;> cases c <;> first | rfl | exact absurd q (by decide)
          by_cases c3 : op = 3
          · refine k_X1_branch_34 oo (fun c => absurd (by rw [c3]) c) (fun _ => ?_)
            refine k_X1_branch_39 oo ?_
            exact s44 true (by rw [c3]; rfl)
          · refine k_X1_branch_34 oo (fun _ => ?_) (fun c => absurd ((nI_eq (by omega) (by omega)).mp c) c3)
            refine k_X1_branch_43 oo ?_
            exact s44 false (by simp [c3])
        by_cases c1 : v.2.1.2 = 1
        · refine k_X1_branch_21 (r2 := lz) oo (fun c => absurd c1 c) (fun _ => ?_)
          refine k_X1_branch_29 oo ?_
          exact s34 _ true (by rw [c1]; rfl)
        · refine k_X1_branch_21 (r2 := lz) oo (fun _ => ?_) (fun c => absurd c c1)
          refine k_X1_branch_33 oo ?_
          exact s34 _ false (by simp [c1])
end
