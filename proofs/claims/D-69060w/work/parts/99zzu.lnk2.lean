/-! a publication: the structures and functions of other modules -/
/-- entries that were only asked for -/
def LKI (env : Pc → Cn) (ms : List Nat) (bs : List Pc) (es : List En) : Prop := (es.map fun x => x.1).Nodup ∧ ∀ x ∈ es, x = (x.1, env x.1, env x.1, false) ∧ (x.1 ∈ bs ∨ ∃ n ∈ ms, x.1 = (2, lN n, 0))
theorem nodup_le' {α : Type} [BEq α] [LawfulBEq α] : ∀ {R L : List α}, R.Nodup → (∀ a ∈ R, a ∈ L) → R.length ≤ L.length
  | [], _, _, _ => Nat.zero_le _
  | a :: R, L, hn, hs => by
    rw [List.nodup_cons] at hn
    have ha := hs a (List.mem_cons_self ..)
    have := nodup_le' (L := L.erase a) hn.2 (fun b hb => (List.mem_erase_of_ne (fun e : b = a => hn.1 (e ▸ hb))).mpr (hs b (List.mem_cons_of_mem _ hb)))
    rw [List.length_erase_of_mem ha] at this
    have := List.length_pos_of_mem ha
    rw [List.length_cons]; omega
theorem LKI.len {env : Pc → Cn} {ms : List Nat} {bs : List Pc} {es : List En} (s : LKI env ms bs es) : es.length ≤ bs.length + ms.length := by
  have := nodup_le' (L := bs ++ ms.map fun n => ((2, lN n, 0) : Pc)) s.1 (fun p hp => by
    obtain ⟨x, hx, e⟩ := List.mem_map.mp hp
    subst e
    rcases (s.2 x hx).2 with q | ⟨n, hn, q⟩
    · exact List.mem_append_left _ q
    · exact List.mem_append_right _ (List.mem_map.mpr ⟨n, hn, q.symm⟩))
  rw [List.length_map, List.length_append, List.length_map] at this
  exact this
theorem LKI.mono {env : Pc → Cn} {ms : List Nat} {bs bs' : List Pc} {es : List En} (s : LKI env ms bs es) (h : ∀ p ∈ bs, p ∈ bs') : LKI env ms bs' es := ⟨s.1, fun x hx => ⟨(s.2 x hx).1, (s.2 x hx).2.elim (fun q => Or.inl (h _ q)) Or.inr⟩⟩
theorem LKI.qs {env : Pc → Cn} {ms : List Nat} {bs : List Pc} {es : List En} {p : Pc} (s : LKI env ms bs es) (h : p ∈ bs ∨ ∃ n ∈ ms, p = (2, lN n, 0)) : LKI env ms bs (qsk env es p) := by
  unfold qsk
  split
  · exact s
  · rename_i hf
    rw [List.findIdx?_eq_none_iff] at hf
    refine ⟨?_, fun x hx => ?_⟩
    · rw [List.map_append, List.nodup_append]
      refine ⟨s.1, by simp, fun a ha b hb e => ?_⟩
      obtain ⟨x, hx, ex⟩ := List.mem_map.mp ha
      simp only [List.map_cons, List.map_nil, List.mem_singleton] at hb
      have := hf x hx
      rw [ex, e, hb] at this
      simp at this
    · rcases List.mem_append.mp hx with q | q
      · exact s.2 x q
      · rw [List.mem_singleton] at q
        subst q
        exact ⟨rfl, h⟩
theorem LKI.ls {env : Pc → Cn} {ms : List Nat} {bs : List Pc} {es : List En} {n : Nat} (s : LKI env ms bs es) (h : n = 0 ∨ n ∈ ms) : LKI env ms bs (las env es n) := by
  unfold las
  split
  · exact s
  · rename_i c
    exact s.qs (Or.inr ⟨n, h.resolve_left c, rfl⟩)
theorem LKI.es {env : Pc → Cn} {ms : List Nat} {bs : List Pc} {es : List En} (s : LKI env ms bs es) : ∀ x ∈ es, x.1.1 = 2 → x.2.2.1 = env x.1 := fun x hx _ => by
  have := (s.2 x hx).1
  rw [this]
theorem lkE_s {env : Pc → Cn} {ns : List Nat} {n : Nat} {es : List En} : lkE env (ns ++ [n]) es = las env (lkE env ns es) n := by
  unfold lkE
  rw [List.foldl_append]; rfl
theorem las_p {env : Pc → Cn} {es : List En} {n : Nat} : es.length ≤ (las env es n).length ∧ ∀ e, e < es.length → ((las env es n).map fun x => x.1)[e]? = (es.map fun x => x.1)[e]? := by
  unfold las
  split
  · exact ⟨Nat.le_refl _, fun _ _ => rfl⟩
  · exact qsk_p
theorem lkE_l {env : Pc → Cn} : ∀ {ns : List Nat} {es : List En}, es.length ≤ (lkE env ns es).length
  | [], _ => Nat.le_refl _
  | n :: ns, es => Nat.le_trans (las_p (n := n)).1 (lkE_l (ns := ns))
/-- what a publication keeps, from its beginning (h0) on -/
def PBA (fx : Option Nat) (G : Gt) (B A W q BA X tt : Nat) (snd : Int64) (lim SP wi : Nat) (F : Nat → Fm) (ak g DP : Nat) (sc : Pc → Option (Int32 × Int32)) (h0 : AH) (o0 : Lc) (MA0 : Ma) (n0 : Nat) (h : AH) (l : List Nat) (o : Lc) (MA : Ma) (es : List En) : Prop := OUL wi W DP X h0 h o0 o ∧ OPQ 0 fx G B h A W q BA X tt snd lim SP wi MA l o (0, F, es, ak, g) ∧ MAX n0 MA0 MA (es.map fun x => x.1) sc ∧ n0 ≤ es.length
section
variable {G : Gt} {B d : Nat} {h : AH} {l : List Nat} {o : Lc} {wi W A q BA X tt lim SP DP : Nat} {snd : Int64} {MA : Ma} {s : Ms} {K : Outcome → AH → Prop} {fs z : Nat} {fx : Option Nat} {st : Lw} {Lf : Nat → Lw} {RN : Nat → Int32}
theorem OPQ.ot {P : Nat → Nat → Prop} {h' : AH} (H : OPQ z fx G B h A W q BA X tt snd lim SP wi MA l o s) (f : Fq P h h') (hv : ∀ g a, VQ g a → ¬ P g a) (np : ∀ g a, (cxF ++ (swF ++ fmF ++ enF ++ [2438, 2439, 2441, 3718]) ++ [28, 27, 2306]).contains g = true → ¬ P g a) : OPQ z fx G B h' A W q BA X tt snd lim SP wi MA l o s ∧ TG o [] h h' ∧ av G h' l = av G h l := by
  obtain ⟨a, v, w1, hf, hg, hw⟩ := H
  obtain ⟨v1, tg⟩ := v.oth f hv
  have sub : ∀ l' : List Nat, l'.all (fun f => (cxF ++ (swF ++ fmF ++ enF ++ [2438, 2439, 2441, 3718]) ++ [28, 27, 2306]).contains f) = true → ∀ f a, l'.contains f = true → ¬ P f a := fun l' hl f a hf => np f a (by rw [List.all_eq_true] at hl; exact hl f (List.contains_iff_mem.mp hf))
  exact ⟨⟨a.fr f.1 (sub cxF rfl), v1, w1.oth f.1 (sub _ rfl), by rw [f.1.R (np _ _ rfl)]; exact hf, hg, hw.fr f.1 (fun _ => np _ _ rfl) (fun _ => np _ _ rfl)⟩, tg, by unfold av; rw [f.2.1]⟩
theorem P2.vq : ∀ g a, VQ g a → ¬ P2 DP X g a := fun g a y z => VQ.no (l := (10000 + 192) :: 2709 :: ccF) (by decide) g a (by
  rcases z with z | z | z
  · rw [z.1]; rfl
  · rw [z.1]; rfl
  · unfold FS at z
    rw [List.contains_iff_mem] at z ⊢
    exact List.mem_cons_of_mem _ (List.mem_cons_of_mem _ z)) y
theorem OPQ.p2 {h' : AH} (H : OPQ z fx G B h A W q BA X tt snd lim SP wi MA l o s) (f : Fq (P2 DP X) h h') : OUL wi W DP X h h' o o ∧ OPQ z fx G B h' A W q BA X tt snd lim SP wi MA l o s := by
  obtain ⟨a, b, -⟩ := H.ot f P2.vq (P2.no (by decide))
  exact ⟨⟨f.1.mono fun f a z => Or.inr z, fun p _ => ⟨rfl, fun x hx => b p x (by simp) hx⟩⟩, a⟩
/-- a fault: where, and what -/
theorem flt_ok {w b : Nat} (H : OPQ z fx G B h A W q BA X tt snd lim SP wi MA l o s) (hd : 1 ≤ d) (kk : ∀ h', OUL wi W DP X h h' o o → OPQ z fx G B h' A W q BA X tt snd lim SP wi MA l o s → (∀ M dp, DPR h M DP dp → DPR h' M DP dp) → (h'.I 2709 X = nI b ∧ h'.I 24 A = nI 4 ∧ h'.J 25 A = (nI w).toInt64) → K (.threw SP) h') : MW G d e_X1_faulty [.ref A, .int (nI w), .int (nI b)] h K := by
  refine faulty_ok H.1 H.2.2.1.1.1.1.1 hd fun h' f e1 e2 e3 => ?_
  have np : ∀ l : List Nat, l.all (fun f => !(2709 :: [24, 25]).contains f) = true → ∀ f a, l.contains f = true → ¬ ((f = 2709 ∧ a = X) ∨ FS [24, 25] f a) := fun l hl f a hf z => by
    rw [List.all_eq_true] at hl
    have := hl f (List.contains_iff_mem.mp hf)
    rw [Bool.not_eq_true'] at this
    have e : (2709 :: [24, 25]).contains f = true := by
      rcases z with z | z
      · rw [z.1]; rfl
      · unfold FS at z
        rw [List.contains_iff_mem] at z ⊢
        exact List.mem_cons_of_mem _ z
    rw [this] at e; cases e
  obtain ⟨a, b, -⟩ := H.ot f (fun g a y z => VQ.no (l := 2709 :: [24, 25]) (by decide) g a (by
    rcases z with z | z
    · rw [z.1]; rfl
    · unfold FS at z
      rw [List.contains_iff_mem] at z ⊢
      exact List.mem_cons_of_mem _ z) y) (np _ (by decide))
  refine kk h' ⟨f.1.mono fun f a z => ?_, fun p _ => ⟨rfl, fun x hx => b p x (by simp) hx⟩⟩ a (fun M dp s => s.ou f.1 (np [131] (by decide) _ _ rfl) (np [10000 + 192] (by decide) _ _ (by decide))) ⟨e1, e2, e3⟩
  rcases z with z | z
  · exact Or.inr (Or.inr (Or.inl z))
  · exact Or.inl (stp_ip f a z)
end
