/-! the state: a place goes, a place comes -/
def rmI (st : Lw) (i : Nat) : Lw := match (st)[st.length - 1]? with
  | some y => (st.set i y).dropLast
  | none => st
theorem rmI_len {st : Lw} {i : Nat} (h : i < st.length) : (rmI st i).length = st.length - 1 := by
  unfold rmI
  rw [List.getElem?_eq_getElem (by omega)]
  show ((st.set i _).dropLast).length = _
  rw [List.length_dropLast, List.length_set]
theorem rmI_at {st : Lw} {i e : Nat} (h : i < st.length) (he : e < st.length - 1) : (rmI st i)[e]? = if e = i then (st)[st.length - 1]? else (st)[e]? := by
  unfold rmI
  have hn : st.length - 1 < st.length := by omega
  rw [List.getElem?_eq_getElem hn]
  show ((st.set i _).dropLast)[e]? = _
  rw [List.getElem?_dropLast, List.length_set, if_pos he]
  by_cases c : e = i
  · subst c
    rw [if_pos rfl, List.getElem?_set_self h]
  · rw [if_neg c, List.getElem?_set_ne (fun q => c q.symm)]
/-- what changes of the state may write -/
def PSt (SA f a : Nat) : Prop := VQ f a ∨ ((1025 :: etE).contains f = true ∧ SA ≤ a ∧ a < SA + 258)
theorem PSt.no {SA : Nat} {l : List Nat} (h : l.all (fun f => !((3712 ≤ f && f ≤ 3718) || f == 1280 || (1025 :: etE).contains f)) = true) : ∀ f a, l.contains f = true → ¬ PSt SA f a := fun f a hf z => by
  rw [List.all_eq_true] at h
  have := h f (List.contains_iff_mem.mp hf)
  simp only [Bool.not_eq_true', Bool.or_eq_false_iff] at this
  obtain ⟨⟨t1, t2⟩, t3⟩ := this
  rcases z with z | ⟨z, -⟩
  · exact VQ.no (l := [f]) (by simp only [List.all_cons, List.all_nil, Bool.and_true]; rw [t1, t2]; rfl) f a (by simp) z
  · rw [z] at t3; cases t3
section
variable {G : Gt} {B d : Nat} {h : AH} {l : List Nat} {o : Lc} {A q SA : Nat} {MA : Ma} {K : Outcome → AH → Prop} {st : Lw}
/-- entries but one stay -/
theorem EtR.bld {P : Nat → Nat → Prop} {h' : AH} {o' : Lc} {c k E n i : Nat} {st' : Lw} (et : EtR h o c k E n MA st) (f : Fr P h h') (nr : ∀ g a, [1024, 10000 + 342].contains g = true → ¬ P g a) (np : ∀ g e, etE.contains g = true → e ≠ i → e < st'.length → ¬ P g (E + 2 + e)) (hc : h'.I 1025 E = nI st'.length) (hl : st'.length ≤ n) (hs : ∀ e, e ≠ i → e < st'.length → (st')[e]? = (st)[e]?) (hi : ∀ x, (st')[i]? = some x → ((h'.I 1152 (E + 2 + i) = nI x.1.1 ∧ h'.J 1153 (E + 2 + i) = x.1.2.1 ∧ h'.I 1154 (E + 2 + i) = nI x.1.2.2) ∧ PB x.1) ∧ EtR1 h' o' c k E i MA x) (ho : ∀ e, e ≠ i → e < st'.length → o' (c, k, e, 0) = o (c, k, e, 0)) (hn : ∀ e, st'.length ≤ e → o' (c, k, e, 0) = none) : EtR h' o' c k E n MA st' := by
  obtain ⟨⟨⟨⟨s1, s2, s3⟩, s4⟩, ⟨s5, s6, s7⟩, s8⟩, s9, s10⟩ := et
  refine ⟨⟨⟨⟨f.tag s1, by rw [f.R (nr _ _ rfl)]; exact s2, f.tag s3⟩, fun e he => ⟨by rw [f.ER (nr _ _ rfl)]; exact (s4 e he).1, f.tag (s4 e he).2⟩⟩, ⟨by rw [List.length_map]; exact hc, by rw [List.length_map]; exact hl, s7⟩, fun e p hp => ?_⟩, fun e x hx => ?_, hn⟩
  · rw [List.getElem?_map] at hp
    cases hx : (st')[e]? with
    | none => rw [hx] at hp; cases hp
    | some x =>
      rw [hx] at hp
      have hp : x.1 = p := Option.some.inj hp
      have he := get_lt hx
      by_cases q : e = i
      · subst q
        rw [← hp]; exact (hi x hx).1
      · rw [hs e q he] at hx
        obtain ⟨⟨y1, y2, y3⟩, y4⟩ := s8 e p (by rw [List.getElem?_map, hx, ← hp]; rfl)
        exact ⟨⟨by rw [f.I (np _ e rfl q he)]; exact y1, by rw [f.J (np _ e rfl q he)]; exact y2, by rw [f.I (np _ e rfl q he)]; exact y3⟩, y4⟩
  · have he := get_lt hx
    by_cases q : e = i
    · subst q; exact (hi x hx).2
    · rw [hs e q he] at hx
      obtain ⟨⟨y1, y2, y3⟩, ⟨y4, y5⟩, y6⟩ := s9 e x hx
      refine ⟨⟨by rw [f.I (np _ e rfl q he)]; exact y1, by rw [f.J (np _ e rfl q he)]; exact y2, by rw [f.J (np _ e rfl q he)]; exact y3⟩, ⟨by rw [f.I (np _ e rfl q he)]; exact y4, fun z1 z2 => by rw [f.R (np _ e rfl q he)]; exact y5 z1 z2⟩, ?_⟩
      rw [ho e q he, f.R (np _ e rfl q he)]; exact y6
def frF : List Nat := [1152, 1153, 1154, 1155, 1156, 1157, 1158, 1159]
/-- what one new or changed place writes -/
def PS1 (SA i f a : Nat) : Prop := (f = 1025 ∧ a = SA) ∨ (frF.contains f = true ∧ a = SA + 2 + i)
theorem PS1.no {SA i : Nat} {l : List Nat} (h : l.all (fun f => !((1025 :: frF).contains f)) = true) : ∀ f a, l.contains f = true → ¬ PS1 SA i f a := fun f a hf q => by
  rw [List.all_eq_true] at h
  have := h f (List.contains_iff_mem.mp hf)
  rw [Bool.not_eq_true'] at this
  have m : f ∈ 1025 :: frF := by
    rcases q with ⟨q, -⟩ | ⟨q, -⟩
    · rw [q]; exact List.mem_cons_self ..
    · exact List.mem_cons_of_mem _ (List.contains_iff_mem.mp q)
  rw [← List.contains_iff_mem, this] at m; cases m
theorem PS1.vq {SA i : Nat} : ∀ f a, VQ f a → ¬ PS1 SA i f a := fun f a y q => by
  rcases q with ⟨q, -⟩ | ⟨q, -⟩
  · rw [q] at y; exact VQ.no (l := [1025]) rfl _ _ rfl y
  · exact VQ.no (l := frF) rfl f a q y
theorem PS1.pst {SA i : Nat} (hi : i < 256) : ∀ f a, PS1 SA i f a → PSt SA f a := fun f a q => by
  rcases q with ⟨q, q2⟩ | ⟨q, q2⟩
  · rw [q, q2]; exact Or.inr ⟨rfl, by omega, by omega⟩
  · refine Or.inr ⟨?_, by omega, by omega⟩
    have : ∀ f ∈ frF, (1025 :: etE).contains f = true := by decide
    exact this f (List.contains_iff_mem.mp q)
theorem fresh_ok {p : Pc} (t0 : h.tag A = some (0, 0)) (rS : h.R 1 A = some SA) (et : EtR h o 0 0 SA 256 MA st) (h256 : st.length < 256) (hd : 1 ≤ d) (kk : ∀ h', Fq (PS1 SA st.length) h h' → h'.I 1025 SA = nI (st.length + 1) → (h'.I 1152 (SA + 2 + st.length) = nI p.1 ∧ h'.J 1153 (SA + 2 + st.length) = p.2.1 ∧ h'.I 1154 (SA + 2 + st.length) = nI p.2.2) → h'.I 1155 (SA + 2 + st.length) = bI true → h'.R 1159 (SA + 2 + st.length) = none → h'.J 1156 (SA + 2 + st.length) = 0 ∧ h'.J 1157 (SA + 2 + st.length) = 0 → K (.returned (some (.ref (SA + 2 + st.length)))) h') : MW G d e_X1_fresh [.ref A, .int (nI p.1), .long p.2.1, .int (nI p.2.2)] h K := by
  refine st_X1_fresh fun XX oo hG hD _ => ?_
  subst hG; subst hD
  obtain ⟨⟨⟨⟨s1, s2, s3⟩, s4⟩, ⟨s5, s6, s7⟩, s8⟩, s9, s10⟩ := id et
  rw [List.length_map] at s5 s6
  have ix : IX (nI st.length) 256 st.length := IX.mk (by omega) (by omega)
  obtain ⟨q1, q2⟩ := s4 st.length (by omega)
  refine k_X1_fresh_0 (r10 := s5) (r21 := s5) oo ?_
  rw [nI_add]
  have tE : (h.sI 1025 SA (nI (st.length + 1))).tag (SA + 2 + st.length) = some (9, 0) := q2
  refine eplace_ok tE ?_
  refine k_X1_fresh_39 oo ?_
  refine k_X1_fresh_69 oo ?_
  refine kk _ ?_ (by simp [n_sI, z_sI, tag_sI, I_sI, J_sI, R_sI, EI_sI, EJ_sI, ER_sI, n_sJ, z_sJ, tag_sJ, I_sJ, J_sJ, R_sJ, EI_sJ, EJ_sJ, ER_sJ, n_sR, z_sR, tag_sR, I_sR, J_sR, R_sR, EI_sR, EJ_sR, ER_sR, n_sEI, z_sEI, tag_sEI, I_sEI, J_sEI, R_sEI, EI_sEI, EJ_sEI, ER_sEI, n_sEJ, z_sEJ, tag_sEJ, I_sEJ, J_sEJ, R_sEJ, EI_sEJ, EJ_sEJ, ER_sEJ, n_sER, z_sER, tag_sER, I_sER, J_sER, R_sER, EI_sER, EJ_sER, ER_sER, n_nw, z_nw, tag_nw, I_nw, J_nw, R_nw, EI_nw, EJ_nw, ER_nw]) ⟨by simp [n_sI, z_sI, tag_sI, I_sI, J_sI, R_sI, EI_sI, EJ_sI, ER_sI, n_sJ, z_sJ, tag_sJ, I_sJ, J_sJ, R_sJ, EI_sJ, EJ_sJ, ER_sJ, n_sR, z_sR, tag_sR, I_sR, J_sR, R_sR, EI_sR, EJ_sR, ER_sR, n_sEI, z_sEI, tag_sEI, I_sEI, J_sEI, R_sEI, EI_sEI, EJ_sEI, ER_sEI, n_sEJ, z_sEJ, tag_sEJ, I_sEJ, J_sEJ, R_sEJ, EI_sEJ, EJ_sEJ, ER_sEJ, n_sER, z_sER, tag_sER, I_sER, J_sER, R_sER, EI_sER, EJ_sER, ER_sER, n_nw, z_nw, tag_nw, I_nw, J_nw, R_nw, EI_nw, EJ_nw, ER_nw], by simp [n_sI, z_sI, tag_sI, I_sI, J_sI, R_sI, EI_sI, EJ_sI, ER_sI, n_sJ, z_sJ, tag_sJ, I_sJ, J_sJ, R_sJ, EI_sJ, EJ_sJ, ER_sJ, n_sR, z_sR, tag_sR, I_sR, J_sR, R_sR, EI_sR, EJ_sR, ER_sR, n_sEI, z_sEI, tag_sEI, I_sEI, J_sEI, R_sEI, EI_sEI, EJ_sEI, ER_sEI, n_sEJ, z_sEJ, tag_sEJ, I_sEJ, J_sEJ, R_sEJ, EI_sEJ, EJ_sEJ, ER_sEJ, n_sER, z_sER, tag_sER, I_sER, J_sER, R_sER, EI_sER, EJ_sER, ER_sER, n_nw, z_nw, tag_nw, I_nw, J_nw, R_nw, EI_nw, EJ_nw, ER_nw], by simp [n_sI, z_sI, tag_sI, I_sI, J_sI, R_sI, EI_sI, EJ_sI, ER_sI, n_sJ, z_sJ, tag_sJ, I_sJ, J_sJ, R_sJ, EI_sJ, EJ_sJ, ER_sJ, n_sR, z_sR, tag_sR, I_sR, J_sR, R_sR, EI_sR, EJ_sR, ER_sR, n_sEI, z_sEI, tag_sEI, I_sEI, J_sEI, R_sEI, EI_sEI, EJ_sEI, ER_sEI, n_sEJ, z_sEJ, tag_sEJ, I_sEJ, J_sEJ, R_sEJ, EI_sEJ, EJ_sEJ, ER_sEJ, n_sER, z_sER, tag_sER, I_sER, J_sER, R_sER, EI_sER, EJ_sER, ER_sER, n_nw, z_nw, tag_nw, I_nw, J_nw, R_nw, EI_nw, EJ_nw, ER_nw]⟩ (by simp [n_sI, z_sI, tag_sI, I_sI, J_sI, R_sI, EI_sI, EJ_sI, ER_sI, n_sJ, z_sJ, tag_sJ, I_sJ, J_sJ, R_sJ, EI_sJ, EJ_sJ, ER_sJ, n_sR, z_sR, tag_sR, I_sR, J_sR, R_sR, EI_sR, EJ_sR, ER_sR, n_sEI, z_sEI, tag_sEI, I_sEI, J_sEI, R_sEI, EI_sEI, EJ_sEI, ER_sEI, n_sEJ, z_sEJ, tag_sEJ, I_sEJ, J_sEJ, R_sEJ, EI_sEJ, EJ_sEJ, ER_sEJ, n_sER, z_sER, tag_sER, I_sER, J_sER, R_sER, EI_sER, EJ_sER, ER_sER, n_nw, z_nw, tag_nw, I_nw, J_nw, R_nw, EI_nw, EJ_nw, ER_nw]; rfl) (by simp [n_sI, z_sI, tag_sI, I_sI, J_sI, R_sI, EI_sI, EJ_sI, ER_sI, n_sJ, z_sJ, tag_sJ, I_sJ, J_sJ, R_sJ, EI_sJ, EJ_sJ, ER_sJ, n_sR, z_sR, tag_sR, I_sR, J_sR, R_sR, EI_sR, EJ_sR, ER_sR, n_sEI, z_sEI, tag_sEI, I_sEI, J_sEI, R_sEI, EI_sEI, EJ_sEI, ER_sEI, n_sEJ, z_sEJ, tag_sEJ, I_sEJ, J_sEJ, R_sEJ, EI_sEJ, EJ_sEJ, ER_sEJ, n_sER, z_sER, tag_sER, I_sER, J_sER, R_sER, EI_sER, EJ_sER, ER_sER, n_nw, z_nw, tag_nw, I_nw, J_nw, R_nw, EI_nw, EJ_nw, ER_nw]) ⟨by simp [n_sI, z_sI, tag_sI, I_sI, J_sI, R_sI, EI_sI, EJ_sI, ER_sI, n_sJ, z_sJ, tag_sJ, I_sJ, J_sJ, R_sJ, EI_sJ, EJ_sJ, ER_sJ, n_sR, z_sR, tag_sR, I_sR, J_sR, R_sR, EI_sR, EJ_sR, ER_sR, n_sEI, z_sEI, tag_sEI, I_sEI, J_sEI, R_sEI, EI_sEI, EJ_sEI, ER_sEI, n_sEJ, z_sEJ, tag_sEJ, I_sEJ, J_sEJ, R_sEJ, EI_sEJ, EJ_sEJ, ER_sEJ, n_sER, z_sER, tag_sER, I_sER, J_sER, R_sER, EI_sER, EJ_sER, ER_sER, n_nw, z_nw, tag_nw, I_nw, J_nw, R_nw, EI_nw, EJ_nw, ER_nw], by simp [n_sI, z_sI, tag_sI, I_sI, J_sI, R_sI, EI_sI, EJ_sI, ER_sI, n_sJ, z_sJ, tag_sJ, I_sJ, J_sJ, R_sJ, EI_sJ, EJ_sJ, ER_sJ, n_sR, z_sR, tag_sR, I_sR, J_sR, R_sR, EI_sR, EJ_sR, ER_sR, n_sEI, z_sEI, tag_sEI, I_sEI, J_sEI, R_sEI, EI_sEI, EJ_sEI, ER_sEI, n_sEJ, z_sEJ, tag_sEJ, I_sEJ, J_sEJ, R_sEJ, EI_sEJ, EJ_sEJ, ER_sEJ, n_sER, z_sER, tag_sER, I_sER, J_sER, R_sER, EI_sER, EJ_sER, ER_sER, n_nw, z_nw, tag_nw, I_nw, J_nw, R_nw, EI_nw, EJ_nw, ER_nw]⟩
  exact Fq.sR (Fq.sR (Fq.sJ (Fq.sJ (Fq.sI (Fq.sI (Fq.sJ (Fq.sI (Fq.sI (Fq.refl h) (Or.inl ⟨rfl, rfl⟩)) (Or.inr ⟨rfl, rfl⟩)) (Or.inr ⟨rfl, rfl⟩)) (Or.inr ⟨rfl, rfl⟩)) (Or.inr ⟨rfl, rfl⟩)) (Or.inr ⟨rfl, rfl⟩)) (Or.inr ⟨rfl, rfl⟩)) (Or.inr ⟨rfl, rfl⟩)) (Or.inr ⟨rfl, rfl⟩)
theorem remove_ok {i : Nat} {x : Pc × Cn × Bool} (t0 : h.tag A = some (0, 0)) (rq : h.R 2 A = some q) (rS : h.R 1 A = some SA) (v : VH G B h q l o) (et : EtR h o 0 0 SA 256 MA st) (hx : (st)[i]? = some x) (hT : ∀ y ∈ st, y.2.1.1 = true ∧ y.2.2 = false) (hf : ∀ y ∈ st, ∀ v, y.2.1.2.2.2 = some v → fdp v.2.2 ≤ 40) (hd : 42 ≤ d) (kk : ∀ h' l' o', Fr (PSt SA) h h' → VH G B h' q l' o' → EtR h' o' 0 0 SA 256 MA (rmI st i) → (∀ p : Sl, ¬ (p.1 = 0 ∧ p.2.1 = 0 ∧ p.2.2.2 = 0) → o' p = o p) → (∀ p x, o' p = some x → (∃ r, o r = some x) ∧ h'.R 3718 x.1 = h.R 3718 x.1) → av G h l ≤ av G h' l' → (∀ a, h'.I 1164 a = h.I 1164 a) → K (.returned none) h') : MW G d e_X1_remove [.ref A, .ref (SA + 2 + i)] h K := by
  refine st_X1_remove fun XX oo hG hD _ => ?_
  subst hG; subst hD
  obtain ⟨⟨⟨⟨s1, s2, s3⟩, s4⟩, ⟨s5, s6, s7⟩, s8⟩, s9, s10⟩ := id et
  rw [List.length_map] at s5 s6
  have hi := get_lt hx
  obtain ⟨m, hm⟩ : ∃ m, st.length = m + 1 := ⟨st.length - 1, by omega⟩
  obtain ⟨y, hy⟩ : ∃ y, (st)[m]? = some y := ⟨_, List.getElem?_eq_getElem (by omega)⟩
  obtain ⟨q1, q2⟩ := s4 i (by omega)
  obtain ⟨q3, q4⟩ := s4 m (by omega)
  obtain ⟨⟨y1, y2, y3⟩, y4⟩ := s8 m y.1 (by rw [List.getElem?_map, hy]; rfl)
  obtain ⟨⟨y5, y6, y7⟩, ⟨y8, y9⟩, y10⟩ := s9 m y hy
  obtain ⟨⟨x5, x6, x7⟩, ⟨x8, x9⟩, x10⟩ := s9 i x hx
  have yT := hT y (List.mem_of_getElem? hy)
  have xT := hT x (List.mem_of_getElem? hx)
  have vq : ∀ f a, (1025 :: 1 :: 1024 :: (10000 + 342) :: etE).contains f = true → ¬ VQ f a := VQ.no rfl
  -- behind the drop
  have key : ∀ h1 l1 o1, Fr VQ h h1 → VH XX.G B h1 q l1 o1 → o1 (0, 0, i, 0) = none → (∀ p, p ≠ (0, 0, i, 0) → o1 p = o p) → (∀ p z, o1 p = some z → h1.R 3718 z.1 = h.R 3718 z.1) → av XX.G h l ≤ av XX.G h1 l1 → ∀ l2, V XX K 18 [.ref A, .ref (SA + 2 + i), l2] [] h1 := fun h1 l1 o1 f1 v1 n1 o11 tg1 a1 l2 => by
    have t1 := f1.tag t0
    have tS := f1.tag s1
    have tR := f1.tag s3
    have tI := f1.tag q2
    have tM := f1.tag q4
    have rS1 : h1.R 1 A = some SA := by rw [f1.R (vq _ _ rfl)]; exact rS
    have rR1 : h1.R 1024 SA = some (SA + 1) := by rw [f1.R (vq _ _ rfl)]; exact s2
    have c1 : h1.I 1025 SA = nI (m + 1) := by rw [f1.I (vq _ _ rfl), ← hm]; exact s5
    have em : nI (m + 1) - nI 1 = nI m := by rw [nI_sub (by omega)]; rfl
    have ix : IX (nI (m + 1) - nI 1) 256 m := by rw [em]; exact IX.mk (by omega) (by omega)
    have eE : h1.ER 342 (SA + 1) m = some (SA + 2 + m) := by rw [f1.ER (vq _ _ rfl)]; exact q3
    have k1 : h1.I 1152 (SA + 2 + m) = nI y.1.1 := by rw [f1.I (vq _ _ rfl)]; exact y1
    have k2 : h1.J 1153 (SA + 2 + m) = y.1.2.1 := by rw [f1.J (vq _ _ rfl)]; exact y2
    have k3 : h1.I 1154 (SA + 2 + m) = nI y.1.2.2 := by rw [f1.I (vq _ _ rfl)]; exact y3
    refine k_X1_remove_18 (r5 := c1) (r15 := by simp [n_sI, z_sI, tag_sI, I_sI, J_sI, R_sI, EI_sI, EJ_sI, ER_sI, n_sJ, z_sJ, tag_sJ, I_sJ, J_sJ, R_sJ, EI_sJ, EJ_sJ, ER_sJ, n_sR, z_sR, tag_sR, I_sR, J_sR, R_sR, EI_sR, EJ_sR, ER_sR, n_sEI, z_sEI, tag_sEI, I_sEI, J_sEI, R_sEI, EI_sEI, EJ_sEI, ER_sEI, n_sEJ, z_sEJ, tag_sEJ, I_sEJ, J_sEJ, R_sEJ, EI_sEJ, EJ_sEJ, ER_sEJ, n_sER, z_sER, tag_sER, I_sER, J_sER, R_sER, EI_sER, EJ_sER, ER_sER, n_nw, z_nw, tag_nw, I_nw, J_nw, R_nw, EI_nw, EJ_nw, ER_nw]; rfl) (r24 := k1) (r26 := k2) (r28 := k3) oo ?_
    rw [em]
    refine eplace_ok (show (h1.sI 1025 SA (nI m)).tag (SA + 2 + i) = some (9, 0) from tI) ?_
    have g0 : ∀ f a, f ≠ 1025 → f ≠ 1152 → f ≠ 1153 → f ≠ 1154 → ((((h1.sI 1025 SA (nI m)).sI 1152 (SA + 2 + i) (nI y.1.1)).sJ 1153 (SA + 2 + i) y.1.2.1).sI 1154 (SA + 2 + i) (nI y.1.2.2)).J f a = h1.J f a ∧ ((((h1.sI 1025 SA (nI m)).sI 1152 (SA + 2 + i) (nI y.1.1)).sJ 1153 (SA + 2 + i) y.1.2.1).sI 1154 (SA + 2 + i) (nI y.1.2.2)).R f a = h1.R f a ∧ ((((h1.sI 1025 SA (nI m)).sI 1152 (SA + 2 + i) (nI y.1.1)).sJ 1153 (SA + 2 + i) y.1.2.1).sI 1154 (SA + 2 + i) (nI y.1.2.2)).I f a = h1.I f a := fun f a z1 z2 z3 z4 => by
      refine ⟨?_, ?_, ?_⟩ <;> simp [n_sI, z_sI, tag_sI, I_sI, J_sI, R_sI, EI_sI, EJ_sI, ER_sI, n_sJ, z_sJ, tag_sJ, I_sJ, J_sJ, R_sJ, EI_sJ, EJ_sJ, ER_sJ, n_sR, z_sR, tag_sR, I_sR, J_sR, R_sR, EI_sR, EJ_sR, ER_sR, n_sEI, z_sEI, tag_sEI, I_sEI, J_sEI, R_sEI, EI_sEI, EJ_sEI, ER_sEI, n_sEJ, z_sEJ, tag_sEJ, I_sEJ, J_sEJ, R_sEJ, EI_sEJ, EJ_sEJ, ER_sEJ, n_sER, z_sER, tag_sER, I_sER, J_sER, R_sER, EI_sER, EJ_sER, ER_sER, n_nw, z_nw, tag_nw, I_nw, J_nw, R_nw, EI_nw, EJ_nw, ER_nw, z1, z2, z3, z4]
    have k1' : ((((h1.sI 1025 SA (nI m)).sI 1152 (SA + 2 + i) (nI y.1.1)).sJ 1153 (SA + 2 + i) y.1.2.1).sI 1154 (SA + 2 + i) (nI y.1.2.2)).I 1152 (SA + 2 + i) = nI y.1.1 := by simp [n_sI, z_sI, tag_sI, I_sI, J_sI, R_sI, EI_sI, EJ_sI, ER_sI, n_sJ, z_sJ, tag_sJ, I_sJ, J_sJ, R_sJ, EI_sJ, EJ_sJ, ER_sJ, n_sR, z_sR, tag_sR, I_sR, J_sR, R_sR, EI_sR, EJ_sR, ER_sR, n_sEI, z_sEI, tag_sEI, I_sEI, J_sEI, R_sEI, EI_sEI, EJ_sEI, ER_sEI, n_sEJ, z_sEJ, tag_sEJ, I_sEJ, J_sEJ, R_sEJ, EI_sEJ, EJ_sEJ, ER_sEJ, n_sER, z_sER, tag_sER, I_sER, J_sER, R_sER, EI_sER, EJ_sER, ER_sER, n_nw, z_nw, tag_nw, I_nw, J_nw, R_nw, EI_nw, EJ_nw, ER_nw]
    have k2' : ((((h1.sI 1025 SA (nI m)).sI 1152 (SA + 2 + i) (nI y.1.1)).sJ 1153 (SA + 2 + i) y.1.2.1).sI 1154 (SA + 2 + i) (nI y.1.2.2)).J 1153 (SA + 2 + i) = y.1.2.1 := by simp [n_sI, z_sI, tag_sI, I_sI, J_sI, R_sI, EI_sI, EJ_sI, ER_sI, n_sJ, z_sJ, tag_sJ, I_sJ, J_sJ, R_sJ, EI_sJ, EJ_sJ, ER_sJ, n_sR, z_sR, tag_sR, I_sR, J_sR, R_sR, EI_sR, EJ_sR, ER_sR, n_sEI, z_sEI, tag_sEI, I_sEI, J_sEI, R_sEI, EI_sEI, EJ_sEI, ER_sEI, n_sEJ, z_sEJ, tag_sEJ, I_sEJ, J_sEJ, R_sEJ, EI_sEJ, EJ_sEJ, ER_sEJ, n_sER, z_sER, tag_sER, I_sER, J_sER, R_sER, EI_sER, EJ_sER, ER_sER, n_nw, z_nw, tag_nw, I_nw, J_nw, R_nw, EI_nw, EJ_nw, ER_nw]
    have k3' : ((((h1.sI 1025 SA (nI m)).sI 1152 (SA + 2 + i) (nI y.1.1)).sJ 1153 (SA + 2 + i) y.1.2.1).sI 1154 (SA + 2 + i) (nI y.1.2.2)).I 1154 (SA + 2 + i) = nI y.1.2.2 := by simp [n_sI, z_sI, tag_sI, I_sI, J_sI, R_sI, EI_sI, EJ_sI, ER_sI, n_sJ, z_sJ, tag_sJ, I_sJ, J_sJ, R_sJ, EI_sJ, EJ_sJ, ER_sJ, n_sR, z_sR, tag_sR, I_sR, J_sR, R_sR, EI_sR, EJ_sR, ER_sR, n_sEI, z_sEI, tag_sEI, I_sEI, J_sEI, R_sEI, EI_sEI, EJ_sEI, ER_sEI, n_sEJ, z_sEJ, tag_sEJ, I_sEJ, J_sEJ, R_sEJ, EI_sEJ, EJ_sEJ, ER_sEJ, n_sER, z_sER, tag_sER, I_sER, J_sER, R_sER, EI_sER, EJ_sER, ER_sER, n_nw, z_nw, tag_nw, I_nw, J_nw, R_nw, EI_nw, EJ_nw, ER_nw]
    have k4' : ((((h1.sI 1025 SA (nI m)).sI 1152 (SA + 2 + i) (nI y.1.1)).sJ 1153 (SA + 2 + i) y.1.2.1).sI 1154 (SA + 2 + i) (nI y.1.2.2)).I 1025 SA = nI m := by simp [n_sI, z_sI, tag_sI, I_sI, J_sI, R_sI, EI_sI, EJ_sI, ER_sI, n_sJ, z_sJ, tag_sJ, I_sJ, J_sJ, R_sJ, EI_sJ, EJ_sJ, ER_sJ, n_sR, z_sR, tag_sR, I_sR, J_sR, R_sR, EI_sR, EJ_sR, ER_sR, n_sEI, z_sEI, tag_sEI, I_sEI, J_sEI, R_sEI, EI_sEI, EJ_sEI, ER_sEI, n_sEJ, z_sEJ, tag_sEJ, I_sEJ, J_sEJ, R_sEJ, EI_sEJ, EJ_sEJ, ER_sEJ, n_sER, z_sER, tag_sER, I_sER, J_sER, R_sER, EI_sER, EJ_sER, ER_sER, n_nw, z_nw, tag_nw, I_nw, J_nw, R_nw, EI_nw, EJ_nw, ER_nw]
    have f2 : Fq (PS1 SA i) h1 ((((h1.sI 1025 SA (nI m)).sI 1152 (SA + 2 + i) (nI y.1.1)).sJ 1153 (SA + 2 + i) y.1.2.1).sI 1154 (SA + 2 + i) (nI y.1.2.2)) := Fq.sI (Fq.sJ (Fq.sI (Fq.sI (Fq.refl h1) (Or.inl ⟨rfl, rfl⟩)) (Or.inr ⟨rfl, rfl⟩)) (Or.inr ⟨rfl, rfl⟩)) (Or.inr ⟨rfl, rfl⟩)
    generalize (((h1.sI 1025 SA (nI m)).sI 1152 (SA + 2 + i) (nI y.1.1)).sJ 1153 (SA + 2 + i) y.1.2.1).sI 1154 (SA + 2 + i) (nI y.1.2.2) = h2 at g0 k1' k2' k3' k4' f2
    have b2 : h2.J 1156 (SA + 2 + m) = y.2.1.2.1 := by rw [(g0 _ _ (by decide) (by decide) (by decide) (by decide)).1, f1.J (vq _ _ rfl)]; exact y6
    have b3 : h2.J 1157 (SA + 2 + m) = y.2.1.2.2.1 := by rw [(g0 _ _ (by decide) (by decide) (by decide) (by decide)).1, f1.J (vq _ _ rfl)]; exact y7
    have tI2 := f2.1.tag tI
    have tM2 := f2.1.tag tM
    refine k_X1_remove_63 (r2 := b2) (r5 := b3) (r7 := rfl) (r9 := rfl) oo ?_
    refine k_X1_remove_100 oo ?_
    have eM : h2.R 1158 (SA + 2 + m) = h.R 1158 (SA + 2 + m) := by rw [(g0 _ _ (by decide) (by decide) (by decide) (by decide)).2.1, f1.R (vq _ _ rfl)]
    have eV : h2.R 1159 (SA + 2 + m) = h.R 1159 (SA + 2 + m) := by rw [(g0 _ _ (by decide) (by decide) (by decide) (by decide)).2.1, f1.R (vq _ _ rfl)]
    rw [eM, eV]
    generalize hh3 : ((((h2.sJ 1156 (SA + 2 + i) y.2.1.2.1).sJ 1157 (SA + 2 + i) y.2.1.2.2.1).sR 1158 (SA + 2 + i) (h.R 1158 (SA + 2 + m))).sR 1159 (SA + 2 + i) (h.R 1159 (SA + 2 + m))).sR 1159 (SA + 2 + m) none = h3
    have f3 : Fq (fun f a => PS1 SA i f a ∨ (f = 1159 ∧ a = SA + 2 + m)) h2 h3 := by
      rw [← hh3]
      exact Fq.sR (Fq.sR (Fq.sR (Fq.sJ (Fq.sJ (Fq.refl h2) (Or.inl (Or.inr ⟨rfl, rfl⟩))) (Or.inl (Or.inr ⟨rfl, rfl⟩))) (Or.inl (Or.inr ⟨rfl, rfl⟩))) (Or.inl (Or.inr ⟨rfl, rfl⟩))) (Or.inr ⟨rfl, rfl⟩)
    have f13 : Fq (fun f a => PS1 SA i f a ∨ (f = 1159 ∧ a = SA + 2 + m)) h1 h3 := (f2.mono fun f a q => Or.inl q).trans f3
    have fh : Fr (fun f a => VQ f a ∨ PS1 SA i f a ∨ (f = 1159 ∧ a = SA + 2 + m)) h h3 := (f1.mono fun f a q => Or.inl q).trans (f13.1.mono fun f a q => Or.inr q)
    have fP : Fr (PSt SA) h h3 := fh.mono fun f a q => by
      rcases q with q | q | ⟨q, q2⟩
      · exact Or.inl q
      · exact PS1.pst (by omega) f a q
      · rw [q, q2]; exact Or.inr ⟨rfl, by omega, by omega⟩
    obtain ⟨v3, tg3⟩ := v1.oth f13 (fun f a z q => by
      rcases q with q | ⟨q, -⟩
      · exact PS1.vq f a z q
      · rw [q] at z; exact vq 1159 a rfl z)
    have a3 : av XX.G h l ≤ av XX.G h3 l1 := by unfold av at a1 ⊢; rw [f13.2.1]; exact a1
    have nr : ∀ f a, [1024, 10000 + 342].contains f = true → ¬ (VQ f a ∨ PS1 SA i f a ∨ (f = 1159 ∧ a = SA + 2 + m)) := fun f a hf q => by
      rcases q with q | q | ⟨q, -⟩
      · exact VQ.no (l := [1024, 10000 + 342]) rfl f a hf q
      · exact PS1.no (l := [1024, 10000 + 342]) rfl f a hf q
      · rw [q] at hf; exact absurd hf (by decide)
    have rl := rmI_len hi
    have c3 : h3.I 1025 SA = nI (rmI st i).length := by
      rw [rl, show st.length - 1 = m by omega, ← hh3]
      simp [n_sI, z_sI, tag_sI, I_sI, J_sI, R_sI, EI_sI, EJ_sI, ER_sI, n_sJ, z_sJ, tag_sJ, I_sJ, J_sJ, R_sJ, EI_sJ, EJ_sJ, ER_sJ, n_sR, z_sR, tag_sR, I_sR, J_sR, R_sR, EI_sR, EJ_sR, ER_sR, n_sEI, z_sEI, tag_sEI, I_sEI, J_sEI, R_sEI, EI_sEI, EJ_sEI, ER_sEI, n_sEJ, z_sEJ, tag_sEJ, I_sEJ, J_sEJ, R_sEJ, EI_sEJ, EJ_sEJ, ER_sEJ, n_sER, z_sER, tag_sER, I_sER, J_sER, R_sER, EI_sER, EJ_sER, ER_sER, n_nw, z_nw, tag_nw, I_nw, J_nw, R_nw, EI_nw, EJ_nw, ER_nw]; exact k4'
    have np : ∀ f e, etE.contains f = true → e ≠ i → e < (rmI st i).length → ¬ (VQ f (SA + 2 + e) ∨ PS1 SA i f (SA + 2 + e) ∨ (f = 1159 ∧ SA + 2 + e = SA + 2 + m)) := fun f e hf he hl q => by
      rw [rl] at hl
      rcases q with q | q | ⟨-, q⟩
      · exact VQ.no (l := etE) rfl f _ hf q
      · rcases q with ⟨q, -⟩ | ⟨-, q⟩
        · rw [q] at hf; exact absurd hf (by decide)
        · omega
      · omega
    have hs : ∀ e, e ≠ i → e < (rmI st i).length → (rmI st i)[e]? = (st)[e]? := fun e he hl => by
      rw [rl] at hl
      rw [rmI_at hi hl, if_neg he]
    have og : ∀ r z, o1 r = some z → o r = some z := fun r z hz => by
      by_cases q : r = (0, 0, i, 0)
      · rw [q, n1] at hz; cases hz
      · rw [← o11 r q]; exact hz
    have gq : ∀ a, h3.I 1164 a = h.I 1164 a := fun a => fh.I (fun q => by
      rcases q with q | q | ⟨q, -⟩
      · exact vq _ _ rfl q
      · exact PS1.no (l := [1164]) rfl _ _ rfl q
      · exact absurd q (by decide))
    by_cases c : i = m
    · subst c
      refine kk h3 l1 o1 fP v3 (et.bld (i := i) fh nr np c3 (by omega) hs (fun z hz => ?_) (fun e he _ => o11 _ (fun q => he (congrArg (fun p : Sl => p.2.2.1) q))) (fun e he => ?_)) (fun p hp => o11 p (fun q => hp (by rw [q]; exact ⟨rfl, rfl, rfl⟩))) (fun p z hz => ⟨⟨p, og p z hz⟩, by rw [tg3 p z (by simp) hz]; exact tg1 p z hz⟩) a3 gq
      · have := get_lt hz
        omega
      · by_cases q : e = i
        · rw [q]; exact n1
        · rw [o11 _ (fun z => q (congrArg (fun p : Sl => p.2.2.1) z))]
          exact s10 e (by omega)
    · have nem : ((0, 0, m, 0) : Sl) ≠ (0, 0, i, 0) := fun q => c (congrArg (fun p : Sl => p.2.2.1) q).symm
      have om := o11 _ nem
      have ci : SA + 2 + i ≠ SA + 2 + m := by omega
      have w1 : h3.I 1152 (SA + 2 + i) = nI y.1.1 := by rw [← hh3]; simp [n_sI, z_sI, tag_sI, I_sI, J_sI, R_sI, EI_sI, EJ_sI, ER_sI, n_sJ, z_sJ, tag_sJ, I_sJ, J_sJ, R_sJ, EI_sJ, EJ_sJ, ER_sJ, n_sR, z_sR, tag_sR, I_sR, J_sR, R_sR, EI_sR, EJ_sR, ER_sR, n_sEI, z_sEI, tag_sEI, I_sEI, J_sEI, R_sEI, EI_sEI, EJ_sEI, ER_sEI, n_sEJ, z_sEJ, tag_sEJ, I_sEJ, J_sEJ, R_sEJ, EI_sEJ, EJ_sEJ, ER_sEJ, n_sER, z_sER, tag_sER, I_sER, J_sER, R_sER, EI_sER, EJ_sER, ER_sER, n_nw, z_nw, tag_nw, I_nw, J_nw, R_nw, EI_nw, EJ_nw, ER_nw]; exact k1'
      have w2 : h3.J 1153 (SA + 2 + i) = y.1.2.1 := by rw [← hh3]; simp [n_sI, z_sI, tag_sI, I_sI, J_sI, R_sI, EI_sI, EJ_sI, ER_sI, n_sJ, z_sJ, tag_sJ, I_sJ, J_sJ, R_sJ, EI_sJ, EJ_sJ, ER_sJ, n_sR, z_sR, tag_sR, I_sR, J_sR, R_sR, EI_sR, EJ_sR, ER_sR, n_sEI, z_sEI, tag_sEI, I_sEI, J_sEI, R_sEI, EI_sEI, EJ_sEI, ER_sEI, n_sEJ, z_sEJ, tag_sEJ, I_sEJ, J_sEJ, R_sEJ, EI_sEJ, EJ_sEJ, ER_sEJ, n_sER, z_sER, tag_sER, I_sER, J_sER, R_sER, EI_sER, EJ_sER, ER_sER, n_nw, z_nw, tag_nw, I_nw, J_nw, R_nw, EI_nw, EJ_nw, ER_nw]; exact k2'
      have w3 : h3.I 1154 (SA + 2 + i) = nI y.1.2.2 := by rw [← hh3]; simp [n_sI, z_sI, tag_sI, I_sI, J_sI, R_sI, EI_sI, EJ_sI, ER_sI, n_sJ, z_sJ, tag_sJ, I_sJ, J_sJ, R_sJ, EI_sJ, EJ_sJ, ER_sJ, n_sR, z_sR, tag_sR, I_sR, J_sR, R_sR, EI_sR, EJ_sR, ER_sR, n_sEI, z_sEI, tag_sEI, I_sEI, J_sEI, R_sEI, EI_sEI, EJ_sEI, ER_sEI, n_sEJ, z_sEJ, tag_sEJ, I_sEJ, J_sEJ, R_sEJ, EI_sEJ, EJ_sEJ, ER_sEJ, n_sER, z_sER, tag_sER, I_sER, J_sER, R_sER, EI_sER, EJ_sER, ER_sER, n_nw, z_nw, tag_nw, I_nw, J_nw, R_nw, EI_nw, EJ_nw, ER_nw]; exact k3'
      have w4 : h3.I 1155 (SA + 2 + i) = bI y.2.1.1 := by
        rw [← hh3]; simp [n_sI, z_sI, tag_sI, I_sI, J_sI, R_sI, EI_sI, EJ_sI, ER_sI, n_sJ, z_sJ, tag_sJ, I_sJ, J_sJ, R_sJ, EI_sJ, EJ_sJ, ER_sJ, n_sR, z_sR, tag_sR, I_sR, J_sR, R_sR, EI_sR, EJ_sR, ER_sR, n_sEI, z_sEI, tag_sEI, I_sEI, J_sEI, R_sEI, EI_sEI, EJ_sEI, ER_sEI, n_sEJ, z_sEJ, tag_sEJ, I_sEJ, J_sEJ, R_sEJ, EI_sEJ, EJ_sEJ, ER_sEJ, n_sER, z_sER, tag_sER, I_sER, J_sER, R_sER, EI_sER, EJ_sER, ER_sER, n_nw, z_nw, tag_nw, I_nw, J_nw, R_nw, EI_nw, EJ_nw, ER_nw]
        rw [(g0 _ _ (by decide) (by decide) (by decide) (by decide)).2.2, f1.I (vq _ _ rfl), x5, xT.1, yT.1]
      have w5 : h3.I 1164 (SA + 2 + i) = bI y.2.2 := by
        rw [← hh3]; simp [n_sI, z_sI, tag_sI, I_sI, J_sI, R_sI, EI_sI, EJ_sI, ER_sI, n_sJ, z_sJ, tag_sJ, I_sJ, J_sJ, R_sJ, EI_sJ, EJ_sJ, ER_sJ, n_sR, z_sR, tag_sR, I_sR, J_sR, R_sR, EI_sR, EJ_sR, ER_sR, n_sEI, z_sEI, tag_sEI, I_sEI, J_sEI, R_sEI, EI_sEI, EJ_sEI, ER_sEI, n_sEJ, z_sEJ, tag_sEJ, I_sEJ, J_sEJ, R_sEJ, EI_sEJ, EJ_sEJ, ER_sEJ, n_sER, z_sER, tag_sER, I_sER, J_sER, R_sER, EI_sER, EJ_sER, ER_sER, n_nw, z_nw, tag_nw, I_nw, J_nw, R_nw, EI_nw, EJ_nw, ER_nw]
        rw [(g0 _ _ (by decide) (by decide) (by decide) (by decide)).2.2, f1.I (vq _ _ rfl), x8, xT.2, yT.2]
      have w6 : h3.J 1156 (SA + 2 + i) = y.2.1.2.1 := by rw [← hh3]; simp [n_sI, z_sI, tag_sI, I_sI, J_sI, R_sI, EI_sI, EJ_sI, ER_sI, n_sJ, z_sJ, tag_sJ, I_sJ, J_sJ, R_sJ, EI_sJ, EJ_sJ, ER_sJ, n_sR, z_sR, tag_sR, I_sR, J_sR, R_sR, EI_sR, EJ_sR, ER_sR, n_sEI, z_sEI, tag_sEI, I_sEI, J_sEI, R_sEI, EI_sEI, EJ_sEI, ER_sEI, n_sEJ, z_sEJ, tag_sEJ, I_sEJ, J_sEJ, R_sEJ, EI_sEJ, EJ_sEJ, ER_sEJ, n_sER, z_sER, tag_sER, I_sER, J_sER, R_sER, EI_sER, EJ_sER, ER_sER, n_nw, z_nw, tag_nw, I_nw, J_nw, R_nw, EI_nw, EJ_nw, ER_nw]
      have w7 : h3.J 1157 (SA + 2 + i) = y.2.1.2.2.1 := by rw [← hh3]; simp [n_sI, z_sI, tag_sI, I_sI, J_sI, R_sI, EI_sI, EJ_sI, ER_sI, n_sJ, z_sJ, tag_sJ, I_sJ, J_sJ, R_sJ, EI_sJ, EJ_sJ, ER_sJ, n_sR, z_sR, tag_sR, I_sR, J_sR, R_sR, EI_sR, EJ_sR, ER_sR, n_sEI, z_sEI, tag_sEI, I_sEI, J_sEI, R_sEI, EI_sEI, EJ_sEI, ER_sEI, n_sEJ, z_sEJ, tag_sEJ, I_sEJ, J_sEJ, R_sEJ, EI_sEJ, EJ_sEJ, ER_sEJ, n_sER, z_sER, tag_sER, I_sER, J_sER, R_sER, EI_sER, EJ_sER, ER_sER, n_nw, z_nw, tag_nw, I_nw, J_nw, R_nw, EI_nw, EJ_nw, ER_nw]
      have w8 : h3.R 1158 (SA + 2 + i) = h.R 1158 (SA + 2 + m) := by rw [← hh3]; simp [n_sI, z_sI, tag_sI, I_sI, J_sI, R_sI, EI_sI, EJ_sI, ER_sI, n_sJ, z_sJ, tag_sJ, I_sJ, J_sJ, R_sJ, EI_sJ, EJ_sJ, ER_sJ, n_sR, z_sR, tag_sR, I_sR, J_sR, R_sR, EI_sR, EJ_sR, ER_sR, n_sEI, z_sEI, tag_sEI, I_sEI, J_sEI, R_sEI, EI_sEI, EJ_sEI, ER_sEI, n_sEJ, z_sEJ, tag_sEJ, I_sEJ, J_sEJ, R_sEJ, EI_sEJ, EJ_sEJ, ER_sEJ, n_sER, z_sER, tag_sER, I_sER, J_sER, R_sER, EI_sER, EJ_sER, ER_sER, n_nw, z_nw, tag_nw, I_nw, J_nw, R_nw, EI_nw, EJ_nw, ER_nw]
      have w9 : h3.R 1159 (SA + 2 + i) = h.R 1159 (SA + 2 + m) := by rw [← hh3]; simp [n_sI, z_sI, tag_sI, I_sI, J_sI, R_sI, EI_sI, EJ_sI, ER_sI, n_sJ, z_sJ, tag_sJ, I_sJ, J_sJ, R_sJ, EI_sJ, EJ_sJ, ER_sJ, n_sR, z_sR, tag_sR, I_sR, J_sR, R_sR, EI_sR, EJ_sR, ER_sR, n_sEI, z_sEI, tag_sEI, I_sEI, J_sEI, R_sEI, EI_sEI, EJ_sEI, ER_sEI, n_sEJ, z_sEJ, tag_sEJ, I_sEJ, J_sEJ, R_sEJ, EI_sEJ, EJ_sEJ, ER_sEJ, n_sER, z_sER, tag_sER, I_sER, J_sER, R_sER, EI_sER, EJ_sER, ER_sER, n_nw, z_nw, tag_nw, I_nw, J_nw, R_nw, EI_nw, EJ_nw, ER_nw]; exact fun q => absurd q c
      have gi : (rmI st i)[i]? = some y := by rw [rmI_at hi (by omega), if_pos rfl, show st.length - 1 = m by omega]; exact hy
      have fin : ∀ o', VH XX.G B h3 q l1 o' → (o' (0, 0, i, 0) = o (0, 0, m, 0)) → o' (0, 0, m, 0) = none → (∀ p, p ≠ (0, 0, i, 0) → p ≠ (0, 0, m, 0) → o' p = o p) → (∀ p z, o' p = some z → ∃ r, o1 r = some z) → K (.returned none) h3 := fun o' v' e1 e2 e3 e4 => by
        refine kk h3 l1 o' fP v' (et.bld (i := i) fh nr np c3 (by omega) hs (fun z hz => ?_) (fun e he hl => e3 _ (fun q => he (congrArg (fun p : Sl => p.2.2.1) q)) (fun q => by have : e = m := congrArg (fun p : Sl => p.2.2.1) q; omega)) (fun e he => ?_)) (fun p hp => e3 p (fun q => hp (by rw [q]; exact ⟨rfl, rfl, rfl⟩)) (fun q => hp (by rw [q]; exact ⟨rfl, rfl, rfl⟩))) (fun p z hz => ?_) a3 gq
        · rw [gi] at hz
          have hz : y = z := Option.some.inj hz
          subst hz
          refine ⟨⟨⟨w1, w2, w3⟩, y4⟩, ⟨w4, w6, w7⟩, ⟨w5, fun z1 z2 => by rw [w8]; exact y9 z1 z2⟩, ?_⟩
          rw [e1, w9]; exact y10
        · by_cases q : e = m
          · rw [q]; exact e2
          · rw [e3 _ (fun z => by have : e = i := congrArg (fun p : Sl => p.2.2.1) z; omega) (fun z => q (congrArg (fun p : Sl => p.2.2.1) z))]
            exact s10 e (by omega)
        · obtain ⟨r, hr⟩ := e4 p z hz
          exact ⟨⟨r, og r z hr⟩, by rw [tg3 r z (by simp) hr]; exact tg1 r z hr⟩
      cases hm' : o1 (0, 0, m, 0) with
      | none => exact fin o1 v3 (by rw [n1, ← om, hm']) hm' (fun p hp _ => o11 p hp) (fun p z hz => ⟨p, hz⟩)
      | some w =>
        refine fin _ (v3.mov hm' n1) (by rw [uO_s, ← om, hm']) (by rw [uO_n nem, uO_s]) (fun p h1 h2 => by rw [uO_n h1, uO_n h2]; exact o11 p h1) (fun p z hz => ?_)
        by_cases q1 : p = (0, 0, i, 0)
        · rw [q1, uO_s] at hz
          exact ⟨_, by rw [hm']; exact hz⟩
        · rw [uO_n q1] at hz
          by_cases q2 : p = (0, 0, m, 0)
          · rw [q2, uO_s] at hz; cases hz
          · rw [uO_n q2] at hz; exact ⟨p, hz⟩
  rcases et.val hx (hf x (List.mem_of_getElem? hx)) with ⟨e1, e2⟩ | ⟨z, e1, e2, e3⟩
  · refine k_X1_remove_0 (x3 := none) (r2 := e2) oo (fun _ => ?_) (fun a ca => nomatch ca)
    exact key h l o (Fr.refl h) v e1 (fun _ _ => rfl) (fun _ _ _ => rfl) (Nat.le_refl _) _
  · refine k_X1_remove_0 (x3 := some z.1) (r2 := e2) oo (fun c => nomatch c) (fun a ca => ?_)
    refine k_X1_remove_7 (x6 := z.1) oo ?_
    refine vdrop_ok v e1 (by omega) fun h1 l1 f1 n1 v1 tg1 a1 => ?_
    exact key h1 l1 _ f1 v1 uO_s (fun p hp => uO_n hp) (fun p w hw => by
      by_cases q : p = (0, 0, i, 0)
      · rw [q, uO_s] at hw; cases hw
      · rw [uO_n q] at hw
        exact tg1 p w (by simpa using q) hw) (by omega) _
end
