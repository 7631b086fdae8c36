/-! the root: all places are planted -/
/-- indices in a row, from a place on -/
def ORW (h : AH) (O b : Nat) (l : List Nat) : Prop := ∀ i j, l[i]? = some j → h.EI 160 O (b + i) = nI j
def plo (st : Lw) (i : Nat) : Pc := match (st)[i]? with
  | some x => x.1
  | none => (0, 0, 0)
section
variable {B : Nat} {h : AH} {K : Outcome → AH → Prop} {A T SH E O : Nat} {sh : List Int32} {Wb : Nat → By} {st : Lw}
theorem pa_15 {XX : Xt} (o : OK e_X1_plantAll XX) {k : Nat} {l0 : List Nat} (t0 : h.tag A = some (0, 0)) (rE : h.R 1 A = some E) (et : EtP h E 256 (st.map fun x => x.1)) (rO : h.R 33 A = some O ∧ h.tag O = some (160, 256)) (hk : k < st.length) (hd : 3 ≤ XX.d)
    (kk : ∀ h' P S, Fq (FS [10000 + 160]) h h' → ORW h' O 0 P → ORW h' O (P.length + 1) S → (∀ s ∈ S, pcl (plo st s) (plo st k) = true) → (∀ p, P.getLast? = some p → ¬ pcl (plo st p) (plo st k) = true) → P ++ S = l0 → V XX K 70 [.ref A, .int (nI k), .int (nI P.length)] [] h') :
    ∀ (n : Nat) (P S : List Nat) (h1 : AH), P.length = n → P ++ S = l0 → (P ++ S).length ≤ k → (∀ p ∈ P, p < st.length) → Fq (FS [10000 + 160]) h h1 → ORW h1 O 0 P → ORW h1 O (P.length + 1) S → (∀ s ∈ S, pcl (plo st s) (plo st k) = true) → V XX K 15 [.ref A, .int (nI k), .int (nI P.length)] [] h1 := by
  obtain ⟨⟨⟨s1, s2, s3⟩, s4⟩, ⟨s5, s6, s7⟩, s8⟩ := et
  have n256 : st.length ≤ 256 := by rw [List.length_map] at s6; exact s6
  intro n
  induction n with
  | zero =>
    intro P S h1 hP h0 hl hp q1 w1 w2 w3
    have : P = [] := List.length_eq_zero_iff.mp hP
    subst this
    refine k_X1_plantAll_15 o (fun _ => ?_) (fun z => absurd (by decide) z)
    exact kk h1 [] S q1 w1 w2 w3 (fun p hp => by simp at hp) h0
  | succ n ih =>
    intro P S h1 hP h0 hl hp q1 w1 w2 w3
    have hne : P ≠ [] := fun z => by rw [z] at hP; simp at hP
    obtain ⟨P', p, rfl⟩ : ∃ P' p, P = P' ++ [p] := ⟨P.dropLast, P.getLast hne, (List.dropLast_concat_getLast hne).symm⟩
    have lP : (P' ++ [p]).length = P'.length + 1 := by simp
    have hpl : p < st.length := hp p (by simp)
    rw [List.length_append, lP] at hl
    have wp := w1 P'.length p (by rw [List.getElem?_append_right (Nat.le_refl _), Nat.sub_self]; rfl)
    rw [Nat.zero_add] at wp
    have t1 := q1.1.tag t0
    have tE1 := q1.1.tag s1
    have rE1 : h1.R 1 A = some E := by rw [q1.1.R (FS.n rfl)]; exact rE
    have rR1 : h1.R 1024 E = some (E + 1) := by rw [q1.1.R (FS.n rfl)]; exact s2
    have tR1 := q1.1.tag s3
    have rO1 : h1.R 33 A = some O := by rw [q1.1.R (FS.n rfl)]; exact rO.1
    have tO1 := q1.1.tag rO.2
    have ex1 : ∀ e, e < 256 → h1.ER 342 (E + 1) e = some (E + 2 + e) ∧ h1.tag (E + 2 + e) = some (9, 0) := fun e he => ⟨by rw [q1.1.ER (FS.n rfl)]; exact (s4 e he).1, q1.1.tag (s4 e he).2⟩
    have epl : ∀ e, e < st.length → (h1.I 1152 (E + 2 + e) = nI (plo st e).1 ∧ h1.J 1153 (E + 2 + e) = (plo st e).2.1 ∧ h1.I 1154 (E + 2 + e) = nI (plo st e).2.2) ∧ PB (plo st e) := fun e he => by
      have hx : (st)[e]? = some (st)[e] := List.getElem?_eq_getElem he
      have : plo st e = (st)[e].1 := by unfold plo; rw [hx]
      rw [this]
      obtain ⟨⟨y1, y2, y3⟩, y4⟩ := s8 e (st)[e].1 (by rw [List.getElem?_map, hx]; rfl)
      exact ⟨⟨by rw [q1.1.I (FS.n rfl)]; exact y1, by rw [q1.1.J (FS.n rfl)]; exact y2, by rw [q1.1.I (FS.n rfl)]; exact y3⟩, y4⟩
    have es : nI (P'.length + 1) - nI 1 = nI P'.length := nI_sub (a := P'.length + 1) (b := 1) (by omega)
    have ix1 : IX (nI (P'.length + 1) - nI 1) 256 P'.length := by rw [es]; exact IX.mk (by omega) (by omega)
    have ix2 : IX (nI p) 256 p := IX.mk (by omega) (by omega)
    have ix3 : IX (nI k) 256 k := IX.mk (by omega) (by omega)
    obtain ⟨r1, tg1⟩ := ex1 p (by omega)
    obtain ⟨r2, tg2⟩ := ex1 k (by omega)
    rw [lP]
    refine k_X1_plantAll_15 o (fun z => absurd ((nI_le0 (by omega)).mp z) (by omega)) (fun _ => ?_)
    refine k_X1_plantAll_19 (r2 := rE1) (r5 := rR1) (r7 := rO1) (b11 := ix1) (r13 := wp) (b17 := ix2) (r19 := r1) (r21 := rE1) (r24 := rR1) (b28 := ix3) (r30 := r2) o ?_
    obtain ⟨a1, a2⟩ := epl p hpl
    obtain ⟨b1, b2⟩ := epl k hk
    refine lless_ok tg1 tg2 a1 b1 a2 b2 (by omega) ?_
    cases hpk : pcl (plo st p) (plo st k) with
    | false =>
      refine k_X1_plantAll_47 o (fun _ => ?_) (fun z => absurd rfl z)
      have := kk h1 (P' ++ [p]) S q1 w1 w2 w3 (fun p' hp' => by
        rw [List.getLast?_append] at hp'
        have : p = p' := by simpa using hp'
        rw [← this, hpk]; decide) h0
      rw [lP] at this
      exact this
    | true =>
      refine k_X1_plantAll_47 o (fun z => absurd z (by decide)) (fun _ => ?_)
      have ix4 : IX (nI (P'.length + 1)) 256 (P'.length + 1) := IX.mk (by omega) (by omega)
      refine k_X1_plantAll_50 (r2 := rO1) (r4 := rO1) (b8 := ix1) (r10 := wp) (b14 := ix4) o ?_
      have ej : nI (P'.length + 1) + (-1) = nI P'.length := by rw [← es, Int32.sub_eq_add_neg]; rfl
      rw [ej]
      refine ih P' (p :: S) _ (by omega) (by rw [← h0]; simp) (by simp; omega) (fun z hz => hp z (by simp [hz])) (Fq.sEI q1 (fsr rfl)) (fun i j hj => ?_) (fun i j hj => ?_) (fun s hs => ?_)
      · have il := (List.getElem?_eq_some_iff.mp hj).1
        have := w1 i j (by rw [List.getElem?_append_left il]; exact hj)
        rw [Nat.zero_add] at this ⊢
        simpa [n_sI, z_sI, tag_sI, I_sI, J_sI, R_sI, EI_sI, EJ_sI, ER_sI, n_sJ, z_sJ, tag_sJ, I_sJ, J_sJ, R_sJ, EI_sJ, EJ_sJ, ER_sJ, n_sR, z_sR, tag_sR, I_sR, J_sR, R_sR, EI_sR, EJ_sR, ER_sR, n_sEI, z_sEI, tag_sEI, I_sEI, J_sEI, R_sEI, EI_sEI, EJ_sEI, ER_sEI, n_sEJ, z_sEJ, tag_sEJ, I_sEJ, J_sEJ, R_sEJ, EI_sEJ, EJ_sEJ, ER_sEJ, n_sER, z_sER, tag_sER, I_sER, J_sER, R_sER, EI_sER, EJ_sER, ER_sER, n_nw, z_nw, tag_nw, I_nw, J_nw, R_nw, EI_nw, EJ_nw, ER_nw, show i ≠ P'.length + 1 by omega] using this
      · cases i with
        | zero =>
          have : p = j := by simpa using hj
          subst this
          simp [n_sI, z_sI, tag_sI, I_sI, J_sI, R_sI, EI_sI, EJ_sI, ER_sI, n_sJ, z_sJ, tag_sJ, I_sJ, J_sJ, R_sJ, EI_sJ, EJ_sJ, ER_sJ, n_sR, z_sR, tag_sR, I_sR, J_sR, R_sR, EI_sR, EJ_sR, ER_sR, n_sEI, z_sEI, tag_sEI, I_sEI, J_sEI, R_sEI, EI_sEI, EJ_sEI, ER_sEI, n_sEJ, z_sEJ, tag_sEJ, I_sEJ, J_sEJ, R_sEJ, EI_sEJ, EJ_sEJ, ER_sEJ, n_sER, z_sER, tag_sER, I_sER, J_sER, R_sER, EI_sER, EJ_sER, ER_sER, n_nw, z_nw, tag_nw, I_nw, J_nw, R_nw, EI_nw, EJ_nw, ER_nw]
        | succ i =>
          have hj : S[i]? = some j := by simpa using hj
          have := w2 i j hj
          rw [lP] at this
          rw [show P'.length + 1 + (i + 1) = P'.length + 1 + 1 + i by omega]
          simpa [n_sI, z_sI, tag_sI, I_sI, J_sI, R_sI, EI_sI, EJ_sI, ER_sI, n_sJ, z_sJ, tag_sJ, I_sJ, J_sJ, R_sJ, EI_sJ, EJ_sJ, ER_sJ, n_sR, z_sR, tag_sR, I_sR, J_sR, R_sR, EI_sR, EJ_sR, ER_sR, n_sEI, z_sEI, tag_sEI, I_sEI, J_sEI, R_sEI, EI_sEI, EJ_sEI, ER_sEI, n_sEJ, z_sEJ, tag_sEJ, I_sEJ, J_sEJ, R_sEJ, EI_sEJ, EJ_sEJ, ER_sEJ, n_sER, z_sER, tag_sER, I_sER, J_sER, R_sER, EI_sER, EJ_sER, ER_sER, n_nw, z_nw, tag_nw, I_nw, J_nw, R_nw, EI_nw, EJ_nw, ER_nw, show P'.length + 1 + 1 + i ≠ P'.length + 1 by omega] using this
      · rcases List.mem_cons.mp hs with e | e
        · rw [e]; exact hpk
        · exact w3 s e
/-- descending -/
def DSC (st : Lw) (l : List Nat) : Prop := l.Pairwise fun i j => pcl (plo st j) (plo st i) = true
theorem plo_ne (w : STW st) {i j : Nat} (hi : i < st.length) (hj : j < st.length) (h : i ≠ j) : plo st i ≠ plo st j := fun e => by
  have e1 : (plw st)[i]? = some (plo st i) := by
    unfold plw plo
    rw [List.getElem?_map, List.getElem?_eq_getElem hi]; rfl
  have e2 : (plw st)[j]? = some (plo st j) := by
    unfold plw plo
    rw [List.getElem?_map, List.getElem?_eq_getElem hj]; rfl
  rw [e] at e1
  exact h ((List.getElem?_inj (List.getElem?_eq_some_iff.mp e1).1 w.1).mp (e1.trans e2.symm))
theorem dsc_ins (w : STW st) {P S : List Nat} {k : Nat} (hk : k < st.length) (hl : ∀ i ∈ P ++ S, i < k) (d : DSC st (P ++ S)) (hS : ∀ s ∈ S, pcl (plo st s) (plo st k) = true) (hP : ∀ p, P.getLast? = some p → ¬ pcl (plo st p) (plo st k) = true) : DSC st (P ++ k :: S) := by
  unfold DSC at d ⊢
  rw [List.pairwise_append] at d ⊢
  obtain ⟨d1, d2, d3⟩ := d
  have pk : ∀ p ∈ P, pcl (plo st k) (plo st p) = true := fun p hp => by
    have hne : P ≠ [] := fun z => by rw [z] at hp; simp at hp
    have hlast : P.getLast? = some (P.getLast hne) := List.getLast?_eq_getLast hne
    have h1 := hP _ hlast
    have lm : P.getLast hne ∈ P := List.getLast_mem hne
    have lk := hl _ (List.mem_append_left S lm)
    have h2 : pcl (plo st k) (plo st (P.getLast hne)) = true := (pcl_or (plo_ne w (by omega) hk (by omega))).resolve_left h1
    by_cases e : p = P.getLast hne
    · rw [e]; exact h2
    · have : P = P.dropLast ++ [P.getLast hne] := (List.dropLast_concat_getLast hne).symm
      rw [this] at d1 hp
      rw [List.pairwise_append] at d1
      rcases List.mem_append.mp hp with z | z
      · exact pcl_tr h2 (d1.2.2 p z _ (List.mem_singleton.mpr rfl))
      · exact absurd (List.mem_singleton.mp z) e
  refine ⟨d1, List.pairwise_cons.mpr ⟨fun s hs => hS s hs, d2⟩, fun p hp s hs => ?_⟩
  rcases List.mem_cons.mp hs with e | e
  · rw [e]; exact pk p hp
  · exact d3 p hp s e
theorem pa_2 {XX : Xt} (o : OK e_X1_plantAll XX) (w : STW st) (t0 : h.tag A = some (0, 0)) (rE : h.R 1 A = some E) (et : EtP h E 256 (st.map fun x => x.1)) (rO : h.R 33 A = some O ∧ h.tag O = some (160, 256)) (hd : 3 ≤ XX.d)
    (kk : ∀ h' l v2, Fq (FS [10000 + 160]) h h' → ORW h' O 0 l → DSC st l → l.Nodup → (∀ i, i ∈ l ↔ i < st.length) → l.length = st.length → V XX K 83 [.ref A, .int (nI st.length), v2] [] h') :
    ∀ (n k : Nat) (l : List Nat) (h1 : AH) (v2 : Value), n + k = st.length → Fq (FS [10000 + 160]) h h1 → ORW h1 O 0 l → DSC st l → l.Nodup → (∀ i, i ∈ l ↔ i < k) → l.length = k → V XX K 2 [.ref A, .int (nI k), v2] [] h1 := by
  have n256 : st.length ≤ 256 := by have := et.2.1.2.1; rw [List.length_map] at this; exact this
  intro n
  induction n with
  | zero =>
    intro k l h1 v2 hk q1 w1 d1 nd m1 l1
    have ek : k = st.length := by omega
    subst ek
    have t1 := q1.1.tag t0
    have rE1 : h1.R 1 A = some E := by rw [q1.1.R (FS.n rfl)]; exact rE
    have tE1 := q1.1.tag et.1.1.1
    have c1 : h1.I 1025 E = nI st.length := by rw [q1.1.I (FS.n rfl)]; have := et.2.1.1; rw [List.length_map] at this; exact this
    refine k_X1_plantAll_2 (r2 := rE1) (r5 := c1) o (fun _ => ?_) (fun z => absurd (Int32.le_refl _) z)
    exact kk h1 l v2 q1 w1 d1 nd m1 l1
  | succ n ih =>
    intro k l h1 v2 hk q1 w1 d1 nd m1 l1
    have t1 := q1.1.tag t0
    have rE1 : h1.R 1 A = some E := by rw [q1.1.R (FS.n rfl)]; exact rE
    have tE1 := q1.1.tag et.1.1.1
    have c1 : h1.I 1025 E = nI st.length := by rw [q1.1.I (FS.n rfl)]; have := et.2.1.1; rw [List.length_map] at this; exact this
    refine k_X1_plantAll_2 (r2 := rE1) (r5 := c1) o (fun z => absurd ((nI_leI (by omega) (by omega)).mp z) (by omega)) (fun _ => ?_)
    refine k_X1_plantAll_13 o ?_
    have et1 : EtP h1 E 256 (st.map fun x => x.1) := et.fr q1.1 (fun f a hf _ _ => FS.no (m := etF) (by decide) f a hf)
    have := pa_15 (K := K) (h := h1) (k := k) (l0 := l) o t1 rE1 et1 ⟨by rw [q1.1.R (FS.n rfl)]; exact rO.1, q1.1.tag rO.2⟩ (by omega) hd (fun h2 P S q2 p1 p2 p3 p4 p5 => ?_) l.length l [] h1 rfl (List.append_nil l) (by rw [List.append_nil]; omega) (fun p hp => by have := (m1 p).mp hp; omega) (Fq.refl h1) w1 (fun i j hj => by simp at hj) (fun s hs => by simp at hs)
    · rw [l1] at this; exact this
    · have t2 := q2.1.tag t1
      have rO2 : h2.R 33 A = some O := by rw [q2.1.R (FS.n rfl), q1.1.R (FS.n rfl)]; exact rO.1
      have tO2 := q2.1.tag (q1.1.tag rO.2)
      have lps : P.length + S.length = k := by rw [← l1, ← p5, List.length_append]
      have ix : IX (nI P.length) 256 P.length := IX.mk (by omega) (by omega)
      refine k_X1_plantAll_70 (r2 := rO2) o ?_
      rw [nI_add]
      have hlt : ∀ i ∈ P ++ S, i < k := fun i hi => (m1 i).mp (by rw [← p5]; exact hi)
      refine ih (k + 1) (P ++ k :: S) _ _ (by omega) (Fq.sEI (q1.trans q2) (fsr rfl)) (fun i j hj => ?_) (dsc_ins w (by omega) hlt (by rw [p5]; exact d1) p3 p4) ?_ (fun i => ?_) (by simp; omega)
      · rw [Nat.zero_add]
        rcases Nat.lt_trichotomy i P.length with c | c | c
        · rw [List.getElem?_append_left c] at hj
          have := p1 i j hj
          rw [Nat.zero_add] at this
          simpa [n_sI, z_sI, tag_sI, I_sI, J_sI, R_sI, EI_sI, EJ_sI, ER_sI, n_sJ, z_sJ, tag_sJ, I_sJ, J_sJ, R_sJ, EI_sJ, EJ_sJ, ER_sJ, n_sR, z_sR, tag_sR, I_sR, J_sR, R_sR, EI_sR, EJ_sR, ER_sR, n_sEI, z_sEI, tag_sEI, I_sEI, J_sEI, R_sEI, EI_sEI, EJ_sEI, ER_sEI, n_sEJ, z_sEJ, tag_sEJ, I_sEJ, J_sEJ, R_sEJ, EI_sEJ, EJ_sEJ, ER_sEJ, n_sER, z_sER, tag_sER, I_sER, J_sER, R_sER, EI_sER, EJ_sER, ER_sER, n_nw, z_nw, tag_nw, I_nw, J_nw, R_nw, EI_nw, EJ_nw, ER_nw, show i ≠ P.length by omega] using this
        · subst c
          rw [List.getElem?_append_right (Nat.le_refl _), Nat.sub_self] at hj
          have : k = j := by simpa using hj
          subst this
          simp [n_sI, z_sI, tag_sI, I_sI, J_sI, R_sI, EI_sI, EJ_sI, ER_sI, n_sJ, z_sJ, tag_sJ, I_sJ, J_sJ, R_sJ, EI_sJ, EJ_sJ, ER_sJ, n_sR, z_sR, tag_sR, I_sR, J_sR, R_sR, EI_sR, EJ_sR, ER_sR, n_sEI, z_sEI, tag_sEI, I_sEI, J_sEI, R_sEI, EI_sEI, EJ_sEI, ER_sEI, n_sEJ, z_sEJ, tag_sEJ, I_sEJ, J_sEJ, R_sEJ, EI_sEJ, EJ_sEJ, ER_sEJ, n_sER, z_sER, tag_sER, I_sER, J_sER, R_sER, EI_sER, EJ_sER, ER_sER, n_nw, z_nw, tag_nw, I_nw, J_nw, R_nw, EI_nw, EJ_nw, ER_nw]
        · rw [List.getElem?_append_right (by omega), show i - P.length = (i - P.length - 1) + 1 by omega] at hj
          have hj : S[i - P.length - 1]? = some j := by simpa using hj
          have := p2 _ j hj
          rw [show P.length + 1 + (i - P.length - 1) = i by omega] at this
          simpa [n_sI, z_sI, tag_sI, I_sI, J_sI, R_sI, EI_sI, EJ_sI, ER_sI, n_sJ, z_sJ, tag_sJ, I_sJ, J_sJ, R_sJ, EI_sJ, EJ_sJ, ER_sJ, n_sR, z_sR, tag_sR, I_sR, J_sR, R_sR, EI_sR, EJ_sR, ER_sR, n_sEI, z_sEI, tag_sEI, I_sEI, J_sEI, R_sEI, EI_sEI, EJ_sEI, ER_sEI, n_sEJ, z_sEJ, tag_sEJ, I_sEJ, J_sEJ, R_sEJ, EI_sEJ, EJ_sEJ, ER_sEJ, n_sER, z_sER, tag_sER, I_sER, J_sER, R_sER, EI_sER, EJ_sER, ER_sER, n_nw, z_nw, tag_nw, I_nw, J_nw, R_nw, EI_nw, EJ_nw, ER_nw, show i ≠ P.length by omega] using this
      · have pm : (P ++ k :: S).Perm (k :: (P ++ S)) := List.perm_middle
        refine pm.nodup_iff.mpr (List.nodup_cons.mpr ⟨fun z => by have := hlt k z; omega, by rw [p5]; exact nd⟩)
      · have pm : (P ++ k :: S).Perm (k :: (P ++ S)) := List.perm_middle
        rw [pm.mem_iff, List.mem_cons, p5, m1]
        omega
/-- entries in their order -/
def lsO (st : Lw) (Wb : Nat → By) (l : List Nat) : List (Pc × F4 × F4) := l.filterMap fun i => ((st)[i]?).map fun x => (x.1, entQ Wb x)
def lsS (st : Lw) (Wb : Nat → By) : List (Pc × F4 × F4) := st.map fun x => (x.1, entQ Wb x)
theorem plantAll_ok {G : Gt} {d : Nat} (w : STW st) (t0 : h.tag A = some (0, 0)) (rE : h.R 1 A = some E) (et : EtP h E 256 (st.map fun x => x.1)) (rO : h.R 33 A = some O ∧ h.tag O = some (160, 256)) (rT : h.R 19 A = some T) (hs : SHt h T) (hc : CR G h) (hEN : ∀ e x, (st)[e]? = some x → ENP h (E + 2 + e) Wb x) (tt : TT h T none) (sw : SHW h A SH sh) (hsh : sh.length ≤ 1008) (hd : 47 ≤ d) (kk : ∀ h' ot, Fq (FS ((10000 + 160) :: plF)) h h' → SHW h' A SH sh → TT h' T ot → (elo ot).length < 400 → RTS (lsS st Wb) (Rt 256 (elo ot)) → K (.returned none) h') : MW G d e_X1_plantAll [.ref A] h K := by
  refine st_X1_plantAll fun XX o hG hD _ => ?_
  subst hG; subst hD
  have n256 : st.length ≤ 256 := by have := et.2.1.2.1; rw [List.length_map] at this; exact this
  refine k_X1_plantAll_0 o ?_
  refine pa_2 o w t0 rE et rO (by omega) (fun h1 l v2 q1 w1 d1 nd m1 l1 => ?_) st.length 0 [] h _ (by omega) (Fq.refl h) (fun i j hj => by simp at hj) List.Pairwise.nil List.nodup_nil (fun i => by simp) rfl
  refine k_X1_plantAll_83 o ?_
  have m1' : ∀ f a, FS [10000 + 160] f a → FS ((10000 + 160) :: plF) f a := fun f a z => by
    unfold FS at z ⊢
    rw [List.contains_iff_mem] at z ⊢
    rcases List.mem_singleton.mp z with z
    rw [z]; exact List.mem_cons_self ..
  have m2' : ∀ f a, FS plF f a → FS ((10000 + 160) :: plF) f a := fun f a z => by
    unfold FS at z ⊢
    rw [List.contains_iff_mem] at z ⊢
    exact List.mem_cons_of_mem _ z
  have loop : ∀ n k h2 ot, n + k = st.length → Fq (FS plF) h1 h2 → SHW h2 A SH sh → TT h2 T ot → (elo ot).Perm ((lsO st Wb (l.take k)).foldl (fun E x => plA E x.2) []) → (elo ot).length ≤ k → V XX K 85 [.ref A, .int (nI k), v2] [] h2 := by
    intro n
    induction n with
    | zero =>
      intro k h2 ot hk q2 sw2 tt2 pm ln
      have ek : k = st.length := by omega
      subst ek
      have t2 := q2.1.tag (q1.1.tag t0)
      have tE2 := q2.1.tag (q1.1.tag et.1.1.1)
      have rE2 : h2.R 1 A = some E := by rw [q2.1.R (FS.n rfl), q1.1.R (FS.n rfl)]; exact rE
      have c2 : h2.I 1025 E = nI st.length := by rw [q2.1.I (FS.n rfl), q1.1.I (FS.n rfl)]; have := et.2.1.1; rw [List.length_map] at this; exact this
      refine k_X1_plantAll_85 (r2 := rE2) (r5 := c2) o (fun _ => ?_) (fun z => absurd (Int32.le_refl _) z)
      refine k_X1_plantAll_120 o ?_
      rw [← l1, List.take_length] at pm
      refine kk h2 ot ((q1.mono m1').trans (q2.mono m2')) sw2 tt2 (by omega) ?_
      have pw : (lsO st Wb l).Pairwise (fun x y => pcl y.1 x.1 = true) := by
        unfold lsO
        rw [List.pairwise_filterMap]
        refine List.Pairwise.imp_of_mem ?_ d1
        intro i j hi hj hij x hx y hy
        have ei : plo st i = x.1 := by
          unfold plo
          cases hz : (st)[i]? with
          | none => rw [hz] at hx; cases hx
          | some z => rw [hz] at hx; rw [← Option.some.inj hx]
        have ej : plo st j = y.1 := by
          unfold plo
          cases hz : (st)[j]? with
          | none => rw [hz] at hy; cases hy
          | some z => rw [hz] at hy; rw [← Option.some.inj hy]
        rw [← ei, ← ej]; exact hij
      obtain ⟨g1, g2⟩ := plA_s _ pw
      refine ⟨_, g1, fun e => ?_, Rt_perm 256 pm⟩
      rw [g2 e]
      have me : ∀ z, z ∈ lsO st Wb l ↔ z ∈ lsS st Wb := fun z => by
        unfold lsO lsS
        rw [List.mem_filterMap, List.mem_map]
        constructor
        · rintro ⟨i, -, hi⟩
          cases hz : (st)[i]? with
          | none => rw [hz] at hi; cases hi
          | some y =>
            rw [hz] at hi
            exact ⟨y, List.mem_of_getElem? hz, Option.some.inj hi⟩
        · rintro ⟨y, hy, e⟩
          obtain ⟨i, hi⟩ := List.getElem?_of_mem hy
          exact ⟨i, (m1 i).mpr (List.getElem?_eq_some_iff.mp hi).1, by rw [hi, ← e]; rfl⟩
      constructor
      · rintro ⟨p, h1, h2⟩
        exact ⟨p, (me _).mp h1, fun p' e' hp => h2 p' e' ((me _).mpr hp)⟩
      · rintro ⟨p, h1, h2⟩
        exact ⟨p, (me _).mpr h1, fun p' e' hp => h2 p' e' ((me _).mp hp)⟩
    | succ n ih =>
      intro k h2 ot hk q2 sw2 tt2 pm ln
      have q12 : Fq (FS ((10000 + 160) :: plF)) h h2 := (q1.mono m1').trans (q2.mono m2')
      have t2 := q12.1.tag t0
      have tE2 := q12.1.tag et.1.1.1
      have rE2 : h2.R 1 A = some E := by rw [q12.1.R (FS.n rfl)]; exact rE
      have c2 : h2.I 1025 E = nI st.length := by rw [q12.1.I (FS.n rfl)]; have := et.2.1.1; rw [List.length_map] at this; exact this
      refine k_X1_plantAll_85 (r2 := rE2) (r5 := c2) o (fun z => absurd ((nI_leI (by omega) (by omega)).mp z) (by omega)) (fun _ => ?_)
      have rR2 : h2.R 1024 E = some (E + 1) := by rw [q12.1.R (FS.n rfl)]; exact et.1.1.2.1
      have tR2 := q12.1.tag et.1.1.2.2
      have rO2 : h2.R 33 A = some O := by rw [q12.1.R (FS.n rfl)]; exact rO.1
      have tO2 := q12.1.tag rO.2
      have lk : k < l.length := by omega
      obtain ⟨i, hi⟩ : ∃ i, l[k]? = some i := ⟨_, List.getElem?_eq_getElem lk⟩
      have il : i < st.length := (m1 i).mp (List.mem_of_getElem? hi)
      obtain ⟨x, hx⟩ : ∃ x, (st)[i]? = some x := ⟨_, List.getElem?_eq_getElem il⟩
      have eo : h2.EI 160 O k = nI i := by
        have := w1 k i hi
        rw [Nat.zero_add] at this
        rw [q2.1.EI (FS.n rfl)]; exact this
      have er : h2.ER 342 (E + 1) i = some (E + 2 + i) := by rw [q12.1.ER (FS.n rfl)]; exact (et.1.2 i (by omega)).1
      have ix1 : IX (nI k) 256 k := IX.mk (by omega) (by omega)
      have ix2 : IX (nI i) 256 i := IX.mk (by omega) (by omega)
      refine k_X1_plantAll_96 (r2 := rE2) (r5 := rR2) (r7 := rO2) (r13 := eo) (r19 := er) o ?_
      have en2 : ENP h2 (E + 2 + i) Wb x := (hEN i x hx).fr q12.1 (FS.no (by decide)) (fun f a f1 f2 z => by
        have : ∀ f ∈ (10000 + 160) :: plF, ¬ (3712 ≤ f ∧ f ≤ 3718) := by decide
        exact this f (List.contains_iff_mem.mp z) ⟨f1, f2⟩)
      refine plant_ok t2 (by rw [q12.1.R (FS.n rfl)]; exact rT) (hs.fr q12.1 (FS.no (by decide))) (hc.fr q12.1 (FS.n rfl)) en2 tt2 sw2 hsh (by omega) (by omega) (fun h3 t' q3 sw3 tt3 p3 => ?_)
      refine k_X1_plantAll_114 o ?_
      rw [nI_add]
      refine ih (k + 1) h3 (some t') (by omega) (q2.trans q3) sw3 tt3 ?_ ?_
      · have et' : l.take (k + 1) = l.take k ++ [i] := by rw [List.take_succ, hi]; rfl
        have el : lsO st Wb (l.take (k + 1)) = lsO st Wb (l.take k) ++ [(x.1, entQ Wb x)] := by
          unfold lsO
          rw [et', List.filterMap_append]
          congr 1
          rw [List.filterMap_cons, hx]; rfl
        rw [el, List.foldl_append, List.foldl_cons, List.foldl_nil]
        exact p3.trans (List.Perm.cons _ (pm.filter _))
      · have := p3.length_eq
        show (els t').length ≤ k + 1
        rw [this, List.length_cons]
        have := List.length_filter_le (fun e => decide (e.1 ≠ (entQ Wb x).1)) (elo ot)
        omega
  exact loop st.length 0 h1 none (by omega) (Fq.refl h1) (sw.fr q1.1 (FS.no (by decide))) (tt.fr q1.1 (fun f a hf _ => FS.no (m := ttF) (by decide) f a hf) (fun a _ => FS.n rfl)) (by rw [List.take_zero]; exact List.Perm.nil) (Nat.zero_le _)
end
