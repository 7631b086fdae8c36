/-! a publication: depths, pure -/
def dup (dp : Nat → Nat) (k v i : Nat) : Nat := if i = k then v else dp i
def dz (m : Md) (dp : Nat → Nat) (i : Nat) : Nat := if i < m.2.1.length then 0 else dp i
def sw1 (m : Md) (dp : Nat → Nat) (k : Nat) : Nat → Nat := match m.2.1[k]? with
  | some s => dup dp k (dpm dp s.2.2 + 1)
  | none => dp
def swp (m : Md) (dp : Nat → Nat) : Nat → Nat := (List.range m.2.1.length).foldl (sw1 m) dp
def mdp (m : Md) (dp : Nat → Nat) : Nat → Nat := (List.range m.2.1.length).foldl (fun dp _ => swp m dp) (dz m dp)
/-- a module's depths -/
def mdw (m : Md) (dw : Nat → Nat → Nat) : Nat → Nat := mdp m (fdn m dw)
/-- depths agree -/
def dag (m : Md) (dp dq : Nat → Nat) : Prop := ∀ k, k < nst m → dp k = dq k
theorem dtp_cg {m : Md} {dp dq : Nat → Nat} (e : dag m dp dq) {t : Ty} (ht : fT m t) : dtp dp t = dtp dq t := by
  unfold dtp
  cases hs : sidx t with
  | none => rfl
  | some k => simp only [e k (ht.2.2.2 k hs)]
theorem dpm_cg' {m : Md} {dp dq : Nat → Nat} (e : dag m dp dq) : ∀ {l : TL} (a : Nat), (∀ x ∈ l, fT m x.1) → l.foldl (fun a x => max a (dtp dp x.1)) a = l.foldl (fun a x => max a (dtp dq x.1)) a
  | [], _, _ => rfl
  | x :: l, a, h => by
    rw [List.foldl_cons, List.foldl_cons, dtp_cg e (h x (List.mem_cons_self ..))]
    exact dpm_cg' e _ fun y hy => h y (List.mem_cons_of_mem _ hy)
theorem dpm_cg {m : Md} {dp dq : Nat → Nat} (e : dag m dp dq) {l : TL} (h : ∀ x ∈ l, fT m x.1) : dpm dp l = dpm dq l := dpm_cg' e 0 h
theorem dpm_le' {m : Md} {dp : Nat → Nat} {b : Nat} (e : ∀ k, k < nst m → dp k ≤ b) : ∀ {l : TL} (a : Nat), (∀ x ∈ l, fT m x.1) → a ≤ b + 5 → l.foldl (fun a x => max a (dtp dp x.1)) a ≤ b + 5
  | [], _, _, ha => ha
  | x :: l, a, h, ha => by
    rw [List.foldl_cons]
    refine dpm_le' e _ (fun y hy => h y (List.mem_cons_of_mem _ hy)) (Nat.max_le.mpr ⟨ha, ?_⟩)
    have hx := h x (List.mem_cons_self ..)
    have n4 := hx.2.2.1
    unfold dtp
    cases hs : sidx x.1 with
    | none => simp only; omega
    | some k =>
      have := e k (hx.2.2.2 k hs)
      simp only; omega
theorem dpm_le {m : Md} {dp : Nat → Nat} {b : Nat} (e : ∀ k, k < nst m → dp k ≤ b) {l : TL} (h : ∀ x ∈ l, fT m x.1) : dpm dp l ≤ b + 5 := dpm_le' e 0 h (by omega)
/-- a module's depths in the heap, as far as they count -/
def DPW (h : AH) (M DP : Nat) (m : Md) (dq : Nat → Nat) : Prop := ∃ dp, DPR h M DP dp ∧ dag m dp dq
theorem DPW.sE {h : AH} {M DP k v : Nat} {m : Md} {dq : Nat → Nat} (s : DPW h M DP m dq) (hv : v < 1000000) : DPW (h.sEI 192 DP k (nI v)) M DP m (dup dq k v) := by
  obtain ⟨dp, ⟨a, b, c⟩, e⟩ := s
  refine ⟨dup dp k v, ⟨a, b, fun i hi => ?_⟩, fun i hi => ?_⟩
  · unfold dup
    by_cases ci : i = k
    · rw [if_pos ci]
      subst ci
      exact ⟨by simp [n_sI, z_sI, tag_sI, I_sI, J_sI, R_sI, EI_sI, EJ_sI, ER_sI, n_sJ, z_sJ, tag_sJ, I_sJ, J_sJ, R_sJ, EI_sJ, EJ_sJ, ER_sJ, n_sR, z_sR, tag_sR, I_sR, J_sR, R_sR, EI_sR, EJ_sR, ER_sR, n_sEI, z_sEI, tag_sEI, I_sEI, J_sEI, R_sEI, EI_sEI, EJ_sEI, ER_sEI, n_sEJ, z_sEJ, tag_sEJ, I_sEJ, J_sEJ, R_sEJ, EI_sEJ, EJ_sEJ, ER_sEJ, n_sER, z_sER, tag_sER, I_sER, J_sER, R_sER, EI_sER, EJ_sER, ER_sER, n_nw, z_nw, tag_nw, I_nw, J_nw, R_nw, EI_nw, EJ_nw, ER_nw], hv⟩
    · rw [if_neg ci]
      refine ⟨?_, (c i hi).2⟩
      rw [← (c i hi).1]
      simp [n_sI, z_sI, tag_sI, I_sI, J_sI, R_sI, EI_sI, EJ_sI, ER_sI, n_sJ, z_sJ, tag_sJ, I_sJ, J_sJ, R_sJ, EI_sJ, EJ_sJ, ER_sJ, n_sR, z_sR, tag_sR, I_sR, J_sR, R_sR, EI_sR, EJ_sR, ER_sR, n_sEI, z_sEI, tag_sEI, I_sEI, J_sEI, R_sEI, EI_sEI, EJ_sEI, ER_sEI, n_sEJ, z_sEJ, tag_sEJ, I_sEJ, J_sEJ, R_sEJ, EI_sEJ, EJ_sEJ, ER_sEJ, n_sER, z_sER, tag_sER, I_sER, J_sER, R_sER, EI_sER, EJ_sER, ER_sER, n_nw, z_nw, tag_nw, I_nw, J_nw, R_nw, EI_nw, EJ_nw, ER_nw, ci]
  · unfold dup
    by_cases ci : i = k
    · rw [if_pos ci, if_pos ci]
    · rw [if_neg ci, if_neg ci]; exact e i hi
theorem dag_dz {m : Md} {dp dq : Nat → Nat} (e : dag m dp dq) : dag m (dz m dp) (dz m dq) := fun k hk => by
  unfold dz
  split
  · rfl
  · exact e k hk
/-- only the depths of other modules' structures count -/
theorem dag_F {m : Md} {dw : Nat → Nat → Nat} {dp0 : Nat → Nat} : dag m (dz m (dpF m dw dp0 m.2.2.1.length)) (dz m (fdn m dw)) := fun k hk => by
  unfold dz
  split
  · rfl
  · unfold dpF
    unfold nst at hk
    rw [if_pos (by omega)]
theorem dz_ge {m : Md} {dp : Nat → Nat} {k : Nat} (h : m.2.1.length ≤ k) : dz m dp k = dp k := if_neg (by omega)
