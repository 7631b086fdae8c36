/-! depths: the sweeps bring what is right; depths of the world -/
section
variable {m : Md}
theorem fdr_ind {α : Type} {P : Nat → α → Prop} {f : α → Nat → α} : ∀ (n : Nat) (a : α), P 0 a → (∀ c a, c < n → P c a → P (c + 1) (f a c)) → P n ((List.range n).foldl f a)
  | 0, a, h, _ => h
  | n + 1, a, h, hs => by
    rw [List.range_succ, List.foldl_append]
    exact hs n _ (Nat.lt_succ_self n) (fdr_ind n a h fun c a hc => hs c a (by omega))
/-- right below rank i, and at rank i below index c -/
def rtB (m : Md) (dp : Nat → Nat) (i c : Nat) (f : Nat → Nat) : Prop := (∀ k, k < m.2.1.length → (rnk m k < i ∨ rnk m k = i ∧ k < c) → f k = tvF m dp m.2.1.length k) ∧ ∀ k, m.2.1.length ≤ k → f k = dp k
theorem sw1_rt (a : acy m) {dp : Nat → Nat} {i c : Nat} {f : Nat → Nat} (hc : c < m.2.1.length) (h : rtB m dp i c f) : rtB m dp i (c + 1) (sw1 m f c) := by
  obtain ⟨h1, h2⟩ := h
  obtain ⟨s, hs⟩ : ∃ s, m.2.1[c]? = some s := ⟨_, List.getElem?_eq_getElem hc⟩
  have e : sw1 m f c = dup f c (dpm f s.2.2 + 1) := by unfold sw1; rw [hs]
  rw [e]
  refine ⟨fun k hk hr => ?_, fun k hk => ?_⟩
  · unfold dup
    by_cases ck : k = c
    · rw [if_pos ck]
      subst ck
      have hn := rnk_n a hk
      rw [tvF_s a (rnk m k + 1) m.2.1.length (m.2.1.length + 1) k (Nat.lt_succ_self _) (by omega) (by omega)]
      show _ = (match m.2.1[k]? with | some s => dpm (tvF m dp m.2.1.length) s.2.2 + 1 | none => dz m dp k)
      rw [hs]
      show dpm f s.2.2 + 1 = dpm (tvF m dp m.2.1.length) s.2.2 + 1
      unfold dpm
      rw [dpm_c 0 fun x hx j hj => ?_]
      by_cases jl : j < m.2.1.length
      · have e : edg m k j = true := by
          unfold edg
          rw [hs]
          show (decide (j < m.2.1.length) && s.2.2.any fun x => sidx x.1 == some j) = true
          rw [decide_eq_true jl, Bool.true_and, List.any_eq_true]
          exact ⟨x, hx, by rw [hj]; simp⟩
        have := rnk_e a e
        exact h1 j jl (Or.inl (by omega))
      · rw [tvF_o (List.getElem?_eq_none_iff.mpr (by omega)), h2 j (by omega), dz_ge (by omega)]
    · rw [if_neg ck]
      exact h1 k hk (hr.imp id fun q => ⟨q.1, by omega⟩)
  · unfold dup
    rw [if_neg (by omega)]
    exact h2 k hk
theorem swp_rt (a : acy m) {dp : Nat → Nat} {i : Nat} {f : Nat → Nat} (h : rtB m dp i 0 f) : rtB m dp (i + 1) 0 (swp m f) := by
  obtain ⟨h1, h2⟩ := fdr_ind (P := rtB m dp i) m.2.1.length f h fun c a' hc hp => sw1_rt a hc hp
  exact ⟨fun k hk hr => h1 k hk (by rcases hr with q | q <;> omega), h2⟩
theorem mdp_rt (a : acy m) {dp : Nat → Nat} : (∀ k, k < m.2.1.length → mdp m dp k = tvF m dp m.2.1.length k) ∧ ∀ k, m.2.1.length ≤ k → mdp m dp k = dp k := by
  have h0 : rtB m dp 0 0 (dz m dp) := ⟨fun k _ hr => by omega, fun k hk => dz_ge hk⟩
  obtain ⟨h1, h2⟩ := fdr_ind (P := fun i f => rtB m dp i 0 f) (f := fun dp _ => swp m dp) m.2.1.length (dz m dp) h0 fun c a' hc hp => swp_rt a hp
  exact ⟨fun k hk => h1 k hk (Or.inl (rnk_n a hk)), h2⟩
/-- the sweeps come to rest -/
theorem mdp_fix (a : acy m) {dp : Nat → Nat} {k : Nat} {s : Sx} (hs : m.2.1[k]? = some s) : mdp m dp k = dpm (mdp m dp) s.2.2 + 1 := by
  have hk := (List.getElem?_eq_some_iff.mp hs).1
  obtain ⟨h1, h2⟩ := mdp_rt a (dp := dp)
  have hn := rnk_n a hk
  rw [h1 k hk, tvF_s a (rnk m k + 1) m.2.1.length (m.2.1.length + 1) k (Nat.lt_succ_self _) (by omega) (by omega)]
  show (match m.2.1[k]? with | some s => dpm (tvF m dp m.2.1.length) s.2.2 + 1 | none => dz m dp k) = _
  rw [hs]
  show dpm (tvF m dp m.2.1.length) s.2.2 + 1 = dpm (mdp m dp) s.2.2 + 1
  unfold dpm
  rw [dpm_c 0 fun x hx j hj => ?_]
  by_cases jl : j < m.2.1.length
  · exact (h1 j jl).symm
  · rw [tvF_o (List.getElem?_eq_none_iff.mpr (by omega)), h2 j (by omega), dz_ge (by omega)]
theorem tdp_rty {D : Nat → Nat} : ∀ {t : Ty}, bas t = true → tdp D (rty m t) = dtp (fun k => D (sid m k)) t
  | [], h => by cases h
  | [b], h => by
    have h : 1 ≤ b ∧ b ≤ 5 := of_decide_eq_true h
    rw [rty_c (by omega)]
    show (if b = 7 then _ else if b = 6 then _ else 1) = _
    rw [if_neg (by omega), if_neg (by omega)]
    unfold dtp
    have : nve [b] = 0 := by unfold nve; split
                             · rename_i e; injection e with e1 e2; omega
                             · rfl
    rw [this]
    rfl
  | b :: c :: t, h => by
    by_cases b7 : b = 7
    · subst b7
      rw [bas_7] at h
      rw [rty_c (by decide)]
      show (if 7 = 7 then 1 + tdp D (rty m (c :: t)) else _) = _
      rw [if_pos rfl, tdp_rty h]
      unfold dtp
      rw [nve_7, sidx_b (b := 7) (t := c :: t) (by decide) (by simp)]
      omega
    · by_cases b6 : b = 6 ∧ t = []
      · rw [b6.1, b6.2, rty_6]
        show (if 6 = 7 then _ else if 6 = 6 then D ([sid m c].headD 0) else 1) = _
        rw [if_neg (by decide), if_pos rfl]
        unfold dtp
        show D (sid m c) = 0 + D (sid m c)
        omega
      · exfalso
        unfold bas at h
        split at h
        · rename_i e; injection e with e1 e2; cases e2
        · rename_i e; injection e with e1 e2; injection e2 with e3 e4; exact b6 ⟨e1, e4⟩
        · rename_i e; injection e with e1 e2; exact b7 e1
        · cases h
theorem dpm_m {dp : Nat → Nat} : ∀ {l : TL} {a : Nat}, (a ≤ l.foldl (fun a x => max a (dtp dp x.1)) a) ∧ ∀ x ∈ l, dtp dp x.1 ≤ l.foldl (fun a x => max a (dtp dp x.1)) a
  | [], _ => ⟨Nat.le_refl _, fun x hx => by simp at hx⟩
  | y :: l, a => by
    rw [List.foldl_cons]
    obtain ⟨h1, h2⟩ := dpm_m (dp := dp) (l := l) (a := max a (dtp dp y.1))
    refine ⟨by omega, fun x hx => ?_⟩
    rcases List.mem_cons.mp hx with e | e
    · rw [e]; omega
    · exact h2 x e
end
/-- depths by a module's own numbers -/
def gdp (m : Md) (dw : Nat → Nat → Nat) (j : Nat) : Nat := if j < m.2.1.length then dw m.1 j else fdn m dw j
/-- depths of the world's structures -/
def DWI (W : Wd) (dw : Nat → Nat → Nat) : Prop := ∀ n m, W n = some m → (∀ k s, m.2.1[k]? = some s → dw n k ≤ 24 ∧ dw n k = dpm (gdp m dw) s.2.2 + 1) ∧ ∀ s ∈ m.2.2.1, ∃ m', W s.1 = some m' ∧ s.2.1 < m'.2.1.length
def DDi (W : Wd) (dw : Nat → Nat → Nat) (i : Nat) : Nat := match W (i / 256) with
  | some m => if i % 256 < m.2.1.length then dw (i / 256) (i % 256) else 2
  | none => 2
theorem DWI.dw {W : Wd} {dw : Nat → Nat → Nat} (h : DWI W dw) (hW : WV W) (hg : ∀ n m, W n = some m → ∀ k, k < nst m → snb m k < 256) : DW W (DDi W dw) := by
  have own : ∀ {n m k}, W n = some m → k < m.2.1.length → DDi W dw (256 * n + k) = dw n k := fun {n m k} hm hk => by
    have k32 := (hW.2 n m hm).2.2.1
    unfold DDi
    rw [show (256 * n + k) / 256 = n by omega, show (256 * n + k) % 256 = k by omega, hm]
    exact if_pos hk
  have sd : ∀ {n m}, W n = some m → ∀ k, k < nst m → DDi W dw (sid m k) = gdp m dw k := fun {n m} hm k hk => by
    have e1 := (hW.2 n m hm).1
    unfold gdp sid
    by_cases c : k < m.2.1.length
    · rw [if_pos c, if_pos c, e1, own hm c]
    · rw [if_neg c, if_neg c]
      unfold nst at hk
      obtain ⟨s, hs⟩ : ∃ s, m.2.2.1[k - m.2.1.length]? = some s := ⟨_, List.getElem?_eq_getElem (by omega)⟩
      obtain ⟨m', hm', hl⟩ := (h n m hm).2 s (List.mem_of_getElem? hs)
      unfold fdn
      rw [hs]
      exact own hm' hl
  refine ⟨fun i => ?_, fun i T hT => ?_⟩
  · unfold DDi
    cases hm : W (i / 256) with
    | none => simp only; omega
    | some m =>
      simp only
      split
      · rename_i c
        obtain ⟨a, b⟩ := (h _ m hm).1 (i % 256) _ (List.getElem?_eq_getElem c)
        omega
      · omega
  · unfold fdi at hT
    cases hm : W (i / 256) with
    | none =>
      rw [hm] at hT
      have : T = [] := by simpa using hT
      rw [this]
      unfold DDi
      rw [hm]
      show 1 + 1 ≤ 2
      omega
    | some m =>
      rw [hm] at hT
      simp only at hT
      by_cases cl : i % 256 < m.2.1.length
      case neg =>
        rw [if_neg cl] at hT
        have : T = [] := by simpa using hT
        rw [this]
        unfold DDi
        rw [hm]
        simp only
        rw [if_neg cl]
        show 1 + 1 ≤ 2
        omega
      rw [if_pos cl] at hT
      obtain ⟨t, ht, rfl⟩ := List.mem_map.mp hT
      unfold fdl at ht
      cases hs : m.2.1[i % 256]? with
      | none => rw [hs] at ht; simp at ht
      | some s =>
        rw [hs] at ht
        obtain ⟨x, hx, rfl⟩ := List.mem_map.mp ht
        have c := (List.getElem?_eq_some_iff.mp hs).1
        obtain ⟨a, b⟩ := (h _ m hm).1 (i % 256) s hs
        have gm := (hW.2 _ m hm).2.1
        have ft := (gm.2.1 s (List.mem_of_getElem? hs)).2 x hx
        have e : DDi W dw i = dw (i / 256) (i % 256) := by
          unfold DDi
          rw [hm]
          exact if_pos c
        rw [e, b, tdp_rty ft.2.1]
        have e2 : dtp (fun k => DDi W dw (sid m k)) x.1 = dtp (gdp m dw) x.1 := by
          unfold dtp
          cases q : sidx x.1 with
          | none => rfl
          | some k => simp only [sd hm k (ft.2.2.2 k q)]
        rw [e2]
        have := (dpm_m (dp := gdp m dw) (l := s.2.2) (a := 0)).2 x hx
        unfold dpm
        omega
theorem vlk_oks {W : Wd} {cm m : Md} (h : (vlk W cm m).1 = none) : ∀ c ∈ m.2.2.1, sok W cm c = true := by
  unfold vlk at h
  cases hf : ffl (sok W cm) m.2.2.1 with
  | some k => rw [hf] at h; cases h
  | none =>
    unfold ffl at hf
    rw [List.findIdx?_eq_none_iff] at hf
    intro s hs
    have := hf s hs
    simpa using this
/-- the new module's depths -/
def dwu (m : Md) (dw : Nat → Nat → Nat) (n : Nat) : Nat → Nat := if n = m.1 then mdw m dw else dw n
theorem DWI.up {W : Wd} {dw : Nat → Nat → Nat} {cm m : Md} (h : DWI W dw) (hW : WV W) (h0 : W 0 = some cm) (hn : W m.1 = none) (hl : (vlk W cm m).1 = none) (a : acy m) (hv : vla m (mdw m dw) = none) : DWI (wup W m) (dwu m dw) := by
  have le := wup_le hn
  have dq : ∀ {n m'}, W n = some m' → dwu m dw n = dw n := fun {n m'} hm => by
    unfold dwu
    rw [if_neg (fun e => by rw [e, hn] at hm; cases hm)]
  have fs : ∀ s ∈ m.2.2.1, ∃ m', W s.1 = some m' ∧ s.2.1 < m'.2.1.length := fun s hs => by
    have := vlk_oks hl s hs
    unfold sok mof at this
    have h0' : (if s.1 = 0 then some cm else W s.1) = W s.1 := by
      split
      · rename_i e; rw [e, h0]
      · rfl
    rw [h0'] at this
    cases q : W s.1 with
    | none => rw [q] at this; cases this
    | some m' =>
      rw [q] at this
      simp only at this
      cases q2 : m'.2.1[s.2.1]? with
      | none => rw [q2] at this; cases this
      | some s' => exact ⟨m', rfl, (List.getElem?_eq_some_iff.mp q2).1⟩
  have fd : ∀ {m' : Md}, (∀ s ∈ m'.2.2.1, ∃ m2, W s.1 = some m2 ∧ s.2.1 < m2.2.1.length) → ∀ j, fdn m' (dwu m dw) j = fdn m' dw j := fun {m'} hs j => by
    unfold fdn
    cases q : m'.2.2.1[j - m'.2.1.length]? with
    | none => rfl
    | some s =>
      obtain ⟨m2, e, -⟩ := hs s (List.mem_of_getElem? q)
      simp only [dq e]
  intro n m' hm
  unfold wup at hm
  by_cases cn : n = m.1
  · rw [if_pos cn] at hm
    have hm : m = m' := Option.some.inj hm
    subst hm
    subst cn
    have ed : dwu m dw m.1 = mdw m dw := if_pos rfl
    refine ⟨fun k s hs => ?_, fun s hs => ?_⟩
    · rw [ed]
      refine ⟨(vla_ok hv).1 k (List.getElem?_eq_some_iff.mp hs).1, ?_⟩
      have : gdp m (dwu m dw) = mdw m dw := funext fun j => by
        unfold gdp
        split
        · rw [ed]
        · rw [fd fs j]
          exact ((mdp_rt a).2 j (by omega)).symm
      rw [this]
      exact mdp_fix a hs
    · obtain ⟨m2, e, l⟩ := fs s hs
      exact ⟨m2, le _ _ e, l⟩
  · rw [if_neg cn] at hm
    obtain ⟨h1, h2⟩ := h n m' hm
    refine ⟨fun k s hs => ?_, fun s hs => ?_⟩
    · rw [dq hm]
      have : gdp m' (dwu m dw) = gdp m' dw := funext fun j => by
        unfold gdp
        split
        · unfold dwu
          by_cases e : m'.1 = m.1
          · exact absurd ((hW.2 n m' hm).1.symm.trans e) cn
          · rw [if_neg e]
        · exact fd h2 j
      rw [this]
      exact h1 k s hs
    · obtain ⟨m2, e, l⟩ := h2 s hs
      exact ⟨m2, le _ _ e, l⟩
