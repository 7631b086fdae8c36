/-! which modules there are; depths that agree -/
def k2s (st : Lw) : List Pc := (plw st).filter fun p => p.1 == 2
theorem mdn_k {st : Lw} : mdn st = (k2s st).length := by
  unfold mdn k2s plw
  rw [List.filter_map, List.length_map]
  rfl
theorem k2s_nd {st : Lw} (w : STW st) : (k2s st).Nodup := w.1.filter _
theorem k2s_m {st : Lw} (w : STW st) {p : Pc} : p ∈ k2s st ↔ p.1 = 2 ∧ (vsw st p).1 = true := by
  unfold k2s
  rw [List.mem_filter]
  constructor
  · rintro ⟨h1, h2⟩
    have h2 : p.1 = 2 := by simpa using h2
    refine ⟨h2, ?_⟩
    rw [vsw_3 (by omega)]
    exact (lfc_t w).mpr fun z => lfd_n.mp z h1
  · rintro ⟨h1, h2⟩
    rw [vsw_3 (by omega)] at h2
    refine ⟨Classical.byContradiction fun z => (lfc_t w).mp h2 (lfd_n.mpr z), by rw [h1]; rfl⟩
/-- the modules that were published -/
def MST (W : Wd) (st : Lw) (ms : List Nat) : Prop := ms.Nodup ∧ (∀ n, n ∈ ms ↔ n ≠ 0 ∧ ∃ m, W n = some m) ∧ (∀ n ∈ ms, n < 65536) ∧ ∀ p, p ∈ k2s st ↔ ∃ n ∈ ms, p = (2, lN n, 0)
theorem map_nd {ms : List Nat} (h : ∀ n ∈ ms, n < 65536) (nd : ms.Nodup) : (ms.map fun n => ((2, lN n, 0) : Pc)).Nodup := by
  induction ms with
  | nil => exact List.nodup_nil
  | cons a l ih =>
    rw [List.nodup_cons] at nd
    rw [List.map_cons, List.nodup_cons]
    refine ⟨fun hm => ?_, ih (fun n hn => h n (List.mem_cons_of_mem _ hn)) nd.2⟩
    obtain ⟨b, b1, b2⟩ := List.mem_map.mp hm
    have e : lN b = lN a := congrArg (fun p : Pc => p.2.1) b2
    have := h a (List.mem_cons_self ..)
    have := h b (List.mem_cons_of_mem _ b1)
    have : b = a := (lN_iff (by omega) (by omega)).mp e
    exact nd.1 (this ▸ b1)
theorem MST.len {W : Wd} {st : Lw} {ms : List Nat} (w : STW st) (h : MST W st ms) : mdn st = ms.length := by
  rw [mdn_k]
  obtain ⟨h1, h2, h3, h4⟩ := h
  have e : (ms.map fun n => ((2, lN n, 0) : Pc)).length = ms.length := List.length_map _
  have a := nodup_le' (k2s_nd w) (L := ms.map fun n => ((2, lN n, 0) : Pc)) (fun p hp => by
    obtain ⟨n, n1, n2⟩ := (h4 p).mp hp
    exact List.mem_map.mpr ⟨n, n1, n2.symm⟩)
  have b := nodup_le' (map_nd h3 h1) (L := k2s st) (fun p hp => by
    obtain ⟨n, n1, n2⟩ := List.mem_map.mp hp
    exact (h4 p).mpr ⟨n, n1, n2.symm⟩)
  omega
theorem MST.tk {W : Wd} {st ls : Lw} {ms : List Nat} (w : STW st) (nd : (plw ls).Nodup) (hk : ∀ x ∈ ls, x.1.1 ≠ 2) (h : MST W st ms) : MST W (tkOv st ls) ms := by
  obtain ⟨h1, h2, h3, h4⟩ := h
  obtain ⟨t1, t2, -⟩ := tkO_w w nd
  refine ⟨h1, h2, h3, fun p => ?_⟩
  rw [← h4 p, k2s_m t1, k2s_m w]
  refine and_congr_right fun p2 => ?_
  rw [vsw_3 (by omega), vsw_3 (by omega), t2 p (by omega)]
  have : lfd ls p = none := lfd_n.mpr fun z => by
    obtain ⟨x, x1, x2⟩ := List.mem_map.mp z
    exact hk x x1 (by rw [x2]; exact p2)
  rw [this]
theorem MST.pub {W : Wd} {st st' : Lw} {ms : List Nat} {m : Md} {snd : Int64} {us : Nat} (w : STW st) (w' : STW st') (m16 : m.1 < 65536) (m0 : m.1 ≠ 0) (hn : W m.1 = none) (hp : ∀ p, p.1 < 4 → vsw st' p = match pbL (vsw st) snd us m.1 p with
    | some c => nrm c
    | none => vsw st p) (h : MST W st ms) : MST (wup W m) st' (m.1 :: ms) := by
  obtain ⟨h1, h2, h3, h4⟩ := h
  refine ⟨List.nodup_cons.mpr ⟨fun z => ?_, h1⟩, fun n => ?_, fun n hn => ?_, fun p => ?_⟩
  · obtain ⟨-, m', e⟩ := (h2 m.1).mp z
    rw [hn] at e; cases e
  · rw [List.mem_cons, h2]
    unfold wup
    by_cases c : n = m.1
    · rw [if_pos c]
      exact ⟨fun _ => ⟨by rw [c]; exact m0, m, rfl⟩, fun _ => Or.inl c⟩
    · rw [if_neg c]
      exact ⟨fun z => z.resolve_left c, Or.inr⟩
  · rcases List.mem_cons.mp hn with e | e
    · rw [e]; exact m16
    · exact h3 n e
  · rw [k2s_m w']
    have key : p.1 = 2 → ((vsw st' p).1 = true ↔ p = (2, lN m.1, 0) ∨ (vsw st p).1 = true) := fun p2 => by
      rw [hp p (by omega)]
      unfold pbL
      rw [if_neg (fun z => absurd (p2.symm.trans (congrArg Prod.fst z)) (show ¬ ((2 : Nat) = 1) by decide))]
      by_cases c : p = (2, lN m.1, 0)
      · subst c
        have q1 : ¬ ((2, lN m.1, 0) : Pc) = (4, 0, 0) := fun z => absurd (congrArg Prod.fst z) (show (2 : Nat) ≠ 4 by decide)
        have q2 : ¬ ((2, lN m.1, 0) : Pc) = (5, 0, 0) := fun z => absurd (congrArg Prod.fst z) (show (2 : Nat) ≠ 5 by decide)
        rw [if_pos (by unfold pbs; simp)]
        unfold pbc
        rw [if_neg q1, if_neg q2, if_pos rfl]
        refine ⟨fun _ => Or.inl rfl, fun _ => ?_⟩
        show (nrm (onT (vsw st (2, lN m.1, 0)))).1 = true
        rw [ctf (show (onT (vsw st (2, lN m.1, 0))).1 = true from rfl)]
        rfl
      · rw [if_neg]
        · exact ⟨Or.inr, fun z => z.resolve_left c⟩
        · unfold pbs
          simp only [Bool.or_eq_true, beq_iff_eq]
          rintro ((z | z) | z)
          · rw [z] at p2; exact absurd p2 (show ¬ ((4 : Nat) = 2) by decide)
          · rw [z] at p2; exact absurd p2 (show ¬ ((5 : Nat) = 2) by decide)
          · exact c z
    constructor
    · rintro ⟨p2, q⟩
      rcases (key p2).mp q with e | e
      · exact ⟨m.1, List.mem_cons_self .., e⟩
      · obtain ⟨n, n1, n2⟩ := (h4 p).mp ((k2s_m w).mpr ⟨p2, e⟩)
        exact ⟨n, List.mem_cons_of_mem _ n1, n2⟩
    · rintro ⟨n, n1, n2⟩
      have p2 : p.1 = 2 := by rw [n2]
      refine ⟨p2, (key p2).mpr ?_⟩
      rcases List.mem_cons.mp n1 with e | e
      · exact Or.inl (by rw [n2, e])
      · exact Or.inr ((k2s_m w).mp ((h4 p).mpr ⟨n, e, n2⟩)).2
/-- kinds of places -/
def K1s (st : Lw) : Prop := ∀ x ∈ st, 1 ≤ x.1.1
theorem K1s.tk {st ls : Lw} (w : STW st) (nd : (plw ls).Nodup) (h : K1s st) (hl : ∀ x ∈ ls, 1 ≤ x.1.1) : K1s (tkOv st ls) := fun x hx => by
  obtain ⟨t1, t2, -⟩ := tkO_w w nd
  have p4 := (t1.2 x hx).2
  have e1 : lfd (tkOv st ls) x.1 ≠ none := fun z => lfd_n.mp z (List.mem_map.mpr ⟨x, hx, rfl⟩)
  have e2 := (lfc_t t1).mpr e1
  rw [t2 x.1 p4] at e2
  cases hf : lfd ls x.1 with
  | some y =>
    have := hl _ (lfd_mem hf)
    exact this
  | none =>
    rw [hf] at e2
    have e3 := (lfc_t w).mp e2
    have : x.1 ∈ plw st := Classical.byContradiction fun z => e3 (lfd_n.mpr z)
    obtain ⟨y, y1, y2⟩ := List.mem_map.mp this
    have := h y y1
    rw [← y2]; exact this
/-- depths agree where structures are -/
def AGD (W : Wd) (dx dw : Nat → Nat → Nat) : Prop := ∀ n m, W n = some m → ∀ k, k < m.2.1.length → dx n k = dw n k
section
variable {W : Wd} {cm m : Md} {dx dw : Nat → Nat → Nat}
theorem vlk_st (h0 : W 0 = some cm) (hl : (vlk W cm m).1 = none) : ∀ s ∈ m.2.2.1, ∃ m', W s.1 = some m' ∧ s.2.1 < m'.2.1.length := fun s hs => by
  have := vlk_oks hl s hs
  unfold sok mof at this
  have h0' : (if s.1 = 0 then some cm else W s.1) = W s.1 := by
    split
    · rename_i e; rw [e, h0]
    · rfl
  rw [h0'] at this
  cases q : W s.1 with
  | none => rw [q] at this; cases this
  | some m' =>
    rw [q] at this
    simp only at this
    cases q2 : m'.2.1[s.2.1]? with
    | none => rw [q2] at this; cases this
    | some s' => exact ⟨m', rfl, (List.getElem?_eq_some_iff.mp q2).1⟩
theorem mdw_dw (h : AGD W dx dw) (h0 : W 0 = some cm) (hl : (vlk W cm m).1 = none) : mdw m dx = mdw m dw := by
  have : fdn m dx = fdn m dw := funext fun i => by
    unfold fdn
    cases q : m.2.2.1[i - m.2.1.length]? with
    | none => rfl
    | some s =>
      obtain ⟨m2, e, l⟩ := vlk_st h0 hl s (List.mem_of_getElem? q)
      simp only [h _ _ e _ l]
  unfold mdw
  rw [this]
theorem mpx_dw (h : AGD W dx dw) (h0 : W 0 = some cm) {env : Pc → Cn} {x : TxC} {n : Nat} {rd : Except (Nat × Nat) Md} : mpx W cm dx env x n rd = mpx W cm dw env x n rd := by
  have : ∀ es, mpb W cm dx env x.2.2.1 n rd es = mpb W cm dw env x.2.2.1 n rd es := fun es => by
    unfold mpb
    cases rd with
    | error e => rfl
    | ok m =>
      simp only
      cases hl : (vlk W cm m).1 with
      | some e => rfl
      | none => rw [mdw_dw h h0 hl]
  unfold mpx
  rw [this]
theorem AGD.up (h : AGD W dx dw) (hn : W m.1 = none) (hm : mdw m dx = mdw m dw) {dp : Nat → Nat} (hd : dag m dp (mdw m dx)) : AGD (wup W m) (fun n => if n = m.1 then dp else dx n) (dwu m dw) := fun n m' hm' k hk => by
  unfold wup at hm'
  show (if n = m.1 then dp else dx n) k = (if n = m.1 then mdw m dw else dw n) k
  by_cases c : n = m.1
  · rw [if_pos c] at hm'
    rw [if_pos c, if_pos c, ← hm]
    have hm' : m = m' := Option.some.inj hm'
    subst hm'
    exact hd k (by unfold nst; omega)
  · rw [if_neg c] at hm'
    rw [if_neg c, if_neg c]
    exact h n m' hm' k hk
end
/-- what holds of the world of modules -/
def WOK (W : Wd) (cm : Md) (dw : Nat → Nat → Nat) : Prop := WV W ∧ W 0 = some cm ∧ CMC cm ∧ ((mcs cm).length ≤ 2048 ∧ cm.2.1.length = 1 ∧ ∀ s ∈ cm.2.1, 1 ≤ s.2.2.length) ∧ DWI W dw ∧ (∀ n m, W n = some m → n ≠ 0 → GDm m) ∧ ∀ n m, W n = some m → smB m
theorem WOK.sn {W : Wd} {cm : Md} {dw : Nat → Nat → Nat} (h : WOK W cm dw) : ∀ n m, W n = some m → ∀ k, k < nst m → snb m k < 256 := fun n m hm k hk => by
  obtain ⟨-, h0, hc, -, -, hg, -⟩ := h
  by_cases e : n = 0
  · rw [e, h0] at hm
    rw [← Option.some.inj hm] at hk ⊢
    exact hc.2.2.1 k hk
  · exact (hg n m hm e).sn k hk
theorem WOK.dw {W : Wd} {cm : Md} {dw : Nat → Nat → Nat} (h : WOK W cm dw) : WV W ∧ DW W (DDi W dw) ∧ ∀ n m, W n = some m → (mcs m).length ≤ 2048 := ⟨h.1, h.2.2.2.2.1.dw h.1 h.sn, fun n m hm => by
  by_cases e : n = 0
  · rw [e, h.2.1] at hm
    rw [← Option.some.inj hm]
    exact h.2.2.2.1.1
  · exact (h.2.2.2.2.2.1 n m hm e).2.1⟩
theorem WOK.up {W : Wd} {cm m : Md} {dw : Nat → Nat → Nat} (h : WOK W cm dw) (hn : W m.1 = none) (gd : GDm m) (a : acy m) (hl : (vlk W cm m).1 = none) (hv : vla m (mdw m dw) = none) : WOK (wup W m) cm (dwu m dw) := by
  have sn := h.sn
  obtain ⟨h1, h2, h3, h4, h5, h6, h7⟩ := h
  have m0 : ¬ 0 = m.1 := fun e => by rw [← e, h2] at hn; cases hn
  refine ⟨h1.up h2 h3 hn gd hl hv sn, by unfold wup; rw [if_neg m0]; exact h2, h3, h4, h5.up h1 h2 hn hl a hv, fun n m' hm hne => ?_, fun n m' hm => ?_⟩
  · unfold wup at hm
    by_cases c : n = m.1
    · rw [if_pos c] at hm
      rw [← Option.some.inj hm]; exact gd
    · rw [if_neg c] at hm
      exact h6 n m' hm hne
  · unfold wup at hm
    by_cases c : n = m.1
    · rw [if_pos c] at hm
      rw [← Option.some.inj hm]; exact gd.sm
    · rw [if_neg c] at hm
      exact h7 n m' hm
