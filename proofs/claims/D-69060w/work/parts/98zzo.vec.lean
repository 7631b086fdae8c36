/-! a worker of the component's: vectors -/
theorem idx_n {i : Int64} {n : Nat} (hn : n ≤ 65536) : (¬ i < 0 ∧ ¬ lN n ≤ i) ↔ un i < n := by
  rw [un_neg]
  constructor
  · intro ⟨h1, h2⟩
    refine Nat.lt_of_not_le fun c => h2 ?_
    rw [← lN_un i]
    exact (lN_leI (by omega) (by omega)).mpr c
  · intro h1
    refine ⟨by omega, fun c => ?_⟩
    rw [← lN_un i] at c
    have := (lN_leI (by omega) (by omega)).mp c
    omega
theorem idx_i {i : Int64} {n : Nat} (hn : n ≤ 65536) (h : un i < n) : i.toInt32 = nI (un i) := uI (by rw [um_32]; omega)
theorem lvw_self : ∀ {p : List Nat} {z y : LV}, lva z p = some y → lvw z p y = z
  | [], z, y, h => by cases h; rfl
  | i :: p, z, y, h => by
    have h : (match (llo z.2.2.2)[i]? with
      | some w => lva w p
      | none => none) = some y := h
    cases ha : (llo z.2.2.2)[i]? with
    | none => rw [ha] at h; cases h
    | some a =>
      rw [ha] at h
      have h : lva a p = some y := h
      rw [lvs_c ha, lvw_self h]
      have e : (llo z.2.2.2).set i a = llo z.2.2.2 := by
        refine List.ext_getElem? fun j => ?_
        by_cases c : j = i
        · subst c
          rw [List.getElem?_set_self (get_lt ha), ha]
        · rw [List.getElem?_set_ne (fun e => c e.symm)]
      rw [e, lof_llo]
section
variable {G : Gt} {B d : Nat} {h : AH} {l : List Nat} {o : Lc} {wi W A q BA X tt lim SP t : Nat} {snd : Int64} {MA : Ma} {s : Ms} {K : Outcome → AH → Prop}
theorem rtv_K {k : List It} (r : Nat × Nat) : rtv (sK s k) r = rtv s r := rtv_F (s := s) (f := ((tpf s).1, (tpf s).2.1, (tpf s).2.2.1, k)) rfl r
theorem wrf_1 {r : Rx} {w : VL} : (wrf s r w).1 = s.1 ∧ gas (wrf s r w) = gas s := by
  unfold wrf
  split
  · unfold rst
    split
    · split
      · exact ⟨rfl, rfl⟩
      · exact ⟨rfl, rfl⟩
    · exact ⟨rfl, rfl⟩
  · exact ⟨rfl, rfl⟩
theorem uF_c {F : Nat → Fm} {i j : Nat} {a b : Fm} (h : i ≠ j) : uF (uF F i a) j b = uF (uF F j b) i a := by
  funext n
  unfold uF
  by_cases c : n = j
  · rw [if_pos c, if_pos c, if_neg (fun e => h (e.symm.trans c))]
  · rw [if_neg c, if_neg c]
theorem uF_u {F : Nat → Fm} {i : Nat} {a b : Fm} : uF (uF F i a) i b = uF F i b := by
  funext n
  unfold uF
  split <;> rfl
theorem uF_e {F : Nat → Fm} {i j : Nat} {a : Fm} (h : j ≠ i) : uF F i a j = F j := if_neg h
theorem wrf_K {r : Rx} {w : VL} {k : List It} : sK (wrf s r w) k = wrf (sK s k) r w := by
  unfold wrf
  rw [rtv_K]
  cases hr : rtv s r.1 with
  | none => rfl
  | some v =>
    show sK (rst s r.1 (vst v r.2 w)) k = rst (sK s k) r.1 (vst v r.2 w)
    generalize vst v r.2 w = u
    obtain ⟨⟨i, n⟩, p⟩ := r
    cases i with
    | zero =>
      show sK (match (ens s)[n]? with
        | some e => sE s ((ens s).set n (e.1, e.2.1, (e.2.2.1.1, e.2.2.1.2.1, e.2.2.1.2.2.1, some u), e.2.2.2))
        | none => s) k = match (ens s)[n]? with
        | some e => sE (sK s k) ((ens s).set n (e.1, e.2.1, (e.2.2.1.1, e.2.2.1.2.1, e.2.2.1.2.2.1, some u), e.2.2.2))
        | none => sK s k
      cases (ens s)[n]? with
      | none => rfl
      | some e => rfl
    | succ j =>
      show sK (s.1, uF s.2.1 j ((s.2.1 j).1, (s.2.1 j).2.1, uLc (s.2.1 j).2.2.1 n (some (.inl u)), (s.2.1 j).2.2.2), s.2.2) k = ((sK s k).1, uF (sK s k).2.1 j (((sK s k).2.1 j).1, ((sK s k).2.1 j).2.1, uLc ((sK s k).2.1 j).2.2.1 n (some (.inl u)), ((sK s k).2.1 j).2.2.2), (sK s k).2.2)
      refine Prod.ext rfl (Prod.ext ?_ rfl)
      show uF (uF s.2.1 j ((s.2.1 j).1, (s.2.1 j).2.1, uLc (s.2.1 j).2.2.1 n (some (.inl u)), (s.2.1 j).2.2.2)) (s.1 - 1) (((uF s.2.1 j ((s.2.1 j).1, (s.2.1 j).2.1, uLc (s.2.1 j).2.2.1 n (some (.inl u)), (s.2.1 j).2.2.2)) (s.1 - 1)).1, ((uF s.2.1 j ((s.2.1 j).1, (s.2.1 j).2.1, uLc (s.2.1 j).2.2.1 n (some (.inl u)), (s.2.1 j).2.2.2)) (s.1 - 1)).2.1, ((uF s.2.1 j ((s.2.1 j).1, (s.2.1 j).2.1, uLc (s.2.1 j).2.2.1 n (some (.inl u)), (s.2.1 j).2.2.2)) (s.1 - 1)).2.2.1, k) = uF (uF s.2.1 (s.1 - 1) ((tpf s).1, (tpf s).2.1, (tpf s).2.2.1, k)) j (((uF s.2.1 (s.1 - 1) ((tpf s).1, (tpf s).2.1, (tpf s).2.2.1, k)) j).1, ((uF s.2.1 (s.1 - 1) ((tpf s).1, (tpf s).2.1, (tpf s).2.2.1, k)) j).2.1, uLc ((uF s.2.1 (s.1 - 1) ((tpf s).1, (tpf s).2.1, (tpf s).2.2.1, k)) j).2.2.1 n (some (.inl u)), ((uF s.2.1 (s.1 - 1) ((tpf s).1, (tpf s).2.1, (tpf s).2.2.1, k)) j).2.2.2)
      by_cases c : j = s.1 - 1
      · subst c
        rw [uF_s, uF_s, uF_u, uF_u]
        rfl
      · rw [uF_e c, uF_e (fun e => c e.symm), uF_c c]
        rfl
theorem rfs_i {r : Rx} : r ∈ rfs s ↔ ∃ j, j < s.1 ∧ r ∈ rfF (s.2.1 j) := by
  unfold rfs
  rw [List.mem_flatMap]
  constructor
  · rintro ⟨j, h1, h2⟩; exact ⟨j, List.mem_range.mp h1, h2⟩
  · rintro ⟨j, h1, h2⟩; exact ⟨j, List.mem_range.mpr h1, h2⟩
theorem blw_r (r : Rx) : blw r r = false := by
  unfold blw
  simp
theorem nlw_up {k : List It} {r : Rx} (ht : t + 1 = s.1) (hk : ∀ q ∈ (stk s).flatMap rfI, q ∈ k.flatMap rfI ∨ q = r) (hn : nlw (sK s k) r = true) : nlw s r = true := by
  unfold nlw at hn ⊢
  rw [List.all_eq_true] at hn ⊢
  intro q hq
  obtain ⟨j, h1, h2⟩ := rfs_i.mp hq
  by_cases c : j = t
  · subst c
    rcases rfF_i.mp h2 with z | ⟨n, n1, n2⟩
    · have : stk s = (s.2.1 j).2.2.2 := by unfold stk; rw [tpt ht]
      rw [← this] at z
      rcases hk q z with z | z
      · refine hn q (rfs_i.mpr ⟨j, h1, ?_⟩)
        show q ∈ rfF (uF s.2.1 (s.1 - 1) _ j)
        rw [show s.1 - 1 = j by omega, uF_s]
        exact List.mem_append_left _ z
      · rw [z, blw_r]; rfl
    · refine hn q (rfs_i.mpr ⟨j, h1, ?_⟩)
      show q ∈ rfF (uF s.2.1 (s.1 - 1) _ j)
      rw [show s.1 - 1 = j by omega, uF_s]
      refine rfF_i.mpr (Or.inr ⟨n, n1, ?_⟩)
      show (tpf s).2.2.1 n = _
      rw [tpt ht]; exact n2
  · refine hn q (rfs_i.mpr ⟨j, h1, ?_⟩)
    show q ∈ rfF (uF s.2.1 (s.1 - 1) _ j)
    rw [uF_e (by omega)]; exact h2
/-- a value below a root has become another one -/
theorem OPR.wr {h' : AH} {l' : List Nat} {z y y' : LV} {r : Rx} (H : OPR G B h A W q BA X tt snd lim SP wi MA l o s) (hz : o (rsl' wi r.1) = some z) (hy : lva z r.2 = some y) (h1 : y'.1 = y.1) (hv : rtv s r.1 = some (lvE z)) (hn : nlw s r = true) (f1 : Fr VQ h h') (v1 : VH G B h' q l' (uO o (rsl' wi r.1) (some (lvw z r.2 y')))) (tg : TG o [] h h') : OUT wi W h h' o (uO o (rsl' wi r.1) (some (lvw z r.2 y'))) ∧ OPR G B h' A W q BA X tt snd lim SP wi MA l' (uO o (rsl' wi r.1) (some (lvw z r.2 y'))) (wrf s r (lvE y')) := by
  obtain ⟨c, v, w, hf, hg, hw⟩ := H
  have fi : Fr (IP W) h h' := f1.mono VQ.ip
  refine ⟨OUT.mk1 fi ?_ (fun p x _ hx => tg p x (by simp) hx), c.ip fi, v1, w.wr hz hy h1 hv hn f1 tg, ?_, by rw [wrf_1.2]; exact hg, hw.vq f1⟩
  · obtain ⟨⟨i, n⟩, p⟩ := r
    cases i with
    | zero => exact ⟨⟨by show 1 ≤ 3; omega, by show 3 ≤ 3; omega⟩, rfl⟩
    | succ j => exact ⟨⟨by show 1 ≤ 2; omega, by show 2 ≤ 3; omega⟩, rfl⟩
  · rw [wrf_1.1, f1.R (VQ.no (l := [28]) rfl _ _ rfl)]; exact hf
/-- the value on top goes aside -/
theorem cpopT_ok {i : It} {k : List It} (H : OPR G B h A W q BA X tt snd lim SP wi MA l o s) (hs : stk s = i :: k) (kk : ∀ h' x sl o', OUW [(5, wi, sl, 1)] wi W h h' o o' ∧ o (5, wi, sl, 1) = none → OPR G B h' A W q BA X tt snd lim SP wi MA l o' (sK s k) → (∀ p, p ≠ (1, wi, s.1 - 1, k.length) → p ≠ (5, wi, sl, 1) → o' p = o p) → o' (5, wi, sl, 1) = some x → ItL h o wi i x → (∀ b, h'.R 3718 b = h.R 3718 b) → av G h' l = av G h l → K (.returned (some (.ref x.1))) h') : MW G d e_X1_pop [.ref A] h K := by
  obtain ⟨c, v, w, hf, hg, hw⟩ := H
  obtain ⟨t, ht⟩ : ∃ t, t + 1 = s.1 := ⟨s.1 - 1, by have := w.1.2.2.1; omega⟩
  rw [show s.1 - 1 = t by omega] at hf kk
  have t32 : t < 32 := by have := w.1.2.2.2.1; omega
  obtain ⟨sl, hsl⟩ := v.slot wi
  refine cpop_ok c w hf ht hs fun h1 x f1 x1 x2 w1 => ?_
  obtain ⟨v1, tg1⟩ := v.oth f1 PH.v
  have fi : Fr (IP W) h h1 := f1.1.mono (PH.ip t32)
  refine kk h1 x sl (uO (uO o (1, wi, t, k.length) none) (5, wi, sl, 1) (some x)) ⟨⟨fi, fun p hp hn => ?_⟩, hsl⟩ ⟨c.ip fi, v1.mov x1 hsl, w1.tmp, ?_, hg, hw.ph f1.1⟩ (fun p h1 h2 => by rw [uO_n h2, uO_n h1]) uO_s x2 (fun b => f1.1.R fun z => by rcases z.1 with z | z <;> exact absurd z (by decide)) (by unfold av; rw [f1.2.1])
  · exact ⟨by rw [uO_n (by simpa using hn), uO_n (OUT.ne hp (by omega))], fun y hy => tg1 p y (by simp) hy⟩
  · rw [f1.1.R PH.f]
    show _ = some (Fa W (s.1 - 1))
    rw [show s.1 - 1 = t by omega]; exact hf
theorem OPR.hd (H : OPR G B h A W q BA X tt snd lim SP wi MA l o s) : (stk s).length ≤ 64 := by
  obtain ⟨t, ht⟩ : ∃ t, t + 1 = s.1 := ⟨s.1 - 1, by have := H.2.2.1.1.2.2.1; omega⟩
  obtain ⟨-, m, es, -⟩ := H.2.2.1.F ht
  rw [es]; exact m.1.2.2.2.2
theorem nI_le0 {n : Nat} (h : n < 2147483648) : nI n ≤ 0 ↔ n = 0 := by
  rw [show (0 : Int32) = nI 0 from rfl, nI_leI h (by omega)]
  omega
end
