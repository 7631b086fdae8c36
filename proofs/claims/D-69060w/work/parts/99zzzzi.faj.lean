/-! the ledger's face: accounts, places, coins -/
section
variable {W : Wd} {cm : Md} {dw : Nat → Nat → Nat}
theorem fdi_ne (wk : WOK W cm dw) {id : Nat} : fdi W id ≠ [] := fun e => by
  unfold fdi at e
  cases hm : W (id / 256) with
  | none => rw [hm] at e; cases e
  | some m =>
    rw [hm] at e
    simp only at e
    by_cases c : id % 256 < m.2.1.length
    · rw [if_pos c] at e
      have f1 : 1 ≤ (fdl m (id % 256)).length := by
        unfold fdl
        rw [List.getElem?_eq_getElem c]
        show 1 ≤ (m.2.1[id % 256].2.2.map Prod.fst).length
        rw [List.length_map]
        have hs : m.2.1[id % 256] ∈ m.2.1 := List.getElem_mem c
        by_cases n0 : id / 256 = 0
        · rw [n0, wk.2.1] at hm
          have hm := Option.some.inj hm
          subst hm
          exact wk.2.2.2.1.2.2 _ hs
        · exact (wk.2.2.2.2.2.1 _ m hm n0).2.2.2.2.1 _ hs
      have := congrArg List.length e
      rw [List.length_map] at this
      simp only [List.length_nil] at this
      omega
    · rw [if_neg c] at e; cases e
theorem hdk_6 {T : List Nat} {k : Nat} {x : Int64 × Int64} {n : Nat} (h : hdk T k x n) : k < 16 ∧ (k = 6 → ∃ id, T = [6, id]) := by
  unfold hdk at h
  split at h
  · exact ⟨by omega, fun e => by omega⟩
  · exact ⟨by omega, fun _ => ⟨_, rfl⟩⟩
  · exact ⟨by omega, fun e => by omega⟩
  · exact h.elim
theorem FT_ck (wk : WOK W cm dw) : ∀ {c : Fo} {l : List (List Nat)}, FT W c l → fck c
  | .leaf, _, _ => trivial
  | .inner k x _ c nx, l, ft => by
    cases l with
    | nil => exact ft.elim
    | cons T l =>
      obtain ⟨f1, f2, f3⟩ := ft
      refine ⟨(hdk_6 f1).1, fun e hc => ?_, FT_ck wk f2, FT_ck wk f3⟩
      obtain ⟨id, hT⟩ := (hdk_6 f1).2 e.1
      subst hT
      subst hc
      have : fdi W id = [] := f2
      exact fdi_ne wk this
theorem VT_ck (wk : WOK W cm dw) {T : List Nat} {v : VL} (h : VT W T v) : v.1 < 16 ∧ (v.1 = 6 ∧ v.2.1.1 = 0 → v.2.2 ≠ .leaf) ∧ fck v.2.2 := by
  obtain ⟨f1, f2⟩ := h
  refine ⟨(hdk_6 f1).1, fun e hc => ?_, FT_ck wk f2⟩
  obtain ⟨id, hT⟩ := (hdk_6 f1).2 e.1
  subst hT
  rw [hc] at f2
  have : fdi W id = [] := f2
  exact fdi_ne wk this
end
section
variable {n B : Nat} {G : Gt} {cm : Md} {y : Ly} {lx : Lx} {a : Ab} {h h' : AH} {d : Nat} {K : Outcome → AH → Prop} {P : Nat → Nat → Prop}
/-- the state in the heap -/
theorem RCm.st (r : RCm n G B cm y lx a h) : ∃ MA l o ms, (h.R 1 (yA y) = some (yE y) ∧ EtR h o 0 0 (yE y) 256 MA a.2.2.2.2.2.1.2.2.1) ∧ VH G B h (yQ y) l o ∧ QOK cm a.2.2.2.2.2.1 ms ∧ STO h (yE y) a.2.2.2.2.2.1.2.2.1 := by
  obtain ⟨MA, mw, dx, ms, g, l, o, ⟨e1, -⟩, e3, -⟩ := r.1.1
  exact ⟨MA, l, o, ms, ⟨e1.1.1.1.1.2.2.2.2.1, e1.2.2.2.1⟩, e1.2.2.2.2.2.1, e3, e1.2.2.2.2.2.2.2⟩
def acF (a : Ab) (ad : Int64) (w : Nat) : Int64 := if w = 0 then (vsw a.2.2.2.2.2.1.2.2.1 (1, ad, 0)).2.1 else if w = 1 then (vsw a.2.2.2.2.2.1.2.2.1 (1, ad, 0)).2.2.1 else 0
theorem account_ok {ad : Int64} {w : Int32} (r : RCm n G B cm y lx a h) (hd : 2 ≤ d) (kk : K (.returned (some (.long (acF a ad (um w))))) h) : MW G d e_X1_account [.ref (yA y), .long ad, .int w] h K := by
  refine st_X1_account fun X o hG hD _ => ?_
  subst hG; subst hD
  have t0 := r.t0
  obtain ⟨MA, l, oo, ms, ⟨rE, et⟩, vh, qk, so⟩ := r.st
  have tE := et.1.1.1.1
  have k1 : (((1, ad, 0) : Pc)).1 < 4 := by show 1 < 4; omega
  refine k_X1_account_0 o ?_
  refine find_ok (q := (1, ad, 0)) et.1 ⟨by show 1 < _; omega, by show 0 < _; omega⟩ (by omega) ?_
  rw [fidx_map]
  have ev : ∀ k, k < 2147483648 → (w = nI k ↔ um w = k) := fun k hk => ⟨fun e => by rw [e, um_n (by omega)], fun e => by rw [← e, nI_um]⟩
  cases hf : a.2.2.2.2.2.1.2.2.1.findIdx? (fun x => x.1 == (1, ad, 0)) with
  | none =>
    have e : vsw a.2.2.2.2.2.1.2.2.1 (1, ad, 0) = (false, 0, 0, none) := by
      rw [vsw_3 k1]
      unfold lfc
      rw [fidx_n hf]
    have e2 : acF a ad (um w) = 0 := by
      unfold acF
      rw [e]
      split
      · rfl
      · split <;> rfl
    rw [e2] at kk
    refine k_X1_account_10 o (fun _ => ?_) (fun a ca => by cases ca)
    refine k_X1_account_17 o ?_
    exact k_X1_account_47 o kk
  | some e =>
    obtain ⟨z, z1, z2⟩ := fidx_s hf
    obtain ⟨⟨y1, y2, y3⟩, -⟩ := et.2.1 e _ z2
    have el := (List.getElem?_eq_some_iff.mp z2).1
    have hc := (qk.1.1.1.1.2 _ (List.mem_of_getElem? z2)).1.1
    have e4 : vsw a.2.2.2.2.2.1.2.2.1 (1, ad, 0) = z.1 := by
      rw [vsw_3 k1]
      unfold lfc
      rw [z1]
      exact ctf hc
    have te := (et.1.1.2 e (by have := qk.1.1.1.2; omega)).2
    refine k_X1_account_10 o (fun ca => by cases ca) (fun a' ca => ?_)
    rw [← Option.some.inj ca]
    unfold acF at kk
    rw [e4] at kk
    by_cases w0 : um w = 0
    · rw [if_pos w0] at kk
      refine k_X1_account_21 o (fun q => absurd ((ev 0 (by omega)).mpr w0) q) (fun _ => ?_)
      refine k_X1_account_25 (r2 := y2) o ?_
      exact k_X1_account_47 o kk
    · rw [if_neg w0] at kk
      refine k_X1_account_21 o (fun _ => ?_) (fun q => absurd ((ev 0 (by omega)).mp q) w0)
      by_cases w1 : um w = 1
      · rw [if_pos w1] at kk
        refine k_X1_account_33 o (fun q => absurd ((ev 1 (by omega)).mpr w1) q) (fun _ => ?_)
        refine k_X1_account_38 (r2 := y3) o ?_
        exact k_X1_account_47 o kk
      · rw [if_neg w1] at kk
        refine k_X1_account_33 o (fun _ => ?_) (fun q => absurd ((ev 1 (by omega)).mp q) w1)
        refine k_X1_account_46 o ?_
        exact k_X1_account_47 o kk
/-- how many of a kind -/
def knn (st : Lw) (k : Nat) : Nat := (st.filter fun x => x.1.1 == k).length
def plcF (a : Ab) (w : Nat) : Int32 := if w < 4 then nI (if w = 0 then a.2.2.2.2.2.1.2.2.1.length else knn a.2.2.2.2.2.1.2.2.1 (if w = 1 then 2 else if w = 2 then 3 else 1)) else -1
theorem knn_s {st : Lw} {k j : Nat} {x : Pc × Cn × Bool} (hx : (st)[j]? = some x) : knn (st.take (j + 1)) k = knn (st.take j) k + if x.1.1 = k then 1 else 0 := by
  unfold knn
  rw [List.take_succ, hx, List.filter_append, List.length_append]
  show _ + (List.filter (fun x => x.1.1 == k) [x]).length = _
  by_cases c : x.1.1 = k
  · rw [if_pos c, List.filter_cons, if_pos (by rw [c]; simp)]; rfl
  · rw [if_neg c, List.filter_cons, if_neg (by simpa using c)]; rfl
theorem places_ok {w : Int32} (r : RCm n G B cm y lx a h) (kk : K (.returned (some (.int (plcF a (um w))))) h) : MW G d e_X1_places [.ref (yA y), .int w] h K := by
  refine st_X1_places fun X o hG hD _ => ?_
  have t0 := r.t0
  obtain ⟨MA, l, oo, ms, ⟨rE, et⟩, vh, qk, so⟩ := r.st
  have tE := et.1.1.1.1
  have rR := et.1.1.1.2.1
  have tR := et.1.1.1.2.2
  have cE := et.1.2.1.1
  rw [List.length_map] at cE
  have n256 := qk.1.1.1.2
  have w32 := um_lt w
  by_cases c0 : w < 0
  · have : ¬ um w < 4 := by have := um_neg.mp c0; omega
    unfold plcF at kk
    rw [if_neg this] at kk
    refine k_X1_places_0 o (fun _ => ?_) (fun q => absurd c0 q)
    exact k_X1_places_9 o kk
  have w31 : um w < 2147483648 := by have : ¬ _ := fun q => c0 (um_neg.mpr q); omega
  have e3 : w ≤ nI 3 ↔ um w ≤ 3 := by
    have := nI_leI (a := um w) (b := 3) (by omega) (by omega)
    rw [nI_um] at this
    exact this
  have ev : ∀ k, k < 2147483648 → (w = nI k ↔ um w = k) := fun k hk => ⟨fun e => by rw [e, um_n (by omega)], fun e => by rw [← e, nI_um]⟩
  refine k_X1_places_0 o (fun q => absurd q c0) (fun _ => ?_)
  by_cases c4 : um w < 4
  · refine k_X1_places_4 o (fun _ => ?_) (fun q => absurd (e3.mpr (by omega)) q)
    unfold plcF at kk
    rw [if_pos c4] at kk
    have loop : ∀ kd, (um w = 0 ∨ kd = (if um w = 1 then 2 else if um w = 2 then 3 else 1)) → kd < 4 → ∀ m j cnt, m + j = a.2.2.2.2.2.1.2.2.1.length → cnt = (if um w = 0 then j else knn (a.2.2.2.2.2.1.2.2.1.take j) kd) → V X K 36 [.ref (yA y), .int w, .int (nI kd), .int (nI cnt), .int (nI j)] [] h := by
      intro kd hkd kd4 m
      induction m with
      | zero =>
        intro j cnt hj hc
        have ej : j = a.2.2.2.2.2.1.2.2.1.length := by omega
        refine k_X1_places_36 (r5 := cE) o (fun _ => ?_) (fun q => absurd (by rw [ej]; exact Int32.le_refl _) q)
        have : cnt = (if um w = 0 then a.2.2.2.2.2.1.2.2.1.length else knn a.2.2.2.2.2.1.2.2.1 (if um w = 1 then 2 else if um w = 2 then 3 else 1)) := by
          rw [hc]
          by_cases w0 : um w = 0
          · rw [if_pos w0, if_pos w0, ej]
          · rw [if_neg w0, if_neg w0, ej, List.take_length]
            rcases hkd with q | q
            · exact absurd q w0
            · rw [q]
        rw [← this] at kk
        exact k_X1_places_83 o kk
      | succ m ih =>
        intro j cnt hj hc
        have jl : j < a.2.2.2.2.2.1.2.2.1.length := by omega
        obtain ⟨x, hx⟩ : ∃ x, a.2.2.2.2.2.1.2.2.1[j]? = some x := ⟨_, List.getElem?_eq_getElem jl⟩
        refine k_X1_places_36 (r5 := cE) o (fun q => absurd ((nI_leI (by omega) (by omega)).mp q) (by omega)) (fun _ => ?_)
        have cl : cnt ≤ j := by
          rw [hc]
          split
          · exact Nat.le_refl _
          · unfold knn
            exact Nat.le_trans (List.length_filter_le _ _) (by rw [List.length_take]; omega)
        have go : ∀ b, cnt + b = (if um w = 0 then j + 1 else knn (a.2.2.2.2.2.1.2.2.1.take (j + 1)) kd) → V X K 75 [.ref (yA y), .int w, .int (nI kd), .int (nI cnt), .int (nI j)] [.int (nI b), .int (nI cnt)] h := fun b hb => by
          refine k_X1_places_75 o ?_
          rw [nI_add, nI_add]
          exact ih (j + 1) (cnt + b) (by omega) hb
        by_cases w0 : um w = 0
        · refine k_X1_places_48 o (fun _ => ?_) (fun q => absurd ((ev 0 (by omega)).mpr w0) q)
          refine k_X1_places_70 o ?_
          rw [if_pos w0] at hc
          exact go 1 (by rw [if_pos w0, hc])
        · refine k_X1_places_48 o (fun q => absurd ((ev 0 (by omega)).mp q) w0) (fun _ => ?_)
          obtain ⟨eR, tX⟩ := et.1.1.2 j (by omega)
          obtain ⟨⟨kx, -⟩, px⟩ := et.1.2.2 j x.1 (by rw [List.getElem?_map, hx]; rfl)
          have x4 := (qk.1.1.1.1.2 x (List.mem_of_getElem? hx)).2
          have ix : IX (nI j) 256 j := IX.mk (by omega) (by omega)
          rw [if_neg w0] at hc
          have kn := knn_s (k := kd) hx
          refine k_X1_places_53 (r14 := kx) o (fun q => ?_) (fun q => ?_)
          · have ne : x.1.1 ≠ kd := fun z => q (by rw [z])
            refine k_X1_places_74 o ?_
            exact go 0 (by rw [if_neg w0, kn, if_neg ne, hc])
          · have eq : x.1.1 = kd := (nI_eq (by omega) (by omega)).mp q
            refine k_X1_places_70 o ?_
            exact go 1 (by rw [if_neg w0, kn, if_pos eq, hc])
    have st30 : ∀ kd, (um w = 0 ∨ kd = (if um w = 1 then 2 else if um w = 2 then 3 else 1)) → kd < 4 → V X K 30 [.ref (yA y), .int w, nov, nov, nov] [.int (nI kd)] h := fun kd h1 h2 => by
      refine k_X1_places_30 o ?_
      refine loop kd h1 h2 a.2.2.2.2.2.1.2.2.1.length 0 0 (by omega) ?_
      split <;> rfl
    by_cases w1 : um w = 1
    · refine k_X1_places_11 o (fun q => absurd ((ev 1 (by omega)).mpr w1) q) (fun _ => ?_)
      refine k_X1_places_16 o ?_
      exact st30 2 (Or.inr (by rw [if_pos w1])) (by omega)
    · refine k_X1_places_11 o (fun _ => ?_) (fun q => absurd ((ev 1 (by omega)).mp q) w1)
      by_cases w2 : um w = 2
      · refine k_X1_places_20 o (fun q => absurd ((ev 2 (by omega)).mpr w2) q) (fun _ => ?_)
        refine k_X1_places_25 o ?_
        exact st30 3 (Or.inr (by rw [if_neg w1, if_pos w2])) (by omega)
      · refine k_X1_places_20 o (fun _ => ?_) (fun q => absurd ((ev 2 (by omega)).mp q) w2)
        refine k_X1_places_29 o ?_
        exact st30 1 (Or.inr (by rw [if_neg w1, if_neg w2])) (by omega)
  · refine k_X1_places_4 o (fun q => absurd (e3.mp q) (by omega)) (fun _ => ?_)
    unfold plcF at kk
    rw [if_neg c4] at kk
    exact k_X1_places_9 o kk
end
