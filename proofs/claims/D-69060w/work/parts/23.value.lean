def fat : LF → Nat → Option Nat
  | .leaf, _ => none
  | .inner _ x _ _ _, 0 => some x.1
  | .inner _ _ _ _ r, i + 1 => fat r i
theorem part_loop : ∀ (g : LF) {X : Xt} (o : OK e_X30_part X) {K : Outcome → AH → Prop} {h : AH} {p : Option Nat} {k m y : Nat} {v : Value}, RF h g p → fat g m = some y → k + m < 2147483648 → K (.returned (some (.ref y))) h → V X K 7 [v, .int (nI (k + m)), va_rf p, .int (nI k)] [] h
  | .leaf, _, _, _, _, _, _, _, _, _, _, e, _, _ => nomatch e
  | .inner kk x _ c r, X, o, K, h, p, k, 0, y, v, ⟨e1, e2, e3, e4, e5, e6, e7, e8⟩, e, hm, kk2 => by
    cases e; subst e1
    refine k_X30_part_7 o (fun _ => k_X30_part_23 o kk2) (fun c => absurd (Int32.le_refl _) c)
  | .inner kk x _ c r, X, o, K, h, p, k, m + 1, y, v, ⟨e1, e2, e3, e4, e5, e6, e7, e8⟩, e, hm, kk2 => by
    subst e1
    refine k_X30_part_7 o (fun c => ?_) (fun _ => ?_)
    · exact absurd ((nI_leI (by omega) (by omega)).mp c) (by omega)
    · refine k_X30_part_12 o ?_
      rw [nI_add, show k + (m + 1) = k + 1 + m by omega]
      exact part_loop r o e8 e (by omega) kk2
theorem fat_lt : ∀ {c : LF} {i y : Nat}, fat c i = some y → i < fln c
  | .leaf, _, _, e => nomatch e
  | .inner _ x _ _ r, 0, _, _ => by simp only [fln]; omega
  | .inner _ _ _ _ r, i + 1, _, e => by have := fat_lt (c := r) e; simp only [fln]; omega
theorem part_ok {G : Gt} {d a kd i y : Nat} {x : Int64 × Int64} {c : LF} {h : AH} {K : Outcome → AH → Prop} (hv : RV h a kd x c) (hi : fat c i = some y) (hb : i < 2147483648) (kk : K (.returned (some (.ref y))) h) : MW G d e_X30_part [.ref a, .int (nI i)] h K := by
  refine st_X30_part fun X o hG hD hf => ?_
  obtain ⟨e2, e3, e4, e5, e6, e7⟩ := hv
  refine k_X30_part_0 o ?_
  have := part_loop c o (k := 0) (m := i) (v := .ref a) e7 hi (by omega) kk
  rw [Nat.zero_add] at this
  exact this
theorem nI_sub {a b : Nat} (h : b ≤ a) : nI a - nI b = nI (a - b) := by
  obtain ⟨k, rfl⟩ := Nat.exists_eq_add_of_le h
  rw [Nat.add_sub_cancel_left, Nat.add_comm, ← nI_add]
  unfold nI
  rw [Int32.add_sub_cancel]
theorem flst_fat : ∀ {c : LF} {d : Option Nat} {z : Nat}, c ≠ .leaf → flst c d = some z → fat c (fln c - 1) = some z
  | .leaf, _, _, n, _ => absurd rfl n
  | .inner _ x _ _ .leaf, _, z, _, e => by simpa [flst, fat, fln] using e
  | .inner _ x _ _ (.inner k2 x2 u2 c2 r2), _, z, _, e => by
    have := flst_fat (c := .inner k2 x2 u2 c2 r2) (d := some x.1) (z := z) (by simp) e
    simp only [fln] at this ⊢
    rw [show 1 + (1 + fln r2) - 1 = (1 + fln r2 - 1) + 1 by omega]
    exact this
theorem flst_some : ∀ {c : LF} {d : Option Nat}, c ≠ .leaf → ∃ z, flst c d = some z
  | .leaf, _, n => absurd rfl n
  | .inner _ x _ _ .leaf, _, _ => ⟨x.1, rfl⟩
  | .inner _ x _ _ (.inner k2 x2 u2 c2 r2), _, _ => flst_some (c := .inner k2 x2 u2 c2 r2) (d := some x.1) (by simp)
theorem fln_0 : ∀ {c : LF}, fln c = 0 → c = .leaf
  | .leaf, _ => rfl
  | .inner _ _ _ _ r, e => by simp only [fln] at e; omega
/-- a part comes behind the others -/
theorem add_ok {G : Gt} {d a b kd kb : Nat} {x y : Int64 × Int64} {c cb : LF} {h : AH} {K : Outcome → AH → Prop} (hv : RV h a kd x c) (hw : RV h b kb y cb) (hn : (a :: (fad c ++ b :: fad cb)).Nodup) (hb : fln c < 2147483647) (hd : 2 ≤ d)
    (kk : ∀ h', Fr (VP (a :: (fad c ++ [b])) h.n) h h' → h'.n = h.n → h'.z = h.z → h'.R 1280 = h.R 1280 → RV h' a kd x (fap c (.inner kb (b, y) () cb .leaf)) → K (.returned none) h') : MW G d e_X30_add [.ref a, .ref b] h K := by
  refine st_X30_add fun X o hG hD hf => ?_
  subst hG; subst hD
  obtain ⟨e2, e3, e4, e5, e6, e7⟩ := hv
  obtain ⟨u2, u3, u4, u5, u6, u7⟩ := hw
  simp only [List.nodup_cons, List.nodup_append, List.mem_append, List.mem_cons] at hn
  have f1 : Fr (P1 3716 b) h (h.sR 3716 b none) := (Fr.refl h).sR P1.i
  have nd : RF (h.sR 3716 b none) (.inner kb (b, y) () cb .leaf) (some b) := ⟨rfl, u2, u3, u4, u5, u6, RF.fr f1 u7 fun f z hz _ _ q => by have := q.2; grind, by simp [n_sI, z_sI, tag_sI, I_sI, J_sI, R_sI, EI_sI, EJ_sI, ER_sI, n_sJ, z_sJ, tag_sJ, I_sJ, J_sJ, R_sJ, EI_sJ, EJ_sJ, ER_sJ, n_sR, z_sR, tag_sR, I_sR, J_sR, R_sR, EI_sR, EJ_sR, ER_sR, n_sEI, z_sEI, tag_sEI, I_sEI, J_sEI, R_sEI, EI_sEI, EJ_sEI, ER_sEI, n_sEJ, z_sEJ, tag_sEJ, I_sEJ, J_sEJ, R_sEJ, EI_sEJ, EJ_sEJ, ER_sEJ, n_sER, z_sER, tag_sER, I_sER, J_sER, R_sER, EI_sER, EJ_sER, ER_sER, n_nw, z_nw, tag_nw, I_nw, J_nw, R_nw, EI_nw, EJ_nw, ER_nw, RF]⟩
  have c1 : RF (h.sR 3716 b none) c (h.R 3715 a) := RF.fr f1 e7 fun f z hz _ _ q => by have := q.2; grind
  have fin : ∀ h2, Fr (VP (a :: (fad c ++ [b])) h.n) h h2 → h2.n = h.n → h2.z = h.z → h2.R 1280 = h.R 1280 → h2.tag a = some (29, 0) → h2.I 3712 a = nI kd → h2.J 3713 a = x.1 → h2.J 3714 a = x.2 → h2.I 3717 a = nI (fln c) → RF h2 (fap c (.inner kb (b, y) () cb .leaf)) (h2.R 3715 a) → V X K 34 [.ref a, .ref b] [] h2 := by
    intro h2 f2 m2 z2 p2 t2 i1 i2 i3 i4 i5
    refine k_X30_add_34 o ?_
    have f3 : Fr (P1 3717 a) h2 (h2.sI 3717 a (nI (fln c) + nI 1)) := (Fr.refl h2).sI P1.i
    refine kk _ (f2.sI (VP.inn (by simp) rfl rfl)) m2 z2 p2 ⟨t2, ?_, i2, i3, ?_, ?_⟩
    · rw [f3.I (by simp [P1])]; exact i1
    · rw [I_same, nI_add, fln_ap]; rfl
    · refine RF.fr f3 i5 fun f z hz _ _ q => ?_
      have := q.2
      rw [fad_ap] at hz
      simp only [fad, List.append_nil, List.mem_append, List.mem_cons] at hz
      grind
  refine k_X30_add_0 o (fun c0 => ?_) (fun c0 => ?_)
  · have hcl : c ≠ .leaf := fun q => by subst q; exact c0 rfl
    obtain ⟨z, hz⟩ := flst_some (d := none) hcl
    have hzc : z ∈ fad c := (flst_in hz).elim id fun q => nomatch q
    have tz := RF.tg c1 z hzc
    have hpos : fln c ≠ 0 := fun q => hcl (fln_0 q)
    refine k_X30_add_20 o ?_
    rw [nI_sub (by omega)]
    refine part_ok (kd := kd) (x := x) ⟨e2, e3, e4, e5, e6, c1⟩ (flst_fat hcl hz) (by omega) ?_
    refine k_X30_add_30 o ?_
    refine fin _ (((Fr.refl h).sR (VP.inn (by simp) rfl rfl)).sR (VP.inn (by simp [hzc]) rfl rfl)) rfl rfl ?_ e2 e3 e4 e5 e6 ?_
    · funext w; simp [n_sI, z_sI, tag_sI, I_sI, J_sI, R_sI, EI_sI, EJ_sI, ER_sI, n_sJ, z_sJ, tag_sJ, I_sJ, J_sJ, R_sJ, EI_sJ, EJ_sJ, ER_sJ, n_sR, z_sR, tag_sR, I_sR, J_sR, R_sR, EI_sR, EJ_sR, ER_sR, n_sEI, z_sEI, tag_sEI, I_sEI, J_sEI, R_sEI, EI_sEI, EJ_sEI, ER_sEI, n_sEJ, z_sEJ, tag_sEJ, I_sEJ, J_sEJ, R_sEJ, EI_sEJ, EJ_sEJ, ER_sEJ, n_sER, z_sER, tag_sER, I_sER, J_sER, R_sER, EI_sER, EJ_sER, ER_sER, n_nw, z_nw, tag_nw, I_nw, J_nw, R_nw, EI_nw, EJ_nw, ER_nw]
    · have : ((h.sR 3716 b none).sR 3716 z (some b)).R 3715 a = h.R 3715 a := by simp [n_sI, z_sI, tag_sI, I_sI, J_sI, R_sI, EI_sI, EJ_sI, ER_sI, n_sJ, z_sJ, tag_sJ, I_sJ, J_sJ, R_sJ, EI_sJ, EJ_sJ, ER_sJ, n_sR, z_sR, tag_sR, I_sR, J_sR, R_sR, EI_sR, EJ_sR, ER_sR, n_sEI, z_sEI, tag_sEI, I_sEI, J_sEI, R_sEI, EI_sEI, EJ_sEI, ER_sEI, n_sEJ, z_sEJ, tag_sEJ, I_sEJ, J_sEJ, R_sEJ, EI_sEJ, EJ_sEJ, ER_sEJ, n_sER, z_sER, tag_sER, I_sER, J_sER, R_sER, EI_sER, EJ_sER, ER_sER, n_nw, z_nw, tag_nw, I_nw, J_nw, R_nw, EI_nw, EJ_nw, ER_nw]
      rw [this]
      exact RF.snoc nd (by simp only [fad, List.append_nil, List.mem_cons]; grind) c1 hz hn.2.1
  · have hcl : c = .leaf := by
      refine fln_0 ?_
      by_cases q : fln c = 0
      · exact q
      · exact absurd c0 (nI_ne0 (by omega) (by omega))
    subst hcl
    refine k_X30_add_12 o ?_
    refine fin _ (((Fr.refl h).sR (VP.inn (by simp) rfl rfl)).sR (VP.inn (by simp) rfl rfl)) rfl rfl ?_ e2 e3 e4 e5 e6 ?_
    · funext w; simp [n_sI, z_sI, tag_sI, I_sI, J_sI, R_sI, EI_sI, EJ_sI, ER_sI, n_sJ, z_sJ, tag_sJ, I_sJ, J_sJ, R_sJ, EI_sJ, EJ_sJ, ER_sJ, n_sR, z_sR, tag_sR, I_sR, J_sR, R_sR, EI_sR, EJ_sR, ER_sR, n_sEI, z_sEI, tag_sEI, I_sEI, J_sEI, R_sEI, EI_sEI, EJ_sEI, ER_sEI, n_sEJ, z_sEJ, tag_sEJ, I_sEJ, J_sEJ, R_sEJ, EI_sEJ, EJ_sEJ, ER_sEJ, n_sER, z_sER, tag_sER, I_sER, J_sER, R_sER, EI_sER, EJ_sER, ER_sER, n_nw, z_nw, tag_nw, I_nw, J_nw, R_nw, EI_nw, EJ_nw, ER_nw]
    · rw [R_same]
      exact RF.fr (P := P1 3715 a) ((Fr.refl _).sR P1.i) nd fun f z hz _ _ q => by
        have q := q.2
        have hz : z = b ∨ z ∈ fad cb := by simpa [fap, fad] using hz
        rw [q] at hz
        exact hn.1 (Or.inr hz)

/-- the last part goes: what was the forest of parts is one before it, and it -/
theorem fln_pos_ap (c0 : LF) (kb b : Nat) (y : Int64 × Int64) (cb : LF) : fln (fap c0 (.inner kb (b, y) () cb .leaf)) = fln c0 + 1 := by rw [fln_ap]; rfl
theorem fat_last : ∀ (c0 : LF) {kb b : Nat} {y : Int64 × Int64} {cb : LF}, fat (fap c0 (.inner kb (b, y) () cb .leaf)) (fln c0) = some b
  | .leaf, _, _, _, _ => rfl
  | .inner _ _ _ _ r, kb, b, y, cb => by
    simp only [fap, fln]
    rw [Nat.add_comm 1]
    exact fat_last r
theorem fat_ap : ∀ {c0 g : LF} {i z : Nat}, fat c0 i = some z → fat (fap c0 g) i = some z
  | .leaf, _, _, _, e => nomatch e
  | .inner _ x _ _ r, g, 0, z, e => e
  | .inner _ _ _ _ r, g, i + 1, z, e => fat_ap (c0 := r) e
theorem RF.ap : ∀ {h : AH} {c0 g : LF} {p : Option Nat}, RF h (fap c0 g) p → c0 ≠ .leaf → ∃ z, flst c0 none = some z ∧ RF h g (h.R 3716 z) ∧ ((fad (fap c0 g)).Nodup → RF (h.sR 3716 z none) c0 p)
  | h, .leaf, _, _, _, n => absurd rfl n
  | h, .inner k x _ c .leaf, g, p, ⟨e1, e2, e3, e4, e5, e6, e7, e8⟩, _ => by
    refine ⟨x.1, rfl, e8, fun hn => ?_⟩
    have hc : x.1 ∉ fad c := by simp only [fap, fad, List.nodup_cons, List.mem_append] at hn; grind
    have f : Fr (P1 3716 x.1) h (h.sR 3716 x.1 none) := (Fr.refl h).sR P1.i
    exact ⟨e1, e2, e3, e4, e5, e6, RF.fr f e7 fun f a ha _ _ q => hc (q.2 ▸ ha), by rw [R_same]; rfl⟩
  | h, .inner k x _ c (.inner k2 x2 u2 c2 r2), g, p, ⟨e1, e2, e3, e4, e5, e6, e7, e8⟩, _ => by
    obtain ⟨z, z1, z2, z3⟩ := RF.ap (c0 := .inner k2 x2 u2 c2 r2) e8 (by simp)
    have hin : z ∈ fad (.inner k2 x2 u2 c2 r2) := (flst_in z1).elim id fun q => nomatch q
    refine ⟨z, z1, z2, fun hn => ?_⟩
    rw [fad_ap] at hn
    have hn0 := hn
    simp only [fad, List.cons_append, List.append_assoc, List.nodup_cons, List.nodup_append, List.mem_append, List.mem_cons] at hn hin
    have f : Fr (P1 3716 z) h (h.sR 3716 z none) := (Fr.refl h).sR P1.i
    refine ⟨e1, e2, e3, e4, e5, e6, RF.fr f e7 fun f a ha _ _ q => ?_, ?_⟩
    · have := q.2; grind
    · rw [R_sR, if_neg fun q => by have := q.2; grind]
      refine z3 ?_
      rw [fad_ap]
      simp only [fad, List.cons_append, List.append_assoc, List.nodup_cons, List.nodup_append, List.mem_append, List.mem_cons]
      grind
theorem RF.nth : ∀ {h : AH} {c0 : LF} {p : Option Nat} {kb b : Nat} {y : Int64 × Int64} {cb : LF}, RF h (fap c0 (.inner kb (b, y) () cb .leaf)) p → RV h b kb y cb ∧ h.R 3716 b = none
  | h, .leaf, p, kb, b, y, cb, ⟨e1, e2, e3, e4, e5, e6, e7, e8⟩ => ⟨⟨e2, e3, e4, e5, e6, e7⟩, e8⟩
  | h, .inner k x _ c r, p, kb, b, y, cb, ⟨e1, e2, e3, e4, e5, e6, e7, e8⟩ => RF.nth (c0 := r) e8
theorem removeLast_ok {G : Gt} {d a b kd kb : Nat} {x y : Int64 × Int64} {c0 cb : LF} {h : AH} {K : Outcome → AH → Prop} (hv : RV h a kd x (fap c0 (.inner kb (b, y) () cb .leaf))) (hn : (a :: (fad c0 ++ b :: fad cb)).Nodup) (hb : fln c0 < 2147483647) (hd : 2 ≤ d)
    (kk : ∀ h', Fr (VP (a :: fad c0) h.n) h h' → h'.n = h.n → h'.z = h.z → h'.R 1280 = h.R 1280 → RV h' a kd x c0 → RV h' b kb y cb → K (.returned (some (.ref b))) h') : MW G d e_X30_removeLast [.ref a] h K := by
  refine st_X30_removeLast fun X o hG hD hf => ?_
  subst hG; subst hD
  have hv0 := hv
  obtain ⟨e2, e3, e4, e5, e6, e7⟩ := hv
  rw [fln_pos_ap] at e6
  obtain ⟨v1, v2⟩ := RF.nth e7
  simp only [List.nodup_cons, List.nodup_append, List.mem_append, List.mem_cons] at hn
  refine k_X30_removeLast_0 o ?_
  rw [nI_sub (by omega), Nat.add_sub_cancel]
  refine part_ok hv0 (fat_last c0) (by omega) ?_
  have fin : ∀ h2, Fr (VP (a :: fad c0) h.n) h h2 → h2.n = h.n → h2.z = h.z → h2.R 1280 = h.R 1280 → h2.tag a = some (29, 0) → h2.I 3712 a = nI kd → h2.J 3713 a = x.1 → h2.J 3714 a = x.2 → h2.I 3717 a = nI (fln c0 + 1) → RF h2 c0 (h2.R 3715 a) → RV h2 b kb y cb → V X K 41 [.ref a, .ref b] [] h2 := by
    intro h2 f2 m2 z2 p2 t2 i1 i2 i3 i4 i5 i6
    refine k_X30_removeLast_41 o ?_
    have f3 : Fr (P1 3717 a) h2 (h2.sI 3717 a (nI (fln c0 + 1) - nI 1)) := (Fr.refl h2).sI P1.i
    refine kk _ (f2.sI (VP.inn (by simp) rfl rfl)) m2 z2 p2 ⟨t2, ?_, i2, i3, ?_, ?_⟩ (i6.fr f3 fun f z hz _ _ q => ?_)
    · rw [f3.I (by simp [P1])]; exact i1
    · rw [I_same, nI_sub (by omega)]; rfl
    · exact RF.fr f3 i5 fun f z hz _ _ q => by have := q.2; grind
    · have q := q.2; simp only [List.mem_cons] at hz; grind
  refine k_X30_removeLast_10 o (fun c1 => ?_) (fun c1 => ?_)
  · have hcl : c0 ≠ .leaf := fun q => by subst q; exact c1 rfl
    obtain ⟨z, z1, z2, z3⟩ := RF.ap e7 hcl
    have hzc : z ∈ fad c0 := (flst_in z1).elim id fun q => nomatch q
    have tz := RF.tg e7 z (by rw [fad_ap]; simp [hzc])
    have hpos : fln c0 ≠ 0 := fun q => hcl (fln_0 q)
    refine k_X30_removeLast_27 o ?_
    rw [nI_sub (by omega), show fln c0 + 1 - 2 = fln c0 - 1 by omega]
    refine part_ok hv0 (fat_ap (flst_fat hcl z1)) (by omega) ?_
    refine k_X30_removeLast_37 o ?_
    have f1 : Fr (P1 3716 z) h (h.sR 3716 z none) := (Fr.refl h).sR P1.i
    refine fin _ ((Fr.refl h).sR (VP.inn (by simp [hzc]) rfl rfl)) rfl rfl ?_ e2 e3 e4 e5 e6 ?_ (v1.fr f1 fun f w hw _ _ q => ?_)
    · funext w; simp [n_sI, z_sI, tag_sI, I_sI, J_sI, R_sI, EI_sI, EJ_sI, ER_sI, n_sJ, z_sJ, tag_sJ, I_sJ, J_sJ, R_sJ, EI_sJ, EJ_sJ, ER_sJ, n_sR, z_sR, tag_sR, I_sR, J_sR, R_sR, EI_sR, EJ_sR, ER_sR, n_sEI, z_sEI, tag_sEI, I_sEI, J_sEI, R_sEI, EI_sEI, EJ_sEI, ER_sEI, n_sEJ, z_sEJ, tag_sEJ, I_sEJ, J_sEJ, R_sEJ, EI_sEJ, EJ_sEJ, ER_sEJ, n_sER, z_sER, tag_sER, I_sER, J_sER, R_sER, EI_sER, EJ_sER, ER_sER, n_nw, z_nw, tag_nw, I_nw, J_nw, R_nw, EI_nw, EJ_nw, ER_nw]
    · have : (h.sR 3716 z none).R 3715 a = h.R 3715 a := by simp [n_sI, z_sI, tag_sI, I_sI, J_sI, R_sI, EI_sI, EJ_sI, ER_sI, n_sJ, z_sJ, tag_sJ, I_sJ, J_sJ, R_sJ, EI_sJ, EJ_sJ, ER_sJ, n_sR, z_sR, tag_sR, I_sR, J_sR, R_sR, EI_sR, EJ_sR, ER_sR, n_sEI, z_sEI, tag_sEI, I_sEI, J_sEI, R_sEI, EI_sEI, EJ_sEI, ER_sEI, n_sEJ, z_sEJ, tag_sEJ, I_sEJ, J_sEJ, R_sEJ, EI_sEJ, EJ_sEJ, ER_sEJ, n_sER, z_sER, tag_sER, I_sER, J_sER, R_sER, EI_sER, EJ_sER, ER_sER, n_nw, z_nw, tag_nw, I_nw, J_nw, R_nw, EI_nw, EJ_nw, ER_nw]
      rw [this]
      refine z3 ?_
      rw [fad_ap]; simp only [fad, List.append_nil, List.nodup_append, List.nodup_cons, List.mem_cons]
      grind
    · have q := q.2; simp only [List.mem_cons] at hw; grind
  · have hcl : c0 = .leaf := by
      refine fln_0 ?_
      have := (nI_eq (a := fln c0 + 1) (b := 1) (by omega) (by omega)).mp c1
      omega
    subst hcl
    refine k_X30_removeLast_19 o ?_
    have f1 : Fr (P1 3715 a) h (h.sR 3715 a none) := (Fr.refl h).sR P1.i
    refine fin _ ((Fr.refl h).sR (VP.inn (by simp) rfl rfl)) rfl rfl ?_ e2 e3 e4 e5 e6 ?_ (v1.fr f1 fun f w hw _ _ q => ?_)
    · funext w; simp [n_sI, z_sI, tag_sI, I_sI, J_sI, R_sI, EI_sI, EJ_sI, ER_sI, n_sJ, z_sJ, tag_sJ, I_sJ, J_sJ, R_sJ, EI_sJ, EJ_sJ, ER_sJ, n_sR, z_sR, tag_sR, I_sR, J_sR, R_sR, EI_sR, EJ_sR, ER_sR, n_sEI, z_sEI, tag_sEI, I_sEI, J_sEI, R_sEI, EI_sEI, EJ_sEI, ER_sEI, n_sEJ, z_sEJ, tag_sEJ, I_sEJ, J_sEJ, R_sEJ, EI_sEJ, EJ_sEJ, ER_sEJ, n_sER, z_sER, tag_sER, I_sER, J_sER, R_sER, EI_sER, EJ_sER, ER_sER, n_nw, z_nw, tag_nw, I_nw, J_nw, R_nw, EI_nw, EJ_nw, ER_nw]
    · rw [R_same]; rfl
    · have q := q.2; simp only [List.mem_cons] at hw; grind
theorem replace_loop {q : Nat} : ∀ (g : LF) {X : Xt} (o : OK e_X11_replace X) {K : Outcome → AH → Prop} {h : AH} {l : List Nat} {p : Option Nat} {v1 v2 v3 : Value}, PL X.G h q l → RF h g p → (fad g ++ l).Nodup → fdp g + 1 ≤ X.d →
    (∀ h' l' v, Fr (VP (fad g ++ l) h.n) h h' → OW h.n h'.n (fad g ++ l) l' → PL X.G h' q l' → h'.n = h.n → V X K 26 [.ref q, v1, v2, .null, v] [] h') → V X K 5 [.ref q, v1, v2, va_rf p, v3] [] h
  | .leaf, X, o, K, h, l, p, v1, v2, v3, hp, hr, hn, hd, k => by
    cases hr
    refine k_X11_replace_5 o (fun _ => ?_) (fun a c => nomatch c)
    exact k h l v3 (Fr.refl h) ⟨hn, fun x => ⟨Or.inl, fun z => z.elim id fun z => by omega⟩⟩ hp rfl
  | .inner kk x _ c r, X, o, K, h, l, p, v1, v2, v3, hp, ⟨e1, e2, e3, e4, e5, e6, e7, e8⟩, hn, hd, k => by
    refine V.fr fun hf => ?_
    subst e1
    simp only [fdp] at hd
    simp only [fad, List.cons_append, List.append_assoc, List.nodup_cons, List.nodup_append, List.mem_append] at hn
    have hrn := RF.lt hf e8
    refine k_X11_replace_5 o (fun c => nomatch c) (fun a c => ?_)
    cases c
    refine k_X11_replace_9 o ?_
    refine drop_ok hp (kd := kk) (x := x.2) ⟨e2, e3, e4, e5, e6, e7⟩ (by simp only [List.nodup_cons, List.nodup_append, List.mem_append]; grind) (by omega) fun h1 l1 g1 w1 r1 m1 _ => ?_
    have w2 := w1.2
    have w3 := w1.1
    simp only [List.mem_append, List.mem_cons, m1] at w2
    refine k_X11_replace_20 o ?_
    refine replace_loop r o r1 (RF.fr g1 e8 fun f a ha b1 b2 z => ?_) ?_ (by omega) fun h2 l2 v g2 u2 r2 m2 => ?_
    · have := hrn a ha
      simp only [VP, List.mem_append, List.mem_cons] at z
      grind
    · simp only [List.nodup_append]
      grind
    · have u3 := u2.2
      simp only [m2, m1, List.mem_append, w2] at u3
      refine k h2 l2 v ((g1.mono (VP.mono fun a z => ?_)).trans (g2.mono (VP.mono fun a z => ?_))) ⟨u2.1, fun a => ?_⟩ r2 (by omega)
      · simp only [fad, List.cons_append, List.mem_cons, List.mem_append] at z ⊢
        grind
      · simp only [fad, List.cons_append, List.mem_cons, List.mem_append, w2, m1] at z ⊢
        grind
      · simp only [fad, List.cons_append, List.mem_cons, List.mem_append, m2, m1]
        grind
/-- a value takes the place of another one's content -/
theorem replace_ok {G : Gt} {d q a b kd kb : Nat} {x y : Int64 × Int64} {c cb : LF} {h : AH} {l : List Nat} {K : Outcome → AH → Prop} (hp : PL G h q l) (hv : RV h a kd x c) (hw : RV h b kb y cb) (hn : (a :: b :: (fad c ++ (fad cb ++ l))).Nodup) (hd : fdp c + 1 ≤ d)
    (kk : ∀ h' l', Fr (VP (a :: b :: (fad c ++ l)) h.n) h h' → OW h.n h'.n (b :: (fad c ++ l)) l' → PL G h' q l' → h'.n = h.n → RV h' a kd y cb → K (.returned none) h') : MW G d e_X11_replace [.ref q, .ref a, .ref b] h K := by
  refine st_X11_replace fun X o hG hD hf => ?_
  subst hG; subst hD
  obtain ⟨e2, e3, e4, e5, e6, e7⟩ := id hv
  simp only [List.nodup_cons, List.nodup_append, List.mem_append, List.mem_cons] at hn
  have han := hf.lt hv.1
  have hbn := hf.lt hw.1
  have hcn := RF.lt hf hv.2.2.2.2.2
  have hdn := RF.lt hf hw.2.2.2.2.2
  refine k_X11_replace_0 o ?_
  refine replace_loop c o hp e7 (by simp only [List.nodup_append]; grind) (by omega) fun h1 l1 v g1 w1 r1 m1 => ?_
  have w2 := w1.2
  have w3 := w1.1
  simp only [List.mem_append, m1] at w2
  have na : ∀ f y', (y' = a ∨ y' = b ∨ y' ∈ fad cb) → f ≠ 1280 → ¬ VP (fad c ++ l) h.n f y' := fun f y' hy hf' => VP.out (by simp only [List.mem_append]; grind) (by grind) hf'
  obtain ⟨i2, i3, i4, i5, i6, i7⟩ := RV.fr g1 hw fun f y' hy _ _ => na f y' (by simp only [List.mem_cons] at hy; grind) (by omega)
  have t2 := g1.tag e2
  have j3 : h1.I 3712 a = nI kd := by rw [g1.I (na _ _ (by grind) (by decide))]; exact e3
  have hq := r1.1
  refine k_X11_replace_26 o ?_
  refine k_X11_replace_66 o ?_
  generalize hh : ((((((h1.sJ 3713 a y.1).sJ 3714 a y.2).sR 3715 a (h1.R 3715 b)).sI 3717 a (nI (fln cb))).sR 3716 b (h1.R 1280 q)).sR 1280 q (some b)) = h2
  have f2 : Fr (PO (PO (P1 3713 a) (PO (P1 3714 a) (PO (P1 3715 a) (P1 3717 a)))) (PO (P1 3716 b) (PF 1280))) h1 h2 := by
    rw [← hh]; exact ((((((Fr.refl h1).sJ (PO.l (PO.l P1.i))).sJ (PO.l (PO.r (PO.l P1.i)))).sR (PO.l (PO.r (PO.r (PO.l P1.i))))).sI (PO.l (PO.r (PO.r (PO.r P1.i))))).sR (PO.r (PO.l P1.i))).sR (PO.r (PO.r PF.i))
  have m2 : h2.n = h1.n := by rw [← hh]; rfl
  have z2 : h2.z = h1.z := by rw [← hh]; rfl
  have hab : a ≠ b := by grind
  have q1 : h2.J 3713 a = y.1 := by rw [← hh]; simp [n_sI, z_sI, tag_sI, I_sI, J_sI, R_sI, EI_sI, EJ_sI, ER_sI, n_sJ, z_sJ, tag_sJ, I_sJ, J_sJ, R_sJ, EI_sJ, EJ_sJ, ER_sJ, n_sR, z_sR, tag_sR, I_sR, J_sR, R_sR, EI_sR, EJ_sR, ER_sR, n_sEI, z_sEI, tag_sEI, I_sEI, J_sEI, R_sEI, EI_sEI, EJ_sEI, ER_sEI, n_sEJ, z_sEJ, tag_sEJ, I_sEJ, J_sEJ, R_sEJ, EI_sEJ, EJ_sEJ, ER_sEJ, n_sER, z_sER, tag_sER, I_sER, J_sER, R_sER, EI_sER, EJ_sER, ER_sER, n_nw, z_nw, tag_nw, I_nw, J_nw, R_nw, EI_nw, EJ_nw, ER_nw]
  have q2 : h2.J 3714 a = y.2 := by rw [← hh]; simp [n_sI, z_sI, tag_sI, I_sI, J_sI, R_sI, EI_sI, EJ_sI, ER_sI, n_sJ, z_sJ, tag_sJ, I_sJ, J_sJ, R_sJ, EI_sJ, EJ_sJ, ER_sJ, n_sR, z_sR, tag_sR, I_sR, J_sR, R_sR, EI_sR, EJ_sR, ER_sR, n_sEI, z_sEI, tag_sEI, I_sEI, J_sEI, R_sEI, EI_sEI, EJ_sEI, ER_sEI, n_sEJ, z_sEJ, tag_sEJ, I_sEJ, J_sEJ, R_sEJ, EI_sEJ, EJ_sEJ, ER_sEJ, n_sER, z_sER, tag_sER, I_sER, J_sER, R_sER, EI_sER, EJ_sER, ER_sER, n_nw, z_nw, tag_nw, I_nw, J_nw, R_nw, EI_nw, EJ_nw, ER_nw]
  have q3 : h2.R 3715 a = h1.R 3715 b := by rw [← hh]; simp [n_sI, z_sI, tag_sI, I_sI, J_sI, R_sI, EI_sI, EJ_sI, ER_sI, n_sJ, z_sJ, tag_sJ, I_sJ, J_sJ, R_sJ, EI_sJ, EJ_sJ, ER_sJ, n_sR, z_sR, tag_sR, I_sR, J_sR, R_sR, EI_sR, EJ_sR, ER_sR, n_sEI, z_sEI, tag_sEI, I_sEI, J_sEI, R_sEI, EI_sEI, EJ_sEI, ER_sEI, n_sEJ, z_sEJ, tag_sEJ, I_sEJ, J_sEJ, R_sEJ, EI_sEJ, EJ_sEJ, ER_sEJ, n_sER, z_sER, tag_sER, I_sER, J_sER, R_sER, EI_sER, EJ_sER, ER_sER, n_nw, z_nw, tag_nw, I_nw, J_nw, R_nw, EI_nw, EJ_nw, ER_nw]
  have q4 : h2.I 3717 a = nI (fln cb) := by rw [← hh]; simp [n_sI, z_sI, tag_sI, I_sI, J_sI, R_sI, EI_sI, EJ_sI, ER_sI, n_sJ, z_sJ, tag_sJ, I_sJ, J_sJ, R_sJ, EI_sJ, EJ_sJ, ER_sJ, n_sR, z_sR, tag_sR, I_sR, J_sR, R_sR, EI_sR, EJ_sR, ER_sR, n_sEI, z_sEI, tag_sEI, I_sEI, J_sEI, R_sEI, EI_sEI, EJ_sEI, ER_sEI, n_sEJ, z_sEJ, tag_sEJ, I_sEJ, J_sEJ, R_sEJ, EI_sEJ, EJ_sEJ, ER_sEJ, n_sER, z_sER, tag_sER, I_sER, J_sER, R_sER, EI_sER, EJ_sER, ER_sER, n_nw, z_nw, tag_nw, I_nw, J_nw, R_nw, EI_nw, EJ_nw, ER_nw]
  have q5 : h2.R 3716 b = h1.R 1280 q := by rw [← hh]; simp [n_sI, z_sI, tag_sI, I_sI, J_sI, R_sI, EI_sI, EJ_sI, ER_sI, n_sJ, z_sJ, tag_sJ, I_sJ, J_sJ, R_sJ, EI_sJ, EJ_sJ, ER_sJ, n_sR, z_sR, tag_sR, I_sR, J_sR, R_sR, EI_sR, EJ_sR, ER_sR, n_sEI, z_sEI, tag_sEI, I_sEI, J_sEI, R_sEI, EI_sEI, EJ_sEI, ER_sEI, n_sEJ, z_sEJ, tag_sEJ, I_sEJ, J_sEJ, R_sEJ, EI_sEJ, EJ_sEJ, ER_sEJ, n_sER, z_sER, tag_sER, I_sER, J_sER, R_sER, EI_sER, EJ_sER, ER_sER, n_nw, z_nw, tag_nw, I_nw, J_nw, R_nw, EI_nw, EJ_nw, ER_nw]
  have q6 : h2.R 1280 q = some b := by rw [← hh]; simp [n_sI, z_sI, tag_sI, I_sI, J_sI, R_sI, EI_sI, EJ_sI, ER_sI, n_sJ, z_sJ, tag_sJ, I_sJ, J_sJ, R_sJ, EI_sJ, EJ_sJ, ER_sJ, n_sR, z_sR, tag_sR, I_sR, J_sR, R_sR, EI_sR, EJ_sR, ER_sR, n_sEI, z_sEI, tag_sEI, I_sEI, J_sEI, R_sEI, EI_sEI, EJ_sEI, ER_sEI, n_sEJ, z_sEJ, tag_sEJ, I_sEJ, J_sEJ, R_sEJ, EI_sEJ, EJ_sEJ, ER_sEJ, n_sER, z_sER, tag_sER, I_sER, J_sER, R_sER, EI_sER, EJ_sER, ER_sER, n_nw, z_nw, tag_nw, I_nw, J_nw, R_nw, EI_nw, EJ_nw, ER_nw]
  have hbl : b ∉ l1 := fun z => by have := (w2 b).mp z; grind
  refine kk h2 (b :: l1) ?_ ⟨?_, fun z => ?_⟩ ⟨f2.tag hq, ⟨q6, f2.tag i2, ?_⟩, ?_, ?_, ?_⟩ (by omega) ⟨f2.tag t2, ?_, q1, q2, q4, ?_⟩
  · refine (g1.mono (VP.mono fun z hz => ?_)).trans (f2.mono fun f z hz => ?_)
    · simp only [List.mem_append, List.mem_cons] at hz ⊢; grind
    · simp only [PO, P1, PF] at hz
      have ia : a ∈ a :: b :: (fad c ++ l) := by simp
      have ib : b ∈ a :: b :: (fad c ++ l) := by simp
      rcases hz with (⟨rfl, rfl⟩ | ⟨rfl, rfl⟩ | ⟨rfl, rfl⟩ | ⟨rfl, rfl⟩) | ⟨rfl, rfl⟩ | rfl
      · exact VP.inn ia rfl rfl
      · exact VP.inn ia rfl rfl
      · exact VP.inn ia rfl rfl
      · exact VP.inn ia rfl rfl
      · exact VP.inn ib rfl rfl
      · exact Or.inr rfl
  · exact List.nodup_cons.mpr ⟨hbl, w3⟩
  · simp only [List.mem_cons, List.mem_append, w2, m2, m1]; grind
  · rw [q5]; exact FL.fr f2 r1.2.1 fun z hz w => by
      simp only [PO, P1, PF] at w
      grind
  · exact List.nodup_cons.mpr ⟨hbl, w3⟩
  · have := r1.2.2.2.1; unfold RM at *; rw [m2, z2]; exact this
  · rw [m2]; exact r1.2.2.2.2
  · rw [f2.I (by simp [PO, P1, PF])]; exact j3
  · rw [q3]; exact RF.fr f2 i7 fun f z hz _ _ w => by
      simp only [PO, P1, PF] at w
      grind
/-- two values change their contents -/
theorem swap_ok {G : Gt} {d q a b ka kb : Nat} {x y : Int64 × Int64} {c cb : LF} {h : AH} {K : Outcome → AH → Prop} (hv : RV h a ka x c) (hw : RV h b kb y cb) (hn : (a :: b :: (fad c ++ fad cb)).Nodup)
    (kk : ∀ h', Fr (VP [a, b] h.n) h h' → h'.n = h.n → h'.z = h.z → h'.R 1280 = h.R 1280 → h'.R 3716 = h.R 3716 → RV h' a ka y cb → RV h' b kb x c → K (.returned none) h') : MW G d e_X11_swap [.ref q, .ref a, .ref b] h K := by
  refine st_X11_swap fun X o hG hD hf => ?_
  subst hG; subst hD
  obtain ⟨e2, e3, e4, e5, e6, e7⟩ := hv
  obtain ⟨u2, u3, u4, u5, u6, u7⟩ := hw
  simp only [List.nodup_cons, List.nodup_append, List.mem_append, List.mem_cons] at hn
  have hab : a ≠ b := by grind
  refine k_X11_swap_0 o ?_
  refine k_X11_swap_60 o ?_
  generalize hh : (((((((h.sJ 3713 a y.1).sJ 3714 a y.2).sR 3715 a (h.R 3715 b)).sI 3717 a (nI (fln cb))).sJ 3713 b x.1).sJ 3714 b x.2).sR 3715 b (h.R 3715 a)).sI 3717 b (nI (fln c)) = h2
  have ia : a ∈ [a, b] := by simp
  have ib : b ∈ [a, b] := by simp
  have f2 : Fr (VP [a, b] h.n) h h2 := by
    rw [← hh]; exact (((((((Fr.refl h).sJ (VP.inn ia rfl rfl)).sJ (VP.inn ia rfl rfl)).sR (VP.inn ia rfl rfl)).sI (VP.inn ia rfl rfl)).sJ (VP.inn ib rfl rfl)).sJ (VP.inn ib rfl rfl)).sR (VP.inn ib rfl rfl) |>.sI (VP.inn ib rfl rfl)
  have han := hf.lt e2
  have hbn := hf.lt u2
  have hcn := RF.lt hf e7
  have hdn := RF.lt hf u7
  have fc : ∀ g p, RF h g p → (∀ z ∈ fad g, z ∈ fad c ∨ z ∈ fad cb) → RF h2 g p := fun g p hr hz => RF.fr f2 hr fun f z m _ _ => VP.out (by simp only [List.mem_cons, List.not_mem_nil, or_false]; have := hz z m; grind) (by have := hz z m; grind) (by omega)
  refine kk h2 f2 (by rw [← hh]; rfl) (by rw [← hh]; rfl) (by rw [← hh]; funext w; simp [n_sI, z_sI, tag_sI, I_sI, J_sI, R_sI, EI_sI, EJ_sI, ER_sI, n_sJ, z_sJ, tag_sJ, I_sJ, J_sJ, R_sJ, EI_sJ, EJ_sJ, ER_sJ, n_sR, z_sR, tag_sR, I_sR, J_sR, R_sR, EI_sR, EJ_sR, ER_sR, n_sEI, z_sEI, tag_sEI, I_sEI, J_sEI, R_sEI, EI_sEI, EJ_sEI, ER_sEI, n_sEJ, z_sEJ, tag_sEJ, I_sEJ, J_sEJ, R_sEJ, EI_sEJ, EJ_sEJ, ER_sEJ, n_sER, z_sER, tag_sER, I_sER, J_sER, R_sER, EI_sER, EJ_sER, ER_sER, n_nw, z_nw, tag_nw, I_nw, J_nw, R_nw, EI_nw, EJ_nw, ER_nw]) (by rw [← hh]; funext w; simp [n_sI, z_sI, tag_sI, I_sI, J_sI, R_sI, EI_sI, EJ_sI, ER_sI, n_sJ, z_sJ, tag_sJ, I_sJ, J_sJ, R_sJ, EI_sJ, EJ_sJ, ER_sJ, n_sR, z_sR, tag_sR, I_sR, J_sR, R_sR, EI_sR, EJ_sR, ER_sR, n_sEI, z_sEI, tag_sEI, I_sEI, J_sEI, R_sEI, EI_sEI, EJ_sEI, ER_sEI, n_sEJ, z_sEJ, tag_sEJ, I_sEJ, J_sEJ, R_sEJ, EI_sEJ, EJ_sEJ, ER_sEJ, n_sER, z_sER, tag_sER, I_sER, J_sER, R_sER, EI_sER, EJ_sER, ER_sER, n_nw, z_nw, tag_nw, I_nw, J_nw, R_nw, EI_nw, EJ_nw, ER_nw]) ⟨f2.tag e2, ?_, ?_, ?_, ?_, ?_⟩ ⟨f2.tag u2, ?_, ?_, ?_, ?_, ?_⟩
  · rw [← hh]; simp [n_sI, z_sI, tag_sI, I_sI, J_sI, R_sI, EI_sI, EJ_sI, ER_sI, n_sJ, z_sJ, tag_sJ, I_sJ, J_sJ, R_sJ, EI_sJ, EJ_sJ, ER_sJ, n_sR, z_sR, tag_sR, I_sR, J_sR, R_sR, EI_sR, EJ_sR, ER_sR, n_sEI, z_sEI, tag_sEI, I_sEI, J_sEI, R_sEI, EI_sEI, EJ_sEI, ER_sEI, n_sEJ, z_sEJ, tag_sEJ, I_sEJ, J_sEJ, R_sEJ, EI_sEJ, EJ_sEJ, ER_sEJ, n_sER, z_sER, tag_sER, I_sER, J_sER, R_sER, EI_sER, EJ_sER, ER_sER, n_nw, z_nw, tag_nw, I_nw, J_nw, R_nw, EI_nw, EJ_nw, ER_nw, e3]
  · rw [← hh]; simp [n_sI, z_sI, tag_sI, I_sI, J_sI, R_sI, EI_sI, EJ_sI, ER_sI, n_sJ, z_sJ, tag_sJ, I_sJ, J_sJ, R_sJ, EI_sJ, EJ_sJ, ER_sJ, n_sR, z_sR, tag_sR, I_sR, J_sR, R_sR, EI_sR, EJ_sR, ER_sR, n_sEI, z_sEI, tag_sEI, I_sEI, J_sEI, R_sEI, EI_sEI, EJ_sEI, ER_sEI, n_sEJ, z_sEJ, tag_sEJ, I_sEJ, J_sEJ, R_sEJ, EI_sEJ, EJ_sEJ, ER_sEJ, n_sER, z_sER, tag_sER, I_sER, J_sER, R_sER, EI_sER, EJ_sER, ER_sER, n_nw, z_nw, tag_nw, I_nw, J_nw, R_nw, EI_nw, EJ_nw, ER_nw, hab]
  · rw [← hh]; simp [n_sI, z_sI, tag_sI, I_sI, J_sI, R_sI, EI_sI, EJ_sI, ER_sI, n_sJ, z_sJ, tag_sJ, I_sJ, J_sJ, R_sJ, EI_sJ, EJ_sJ, ER_sJ, n_sR, z_sR, tag_sR, I_sR, J_sR, R_sR, EI_sR, EJ_sR, ER_sR, n_sEI, z_sEI, tag_sEI, I_sEI, J_sEI, R_sEI, EI_sEI, EJ_sEI, ER_sEI, n_sEJ, z_sEJ, tag_sEJ, I_sEJ, J_sEJ, R_sEJ, EI_sEJ, EJ_sEJ, ER_sEJ, n_sER, z_sER, tag_sER, I_sER, J_sER, R_sER, EI_sER, EJ_sER, ER_sER, n_nw, z_nw, tag_nw, I_nw, J_nw, R_nw, EI_nw, EJ_nw, ER_nw, hab]
  · rw [← hh]; simp [n_sI, z_sI, tag_sI, I_sI, J_sI, R_sI, EI_sI, EJ_sI, ER_sI, n_sJ, z_sJ, tag_sJ, I_sJ, J_sJ, R_sJ, EI_sJ, EJ_sJ, ER_sJ, n_sR, z_sR, tag_sR, I_sR, J_sR, R_sR, EI_sR, EJ_sR, ER_sR, n_sEI, z_sEI, tag_sEI, I_sEI, J_sEI, R_sEI, EI_sEI, EJ_sEI, ER_sEI, n_sEJ, z_sEJ, tag_sEJ, I_sEJ, J_sEJ, R_sEJ, EI_sEJ, EJ_sEJ, ER_sEJ, n_sER, z_sER, tag_sER, I_sER, J_sER, R_sER, EI_sER, EJ_sER, ER_sER, n_nw, z_nw, tag_nw, I_nw, J_nw, R_nw, EI_nw, EJ_nw, ER_nw, hab]
  · have : h2.R 3715 a = h.R 3715 b := by rw [← hh]; simp [n_sI, z_sI, tag_sI, I_sI, J_sI, R_sI, EI_sI, EJ_sI, ER_sI, n_sJ, z_sJ, tag_sJ, I_sJ, J_sJ, R_sJ, EI_sJ, EJ_sJ, ER_sJ, n_sR, z_sR, tag_sR, I_sR, J_sR, R_sR, EI_sR, EJ_sR, ER_sR, n_sEI, z_sEI, tag_sEI, I_sEI, J_sEI, R_sEI, EI_sEI, EJ_sEI, ER_sEI, n_sEJ, z_sEJ, tag_sEJ, I_sEJ, J_sEJ, R_sEJ, EI_sEJ, EJ_sEJ, ER_sEJ, n_sER, z_sER, tag_sER, I_sER, J_sER, R_sER, EI_sER, EJ_sER, ER_sER, n_nw, z_nw, tag_nw, I_nw, J_nw, R_nw, EI_nw, EJ_nw, ER_nw, hab]
    rw [this]; exact fc _ _ u7 fun z hz => Or.inr hz
  · rw [← hh]; simp [n_sI, z_sI, tag_sI, I_sI, J_sI, R_sI, EI_sI, EJ_sI, ER_sI, n_sJ, z_sJ, tag_sJ, I_sJ, J_sJ, R_sJ, EI_sJ, EJ_sJ, ER_sJ, n_sR, z_sR, tag_sR, I_sR, J_sR, R_sR, EI_sR, EJ_sR, ER_sR, n_sEI, z_sEI, tag_sEI, I_sEI, J_sEI, R_sEI, EI_sEI, EJ_sEI, ER_sEI, n_sEJ, z_sEJ, tag_sEJ, I_sEJ, J_sEJ, R_sEJ, EI_sEJ, EJ_sEJ, ER_sEJ, n_sER, z_sER, tag_sER, I_sER, J_sER, R_sER, EI_sER, EJ_sER, ER_sER, n_nw, z_nw, tag_nw, I_nw, J_nw, R_nw, EI_nw, EJ_nw, ER_nw, u3]
  · rw [← hh]; simp [n_sI, z_sI, tag_sI, I_sI, J_sI, R_sI, EI_sI, EJ_sI, ER_sI, n_sJ, z_sJ, tag_sJ, I_sJ, J_sJ, R_sJ, EI_sJ, EJ_sJ, ER_sJ, n_sR, z_sR, tag_sR, I_sR, J_sR, R_sR, EI_sR, EJ_sR, ER_sR, n_sEI, z_sEI, tag_sEI, I_sEI, J_sEI, R_sEI, EI_sEI, EJ_sEI, ER_sEI, n_sEJ, z_sEJ, tag_sEJ, I_sEJ, J_sEJ, R_sEJ, EI_sEJ, EJ_sEJ, ER_sEJ, n_sER, z_sER, tag_sER, I_sER, J_sER, R_sER, EI_sER, EJ_sER, ER_sER, n_nw, z_nw, tag_nw, I_nw, J_nw, R_nw, EI_nw, EJ_nw, ER_nw]
  · rw [← hh]; simp [n_sI, z_sI, tag_sI, I_sI, J_sI, R_sI, EI_sI, EJ_sI, ER_sI, n_sJ, z_sJ, tag_sJ, I_sJ, J_sJ, R_sJ, EI_sJ, EJ_sJ, ER_sJ, n_sR, z_sR, tag_sR, I_sR, J_sR, R_sR, EI_sR, EJ_sR, ER_sR, n_sEI, z_sEI, tag_sEI, I_sEI, J_sEI, R_sEI, EI_sEI, EJ_sEI, ER_sEI, n_sEJ, z_sEJ, tag_sEJ, I_sEJ, J_sEJ, R_sEJ, EI_sEJ, EJ_sEJ, ER_sEJ, n_sER, z_sER, tag_sER, I_sER, J_sER, R_sER, EI_sER, EJ_sER, ER_sER, n_nw, z_nw, tag_nw, I_nw, J_nw, R_nw, EI_nw, EJ_nw, ER_nw]
  · rw [← hh]; simp [n_sI, z_sI, tag_sI, I_sI, J_sI, R_sI, EI_sI, EJ_sI, ER_sI, n_sJ, z_sJ, tag_sJ, I_sJ, J_sJ, R_sJ, EI_sJ, EJ_sJ, ER_sJ, n_sR, z_sR, tag_sR, I_sR, J_sR, R_sR, EI_sR, EJ_sR, ER_sR, n_sEI, z_sEI, tag_sEI, I_sEI, J_sEI, R_sEI, EI_sEI, EJ_sEI, ER_sEI, n_sEJ, z_sEJ, tag_sEJ, I_sEJ, J_sEJ, R_sEJ, EI_sEJ, EJ_sEJ, ER_sEJ, n_sER, z_sER, tag_sER, I_sER, J_sER, R_sER, EI_sER, EJ_sER, ER_sER, n_nw, z_nw, tag_nw, I_nw, J_nw, R_nw, EI_nw, EJ_nw, ER_nw]
  · have : h2.R 3715 b = h.R 3715 a := by rw [← hh]; simp [n_sI, z_sI, tag_sI, I_sI, J_sI, R_sI, EI_sI, EJ_sI, ER_sI, n_sJ, z_sJ, tag_sJ, I_sJ, J_sJ, R_sJ, EI_sJ, EJ_sJ, ER_sJ, n_sR, z_sR, tag_sR, I_sR, J_sR, R_sR, EI_sR, EJ_sR, ER_sR, n_sEI, z_sEI, tag_sEI, I_sEI, J_sEI, R_sEI, EI_sEI, EJ_sEI, ER_sEI, n_sEJ, z_sEJ, tag_sEJ, I_sEJ, J_sEJ, R_sEJ, EI_sEJ, EJ_sEJ, ER_sEJ, n_sER, z_sER, tag_sER, I_sER, J_sER, R_sER, EI_sER, EJ_sER, ER_sER, n_nw, z_nw, tag_nw, I_nw, J_nw, R_nw, EI_nw, EJ_nw, ER_nw]
    rw [this]; exact fc _ _ e7 fun z hz => Or.inl hz
