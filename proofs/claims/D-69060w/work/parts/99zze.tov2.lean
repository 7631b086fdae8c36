/-! what a transaction has left becomes the state: the loops -/
theorem rmI_mem {st : Lw} {i : Nat} {y : Pc × Cn × Bool} (h : y ∈ rmI st i) : y ∈ st := by
  unfold rmI at h
  split at h
  · rename_i z hz
    rcases List.mem_or_eq_of_mem_set ((List.dropLast_sublist _).subset h) with q | q
    · exact q
    · rw [q]; exact List.mem_of_getElem? hz
  · exact h
theorem tk1_s {st : Lw} {x : Pc × Cn × Bool} (h : x.2.1.1 = true ∨ 4 ≤ x.1.1) : tk1 st x = st := if_pos h
theorem tk1_0 {st : Lw} {x : Pc × Cn × Bool} (h : ¬ (x.2.1.1 = true ∨ 4 ≤ x.1.1)) (hf : (st.findIdx? fun y => y.1 == x.1) = none) : tk1 st x = st := by
  unfold tk1; rw [if_neg h, hf]
theorem tk1_1 {st : Lw} {x : Pc × Cn × Bool} {i : Nat} (h : ¬ (x.2.1.1 = true ∨ 4 ≤ x.1.1)) (hf : (st.findIdx? fun y => y.1 == x.1) = some i) : tk1 st x = rmI st i := by
  unfold tk1; rw [if_neg h, hf]
theorem tk2_s {st : Lw} {x : Pc × Cn × Bool} (h : ¬ (x.1.1 < 4 ∧ x.2.1.1 = true)) : tk2 st x = st := if_neg h
theorem tk2_0 {st : Lw} {x : Pc × Cn × Bool} (h : x.1.1 < 4 ∧ x.2.1.1 = true) (hf : (st.findIdx? fun y => y.1 == x.1) = none) : tk2 st x = st ++ [(x.1, x.2.1, false)] := by
  unfold tk2; rw [if_pos h, hf]
theorem tk2_1 {st : Lw} {x : Pc × Cn × Bool} {i : Nat} (h : x.1.1 < 4 ∧ x.2.1.1 = true) (hf : (st.findIdx? fun y => y.1 == x.1) = some i) : tk2 st x = st.set i (x.1, x.2.1, false) := by
  unfold tk2; rw [if_pos h, hf]
theorem tk1_mem {st : Lw} {x y : Pc × Cn × Bool} (h : y ∈ tk1 st x) : y ∈ st := by
  unfold tk1 at h
  split at h
  · exact h
  · split at h
    · exact h
    · exact rmI_mem h
theorem tk1_fm {ls : Lw} {y : Pc × Cn × Bool} : ∀ {st : Lw}, y ∈ ls.foldl tk1 st → y ∈ st := by
  induction ls with
  | nil => exact fun h => h
  | cons x ls ih => exact fun h => tk1_mem (ih h)
theorem tk2_mem {st : Lw} {x y : Pc × Cn × Bool} (h : y ∈ tk2 st x) : y ∈ st ∨ (y = (x.1, x.2.1, false) ∧ x.2.1.1 = true) := by
  unfold tk2 at h
  split at h
  · rename_i c
    split at h
    · rcases List.mem_append.mp h with q | q
      · exact Or.inl q
      · exact Or.inr ⟨by simpa using q, c.2⟩
    · rcases List.mem_or_eq_of_mem_set h with q | q
      · exact Or.inl q
      · exact Or.inr ⟨q, c.2⟩
  · exact Or.inl h
section
variable {G : Gt} {B d : Nat} {h : AH} {l : List Nat} {o : Lc} {A q X SA LA t : Nat} {MA : Ma} {K : Outcome → AH → Prop} {st ls : Lw}
/-- the state's entries are there, and small -/
def STO (h : AH) (SA : Nat) (st : Lw) : Prop := (∀ y ∈ st, y.2.1.1 = true ∧ y.2.2 = false) ∧ (∀ y ∈ st, ∀ v, y.2.1.2.2.2 = some v → fdp v.2.2 ≤ 40) ∧ ∀ e, e < 256 → h.I 1164 (SA + 2 + e) = nI 0
theorem tov_16 {XX : Xt} (oo : OK e_X1_takeOver XX) (t0 : h.tag A = some (0, 0)) (rq : h.R 2 A = some q) (rS : h.R 1 A = some SA) (tX : h.tag X = some (21, 0)) (rL : h.R 2705 X = some LA) (far : LA + 32 ≤ SA ∨ SA + 258 ≤ LA) (hd : 44 ≤ XX.d) (kk : ∀ h' l' o' v2 v3 v4, Fr (PSt SA) h h' → VH XX.G B h' q l' o' → EtR h' o' 0 0 SA 256 MA (ls.foldl tk1 st) → EtR h' o' 4 t LA 30 MA ls → (∀ p : Sl, ¬ (p.1 = 0 ∧ p.2.1 = 0 ∧ p.2.2.2 = 0) → o' p = o p) → (∀ p z, o' p = some z → (∃ r, o r = some z) ∧ h'.R 3718 z.1 = h.R 3718 z.1) → STO h' SA (ls.foldl tk1 st) → V XX K 94 [.ref A, .ref X, v2, v3, v4] [] h') : ∀ (n k : Nat), n + k = ls.length → ∀ h1 l1 o1 v3 v4, Fr (PSt SA) h h1 → VH XX.G B h1 q l1 o1 → EtR h1 o1 0 0 SA 256 MA ((ls.take k).foldl tk1 st) → EtR h1 o1 4 t LA 30 MA ls → (∀ p : Sl, ¬ (p.1 = 0 ∧ p.2.1 = 0 ∧ p.2.2.2 = 0) → o1 p = o p) → (∀ p z, o1 p = some z → (∃ r, o r = some z) ∧ h1.R 3718 z.1 = h.R 3718 z.1) → STO h1 SA ((ls.take k).foldl tk1 st) → V XX K 16 [.ref A, .ref X, .int (nI k), v3, v4] [] h1 := by
  intro n
  induction n with
  | zero =>
    intro k hk h1 l1 o1 v3 v4 f1 v1 e1 e2 c1 c2 c3
    rw [List.take_of_length_le (by omega)] at e1 c3
    obtain ⟨⟨⟨⟨s1, s2, s3⟩, s4⟩, ⟨s5, s6, s7⟩, s8⟩, s9, s10⟩ := id e2
    rw [List.length_map] at s5 s6
    have tX1 := f1.tag tX
    have rL1 : h1.R 2705 X = some LA := by rw [f1.R (PSt.no (l := [2705]) rfl _ _ rfl)]; exact rL
    refine k_X1_takeOver_16 (r5 := s5) oo (fun _ => ?_) (fun c => absurd ((nI_leI (by omega) (by omega)).mpr (by omega)) c)
    exact kk h1 l1 o1 _ _ _ f1 v1 e1 e2 c1 c2 c3
  | succ n ih =>
    intro k hk h1 l1 o1 v3 v4 f1 v1 e1 e2 c1 c2 c3
    obtain ⟨⟨⟨⟨s1, s2, s3⟩, s4⟩, ⟨s5, s6, s7⟩, s8⟩, s9, s10⟩ := id e2
    rw [List.length_map] at s5 s6
    have t1 := f1.tag t0
    have tX1 := f1.tag tX
    have rL1 : h1.R 2705 X = some LA := by rw [f1.R (PSt.no (l := [2705]) rfl _ _ rfl)]; exact rL
    have rS1 : h1.R 1 A = some SA := by rw [f1.R (PSt.no (l := [1]) rfl _ _ rfl)]; exact rS
    have rq1 : h1.R 2 A = some q := by rw [f1.R (PSt.no (l := [2]) rfl _ _ rfl)]; exact rq
    have hlt : k < ls.length := by omega
    obtain ⟨x, hx⟩ : ∃ x, (ls)[k]? = some x := ⟨_, List.getElem?_eq_getElem hlt⟩
    obtain ⟨q1, q2⟩ := s4 k (by omega)
    obtain ⟨⟨y1, y2, y3⟩, y4⟩ := s8 k x.1 (by rw [List.getElem?_map, hx]; rfl)
    obtain ⟨⟨x1, x2, x3⟩, ⟨x4, x5⟩, x6⟩ := s9 k x hx
    have ix : IX (nI k) 30 k := IX.mk (by omega) (by omega)
    have et : (ls.take (k + 1)).foldl tk1 st = tk1 ((ls.take k).foldl tk1 st) x := by
      rw [List.take_add_one, hx, List.foldl_append]; rfl
    refine k_X1_takeOver_16 (r5 := s5) oo (fun c => absurd ((nI_leI (by omega) (by omega)).mp c) (by omega)) (fun _ => ?_)
    -- nothing to take away
    have skip : tk1 ((ls.take k).foldl tk1 st) x = (ls.take k).foldl tk1 st → V XX K 88 [.ref A, .ref X, .int (nI k), .ref (LA + 2 + k), va_rf none] [] h1 := fun e => by
      refine k_X1_takeOver_88 oo ?_
      rw [nI_add]
      refine ih (k + 1) (by omega) h1 l1 o1 _ _ f1 v1 ?_ e2 c1 c2 ?_
      · rw [et, e]; exact e1
      · rw [et, e]; exact c3
    have null : tk1 ((ls.take k).foldl tk1 st) x = (ls.take k).foldl tk1 st → ∀ v4, V XX K 75 [.ref A, .ref X, .int (nI k), .ref (LA + 2 + k), v4] [va_rf none] h1 := fun e v4 => by
      refine k_X1_takeOver_75 (s0 := none) oo (fun _ => skip e) (fun a ca => nomatch ca)
    refine k_X1_takeOver_27 (r14 := x1) oo (fun c => ?_) (fun c => ?_)
    · refine k_X1_takeOver_52 oo ?_
      have : x.2.1.1 = true := by
        cases hb : x.2.1.1 with
        | true => rfl
        | false => rw [hb] at c; exact absurd rfl c
      exact null (tk1_s (Or.inl this)) _
    · have xf := bI_0.mp c
      refine k_X1_takeOver_44 (r2 := y1) oo (fun c => ?_) (fun c => ?_)
      · have k4 : x.1.1 < 4 := (nI_ltI (by have := y4.1; omega) (by omega)).mp c
        have tS := e1.1.1.1.1
        have nn : ¬ (x.2.1.1 = true ∨ 4 ≤ x.1.1) := fun q => by
          rcases q with q | q
          · rw [xf] at q; cases q
          · omega
        refine k_X1_takeOver_56 (r5 := y1) (r7 := y2) (r9 := y3) oo ?_
        refine find_ok e1.1 y4 (by omega) ?_
        rw [fidx_map]
        cases hf : ((ls.take k).foldl tk1 st).findIdx? fun y => y.1 == x.1 with
        | none => exact null (tk1_0 nn hf) _
        | some i =>
          obtain ⟨w, hw⟩ := fidx_at hf
          refine k_X1_takeOver_75 (s0 := some (SA + 2 + i)) oo (fun c => nomatch c) (fun a ca => ?_)
          refine k_X1_takeOver_82 oo ?_
          rw [← Option.some.inj ca]
          refine remove_ok (i := i) t1 rq1 rS1 v1 e1 hw c3.1 c3.2.1 (by omega) fun h2 l2 o2 f2 v2 e3 o22 tg2 a2 g2 => ?_
          refine k_X1_takeOver_88 oo ?_
          rw [nI_add]
          have ek := tk1_1 nn hf
          refine ih (k + 1) (by omega) h2 l2 o2 _ _ (f1.trans f2) v2 (by rw [et, ek]; exact e3) (e2.fr f2 (fun f a hf z1 z2 q => ?_) (fun e => o22 _ (fun q => absurd q.1 (show (4 : Nat) ≠ 0 by decide)))) (fun p hp => (o22 p hp).trans (c1 p hp)) (fun p z hz => ?_) ?_
          · rcases q with q | ⟨-, q⟩
            · exact VQ.no (l := etF) rfl f a hf q
            · omega
          · obtain ⟨⟨r, hr⟩, hz2⟩ := tg2 p z hz
            obtain ⟨w1, w2⟩ := c2 r z hr
            exact ⟨w1, hz2.trans w2⟩
          · rw [et, ek]
            refine ⟨fun y hy => c3.1 y (rmI_mem hy), fun y hy => c3.2.1 y (rmI_mem hy), fun e he => by rw [g2]; exact c3.2.2 e he⟩
      · refine k_X1_takeOver_52 oo ?_
        have k4 : 4 ≤ x.1.1 := Nat.not_lt.mp fun q => c ((nI_ltI (by have := y4.1; omega) (by omega)).mpr q)
        exact null (tk1_s (Or.inr k4)) _
end
