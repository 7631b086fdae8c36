/-! how many values there are -/
theorem nodup_le : ∀ {R L : List Nat}, R.Nodup → (∀ a ∈ R, a ∈ L) → R.length ≤ L.length
  | [], L, _, _ => Nat.zero_le _
  | a :: R, L, hn, hs => by
    rw [List.nodup_cons] at hn
    have ha := hs a List.mem_cons_self
    have := nodup_le (L := L.erase a) hn.2 (fun b hb => (List.mem_erase_of_ne (fun e : b = a => hn.1 (e ▸ hb))).mpr (hs b (List.mem_cons_of_mem _ hb)))
    rw [List.length_erase_of_mem ha] at this
    have : 0 < L.length := List.length_pos_of_mem ha
    rw [List.length_cons]; omega
def so (o : Lc) (p : Sl) : Nat := match o p with
  | some x => 1 + fsz x.2.2.2
  | none => 0
theorem so_n {o : Lc} {p : Sl} (h : o p = none) : so o p = 0 := by unfold so; rw [h]
theorem so_s {o : Lc} {p : Sl} {x : LV} (h : o p = some x) : so o p = 1 + fsz x.2.2.2 := by unfold so; rw [h]
theorem so_e {o o' : Lc} {p : Sl} (h : o' p = o p) : so o' p = so o p := by unfold so; rw [h]
theorem fad_sz : ∀ c : LF, (fad c).length = fsz c
  | .leaf => rfl
  | .inner k x u c r => by
    show (x.1 :: (fad c ++ fad r)).length = 1 + fsz c + fsz r
    rw [List.length_cons, List.length_append, fad_sz c, fad_sz r]; omega
theorem adr_sz (x : LV) : (adr x).length = 1 + fsz x.2.2.2 := by
  show (x.1 :: fad x.2.2.2).length = _
  rw [List.length_cons, fad_sz]; omega
theorem lvE_sz {x : LV} {v : VL} (h : lvE x = v) : 1 + fsz x.2.2.2 = vsz v := by
  rw [← h]
  show _ = 1 + fsz (fer x.2.2.2)
  rw [fer_sz]
theorem VH.cnt {G : Gt} {B : Nat} {h : AH} {q : Nat} {l : List Nat} {o : Lc} (v : VH G B h q l o) (ps : List Sl) (hc : ∀ p x, o p = some x → p ∈ ps) : G.ln ≤ B + (av G h l + (ps.map (so o)).sum) := by
  have key := nodup_le (R := List.range' B (h.n - B)) (L := l ++ ps.flatMap fun p => match o p with | some x => adr x | none => []) List.nodup_range' (fun a ha => by
    rw [List.mem_range'_1] at ha
    rcases v.2.2.1.2 a ha.1 (by omega) with z | ⟨p, x, z1, z2⟩
    · exact List.mem_append_left _ z
    · refine List.mem_append_right _ (List.mem_flatMap.mpr ⟨p, hc p x z1, ?_⟩)
      rw [z1]; exact z2)
  rw [List.length_range', List.length_append, List.length_flatMap] at key
  have e : (ps.map fun p => (match o p with | some x => adr x | none => [] : List Nat).length) = ps.map (so o) := by
    refine List.map_congr_left fun p _ => ?_
    unfold so
    cases o p with
    | none => rfl
    | some x => exact adr_sz x
  rw [e] at key
  have := v.1.2.2.2.2
  unfold av
  omega
theorem sum_fm {α β : Type} (f : α → List β) (g : β → Nat) : ∀ l : List α, ((l.flatMap f).map g).sum = (l.map fun a => ((f a).map g).sum).sum
  | [] => rfl
  | a :: l => by
    rw [List.flatMap_cons, List.map_append, List.sum_append, List.map_cons, List.sum_cons, sum_fm f g l]
theorem sum_if {f : Nat → Nat} {m : Nat} : ∀ {n : Nat}, m ≤ n → (∀ j, m ≤ j → j < n → f j = 0) → ((List.range n).map f).sum = ((List.range m).map f).sum
  | 0, h, _ => by
    have : m = 0 := by omega
    rw [this]
  | n + 1, h, hz => by
    by_cases c : m = n + 1
    · rw [c]
    · rw [List.range_succ, List.map_append, List.sum_append, sum_if (n := n) (by omega) (fun j h1 h2 => hz j h1 (by omega))]
      simp only [List.map_cons, List.map_nil, List.sum_cons, List.sum_nil]
      rw [hz n (by omega) (by omega)]; omega
theorem sum_ad {f : Nat → Nat} {c : Nat} : ∀ n : Nat, ((List.range n).map fun j => f j + c).sum = ((List.range n).map f).sum + c * n
  | 0 => rfl
  | n + 1 => by
    rw [List.range_succ, List.map_append, List.map_append, List.sum_append, List.sum_append, sum_ad n]
    simp only [List.map_cons, List.map_nil, List.sum_cons, List.sum_nil]
    rw [Nat.mul_add]; omega
/-- a worker's slots -/
def wsl (wi : Nat) : List Sl := ((List.range 32).flatMap fun j => ((List.range 64).map fun i => (1, wi, j, i)) ++ ((List.range 40).map fun k => (2, wi, j, k))) ++ (List.range 26).map fun e => (3, wi, e, 0)
section
variable {z : Nat} {h : AH} {o : Lc} {wi W : Nat} {MA : Ma} {s : Ms}
theorem ItL.sz {i : It} {x : LV} (t : ItL h o wi i x) : 1 + fsz x.2.2.2 = isz i := by
  cases i with
  | inl v => exact lvE_sz t
  | inr r =>
    obtain ⟨-, t2, -⟩ := t
    rw [t2]; rfl
theorem StR.sz {j F : Nat} : ∀ {k : List It}, StR h o wi j F k → ((List.range k.length).map fun i => so o (1, wi, j, i)).sum = szK k
  | [], _ => rfl
  | i :: k, ⟨⟨x, x1, x2, x3⟩, t⟩ => by
    rw [List.length_cons, List.range_succ, List.map_append, List.sum_append, t.sz, szK_c]
    simp only [List.map_cons, List.map_nil, List.sum_cons, List.sum_nil]
    rw [so_s x1, x3.sz]; omega
theorem FmR.sz {j F : Nat} {f : Fm} (m : FmR h o wi j F MA f) : ((List.range 64).map fun i => so o (1, wi, j, i)).sum + ((List.range 40).map fun k => so o (2, wi, j, k)).sum ≤ szF f + 40 := by
  obtain ⟨⟨-, -, -, -, m5⟩, m6, m7, m8, -⟩ := m
  have a := sum_if (f := fun i => so o (1, wi, j, i)) (m := f.2.2.2.length) (n := 64) m5 (fun i h1 _ => so_n (m7 i h1))
  rw [m6.sz] at a
  have b : ((List.range 40).map fun k => so o (2, wi, j, k)).sum ≤ ((List.range 40).map fun k => szO (f.2.2.1 k) + 1).sum := sum_le fun k hk => by
    have := m8 k hk
    cases hl : f.2.2.1 k with
    | none =>
      rw [hl] at this
      rcases this with y | ⟨x, x1, x2, x3, x4⟩
      · rw [so_n y.1]; exact Nat.zero_le _
      · rw [so_s x1, x4]; exact Nat.le_refl _
    | some i =>
      rw [hl] at this
      obtain ⟨x, x1, x2, x3⟩ := this
      rw [so_s x1, x3.sz]
      show isz i ≤ isz i + 1
      omega
  rw [sum_ad] at b
  have e : szF f = szK f.2.2.2 + szL f.2.2.1 := rfl
  have e2 : szL f.2.2.1 = ((List.range 40).map fun k => szO (f.2.2.1 k)).sum := rfl
  omega
theorem EnR.sz {es : List En} (e : EnR h o wi W MA es) : ((List.range 26).map fun e => so o (3, wi, e, 0)).sum ≤ szE es := by
  obtain ⟨⟨-, e2⟩, e3, e4⟩ := e
  rw [sum_if (m := es.length) e2 (fun i h1 _ => so_n (e4 i 0 (Or.inl h1)))]
  have : es.map (fun e => csz e.2.2.1) = (List.range es.length).map fun i => (match es[i]? with | some x => csz x.2.2.1 | none => 0) := by
    refine List.ext_getElem? fun i => ?_
    rw [List.getElem?_map, List.getElem?_map]
    by_cases c : i < es.length
    · rw [List.getElem?_range c, List.getElem?_eq_getElem c]
      simp only [Option.map_some]
      rw [List.getElem?_eq_getElem c]
    · rw [List.getElem?_eq_none (by omega), List.getElem?_eq_none (by rw [List.length_range]; omega)]; rfl
  unfold szE
  rw [this]
  refine sum_le fun i hi => ?_
  obtain ⟨x, hx⟩ : ∃ x, es[i]? = some x := ⟨_, List.getElem?_eq_getElem hi⟩
  rw [hx]
  obtain ⟨-, -, -, -, d⟩ := e3 i x hx
  simp only
  unfold csz
  cases hv : x.2.2.1.2.2.2 with
  | none => rw [hv] at d; rw [so_n d.1]; exact Nat.le_refl _
  | some v =>
    rw [hv] at d
    obtain ⟨y, y1, y2, y3⟩ := d
    rw [so_s y1, lvE_sz y3]; exact Nat.le_refl _
theorem WkQ.sz (w : WkQ z h o wi W MA s) : ((wsl wi).map (so o)).sum ≤ szs s + 1280 := by
  obtain ⟨⟨-, -, -, w4, -, -⟩, w7, w8, w9⟩ := w
  unfold wsl
  rw [List.map_append, List.sum_append, sum_fm]
  have a : ∀ j, (((((List.range 64).map fun i => ((1, wi, j, i) : Sl)) ++ ((List.range 40).map fun k => (2, wi, j, k))).map (so o))).sum = ((List.range 64).map fun i => so o (1, wi, j, i)).sum + ((List.range 40).map fun k => so o (2, wi, j, k)).sum := fun j => by
    rw [List.map_append, List.sum_append, List.map_map, List.map_map]; rfl
  have b : ((List.range 32).map fun j => (((((List.range 64).map fun i => ((1, wi, j, i) : Sl)) ++ ((List.range 40).map fun k => (2, wi, j, k))).map (so o))).sum).sum ≤ szN s.2.1 s.1 + 1280 := by
    rw [sum_if (m := s.1) w4 (fun j h1 _ => by
      rw [a]
      rw [sum_if (m := 0) (Nat.zero_le _) (fun i _ _ => so_n (w8 j h1 i).1), sum_if (m := 0) (Nat.zero_le _) (fun i _ _ => so_n (w8 j h1 i).2)]
      rfl)]
    have : ((List.range s.1).map fun j => (((((List.range 64).map fun i => ((1, wi, j, i) : Sl)) ++ ((List.range 40).map fun k => (2, wi, j, k))).map (so o))).sum).sum ≤ ((List.range s.1).map fun j => szF (s.2.1 j) + 40).sum := sum_le fun j hj => by
      rw [a]; exact (w7 j hj).sz
    rw [sum_ad] at this
    have e : szN s.2.1 s.1 = ((List.range s.1).map fun j => szF (s.2.1 j)).sum := rfl
    omega
  have c : (((List.range 26).map fun e => ((3, wi, e, 0) : Sl)).map (so o)).sum ≤ szE (ens s) := by
    rw [List.map_map]; exact w9.sz
  have e : szs s = szN s.2.1 s.1 + szE (ens s) := rfl
  omega
theorem WkQ.in (w : WkQ z h o wi W MA s) {p : Sl} {x : LV} (hp : o p = some x) (h1 : 1 ≤ p.1 ∧ p.1 ≤ 3) (h2 : p.2.1 = wi) : p ∈ wsl wi := by
  obtain ⟨⟨-, -, -, w4, -, -⟩, w7, w8, w9⟩ := w
  obtain ⟨a, b, c, d⟩ := p
  have h2 : b = wi := h2
  subst h2
  have h1 : 1 ≤ a ∧ a ≤ 3 := h1
  unfold wsl
  by_cases c3 : a = 3
  · subst c3
    refine List.mem_append_right _ (List.mem_map.mpr ⟨c, ?_, ?_⟩)
    · rw [List.mem_range]
      refine Nat.lt_of_not_le fun h => ?_
      rw [w9.2.2 c d (Or.inl (by have := w9.1.2; omega))] at hp; cases hp
    · by_cases d0 : d = 0
      · rw [d0]
      · rw [w9.2.2 c d (Or.inr d0)] at hp; cases hp
  · have hc : c < s.1 := by
      refine Nat.lt_of_not_le fun h => ?_
      obtain ⟨q1, q2⟩ := w8 c h d
      rcases (show a = 1 ∨ a = 2 by omega) with e | e
      · rw [e, q1] at hp; cases hp
      · rw [e, q2] at hp; cases hp
    obtain ⟨⟨-, -, -, -, m5⟩, m6, m7, m8, m9⟩ := w7 c hc
    refine List.mem_append_left _ (List.mem_flatMap.mpr ⟨c, List.mem_range.mpr (by omega), ?_⟩)
    rcases (show a = 1 ∨ a = 2 by omega) with e | e
    · subst e
      refine List.mem_append_left _ (List.mem_map.mpr ⟨d, List.mem_range.mpr (Nat.lt_of_not_le fun h => ?_), rfl⟩)
      rw [m7 d (by omega)] at hp; cases hp
    · subst e
      refine List.mem_append_right _ (List.mem_map.mpr ⟨d, List.mem_range.mpr (Nat.lt_of_not_le fun h => ?_), rfl⟩)
      rw [m9 d h] at hp; cases hp
end
theorem av_ar {ln B a A A2 sz c1 c2 c3 c4 : Nat} (hc : c4 + c3 + c2 ≤ c1) (k : ln ≤ B + (a + (A2 + A))) (t : B + (A2 + c1) ≤ ln) (w : A ≤ sz + c2) (h : sz ≤ c3) : c4 ≤ a := by omega
/-- what others hold is not too much -/
def OTH (G : Gt) (B : Nat) (o : Lc) (wi : Nat) : Prop := ∃ ps : List Sl, (∀ p x, o p = some x → (p.1 = 0 ∨ 3 < p.1) ∨ p.2.1 ≠ wi → p ∈ ps) ∧ (∀ p ∈ ps, (p.1 = 0 ∨ 3 < p.1) ∨ p.2.1 ≠ wi) ∧ B + ((ps.map (so o)).sum + 61500) ≤ G.ln
theorem OTH.av {G : Gt} {B z q wi W : Nat} {h' : AH} {o o' : Lc} {MA : Ma} {l' : List Nat} {s' : Ms} (t : OTH G B o wi) (u : ∀ p : Sl, (p.1 = 0 ∨ 3 < p.1) ∨ p.2.1 ≠ wi → o' p = o p) (v : VH G B h' q l' o') (w : WkQ z h' o' wi W MA s') (hs : szs s' ≤ 40000) : 20200 ≤ av G h' l' := by
  obtain ⟨ps, t1, t2, t3⟩ := t
  have key := v.cnt (ps ++ wsl wi) (fun p x hp => by
    by_cases c : (p.1 = 0 ∨ 3 < p.1) ∨ p.2.1 ≠ wi
    · exact List.mem_append_left _ (t1 p x (by rw [← u p c]; exact hp) c)
    · exact List.mem_append_right _ (w.in hp (by omega) (by
        by_cases c2 : p.2.1 = wi
        · exact c2
        · exact absurd (Or.inr c2) c)))
  rw [List.map_append, List.sum_append] at key
  have e : ps.map (so o') = ps.map (so o) := List.map_congr_left fun p hp => so_e (u p (t2 p hp))
  rw [e] at key
  exact av_ar (c1 := 61500) (c2 := 1280) (c3 := 40000) (c4 := 20200) (Nat.le_of_ble_eq_true rfl) key t3 w.sz hs
