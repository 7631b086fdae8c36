/-! all transactions at once: how much others hold -/
theorem sum_b {α : Type} {f : α → Nat} {b : Nat} : ∀ {l : List α}, (∀ p ∈ l, f p ≤ b) → (l.map f).sum ≤ l.length * b
  | [], _ => Nat.zero_le _
  | p :: l, h => by
    have ih := sum_b (l := l) (fun q hq => h q (List.mem_cons_of_mem _ hq))
    have := h p (List.mem_cons_self ..)
    rw [List.map_cons, List.sum_cons, List.length_cons, Nat.succ_mul]
    omega
theorem ot_ar {B L a b c A1 A2 A3 M T : Nat} (h1 : a ≤ A1) (h2 : b ≤ A2) (h3 : c ≤ A3) (hT : A1 + A2 + A3 + M ≤ T) (hG : B + T ≤ L) : B + (a + b + c + M) ≤ L := by omega
def LSZ (g : Gg) : Prop := ∀ k, k < 32 → ∀ x ∈ xL g k, ∀ v, x.2.1.2.2.2 = some v → vsz v ≤ 64 ∧ fdp v.2.2 ≤ 40
theorem EtR.so64 {h : AH} {o : Lc} {c i E n : Nat} {MA : Ma} {ls : Lw} (e : EtR h o c i E n MA ls) (hs : ∀ x ∈ ls, ∀ v, x.2.1.2.2.2 = some v → vsz v ≤ 64) (k : Nat) : so o (c, i, k, 0) ≤ 64 := by
  obtain ⟨-, e2, e3⟩ := e
  rcases Nat.lt_or_ge k ls.length with q | q
  · have hx : ls[k]? = some ls[k] := List.getElem?_eq_getElem q
    obtain ⟨-, -, d⟩ := e2 k _ hx
    cases hv : (ls[k]).2.1.2.2.2 with
    | none => rw [hv] at d; rw [so_n d.1]; omega
    | some v =>
      rw [hv] at d
      obtain ⟨y, y1, y2, y3⟩ := d
      rw [so_s y1, lvE_sz y3]
      exact hs _ (List.getElem_mem q) v hv
  · rw [so_n (e3 k q)]; omega
section
variable {c : Cy} {z : Cz} {G : Gt} {B d : Nat} {g g' : Gg} {h h' : AH} {l l' : List Nat} {o o' : Lc} {j t : Nat}
theorem GRL.ot (r : GRL c z G B g h l o) (iv : IVG z g) (h8 : zn z ≤ 8) (lz : LSZ g) (sz : ∀ x ∈ zst z, ∀ v, x.2.1.2.2.2 = some v → vsz v ≤ 64) (hP : ∀ t s, z.2.2.1 t s → szs s ≤ 22000) (hG : B + 325600 ≤ G.ln) : OTH G B o j := by
  obtain ⟨-, -, -, tx, wk, et, -, v, sup⟩ := r
  have wz : ∀ i, i < zn z → (∀ p x, o p = some x → 1 ≤ p.1 → p.1 ≤ 3 → p.2.1 = i → p ∈ wsl i) ∧ ((wsl i).map (so o)).sum ≤ 23280 := fun i hi => by
    obtain ⟨-, k1, k2⟩ := wk i hi
    by_cases q : wK g i = 1 ∧ wB g i = true
    · have w := (k2 q.1 q.2).1
      have := hP _ _ ((((iv.2.1 i hi).2.2.1 q.1).2 q.2).1)
      have s := WkQ.sz w
      exact ⟨fun p x hp h1 h2 h3 => WkQ.in w hp ⟨h1, h2⟩ h3, by omega⟩
    · have w := k1 q
      refine ⟨fun p x hp h1 h2 h3 => (by rw [w.2 p h1 h2 h3] at hp; cases hp), ?_⟩
      have : ((wsl i).map (so o)).sum ≤ (wsl i).length * 0 := sum_b (fun p hp => by
        have : 1 ≤ p.1 ∧ p.1 ≤ 3 ∧ p.2.1 = i := by
          unfold wsl at hp
          rcases List.mem_append.mp hp with y | y
          · obtain ⟨a, -, y⟩ := List.mem_flatMap.mp y
            rcases List.mem_append.mp y with y | y
            · obtain ⟨b, -, y⟩ := List.mem_map.mp y
              rw [← y]; exact ⟨Nat.le_refl _, show (1 : Nat) ≤ 3 by omega, rfl⟩
            · obtain ⟨b, -, y⟩ := List.mem_map.mp y
              rw [← y]; exact ⟨show (1 : Nat) ≤ 2 by omega, show (2 : Nat) ≤ 3 by omega, rfl⟩
          · obtain ⟨b, -, y⟩ := List.mem_map.mp y
            rw [← y]; exact ⟨show (1 : Nat) ≤ 3 by omega, Nat.le_refl _, rfl⟩
        rw [so_n (w.2 p this.1 this.2.1 this.2.2)]; exact Nat.le_refl _)
      omega
  have mW : ∀ i, ∀ p ∈ wsl i, 1 ≤ p.1 ∧ p.1 ≤ 3 ∧ p.2.1 = i := fun i p hp => by
    unfold wsl at hp
    rcases List.mem_append.mp hp with y | y
    · obtain ⟨a, -, y⟩ := List.mem_flatMap.mp y
      rcases List.mem_append.mp y with y | y
      · obtain ⟨b, -, y⟩ := List.mem_map.mp y
        rw [← y]; exact ⟨Nat.le_refl _, show (1 : Nat) ≤ 3 by omega, rfl⟩
      · obtain ⟨b, -, y⟩ := List.mem_map.mp y
        rw [← y]; exact ⟨show (1 : Nat) ≤ 2 by omega, show (2 : Nat) ≤ 3 by omega, rfl⟩
    · obtain ⟨b, -, y⟩ := List.mem_map.mp y
      rw [← y]; exact ⟨show (1 : Nat) ≤ 3 by omega, Nat.le_refl _, rfl⟩
  have s1 : (((List.range 256).map fun e => ((0, 0, e, 0) : Sl)).map (so o)).sum ≤ 256 * 64 := by
    have := sum_b (l := (List.range 256).map fun e => ((0, 0, e, 0) : Sl)) (f := so o) (b := 64) (fun p hp => by
      obtain ⟨e, -, y⟩ := List.mem_map.mp hp
      rw [← y]; exact et.so64 sz e)
    rw [List.length_map, List.length_range] at this
    exact this
  have s2 : (((List.range 32).flatMap fun k => (List.range 30).map fun e => ((4, k, e, 0) : Sl)).map (so o)).sum ≤ 32 * 1920 := by
    rw [sum_fm]
    have := sum_b (l := List.range 32) (f := fun k => (((List.range 30).map fun e => ((4, k, e, 0) : Sl)).map (so o)).sum) (b := 1920) (fun k hk => by
      have hk := List.mem_range.mp hk
      have := sum_b (l := (List.range 30).map fun e => ((4, k, e, 0) : Sl)) (f := so o) (b := 64) (fun p hp => by
        obtain ⟨e, -, y⟩ := List.mem_map.mp hp
        rw [← y]; exact (tx k hk).2.1.so64 (fun x hx v hv => (lz k hk x hx v hv).1) e)
      rw [List.length_map, List.length_range] at this
      exact this)
    rw [List.length_range] at this
    exact this
  have s3 : ((((List.range (zn z)).filter fun i => decide (i ≠ j)).flatMap wsl).map (so o)).sum ≤ 8 * 23280 := by
    rw [sum_fm]
    have u1 := sum_b (l := (List.range (zn z)).filter fun i => decide (i ≠ j)) (f := fun i => ((wsl i).map (so o)).sum) (b := 23280) (fun i hi => (wz i (List.mem_range.mp (List.mem_filter.mp hi).1)).2)
    have l8 : ((List.range (zn z)).filter fun i => decide (i ≠ j)).length ≤ 8 := by
      have := List.length_filter_le (fun i => decide (i ≠ j)) (List.range (zn z))
      rw [List.length_range] at this
      omega
    exact Nat.le_trans u1 (Nat.mul_le_mul_right 23280 l8)
  refine ⟨((List.range 256).map fun e => ((0, 0, e, 0) : Sl)) ++ ((List.range 32).flatMap fun k => (List.range 30).map fun e => ((4, k, e, 0) : Sl)) ++ ((List.range (zn z)).filter fun i => decide (i ≠ j)).flatMap wsl, fun p x hp hq => ?_, fun p hp => ?_, ?_⟩
  · rcases sup p x hp with ⟨a, b, e, f⟩ | ⟨a, b, e⟩ | ⟨a, b, e, f⟩
    · refine List.mem_append_left _ (List.mem_append_left _ (List.mem_map.mpr ⟨p.2.2.1, List.mem_range.mpr e, ?_⟩))
      obtain ⟨p1, p2, p3, p4⟩ := p
      have a : p1 = 0 := a
      have b : p2 = 0 := b
      have f : p4 = 0 := f
      rw [a, b, f]
    · refine List.mem_append_right _ (List.mem_flatMap.mpr ⟨p.2.1, List.mem_filter.mpr ⟨List.mem_range.mpr e, ?_⟩, (wz _ e).1 p x hp a b rfl⟩)
      rw [decide_eq_true_eq]
      intro q
      omega
    · refine List.mem_append_left _ (List.mem_append_right _ (List.mem_flatMap.mpr ⟨p.2.1, List.mem_range.mpr b, List.mem_map.mpr ⟨p.2.2.1, List.mem_range.mpr e, ?_⟩⟩))
      obtain ⟨p1, p2, p3, p4⟩ := p
      have a : p1 = 4 := a
      have f : p4 = 0 := f
      rw [a, f]
  · rcases List.mem_append.mp hp with y | y
    · rcases List.mem_append.mp y with y | y
      · obtain ⟨e, -, y⟩ := List.mem_map.mp y
        rw [← y]; exact Or.inl (Or.inl rfl)
      · obtain ⟨k, -, y⟩ := List.mem_flatMap.mp y
        obtain ⟨e, -, y⟩ := List.mem_map.mp y
        rw [← y]; exact Or.inl (Or.inr (show 3 < 4 by omega))
    · obtain ⟨i, hi, y⟩ := List.mem_flatMap.mp y
      have := (List.mem_filter.mp hi).2
      rw [decide_eq_true_eq] at this
      have m := mW i p y
      exact Or.inr (by rw [m.2.2]; exact this)
  · rw [List.map_append, List.map_append, List.sum_append, List.sum_append]
    exact ot_ar s1 s2 s3 (Nat.le_of_ble_eq_true rfl) hG
end
