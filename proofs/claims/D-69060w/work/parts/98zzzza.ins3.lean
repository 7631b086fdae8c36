/-! instructions: calls and ends -/
section
variable {G : Gt} {B d : Nat} {h : AH} {l : List Nat} {o : Lc} {wi W A q BA X tt lim SP t : Nat} {snd : Int64} {MA : Ma} {s : Ms} {K : Outcome → AH → Prop} {fs : Nat} {st : Lw} {Lf : Nat → Lw} {RN : Nat → Int32}
/-- what stands for modules -/
def WHY (h : AH) (A CM : Nat) (MA : Ma) (Wd' : Wd) : Prop := h.R 0 A = some CM ∧ ∀ n m', Wd' n = some m' → MDR h (MA.1 n) m' ∧ (∀ k, MA.2.1 (n, k) = MA.1 n + 141 + 4 * k) ∧ (n ≠ 0 → MA.1 n ≠ CM) ∧ n < 65536 ∧ ∀ u' ∈ m'.2.2.2.2.2, u'.2.1.length ≤ 8
theorem WHY.out {CM : Nat} {Wd' : Wd} {h1 : AH} {o1 : Lc} {j p : Nat} (u : OUT wi W h h1 o o1) (w : WHY h A CM MA Wd') : WHY h1 A CM (maA MA j p) Wd' := ⟨by rw [u.1.R (IP.no (l := [0]) rfl _ _ rfl)]; exact w.1, fun n m' hm => by
  obtain ⟨a, b⟩ := w.2 n m' hm
  exact ⟨a.ip u.1, b⟩⟩
theorem inst_call {XX : Xt} (oo : OK e_X1_instruction XX) {m : Md} {u : Ux} {x : Ix} {env : Pc → Cn} {Wd' : Wd} {CM : Nat} {l1 l2 l3 l4 : Value} (H : IPR XX.G B h A W q BA X tt snd lim SP wi MA l o s) (hat : ∀ j, j < s.1 → MA.2.2.1 j = (s.2.1 j).2.1) (hW : Wd' (tpf s).1.1 = some m) (hk1 : (tpf s).1.1 = m.1) (hU : m.2.2.2.2.2[(tpf s).1.2]? = some u) (hx : (ui u)[(tpf s).2.1]? = some x) (hc : (mcs m).length ≤ 2048) (hy : WHY h A CM MA Wd') (ha : x.2.1 < m.2.2.2.2.2.length + m.2.2.2.1.length) (hcf : ∀ c ∈ m.2.2.2.1, c.1 = 0 → c.2.1 < 6) (hcb : ∀ c ∈ m.2.2.2.1, c.1 < 65536 ∧ c.2.1 < 256) (hT : ∀ v, (Sum.inl v : It) ∈ stk s → VW v) (hC : ∀ c, m.2.2.2.1[x.2.1 - m.2.2.2.2.2.length]? = some c → m.2.2.2.2.2.length ≤ x.2.1 → c.1 = 0 → c.2.1 = 1 ∨ c.2.1 = 3 ∨ c.2.1 = 4 → ∀ v y, ((stk s)[0]? = some (.inl v) ∧ c.2.1 ≠ 4) ∨ ((stk s)[1]? = some (.inl v) ∧ c.2.1 ≠ 1) → cvl v = some y → v = vCv y) (wd : WRD h o A W BA tt MA fs st Lf RN) (henv : ∀ p, gss Lf fs tt p = none → env p = vew st Lf fs tt p) (hn2 : (ens s).length < 26) (hak : s.2.2.2.1 ≤ 24) (hv : ∀ p v, (vew st Lf fs tt p).2.2.2 = some v → vsz v ≤ 64 ∧ fdp v.2.2 ≤ 40) (hth : ∀ x ∈ ens s, x.1.1 = 2 → x.2.2.1.1 = true) (hth2 : ∀ n m', Wd' n = some m' → n ≠ 0 → gss Lf fs tt (2, lN n, 0) = none → (vew st Lf fs tt (2, lN n, 0)).1 = true) (hfw : ∀ c ∈ m.2.2.2.1, c.1 ≠ 0 → ∃ m', Wd' c.1 = some m') (hav : lim + 72 ≤ av XX.G h l + gas s) (hd : 70 ≤ XX.d) (wt : WTS K XX.G B h A W q BA X tt snd lim SP wi o Lf fs s) (hop : x.1 = 23) (hne : mstp Wd' snd lim env s ≠ none) (kk : RZI K XX.G B h A W q BA X tt snd lim SP wi MA o (ens s).length (sco Lf RN fs tt) (mstp Wd' snd lim env s)) : V XX K 0 [.ref A, l1, l2, l3, l4] [] h := by
  obtain ⟨t, ht⟩ : ∃ t, t + 1 = s.1 := ⟨s.1 - 1, by have := H.2.2.1.1.2.2.1; omega⟩
  have hpl : (plc s).length = (ens s).length := by unfold plc; rw [List.length_map]
  have atT : MA.2.2.1 t = (tpf s).2.1 := by rw [hat t (by omega), tpt ht]
  obtain ⟨hm, hFf, -, -, -⟩ := hy.2 _ _ hW
  rw [mstp_1 hW hU hx] at kk hne
  refine inst_0 oo (kf := mst1 Wd' snd lim env m u x) H ht hm hU (hFf _) (by rw [atT]; exact hx) hc (by omega) (fun em => ?_) (fun h1 k u1 H1 em av1 cd => ?_) (by omega)
  · rw [em] at kk
    exact fun h' l' o' u2 H2 e1 e2 => kk h' l' o' MA u2 H2.ipr (MAX.refl (by show (plc s).length ≤ _; omega)) e1 e2
  · rw [em] at kk hne
    have kk1 := RZI.mv (j := t) (p := MA.2.2.1 t + 1) u1 kk
    have hat1 : ∀ j, j + 1 < (sG s (gas s + 1)).1 → (maA MA t (MA.2.2.1 t + 1)).2.2.1 j = ((sG s (gas s + 1)).2.1 j).2.1 := fun j hj => by
      have hj : j + 1 < s.1 := hj
      show (if j = t then _ else MA.2.2.1 j) = _
      rw [if_neg (by omega)]
      exact hat j (by omega)
    have hat2 : (maA MA t (MA.2.2.1 t + 1)).2.2.1 ((sG s (gas s + 1)).1 - 1) = (tpf (sG s (gas s + 1))).2.1 + 1 := by
      show (if s.1 - 1 = t then _ else _) = (tpf s).2.1 + 1
      rw [if_pos (by omega), atT]
    unfold mst1 at kk1 hne
    rw [if_neg (by omega), if_neg (by omega), if_neg (by omega), if_pos hop] at kk1 hne
    refine ⟨fun e => by omega, fun n0 => ?_⟩
    obtain ⟨⟨c1, c2', c3, c4, c5⟩, c6, c7, c8⟩ := cd
    have t1 := H1.1.1.1
    have hy1 := hy.out (j := t) (p := MA.2.2.1 t + 1) u1
    have av2 : lim + 72 ≤ av XX.G h1 l + gas (sG s (gas s + 1)) := by
      show lim + 72 ≤ av XX.G h1 l + (gas s + 1)
      omega
    refine inst_89 oo t1 c1 c2' c3 c4 c5 c6 c7 c8 (by omega) (by omega) (fun e => by omega) (fun e => by omega) (fun e => by omega) (fun e => by omega) (fun e => by omega) (fun e => by omega) (fun e => by omega) (fun e => ?_) (fun e => by omega) (fun e => by omega) (fun e => by omega) (fun e => by omega) (fun e => by omega) n0
    rw [lN_32]
    exact ccall_ok H1 ((wd.out u1).ma rfl) hk1 (by rw [← hk1]; exact hW) ha hat1 hat2 hy1.2 hy1.1 hcf hcb hT hC henv hn2 hak hv hth hth2 hfw av2 (by omega) (fun a b c d h' l' o' s' MA' u H2 e e1 e2 => (wt.out u1) a b c d h' l' o' s' MA' u H2 e e1 e2) hne kk1.kvd
end
