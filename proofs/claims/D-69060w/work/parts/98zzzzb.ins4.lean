/-! instructions: ends -/
section
variable {G : Gt} {B d : Nat} {h : AH} {l : List Nat} {o : Lc} {wi W A q BA X tt lim SP t : Nat} {snd : Int64} {MA : Ma} {s : Ms} {K : Outcome → AH → Prop} {fs : Nat} {st : Lw} {Lf : Nat → Lw} {RN : Nat → Int32}
theorem REN.kvd {n RT RH RL : Nat} {sc : Pc → Option (Int32 × Int32)} {vs : List VL} {r : Rz} (k : REN K G B h A W q BA X tt snd lim SP wi MA o n sc RT RH RL vs r) : REN (kvd K) G B h A W q BA X tt snd lim SP wi MA o n sc RT RH RL vs r := by
  cases r with
  | none => trivial
  | some e => cases e <;> exact k
theorem REN.mv {n RT RH RL j p : Nat} {sc : Pc → Option (Int32 × Int32)} {vs : List VL} {r : Rz} {h1 : AH} {o1 : Lc} (u : OUT wi W h h1 o o1) (k : REN K G B h A W q BA X tt snd lim SP wi MA o n sc RT RH RL vs r) : REN K G B h1 A W q BA X tt snd lim SP wi (maA MA j p) o1 n sc RT RH RL vs r := by
  cases r with
  | none => trivial
  | some e =>
    cases e with
    | ok s' => exact fun h' l' o' MA' u2 H mx => k h' l' o' MA' (u.oux u2) H mx
    | error e => exact fun h' l' o' MA' u2 H mx => k h' l' o' MA' (u.oux u2) H mx
theorem inst_ehi {XX : Xt} (oo : OK e_X1_instruction XX) {m : Md} {u : Ux} {x : Ix} {env : Pc → Cn} {Wd' : Wd} {CM t1 n : Nat} {sc : Pc → Option (Int32 × Int32)} {l1 l2 l3 l4 : Value} (H : IPR XX.G B h A W q BA X tt snd lim SP wi MA l o s) (hat : ∀ j, j < s.1 → MA.2.2.1 j = (s.2.1 j).2.1) (hW : Wd' (tpf s).1.1 = some m) (hU : m.2.2.2.2.2[(tpf s).1.2]? = some u) (hx : (ui u)[(tpf s).2.1]? = some x) (hc : (mcs m).length ≤ 2048) (hy : WHY h A CM MA Wd') (ht : t1 + 2 = s.1) (hL : ∀ k v, lcs s k = some (.inl v) → VW v) (h64 : (s.2.1 t1).2.2.2.length + (stk s).length ≤ 64) (hn : (ens s).length ≤ n) (hd : 70 ≤ XX.d) (hop : x.1 = 1) (hne : mstp Wd' snd lim env s ≠ none) (kk : RZI K XX.G B h A W q BA X tt snd lim SP wi MA o n sc (mstp Wd' snd lim env s)) : V XX K 0 [.ref A, l1, l2, l3, l4] [] h := by
  have ht' : t1 + 1 + 1 = s.1 := by omega
  have hpl : (plc s).length = (ens s).length := by unfold plc; rw [List.length_map]
  have atT : MA.2.2.1 (t1 + 1) = (tpf s).2.1 := by rw [hat (t1 + 1) (by omega), tpt ht']
  obtain ⟨hm, hFf, -, -, -⟩ := hy.2 _ _ hW
  rw [mstp_1 hW hU hx] at kk hne
  refine inst_0 oo (kf := mst1 Wd' snd lim env m u x) H ht' hm hU (hFf _) (by rw [atT]; exact hx) hc (by omega) (fun em => ?_) (fun h1 k u1 H1 em av1 cd => ?_) (by omega)
  · rw [em] at kk
    exact fun h' l' o' u2 H2 e1 e2 => kk h' l' o' MA u2 H2.ipr (MAX.refl (by show (plc s).length ≤ _; omega)) e1 e2
  · rw [em] at kk hne
    have kk1 := RZI.mv (j := t1 + 1) (p := MA.2.2.1 (t1 + 1) + 1) u1 kk
    unfold mst1 mend at kk1 hne
    rw [if_pos hop] at kk1 hne
    obtain ⟨hl, em1⟩ := mre_n hne
    rw [em1] at kk1 hne
    have s1 : (sG s (gas s + 1)).1 = s.1 := rfl
    rw [if_neg (by rw [s1]; omega)] at kk1 hne
    obtain ⟨hr, em2⟩ := mre_n hne
    simp only at kk1
    rw [em2] at kk1
    refine ⟨fun e => by omega, fun n0 => ?_⟩
    obtain ⟨⟨c1, c2', c3, c4, c5⟩, c6, c7, c8⟩ := cd
    have t1A := H1.1.1.1
    refine inst_89 oo t1A c1 c2' c3 c4 c5 c6 c7 c8 (by omega) (by omega) (fun e => ?_) (fun e => by omega) (fun e => by omega) (fun e => by omega) (fun e => by omega) (fun e => by omega) (fun e => by omega) (fun e => by omega) (fun e => by omega) (fun e => by omega) (fun e => by omega) (fun e => by omega) (fun e => by omega) n0
    refine cend_hi (t1 := t1) H1 ht (hm.ip u1.1) hU (hFf _) (by simpa using hl) hr hL h64 (by omega) fun h2 l2' o2 u2 H2 => ?_
    refine kk1 h2 l2' o2 _ u2 H2.ipr (MAX.refl (by show (plc s).length ≤ _; omega)) (fun j hj => ?_)
    have hj : j < s.1 - 1 := hj
    show (if j = t1 + 1 then _ else MA.2.2.1 j) = (uF s.2.1 (s.1 - 1 - 1) _ j).2.1
    rw [if_neg (by omega), hat j (by omega)]
    unfold uF
    by_cases c : j = s.1 - 1 - 1
    · rw [if_pos c, c]; rfl
    · rw [if_neg c]
theorem inst_elo {XX : Xt} (oo : OK e_X1_instruction XX) {m : Md} {u : Ux} {x : Ix} {env : Pc → Cn} {Wd' : Wd} {CM RT RH RL : Nat} {vs : List VL} {l1 l2 l3 l4 : Value} (H : IPR XX.G B h A W q BA X tt snd lim SP wi MA l o s) (hat : ∀ j, j < s.1 → MA.2.2.1 j = (s.2.1 j).2.1) (hW : Wd' (tpf s).1.1 = some m) (hU : m.2.2.2.2.2[(tpf s).1.2]? = some u) (hx : (ui u)[(tpf s).2.1]? = some x) (hc : (mcs m).length ≤ 2048) (hy : WHY h A CM MA Wd') (hs1 : s.1 = 1) (hL : ∀ k v, lcs s k = some (.inl v) → VW v) (hst : stk s = (vs.map Sum.inl).reverse) (h8 : vs.length ≤ 8) (hT : ∀ v ∈ vs, VW v) (tx : TXS h X RT RH RL) (wd : WRD h o A W BA tt MA fs st Lf RN) (hen : ∀ x ∈ ens s, x.1.1 = 3 → x.2.2.1.1 = x.2.2.1.2.2.2.isSome) (hvw : ∀ x ∈ ens s, ∀ v, x.2.2.1.2.2.2 = some v → VW v) (henv : ∀ p, gss Lf fs tt p = none → env p = vew st Lf fs tt p) (hn2 : (ens s).length < 26) (hak : s.2.2.2.1 ≤ 24) (hv : ∀ p v, (vew st Lf fs tt p).2.2.2 = some v → vsz v ≤ 64 ∧ fdp v.2.2 ≤ 40) (hb : ∀ x ∈ ens s, x.1 = (4, 0, 0) → -100000 ≤ x.2.2.1.2.1.toInt ∧ x.2.2.1.2.1.toInt ≤ 100000) (hb2 : gss Lf fs tt (4, 0, 0) = none → -100000 ≤ (vew st Lf fs tt (4, 0, 0)).2.1.toInt ∧ (vew st Lf fs tt (4, 0, 0)).2.1.toInt ≤ 100000) (hav : ∀ h' l' o' MA', OUT wi W h h' o o' → OPR XX.G B h' A W q BA X tt snd lim SP wi MA' l' o' (Edr (sG s (gas s + 1)) 40) → 64 ≤ av XX.G h' l') (hd : 70 ≤ XX.d) (wt : ∀ k p, PB p → gss Lf fs tt p = some k → ∀ h' l' o' s' MA', OUX wi W X RT RH RL h h' o o' → OPQ 0 (some (Fa W 0)) XX.G B h' A W q BA X tt snd lim SP wi MA' l' o' s' → s'.1 = 0 ∧ ens s' = ens s → h'.I 24 A = nI 9 → h'.J 25 A = lN k → K (.threw SP) h') (hop : x.1 = 1) (hne : mstp Wd' snd lim env s ≠ none) (kk : mstp Wd' snd lim env s = mst 2 5 (sG s lim) → RZI K XX.G B h A W q BA X tt snd lim SP wi MA o (ens s).length (sco Lf RN fs tt) (mst 2 5 (sG s lim))) (kE : REN K XX.G B h A W q BA X tt snd lim SP wi MA o (ens s).length (sco Lf RN fs tt) RT RH RL vs (msq env (s00 (sG s (gas s + 1))))) : V XX K 0 [.ref A, l1, l2, l3, l4] [] h := by
  have ht' : 0 + 1 = s.1 := by omega
  have hpl : (plc s).length = (ens s).length := by unfold plc; rw [List.length_map]
  have atT : MA.2.2.1 0 = (tpf s).2.1 := by rw [hat 0 (by omega), tpt ht']
  obtain ⟨hm, hFf, -, -, -⟩ := hy.2 _ _ hW
  rw [mstp_1 hW hU hx] at kk hne
  refine inst_0 oo (t := 0) (kf := mst1 Wd' snd lim env m u x) H ht' hm hU (hFf _) (by rw [atT]; exact hx) hc (by omega) (fun em => ?_) (fun h1 k u1 H1 em av1 cd => ?_) (by omega)
  · exact fun h' l' o' u2 H2 e1 e2 => kk em h' l' o' MA u2 H2.ipr (MAX.refl (by show (plc s).length ≤ _; omega)) e1 e2
  · rw [em] at hne
    unfold mst1 mend at hne
    rw [if_pos hop] at hne
    obtain ⟨hl, -⟩ := mre_n hne
    refine ⟨fun e => by omega, fun n0 => ?_⟩
    obtain ⟨⟨c1, c2', c3, c4, c5⟩, c6, c7, c8⟩ := cd
    have t1A := H1.1.1.1
    have tx1 : TXS h1 X RT RH RL := by
      obtain ⟨⟨a1, a2, a3⟩, a4, a5, a6⟩ := tx
      have np := IP.no (W := W) (l := [2713, 2711, 2712]) rfl
      exact ⟨⟨by rw [u1.1.R (np _ _ rfl)]; exact a1, by rw [u1.1.R (np _ _ rfl)]; exact a2, by rw [u1.1.R (np _ _ rfl)]; exact a3⟩, u1.1.tag a4, u1.1.tag a5, u1.1.tag a6⟩
    refine inst_89 oo t1A c1 c2' c3 c4 c5 c6 c7 c8 (by omega) (by omega) (fun e => ?_) (fun e => by omega) (fun e => by omega) (fun e => by omega) (fun e => by omega) (fun e => by omega) (fun e => by omega) (fun e => by omega) (fun e => by omega) (fun e => by omega) (fun e => by omega) (fun e => by omega) (fun e => by omega) n0
    exact cend_lo (s := sG s (gas s + 1)) H1 hs1 (hm.ip u1.1) hU (hFf _) (by simpa using hl) hL hst h8 hT tx1 ((wd.out u1).ma rfl) hen hvw henv hn2 hak hv hb hb2 (fun h' l' o' u2 H2 => hav h' l' o' _ (u1.trans u2) H2) (by omega) (fun a b c d h' l' o' s' MA' u2 H2 e e1 e2 => wt a b c d h' l' o' s' MA' (u1.oux u2) H2 e e1 e2) (REN.mv u1 kE).kvd
end
