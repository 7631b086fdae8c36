/-! instructions, one by one -/
def mst1 (Wd' : Wd) (snd : Int64) (lim : Nat) (env : Pc → Cn) (m : Md) (u : Ux) (x : Ix) (s : Ms) : Rz := if x.1 = 1 then mend env u s
  else if x.1 = 45 then (match stk s with
    | .inl v :: _ => mre (v.1 == 3) (mst 1 v.2.1.2 s)
    | _ => none)
  else if 2 ≤ x.1 ∧ x.1 < 5 then mbr m u x.1 x.2.1 s
  else if x.1 = 23 then mcl Wd' snd env lim m u x.2.1 s
  else rb (mop snd env lim m x s) fun s => mgo (nx m u ((tpf s).2.1 + 1) s)
theorem mstp_1 {Wd' : Wd} {snd : Int64} {lim : Nat} {env : Pc → Cn} {m : Md} {u : Ux} {x : Ix} {s : Ms} (hW : Wd' (tpf s).1.1 = some m) (hU : m.2.2.2.2.2[(tpf s).1.2]? = some u) (hx : (ui u)[(tpf s).2.1]? = some x) : mstp Wd' snd lim env s = mpay lim 1 s (mst1 Wd' snd lim env m u x) := by
  unfold mstp
  rw [hW]
  simp only [hU, hx]
  congr 1
  funext s'
  unfold mst1
  by_cases c1 : x.1 = 1
  · rw [if_pos c1, if_pos c1]
  rw [if_neg c1, if_neg c1]
  by_cases c45 : x.1 = 45
  · rw [if_pos c45, if_pos c45]
    rfl
  rw [if_neg c45, if_neg c45]
  by_cases c2 : x.1 = 2
  · rw [if_pos c2, if_pos (show 2 ≤ x.1 ∧ x.1 < 5 by omega)]
    unfold mbr
    rw [if_pos c2]
  rw [if_neg c2]
  by_cases c34 : x.1 < 5 ∧ 2 < x.1
  · rw [if_pos c34, if_pos (show 2 ≤ x.1 ∧ x.1 < 5 by omega)]
    unfold mbr
    rw [if_neg c2]
    rfl
  rw [if_neg c34, if_neg (show ¬ (2 ≤ x.1 ∧ x.1 < 5) by omega)]
  by_cases c23 : x.1 = 23
  · rw [if_pos c23, if_pos c23]
    unfold mcl
    rfl
  rw [if_neg c23, if_neg c23]
section
variable {G : Gt} {B d : Nat} {h : AH} {l : List Nat} {o : Lc} {wi W A q BA X tt lim SP t : Nat} {snd : Int64} {MA : Ma} {s : Ms} {K : Outcome → AH → Prop} {fs : Nat} {st : Lw} {Lf : Nat → Lw} {RN : Nat → Int32}
theorem RZI.mv {h1 : AH} {o1 : Lc} {j p n : Nat} {sc : Pc → Option (Int32 × Int32)} {r : Rz} (u : OUT wi W h h1 o o1) (k : RZI K G B h A W q BA X tt snd lim SP wi MA o n sc r) : RZI K G B h1 A W q BA X tt snd lim SP wi (maA MA j p) o1 n sc r := by
  cases r with
  | none => trivial
  | some e =>
    cases e with
    | ok s' => exact fun h' l' o' MA' u2 H mx a => k h' l' o' MA' (u.trans u2) H mx a
    | error e => exact fun h' l' o' MA' u2 H mx => k h' l' o' MA' (u.trans u2) H mx
theorem RZI.kvd {n : Nat} {sc : Pc → Option (Int32 × Int32)} {r : Rz} (k : RZI K G B h A W q BA X tt snd lim SP wi MA o n sc r) : RZI (kvd K) G B h A W q BA X tt snd lim SP wi MA o n sc r := by
  cases r with
  | none => trivial
  | some e => cases e <;> exact k
/-- an instruction that is neither a call nor an end -/
theorem inst_mop {XX : Xt} (oo : OK e_X1_instruction XX) {m : Md} {u : Ux} {x : Ix} {env : Pc → Cn} {Wd' : Wd} {l1 l2 l3 l4 : Value} (H : IPR XX.G B h A W q BA X tt snd lim SP wi MA l o s) (hat : ∀ j, j < s.1 → MA.2.2.1 j = (s.2.1 j).2.1) (hW : Wd' (tpf s).1.1 = some m) (hm : MDR h (MA.1 (tpf s).1.1) m) (hU : m.2.2.2.2.2[(tpf s).1.2]? = some u) (hF : MA.2.1 (tpf s).1 = MA.1 (tpf s).1.1 + 141 + 4 * (tpf s).1.2) (hx : (ui u)[(tpf s).2.1]? = some x) (hc : (mcs m).length ≤ 2048) (hg : gM m) (ih : IHY m x (sG s (gas s + 1))) (hD : ∀ h2, Fr (IP W) h h2 → DGR XX.G h2 A) (wd : WRD h o A W BA tt MA fs st Lf RN) (henv : ∀ p, gss Lf fs tt p = none → env p = vew st Lf fs tt p) (hn2 : (ens s).length < 26) (hak : s.2.2.2.1 ≤ 24) (hv : ∀ p v, (vew st Lf fs tt p).2.2.2 = some v → vsz v ≤ 64 ∧ fdp v.2.2 ≤ 40) (hen : ∀ x ∈ ens s, x.1.1 = 3 → x.2.2.1.1 = x.2.2.1.2.2.2.isSome) (hev : ∀ a i, (env (3, a, i)).1 = (env (3, a, i)).2.2.2.isSome) (hav : lim + 72 ≤ av XX.G h l + gas s) (hd : 70 ≤ XX.d) (wt : WTS K XX.G B h A W q BA X tt snd lim SP wi o Lf fs s) (hop : x.1 < 60 ∧ x.1 ≠ 1 ∧ x.1 ≠ 23) (hne : mstp Wd' snd lim env s ≠ none) (kk : RZI K XX.G B h A W q BA X tt snd lim SP wi MA o (ens s).length (sco Lf RN fs tt) (mstp Wd' snd lim env s)) : V XX K 0 [.ref A, l1, l2, l3, l4] [] h := by
  obtain ⟨t, ht⟩ : ∃ t, t + 1 = s.1 := ⟨s.1 - 1, by have := H.2.2.1.1.2.2.1; omega⟩
  have hpl : (plc s).length = (ens s).length := by unfold plc; rw [List.length_map]
  have atT : MA.2.2.1 t = (tpf s).2.1 := by rw [hat t (by omega), tpt ht]
  rw [mstp_1 hW hU hx] at kk hne
  refine inst_0 oo (kf := mst1 Wd' snd lim env m u x) H ht hm hU hF (by rw [atT]; exact hx) hc (by omega) (fun em => ?_) (fun h1 k u1 H1 em av1 cd => ?_) hop.1
  · rw [em] at kk
    exact fun h' l' o' u2 H2 e1 e2 => kk h' l' o' MA u2 H2.ipr (MAX.refl (by show (plc s).length ≤ _; omega)) e1 e2
  · rw [em] at kk hne
    have kk1 := RZI.mv (j := t) (p := MA.2.2.1 t + 1) u1 kk
    have hat1 : ∀ j, j + 1 < (sG s (gas s + 1)).1 → (maA MA t (MA.2.2.1 t + 1)).2.2.1 j = ((sG s (gas s + 1)).2.1 j).2.1 := fun j hj => by
      have hj : j + 1 < s.1 := hj
      show (if j = t then _ else MA.2.2.1 j) = _
      rw [if_neg (by omega)]
      exact hat j (by omega)
    have hat2 : (maA MA t (MA.2.2.1 t + 1)).2.2.1 ((sG s (gas s + 1)).1 - 1) = (tpf (sG s (gas s + 1))).2.1 + 1 := by
      show (if s.1 - 1 = t then _ else _) = (tpf s).2.1 + 1
      rw [if_pos (by omega), atT]
    unfold mst1 at kk1 hne
    rw [if_neg hop.2.1] at kk1 hne
    by_cases c45 : x.1 = 45
    · rw [if_pos c45] at kk1 hne
      refine ⟨fun e => by omega, fun n0 => ?_⟩
      obtain ⟨⟨c1, c2, c3, c4, c5⟩, c6, c7, c8⟩ := cd
      have t1 := H1.1.1.1
      refine inst_89 oo t1 c1 c2 c3 c4 c5 c6 c7 c8 hop.1 (by omega) (fun e => by omega) (fun e => by omega) (fun e => by omega) (fun e => by omega) (fun e => by omega) (fun e => by omega) (fun e => by omega) (fun e => by omega) (fun e => by omega) (fun _ => ?_) (fun e => by omega) (fun e => by omega) (fun e => by omega) n0
      have ht1 : t + 1 = (sG s (gas s + 1)).1 := ht
      have hf1 : h1.R 28 A = some (Fa W t) := by rw [H1.2.2.2.1]; show some (Fa W (s.1 - 1)) = _; rw [show s.1 - 1 = t by omega]
      cases hs : stk (sG s (gas s + 1)) with
      | nil => rw [hs] at hne; exact absurd rfl hne
      | cons i k' =>
        cases i with
        | inr r => rw [hs] at hne; exact absurd rfl hne
        | inl v =>
          rw [hs] at hne kk1
          obtain ⟨-, em2⟩ := mre_n hne
          simp only at kk1
          rw [em2] at kk1
          refine k_X1_instruction_248 oo ?_
          refine ctop_ok (b := 0) (t := t) H1.1 H1.2.2.1 hf1 ht1 (by rw [hs]; rfl) fun z z1 z2 => ?_
          have ez : lvE z = v := z2
          have rz := (H1.2.1.2.2.2 _ _ z1).1
          have tz := rz.1
          have lz : h1.J 3714 z.1 = v.2.1.2 := by rw [← ez]; exact rz.2.2.2.1
          refine k_X1_instruction_255 (r2 := lz) oo ?_
          refine cstop_ok (w := 1) H1.1 (H1.stop ?_)
          exact fun h' l' o' u2 H2 e1 e2 => kk1 h' l' o' _ u2 H2.ipr (MAX.refl (by show (plc s).length ≤ _; omega)) e1 e2
    rw [if_neg c45] at kk1 hne
    by_cases c2 : 2 ≤ x.1 ∧ x.1 < 5
    · rw [if_pos c2] at kk1 hne
      refine ⟨fun e => by omega, fun n0 => ?_⟩
      obtain ⟨⟨c1, c2', c3, c4, c5⟩, c6, c7, c8⟩ := cd
      have t1 := H1.1.1.1
      refine inst_89 oo t1 c1 c2' c3 c4 c5 c6 c7 c8 hop.1 (by omega) (fun e => by omega) (fun e => ?_) (fun e => by omega) (fun e => by omega) (fun e => by omega) (fun e => by omega) (fun e => by omega) (fun e => by omega) (fun e => by omega) (fun e => by omega) (fun e => by omega) (fun e => by omega) (fun e => by omega) n0
      rw [lN_32]
      exact cbranch_ok H1 c2 hat1 hat2 (by show (plc s).length ≤ _; omega) ih.1.1 (by omega) hne kk1.kvd
    rw [if_neg c2, if_neg hop.2.2] at kk1 hne
    have hne2 : mop snd env lim m x (sG s (gas s + 1)) ≠ none := fun z => by rw [z] at hne; exact hne rfl
    have hm1 := hm.ip u1.1
    have av2 : lim + 72 ≤ av XX.G h1 l + gas (sG s (gas s + 1)) := by
      show lim + 72 ≤ av XX.G h1 l + (gas s + 1)
      omega
    exact inst_op oo H1 cd ih hm1 hg (hD h1 u1.1) ((wd.out u1).ma rfl) henv hn2 hak hv hen hev av2 hd (wt.out u1) ⟨hop.1, hop.2.1, c2, hop.2.2, c45⟩ hne2 (RZI.op pcE_mop hat1 hat2 kk1)
end
