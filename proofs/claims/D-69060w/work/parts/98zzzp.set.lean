/-! at a call's end: sizes, and how many places there are -/
def mo1 (e : En) : Int := if e.1.1 = 1 ∨ e.1.1 = 3 then (if e.2.2.1.1 then 1 else 0) - (if e.2.1.1 then 1 else 0) else 0
def tl1 (e : En) : Bool := e.1.1 == 3 && (e.2.2.2 && (e.2.2.1.1 && (match e.2.2.1.2.2.2 with
  | some v => decide (64 < vsz v)
  | none => false)))
theorem mor_s (es : List En) : mor es = (es.map mo1).sum := rfl
theorem tlg_s (es : List En) : tlg es = es.any tl1 := rfl
theorem mo1_b (e : En) : -1 ≤ mo1 e ∧ mo1 e ≤ 1 := by
  unfold mo1
  split
  · cases e.2.2.1.1 <;> cases e.2.1.1 <;> decide
  · decide
theorem mor_b : ∀ es : List En, -(es.length : Int) ≤ mor es ∧ mor es ≤ es.length
  | [] => ⟨by decide, by decide⟩
  | e :: es => by
    have h1 := mo1_b e
    have h2 := mor_b es
    have e3 : mor (e :: es) = mo1 e + mor es := by simp [mor_s]
    rw [e3]
    simp only [List.length_cons]
    omega
theorem ofI_b {m : Int} {a b : Bool} : Int32.ofInt m + (bI a - bI b) = Int32.ofInt (m + ((if a then 1 else 0) - (if b then 1 else 0))) := by
  rw [Int32.ofInt_add]
  congr 1
  cases a <;> cases b <;> decide
theorem ofI_t {m : Int} (h1 : -100 ≤ m) (h2 : m ≤ 100) : (Int32.ofInt m).toInt = m := Int32.toInt_ofInt_of_le (by omega) (by omega)
theorem ofI_0 {m : Int} (h1 : -100 ≤ m) (h2 : m ≤ 100) : Int32.ofInt m = 0 ↔ m = 0 := by
  constructor
  · intro e
    have := congrArg Int32.toInt e
    rw [ofI_t h1 h2] at this
    exact this
  · intro e; rw [e]; rfl
theorem ofI_64 {m : Int} (h1 : -100 ≤ m) (h2 : m ≤ 100) : (Int32.ofInt m).toInt64 = Int64.ofInt m := by
  refine Int64.toInt_inj.mp ?_
  rw [Int32.toInt_toInt64, ofI_t h1 h2, Int64.toInt_ofInt_of_le (by omega) (by omega)]
def msK (e : Nat) (s : Ms) : Rz := match (ens s)[e]? with
  | none => none
  | some x => if x.2.2.1.2.1.toInt + mor (ens s) ≤ 256 then mgo (sEn s e (cEn (x.2.2.1.1, Int64.ofInt (x.2.2.1.2.1.toInt + mor (ens s)), x.2.2.1.2.2) true)) else mst 2 4 s
/-- what is settled, but for the end itself -/
def msq (env : Pc → Cn) (s : Ms) : Rz := if tlg (ens s) then mst 2 4 s
  else if mor (ens s) = 0 then mgo s
  else mask env false (4, 0, 0) s msK
def RZQ (z : Nat) (fx : Option Nat) (K : Outcome → AH → Prop) (G : Gt) (B : Nat) (h : AH) (A W q BA X tt : Nat) (snd : Int64) (lim SP wi : Nat) (MA : Ma) (o : Lc) (n : Nat) (sc : Pc → Option (Int32 × Int32)) (r : Rz) : Prop := match r with
  | none => True
  | some (.ok s') => ∀ h' l' o' MA', OUT wi W h h' o o' → OPQ z fx G B h' A W q BA X tt snd lim SP wi MA' l' o' s' → MAX n MA MA' (plc s') sc → K (.returned none) h'
  | some (.error e) => ∀ h' l' o' MA', OUT wi W h h' o o' → OPQ z fx G B h' A W q BA X tt snd lim SP wi MA' l' o' e.2.2 → MAX n MA MA' (plc e.2.2) sc → h'.I 24 A = nI e.1 → h'.J 25 A = e.2.1 → K (.threw SP) h'
section
variable {G : Gt} {B d : Nat} {h : AH} {l : List Nat} {o : Lc} {wi W A q BA X tt lim SP t : Nat} {snd : Int64} {MA : Ma} {s : Ms} {K : Outcome → AH → Prop} {fs z : Nat} {fx : Option Nat} {st : Lw} {Lf : Nat → Lw} {RN : Nat → Int32}
theorem OPQ.en {e : Nat} {x : En} (H : OPQ z fx G B h A W q BA X tt snd lim SP wi MA l o s) (hx : (ens s)[e]? = some x) : EnR1 h o wi W e MA x ∧ (h.tag (Ea W e) = some (9, 0) ∧ h.ER 342 (W + 3) e = some (Ea W e)) ∧ e < 26 := by
  have el := get_lt hx
  have e26 := H.2.2.1.2.2.2.1.2
  exact ⟨H.2.2.1.2.2.2.2.1 e x hx, ⟨(H.2.2.1.1.1.2.2.2 e (by omega)).2, (H.2.2.1.1.1.2.2.2 e (by omega)).1⟩, by omega⟩
theorem settle_136 {XX : Xt} (oo : OK e_X1_settlePlaces XX) {l2 l3 l4 : Value} {env : Pc → Cn} {n : Nat} (H : OPQ z fx XX.G B h A W q BA X tt snd lim SP wi MA l o s) (hn : n = (ens s).length) (htl : tlg (ens s) = false) (kk : RZQ z fx K XX.G B h A W q BA X tt snd lim SP wi MA o n (sco Lf RN fs tt) (msq env s)) (ask : mor (ens s) ≠ 0 → V XX K 141 [.ref A, .int (Int32.ofInt (mor (ens s))), l2, l3, l4] [] h) : V XX K 136 [.ref A, .int (Int32.ofInt (mor (ens s))), l2, l3, l4] [] h := by
  have mb := mor_b (ens s)
  have e26 := H.2.2.1.2.2.2.1.2
  by_cases c : mor (ens s) = 0
  · refine k_X1_settlePlaces_136 oo (fun q => absurd ((ofI_0 (by omega) (by omega)).mpr c) q) (fun _ => ?_)
    refine k_X1_settlePlaces_140 oo ?_
    unfold msq at kk
    rw [if_neg (by rw [htl]; decide), if_pos c] at kk
    exact kk h l o MA OUT.refl H (MAX.refl (by unfold plc; rw [List.length_map, hn]; exact Nat.le_refl _))
  · exact k_X1_settlePlaces_136 oo (fun _ => ask c) (fun q => absurd ((ofI_0 (by omega) (by omega)).mp q) c)
theorem settle_15 {XX : Xt} (oo : OK e_X1_settlePlaces XX) (H : OPQ z fx XX.G B h A W q BA X tt snd lim SP wi MA l o s) (hen : ∀ x ∈ ens s, x.1.1 = 3 → x.2.2.1.1 = x.2.2.1.2.2.2.isSome) (hvw : ∀ x ∈ ens s, ∀ v, x.2.2.1.2.2.2 = some v → VW v) (hd : 60 ≤ XX.d) (stp : tlg (ens s) = true → STP K A SP h 2 4) (kk : ∀ l4, tlg (ens s) = false → V XX K 136 [.ref A, .int (Int32.ofInt (mor (ens s))), .int (nI (ens s).length), .int (nI (ens s).length), l4] [] h) : ∀ (r i : Nat), r + i = (ens s).length → tlg ((ens s).take i) = false → ∀ l4, V XX K 15 [.ref A, .int (Int32.ofInt (mor ((ens s).take i))), .int (nI (ens s).length), .int (nI i), l4] [] h := by
  have e26 := H.2.2.1.2.2.2.1.2
  have t0 := H.1.1.1
  have rw0 := H.1.1.2.2.1
  have tW := H.2.2.1.1.1.1.1
  obtain ⟨w2, w3, w4, w5⟩ := H.2.2.1.1.1.2.1
  intro r
  induction r with
  | zero =>
    intro i hi ht l4
    have e : i = (ens s).length := by omega
    subst e
    rw [List.take_of_length_le (Nat.le_refl _)] at ht ⊢
    exact k_X1_settlePlaces_15 oo (fun _ => kk l4 ht) (fun c => absurd (Int32.le_refl _) c)
  | succ r ih =>
    intro i hi ht l4
    obtain ⟨x, hx⟩ : ∃ x, (ens s)[i]? = some x := ⟨_, List.getElem?_eq_getElem (by omega)⟩
    have hxm := List.mem_of_getElem? hx
    obtain ⟨⟨⟨a1, a2, a3, a4⟩, ⟨b1, b2, b3⟩, ⟨g1, g2⟩, -, d1⟩, ⟨tE, rE⟩, i26⟩ := H.en hx
    have etk : (ens s).take (i + 1) = (ens s).take i ++ [x] := by rw [List.take_add_one, hx]; rfl
    have em : mor ((ens s).take (i + 1)) = mor ((ens s).take i) + mo1 x := by rw [etk, mor_s, List.map_append, List.sum_append]; simp [mor_s]
    have et : tlg ((ens s).take (i + 1)) = (tlg ((ens s).take i) || tl1 x) := by rw [etk, tlg_s, List.any_append]; simp [tlg_s]
    have k16 := a4.1
    have ix : IX (nI i) 30 i := IX.mk (by omega) (by omega)
    refine k_X1_settlePlaces_15 oo (fun c => absurd ((nI_leI (by omega) (by omega)).mp c) (by omega)) (fun _ => ?_)
    -- behind the size
    have s130 : ∀ m, m = Int32.ofInt (mor ((ens s).take (i + 1))) → tl1 x = false → V XX K 130 [.ref A, .int m, .int (nI (ens s).length), .int (nI i), .ref (Ea W i)] [] h := fun m hm h1 => by
      subst hm
      refine k_X1_settlePlaces_130 oo ?_
      rw [nI_add]
      exact ih (i + 1) (by omega) (by rw [et, ht, h1]; rfl) _
    have s82 : tl1 x = false → V XX K 82 [.ref A, .int (Int32.ofInt (mor ((ens s).take i))), .int (nI (ens s).length), .int (nI i), .ref (Ea W i)] [] h := fun h1 => by
      have s100 : x.1.1 = 1 ∨ x.1.1 = 3 → V XX K 100 [.ref A, .int (Int32.ofInt (mor ((ens s).take i))), .int (nI (ens s).length), .int (nI i), .ref (Ea W i)] [] h := fun h13 => by
        have s127 : V XX K 127 [.ref A, .int (Int32.ofInt (mor ((ens s).take i))), .int (nI (ens s).length), .int (nI i), .ref (Ea W i)] [.int (bI x.2.1.1), .int (bI x.2.2.1.1), .int (Int32.ofInt (mor ((ens s).take i)))] h := by
          refine k_X1_settlePlaces_127 oo ?_
          refine s130 _ ?_ h1
          rw [ofI_b, em]
          unfold mo1
          rw [if_pos h13]
        have s114 : V XX K 114 [.ref A, .int (Int32.ofInt (mor ((ens s).take i))), .int (nI (ens s).length), .int (nI i), .ref (Ea W i)] [.int (bI x.2.2.1.1), .int (Int32.ofInt (mor ((ens s).take i)))] h := by
          cases hw : x.2.1.1 with
          | true =>
            rw [hw] at g1 s127
            refine k_X1_settlePlaces_114 (r2 := g1) oo (fun c => absurd c (by decide)) (fun _ => ?_)
            exact k_X1_settlePlaces_122 oo s127
          | false =>
            rw [hw] at g1 s127
            refine k_X1_settlePlaces_114 (r2 := g1) oo (fun _ => ?_) (fun c => absurd rfl c)
            exact k_X1_settlePlaces_126 oo s127
        cases hw : x.2.2.1.1 with
        | true =>
          rw [hw] at b1 s114
          refine k_X1_settlePlaces_100 (r2 := b1) oo (fun c => absurd c (by decide)) (fun _ => ?_)
          exact k_X1_settlePlaces_109 oo s114
        | false =>
          rw [hw] at b1 s114
          refine k_X1_settlePlaces_100 (r2 := b1) oo (fun _ => ?_) (fun c => absurd rfl c)
          exact k_X1_settlePlaces_113 oo s114
      by_cases c3 : x.1.1 = 3
      · exact k_X1_settlePlaces_82 (r2 := a1) oo (fun _ => s100 (Or.inr c3)) (fun c => absurd (by rw [c3]) c)
      · refine k_X1_settlePlaces_82 (r2 := a1) oo (fun c => absurd ((nI_eq (by omega) (by omega)).mp c) c3) (fun _ => ?_)
        by_cases c1 : x.1.1 = 1
        · exact k_X1_settlePlaces_91 (r2 := a1) oo (fun c => absurd (by rw [c1]) c) (fun _ => s100 (Or.inl c1))
        · refine k_X1_settlePlaces_91 (r2 := a1) oo (fun _ => ?_) (fun c => absurd ((nI_eq (by omega) (by omega)).mp c) c1)
          refine s130 _ ?_ h1
          rw [em]
          unfold mo1
          rw [if_neg (by omega), Int.add_zero]
    by_cases c3 : x.1.1 = 3
    · refine k_X1_settlePlaces_20 (r17 := a1) oo (fun c => absurd (by rw [c3]) c) (fun _ => ?_)
      cases hc : x.2.2.2 with
      | false =>
        rw [hc] at g2
        refine k_X1_settlePlaces_43 (r2 := g2) oo (fun _ => s82 (by unfold tl1; rw [hc]; simp)) (fun c => absurd rfl c)
      | true =>
        rw [hc] at g2
        refine k_X1_settlePlaces_43 (r2 := g2) oo (fun c => absurd c (by decide)) (fun _ => ?_)
        cases hth : x.2.2.1.1 with
        | false =>
          rw [hth] at b1
          refine k_X1_settlePlaces_51 (r2 := b1) oo (fun _ => s82 (by unfold tl1; rw [hth]; simp)) (fun c => absurd rfl c)
        | true =>
          have hsm := hen x hxm c3
          rw [hth] at b1 hsm
          refine k_X1_settlePlaces_51 (r2 := b1) oo (fun c => absurd c (by decide)) (fun _ => ?_)
          cases hv : x.2.2.1.2.2.2 with
          | none => rw [hv] at hsm; cases hsm
          | some v =>
            rw [hv] at d1
            obtain ⟨y, y1, y2, y3⟩ := d1
            have vw := hvw x hxm v hv
            have ry := (H.2.1.2.2.2 _ _ y1).1
            have dp : fdp y.2.2.2 ≤ 40 := by
              have := vw.1.2.1
              rw [← y3] at this
              have e2 : fdp (lvE y).2.2 = fdp y.2.2.2 := fer_dp _
              omega
            have sz : vsz v = 1 + fsz y.2.2.2 := by
              rw [← y3]; show 1 + fsz (lvE y).2.2 = _
              rw [show fsz (lvE y).2.2 = fsz y.2.2.2 from fer_sz _]
            have szb : vsz v ≤ 200001 := by have := vw.2.2; unfold vsz; omega
            refine k_X1_settlePlaces_59 oo ?_
            refine size_ok ry (by omega) ?_
            rw [← sz]
            by_cases c64 : 64 < vsz v
            · have tt1 : tl1 x = true := by unfold tl1; rw [c3, hc, hth, hv]; simp [c64]
              refine k_X1_settlePlaces_68 oo (fun _ => ?_) (fun c => absurd ((nI_ltI (by omega) (by omega)).mpr c64) c)
              refine k_X1_settlePlaces_77 oo ?_
              refine k_X1_settlePlaces_78 oo ?_
              refine cneed2_ok (b := false) (w := 4) H.1 (by omega) (by omega) (fun c => by cases c) (fun _ => stp ?_)
              rw [tlg_s, List.any_eq_true]
              exact ⟨x, hxm, tt1⟩
            · refine k_X1_settlePlaces_68 oo (fun c => absurd ((nI_ltI (by omega) (by omega)).mp c) c64) (fun _ => ?_)
              refine k_X1_settlePlaces_73 oo ?_
              refine k_X1_settlePlaces_78 oo ?_
              refine cneed2_ok (b := true) (w := 4) H.1 (by omega) (by omega) (fun _ => ?_) (fun c => by cases c)
              exact s82 (by unfold tl1; rw [hv]; simp [c64])
    · refine k_X1_settlePlaces_20 (r17 := a1) oo (fun _ => ?_) (fun c => absurd ((nI_eq (by omega) (by omega)).mp c) c3)
      exact s82 (by unfold tl1; simp [c3])
end
