/-! operations leave where frames are; on to the next instruction -/
def pcE (s s2 : Ms) : Prop := s2.1 = s.1 ∧ ∀ j, (s2.2.1 j).1 = (s.2.1 j).1 ∧ (s2.2.1 j).2.1 = (s.2.1 j).2.1
section
variable {s s' : Ms}
theorem pcE.refl : pcE s s := ⟨rfl, fun _ => ⟨rfl, rfl⟩⟩
theorem pcE.fr {f : Fm} (h : pcE s s') (e1 : f.1 = (tpf s').1) (e2 : f.2.1 = (tpf s').2.1) : pcE s (sF s' f) := by
  refine ⟨h.1, fun j => ?_⟩
  show (uF s'.2.1 (s'.1 - 1) f j).1 = _ ∧ (uF s'.2.1 (s'.1 - 1) f j).2.1 = _
  unfold uF
  by_cases c : j = s'.1 - 1
  · rw [if_pos c, e1, e2, c]; exact h.2 _
  · rw [if_neg c]; exact h.2 j
theorem pcE.K {k : List It} (h : pcE s s') : pcE s (sK s' k) := h.fr rfl rfl
theorem pcE.LK {lc : Nat → Option It} {k : List It} (h : pcE s s') : pcE s (sLK s' lc k) := h.fr rfl rfl
theorem pcE.P {i : It} (h : pcE s s') : pcE s (mpu s' i) := h.fr rfl rfl
theorem pcE.G {g : Nat} (h : pcE s s') : pcE s (sG s' g) := h
theorem pcE.E {es : List En} (h : pcE s s') : pcE s (sE s' es) := h
theorem pcE.ee {e : Nat} {f : En → En} (h : pcE s s') : pcE s (sEn s' e f) := by
  unfold sEn
  split
  · exact h
  · exact h
theorem pcE.rsv {r : Nat × Nat} {v : VL} (h : pcE s s') : pcE s (rst s' r v) := by
  unfold rst
  split
  · split
    · exact h
    · exact h
  · rename_i j _
    refine ⟨h.1, fun i => ?_⟩
    show (uF s'.2.1 j _ i).1 = _ ∧ (uF s'.2.1 j _ i).2.1 = _
    unfold uF
    by_cases c : i = j
    · rw [if_pos c, c]; exact h.2 _
    · rw [if_neg c]; exact h.2 i
theorem pcE.W {r : Rx} {v : VL} (h : pcE s s') : pcE s (wrf s' r v) := by
  unfold wrf
  split
  · exact h.rsv
  · exact h
theorem pcE.A {es : List En} {n g : Nat} (h : pcE s s') : pcE s (s'.1, s'.2.1, es, n, g) := h
theorem rzP.msk {P : Ms → Prop} {env : Pc → Cn} {c : Bool} {p : Pc} {k : Nat → Ms → Rz} (h1 : P s) (h2 : ∀ i, rzP P (k i s)) (h3 : ∀ i es n, rzP P (k i (s.1, s.2.1, es, n, gas s))) : rzP P (mask env c p s k) := by
  unfold mask
  split
  · exact h2 _
  · split
    · exact h1
    · exact h3 _ _ _
theorem rz_go {P : Ms → Prop} (h : P s) : rzP P (mgo s) := h
theorem rz_st {P : Ms → Prop} {o : Nat} {c : Int64} (h : P s) : rzP P (mst o c s) := h
theorem pcE_con {snd : Int64} {o a b : Nat} : rzP (pcE s) (oCon snd o a b s) := rz_go (pcE.P pcE.refl)
theorem pcE_loc {lim o k : Nat} : rzP (pcE s) (oLoc lim o k s) := by
  unfold oLoc
  repeat' (first | exact trivial | refine rzP.re ?_ | refine rzP.pay (fun _ => pcE.refl.G) ?_ | refine rz_go ?_ | refine pcE.LK ?_ | refine pcE.P ?_ | exact pcE.refl | split)
theorem pcE_ref {lim o k : Nat} : rzP (pcE s) (oRef lim o k s) := by
  unfold oRef
  repeat' (first | exact trivial | refine rzP.re ?_ | refine rzP.pay (fun _ => pcE.refl.G) ?_ | refine rz_go ?_ | refine pcE.W ?_ | refine pcE.K ?_ | refine pcE.P ?_ | exact pcE.refl | split)
theorem pcE_pck {m : Md} {k : Nat} : rzP (pcE s) (oPck m k s) := by
  unfold oPck
  repeat' (first | exact trivial | refine rz_go ?_ | refine pcE.K ?_ | exact pcE.refl | split)
theorem pcE_unp {m : Md} {k : Nat} : rzP (pcE s) (oUnp m k s) := by
  unfold oUnp
  repeat' (first | exact trivial | refine rzP.re ?_ | refine rz_go ?_ | refine pcE.K ?_ | exact pcE.refl | split)
theorem pcE_num {lim o : Nat} : rzP (pcE s) (oNum lim o s) := by
  unfold oNum
  repeat' (first | exact trivial | refine rzP.re ?_ | refine rzP.nd pcE.refl ?_ | refine rzP.pay (fun _ => pcE.refl.G) ?_ | refine rz_st ?_ | refine rz_go ?_ | refine pcE.K ?_ | exact pcE.refl | split)
theorem pcE_vec {lim o b : Nat} : rzP (pcE s) (oVec lim o b s) := by
  unfold oVec
  repeat' (first | exact trivial | refine rzP.re ?_ | refine rzP.nd pcE.refl ?_ | refine rzP.pay (fun _ => pcE.refl.G) ?_ | refine rz_st ?_ | refine rz_go ?_ | refine pcE.P ?_ | refine pcE.W ?_ | refine pcE.K ?_ | exact pcE.refl | split)
theorem pcE_rsK {lim o e : Nat} {v : VL} {t : List It} (h : pcE s s') : rzP (pcE s) (rsK lim o e v t s') := by
  unfold rsK
  repeat' (first | exact trivial | refine rzP.re ?_ | refine rzP.nd h ?_ | refine rzP.pay (fun _ => h.G) ?_ | refine rz_go ?_ | refine pcE.ee ?_ | refine pcE.K ?_ | exact h | split)
theorem pcE_res {snd : Int64} {env : Pc → Cn} {lim o k : Nat} {m : Md} : rzP (pcE s) (oRes snd env lim o m k s) := by
  cases hs : stk s with
  | nil => unfold oRes; rw [hs]; trivial
  | cons i t =>
    cases i with
    | inr r => unfold oRes; rw [hs]; trivial
    | inl v =>
      rw [oRes_k hs]
      exact rzP.re (rzP.msk pcE.refl (fun i => pcE_rsK pcE.refl) (fun i es n => pcE_rsK (show pcE s (s.1, s.2.1, es, n, gas s) from pcE.refl)))
theorem pcE_coi {snd : Int64} {env : Pc → Cn} {lim n : Nat} : rzP (pcE s) (oCoi snd env lim n s) := by
  unfold oCoi
  repeat' (first | exact trivial | refine rzP.re ?_ | refine rzP.msk pcE.refl (fun i => ?_) (fun i es n => ?_) | refine rzP.pay (fun _ => pcE.refl.G) ?_ | refine rzP.pay (fun _ => ⟨rfl, fun _ => ⟨rfl, rfl⟩⟩) ?_ | refine rz_st ?_ | refine rz_go ?_ | refine pcE.ee ?_ | refine pcE.K ?_ | exact pcE.refl | split)
theorem pcE_mop {snd : Int64} {env : Pc → Cn} {lim : Nat} {m : Md} {x : Ix} : rzP (pcE s) (mop snd env lim m x s) := by
  unfold mop
  split
  · split
    · exact rz_go (pcE.K pcE.refl)
    · trivial
  · repeat' (first | exact pcE_con | exact pcE_loc | exact pcE_ref | exact pcE_pck | exact pcE_unp | exact pcE_num | exact pcE_res | exact pcE_vec | split)
end
section
variable {G : Gt} {B d : Nat} {h : AH} {l : List Nat} {o : Lc} {wi W A q BA X tt lim SP t : Nat} {snd : Int64} {MA : Ma} {s : Ms} {K : Outcome → AH → Prop}
theorem WkR.nx {m : Md} {u : Ux} {i : Nat} (w : WkR h o wi W MA s) : WkR h o wi W MA (nx m u i s) := by
  refine w.fgt (j := s.1 - 1) (p := i) (lc := fgl (lnt m u i) (lcs s)) fun k => ?_
  unfold fgl
  cases hq : lcs s k with
  | none => left; exact hq.symm
  | some it =>
    cases it with
    | inl v => left; exact hq.symm
    | inr r =>
      by_cases cl : (lgt (lnt m u i) k).isSome = true
      · left; simp only [cl]; exact hq.symm
      · right; exact ⟨by simp only [cl]; rfl, r, hq⟩
theorem nx_at {m : Md} {u : Ux} {i j : Nat} (hj : j < s.1) : ((nx m u i s).2.1 j).2.1 = if j + 1 = s.1 then i else (s.2.1 j).2.1 := by
  show (uF s.2.1 (s.1 - 1) _ j).2.1 = _
  unfold uF
  by_cases c : j = s.1 - 1
  · rw [if_pos c, if_pos (by omega)]
  · rw [if_neg c, if_neg (by omega)]
/-- an operation, and on -/
theorem RZI.op {r : Rz} {m : Md} {u : Ux} {n : Nat} {sc : Pc → Option (Int32 × Int32)} (hpc : rzP (pcE s) r) (hat : ∀ j, j + 1 < s.1 → MA.2.2.1 j = (s.2.1 j).2.1) (hat2 : MA.2.2.1 (s.1 - 1) = (tpf s).2.1 + 1) (kk : RZI K G B h A W q BA X tt snd lim SP wi MA o n sc (rb r fun s => mgo (nx m u ((tpf s).2.1 + 1) s))) : RZM K G B h A W q BA X tt snd lim SP wi MA o n sc r := by
  cases r with
  | none => trivial
  | some e =>
    cases e with
    | error e => exact fun h' l' o' MA' u H mx e1 e2 => kk h' l' o' MA' u H.ipr mx e1 e2
    | ok s' =>
      have hp : pcE s s' := hpc
      intro h' l' o' MA' u' H mx m3
      refine kk h' l' o' MA' u' ⟨H.1, H.2.1, H.2.2.1.nx, H.2.2.2.2.1, H.2.2.2.2.2⟩ mx (fun j hj => ?_)
      have hj : j < s'.1 := hj
      rw [nx_at hj, m3]
      have e1 := hp.1
      by_cases c : j + 1 = s'.1
      · rw [if_pos c]
        show _ = (s'.2.1 (s'.1 - 1)).2.1 + 1
        rw [(hp.2 _).2, show j = s.1 - 1 by omega, hat2, show s'.1 - 1 = s.1 - 1 by omega]; rfl
      · rw [if_neg c, (hp.2 _).2]
        exact hat j (by omega)
end
