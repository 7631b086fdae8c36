/-! operations that ask for nothing leave the places -/
section
variable {s s' : Ms}
theorem plE_w {r : Rx} {v : VL} : plc (wrf s r v) = plc s := by
  unfold wrf
  split
  · unfold rst
    split
    · split
      · rename_i e he
        show (((ens s).set r.1.2 _).map fun x => x.1) = _
        rw [List.map_set]
        unfold plc
        refine List.ext_getElem? fun i => ?_
        by_cases c : i = r.1.2
        · subst c
          rw [List.getElem?_set_self (by rw [List.length_map]; exact get_lt he), List.getElem?_map, he]; rfl
        · rw [List.getElem?_set_ne (fun z => c z.symm)]
      · rfl
    · rfl
  · rfl
def plQ (s s2 : Ms) : Prop := plc s2 = plc s
theorem plQ.refl : plQ s s := rfl
theorem plQ.K {k : List It} (h : plQ s s') : plQ s (sK s' k) := h
theorem plQ.LK {lc : Nat → Option It} {k : List It} (h : plQ s s') : plQ s (sLK s' lc k) := h
theorem plQ.P {i : It} (h : plQ s s') : plQ s (mpu s' i) := h
theorem plQ.G {g : Nat} (h : plQ s s') : plQ s (sG s' g) := h
theorem plQ.W {r : Rx} {v : VL} (h : plQ s s') : plQ s (wrf s' r v) := plE_w.trans h
theorem plQ_con {snd : Int64} {o a b : Nat} : rzP (plQ s) (oCon snd o a b s) := rz_go (plQ.P plQ.refl)
theorem plQ_loc {lim o k : Nat} : rzP (plQ s) (oLoc lim o k s) := by
  unfold oLoc
  repeat' (first | exact trivial | refine rzP.re ?_ | refine rzP.pay (fun _ => plQ.refl.G) ?_ | refine rz_go ?_ | refine plQ.LK ?_ | refine plQ.P ?_ | exact plQ.refl | exact plQ.refl.G | split)
theorem plQ_ref {lim o k : Nat} : rzP (plQ s) (oRef lim o k s) := by
  unfold oRef
  repeat' (first | exact trivial | refine rzP.re ?_ | refine rzP.pay (fun _ => plQ.refl.G) ?_ | refine rz_go ?_ | refine plQ.W ?_ | refine plQ.K ?_ | refine plQ.P ?_ | exact plQ.refl | exact plQ.refl.G | split)
theorem plQ_pck {m : Md} {k : Nat} : rzP (plQ s) (oPck m k s) := by
  unfold oPck
  repeat' (first | exact trivial | refine rz_go ?_ | refine plQ.K ?_ | exact plQ.refl | split)
theorem plQ_unp {m : Md} {k : Nat} : rzP (plQ s) (oUnp m k s) := by
  unfold oUnp
  repeat' (first | exact trivial | refine rzP.re ?_ | refine rz_go ?_ | refine plQ.K ?_ | exact plQ.refl | split)
theorem plQ_num {lim o : Nat} : rzP (plQ s) (oNum lim o s) := by
  unfold oNum
  repeat' (first | exact trivial | refine rzP.re ?_ | refine rzP.nd plQ.refl ?_ | refine rzP.pay (fun _ => plQ.refl.G) ?_ | refine rz_st ?_ | refine rz_go ?_ | refine plQ.K ?_ | exact plQ.refl | exact plQ.refl.G | split)
theorem plQ_vec {lim o b : Nat} : rzP (plQ s) (oVec lim o b s) := by
  unfold oVec
  repeat' (first | exact trivial | refine rzP.re ?_ | refine rzP.nd plQ.refl ?_ | refine rzP.pay (fun _ => plQ.refl.G) ?_ | refine rz_st ?_ | refine rz_go ?_ | refine plQ.P ?_ | refine plQ.W ?_ | refine plQ.K ?_ | exact plQ.refl | exact plQ.refl.G | split)
end
