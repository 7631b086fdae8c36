/-! instructions, whole -/
def rq (n : Nat) (r : Rz) : Rz := match r with
  | none => none
  | some (.ok s') => mst 0 0 (n, s'.2)
  | some (.error e) => mst e.1 e.2.1 (n, e.2.2.2)
theorem mset_q {env : Pc → Cn} {s : Ms} : mset env s = rq s.1 (msq env (s00 s)) := by
  unfold mset msq
  have e0 : ens (s00 s) = ens s := rfl
  rw [e0]
  by_cases c1 : tlg (ens s) = true
  · rw [if_pos c1, if_pos c1]; rfl
  · rw [if_neg c1, if_neg c1]
    by_cases c2 : mor (ens s) = 0
    · rw [if_pos c2, if_pos c2]; rfl
    · rw [if_neg c2, if_neg c2]
      unfold mask
      rw [e0]
      cases hf : (ens s).findIdx? fun e => e.1 == (4, 0, 0) with
      | some i =>
        simp only
        unfold msK
        rw [e0]
        cases hx : (ens s)[i]? with
        | none => rfl
        | some x =>
          simp only
          by_cases c3 : x.2.2.1.2.1.toInt + mor (ens s) ≤ 256
          · rw [if_pos c3, if_pos c3]
            unfold sEn
            rw [e0, hx]
            rfl
          · rw [if_neg c3, if_neg c3]; rfl
      | none =>
        simp only
        rw [if_neg (by simp), if_neg (by simp)]
        unfold msK
        generalize hes : ens s ++ [((4, 0, 0), env (4, 0, 0), env (4, 0, 0), false)] = es
        show (match es[(ens s).length]? with | none => none | some x => _) = rq s.1 (match es[(ens s).length]? with | none => none | some x => _)
        cases hx : es[(ens s).length]? with
        | none => rfl
        | some x =>
          simp only
          show (if x.2.2.1.2.1.toInt + mor es ≤ 256 then _ else _) = rq s.1 (if x.2.2.1.2.1.toInt + mor es ≤ 256 then _ else _)
          by_cases c3 : x.2.2.1.2.1.toInt + mor es ≤ 256
          · rw [if_pos c3, if_pos c3]
            unfold sEn
            show mst 0 0 (match es[(ens s).length]? with | some x => _ | none => _) = rq s.1 (mgo (match es[(ens s).length]? with | some x => _ | none => _))
            rw [hx]
            rfl
          · rw [if_neg c3, if_neg c3]; rfl
