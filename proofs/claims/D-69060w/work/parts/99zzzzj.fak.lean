/-! the ledger's face: coins -/
/-- all balances; all coins in resources -/
def sumA (st : Lw) : Int64 := st.foldl (fun s x => if x.1.1 = 1 then s + x.2.1.2.1 else s) 0
def sumR (st : Lw) : Int64 := st.foldl (fun s x => match x.2.1.2.2.2 with
  | some v => if x.1.1 = 3 then s + vcn v.1 v.2.1 v.2.2 else s
  | none => s) 0
def cnsF (a : Ab) (w : Nat) : Int64 := if w = 0 then a.2.1.1 else if w = 1 then a.2.1.2 else if w = 2 then sumA a.2.2.2.2.2.1.2.2.1 else if w = 3 then sumR a.2.2.2.2.2.1.2.2.1 else 0
section
variable {n B : Nat} {G : Gt} {cm : Md} {y : Ly} {lx : Lx} {a : Ab} {h h' : AH} {d : Nat} {K : Outcome → AH → Prop} {P : Nat → Nat → Prop}
theorem RCm.bn (r : RCm n G B cm y lx a h) : h.J 18 (yA y) = a.2.1.2 := r.1.1.choose_spec.choose_spec.choose_spec.choose_spec.choose_spec.choose_spec.choose_spec.2.2.2.2.2
theorem lcoins_ok {w : Int32} (r : RCm n G B cm y lx a h) (hd : 42 ≤ d) (kk : K (.returned (some (.long (cnsF a (um w))))) h) : MW G d e_X1_coins [.ref (yA y), .int w] h K := by
  refine st_X1_coins fun X o hG hD _ => ?_
  subst hG; subst hD
  have t0 := r.t0
  have bn := r.bn
  have mn := r.2.1.1
  obtain ⟨MA, l, oo, ms, ⟨rE, et⟩, vh, qk, so⟩ := r.st
  have tE := et.1.1.1.1
  have rR := et.1.1.1.2.1
  have tR := et.1.1.1.2.2
  have cE := et.1.2.1.1
  rw [List.length_map] at cE
  have n256 := qk.1.1.1.2
  have ev : ∀ k, k < 2147483648 → (w = nI k ↔ um w = k) := fun k hk => ⟨fun e => by rw [e, um_n (by omega)], fun e => by rw [← e, nI_um]⟩
  unfold cnsF at kk
  by_cases w0 : um w = 0
  · rw [if_pos w0] at kk
    refine k_X1_coins_0 o (fun q => absurd ((ev 0 (by omega)).mpr w0) q) (fun _ => ?_)
    exact k_X1_coins_4 (r2 := mn) o kk
  rw [if_neg w0] at kk
  refine k_X1_coins_0 o (fun _ => ?_) (fun q => absurd ((ev 0 (by omega)).mp q) w0)
  by_cases w1 : um w = 1
  · rw [if_pos w1] at kk
    refine k_X1_coins_9 o (fun q => absurd ((ev 1 (by omega)).mpr w1) q) (fun _ => ?_)
    exact k_X1_coins_14 (r2 := bn) o kk
  rw [if_neg w1] at kk
  refine k_X1_coins_9 o (fun _ => ?_) (fun q => absurd ((ev 1 (by omega)).mp q) w1)
  refine k_X1_coins_19 o ?_
  -- the sum so far
  have sA : ∀ j x, a.2.2.2.2.2.1.2.2.1[j]? = some x → sumA (a.2.2.2.2.2.1.2.2.1.take (j + 1)) = if x.1.1 = 1 then sumA (a.2.2.2.2.2.1.2.2.1.take j) + x.2.1.2.1 else sumA (a.2.2.2.2.2.1.2.2.1.take j) := fun j x hx => by
    unfold sumA
    rw [List.take_succ, hx, List.foldl_append]; rfl
  have sR : ∀ j x, a.2.2.2.2.2.1.2.2.1[j]? = some x → sumR (a.2.2.2.2.2.1.2.2.1.take (j + 1)) = match x.2.1.2.2.2 with
      | some v => if x.1.1 = 3 then sumR (a.2.2.2.2.2.1.2.2.1.take j) + vcn v.1 v.2.1 v.2.2 else sumR (a.2.2.2.2.2.1.2.2.1.take j)
      | none => sumR (a.2.2.2.2.2.1.2.2.1.take j) := fun j x hx => by
    unfold sumR
    rw [List.take_succ, hx, List.foldl_append]; rfl
  have loop : ∀ m j v5, m + j = a.2.2.2.2.2.1.2.2.1.length → V X K 24 [.ref (yA y), .int w, .long (if um w = 2 then sumA (a.2.2.2.2.2.1.2.2.1.take j) else if um w = 3 then sumR (a.2.2.2.2.2.1.2.2.1.take j) else 0), nov, .int (nI j), v5] [] h := by
    intro m
    induction m with
    | zero =>
      intro j v5 hj
      have ej : j = a.2.2.2.2.2.1.2.2.1.length := by omega
      refine k_X1_coins_24 (r5 := cE) o (fun _ => ?_) (fun q => absurd (by rw [ej]; exact Int32.le_refl _) q)
      rw [ej, List.take_length]
      exact k_X1_coins_101 o kk
    | succ m ih =>
      intro j v5 hj
      have jl : j < a.2.2.2.2.2.1.2.2.1.length := by omega
      obtain ⟨x, hx⟩ : ∃ x, a.2.2.2.2.2.1.2.2.1[j]? = some x := ⟨_, List.getElem?_eq_getElem jl⟩
      refine k_X1_coins_24 (r5 := cE) o (fun q => absurd ((nI_leI (by omega) (by omega)).mp q) (by omega)) (fun _ => ?_)
      obtain ⟨eR, tX⟩ := et.1.1.2 j (by omega)
      obtain ⟨⟨kx, -⟩, px⟩ := et.1.2.2 j x.1 (by rw [List.getElem?_map, hx]; rfl)
      obtain ⟨⟨y1, y2, y3⟩, -, yv⟩ := et.2.1 j x hx
      have x4 := (qk.1.1.1.1.2 x (List.mem_of_getElem? hx)).2
      have xt := (qk.1.1.1.1.2 x (List.mem_of_getElem? hx)).1.1
      have ix : IX (nI j) 256 j := IX.mk (by omega) (by omega)
      have sAj := sA j x hx
      have sRj := sR j x hx
      have back : ∀ s, s = (if um w = 2 then sumA (a.2.2.2.2.2.1.2.2.1.take (j + 1)) else if um w = 3 then sumR (a.2.2.2.2.2.1.2.2.1.take (j + 1)) else 0) → V X K 95 [.ref (yA y), .int w, .long s, nov, .int (nI j), .ref (yE y + 2 + j)] [] h := fun s hs => by
        refine k_X1_coins_95 o ?_
        rw [nI_add, hs]
        exact ih (j + 1) _ (by omega)
      by_cases w2 : um w = 2
      · have w3 : ¬ um w = 3 := by omega
        refine k_X1_coins_36 o (fun q => absurd ((ev 2 (by omega)).mpr w2) q) (fun _ => ?_)
        have out : ∀ s, V X K 95 [.ref (yA y), .int w, .long s, nov, .int (nI j), .ref (yE y + 2 + j)] [] h → V X K 70 [.ref (yA y), .int w, .long s, nov, .int (nI j), .ref (yE y + 2 + j)] [] h := fun s hs => k_X1_coins_70 o (fun _ => hs) (fun q => absurd ((ev 3 (by omega)).mp q) w3)
        rw [if_pos w2]
        by_cases k1 : x.1.1 = 1
        · refine k_X1_coins_53 (r2 := kx) o (fun q => absurd (by rw [k1]) q) (fun _ => ?_)
          refine k_X1_coins_62 (r2 := y2) o ?_
          refine out _ (back _ ?_)
          rw [if_pos w2, sAj, if_pos k1]
        · refine k_X1_coins_53 (r2 := kx) o (fun _ => ?_) (fun q => absurd ((nI_eq (b := 1) (by omega) (by omega)).mp q) k1)
          refine out _ (back _ ?_)
          rw [if_pos w2, sAj, if_neg k1]
      · refine k_X1_coins_36 o (fun _ => ?_) (fun q => absurd ((ev 2 (by omega)).mp q) w2)
        rw [if_neg w2]
        by_cases w3 : um w = 3
        · refine k_X1_coins_70 o (fun q => absurd ((ev 3 (by omega)).mpr w3) q) (fun _ => ?_)
          rw [if_pos w3]
          by_cases k3 : x.1.1 = 3
          · refine k_X1_coins_75 (r2 := kx) o (fun q => absurd (by rw [k3]) q) (fun _ => ?_)
            have ck := qk.1.1.2.1.1 x.1
            have evx : vsw a.2.2.2.2.2.1.2.2.1 x.1 = x.2.1 := by
              rw [vsw_3 (by omega)]
              unfold lfc
              rw [(lfd_i qk.1.1.1.1.1).mpr (List.mem_of_getElem? hx)]
              exact ctf xt
            rw [evx] at ck
            obtain ⟨-, -, ck3⟩ := ck
            obtain ⟨-, -, c4, c5⟩ := ck3 k3
            rw [xt] at c4
            obtain ⟨v, hv⟩ := Option.isSome_iff_exists.mp c4.symm
            rw [hv] at yv
            obtain ⟨z, z1, z2, z3⟩ := yv
            obtain ⟨rv, -⟩ := vh.2.2.2 _ z z1
            obtain ⟨g1, g2, g3⟩ := VT_ck qk.2.2 (c5 v hv).1
            have f40 := so.2.1 x (List.mem_of_getElem? hx) v hv
            subst z3
            refine k_X1_coins_84 (r2 := z2) o ?_
            refine coins_ok rv g1 g2 g3 (by have : fdp z.2.2.2 = fdp (lvE z).2.2 := (fer_dp _).symm; omega) ?_
            refine k_X1_coins_93 o ?_
            refine back _ ?_
            rw [if_neg w2, if_pos w3, sRj, hv]
            simp only
            rw [if_pos k3]
            rfl
          · refine k_X1_coins_75 (r2 := kx) o (fun _ => ?_) (fun q => absurd ((nI_eq (b := 3) (by omega) (by omega)).mp q) k3)
            refine back _ ?_
            rw [if_neg w2, if_pos w3, sRj]
            split
            · rw [if_neg k3]
            · rfl
        · refine k_X1_coins_70 o (fun _ => ?_) (fun q => absurd ((ev 3 (by omega)).mp q) w3)
          rw [if_neg w3]
          exact back _ (by rw [if_neg w2, if_neg w3])
  have := loop a.2.2.2.2.2.1.2.2.1.length 0 nov (by omega)
  have e0 : (if um w = 2 then sumA (a.2.2.2.2.2.1.2.2.1.take 0) else if um w = 3 then sumR (a.2.2.2.2.2.1.2.2.1.take 0) else 0) = 0 := by
    split
    · rfl
    · split <;> rfl
  rw [e0] at this
  exact this
end
