/-! the ledger's face: a resource is shown -/
def rscV (st : Lw) (ad : Int64) (mo sn : Nat) : Option VL := if mo < 65536 ∧ sn < 32 then (vsw st (3, ad, 256 * mo + sn)).2.2.2 else none
def rscL (a : Ab) (ad : Int64) (mo sn : Nat) : List Int32 := match rscV a.2.2.2.2.2.1.2.2.1 ad mo sn with
  | some v => vwB v
  | none => []
def rscI (a : Ab) (ad : Int64) (mo sn : Nat) : Int32 := match rscV a.2.2.2.2.2.1.2.2.1 ad mo sn with
  | some v => nI (vwB v).length
  | none => -2
def abS (a : Ab) (l : List Int32) : Ab := (a.1, a.2.1, a.2.2.1, a.2.2.2.1, a.2.2.2.2.1, a.2.2.2.2.2.1, l)
section
variable {n B : Nat} {G : Gt} {cm : Md} {y : Ly} {lx : Lx} {a : Ab} {h h' : AH} {d : Nat} {K : Outcome → AH → Prop} {P : Nat → Nat → Prop}
/-- values in the state -/
theorem QOK.val {s : Qs} {ms : List Nat} (q : QOK cm s ms) {x : Pc × Cn × Bool} (hx : x ∈ s.2.2.1) : vsw s.2.2.1 x.1 = x.2.1 ∧ (x.1.1 = 3 → ∃ v, x.2.1.2.2.2 = some v ∧ VT s.1 [6, x.1.2.2] v ∧ vsz v ≤ 64) ∧ (x.1.1 ≠ 3 → x.2.1.2.2.2 = none) := by
  have x4 := (q.1.1.1.1.2 x hx).2
  have xt := (q.1.1.1.1.2 x hx).1.1
  have ck := q.1.1.2.1.1 x.1
  have evx : vsw s.2.2.1 x.1 = x.2.1 := by
    rw [vsw_3 (by omega)]
    unfold lfc
    rw [(lfd_i q.1.1.1.1.1).mpr hx]
    exact ctf xt
  rw [evx] at ck
  obtain ⟨-, ck2, ck3⟩ := ck
  refine ⟨evx, fun k3 => ?_, ck2⟩
  obtain ⟨-, -, c4, c5⟩ := ck3 k3
  rw [xt] at c4
  obtain ⟨v, hv⟩ := Option.isSome_iff_exists.mp c4.symm
  exact ⟨v, hv, c5 v hv⟩
theorem VT_6 {W : Wd} {v : VL} {id : Nat} (h : VT W [6, id] v) : v.1 = 6 := h.1.1
theorem vwB_le {W : Wd} {v : VL} {id : Nat} (h : VT W [6, id] v) (hs : vsz v ≤ 64) : (vwB v).length ≤ 1008 := by
  have h1 := (hdB_len (k := v.1) (x := v.2.1) (n := fln v.2.2)).2 (VT_6 h)
  have h2 := fwB_len v.2.2
  have h3 : vsz v = 1 + fsz v.2.2 := rfl
  unfold vwB
  rw [List.length_append]
  omega
theorem RCm.shw {l : List Int32} (r : RCm n G B cm y lx a h) (q : Fq (FS shF) h h') (hl : l.length ≤ 1008) (s : SHW h' (yA y) lx.2.2.1 l) : RCm n G B cm y lx (abS a l) h' := by
  obtain ⟨⟨r1, ⟨r2, r3, r4⟩, r5⟩, ⟨r6, r7, ⟨wv, r8⟩, r9, r9'⟩, ⟨r10, r11⟩, ⟨r12, r13, r14, r15⟩, r16⟩ := r
  have q : Fq (FS shF) h h' := q
  refine ⟨⟨r1.fr q (nol (by decide)) (nov_l (by decide)) (Nat.le_refl _), ⟨by rw [q.1.I (nol (l := [5]) (by decide) _ _ rfl)]; exact r2, by rw [q.1.I (nol (l := [4]) (by decide) _ _ rfl)]; exact r3, r4⟩, r5⟩, ⟨by rw [q.1.J (nol (l := [17]) (by decide) _ _ rfl)]; exact r6, r7.fr q.1 (nol (by decide)), ⟨wv, r8.fr q.1 (nol (by decide))⟩, s, hl⟩, ⟨fun k k1 k2 => ?_, fun k k1 k2 => ?_⟩, ⟨by rw [q.1.R (nol (l := [13]) (by decide) _ _ rfl)]; exact r12, r13.fr q.1 (nol (by decide)), q.1.tag r14, r15.fr q.1 (nol (l := [14096]) (by decide) _ _ rfl)⟩, r16⟩
  · obtain ⟨x1, x2⟩ := r10 k k1 k2
    exact ⟨x1.fr q.1 (fun f hf a _ => nol (l := txF ++ resF) (by decide) f a hf), by rw [q.1.I (nol (l := [2701]) (by decide) _ _ rfl)]; exact x2⟩
  · rw [q.1.I (nol (l := [2701]) (by decide) _ _ rfl)]; exact r11 k k1 k2
theorem lrsc_ok {ad : Int64} {mo sn : Int32} (r : RCm n G B cm y lx a h) (hd : 44 ≤ d) (kk : ∀ h', RCm n G B cm y lx (abS a (rscL a ad (um mo) (um sn))) h' → Fq (FS shF) h h' → K (.returned (some (.int (rscI a ad (um mo) (um sn))))) h') : MW G d e_X1_resource_2 [.ref (yA y), .long ad, .int mo, .int sn] h K := by
  refine st_X1_resource_2 fun X o hG hD _ => ?_
  subst hG; subst hD
  have t0 := r.t0
  obtain ⟨-, ⟨-, -, -, ⟨⟨s1, s2⟩, s3, s4, s5⟩, -⟩, -⟩ := id r
  have q0 : Fq (FS shF) h (h.sI 22 (yA y) (nI 0)) := Fq.sI (Fq.refl h) (fsr rfl)
  have sw0 : SHW (h.sI 22 (yA y) (nI 0)) (yA y) lx.2.2.1 [] := ⟨⟨by rw [q0.1.R (FS.n rfl)]; exact s1, q0.1.tag s2⟩, by simp [n_sI, z_sI, tag_sI, I_sI, J_sI, R_sI, EI_sI, EJ_sI, ER_sI, n_sJ, z_sJ, tag_sJ, I_sJ, J_sJ, R_sJ, EI_sJ, EJ_sJ, ER_sJ, n_sR, z_sR, tag_sR, I_sR, J_sR, R_sR, EI_sR, EJ_sR, ER_sR, n_sEI, z_sEI, tag_sEI, I_sEI, J_sEI, R_sEI, EI_sEI, EJ_sEI, ER_sEI, n_sEJ, z_sEJ, tag_sEJ, I_sEJ, J_sEJ, R_sEJ, EI_sEJ, EJ_sEJ, ER_sEJ, n_sER, z_sER, tag_sER, I_sER, J_sER, R_sER, EI_sER, EJ_sER, ER_sER, n_nw, z_nw, tag_nw, I_nw, J_nw, R_nw, EI_nw, EJ_nw, ER_nw], Nat.zero_le _, fun i x hx => by simp at hx⟩
  have r0 := r.shw q0 (Nat.zero_le _) sw0
  have bad : rscV a.2.2.2.2.2.1.2.2.1 ad (um mo) (um sn) = none → K (.returned (some (.int (-2)))) (h.sI 22 (yA y) (nI 0)) := fun e => by
    have := kk _ (by unfold rscL; rw [e]; exact r0) q0
    unfold rscI at this
    rw [e] at this
    exact this
  have nul : ∀ v5, rscV a.2.2.2.2.2.1.2.2.1 ad (um mo) (um sn) = none → V X K 60 [.ref (yA y), .long ad, nov, .int mo, .int sn, v5, nov] [.null] (h.sI 22 (yA y) (nI 0)) := fun v5 e => by
    refine k_X1_resource_2_60 (s0 := none) o (fun _ => ?_) (fun a ca => by cases ca)
    exact k_X1_resource_2_67 o (bad e)
  have no : ¬ (um mo < 65536 ∧ um sn < 32) → V X K 32 [.ref (yA y), .long ad, nov, .int mo, .int sn, nov, nov] [] (h.sI 22 (yA y) (nI 0)) := fun q => by
    refine k_X1_resource_2_32 o ?_
    refine k_X1_resource_2_33 o (fun _ => ?_) (fun q => absurd rfl q)
    refine k_X1_resource_2_59 o ?_
    exact nul _ (if_neg q)
  by_cases m0 : mo < 0
  · exact k_X1_resource_2_0 o (fun _ => no (fun q => by have := um_neg.mp m0; omega)) (fun q => absurd m0 q)
  have m31 : um mo < 2147483648 := by have : ¬ _ := fun q => m0 (um_neg.mpr q); omega
  refine k_X1_resource_2_0 o (fun q => absurd q m0) (fun _ => ?_)
  have em : ∀ k, k < 2147483648 → (nI k ≤ mo ↔ k ≤ um mo) := fun k hk => by
    have := nI_leI (a := k) (b := um mo) (by omega) (by omega)
    rw [nI_um] at this; exact this
  have es : ∀ k, k < 2147483648 → um sn < 2147483648 → (nI k ≤ sn ↔ k ≤ um sn) := fun k hk h2 => by
    have := nI_leI (a := k) (b := um sn) (by omega) (by omega)
    rw [nI_um] at this; exact this
  refine k_X1_resource_2_9 o (fun q => no (fun z => by have := (em 65536 (by omega)).mp q; omega)) (fun qm => ?_)
  have m16 : um mo < 65536 := by have : ¬ _ := fun z => qm ((em 65536 (by omega)).mpr z); omega
  by_cases n0 : sn < 0
  · exact k_X1_resource_2_16 o (fun _ => no (fun q => by have := um_neg.mp n0; omega)) (fun q => absurd n0 q)
  have n31 : um sn < 2147483648 := by have : ¬ _ := fun q => n0 (um_neg.mpr q); omega
  refine k_X1_resource_2_16 o (fun q => absurd q n0) (fun _ => ?_)
  refine k_X1_resource_2_21 o (fun q => no (fun z => by have := (es 32 (by omega) n31).mp q; omega)) (fun qn => ?_)
  have n32 : um sn < 32 := by have : ¬ _ := fun z => qn ((es 32 (by omega) n31).mpr z); omega
  refine k_X1_resource_2_28 o ?_
  refine k_X1_resource_2_33 o (fun q => absurd q (by decide)) (fun _ => ?_)
  obtain ⟨MA, l, oo, ms, ⟨rE, et⟩, vh, qk, so⟩ := r0.st
  have qk : QOK cm a.2.2.2.2.2.1 ms := qk
  have et : EtR (h.sI 22 (yA y) (nI 0)) oo 0 0 (yE y) 256 MA a.2.2.2.2.2.1.2.2.1 := et
  have so : STO (h.sI 22 (yA y) (nI 0)) (yE y) a.2.2.2.2.2.1.2.2.1 := so
  have t00 := r0.t0
  generalize h.sI 22 (yA y) (nI 0) = h0 at q0 sw0 r0 bad nul rE et vh so t00
  have tE := et.1.1.1.1
  refine k_X1_resource_2_40 o ?_
  have eb : (mo <<< (nI 8 &&& 31)) ||| sn = nI (256 * um mo + um sn) := by
    have := nI_sh8 (v := um mo) (b := um sn) (by omega) (by omega)
    rw [nI_um, nI_um] at this
    exact this
  rw [eb]
  refine find_ok (q := (3, ad, 256 * um mo + um sn)) et.1 ⟨by show 3 < _; omega, by show 256 * um mo + um sn < _; omega⟩ (by omega) ?_
  rw [fidx_map]
  refine k_X1_resource_2_56 o ?_
  have k3 : (((3, ad, 256 * um mo + um sn) : Pc)).1 < 4 := by show 3 < 4; omega
  cases hf : a.2.2.2.2.2.1.2.2.1.findIdx? (fun x => x.1 == (3, ad, 256 * um mo + um sn)) with
  | none =>
    have e : rscV a.2.2.2.2.2.1.2.2.1 ad (um mo) (um sn) = none := by
      unfold rscV
      rw [if_pos ⟨m16, n32⟩, vsw_3 k3]
      unfold lfc
      rw [fidx_n hf]
    exact nul _ e
  | some e =>
    obtain ⟨z, z1, z2⟩ := fidx_s hf
    have zm := List.mem_of_getElem? z2
    obtain ⟨evx, hv3, -⟩ := qk.val zm
    obtain ⟨v, hv, vt, v64⟩ := hv3 rfl
    obtain ⟨-, -, yv⟩ := et.2.1 e _ z2
    have el := (List.getElem?_eq_some_iff.mp z2).1
    have te := (et.1.1.2 e (by have := qk.1.1.1.2; omega)).2
    have er : rscV a.2.2.2.2.2.1.2.2.1 ad (um mo) (um sn) = some v := by
      unfold rscV
      rw [if_pos ⟨m16, n32⟩]
      rw [evx]; exact hv
    rw [hv] at yv
    obtain ⟨w, w1, w2, w3⟩ := yv
    obtain ⟨rv, -⟩ := vh.2.2.2 _ w w1
    refine k_X1_resource_2_60 o (fun ca => by cases ca) (fun a' ca => ?_)
    rw [← Option.some.inj ca]
    refine k_X1_resource_2_70 (r2 := w2) o ?_
    have f40 := so.2.1 _ zm v hv
    have lnv := vt.ln qk.2.2.1
    subst w3
    have bdv := FT_bd qk.2.2.1 vt.2
    refine write_ok t00 sw0 rv ⟨by have := lnv.1; exact Nat.lt_of_lt_of_le this (by omega), by have : fln (fer w.2.2.2) = fln w.2.2.2 := fer_ln _; have := lnv.2; show fln w.2.2.2 < _; rw [← fer_ln]; exact Nat.lt_of_le_of_lt this (by omega)⟩ bdv (by have : fdp (fer w.2.2.2) = fdp w.2.2.2 := fer_dp _; have f40 : fdp (fer w.2.2.2) ≤ 40 := f40; omega) (by show 0 + (vwB (lvE w)).length ≤ 2048; have := vwB_le vt v64; omega) (fun h2 q2 s2 => ?_)
    have s2 : SHW h2 (yA y) lx.2.2.1 (vwB (lvE w)) := s2
    have t2 := q2.1.tag t00
    have s2s := s2.2.1
    refine k_X1_resource_2_79 (r2 := s2s) o ?_
    have := kk h2 (by unfold rscL; rw [er]; exact r.shw (q0.trans q2) (vwB_le vt v64) s2) (q0.trans q2)
    unfold rscI at this
    rw [er] at this
    exact this
end
