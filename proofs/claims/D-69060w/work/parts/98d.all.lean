/-! the component's checker: a function -/
/-- instructions to which branches lead -/
def LDh (h : AH) (C : Nat) (u : Ux) : Prop := ∀ i, i < (ui u).length → h.EI 466 (C + 10) i = bI (leds u i)
theorem cone_ok {G : Gt} {d : Nat} {h : AH} {K : Outcome → AH → Prop} {C W T F i n : Nat} {m : Md} {u : Ux} {s : Sk} {tb : Tb} {x : Ix} {fell : Bool} (hs : CTb h C W T F m u) (hu : gU m u) (hu7 : u.1 ≤ 7) (gm : gM m) (hk : fell = true → SKh h C m s) (hk0 : fell = false → s = []) (ht : TBh h C n (lty u) tb) (hld : LDh h C u) (hn : n ≤ 1024) (hnu : n = (ui u).length) (hcs : (mcs m).length ≤ 2048) (hx : (ui u)[i]? = some x) (gx : gX m u x) (hat : h.I 1539 C = nI i) (hi : i < n) (hcm : ∀ j, j < i → (tat tb j).isSome) (hd : 12 ≤ d)
    (kk : EQ (match tat tb i with
      | none => .error 10
      | some l => eb (nee (!leds u i || s.isEmpty) 8) fun _ => eb (cOp m u (lty u) x.1 x.2.1 x.2.2.1 (s, l)) fun d => eb (if 1 < x.1 ∧ x.1 < 5 then cCome m (lty u) i x.2.1 d.2 tb else .ok tb) fun tb' => .ok (d, tb')) (fun r => ∀ h', Fq (FS otF) h h' → SKh h' C m r.1.1 → LSh h' C (lty u) r.1.2 → TBh h' C n (lty u) r.2 → K (.returned none) h') (CE K C W h)) : MW G d e_X13_one [.ref C, .int (bI fell)] h K := by
  refine st_X13_one fun X o hG hD _ => ?_
  subst hG; subst hD
  have hn40 := hu.n
  have hlt : (lty u).length = nlo u := lty_len u
  -- behind the height
  have body : ∀ h1, Fq (FS [1542]) h h1 → SKh h1 C m s → V X K 9 [.ref C, .int (bI fell), nov] [] h1 := fun h1 f1 sk1 => by
    have hs1 : CTb h1 C W T F m u := hs.fr f1.1 (FS.no rfl)
    have ht1 : TBh h1 C n (lty u) tb := ht.fr f1 rfl
    have hat1 : h1.I 1539 C = nI i := by rw [f1.1.I (FS.n rfl)]; exact hat
    have hld1 : h1.EI 466 (C + 10) i = bI (leds u i) := by rw [f1.1.EI (FS.n rfl)]; exact hld i (by omega)
    obtain ⟨⟨a1, a2, a3, a4, a5, a6⟩, ⟨b1, b2, b3, b4, b5, b6, b7⟩, c1, c2, c3, c4, c5, c6, c7, c8, c9⟩ := id hs1.1
    have hc1 := (ht1.2 i hi).1
    have ixi : IX (nI i) 1024 i := IX.mk (by omega) (by omega)
    have hh1 := sk1.1
    have hle := sk1.2.2.1
    refine k_X13_one_9 o ?_
    cases hta : tat tb i with
    | none =>
      rw [hta] at kk
      exact cneed_ok (b := false) hs1.1 (by omega) (EQ_e.mpr (CE.fq f1 (EQ_e.mp kk) rfl))
    | some l =>
      rw [hta] at kk
      have kk := EQ_eb.mp kk
      refine cneed_ok (b := true) hs1.1 (by omega) ?_
      have tr := (ht1.2 i hi).2 l hta
      have hll : l.length = nlo u := by rw [tr.2.2.1, lty_len]
      have key : ∀ b, (!leds u i || s.isEmpty) = b → V X K 52 [.ref C, .int (bI fell), nov] [.int (bI b), .ref C] h1 := fun b hb => by
        rw [hb] at kk
        refine k_X13_one_52 o ?_
        refine cneed_ok hs1.1 (by omega) (kk.mono (fun _ _ k2 => ?_) (fun w t => CE.fq f1 t rfl))
        show V X K 57 [.ref C, .int (bI fell), nov] [] h1
        refine k_X13_one_57 o ?_
        have f2 : Fq (FS [1543, 10000 + 419]) h1 (h1.sJ 1543 C (h1.EJ 499 (C + 3) i)) := (Fq.refl h1).sJ rfl
        have e2 : (h1.sJ 1543 C (h1.EJ 499 (C + 3) i)).J 1543 C = h1.EJ 499 (C + 3) i := by simp [n_sI, z_sI, tag_sI, I_sI, J_sI, R_sI, EI_sI, EJ_sI, ER_sI, n_sJ, z_sJ, tag_sJ, I_sJ, J_sJ, R_sJ, EI_sJ, EJ_sJ, ER_sJ, n_sR, z_sR, tag_sR, I_sR, J_sR, R_sR, EI_sR, EJ_sR, ER_sR, n_sEI, z_sEI, tag_sEI, I_sEI, J_sEI, R_sEI, EI_sEI, EJ_sEI, ER_sEI, n_sEJ, z_sEJ, tag_sEJ, I_sEJ, J_sEJ, R_sEJ, EI_sEJ, EJ_sEJ, ER_sEJ, n_sER, z_sER, tag_sER, I_sER, J_sER, R_sER, EI_sER, EJ_sER, ER_sER, n_nw, z_nw, tag_nw, I_nw, J_nw, R_nw, EI_nw, EJ_nw, ER_nw]
        generalize h1.sJ 1543 C (h1.EJ 499 (C + 3) i) = h2 at *
        have loop : ∀ k q hx', k + q = nlo u → Fq (FS [1543, 10000 + 419]) h1 hx' → hx'.J 1543 C = h1.EJ 499 (C + 3) i → (∀ z, z < q → hx'.EJ 419 (C + 7) z = h1.EJ 515 (C + 4) (40 * i + z)) → V X K 75 [.ref C, .int (bI fell), .int (nI q)] [] hx' := by
          intro k
          induction k with
          | zero =>
            intro q h3 hq f3 e3 o3
            have f13 : Fq (FS otF) h h3 := (f1.mono (FS.mono rfl)).trans (f3.mono (FS.mono rfl))
            have hs3 : CTb h3 C W T F m u := hs.fr f13.1 (FS.no rfl)
            have hl3 : LSh h3 C (lty u) l := ⟨by rw [e3]; exact tr.1, fun z og hz => by rw [o3 z (by have := get_lt hz; omega)]; exact tr.2.1 z og hz, tr.2.2⟩
            obtain ⟨s1, ⟨s2, s3⟩, ⟨s4, s5, s6, s7⟩, ⟨s8, s9, s10, s11, s12, s13, s14⟩, ⟨s15, s16, s17, s18, ⟨pre, post, y1, y2, y3⟩⟩⟩ := id hs3
            have v0 := s1.1.1
            obtain ⟨⟨g1, g2, g3, g4', g5, g6⟩, -, ⟨w1, w2, w3, w4, w5, w6, w7, w8, w9⟩, -⟩ := id s4
            have hat3 : h3.I 1539 C = nI i := by rw [f3.1.I (FS.n rfl)]; exact hat1
            have hcx : (mcs m)[pre.length + i]? = some x := by
              rw [y1, List.append_assoc, List.getElem?_append_right (by omega), Nat.add_sub_cancel_left, List.getElem?_append_left (get_lt hx)]; exact hx
            have hlt' := get_lt hcx
            obtain ⟨z1, z2, z3, z4⟩ := s6.2 _ x hcx
            have ixc : IX (nI pre.length + nI i) 2048 (pre.length + i) := by rw [nI_add]; exact IX.mk (by omega) (by omega)
            refine k_X13_one_75 o ?_
            refine clct_ok hs3 ?_
            refine k_X13_one_83 o (fun _ => ?_) (fun c => absurd ((nI_leI (by omega) (by omega)).mpr (by omega)) c)
            refine k_X13_one_110 o ?_
            rw [lN_32, lN_32]
            have sk3 := sk1.fr f3 rfl
            refine cdo_ok hs3 hu hu7 gm sk3 hl3 (ht1.fr f3 rfl) hn hnu gx hat3 hi (fun j hj => ?_) (by omega) (k2.mono (fun r _ z h' f' a b c => ?_) (fun w t => CE.fq f13 t rfl))
            · rcases Nat.lt_or_ge j i with q | q
              · exact hcm j q
              · rw [show j = i by omega, hta]; rfl
            · refine k_X13_one_165 o ?_
              exact z h' (f13.trans f') a b c
          | succ k ih =>
            intro q h3 hq f3 e3 o3
            have f13 : Fq (FS otF) h h3 := (f1.mono (FS.mono rfl)).trans (f3.mono (FS.mono rfl))
            have hs3 : CTb h3 C W T F m u := hs.fr f13.1 (FS.no rfl)
            obtain ⟨⟨a1, a2, a3, a4, a5, a6⟩, ⟨b1, b2, b3, b4, b5, b6, b7⟩, c1, c2, c3, c4, c5, c6, c7, c8, c9⟩ := id hs3.1
            have v1 := hs3.2.1.2
            have v2 := hs3.2.2.2.1.1
            have hat3 : h3.I 1539 C = nI i := by rw [f3.1.I (FS.n rfl)]; exact hat1
            have ixo : IX (nI 40 * nI i + nI q) 40960 (40 * i + q) := by rw [nI_mul, nI_add]; exact IX.mk (by omega) (by omega)
            have ixq : IX (nI q) 40 q := IX.mk (by omega) (by omega)
            have eor : h3.EJ 515 (C + 4) (40 * i + q) = h1.EJ 515 (C + 4) (40 * i + q) := f3.1.EJ (FS.n rfl) _
            have tt : 64 ≤ 419 ∧ 419 < 4096 ∧ 419 % 16 = 3 := by decide
            refine k_X13_one_75 o ?_
            refine clct_ok hs3 ?_
            refine k_X13_one_83 o (fun c => absurd ((nI_leI (by omega) (by omega)).mp c) (by omega)) (fun _ => ?_)
            refine k_X13_one_86 o ?_
            refine st_X14_get fun X' o' hG' hD' _ => ?_
            refine k_X14_get_0 o' ?_
            refine k_X13_one_103 (T1 := 419) o ?_
            rw [nI_add]
            refine ih (q + 1) (h3.sEJ 419 (C + 7) q (h1.EJ 515 (C + 4) (40 * i + q))) (by omega) (f3.sEJ rfl) (by simpa [n_sI, z_sI, tag_sI, I_sI, J_sI, R_sI, EI_sI, EJ_sI, ER_sI, n_sJ, z_sJ, tag_sJ, I_sJ, J_sJ, R_sJ, EI_sJ, EJ_sJ, ER_sJ, n_sR, z_sR, tag_sR, I_sR, J_sR, R_sR, EI_sR, EJ_sR, ER_sR, n_sEI, z_sEI, tag_sEI, I_sEI, J_sEI, R_sEI, EI_sEI, EJ_sEI, ER_sEI, n_sEJ, z_sEJ, tag_sEJ, I_sEJ, J_sEJ, R_sEJ, EI_sEJ, EJ_sEJ, ER_sEJ, n_sER, z_sER, tag_sER, I_sER, J_sER, R_sER, EI_sER, EJ_sER, ER_sER, n_nw, z_nw, tag_nw, I_nw, J_nw, R_nw, EI_nw, EJ_nw, ER_nw] using e3) fun z hz => ?_
            by_cases c : z = q
            · subst c; simp [n_sI, z_sI, tag_sI, I_sI, J_sI, R_sI, EI_sI, EJ_sI, ER_sI, n_sJ, z_sJ, tag_sJ, I_sJ, J_sJ, R_sJ, EI_sJ, EJ_sJ, ER_sJ, n_sR, z_sR, tag_sR, I_sR, J_sR, R_sR, EI_sR, EJ_sR, ER_sR, n_sEI, z_sEI, tag_sEI, I_sEI, J_sEI, R_sEI, EI_sEI, EJ_sEI, ER_sEI, n_sEJ, z_sEJ, tag_sEJ, I_sEJ, J_sEJ, R_sEJ, EI_sEJ, EJ_sEJ, ER_sEJ, n_sER, z_sER, tag_sER, I_sER, J_sER, R_sER, EI_sER, EJ_sER, ER_sER, n_nw, z_nw, tag_nw, I_nw, J_nw, R_nw, EI_nw, EJ_nw, ER_nw]
            · have := o3 z (by omega)
              simpa [n_sI, z_sI, tag_sI, I_sI, J_sI, R_sI, EI_sI, EJ_sI, ER_sI, n_sJ, z_sJ, tag_sJ, I_sJ, J_sJ, R_sJ, EI_sJ, EJ_sJ, ER_sJ, n_sR, z_sR, tag_sR, I_sR, J_sR, R_sR, EI_sR, EJ_sR, ER_sR, n_sEI, z_sEI, tag_sEI, I_sEI, J_sEI, R_sEI, EI_sEI, EJ_sEI, ER_sEI, n_sEJ, z_sEJ, tag_sEJ, I_sEJ, J_sEJ, R_sEJ, EI_sEJ, EJ_sEJ, ER_sEJ, n_sER, z_sER, tag_sER, I_sER, J_sER, R_sER, EI_sER, EJ_sER, ER_sER, n_nw, z_nw, tag_nw, I_nw, J_nw, R_nw, EI_nw, EJ_nw, ER_nw, c] using this
        exact loop (nlo u) 0 h2 (by omega) f2 e2 (fun z hz => by omega)
      show V X K 27 [.ref C, .int (bI fell), nov] [] h1
      cases hl2 : leds u i with
      | false =>
        rw [hl2] at hld1
        refine k_X13_one_27 o (fun _ => ?_) (fun c => absurd rfl c)
        refine k_X13_one_47 o ?_
        exact key true (by rw [hl2]; rfl)
      | true =>
        rw [hl2] at hld1
        refine k_X13_one_27 o (fun c => absurd (show bI true = 0 from c) (by decide)) (fun _ => ?_)
        refine k_X13_one_40 o (fun c => ?_) (fun c => ?_)
        · refine k_X13_one_51 o ?_
          refine key false ?_
          rw [hl2]
          cases s with
          | nil => exact absurd rfl c
          | cons _ _ => rfl
        · refine k_X13_one_47 o ?_
          refine key true ?_
          rw [hl2]
          cases s with
          | nil => rfl
          | cons y s1 =>
            have c : nI (s1.length + 1) = nI 0 := c
            have hle : s1.length + 1 ≤ 64 := hle
            exact absurd ((nI_eq (by omega) (by omega)).mp c) (by omega)
  cases fell with
  | true =>
    refine k_X13_one_0 o (fun _ => ?_) (fun c => absurd (show bI true = 0 from c) (by decide))
    exact body h (Fq.refl h) (hk rfl)
  | false =>
    have t0 := hs.1.1.1
    refine k_X13_one_0 o (fun c => absurd rfl c) (fun _ => ?_)
    refine k_X13_one_4 o ?_
    refine body _ ((Fq.refl h).sI rfl) ?_
    rw [hk0 rfl]
    exact ⟨by simp [n_sI, z_sI, tag_sI, I_sI, J_sI, R_sI, EI_sI, EJ_sI, ER_sI, n_sJ, z_sJ, tag_sJ, I_sJ, J_sJ, R_sJ, EI_sJ, EJ_sJ, ER_sJ, n_sR, z_sR, tag_sR, I_sR, J_sR, R_sR, EI_sR, EJ_sR, ER_sR, n_sEI, z_sEI, tag_sEI, I_sEI, J_sEI, R_sEI, EI_sEI, EJ_sEI, ER_sEI, n_sEJ, z_sEJ, tag_sEJ, I_sEJ, J_sEJ, R_sEJ, EI_sEJ, EJ_sEJ, ER_sEJ, n_sER, z_sER, tag_sER, I_sER, J_sER, R_sER, EI_sER, EJ_sER, ER_sER, n_nw, z_nw, tag_nw, I_nw, J_nw, R_nw, EI_nw, EJ_nw, ER_nw], trivial, by simp, fun x hx => by cases hx⟩
