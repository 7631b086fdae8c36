/-! the component's checker: all instructions -/
theorem eb_as {α β γ : Type} (r : Except Nat α) (f : α → Except Nat β) (g : β → Except Nat γ) : eb (eb r f) g = eb r fun a => eb (f a) g := by cases r <;> rfl
/-- one instruction, but for going on behind it -/
def cOne (m : Md) (u : Ux) (lt : List Ty) (i : Nat) (x : Ix) (s : Sk) (tb : Tb) : Except Nat (Cs × Tb) := match tat tb i with
  | none => .error 10
  | some l => eb (nee (!leds u i || s.isEmpty) 8) fun _ => eb (cOp m u lt x.1 x.2.1 x.2.2.1 (s, l)) fun d => eb (if 1 < x.1 ∧ x.1 < 5 then cCome m lt i x.2.1 d.2 tb else .ok tb) fun tb' => .ok (d, tb')
theorem cLook_one (m : Md) (u : Ux) (lt : List Ty) (i : Nat) (x : Ix) (s : Sk) (tb : Tb) : cLook m u lt i x (s, tb) = eb (cOne m u lt i x s tb) fun r => if x.1 = 1 ∨ x.1 = 2 ∨ x.1 = 45 then .ok ([], r.2) else eb (nee (decide (i + 1 < (ui u).length)) 11) fun _ => eb (cCome m lt i (i + 1) r.1.2 r.2) fun tb => .ok (r.1.1, tb) := by
  unfold cLook cOne
  cases h : tat tb i with
  | none => simp only [h]; rfl
  | some l => simp only [h]; rw [eb_as]; congr 1; funext _; rw [eb_as]; congr 1; funext d; rw [eb_as]; rfl
theorem cCome_len {m : Md} {lt : List Ty} {i j : Nat} {l : Ls} {tb tb' : Tb} (h : cCome m lt i j l tb = .ok tb') : tb'.length = tb.length ∧ ∀ q, (tat tb q).isSome = true → (tat tb' q).isSome = true := by
  have st : ∀ v, (tb.set j (some v)).length = tb.length ∧ ∀ q, (tat tb q).isSome = true → (tat (tb.set j (some v)) q).isSome = true := fun v => by
    refine ⟨by simp, fun q hq => ?_⟩
    by_cases c : j < tb.length
    · rw [tat_set c]
      by_cases c2 : q = j
      · rw [if_pos c2]; rfl
      · rw [if_neg c2]; exact hq
    · rw [List.set_eq_of_length_le (by omega)]; exact hq
  unfold cCome at h
  split at h
  · obtain ⟨_, _, h⟩ := eb_ok h
    cases h
    exact ⟨rfl, fun q hq => hq⟩
  · split at h
    · obtain ⟨r, _, h⟩ := eb_ok h
      cases h
      exact st r
    · cases h
      exact st l
theorem cOne_len {m : Md} {u : Ux} {lt : List Ty} {i : Nat} {x : Ix} {s : Sk} {tb : Tb} {r : Cs × Tb} (h : cOne m u lt i x s tb = .ok r) : r.2.length = tb.length ∧ (∀ q, (tat tb q).isSome = true → (tat r.2 q).isSome = true) ∧ (tat tb i).isSome = true := by
  unfold cOne at h
  cases ht : tat tb i with
  | none => rw [ht] at h; cases h
  | some l =>
    rw [ht] at h
    obtain ⟨_, _, h⟩ := eb_ok h
    obtain ⟨d, _, h⟩ := eb_ok h
    obtain ⟨tb', h2, h⟩ := eb_ok h
    cases h
    split at h2
    · have := cCome_len h2
      exact ⟨this.1, this.2, rfl⟩
    · cases h2
      exact ⟨rfl, fun q hq => hq, rfl⟩
def alF : List Nat := ckF ++ [1539]
/-- the end of a look: nothing wrong, or what and where -/
def CA (K : Outcome → AH → Prop) (C W : Nat) (h : AH) (r : Except (Nat × Nat) (Sk × Tb)) : Prop := match r with
  | .ok _ => ∀ h', Fq (FS alF) h h' → K (.returned none) h'
  | .error e => ∀ h', Fq (FS alF) h h' → h'.I 1551 C = nI e.1 → h'.I 1539 C = nI e.2 → K (.threw W) h'
theorem call_ok {G : Gt} {d : Nat} {h : AH} {K : Outcome → AH → Prop} {C W T F n : Nat} {m : Md} {u : Ux} (hs : CTb h C W T F m u) (hu : gU m u) (hu7 : u.1 ≤ 7) (gm : gM m) (hk : SKh h C m []) (ht : TBh h C n (lty u) (tb0 u)) (hld : LDh h C u) (hn : n ≤ 1024) (hnu : n = (ui u).length) (hcs : (mcs m).length ≤ 2048) (gx : ∀ x ∈ ui u, gX m u x) (hd : 13 ≤ d)
    (kk : CA K C W h (chk m u)) : MW G d e_X13_all [.ref C] h K := by
  refine st_X13_all fun X o hG hD _ => ?_
  subst hG; subst hD
  have loop : ∀ rest i (fell : Bool) s tb h1 v2, (ui u).drop i = rest → i ≤ n → Fq (FS alF) h h1 → h1.I 1539 C = nI i → (fell = true → SKh h1 C m s) → (fell = false → s = []) → TBh h1 C n (lty u) tb → (∀ j, j < i → (tat tb j).isSome = true) → CA K C W h (cAll m u (lty u) rest i (s, tb)) → V X K 7 [.ref C, .int (bI fell), v2] [] h1 := by
    intro rest
    induction rest with
    | nil =>
      intro i fell s tb h1 v2 hr hi f1 at1 hk1 hk0 ht1 hc1 k1
      have hs1 : CTb h1 C W T F m u := hs.fr f1.1 (FS.no rfl)
      have w0 := hs1.1.1.1
      have w1 := hs1.2.1.2
      have w2 := hs1.2.2.2.1.1
      have w3 : h1.I 901 F = nI n := by obtain ⟨a, b, z1, z2, z3⟩ := hs1.2.2.2.2.2.2.2.2; rw [z3, hnu]
      have hr := List.drop_eq_nil_iff.mp hr
      refine k_X13_all_7 o (fun _ => ?_) (fun c => ?_)
      rotate_left
      · exact absurd ((nI_leI (by omega) (by omega)).mpr (by omega)) c
      refine k_X13_all_129 o ?_
      exact k1 h1 f1
    | cons x rest ih =>
      intro i fell s tb h1 v2 hr hi f1 at1 hk1 hk0 ht1 hc1 k1
      have hs1 : CTb h1 C W T F m u := hs.fr f1.1 (FS.no rfl)
      have w0 := hs1.1.1.1
      have w1 := hs1.2.1.2
      have w2 := hs1.2.2.2.1.1
      have w3 : h1.I 901 F = nI n := by obtain ⟨a, b, z1, z2, z3⟩ := hs1.2.2.2.2.2.2.2.2; rw [z3, hnu]
      have ld1 : LDh h1 C u := fun q hq => by rw [f1.1.EI (FS.n rfl)]; exact hld q hq
      have hil : i < (ui u).length := by
        rcases Nat.lt_or_ge i (ui u).length with z | z
        · exact z
        · rw [List.drop_eq_nil_iff.mpr z] at hr; cases hr
      have hxi : (ui u)[i]? = some x := by
        have : ((ui u).drop i)[0]? = some x := by rw [hr]; rfl
        rw [List.getElem?_drop, Nat.add_zero] at this; exact this
      have hr2 : (ui u).drop (i + 1) = rest := by rw [← List.drop_drop, hr]; rfl
      have hgx := gx x (List.mem_of_getElem? hxi)
      have h60 := hgx.2.1
      have er : ∀ w, cLook m u (lty u) i x (s, tb) = .error w → ∀ h', Fq (FS ckF) h1 h' → h'.I 1551 C = nI w → K (.threw W) h' := fun w ew h' f' e => by
        have k1 : CA K C W h (match cLook m u (lty u) i x (s, tb) with | .error w => .error (w, i) | .ok c' => cAll m u (lty u) rest (i + 1) c') := k1
        rw [ew] at k1
        exact k1 h' (f1.trans (f'.mono (FS.mono rfl))) e (by rw [f'.1.I (FS.n rfl)]; exact at1)
      have okk : ∀ c', cLook m u (lty u) i x (s, tb) = .ok c' → CA K C W h (cAll m u (lty u) rest (i + 1) c') := fun c' ec => by
        have k1 : CA K C W h (match cLook m u (lty u) i x (s, tb) with | .error w => .error (w, i) | .ok c' => cAll m u (lty u) rest (i + 1) c') := k1
        rw [ec] at k1
        exact k1
      rw [cLook_one] at er okk
      refine k_X13_all_7 o (fun c => ?_) (fun _ => ?_)
      · exact absurd ((nI_leI (by omega) (by omega)).mp c) (by omega)
      refine k_X13_all_21 o ?_
      refine cone_ok hs1 hu hu7 gm hk1 hk0 ht1 ld1 hn hnu hcs hxi hgx at1 (by omega) hc1 (by omega) ?_
      show EQ (cOne m u (lty u) i x s tb) _ _
      cases ho : cOne m u (lty u) i x s tb with
      | error w =>
        rw [ho] at er
        exact fun h' f' e => er w rfl h' f' e
      | ok r =>
        rw [ho] at er okk
        have er : ∀ w, (if x.1 = 1 ∨ x.1 = 2 ∨ x.1 = 45 then .ok ([], r.2) else eb (nee (decide (i + 1 < (ui u).length)) 11) fun _ => eb (cCome m (lty u) i (i + 1) r.1.2 r.2) fun tb => .ok (r.1.1, tb) : Except Nat (Sk × Tb)) = .error w → ∀ h', Fq (FS ckF) h1 h' → h'.I 1551 C = nI w → K (.threw W) h' := er
        have okk : ∀ c', (if x.1 = 1 ∨ x.1 = 2 ∨ x.1 = 45 then .ok ([], r.2) else eb (nee (decide (i + 1 < (ui u).length)) 11) fun _ => eb (cCome m (lty u) i (i + 1) r.1.2 r.2) fun tb => .ok (r.1.1, tb) : Except Nat (Sk × Tb)) = .ok c' → CA K C W h (cAll m u (lty u) rest (i + 1) c') := okk
        obtain ⟨ol, om, oi⟩ := cOne_len ho
        intro h2 f2 sk2 l2 t2
        have F2 : Fq (FS alF) h h2 := f1.trans (f2.mono (FS.mono rfl))
        have at2 : h2.I 1539 C = nI i := by rw [f2.1.I (FS.n rfl)]; exact at1
        have hs2 : CTb h2 C W T F m u := hs.fr F2.1 (FS.no rfl)
        obtain ⟨s1, ⟨s2, s3⟩, ⟨s4, s5, s6, s7⟩, ⟨s8, s9, s10, s11, s12, s13, s14⟩, ⟨s15, s16, s17, s18, ⟨pre, post, y1, y2, y3⟩⟩⟩ := id hs2
        have v0 := s1.1.1
        have v3 : h2.I 901 F = nI n := by rw [y3, hnu]
        obtain ⟨⟨g1, g2, g3, g4', g5, g6⟩, -, ⟨q1, q2, q3, q4, q5, q6, q7, q8, q9⟩, -⟩ := id s4
        have hcx : (mcs m)[pre.length + i]? = some x := by
          rw [y1, List.append_assoc, List.getElem?_append_right (by omega), Nat.add_sub_cancel_left, List.getElem?_append_left hil]; exact hxi
        have hlt' := get_lt hcx
        obtain ⟨z1, z2, z3, z4⟩ := s6.2 _ x hcx
        have ixc : IX (nI pre.length + nI i) 2048 (pre.length + i) := by rw [nI_add]; exact IX.mk (by omega) (by omega)
        have hcm2 : ∀ j, j < i + 1 → (tat r.2 j).isSome = true := fun j hj => by
          rcases Nat.lt_or_ge j i with z | z
          · exact om j (hc1 j z)
          · rw [show j = i by omega]; exact om i oi
        -- on to the next one
        have nxt : ∀ (fell : Bool) s' tb' h3 v2, Fq (FS alF) h h3 → h3.I 1539 C = nI i → (fell = true → SKh h3 C m s') → (fell = false → s' = []) → TBh h3 C n (lty u) tb' → (∀ j, j < i + 1 → (tat tb' j).isSome = true) → CA K C W h (cAll m u (lty u) rest (i + 1) (s', tb')) → V X K 116 [.ref C, .int (bI fell), v2] [] h3 := fun fell s' tb' h3 v2 f3 at3 hk3 hk30 ht3 hc3 k3 => by
          have u0 := f3.1.tag hs.1.1.1
          refine k_X13_all_116 o ?_
          rw [nI_add]
          have f4 : Fq (FS [1539]) h3 (h3.sI 1539 C (nI (i + 1))) := (Fq.refl h3).sI rfl
          refine ih (i + 1) fell s' tb' (h3.sI 1539 C (nI (i + 1))) v2 hr2 (by omega) (f3.sI rfl) (I_same ..) (fun z => (hk3 z).fr f4 rfl) hk30 (ht3.fr f4 rfl) hc3 k3
        show V X K 26 [.ref C, .int (bI fell), v2] [] h2
        have stop : x.1 = 1 ∨ x.1 = 2 ∨ x.1 = 45 → ∀ v1, V X K 70 [.ref C, v1, .int (nI x.1)] [] h2 := fun hx1 v1 => by
          rw [if_pos hx1] at okk
          refine k_X13_all_70 o ?_
          refine k_X13_all_71 o (fun c => absurd rfl c) (fun _ => ?_)
          refine k_X13_all_76 o ?_
          exact nxt false [] r.2 h2 _ F2 at2 (fun z => by cases z) (fun _ => rfl) t2 hcm2 (okk _ rfl)
        refine k_X13_all_26 o (fun c => ?_) (fun c1 => ?_)
        · exact stop (Or.inl ((nI_eq (by omega) (by omega)).mp c)) _
        have c1 : ¬ x.1 = 1 := fun z => c1 (by rw [z])
        refine k_X13_all_55 o (fun c => ?_) (fun c2 => ?_)
        · exact stop (Or.inr (Or.inl ((nI_eq (by omega) (by omega)).mp c))) _
        have c2 : ¬ x.1 = 2 := fun z => c2 (by rw [z])
        refine k_X13_all_60 o (fun c => ?_) (fun c3 => ?_)
        · exact stop (Or.inr (Or.inr ((nI_eq (by omega) (by omega)).mp c))) _
        have c3 : ¬ x.1 = 45 := fun z => c3 (by rw [z])
        rw [if_neg (show ¬ (x.1 = 1 ∨ x.1 = 2 ∨ x.1 = 45) by omega)] at er okk
        refine k_X13_all_66 o ?_
        refine k_X13_all_71 o (fun _ => ?_) (fun c => absurd (show nI 1 = 0 from c) (by decide))
        have key : ∀ b, decide (i + 1 < (ui u).length) = b → V X K 101 [.ref C, .int (nI 1), .int (nI x.1)] [.int (bI b), .ref C] h2 := fun b hb => by
          rw [hb] at er okk
          refine k_X13_all_101 o ?_
          cases b with
          | false => exact cneed_ok (b := false) hs2.1 (by omega) (EQ_e.mpr fun h' f' e => er 11 rfl h' ((f2.mono (FS.mono rfl)).trans f') e)
          | true =>
            have hlt2 : i + 1 < (ui u).length := of_decide_eq_true hb
            refine cneed_ok (b := true) hs2.1 (by omega) ?_
            show V X K 106 [.ref C, .int (nI 1), .int (nI x.1)] [] h2
            refine k_X13_all_106 o ?_
            rw [nI_add]
            refine ccom_ok hs2 hu gm.1 l2 t2 hn (by omega) at2 (by omega) (fun z => by omega) (by omega) ?_
            have er : ∀ w, (eb (cCome m (lty u) i (i + 1) r.1.2 r.2) fun tb => .ok (r.1.1, tb) : Except Nat (Sk × Tb)) = .error w → ∀ h', Fq (FS ckF) h1 h' → h'.I 1551 C = nI w → K (.threw W) h' := er
            have okk : ∀ c', (eb (cCome m (lty u) i (i + 1) r.1.2 r.2) fun tb => .ok (r.1.1, tb) : Except Nat (Sk × Tb)) = .ok c' → CA K C W h (cAll m u (lty u) rest (i + 1) c') := okk
            cases hcc : cCome m (lty u) i (i + 1) r.1.2 r.2 with
            | error w =>
              rw [hcc] at er
              exact fun h' f' e => er w rfl h' ((f2.mono (FS.mono rfl)).trans f') e
            | ok tb' =>
              rw [hcc] at okk
              obtain ⟨cl, cm⟩ := cCome_len hcc
              intro h3 f3 t3
              exact nxt true r.1.1 tb' h3 _ (F2.trans (f3.mono (FS.mono rfl))) (by rw [f3.1.I (FS.n rfl)]; exact at2) (fun _ => sk2.fr f3 rfl) (fun z => by cases z) t3 (fun j hj => cm j (hcm2 j hj)) (okk _ rfl)
        refine k_X13_all_79 o (fun c => ?_) (fun c => ?_)
        · rw [nI_add] at c
          have c := (nI_leI (by omega) (by omega)).mp c
          refine k_X13_all_100 o ?_
          exact key false (decide_eq_false (by omega))
        · rw [nI_add] at c
          have c : i + 1 < n := Nat.not_le.mp fun z => c ((nI_leI (by omega) (by omega)).mpr z)
          refine k_X13_all_96 o ?_
          exact key true (decide_eq_true (by omega))
  have t0 := hs.1.1.1
  refine k_X13_all_0 o ?_
  have f1 : Fq (FS [1539]) h (h.sI 1539 C (nI 0)) := (Fq.refl h).sI rfl
  refine loop (ui u) 0 true [] (tb0 u) (h.sI 1539 C (nI 0)) _ rfl (by omega) (f1.mono (FS.mono rfl)) (I_same ..) (fun _ => hk.fr f1 rfl) (fun z => by cases z) (ht.fr f1 rfl) (fun j hj => by omega) kk
def ccF : List Nat := alF ++ [1537, 1538, 10000 + 466]
theorem ccheck_ok {G : Gt} {d : Nat} {h : AH} {K : Outcome → AH → Prop} {C W T F n : Nat} {m : Md} {u : Ux} (hs : ∀ h', h'.R 1537 C = some T → h'.R 1538 C = some F → Fq (FS [1537, 1538]) h h' → CTb h' C W T F m u) (hW : h.tag W = some (31, 0)) (hC : h.tag C = some (12, 0)) (hu : gU m u) (hu7 : u.1 ≤ 7) (gm : gM m) (hn : n ≤ 1024) (hn1 : 1 ≤ n) (hnu : n = (ui u).length) (hcs : (mcs m).length ≤ 2048) (gx : ∀ x ∈ ui u, gX m u x) (hd : 14 ≤ d)
    (kk : match chk m u with
      | .ok _ => ∀ h', Fq (FS ccF) h h' → K (.returned (some (.int (nI 0)))) h'
      | .error e => ∀ h', Fq (FS ccF) h h' → h'.I 1539 C = nI e.2 → K (.returned (some (.int (nI e.1)))) h') : MW G d e_X13_check [.ref C, .ref T, .ref F] h K := by
  refine st_X13_check fun X o hG hD _ => ?_
  subst hG; subst hD
  refine k_X13_check_0 o ?_
  have f1 : Fq (FS [1537, 1538]) h ((h.sR 1537 C (some T)).sR 1538 C (some F)) := ((Fq.refl h).sR (f := 1537) (a := C) rfl).sR (f := 1538) (a := C) rfl
  have e1 : ((h.sR 1537 C (some T)).sR 1538 C (some F)).R 1537 C = some T := by simp [n_sI, z_sI, tag_sI, I_sI, J_sI, R_sI, EI_sI, EJ_sI, ER_sI, n_sJ, z_sJ, tag_sJ, I_sJ, J_sJ, R_sJ, EI_sJ, EJ_sJ, ER_sJ, n_sR, z_sR, tag_sR, I_sR, J_sR, R_sR, EI_sR, EJ_sR, ER_sR, n_sEI, z_sEI, tag_sEI, I_sEI, J_sEI, R_sEI, EI_sEI, EJ_sEI, ER_sEI, n_sEJ, z_sEJ, tag_sEJ, I_sEJ, J_sEJ, R_sEJ, EI_sEJ, EJ_sEJ, ER_sEJ, n_sER, z_sER, tag_sER, I_sER, J_sER, R_sER, EI_sER, EJ_sER, ER_sER, n_nw, z_nw, tag_nw, I_nw, J_nw, R_nw, EI_nw, EJ_nw, ER_nw]
  have e2 : ((h.sR 1537 C (some T)).sR 1538 C (some F)).R 1538 C = some F := by simp [n_sI, z_sI, tag_sI, I_sI, J_sI, R_sI, EI_sI, EJ_sI, ER_sI, n_sJ, z_sJ, tag_sJ, I_sJ, J_sJ, R_sJ, EI_sJ, EJ_sJ, ER_sJ, n_sR, z_sR, tag_sR, I_sR, J_sR, R_sR, EI_sR, EJ_sR, ER_sR, n_sEI, z_sEI, tag_sEI, I_sEI, J_sEI, R_sEI, EI_sEI, EJ_sEI, ER_sEI, n_sEJ, z_sEJ, tag_sEJ, I_sEJ, J_sEJ, R_sEJ, EI_sEJ, EJ_sEJ, ER_sEJ, n_sER, z_sER, tag_sER, I_sER, J_sER, R_sER, EI_sER, EJ_sER, ER_sER, n_nw, z_nw, tag_nw, I_nw, J_nw, R_nw, EI_nw, EJ_nw, ER_nw]
  generalize (h.sR 1537 C (some T)).sR 1538 C (some F) = h1 at *
  have hs1 := hs h1 e1 e2 f1
  refine cbeg_ok hs1 hu hn hn1 hnu hcs gx (by omega) fun h2 f2 sk2 tb2 ld2 => ?_
  have hs2 : CTb h2 C W T F m u := hs1.fr f2.1 (FS.no rfl)
  have F2 : Fq (FS ccF) h h2 := (f1.mono (FS.mono rfl)).trans (f2.mono (FS.mono rfl))
  have w0 := hs2.1.1.1
  show V X K 14 [.ref C, .ref T, .ref F, nov] [] h2
  refine k_X13_check_14 o ?_
  refine call_ok hs2 hu hu7 gm sk2 tb2 ld2 hn hnu hcs gx (by omega) ?_
  cases hc : chk m u with
  | ok _ =>
    rw [hc] at kk
    intro h3 f3
    refine k_X13_check_18 o ?_
    refine k_X13_check_27 o ?_
    exact kk h3 (F2.trans (f3.mono (FS.mono rfl)))
  | error e =>
    rw [hc] at kk
    intro h3 f3 y1 y2
    have F3 := F2.trans (f3.mono (FS.mono (l' := ccF) rfl))
    have u0 := F3.1.tag hC
    refine ⟨F3.1.tag hW, ?_⟩
    refine k_X13_check_21 o ?_
    exact kk h3 F3 y2
