/-! the twin's trees: what is next to a node that changes stays -/
section
variable {G : Gt} {d : Nat} {h : AH} {K : Outcome → AH → Prop}
theorem taddX_ok {G : Gt} {d : Nat} {h : AH} {K : Outcome → AH → Prop} {T a b kd kb : Nat} {x y : Int64 × Int64} {c cb : LF} (hs : ST h T) (hv : TW h T a kd x c) (hw : TW h T b kb y cb) (hn : (a :: (fad c ++ b :: fad cb)).Nodup)
    (kk : ∀ h', TU T (fun j => j = a ∨ j = b ∨ j ∈ fad c) h h' → h'.I 2949 T = h.I 2949 T → TW h' T a kd x (fap c (.inner kb (b, y) () cb .leaf)) → h'.EI 1696 (T + 5) a = h.EI 1696 (T + 5) a → K (.returned none) h') : MW G d e_X24_add [.ref T, .int (nI a), .int (nI b)] h K := by
  refine st_X24_add fun X o hG hD hf => ?_
  have va := hv.1
  have vb := hw.1
  have ixa : IX (nI a) 24576 a := IX.mk va (by omega)
  have ixb : IX (nI b) 24576 b := IX.mk vb (by omega)
  generalize hh : h.sEI 1696 (T + 5) b (-1) = h1
  have f1 : TU T (fun j => j = b) h h1 := by rw [← hh]; exact (TU.refl h).nx rfl
  simp only [List.nodup_cons, List.nodup_append, List.mem_append, List.mem_cons] at hn
  have hs1 := hs.fs f1.1.1 rfl
  obtain ⟨⟨e1, e2, e3, e4, e5, e6⟩, e7, e8, e9, e10, e11⟩ := id hs
  obtain ⟨⟨i1, i2, i3, i4, i5, i6⟩, i7, i8, i9, i10, i11⟩ := id hs1
  have v1 := hv.tu f1 (by simp only [List.mem_cons]; grind)
  have w1 : TF h1 T (.inner kb (b, y) () cb .leaf) (nI b) := by
    obtain ⟨u1, u2, u3, u4, u5⟩ := hw
    refine ⟨⟨rfl, vb⟩, ?_, ?_, ?_, ?_, ?_⟩
    · rw [← hh]; simp [n_sI, z_sI, tag_sI, I_sI, J_sI, R_sI, EI_sI, EJ_sI, ER_sI, n_sJ, z_sJ, tag_sJ, I_sJ, J_sJ, R_sJ, EI_sJ, EJ_sJ, ER_sJ, n_sR, z_sR, tag_sR, I_sR, J_sR, R_sR, EI_sR, EJ_sR, ER_sR, n_sEI, z_sEI, tag_sEI, I_sEI, J_sEI, R_sEI, EI_sEI, EJ_sEI, ER_sEI, n_sEJ, z_sEJ, tag_sEJ, I_sEJ, J_sEJ, R_sEJ, EI_sEJ, EJ_sEJ, ER_sEJ, n_sER, z_sER, tag_sER, I_sER, J_sER, R_sER, EI_sER, EJ_sER, ER_sER, n_nw, z_nw, tag_nw, I_nw, J_nw, R_nw, EI_nw, EJ_nw, ER_nw]; exact u2
    · rw [← hh]; exact u3
    · rw [← hh]; exact u4
    · have : h1.EI 1680 (T + 4) b = h.EI 1680 (T + 4) b := by rw [← hh]; simp [n_sI, z_sI, tag_sI, I_sI, J_sI, R_sI, EI_sI, EJ_sI, ER_sI, n_sJ, z_sJ, tag_sJ, I_sJ, J_sJ, R_sJ, EI_sJ, EJ_sJ, ER_sJ, n_sR, z_sR, tag_sR, I_sR, J_sR, R_sR, EI_sR, EJ_sR, ER_sR, n_sEI, z_sEI, tag_sEI, I_sEI, J_sEI, R_sEI, EI_sEI, EJ_sEI, ER_sEI, n_sEJ, z_sEJ, tag_sEJ, I_sEJ, J_sEJ, R_sEJ, EI_sEJ, EJ_sEJ, ER_sEJ, n_sER, z_sER, tag_sER, I_sER, J_sER, R_sER, EI_sER, EJ_sER, ER_sER, n_nw, z_nw, tag_nw, I_nw, J_nw, R_nw, EI_nw, EJ_nw, ER_nw]
      show TF h1 T cb (h1.EI 1680 (T + 4) b)
      rw [this]; exact TF.tu f1 u5 fun j hj q => by subst q; grind
    · show h1.EI 1696 (T + 5) b = -1
      rw [← hh]; simp [n_sI, z_sI, tag_sI, I_sI, J_sI, R_sI, EI_sI, EJ_sI, ER_sI, n_sJ, z_sJ, tag_sJ, I_sJ, J_sJ, R_sJ, EI_sJ, EJ_sJ, ER_sJ, n_sR, z_sR, tag_sR, I_sR, J_sR, R_sR, EI_sR, EJ_sR, ER_sR, n_sEI, z_sEI, tag_sEI, I_sEI, J_sEI, R_sEI, EI_sEI, EJ_sEI, ER_sEI, n_sEJ, z_sEJ, tag_sEJ, I_sEJ, J_sEJ, R_sEJ, EI_sEJ, EJ_sEJ, ER_sEJ, n_sER, z_sER, tag_sER, I_sER, J_sER, R_sER, EI_sER, EJ_sER, ER_sER, n_nw, z_nw, tag_nw, I_nw, J_nw, R_nw, EI_nw, EJ_nw, ER_nw]
  have sz1 : h1.I 2949 T = h.I 2949 T := by rw [← hh]; rfl
  obtain ⟨-, k2, k3, k4, k5⟩ := v1
  have xf : h.EI 1680 (T + 4) a = h1.EI 1680 (T + 4) a := by rw [← hh]; simp [n_sI, z_sI, tag_sI, I_sI, J_sI, R_sI, EI_sI, EJ_sI, ER_sI, n_sJ, z_sJ, tag_sJ, I_sJ, J_sJ, R_sJ, EI_sJ, EJ_sJ, ER_sJ, n_sR, z_sR, tag_sR, I_sR, J_sR, R_sR, EI_sR, EJ_sR, ER_sR, n_sEI, z_sEI, tag_sEI, I_sEI, J_sEI, R_sEI, EI_sEI, EJ_sEI, ER_sEI, n_sEJ, z_sEJ, tag_sEJ, I_sEJ, J_sEJ, R_sEJ, EI_sEJ, EJ_sEJ, ER_sEJ, n_sER, z_sER, tag_sER, I_sER, J_sER, R_sER, EI_sER, EJ_sER, ER_sER, n_nw, z_nw, tag_nw, I_nw, J_nw, R_nw, EI_nw, EJ_nw, ER_nw]
  have hcc : c = .leaf ∨ c ≠ .leaf := by cases c <;> simp
  rcases hcc with hcl | hcl
  · subst hcl
    have k5' : h1.EI 1680 (T + 4) a = -1 := k5
    refine k_X24_add_0 o (fun qq => ?_) (fun qq => ?_)
    · exact absurd k5' qq
    rw [hh]
    refine k_X24_add_17 o ?_
    refine (kk _ ((f1.mono fun j q => Or.inr (Or.inl q)).fi (Or.inl rfl)) sz1 ⟨va, by simp [n_sI, z_sI, tag_sI, I_sI, J_sI, R_sI, EI_sI, EJ_sI, ER_sI, n_sJ, z_sJ, tag_sJ, I_sJ, J_sJ, R_sJ, EI_sJ, EJ_sJ, ER_sJ, n_sR, z_sR, tag_sR, I_sR, J_sR, R_sR, EI_sR, EJ_sR, ER_sR, n_sEI, z_sEI, tag_sEI, I_sEI, J_sEI, R_sEI, EI_sEI, EJ_sEI, ER_sEI, n_sEJ, z_sEJ, tag_sEJ, I_sEJ, J_sEJ, R_sEJ, EI_sEJ, EJ_sEJ, ER_sEJ, n_sER, z_sER, tag_sER, I_sER, J_sER, R_sER, EI_sER, EJ_sER, ER_sER, n_nw, z_nw, tag_nw, I_nw, J_nw, R_nw, EI_nw, EJ_nw, ER_nw]; exact k2, k3, k4, ?_⟩ ?_)
    rotate_left
    · rw [← hh]; simp [n_sI, z_sI, tag_sI, I_sI, J_sI, R_sI, EI_sI, EJ_sI, ER_sI, n_sJ, z_sJ, tag_sJ, I_sJ, J_sJ, R_sJ, EI_sJ, EJ_sJ, ER_sJ, n_sR, z_sR, tag_sR, I_sR, J_sR, R_sR, EI_sR, EJ_sR, ER_sR, n_sEI, z_sEI, tag_sEI, I_sEI, J_sEI, R_sEI, EI_sEI, EJ_sEI, ER_sEI, n_sEJ, z_sEJ, tag_sEJ, I_sEJ, J_sEJ, R_sEJ, EI_sEJ, EJ_sEJ, ER_sEJ, n_sER, z_sER, tag_sER, I_sER, J_sER, R_sER, EI_sER, EJ_sER, ER_sER, n_nw, z_nw, tag_nw, I_nw, J_nw, R_nw, EI_nw, EJ_nw, ER_nw, show a ≠ b from fun q => hn.1 (Or.inr (Or.inl q))]
    have f2 : TU T (fun j => j = a) h1 (h1.sEI 1680 (T + 4) a (nI b)) := (TU.refl h1).fi rfl
    rw [EI_same]
    exact TF.tu f2 w1 fun j hj q => by rw [show j = a from q] at hj; simp only [fap, fad, List.append_nil, List.mem_cons] at hj; exact hn.1 (Or.inr hj)
  · obtain ⟨z, hz⟩ := flst_some (d := none) hcl
    have hzc : z ∈ fad c := by
      rcases flst_in hz with q | q
      · exact q
      · cases q
    have hne : h1.EI 1680 (T + 4) a ≠ -1 := by
      cases c with
      | leaf => exact absurd rfl hcl
      | inner k0 x0 u0 c0 r0 => obtain ⟨⟨q1, q2⟩, -⟩ := k5; rw [q1]; exact nI_m1 q2
    have loop : ∀ (g : LF) (p : Int32), g ≠ .leaf → TF h1 T g p → flst g none = some z → V X K 32 [.ref T, .int (nI a), .int (nI b), .int p] [] h1 := by
      intro g
      induction g with
      | leaf => intro p hg; exact absurd rfl hg
      | inner k' x' u c' r ihc ihr =>
        intro p _ hg hl
        obtain ⟨⟨rfl, p2⟩, p3, p4, p5, p6, p7⟩ := hg
        have ix : IX (nI x'.1) 24576 x'.1 := IX.mk p2 (by omega)
        cases r with
        | leaf =>
          have hx : x'.1 = z := by cases hl; rfl
          have p7' : h1.EI 1696 (T + 5) x'.1 = -1 := p7
          refine k_X24_add_32 o (fun qq => ?_) (fun qq => ?_)
          · refine k_X24_add_52 o ?_
            refine (kk _ ((f1.mono fun j q => Or.inr (Or.inl q)).nx (by rw [hx]; exact Or.inr (Or.inr hzc))) sz1 ⟨va, by simp [n_sI, z_sI, tag_sI, I_sI, J_sI, R_sI, EI_sI, EJ_sI, ER_sI, n_sJ, z_sJ, tag_sJ, I_sJ, J_sJ, R_sJ, EI_sJ, EJ_sJ, ER_sJ, n_sR, z_sR, tag_sR, I_sR, J_sR, R_sR, EI_sR, EJ_sR, ER_sR, n_sEI, z_sEI, tag_sEI, I_sEI, J_sEI, R_sEI, EI_sEI, EJ_sEI, ER_sEI, n_sEJ, z_sEJ, tag_sEJ, I_sEJ, J_sEJ, R_sEJ, EI_sEJ, EJ_sEJ, ER_sEJ, n_sER, z_sER, tag_sER, I_sER, J_sER, R_sER, EI_sER, EJ_sER, ER_sER, n_nw, z_nw, tag_nw, I_nw, J_nw, R_nw, EI_nw, EJ_nw, ER_nw]; exact k2, k3, k4, ?_⟩ ?_)
            rotate_left
            · rw [← hh]; simp [n_sI, z_sI, tag_sI, I_sI, J_sI, R_sI, EI_sI, EJ_sI, ER_sI, n_sJ, z_sJ, tag_sJ, I_sJ, J_sJ, R_sJ, EI_sJ, EJ_sJ, ER_sJ, n_sR, z_sR, tag_sR, I_sR, J_sR, R_sR, EI_sR, EJ_sR, ER_sR, n_sEI, z_sEI, tag_sEI, I_sEI, J_sEI, R_sEI, EI_sEI, EJ_sEI, ER_sEI, n_sEJ, z_sEJ, tag_sEJ, I_sEJ, J_sEJ, R_sEJ, EI_sEJ, EJ_sEJ, ER_sEJ, n_sER, z_sER, tag_sER, I_sER, J_sER, R_sER, EI_sER, EJ_sER, ER_sER, n_nw, z_nw, tag_nw, I_nw, J_nw, R_nw, EI_nw, EJ_nw, ER_nw, show a ≠ b from fun q => hn.1 (Or.inr (Or.inl q)), show a ≠ x'.1 from fun q => hn.1 (Or.inl (by rw [q, hx]; exact hzc))]
            have : (h1.sEI 1696 (T + 5) x'.1 (nI b)).EI 1680 (T + 4) a = h1.EI 1680 (T + 4) a := by simp [n_sI, z_sI, tag_sI, I_sI, J_sI, R_sI, EI_sI, EJ_sI, ER_sI, n_sJ, z_sJ, tag_sJ, I_sJ, J_sJ, R_sJ, EI_sJ, EJ_sJ, ER_sJ, n_sR, z_sR, tag_sR, I_sR, J_sR, R_sR, EI_sR, EJ_sR, ER_sR, n_sEI, z_sEI, tag_sEI, I_sEI, J_sEI, R_sEI, EI_sEI, EJ_sEI, ER_sEI, n_sEJ, z_sEJ, tag_sEJ, I_sEJ, J_sEJ, R_sEJ, EI_sEJ, EJ_sEJ, ER_sEJ, n_sER, z_sER, tag_sER, I_sER, J_sER, R_sER, EI_sER, EJ_sER, ER_sER, n_nw, z_nw, tag_nw, I_nw, J_nw, R_nw, EI_nw, EJ_nw, ER_nw]
            rw [this, hx]
            refine TF.snoc w1 ?_ k5 hz (by grind)
            simp only [fad, List.mem_cons, List.append_nil]
            grind
          · exact absurd rfl qq
        | inner k2' x2 u2 c2 r2 =>
          have p7' := p7
          obtain ⟨⟨q1, q2⟩, -⟩ := p7'
          refine k_X24_add_32 o (fun qq => ?_) (fun qq => ?_)
          · exact absurd qq (nI_m1 q2)
          refine k_X24_add_42 o ?_
          exact ihr _ (by simp) (by rw [← q1]; exact p7) hl
    refine k_X24_add_0 o (fun qq => ?_) (fun qq => ?_)
    rotate_left
    · exact absurd qq hne
    rw [hh]
    refine k_X24_add_25 o ?_
    exact loop c _ hcl k5 hz
theorem ttakeX_ok {G : Gt} {d : Nat} {h : AH} {K : Outcome → AH → Prop} {T a b kd kb : Nat} {x y : Int64 × Int64} {c0 cb : LF} (hs : ST h T) (hv : TW h T a kd x (fap c0 (.inner kb (b, y) () cb .leaf))) (hn : (a :: (fad c0 ++ b :: fad cb)).Nodup)
    (kk : ∀ h', TU T (fun j => j = a ∨ j ∈ fad c0) h h' → h'.I 2949 T = h.I 2949 T → TW h' T a kd x c0 → TW h' T b kb y cb → h'.EI 1696 (T + 5) a = h.EI 1696 (T + 5) a → K (.returned (some (.int (nI b)))) h') : MW G d e_X24_takeLast [.ref T, .int (nI a)] h K := by
  refine st_X24_takeLast fun X o hG hD hf => ?_
  obtain ⟨⟨e1, e2, e3, e4, e5, e6⟩, e7, e8, e9, e10, e11⟩ := id hs
  obtain ⟨v1, v2, v3, v4, v5⟩ := id hv
  have ixa : IX (nI a) 24576 a := IX.mk v1 (by omega)
  obtain ⟨hb, hbn⟩ := TF.nth v5
  have hap : fad (fap c0 (.inner kb (b, y) () cb .leaf)) = fad c0 ++ b :: fad cb := by rw [fad_ap]; simp [fad]
  simp only [List.nodup_cons, List.mem_append, List.mem_cons] at hn
  have ixb : IX (nI b) 24576 b := IX.mk hb.1 (by omega)
  have loop : ∀ (g : LF) (p bf : Int32), TF h T (fap g (.inner kb (b, y) () cb .leaf)) p →
      ((c0 = g ∧ bf = -1) ∨ (∃ z, flst c0 none = (match g with | .leaf => some z | _ => flst g none) ∧ c0 ≠ .leaf ∧ (g = .leaf → bf = nI z ∧ z < 24576))) → V X K 9 [.ref T, .int (nI a), .int p, .int bf] [] h := by
    intro g
    induction g with
    | leaf =>
      intro p bf hg hc
      obtain ⟨⟨rfl, p2⟩, p3, p4, p5, p6, p7⟩ := hg
      have p7' : h.EI 1696 (T + 5) b = -1 := p7
      refine k_X24_takeLast_9 o (fun qq => ?_) (fun qq => ?_)
      rotate_left
      · exact absurd rfl qq
      rcases hc with ⟨q1, q2⟩ | ⟨z, q1, q2, q3⟩
      · subst q1; subst q2
        refine k_X24_takeLast_31 o (fun c2 => ?_) (fun c2 => ?_)
        · exact absurd rfl c2
        refine k_X24_takeLast_36 o ?_
        have f : TU T (fun j => j = a) h (h.sEI 1680 (T + 4) a (-1)) := (TU.refl h).fi rfl
        refine k_X24_takeLast_53 o ?_
        refine (kk _ (f.mono fun j q => Or.inl q) rfl ⟨v1, by simp [n_sI, z_sI, tag_sI, I_sI, J_sI, R_sI, EI_sI, EJ_sI, ER_sI, n_sJ, z_sJ, tag_sJ, I_sJ, J_sJ, R_sJ, EI_sJ, EJ_sJ, ER_sJ, n_sR, z_sR, tag_sR, I_sR, J_sR, R_sR, EI_sR, EJ_sR, ER_sR, n_sEI, z_sEI, tag_sEI, I_sEI, J_sEI, R_sEI, EI_sEI, EJ_sEI, ER_sEI, n_sEJ, z_sEJ, tag_sEJ, I_sEJ, J_sEJ, R_sEJ, EI_sEJ, EJ_sEJ, ER_sEJ, n_sER, z_sER, tag_sER, I_sER, J_sER, R_sER, EI_sER, EJ_sER, ER_sER, n_nw, z_nw, tag_nw, I_nw, J_nw, R_nw, EI_nw, EJ_nw, ER_nw]; exact v2, v3, v4, EI_same ..⟩ (hb.tu f (by simp only [List.mem_cons]; simp only [fad, List.not_mem_nil, false_or] at hn; grind)) (by simp [n_sI, z_sI, tag_sI, I_sI, J_sI, R_sI, EI_sI, EJ_sI, ER_sI, n_sJ, z_sJ, tag_sJ, I_sJ, J_sJ, R_sJ, EI_sJ, EJ_sJ, ER_sJ, n_sR, z_sR, tag_sR, I_sR, J_sR, R_sR, EI_sR, EJ_sR, ER_sR, n_sEI, z_sEI, tag_sEI, I_sEI, J_sEI, R_sEI, EI_sEI, EJ_sEI, ER_sEI, n_sEJ, z_sEJ, tag_sEJ, I_sEJ, J_sEJ, R_sEJ, EI_sEJ, EJ_sEJ, ER_sEJ, n_sER, z_sER, tag_sER, I_sER, J_sER, R_sER, EI_sER, EJ_sER, ER_sER, n_nw, z_nw, tag_nw, I_nw, J_nw, R_nw, EI_nw, EJ_nw, ER_nw]))
      · obtain ⟨rfl, hz⟩ := q3 rfl
        have q1 : flst c0 none = some z := q1
        have ixz : IX (nI z) 24576 z := IX.mk hz (by omega)
        obtain ⟨z', z1, z2, z3⟩ := TF.ap v5 q2
        rw [q1] at z1
        cases z1
        have hzc : z ∈ fad c0 := by
          rcases flst_in q1 with q | q
          · exact q
          · cases q
        refine k_X24_takeLast_31 o (fun c2 => ?_) (fun c2 => ?_)
        rotate_left
        · exact absurd c2 (nI_m1 hz)
        refine k_X24_takeLast_46 o ?_
        have f : TU T (fun j => j = z) h (h.sEI 1696 (T + 5) z (-1)) := (TU.refl h).nx rfl
        have haz : a ≠ z := fun q => by subst q; exact hn.1 (Or.inl hzc)
        have nd := List.nodup_append.mp hn.2
        refine k_X24_takeLast_53 o ?_
        refine (kk _ (f.mono fun j q => Or.inr (by rw [q]; exact hzc)) rfl ⟨v1, by simp [n_sI, z_sI, tag_sI, I_sI, J_sI, R_sI, EI_sI, EJ_sI, ER_sI, n_sJ, z_sJ, tag_sJ, I_sJ, J_sJ, R_sJ, EI_sJ, EJ_sJ, ER_sJ, n_sR, z_sR, tag_sR, I_sR, J_sR, R_sR, EI_sR, EJ_sR, ER_sR, n_sEI, z_sEI, tag_sEI, I_sEI, J_sEI, R_sEI, EI_sEI, EJ_sEI, ER_sEI, n_sEJ, z_sEJ, tag_sEJ, I_sEJ, J_sEJ, R_sEJ, EI_sEJ, EJ_sEJ, ER_sEJ, n_sER, z_sER, tag_sER, I_sER, J_sER, R_sER, EI_sER, EJ_sER, ER_sER, n_nw, z_nw, tag_nw, I_nw, J_nw, R_nw, EI_nw, EJ_nw, ER_nw]; exact v2, v3, v4, ?_⟩ (hb.tu f fun j hj q => nd.2.2 z hzc j hj (by rw [q])) (by simp [n_sI, z_sI, tag_sI, I_sI, J_sI, R_sI, EI_sI, EJ_sI, ER_sI, n_sJ, z_sJ, tag_sJ, I_sJ, J_sJ, R_sJ, EI_sJ, EJ_sJ, ER_sJ, n_sR, z_sR, tag_sR, I_sR, J_sR, R_sR, EI_sR, EJ_sR, ER_sR, n_sEI, z_sEI, tag_sEI, I_sEI, J_sEI, R_sEI, EI_sEI, EJ_sEI, ER_sEI, n_sEJ, z_sEJ, tag_sEJ, I_sEJ, J_sEJ, R_sEJ, EI_sEJ, EJ_sEJ, ER_sEJ, n_sER, z_sER, tag_sER, I_sER, J_sER, R_sER, EI_sER, EJ_sER, ER_sER, n_nw, z_nw, tag_nw, I_nw, J_nw, R_nw, EI_nw, EJ_nw, ER_nw, haz]))
        have : (h.sEI 1696 (T + 5) z (-1)).EI 1680 (T + 4) a = h.EI 1680 (T + 4) a := by simp [n_sI, z_sI, tag_sI, I_sI, J_sI, R_sI, EI_sI, EJ_sI, ER_sI, n_sJ, z_sJ, tag_sJ, I_sJ, J_sJ, R_sJ, EI_sJ, EJ_sJ, ER_sJ, n_sR, z_sR, tag_sR, I_sR, J_sR, R_sR, EI_sR, EJ_sR, ER_sR, n_sEI, z_sEI, tag_sEI, I_sEI, J_sEI, R_sEI, EI_sEI, EJ_sEI, ER_sEI, n_sEJ, z_sEJ, tag_sEJ, I_sEJ, J_sEJ, R_sEJ, EI_sEJ, EJ_sEJ, ER_sEJ, n_sER, z_sER, tag_sER, I_sER, J_sER, R_sER, EI_sER, EJ_sER, ER_sER, n_nw, z_nw, tag_nw, I_nw, J_nw, R_nw, EI_nw, EJ_nw, ER_nw]
        rw [this]
        exact z3 (by rw [hap]; exact hn.2)
    | inner k' x' u c' r ihc ihr =>
      intro p bf hg hc
      obtain ⟨⟨rfl, p2⟩, p3, p4, p5, p6, p7⟩ := hg
      have ix : IX (nI x'.1) 24576 x'.1 := IX.mk p2 (by omega)
      have hne : h.EI 1696 (T + 5) x'.1 ≠ -1 := by
        have p7' : TF h T (fap r (.inner kb (b, y) () cb .leaf)) (h.EI 1696 (T + 5) x'.1) := p7
        cases r with
        | leaf => obtain ⟨⟨q1, q2⟩, -⟩ := p7'; rw [q1]; exact nI_m1 q2
        | inner k2 x2 u2 c2 r2 => obtain ⟨⟨q1, q2⟩, -⟩ := p7'; rw [q1]; exact nI_m1 q2
      refine k_X24_takeLast_9 o (fun qq => ?_) (fun qq => ?_)
      · exact absurd qq hne
      refine k_X24_takeLast_19 o ?_
      refine ihr _ _ p7 (Or.inr ⟨x'.1, ?_, ?_, fun q => ⟨rfl, p2⟩⟩)
      · rcases hc with ⟨q1, q2⟩ | ⟨z, q1, q2, q3⟩
        · subst q1; cases r <;> rfl
        · rw [q1]; cases r <;> rfl
      · rcases hc with ⟨q1, q2⟩ | ⟨z, q1, q2, q3⟩
        · subst q1; simp
        · exact q2
  refine k_X24_takeLast_0 o ?_
  exact loop c0 _ _ v5 (Or.inl ⟨rfl, rfl⟩)
theorem tbecX_ok {G : Gt} {d : Nat} {h : AH} {K : Outcome → AH → Prop} {T a b k k' : Nat} {x x' : Int64 × Int64} {c c' : LF} (hs : ST h T) (hv : TW h T a k x c) (hw : TW h T b k' x' c') (hk : k' < 128) (hn : a ∉ fad c')
    (kk : ∀ h', TU T (fun j => j = a) h h' → h'.I 2949 T = h.I 2949 T → TW h' T a k' x' c' → h'.EI 1696 (T + 5) a = h.EI 1696 (T + 5) a → K (.returned none) h') : MW G d e_X24_become [.ref T, .int (nI a), .int (nI b)] h K := by
  refine st_X24_become fun X o hG hD hf => ?_
  obtain ⟨⟨i1, i2, i3, i4, i5, i6⟩, i7, i8, i9, i10, i11⟩ := id hs
  obtain ⟨v1, v2, v3, v4, v5⟩ := id hv
  obtain ⟨w1, w2, w3, w4, w5⟩ := id hw
  have ix : IX (nI a) 24576 a := IX.mk v1 (by omega)
  have ix2 : IX (nI b) 24576 b := IX.mk w1 (by omega)
  have ek : (nI k').toInt8.toInt32 = nI k' := i8_n hk
  refine k_X24_become_0 o ?_
  rw [ek]
  have f : TU T (fun j => j = a) h ((((h.sEI 1633 (T + 1) a (nI k')).sEJ 1651 (T + 2) a x'.1).sEJ 1667 (T + 3) a x'.2).sEI 1680 (T + 4) a (h.EI 1680 (T + 4) b)) := (by refine (TU.fi (TU.lo (TU.hi (TU.kd (TU.refl h) ?_) ?_) ?_) ?_) <;> exact rfl)
  refine kk _ f rfl ⟨v1, by simp [n_sI, z_sI, tag_sI, I_sI, J_sI, R_sI, EI_sI, EJ_sI, ER_sI, n_sJ, z_sJ, tag_sJ, I_sJ, J_sJ, R_sJ, EI_sJ, EJ_sJ, ER_sJ, n_sR, z_sR, tag_sR, I_sR, J_sR, R_sR, EI_sR, EJ_sR, ER_sR, n_sEI, z_sEI, tag_sEI, I_sEI, J_sEI, R_sEI, EI_sEI, EJ_sEI, ER_sEI, n_sEJ, z_sEJ, tag_sEJ, I_sEJ, J_sEJ, R_sEJ, EI_sEJ, EJ_sEJ, ER_sEJ, n_sER, z_sER, tag_sER, I_sER, J_sER, R_sER, EI_sER, EJ_sER, ER_sER, n_nw, z_nw, tag_nw, I_nw, J_nw, R_nw, EI_nw, EJ_nw, ER_nw], by simp [n_sI, z_sI, tag_sI, I_sI, J_sI, R_sI, EI_sI, EJ_sI, ER_sI, n_sJ, z_sJ, tag_sJ, I_sJ, J_sJ, R_sJ, EI_sJ, EJ_sJ, ER_sJ, n_sR, z_sR, tag_sR, I_sR, J_sR, R_sR, EI_sR, EJ_sR, ER_sR, n_sEI, z_sEI, tag_sEI, I_sEI, J_sEI, R_sEI, EI_sEI, EJ_sEI, ER_sEI, n_sEJ, z_sEJ, tag_sEJ, I_sEJ, J_sEJ, R_sEJ, EI_sEJ, EJ_sEJ, ER_sEJ, n_sER, z_sER, tag_sER, I_sER, J_sER, R_sER, EI_sER, EJ_sER, ER_sER, n_nw, z_nw, tag_nw, I_nw, J_nw, R_nw, EI_nw, EJ_nw, ER_nw], by simp [n_sI, z_sI, tag_sI, I_sI, J_sI, R_sI, EI_sI, EJ_sI, ER_sI, n_sJ, z_sJ, tag_sJ, I_sJ, J_sJ, R_sJ, EI_sJ, EJ_sJ, ER_sJ, n_sR, z_sR, tag_sR, I_sR, J_sR, R_sR, EI_sR, EJ_sR, ER_sR, n_sEI, z_sEI, tag_sEI, I_sEI, J_sEI, R_sEI, EI_sEI, EJ_sEI, ER_sEI, n_sEJ, z_sEJ, tag_sEJ, I_sEJ, J_sEJ, R_sEJ, EI_sEJ, EJ_sEJ, ER_sEJ, n_sER, z_sER, tag_sER, I_sER, J_sER, R_sER, EI_sER, EJ_sER, ER_sER, n_nw, z_nw, tag_nw, I_nw, J_nw, R_nw, EI_nw, EJ_nw, ER_nw], ?_⟩ (by simp [n_sI, z_sI, tag_sI, I_sI, J_sI, R_sI, EI_sI, EJ_sI, ER_sI, n_sJ, z_sJ, tag_sJ, I_sJ, J_sJ, R_sJ, EI_sJ, EJ_sJ, ER_sJ, n_sR, z_sR, tag_sR, I_sR, J_sR, R_sR, EI_sR, EJ_sR, ER_sR, n_sEI, z_sEI, tag_sEI, I_sEI, J_sEI, R_sEI, EI_sEI, EJ_sEI, ER_sEI, n_sEJ, z_sEJ, tag_sEJ, I_sEJ, J_sEJ, R_sEJ, EI_sEJ, EJ_sEJ, ER_sEJ, n_sER, z_sER, tag_sER, I_sER, J_sER, R_sER, EI_sER, EJ_sER, ER_sER, n_nw, z_nw, tag_nw, I_nw, J_nw, R_nw, EI_nw, EJ_nw, ER_nw])
  rw [EI_same]
  exact TF.tu f w5 fun j hj q => hn (q ▸ hj)
theorem tswpX_ok {G : Gt} {d : Nat} {h : AH} {K : Outcome → AH → Prop} {T a b k k' : Nat} {x x' : Int64 × Int64} {c c' : LF} (hs : ST h T) (hv : TW h T a k x c) (hw : TW h T b k' x' c') (hk : k < 128 ∧ k' < 128) (hn : (a :: b :: (fad c ++ fad c')).Nodup) (hd : 1 ≤ d)
    (kk : ∀ h', TU T (fun j => j = a ∨ j = b) h h' → h'.I 2949 T = h.I 2949 T → TW h' T a k' x' c' → TW h' T b k x c → h'.EI 1696 (T + 5) a = h.EI 1696 (T + 5) a → h'.EI 1696 (T + 5) b = h.EI 1696 (T + 5) b → K (.returned none) h') : MW G d e_X24_swap [.ref T, .int (nI a), .int (nI b)] h K := by
  refine st_X24_swap fun X o hG hD hf => ?_
  obtain ⟨⟨i1, i2, i3, i4, i5, i6⟩, i7, i8, i9, i10, i11⟩ := id hs
  obtain ⟨v1, v2, v3, v4, v5⟩ := id hv
  obtain ⟨w1, w2, w3, w4, w5⟩ := id hw
  have ix : IX (nI a) 24576 a := IX.mk v1 (by omega)
  have ix2 : IX (nI b) 24576 b := IX.mk w1 (by omega)
  have ek : (nI k).toInt8.toInt32 = nI k := i8_n hk.1
  simp only [List.nodup_cons, List.mem_cons, List.mem_append] at hn
  refine k_X24_swap_0 o ?_
  refine tbecX_ok hs hv hw hk.2 (by grind) fun h1 f1 z1 u1 nx1 => ?_
  have hs1 := hs.fs f1.1.1 rfl
  obtain ⟨⟨j1, j2, j3, j4, j5, j6⟩, j7, j8, j9, j10, j11⟩ := id hs1
  refine k_X24_swap_37 o ?_
  rw [ek]
  have f2 : TU T (fun j => j = b) h1 ((((h1.sEI 1633 (T + 1) b (nI k)).sEJ 1651 (T + 2) b x.1).sEJ 1667 (T + 3) b x.2).sEI 1680 (T + 4) b (h.EI 1680 (T + 4) a)) := (by refine (TU.fi (TU.lo (TU.hi (TU.kd (TU.refl h1) ?_) ?_) ?_) ?_) <;> exact rfl)
  have F : TU T (fun j => j = a ∨ j = b) h _ := (f1.mono fun j q => Or.inl q).trans (f2.mono fun j q => Or.inr q)
  refine kk _ F z1 (u1.tu f2 (by simp only [List.mem_cons]; grind)) ⟨w1, by simp [n_sI, z_sI, tag_sI, I_sI, J_sI, R_sI, EI_sI, EJ_sI, ER_sI, n_sJ, z_sJ, tag_sJ, I_sJ, J_sJ, R_sJ, EI_sJ, EJ_sJ, ER_sJ, n_sR, z_sR, tag_sR, I_sR, J_sR, R_sR, EI_sR, EJ_sR, ER_sR, n_sEI, z_sEI, tag_sEI, I_sEI, J_sEI, R_sEI, EI_sEI, EJ_sEI, ER_sEI, n_sEJ, z_sEJ, tag_sEJ, I_sEJ, J_sEJ, R_sEJ, EI_sEJ, EJ_sEJ, ER_sEJ, n_sER, z_sER, tag_sER, I_sER, J_sER, R_sER, EI_sER, EJ_sER, ER_sER, n_nw, z_nw, tag_nw, I_nw, J_nw, R_nw, EI_nw, EJ_nw, ER_nw], by simp [n_sI, z_sI, tag_sI, I_sI, J_sI, R_sI, EI_sI, EJ_sI, ER_sI, n_sJ, z_sJ, tag_sJ, I_sJ, J_sJ, R_sJ, EI_sJ, EJ_sJ, ER_sJ, n_sR, z_sR, tag_sR, I_sR, J_sR, R_sR, EI_sR, EJ_sR, ER_sR, n_sEI, z_sEI, tag_sEI, I_sEI, J_sEI, R_sEI, EI_sEI, EJ_sEI, ER_sEI, n_sEJ, z_sEJ, tag_sEJ, I_sEJ, J_sEJ, R_sEJ, EI_sEJ, EJ_sEJ, ER_sEJ, n_sER, z_sER, tag_sER, I_sER, J_sER, R_sER, EI_sER, EJ_sER, ER_sER, n_nw, z_nw, tag_nw, I_nw, J_nw, R_nw, EI_nw, EJ_nw, ER_nw], by simp [n_sI, z_sI, tag_sI, I_sI, J_sI, R_sI, EI_sI, EJ_sI, ER_sI, n_sJ, z_sJ, tag_sJ, I_sJ, J_sJ, R_sJ, EI_sJ, EJ_sJ, ER_sJ, n_sR, z_sR, tag_sR, I_sR, J_sR, R_sR, EI_sR, EJ_sR, ER_sR, n_sEI, z_sEI, tag_sEI, I_sEI, J_sEI, R_sEI, EI_sEI, EJ_sEI, ER_sEI, n_sEJ, z_sEJ, tag_sEJ, I_sEJ, J_sEJ, R_sEJ, EI_sEJ, EJ_sEJ, ER_sEJ, n_sER, z_sER, tag_sER, I_sER, J_sER, R_sER, EI_sER, EJ_sER, ER_sER, n_nw, z_nw, tag_nw, I_nw, J_nw, R_nw, EI_nw, EJ_nw, ER_nw], ?_⟩ ?_ ?_
  rotate_left
  · rw [← nx1]; simp [n_sI, z_sI, tag_sI, I_sI, J_sI, R_sI, EI_sI, EJ_sI, ER_sI, n_sJ, z_sJ, tag_sJ, I_sJ, J_sJ, R_sJ, EI_sJ, EJ_sJ, ER_sJ, n_sR, z_sR, tag_sR, I_sR, J_sR, R_sR, EI_sR, EJ_sR, ER_sR, n_sEI, z_sEI, tag_sEI, I_sEI, J_sEI, R_sEI, EI_sEI, EJ_sEI, ER_sEI, n_sEJ, z_sEJ, tag_sEJ, I_sEJ, J_sEJ, R_sEJ, EI_sEJ, EJ_sEJ, ER_sEJ, n_sER, z_sER, tag_sER, I_sER, J_sER, R_sER, EI_sER, EJ_sER, ER_sER, n_nw, z_nw, tag_nw, I_nw, J_nw, R_nw, EI_nw, EJ_nw, ER_nw]
  · rw [← (f1.2 b (fun q => hn.1 (Or.inl q.symm))).2.2.2.2]; simp [n_sI, z_sI, tag_sI, I_sI, J_sI, R_sI, EI_sI, EJ_sI, ER_sI, n_sJ, z_sJ, tag_sJ, I_sJ, J_sJ, R_sJ, EI_sJ, EJ_sJ, ER_sJ, n_sR, z_sR, tag_sR, I_sR, J_sR, R_sR, EI_sR, EJ_sR, ER_sR, n_sEI, z_sEI, tag_sEI, I_sEI, J_sEI, R_sEI, EI_sEI, EJ_sEI, ER_sEI, n_sEJ, z_sEJ, tag_sEJ, I_sEJ, J_sEJ, R_sEJ, EI_sEJ, EJ_sEJ, ER_sEJ, n_sER, z_sER, tag_sER, I_sER, J_sER, R_sER, EI_sER, EJ_sER, ER_sER, n_nw, z_nw, tag_nw, I_nw, J_nw, R_nw, EI_nw, EJ_nw, ER_nw]
  rw [EI_same]
  exact TF.tu F v5 (by grind)

end
