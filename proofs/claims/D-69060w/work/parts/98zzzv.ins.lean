/-! instructions: their beginning -/
def CDF (h : AH) (C k : Nat) (x : Ix) : Prop := (h.tag C = some (5, 0) ∧ h.R 641 C = some (C + 2) ∧ h.R 642 C = some (C + 3) ∧ h.tag (C + 2) = some (291, 2048) ∧ h.tag (C + 3) = some (307, 2048)) ∧ k < 2048 ∧ h.EJ 291 (C + 2) k = lN x.2.1 ∧ h.EJ 307 (C + 3) k = lN x.2.2.1
section
variable {G : Gt} {B d : Nat} {h : AH} {l : List Nat} {o : Lc} {wi W A q BA X tt lim SP t : Nat} {snd : Int64} {MA : Ma} {s : Ms} {K : Outcome → AH → Prop}
theorem IPR.opr (H : IPR G B h A W q BA X tt snd lim SP wi MA l o s) (ht : t + 1 = s.1) : OUT wi W h (h.sR 28 A (some (Fa W t))) o o ∧ OPR G B (h.sR 28 A (some (Fa W t))) A W q BA X tt snd lim SP wi MA l o s ∧ av G (h.sR 28 A (some (Fa W t))) l = av G h l := by
  obtain ⟨c, v, w, hg, hw⟩ := H
  have fq : Fq (FS [28]) h (h.sR 28 A (some (Fa W t))) := Fq.sR (Fq.refl h) rfl
  obtain ⟨v1, tg⟩ := v.oth fq (FS.vq rfl)
  have fi : Fr (IP W) h (h.sR 28 A (some (Fa W t))) := fq.1.mono (FS.ipl rfl)
  exact ⟨OUT.mk0 fi tg, ⟨c.ip fi, v1, w.oth fq.1 (FS.no rfl), by rw [show s.1 - 1 = t by omega]; simp [n_sI, z_sI, tag_sI, I_sI, J_sI, R_sI, EI_sI, EJ_sI, ER_sI, n_sJ, z_sJ, tag_sJ, I_sJ, J_sJ, R_sJ, EI_sJ, EJ_sJ, ER_sJ, n_sR, z_sR, tag_sR, I_sR, J_sR, R_sR, EI_sR, EJ_sR, ER_sR, n_sEI, z_sEI, tag_sEI, I_sEI, J_sEI, R_sEI, EI_sEI, EJ_sEI, ER_sEI, n_sEJ, z_sEJ, tag_sEJ, I_sEJ, J_sEJ, R_sEJ, EI_sEJ, EJ_sEJ, ER_sEJ, n_sER, z_sER, tag_sER, I_sER, J_sER, R_sER, EI_sER, EJ_sER, ER_sER, n_nw, z_nw, tag_nw, I_nw, J_nw, R_nw, EI_nw, EJ_nw, ER_nw], hg, hw.fr fq.1 (fun _ => FS.n rfl) (fun _ => FS.n rfl)⟩, by unfold av; rw [fq.2.1]⟩
theorem inst_0 {XX : Xt} (oo : OK e_X1_instruction XX) {m : Md} {u : Ux} {x : Ix} {kf : Ms → Rz} {l1 l2 l3 l4 : Value} (H : IPR XX.G B h A W q BA X tt snd lim SP wi MA l o s) (ht : t + 1 = s.1) (hm : MDR h (MA.1 (tpf s).1.1) m) (hU : m.2.2.2.2.2[(tpf s).1.2]? = some u) (hF : MA.2.1 (tpf s).1 = MA.1 (tpf s).1.1 + 141 + 4 * (tpf s).1.2) (hx : (ui u)[MA.2.2.1 t]? = some x) (hc : (mcs m).length ≤ 2048) (hd : 10 ≤ XX.d) (ke : mpay lim 1 s kf = mst 2 5 (sG s lim) → RZ K XX.G B h A W q BA X tt snd lim SP wi MA o (mst 2 5 (sG s lim))) (kk : ∀ h1 k, OUT wi W h h1 o o → OPR XX.G B h1 A W q BA X tt snd lim SP wi (maA MA t (MA.2.2.1 t + 1)) l o (sG s (gas s + 1)) → mpay lim 1 s kf = kf (sG s (gas s + 1)) → av XX.G h1 l = av XX.G h l → CDF h1 (MA.1 (tpf s).1.1 + 8) k x → (x.1 = 0 → V XX K 82 [.ref A, .ref (MA.1 (tpf s).1.1 + 8), .int (nI k), .int (nI x.1), .int (lN x.2.1).toInt32] [] h1) ∧ (x.1 ≠ 0 → V XX K 89 [.ref A, .ref (MA.1 (tpf s).1.1 + 8), .int (nI k), .int (nI x.1), .int (lN x.2.1).toInt32] [] h1)) (hop : x.1 < 60) : V XX K 0 [.ref A, l1, l2, l3, l4] [] h := by
  obtain ⟨c, v, w, hg, hw⟩ := id H
  have t32 : t < 32 := by have := w.1.2.2.2.1; omega
  have tA := c.1.1
  have rW := c.1.2.2.1
  have tW := w.1.1.1.1
  obtain ⟨⟨sf1, sf2, sf3, sf4, sf5⟩, ⟨⟨m1, m2, m3, m4, m5⟩, -, -, -, -⟩, es, el⟩ := w.F ht
  rw [← tpt ht] at m1 m2
  obtain ⟨d1, d2⟩ := hm.1
  obtain ⟨⟨b1, b2, b3, b4, b5, b6⟩, -, ⟨p1, p2, p3, p4, p5, p6, p7, p8, p9⟩, -, dF⟩ := id hm.2.1
  have k8 := get_lt hU
  have l64 := hm.2.2.2.2.2.1.2.2.2.2.2
  obtain ⟨f1, f2, -⟩ := dF (tpf s).1.2 (by omega)
  obtain ⟨x1, x2, x3, x4, x5⟩ := hm.2.2.2.2.2.2.2.2.2.2 (tpf s).1.2 u hU
  obtain ⟨pre, post, q1, q2, q3⟩ := x5
  have ea : MA.1 (tpf s).1.1 + 1 + 140 + 4 * (tpf s).1.2 = MA.2.1 (tpf s).1 := by rw [hF]
  rw [ea] at f2 q2
  have hl := get_lt hx
  have hcx : (mcs m)[pre.length + MA.2.2.1 t]? = some x := by
    rw [q1, List.append_assoc, List.getElem?_append_right (by omega), Nat.add_sub_cancel_left, List.getElem?_append_left hl]; exact hx
  obtain ⟨y1, y2, y3, y4⟩ := hm.2.2.2.1.2 _ x hcx
  have hk : pre.length + MA.2.2.1 t < 2048 := by have := get_lt hcx; omega
  have ix : IX (nI pre.length + nI (MA.2.2.1 t)) 2048 (pre.length + MA.2.2.1 t) := by rw [nI_add]; exact IX.mk (by omega) (by omega)
  refine k_X1_instruction_0 oo ?_
  refine cframe_ok (j := t) w.1.1 (by rw [w.1.2.1, ← ht]) t32 ?_
  obtain ⟨u1, H1, av1⟩ := H.opr ht
  have rf : (h.sR 28 A (some (Fa W t))).R 28 A = some (Fa W t) := by simp [n_sI, z_sI, tag_sI, I_sI, J_sI, R_sI, EI_sI, EJ_sI, ER_sI, n_sJ, z_sJ, tag_sJ, I_sJ, J_sJ, R_sJ, EI_sJ, EJ_sJ, ER_sJ, n_sR, z_sR, tag_sR, I_sR, J_sR, R_sR, EI_sR, EJ_sR, ER_sR, n_sEI, z_sEI, tag_sEI, I_sEI, J_sEI, R_sEI, EI_sEI, EJ_sEI, ER_sEI, n_sEJ, z_sEJ, tag_sEJ, I_sEJ, J_sEJ, R_sEJ, EI_sEJ, EJ_sEJ, ER_sEJ, n_sER, z_sER, tag_sER, I_sER, J_sER, R_sER, EI_sER, EJ_sER, ER_sER, n_nw, z_nw, tag_nw, I_nw, J_nw, R_nw, EI_nw, EJ_nw, ER_nw]
  refine k_X1_instruction_8 (p_s1 := some (Fa W t)) (x35 := nI x.1) (x43 := lN x.2.1) (r3 := rf) (r14 := rf) (r22 := rf) (r20 := q2) (r25 := m3) (r34 := y1) (r42 := y2) oo ?_
  rw [nI_add]
  refine cpay_ok (n := 1) (k := kf) H1 (by omega) (by omega) (fun h2 s2 u2 H2 es2 av2 em => ?_) (fun em => RZ.out u1 (ke em))
  subst es2
  have ht2 : t + 1 = (sG s (gas s + 1)).1 := ht
  obtain ⟨u3, H3, av3⟩ := H2.sat (p := MA.2.2.1 t + 1) ht2
  have hf2 : h2.R 28 A = some (Fa W t) := by rw [H2.2.2.2.1]; show some (Fa W (s.1 - 1)) = _; rw [show s.1 - 1 = t by omega]
  have t2 := H2.1.1.1
  have uu := (u1.trans u2).trans u3
  have at2 : h2.I 2562 (Fa W t) = nI (MA.2.2.1 t) := (H2.2.2.1.F ht2).2.1.1.2.2.1
  have tF2 := (H2.2.2.1.F ht2).1.1
  have hm3 := hm.ip uu.1
  obtain ⟨-, -, ⟨g1, g2, g3, g4, g5, g6, g7, g8, g9⟩, -, -⟩ := id hm3.2.1
  obtain ⟨z1, z2, z3, z4⟩ := hm3.2.2.2.1.2 _ x hcx
  obtain ⟨k0, k1⟩ := kk _ (pre.length + MA.2.2.1 t) uu H3 em (by rw [av3, av2, av1]) ⟨⟨g1, g3, g4, g7, g8⟩, hk, z2, z3⟩
  by_cases c0 : x.1 = 0
  · refine k_X1_instruction_65 (r5 := at2) oo (fun q => absurd (by rw [c0]; rfl) q) (fun _ => ?_)
    rw [nI_add]
    exact k0 c0
  · refine k_X1_instruction_65 (r5 := at2) oo (fun _ => ?_) (fun q => absurd ((nI_eq (b := 0) (by omega) (by omega)).mp q) c0)
    rw [nI_add]
    exact k1 c0
end
