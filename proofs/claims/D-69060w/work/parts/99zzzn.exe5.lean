/-! execute: calls together, and taken over -/
def bnS (bn : Int64) (rr : Nat → TxR) (f : Nat) : Nat → Int64
  | 0 => bn
  | i + 1 => bnS bn rr f i + lN (if (rr (f + i)).1 = 3 then 0 else (rr (f + i)).2.2.2.1)
/-- what is written at calls done together -/
def PEX (PU : Nat → Nat → Prop) (y : Ly) (lo hi f a : Nat) : Prop := (PTg PU y f a ∨ [2703, 1025, 2702, 10, 11, 12].contains f = true) ∨ PXE y lo hi f a
/-- for calls -/
def zca (c : Cy) (st : Lw) (f la n : Nat) : Cz := ((st, f, la, n), (fun t r => FIN c.2.2.1 (c.2.2.2.1 t) r ∧ RTY c.2.2.1 (c.2.2.2.1 t) (-26 * ((t : Int) + 1)) r ∧ RTZ c.2.2.1 (c.2.2.2.1 t) r), (fun t s => RUN c.2.2.1 (c.2.2.2.1 t) s ∧ PIq c.2.2.1 (c.2.2.2.1 t).2.2.1 (c.2.2.2.1 t).1 s ∧ (c.2.2.2.1 t).2.2.1 ≤ 20000), fun t r => lR1 (c.2.2.2.1 t).2.2.1 false r)
theorem STO.pg {c : Cy} {z : Cz} {h h' : AH} {st : Lw} {PU : Nat → Nat → Prop} (ly : LYD c.1 (zn z)) (h32 : zl z ≤ 32) (hPU : ∀ f a, PU f a → PGU c z f a ∨ f ≠ 1164) (q : Fr (fun f a => PTg PU c.1 f a ∨ [2703, 1025, 2702, 10, 11, 12].contains f = true) h h') (s : STO h (yE c.1) st) : STO h' (yE c.1) st := ⟨s.1, s.2.1, fun e he => by
  rw [q.I (fun y => ?_)]
  · exact s.2.2 e he
  · rcases y with (y | ⟨y | y, -⟩) | y
    · rcases hPU _ _ y with (⟨j, t, j1, ⟨t1, t2⟩, y⟩ | ⟨j, j1, y⟩ | y) | y
      · exact PG.se ly j1 (by omega) _ _ rfl (by omega) (by omega) y
      · exact PG.se (t := 0) ly j1 (by omega) _ _ rfl (by omega) (by omega) (PG0.g _ _ y)
      · exact absurd y (by decide)
      · exact y rfl
    · exact absurd y (by decide)
    · exact absurd y (by decide)
    · exact absurd y (by decide)⟩
theorem lR1_p {lim : Nat} {pub : Bool} {r : TxR} {x : Pc × Cn × Bool} (h : x ∈ lR1 lim pub r) : r.1 ≠ 3 ∧ ∃ e ∈ r.2.2.1, x.1 = e.1 := by
  unfold lR1 at h
  cases he : r.2.2.1 with
  | nil => rw [he] at h; simp at h
  | cons e0 es =>
    rw [he] at h
    simp only at h
    unfold lfE at h
    by_cases c3 : r.1 = 3
    · rw [if_pos c3] at h; simp at h
    · rw [if_neg c3] at h
      refine ⟨c3, ?_⟩
      rcases List.mem_cons.mp h with z | z
      · exact ⟨e0, List.mem_cons_self .., by rw [z]⟩
      · unfold lfl at z
        obtain ⟨y, y1, y2⟩ := List.mem_map.mp z
        exact ⟨y, List.mem_cons_of_mem _ (List.mem_filter.mp y1).1, by rw [← y2]⟩
section
variable {c : Cy} {B n : Nat} {K : Outcome → AH → Prop} {D : Nat → Nat}
theorem exe_calls {XX : Xt} (oo : OK e_X1_execute XX) {f la dn VA nv wn u tn : Nat} {wv : Nat → Nat} {bn : Int64} {st : Lw} {g : Gg} {h : AH} {l : List Nat} {o : Lc} {v2 : Value} (r : CML c n XX.G B st g h l o) (hL : ∀ k, k < 32 → xL g k = []) (e1 : h.I 5 (yA c.1) = nI f) (e2 : h.I 6 (yA c.1) = nI la) (hfl : f < la) (hla : la ≤ 32) (hdn : dn ≤ 1000) (hpb : ∀ k, f ≤ k → k < la → c.2.2.2.2 k = false ∧ (c.2.2.2.1 k).2.2.1 ≤ 20000 ∧ AGv (c.2.2.2.1 k).2.2.2.2.2) (hw : WV c.2.2.1 ∧ DW c.2.2.1 D ∧ ∀ n m, c.2.2.1 n = some m → (mcs m).length ≤ 2048) (hn : 0 < n) (hn8 : n ≤ 8) (hB : B + 325600 ≤ XX.G.ln) (hS : STI c.2.2.1 st) (wf : WVF h (yA c.1) VA nv wn wv) (hu : h.I 29 (yA c.1) = nI u ∧ u < 150000) (htn : h.I 30 (yA c.1) = nI tn ∧ tn < n) (hbn : h.J 18 (yA c.1) = bn) (hd : 79 ≤ XX.d)
    (kk : ∀ h' l' o' g' (rr : Nat → TxR) (sq : Nat → Lw), sq 0 = st → (∀ i, f + i < la → MTX c.2.2.1 (c.2.2.2.1 (f + i)) (vsw (sq i)) (rr (f + i)) ∧ sq (i + 1) = tkOv (sq i) (lR1 (c.2.2.2.1 (f + i)).2.2.1 false (rr (f + i))) ∧ TXO h' c.1 (f + i) false (rr (f + i)) ∧ h'.I 2701 (yX c.1 (f + i)) = nI 1 ∧ RTY c.2.2.1 (c.2.2.2.1 (f + i)) (-26 * (((f + i : Nat) : Int) + 1)) (rr (f + i)) ∧ (plw (lR1 (c.2.2.2.1 (f + i)).2.2.1 false (rr (f + i)))).Nodup ∧ ∀ x ∈ lR1 (c.2.2.2.1 (f + i)).2.2.1 false (rr (f + i)), x.1.1 ≠ 2 ∧ 1 ≤ x.1.1) → (∀ i, f + i ≤ la → STI c.2.2.1 (sq i)) → CML c n XX.G B (sq (la - f)) g' h' l' o' → (∀ k, k < 32 → xL g' k = []) → h'.J 18 (yA c.1) = bnS bn rr f (la - f) → Fr (PEX (PGU c (zca c st f la n)) c.1 f la) h h' → ((∀ a, h'.R 2698 a = h.R 2698 a) ∧ h'.I 32 (yA c.1) = h.I 32 (yA c.1)) → (∃ u tn, h'.I 29 (yA c.1) = nI u ∧ u < 150000 ∧ h'.I 30 (yA c.1) = nI tn ∧ tn < n) → V XX K 164 [.ref (yA c.1), .int (nI (dn + dnc rr f (la - f))), .int (nI la)] [] h') : V XX K 101 [.ref (yA c.1), .int (nI dn), v2] [] h := by
  obtain ⟨⟨sx, ly⟩, -, -, -, -, -, -, so⟩ := id r
  have t0 := sx.1.1.1
  obtain ⟨⟨w, h256⟩, hE, hsz⟩ := id hS
  have st4 : ∀ x ∈ st, x.1.1 < 4 := fun x hx => (w.2 x hx).2
  have evl : EVL 0 (vsw st) := by
    unfold EVL
    rw [vsw_4]
    have : (lN st.length).toInt = (st.length : Int) := lN_toI (by omega)
    show 0 ≤ (lN st.length).toInt ∧ (lN st.length).toInt ≤ 256
    rw [this]; omega
  refine k_X1_execute_101 oo ?_
  have gm : GRM c (zca c st f la n) XX.G B f g h l o := CML.grm (z := zca c st f la n) r hL e1 e2 hla
  have zc : ZCA c (zca c st f la n) := ⟨fun _ _ => Iff.rfl, fun _ _ => Iff.rfl, fun _ _ => rfl, hpb⟩
  refine tog_calls (z := zca c st f la n) (D := D) gm zc ⟨hw, ⟨st4, hsz⟩, ⟨hn8, hla⟩, hB⟩ ⟨hE, evl⟩ hn (Nat.le_of_lt hfl) w h256 (by omega) wf hu htn (fun h1 g1 l1 o1 r1 lw tg fr idl ut => ?_)
  obtain ⟨lw, xlo⟩ := lw
  obtain ⟨tg1, tg2⟩ := tg
  have nPT : ∀ l : List Nat, l.all (fun f => !((3712 ≤ f && f ≤ 3718) || f == 1280 || pgL.contains f)) = true → l.all (fun f => !((pgW ++ pgT ++ pgX).contains f)) = true → l.all (fun f => !([29, 30, 2703, 1025, 2702, 10, 11, 12].contains f)) = true → ∀ f' a, l.contains f' = true → ¬ (PTg (PGU c (zca c st f la n)) c.1 f' a ∨ [2703, 1025, 2702, 10, 11, 12].contains f' = true) := fun l h1 h2 h3 f' a hf y => by
    rw [List.all_eq_true] at h3
    have h3 := h3 f' (List.contains_iff_mem.mp hf)
    rw [Bool.not_eq_true', Bool.eq_false_iff] at h3
    rcases y with (y | ⟨y, -⟩) | y
    · exact PGU.no h1 h2 f' a hf y
    · apply h3
      rw [List.contains_iff_mem]
      rcases y with y | y <;> (rw [y]; decide)
    · apply h3
      rw [List.contains_iff_mem] at y ⊢
      exact List.mem_cons_of_mem _ (List.mem_cons_of_mem _ y)
  have sx1 : GSX c n XX.G h1 := sx.fr fr (nPT _ (by decide) (by decide) (by decide))
  have so1 : STO h1 (yE c.1) st := STO.pg (z := zca c st f la n) ly hla (fun _ _ y => Or.inl y) fr so
  have m1 : CML c n XX.G B st g1 h1 l1 o1 := GRL.cml (z := zca c st f la n) r1 idl sx1 so1
  have f1 : h1.I 5 (yA c.1) = nI f := by rw [fr.I (nPT [5] rfl rfl rfl _ _ rfl)]; exact e1
  have la1 : h1.I 6 (yA c.1) = nI la := by rw [fr.I (nPT [6] rfl rfl rfl _ _ rfl)]; exact e2
  have b1 : h1.J 18 (yA c.1) = bn := by rw [fr.J (nPT [18] rfl rfl rfl _ _ rfl)]; exact hbn
  have t01 := sx1.1.1.1
  refine k_X1_execute_105 (r2 := f1) oo ?_
  have ndl : ∀ i, f + i < la → (plw (xL g1 (f + i))).Nodup ∧ ∀ x ∈ xL g1 (f + i), x.1.1 ≠ 2 ∧ 1 ≤ x.1.1 := fun i hi => by
    obtain ⟨-, ⟨a2, a3⟩, a4, -⟩ := tg1 (f + i) (Nat.le_add_right ..) hi
    refine ⟨?_, fun x hx => ⟨(lw.1 (f + i) (Nat.le_add_right ..) hi x hx).2.1, ?_⟩⟩
    case refine_2 =>
      rw [a4] at hx
      obtain ⟨c3, e, e1, e2⟩ := lR1_p hx
      obtain ⟨j, hj⟩ := List.getElem?_of_mem e1
      rw [e2]
      exact ((a3.1 c3).2.2 j e hj).1.1.1
    rw [a4]
    obtain ⟨e0, es, q1, -⟩ := a2.2.1
    exact lR1_nd ⟨e0, es, q1⟩ (fun c3 => (a3.1 c3).1)
  have sti : ∀ i, f + i ≤ la → STI c.2.2.1 (ssq st (xL g1) f i) := fun i => by
    induction i with
    | zero => exact fun _ => hS
    | succ i ih =>
      intro hi
      obtain ⟨⟨s1, s2⟩, s3, s4⟩ := ih (by omega)
      obtain ⟨-, ⟨a2, a3⟩, a4, -⟩ := tg1 (f + i) (Nat.le_add_right ..) (by show f + i < la; omega)
      obtain ⟨q1, q2⟩ := tg2 (i + 1) hi
      have lv := lw.1 (f + i) (Nat.le_add_right ..) (by show f + i < la; omega)
      have nd := (ndl i (by omega)).1
      exact ⟨⟨q1, q2⟩, EVW.tk s1 nd s3 lv q2, tkO_sz s4 (fun x hx v hv => (lw.2 (f + i) (by omega) x hx v hv).1)⟩
  refine exe_110 (sq := ssq st (xL g1) f) (Lf := xL g1) (rr := xO g1) (pub := fun _ => false) (bn := bnS bn (xO g1) f) (J := fun _ h' => (∀ a, h'.R 2698 a = h1.R 2698 a) ∧ h'.I 32 (yA c.1) = h1.I 32 (yA c.1)) (h0 := h1) oo (by omega) (Nat.le_of_lt hfl) hla hdn la1 (fun k k1 k2 => ?_) (fun i h2 l2 o2 g2 K2 hi m2 xl2 tx2 fr2 hb2 j2 k2 => ?_) (fun i h2 h3 q3 j2 => ⟨fun a => by rw [q3.R (fun z => absurd z (by decide))]; exact j2.1 a, by rw [q3.I (fun z => absurd z (by decide))]; exact j2.2⟩) (fun h2 l2 o2 g2 m2 xl2 dn2 fr2 hb2 j2 => ?_) (la - f) 0 rfl h1 l1 o1 g1 m1 (fun k => by rw [if_neg (by omega)]) (fun k k1 k2 => by omega) (Fr.refl h1) b1 ⟨fun _ => rfl, rfl⟩
  · obtain ⟨-, ⟨a2, -⟩, -, a5⟩ := tg1 k k1 k2
    exact ⟨a5, by have := a2.1.1; omega⟩
  · obtain ⟨-, ⟨a2, a3⟩, a4, -⟩ := tg1 (f + i) (Nat.le_add_right ..) hi
    have lv := lw.1 (f + i) (Nat.le_add_right ..) hi
    have lsz := lw.2 (f + i) (by omega)
    obtain ⟨⟨⟨⟨⟨d1, d2, d3, d4, d5, d6⟩, -⟩, bk2, -⟩, ly2⟩, gt2, -, et2, -, v2', -, so2⟩ := id m2
    obtain ⟨x1, x2, x3, x4⟩ := bk2.2.2 (f + i) (by omega)
    obtain ⟨y1, y2, y3, y4⟩ := gt2 (f + i) (by omega)
    rw [xl2] at y3
    have far := (ly2.2.2 (f + i) (by omega)).1
    have us : (if (xO g1 (f + i)).1 = 3 then 0 else (xO g1 (f + i)).2.2.2.1) < 2147483648 := by
      have h1 := a2.1.2.1
      have h2 := (hpb (f + i) (by omega) hi).2.1
      split <;> omega
    refine takeOver_ok (t := f + i) (MA := c.2.1) d1 d2 d5 x2 x3 (by omega) v2' et2 y3 so2 hb2 tx2.1.2.2 us (fun x hx => (lv x hx).2.1) (fun x hx v hv => ?_) (tg2 (i + 1) (by show f + (i + 1) ≤ la; omega)).2 (by omega) (fun h3 l3 o3 f3 v3 e3 e4 o33 tg3 st3 b3 => ?_)
    · obtain ⟨c1, c2, c3, c4⟩ := lv x hx
      have tt := c4 v hv
      rw [ctf tt] at c1
      have k3 : x.1.1 = 3 := Classical.byContradiction fun q => by
        rw [c1.2.1 q] at hv; cases hv
      exact ⟨⟨by omega, tt⟩, (lsz x hx v hv).2⟩
    · have f3' : Fr (PTm (yA c.1) (yX c.1 (f + i)) (yE c.1) (yL c.1 (f + i))) h2 h3 := f3.mono fun f a z => Or.inl z
      exact k2 h3 l3 o3 (m2.ov (by omega) f3' v3 e3 e4 o33 tg3 st3) f3' b3 ⟨fun a => by rw [f3.R (PTb.no (l := [2698]) rfl rfl _ _ rfl)]; exact j2.1 a, by rw [f3.I (PTb.no (l := [32]) rfl rfl _ _ rfl)]; exact j2.2⟩
  · refine kk h2 l2 o2 g2 (xO g1) (ssq st (xL g1) f) rfl (fun i hi => ?_) sti m2 (fun k hk => ?_) hb2 ((fr.mono fun f a z => Or.inl z).trans (fr2.mono fun f a z => Or.inr z)) ⟨fun a => by rw [j2.1 a, fr.R (nPT [2698] rfl rfl rfl _ _ rfl)], by rw [j2.2, fr.I (nPT [32] rfl rfl rfl _ _ rfl)]⟩ ?_
    · obtain ⟨a1, ⟨a2, -⟩, a4, a5⟩ := tg1 (f + i) (Nat.le_add_right ..) hi
      rw [show f + i - (zca c st f la n).1.2.1 = i from Nat.add_sub_cancel_left ..] at a1
      refine ⟨a1, by rw [← a4]; rfl, a5.fr fr2 (fun f hf a _ => PXE.no (l := txF ++ resF) rfl rfl f a hf), dn2 (f + i) (by omega) hi, a2, a4 ▸ (ndl i hi).1, a4 ▸ (ndl i hi).2⟩
    · rw [xl2]
      split
      · rfl
      · rename_i q
        exact xlo k hk q
    · obtain ⟨u', tn', z1, z2, z3, z4⟩ := ut
      exact ⟨u', tn', by rw [fr2.I (PXE.no (l := [29]) rfl rfl _ _ rfl)]; exact z1, z2, by rw [fr2.I (PXE.no (l := [30]) rfl rfl _ _ rfl)]; exact z3, z4⟩
end
