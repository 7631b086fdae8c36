/-! a new key in the component's tree -/
/-- the node that goes below the new fork; what lies above it -/
def stp (k : F4) (L : Nat) : PT → Nat
  | .leaf => 0
  | .inner lv x _ l r => if lv < L then (if bt k lv = 0 then stp k L l else stp k L r) else x.1
def prn (k : F4) (L : Nat) : PT → Int32 → Int32
  | .leaf, ab => ab
  | .inner lv x _ l r, ab => if lv < L then (if bt k lv = 0 then prn k L l (nI x.1) else prn k L r (nI x.1)) else ab
theorem stp_in (k : F4) {L : Nat} (hL : L < 256) : ∀ {t : PT} {b : Nat}, WFp t b → stp k L t ∈ nds t
  | .inner lv x _ l r, b, ⟨_, h⟩ => by
    unfold stp nds
    by_cases c : lv < L
    · rw [if_pos c]
      rcases h with h | ⟨_, h3, h4, _⟩
      · omega
      · by_cases c2 : bt k lv = 0
        · rw [if_pos c2]; exact List.mem_cons_of_mem _ (List.mem_append_left _ (stp_in k hL h3))
        · rw [if_neg c2]; exact List.mem_cons_of_mem _ (List.mem_append_right _ (stp_in k hL h4))
    · rw [if_neg c]; exact List.mem_cons_self
theorem stp_ab {h : AH} {T : Nat} (k : F4) {L : Nat} (hL : L < 256) : ∀ {t : PT} {b : Nat} {ab : Int32}, WFp t b → RP h T t ab → h.EI 656 (T + 18) (stp k L t) = prn k L t ab
  | .inner lv x _ l r, b, ab, ⟨_, h⟩, ⟨⟨e1, e2, e3, e4⟩, _, _, e7, e8⟩ => by
    unfold stp prn
    by_cases c : lv < L
    · rw [if_pos c, if_pos c]
      rcases h with h | ⟨_, h3, h4, _⟩
      · omega
      · by_cases c2 : bt k lv = 0
        · rw [if_pos c2, if_pos c2]; exact stp_ab k hL h3 e7
        · rw [if_neg c2, if_neg c2]; exact stp_ab k hL h4 e8
    · rw [if_neg c, if_neg c]; exact e3
/-- what lies above is a node of the tree, not the one below; or what lies above the tree -/
theorem prn_in (k : F4) {L : Nat} (hL : L < 256) : ∀ {t : PT} {b : Nat} {ab : Int32}, WFp t b → prn k L t ab = ab ∨ ∃ a ∈ nds t, prn k L t ab = nI a
  | .inner lv x _ l r, b, ab, ⟨_, h⟩ => by
    unfold prn
    by_cases c : lv < L
    · rw [if_pos c]
      rcases h with h | ⟨_, h3, h4, _⟩
      · omega
      · right
        by_cases c2 : bt k lv = 0
        · rw [if_pos c2]
          rcases prn_in k hL h3 (ab := nI x.1) with q | ⟨a, q1, q2⟩
          · exact ⟨x.1, by simp [nds], q⟩
          · exact ⟨a, by simp [nds, q1], q2⟩
        · rw [if_neg c2]
          rcases prn_in k hL h4 (ab := nI x.1) with q | ⟨a, q1, q2⟩
          · exact ⟨x.1, by simp [nds], q⟩
          · exact ⟨a, by simp [nds, q1], q2⟩
    · rw [if_neg c]; exact Or.inl rfl
theorem nds_in_prn (k : F4) {L : Nat} (hL : L < 256) : ∀ {lv : Nat} {x : Nat × F4 × F4} {l r : PT} {b : Nat} {ab : Int32}, WFp (.inner lv x () l r) b → lv < L → ∃ a ∈ nds (.inner lv x () l r), prn k L (.inner lv x () l r) ab = nI a := by
  intro lv x l r b ab ⟨_, h⟩ c
  rcases h with h | ⟨_, h3, h4, _⟩
  · omega
  · unfold prn
    rw [if_pos c]
    by_cases c2 : bt k lv = 0
    · rw [if_pos c2]
      rcases prn_in k hL h3 (ab := nI x.1) with q | ⟨a, q1, q2⟩
      · exact ⟨x.1, by simp [nds], q⟩
      · exact ⟨a, by simp [nds, q1], q2⟩
    · rw [if_neg c2]
      rcases prn_in k hL h4 (ab := nI x.1) with q | ⟨a, q1, q2⟩
      · exact ⟨x.1, by simp [nds], q⟩
      · exact ⟨a, by simp [nds, q1], q2⟩
theorem RP.ab {h h' : AH} {T : Nat} {lv : Nat} {x : Nat × F4 × F4} {l r : PT} {ab ab' : Int32} (e : RP h T (.inner lv x () l r) ab) (hn : (nds (.inner lv x () l r)).Nodup) (hA : ∀ j ∈ nds (.inner lv x () l r), h'.EI 608 (T + 15) j = h.EI 608 (T + 15) j ∧ r4 h' (T + 7) j = r4 h (T + 7) j ∧ r4 h' (T + 9) j = r4 h (T + 9) j ∧ h'.EI 624 (T + 16) j = h.EI 624 (T + 16) j ∧ h'.EI 640 (T + 17) j = h.EI 640 (T + 17) j)
    (hB : ∀ j ∈ nds (.inner lv x () l r), j ≠ x.1 → h'.EI 656 (T + 18) j = h.EI 656 (T + 18) j) (hx : h'.EI 656 (T + 18) x.1 = ab') : RP h' T (.inner lv x () l r) ab' := by
  have sub : ∀ {t : PT} {a : Int32}, RP h T t a → (∀ j ∈ nds t, h'.EI 608 (T + 15) j = h.EI 608 (T + 15) j ∧ r4 h' (T + 7) j = r4 h (T + 7) j ∧ r4 h' (T + 9) j = r4 h (T + 9) j ∧ h'.EI 624 (T + 16) j = h.EI 624 (T + 16) j ∧ h'.EI 640 (T + 17) j = h.EI 640 (T + 17) j) → (∀ j ∈ nds t, h'.EI 656 (T + 18) j = h.EI 656 (T + 18) j) → RP h' T t a := by
    intro t
    induction t with
    | leaf => intro a _ _ _; trivial
    | inner lv x u l r ihl ihr =>
      intro a ⟨⟨e1, e2, e3, e4⟩, e5, e6, e7, e8⟩ hA hB
      obtain ⟨a1, a2, a3, a4, a5⟩ := hA x.1 (by simp [nds])
      exact ⟨⟨e1, a1.trans e2, (hB x.1 (by simp [nds])).trans e3, a2.trans e4⟩, fun c => a3.trans (e5 c), fun c => ⟨a4.trans (e6 c).1, a5.trans (e6 c).2⟩, ihl e7 (fun j hj => hA j (by simp [nds, hj])) (fun j hj => hB j (by simp [nds, hj])), ihr e8 (fun j hj => hA j (by simp [nds, hj])) (fun j hj => hB j (by simp [nds, hj]))⟩
  obtain ⟨⟨e1, e2, e3, e4⟩, e5, e6, e7, e8⟩ := e
  obtain ⟨a1, a2, a3, a4, a5⟩ := hA x.1 (by simp [nds])
  have nx := (List.nodup_cons.mp hn).1
  refine ⟨⟨e1, a1.trans e2, hx, a2.trans e4⟩, fun c => a3.trans (e5 c), fun c => ⟨a4.trans (e6 c).1, a5.trans (e6 c).2⟩, sub e7 (fun j hj => hA j (by simp [nds, hj])) (fun j hj => hB j (by simp [nds, hj]) fun q => nx (by rw [← q]; simp [hj])), sub e8 (fun j hj => hA j (by simp [nds, hj])) (fun j hj => hB j (by simp [nds, hj]) fun q => nx (by rw [← q]; simp [hj]))⟩
theorem rtn_ins {k v : F4} {nf nl L : Nat} : ∀ {t : PT}, t ≠ .leaf → rtn (ins k v nf nl L t) = (match t with | .leaf => 0 | .inner lv x _ _ _ => if lv < L then x.1 else nf)
  | .leaf, h => absurd rfl h
  | .inner lv x _ l r, _ => by
    unfold ins
    by_cases c : lv < L
    · simp only [if_pos c]; by_cases c2 : bt k lv = 0 <;> simp [c2, rtn]
    · simp only [if_neg c]; by_cases c2 : bt k L = 0 <;> simp [c2, rtn]
/-- the tree's nodes but the one below the fork and the one above it are as they were -/
theorem RP.insP {h h' : AH} {T : Nat} {k v : F4} {nf nl L : Nat} (hL : L < 256) (hf : nf < 1024) (hl : nl < 1024) (f1 : h'.EI 608 (T + 15) nf = nI L) (f2 : r4 h' (T + 7) nf = k) (l1 : h'.EI 608 (T + 15) nl = nI 256) (l2 : r4 h' (T + 7) nl = k) (l3 : r4 h' (T + 9) nl = v) (l4 : h'.EI 656 (T + 18) nl = nI nf) :
    ∀ {t : PT} {b : Nat} {ab : Int32}, WFp t b → RP h T t ab → (nds t).Nodup → (∀ n ∈ nds t, ab ≠ nI n) → h'.EI 656 (T + 18) nf = prn k L t ab → (if bt k L = 0 then h'.EI 624 (T + 16) nf = nI nl ∧ h'.EI 640 (T + 17) nf = nI (stp k L t) else h'.EI 624 (T + 16) nf = nI (stp k L t) ∧ h'.EI 640 (T + 17) nf = nI nl) →
      (∀ j ∈ nds t, h'.EI 608 (T + 15) j = h.EI 608 (T + 15) j ∧ r4 h' (T + 7) j = r4 h (T + 7) j ∧ r4 h' (T + 9) j = r4 h (T + 9) j) → (∀ j ∈ nds t, j ≠ stp k L t → h'.EI 656 (T + 18) j = h.EI 656 (T + 18) j) → h'.EI 656 (T + 18) (stp k L t) = nI nf →
      (∀ j ∈ nds t, prn k L t ab ≠ nI j → h'.EI 624 (T + 16) j = h.EI 624 (T + 16) j ∧ h'.EI 640 (T + 17) j = h.EI 640 (T + 17) j) →
      (∀ j ∈ nds t, ∀ lv, prn k L t ab = nI j → h.EI 608 (T + 15) j = nI lv → lv < 256 → if bt k lv = 0 then h'.EI 624 (T + 16) j = nI nf ∧ h'.EI 640 (T + 17) j = h.EI 640 (T + 17) j else h'.EI 624 (T + 16) j = h.EI 624 (T + 16) j ∧ h'.EI 640 (T + 17) j = nI nf) → RP h' T (ins k v nf nl L t) ab
  | .inner lv x _ l r, b, ab, hw, hr, hn, hab, fa, fc, hA, hB, hB2, hC, hD => by
    obtain ⟨w1, w2⟩ := id hw
    obtain ⟨⟨e1, e2, e3, e4⟩, e5, e6, e7, e8⟩ := id hr
    have leaf : RP h' T (.inner 256 (nl, k, v) () .leaf .leaf) (nI nf) := ⟨⟨hl, l1, l4, l2⟩, fun _ => l3, fun c => by omega, trivial, trivial⟩
    unfold ins
    by_cases c : lv < L
    · rw [if_pos c]
      rcases w2 with w2 | ⟨c1, c2, c3, c4, c5⟩
      · omega
      obtain ⟨a1, a2, a3⟩ := hA x.1 (by simp [nds])
      have nx := (List.nodup_cons.mp hn).1
      have nd := List.nodup_append.mp (List.nodup_cons.mp hn).2
      have lt : ∀ n ∈ nds l, n < 1024 := RP.lt e7
      have rt : ∀ n ∈ nds r, n < 1024 := RP.lt e8
      have inj : ∀ {a b : Nat}, a < 1024 → b < 1024 → nI a = nI b → a = b := fun ha hb q => (nI_eq (by omega) (by omega)).mp q
      by_cases cb : bt k lv = 0
      · have es : stp k L (.inner lv x () l r) = stp k L l := by simp only [stp, if_pos c, if_pos cb]
        have ep : prn k L (.inner lv x () l r) ab = prn k L l (nI x.1) := by simp only [prn, if_pos c, if_pos cb]
        rw [es] at fc hB hB2
        rw [ep] at fa hC hD
        have sin := stp_in k hL c2
        have xs : x.1 ≠ stp k L l := fun q => nx (List.mem_append_left _ (by rw [q]; exact sin))
        rw [if_pos cb]
        have IH := RP.insP hL hf hl f1 f2 l1 l2 l3 l4 c2 e7 nd.1 (fun n hn2 q => nx (List.mem_append_left _ (by rw [inj e1 (lt n hn2) q]; exact hn2))) fa fc (fun j hj => hA j (by simp [nds, hj])) (fun j hj => hB j (by simp [nds, hj])) hB2 (fun j hj => hC j (by simp [nds, hj])) (fun j hj => hD j (by simp [nds, hj]))
        have other : ∀ j ∈ nds r, prn k L l (nI x.1) ≠ nI j := fun j hj q => by
          rcases prn_in k hL c2 (ab := nI x.1) with z | ⟨a, z1, z2⟩
          · rw [z] at q; exact nx (List.mem_append_right _ (by rw [inj e1 (rt j hj) q]; exact hj))
          · rw [z2] at q; exact nd.2.2 a z1 j hj (inj (lt a z1) (rt j hj) q)
        have rne : r ≠ .leaf := fun q => by subst q; exact absurd c3 id
        have R2 : RP h' T r (nI x.1) := by
          cases r with
          | leaf => trivial
          | inner lv2 x2 u2 l2' r2 =>
            refine RP.ab e8 nd.2.1 (fun j hj => ?_) (fun j hj _ => ?_) ?_
            · obtain ⟨b1, b2, b3⟩ := hA j (List.mem_cons_of_mem _ (List.mem_append_right _ hj))
              obtain ⟨b4, b5⟩ := hC j (List.mem_cons_of_mem _ (List.mem_append_right _ hj)) (other j hj)
              exact ⟨b1, b2, b3, b4, b5⟩
            · exact hB j (List.mem_cons_of_mem _ (List.mem_append_right _ hj)) fun q => nd.2.2 _ sin j hj q.symm
            · have hx2 : x2.1 ∈ nds (.inner lv2 x2 u2 l2' r2) := by simp [nds]
              rw [hB x2.1 (List.mem_cons_of_mem _ (List.mem_append_right _ hx2)) fun q => nd.2.2 _ sin _ hx2 q.symm]
              exact e8.1.2.2.1
        refine ⟨⟨e1, a1.trans e2, (hB x.1 (by simp [nds]) xs).trans e3, a2.trans e4⟩, fun z => by omega, fun _ => ?_, IH, R2⟩
        obtain ⟨m1, m2⟩ := e6 c1
        cases l with
        | leaf => exact absurd c2 id
        | inner lv3 x3 u3 l3' r3 =>
          rw [rtn_ins (by simp)]
          by_cases c9 : lv3 < L
          · have ne : prn k L (.inner lv3 x3 u3 l3' r3) (nI x.1) ≠ nI x.1 := fun q => by
              obtain ⟨a, z1, z2⟩ := nds_in_prn k hL c2 c9 (ab := nI x.1)
              rw [z2] at q
              exact nx (List.mem_append_left _ (by rw [← inj (lt a z1) e1 q]; exact z1))
            obtain ⟨b4, b5⟩ := hC x.1 (by simp [nds]) ne
            simp only [if_pos c9]
            exact ⟨b4.trans m1, b5.trans m2⟩
          · have eq : prn k L (.inner lv3 x3 u3 l3' r3) (nI x.1) = nI x.1 := by simp only [prn, if_neg c9]
            have := hD x.1 (by simp [nds]) lv eq e2 c1
            rw [if_pos cb] at this
            simp only [if_neg c9]
            exact ⟨this.1, this.2.trans m2⟩
      · have es : stp k L (.inner lv x () l r) = stp k L r := by simp only [stp, if_pos c, if_neg cb]
        have ep : prn k L (.inner lv x () l r) ab = prn k L r (nI x.1) := by simp only [prn, if_pos c, if_neg cb]
        rw [es] at fc hB hB2
        rw [ep] at fa hC hD
        have sin := stp_in k hL c3
        have xs : x.1 ≠ stp k L r := fun q => nx (List.mem_append_right _ (by rw [q]; exact sin))
        rw [if_neg cb]
        have IH := RP.insP hL hf hl f1 f2 l1 l2 l3 l4 c3 e8 nd.2.1 (fun n hn2 q => nx (List.mem_append_right _ (by rw [inj e1 (rt n hn2) q]; exact hn2))) fa fc (fun j hj => hA j (by simp [nds, hj])) (fun j hj => hB j (by simp [nds, hj])) hB2 (fun j hj => hC j (by simp [nds, hj])) (fun j hj => hD j (by simp [nds, hj]))
        have other : ∀ j ∈ nds l, prn k L r (nI x.1) ≠ nI j := fun j hj q => by
          rcases prn_in k hL c3 (ab := nI x.1) with z | ⟨a, z1, z2⟩
          · rw [z] at q; exact nx (List.mem_append_left _ (by rw [inj e1 (lt j hj) q]; exact hj))
          · rw [z2] at q; exact nd.2.2 j hj a z1 (inj (rt a z1) (lt j hj) q).symm
        have L2 : RP h' T l (nI x.1) := by
          cases l with
          | leaf => trivial
          | inner lv2 x2 u2 l2' r2 =>
            refine RP.ab e7 nd.1 (fun j hj => ?_) (fun j hj _ => ?_) ?_
            · obtain ⟨b1, b2, b3⟩ := hA j (List.mem_cons_of_mem _ (List.mem_append_left _ hj))
              obtain ⟨b4, b5⟩ := hC j (List.mem_cons_of_mem _ (List.mem_append_left _ hj)) (other j hj)
              exact ⟨b1, b2, b3, b4, b5⟩
            · exact hB j (List.mem_cons_of_mem _ (List.mem_append_left _ hj)) fun q => nd.2.2 j hj _ sin q
            · have hx2 : x2.1 ∈ nds (.inner lv2 x2 u2 l2' r2) := by simp [nds]
              rw [hB x2.1 (List.mem_cons_of_mem _ (List.mem_append_left _ hx2)) fun q => nd.2.2 _ hx2 _ sin q]
              exact e7.1.2.2.1
        refine ⟨⟨e1, a1.trans e2, (hB x.1 (by simp [nds]) xs).trans e3, a2.trans e4⟩, fun z => by omega, fun _ => ?_, L2, IH⟩
        obtain ⟨m1, m2⟩ := e6 c1
        cases r with
        | leaf => exact absurd c3 id
        | inner lv3 x3 u3 l3' r3 =>
          rw [rtn_ins (by simp)]
          by_cases c9 : lv3 < L
          · have ne : prn k L (.inner lv3 x3 u3 l3' r3) (nI x.1) ≠ nI x.1 := fun q => by
              obtain ⟨a, z1, z2⟩ := nds_in_prn k hL c3 c9 (ab := nI x.1)
              rw [z2] at q
              exact nx (List.mem_append_right _ (by rw [← inj (rt a z1) e1 q]; exact z1))
            obtain ⟨b4, b5⟩ := hC x.1 (by simp [nds]) ne
            simp only [if_pos c9]
            exact ⟨b4.trans m1, b5.trans m2⟩
          · have eq : prn k L (.inner lv3 x3 u3 l3' r3) (nI x.1) = nI x.1 := by simp only [prn, if_neg c9]
            have := hD x.1 (by simp [nds]) lv eq e2 c1
            rw [if_neg cb] at this
            simp only [if_neg c9]
            exact ⟨this.1.trans m1, this.2⟩
    · have es : stp k L (.inner lv x () l r) = x.1 := by simp only [stp, if_neg c]
      have ep : prn k L (.inner lv x () l r) ab = ab := by simp only [prn, if_neg c]
      rw [es] at fc hB hB2
      rw [ep] at fa hC hD
      rw [if_neg c]
      have sub : RP h' T (.inner lv x () l r) (nI nf) := RP.ab hr hn (fun j hj => by
        obtain ⟨b1, b2, b3⟩ := hA j hj
        obtain ⟨b4, b5⟩ := hC j hj (hab j hj)
        exact ⟨b1, b2, b3, b4, b5⟩) hB hB2
      by_cases cb : bt k L = 0
      · rw [if_pos cb] at fc ⊢
        exact ⟨⟨hf, f1, fa, f2⟩, fun z => by omega, fun _ => fc, leaf, sub⟩
      · rw [if_neg cb] at fc ⊢
        exact ⟨⟨hf, f1, fa, f2⟩, fun z => by omega, fun _ => fc, sub, leaf⟩
