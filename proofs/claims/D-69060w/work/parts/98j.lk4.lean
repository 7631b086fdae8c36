/-! the twin's looker: abilities, references taken, what is live -/
theorem abl_b {m : Md} : ∀ {t : Ty}, bas t = true → abl m t = if t.head? = some 7 then (match sidx t with | some k => sab m k | none => 7) &&& 7 else match sidx t with | some k => sab m k | none => 7
  | [], h => by cases h
  | b :: t, h => by
    rcases bas_c h with ⟨e, h1, h2⟩ | ⟨h1, h2⟩ | ⟨h1, h2⟩
    · subst e
      unfold abl
      rw [if_neg (by omega), if_neg (by omega), if_neg (by omega)]
      simp [sidx]
    · subst h1
      match t, h2 with
      | [k], _ => simp [abl, sidx]
    · subst h1
      have ih := abl_b (m := m) h2
      have hne : t ≠ [] := fun z => by rw [z] at h2; cases h2
      rw [sidx_b (by decide) hne]
      simp only [abl, List.head?_cons, if_true]
      rw [ih]
      split
      · rw [and7]
      · rfl
theorem and_x8 {a : Nat} (h : a ≤ 15) : (nI a &&& (-9 : Int32)) = nI (a &&& 7) := by
  have : ∀ a : Fin 16, (nI a.val &&& (-9 : Int32)) = nI (a.val &&& 7) := by decide +kernel
  exact this ⟨a, by omega⟩
theorem labl_ok {G : Gt} {d : Nat} {h : AH} {K : Outcome → AH → Prop} {O U n : Nat} {B : Nat → Nat} {m : Md} {t : Ty} (hs : LU h O U n B m) (h4 : ab4 m) (ht : tOK m t) (hd : 2 ≤ d) (kk : K (.returned (some (.int (nI (abl m t))))) h) : MW G d e_X25_abilitiesFor [.ref O, .long (lN (tyc t))] h K := by
  refine st_X25_abilitiesFor fun X o hG hD _ => ?_
  subst hG; subst hD
  obtain ⟨hs1, hs2, hs3, hs4⟩ := id hs
  have t0 := hs1.1
  have t1 := hs3.1.1
  have tv := ht.tv.1
  refine k_X25_abilitiesFor_0 o ?_
  refine lirf_ok tv (by omega) ?_
  cases hr : isRf t with
  | true =>
    refine k_X25_abilitiesFor_4 o (fun c => absurd (show bI true = 0 from c) (by decide)) (fun _ => ?_)
    refine k_X25_abilitiesFor_7 o ?_
    obtain ⟨b, r, e, hb, hf⟩ := ht.rst hr
    have e2 : abl m t = 3 := by
      subst e
      unfold abl
      rw [if_neg (by omega), if_pos hb]
    rw [e2] at kk
    exact kk
  | false =>
    refine k_X25_abilitiesFor_4 o (fun _ => ?_) (fun c => absurd rfl c)
    have hb : bas t = true := by
      obtain ⟨-, z | ⟨b', r', e, hb', -⟩, -⟩ := id ht
      · exact z.1
      · subst e
        have hr : (b' == 8 || b' == 9) = false := hr
        simp at hr; omega
    have hab := abl_b (m := m) hb
    have hsx := sidx_n ht.1
    obtain ⟨h1, h2, b, r, e, h3, h4'⟩ := id tv
    have el : t.length = r.length + 1 := by rw [e]; rfl
    have hlt := tyc_lt h1
    refine k_X25_abilitiesFor_9 o ?_
    refine lbyt_ok tv ?_
    refine k_X25_abilitiesFor_13 o ?_
    refine lbof_ok (k := 0) tv (by omega) ?_
    refine k_X25_abilitiesFor_19 o ?_
    rw [nI_sub (by omega)]
    refine lbof_ok tv (by omega) ?_
    have ev : tyc t / 256 ^ (t.length - 1) % 256 = b := by subst e; exact tyc_hd h1
    rw [ev]
    have eh : t.head? = some b := by rw [e]; rfl
    rw [eh] at hab
    have hbb := sab_le h4.1 h4.2
    rw [Nat.pow_zero, Nat.div_one]
    -- behind the abilities of the innermost
    have fin : ∀ vv a, (vv : Bool) = (b == 7) → (a : Nat) = (match sidx t with | some k => sab m k | none => 7) → V X K 81 [.ref O, .long (lN (tyc t)), nov, .int (nI t.length), .int (nI (tyc t % 256)), .int (bI vv), .int (bI (sidx t).isSome), nov] [.int (nI a)] h := by
      intro vv a hv ha
      rw [← ha] at hab
      have ha15 : a ≤ 15 := by
        rw [ha]; split
        · exact hbb _
        · decide
      cases hv7 : (b == 7) with
      | true =>
        rw [hv7] at hv; subst hv
        have hv7 : b = 7 := by simpa using hv7
        rw [if_pos (by rw [hv7])] at hab
        refine k_X25_abilitiesFor_81 o (fun c => absurd (show bI true = 0 from c) (by decide)) (fun _ => ?_)
        refine k_X25_abilitiesFor_88 o ?_
        rw [and_x8 ha15]
        refine k_X25_abilitiesFor_98 o ?_
        rw [hab] at kk; exact kk
      | false =>
        rw [hv7] at hv; subst hv
        have hv7 : ¬ b = 7 := by simpa using hv7
        rw [if_neg (by simpa using hv7)] at hab
        refine k_X25_abilitiesFor_81 o (fun _ => ?_) (fun c => absurd rfl c)
        refine k_X25_abilitiesFor_96 o ?_
        refine k_X25_abilitiesFor_98 o ?_
        rw [hab] at kk; exact kk
    have mid : ∀ vv, (vv : Bool) = (b == 7) → V X K 38 [.ref O, .long (lN (tyc t)), nov, .int (nI t.length), .int (nI (tyc t % 256)), nov, nov, nov] [.int (bI vv)] h := by
      intro vv hv
      have no : sidx t = none → V X K 59 [.ref O, .long (lN (tyc t)), nov, .int (nI t.length), .int (nI (tyc t % 256)), .int (bI vv), nov, nov] [] h := fun hn => by
        refine k_X25_abilitiesFor_59 o ?_
        refine k_X25_abilitiesFor_60 o (fun _ => ?_) (fun c => absurd rfl c)
        refine k_X25_abilitiesFor_79 o ?_
        have := fin vv 7 hv (by rw [hn])
        rw [hn] at this
        exact this
      refine k_X25_abilitiesFor_38 o (fun c => ?_) (fun c => ?_)
      · have c := (nI_leI (by omega) (by omega)).mp c
        refine no ?_
        have : tyc t < 256 := by
          have : t.length = 1 := by omega
          rw [this] at hlt; omega
        rw [hsx, if_neg (by omega)]
      · refine k_X25_abilitiesFor_45 o ?_
        refine lbof_ok (k := 1) tv (by omega) ?_
        rw [Nat.pow_one]
        refine k_X25_abilitiesFor_50 o (fun c => ?_) (fun c => ?_)
        · have c : ¬ tyc t / 256 % 256 = 6 := fun z => c (by rw [z])
          exact no (by rw [hsx, if_neg c])
        · have c : tyc t / 256 % 256 = 6 := (nI_eq (by omega) (by omega)).mp c
          rw [if_pos c] at hsx
          refine k_X25_abilitiesFor_55 o ?_
          refine k_X25_abilitiesFor_60 o (fun c => absurd (show bI true = 0 from c) (by decide)) (fun _ => ?_)
          refine k_X25_abilitiesFor_67 o ?_
          refine uabl_ok hs3 hs4 (ht.2.2 _ hsx) (by omega) ?_
          refine k_X25_abilitiesFor_76 o ?_
          have := fin vv (sab m (tyc t % 256)) hv (by rw [hsx])
          rw [hsx] at this
          exact this
    refine k_X25_abilitiesFor_28 o (fun c => ?_) (fun c => ?_)
    · refine k_X25_abilitiesFor_37 o ?_
      refine mid false ?_
      have : ¬ b = 7 := fun z => c (by rw [z])
      simp [this]
    · refine k_X25_abilitiesFor_33 o ?_
      refine mid true ?_
      have : b = 7 := (nI_eq (by omega) (by omega)).mp c
      simp [this]
theorem lhas_ok {G : Gt} {d : Nat} {h : AH} {K : Outcome → AH → Prop} {O U n a : Nat} {B : Nat → Nat} {m : Md} {t : Ty} (hs : LU h O U n B m) (h4 : ab4 m) (ht : tOK m t) (ha : a < 16) (hd : 3 ≤ d) (kk : K (.returned (some (.int (bI (hsA m t a))))) h) : MW G d e_X25_has [.ref O, .long (lN (tyc t)), .int (nI a)] h K := by
  refine st_X25_has fun X o hG hD hf => ?_
  subst hG; subst hD
  have t0 := hs.1.1
  have hbl := abl_le h4 t
  refine k_X25_has_0 o ?_
  refine labl_ok hs h4 ht (by omega) ?_
  have hle : abl m t &&& a ≤ 15 := Nat.le_trans Nat.and_le_left hbl
  unfold hsA at kk
  refine k_X25_has_5 o (fun c => ?_) (fun c => ?_)
  · rw [nI_and (by omega) (by omega)] at c
    have c : abl m t &&& a = 0 := (nI_eq (b := 0) (by omega) (by omega)).mp c
    rw [c] at kk
    refine k_X25_has_14 o ?_
    refine k_X25_has_15 o ?_
    exact kk
  · rw [nI_and (by omega) (by omega)] at c
    have c : ¬ abl m t &&& a = 0 := fun z => c (by rw [z]; rfl)
    have e : (abl m t &&& a != 0) = true := by simp [c]
    rw [e] at kk
    refine k_X25_has_10 o ?_
    refine k_X25_has_15 o ?_
    exact kk
theorem lwri_m {G : Gt} {d : Nat} {h : AH} {K : Outcome → AH → Prop} {x : Int64} (hd : 1 ≤ d) (kk : ∀ b, (∀ t, TV t → x = lN (tyc t) → b = isWr t) → K (.returned (some (.int (bI b)))) h) : MW G d e_X25_writes [.long x] h K := by
  by_cases c : ∃ t, TV t ∧ x = lN (tyc t)
  · obtain ⟨t, ht, rfl⟩ := c
    exact lwri_ok ht hd (kk _ fun s hs e => by rw [(lN_tyc ht hs).mp e])
  · exact lwri_any hd fun b => kk b fun t ht e => absurd ⟨t, ht, e⟩ c
/-- a reference of any type, or of this one -/
def rtg (q : Option Ty) (t : Ty) : Bool := isRf t && (match q with | none => true | some s => t.tail == s)
def fTR (q : Option Ty) (w : Bool) (x : Ts) : Except Nat Ts := eb (tk x.2.1) fun r => eb (nee (rtg q r.1.1) 3) fun _ => eb (nee (!w || isWr r.1.1) 7) fun _ => .ok (some r.1, r.2, x.2.2)
theorem eb_a {α β γ : Type} {r : Except Nat α} {f : α → Except Nat β} {g : β → Except Nat γ} : eb (eb r f) g = eb r fun a => eb (f a) g := by cases r <;> rfl
theorem eb_err {α β : Type} {r : Except Nat α} {w : Nat} (h : r = .error w) (f : α → Except Nat β) : eb r f = .error w := by rw [h]; rfl
theorem ltakR_ok {G : Gt} {d : Nat} {h : AH} {K : Outcome → AH → Prop} {O : Nat} {m : Md} {lt : List Ty} {e : Except Nat Ts} {q : Option Ty} {w : Bool} {v : Int64} (hs : SLk h O) (hr : TRs h O m lt e) (hv : match q with | none => v = 0 | some t => v = lN (tyc t) ∧ TV t) (hd : 2 ≤ d) (kk : ∀ h', Fq (FS tkG) h h' → TRs h' O m lt (eb e (fTR q w)) → K (.returned none) h') : MW G d e_X25_takeReference [.ref O, .long v, .int (bI w)] h K := by
  refine st_X25_takeReference fun X o hG hD _ => ?_
  subst hG; subst hD
  have s0 := hs.1
  refine k_X25_takeReference_0 o ?_
  refine ltake_ok hs hr (by omega) fun h1 f1 r1 => ?_
  have s1 : SLk h1 O := hs.fr f1.1 (FS.no rfl)
  have u0 := s1.1
  have ee : eb e (fTR q w) = eb (eb e fTk) fun x => match x.1 with | some y => eb (nee (rtg q y.1) 3) fun _ => eb (nee (!w || isWr y.1) 7) fun _ => .ok x | none => .ok x := by
    rw [eb_a]
    congr 1
    funext x
    obtain ⟨p, s, l⟩ := x
    unfold fTR fTk
    cases s with
    | nil => rfl
    | cons y s => rfl
  rw [ee] at kk
  generalize hee : eb e fTk = e1 at *
  cases e1 with
  | error w' =>
    obtain ⟨z1, z2, -⟩ := id (r1 : TBd h1 O w')
    refine k_X25_takeReference_4 o (fun c => absurd c (nI_nz z2)) (fun _ => ?_)
    refine k_X25_takeReference_11 o ?_
    exact kk h1 f1 r1
  | ok x =>
    obtain ⟨y, e1, e2, e3, e4, z, e5, -⟩ := fTk_ok hr hee
    rw [eb_k, e1] at kk
    simp only at kk
    have g1 := id (r1 : TGd h1 O m lt x)
    have y1 := g1.1
    have y2 : h1.J 3091 O = lN (tyc y.1) := by have := g1.2.2.2; rw [e1] at this; exact this.1
    refine k_X25_takeReference_4 o (fun _ => ?_) (fun c => absurd rfl c)
    refine k_X25_takeReference_12 o ?_
    refine lirf_ok e2.tv.1 (by omega) ?_
    -- does it write
    have wr : ∀ b, b = rtg q y.1 → V X K 45 [.ref O, .long v, nov, .int (bI w), nov] [.int (bI b)] h1 := by
      intro b hb
      refine k_X25_takeReference_45 o ?_
      refine lneed_ok (e := .ok x) (b := b) u0 r1 (fun _ _ => rfl) (by decide) (by omega) fun h2 f2 r2 => ?_
      have s2 : SLk h2 O := s1.fr f2.1 (FS.no rfl)
      have u1 := s2.1
      have y3 : h2.J 3091 O = lN (tyc y.1) := by rw [f2.1.J (FS.n rfl)]; exact y2
      rw [hb] at r2
      have nx : ∀ b', b' = (!w || isWr y.1) → V X K 74 [.ref O, .long v, nov, .int (bI w), .int (bI b)] [.int (bI b'), .ref O] h2 := by
        intro b' hb'
        refine k_X25_takeReference_74 o ?_
        refine lneed_ok (b := b') u1 r2 (fun _ _ => rfl) (by decide) (by omega) fun h3 f3 r3 => ?_
        refine k_X25_takeReference_79 o ?_
        refine kk h3 ((f1.trans (f2.mono (FS.mono rfl))).trans (f3.mono (FS.mono rfl))) ?_
        rw [hb'] at r3
        have : (eb (eb (Except.ok x) fun x => eb (nee (rtg q y.1) 3) fun _ => Except.ok x) fun x => eb (nee (!w || isWr y.1) 7) fun _ => Except.ok x) = eb (nee (rtg q y.1) 3) fun _ => eb (nee (!w || isWr y.1) 7) fun _ => Except.ok x := by
          cases rtg q y.1 <;> rfl
        rw [this] at r3
        exact r3
      cases w with
      | false =>
        refine k_X25_takeReference_54 o (fun _ => ?_) (fun c => absurd rfl c)
        refine k_X25_takeReference_69 o ?_
        exact nx true rfl
      | true =>
        refine k_X25_takeReference_54 o (fun c => absurd (show bI true = 0 from c) (by decide)) (fun _ => ?_)
        refine k_X25_takeReference_59 o ?_
        refine lwri_ok e2.tv.1 (by omega) ?_
        cases hw : isWr y.1 with
        | false =>
          refine k_X25_takeReference_66 o (fun _ => ?_) (fun c => absurd rfl c)
          refine k_X25_takeReference_73 o ?_
          exact nx false (by rw [hw]; rfl)
        | true =>
          refine k_X25_takeReference_66 o (fun c => absurd (show bI true = 0 from c) (by decide)) (fun _ => ?_)
          refine k_X25_takeReference_69 o ?_
          exact nx true (by rw [hw]; rfl)
    cases hrf : isRf y.1 with
    | false =>
      refine k_X25_takeReference_19 o (fun _ => ?_) (fun c => absurd rfl c)
      refine k_X25_takeReference_44 o ?_
      exact wr false (by unfold rtg; rw [hrf]; rfl)
    | true =>
      refine k_X25_takeReference_19 o (fun c => absurd (show bI true = 0 from c) (by decide)) (fun _ => ?_)
      cases q with
      | none =>
        have hv : v = 0 := hv
        subst hv
        refine k_X25_takeReference_22 o (fun _ => ?_) (fun c => absurd rfl c)
        refine k_X25_takeReference_40 o ?_
        exact wr true (by unfold rtg; rw [hrf]; rfl)
      | some t =>
        obtain ⟨rfl, hT⟩ : v = lN (tyc t) ∧ TV t := hv
        obtain ⟨b, q', eq, hb, hq⟩ := e2.rst hrf
        have hpos : 0 < tyc t := by
          obtain ⟨_, _, b', r', e', p1, p2⟩ := hT
          have := tyc_lo (r := r') p1
          rw [← e'] at this
          have := Nat.pow_pos (a := 256) (n := r'.length) (by omega)
          omega
        refine k_X25_takeReference_22 o (fun c => ?_) (fun _ => ?_)
        · have := congrArg un c
          rw [un_l (by have := hT.lt63; omega)] at this
          have : tyc t = 0 := this
          omega
        have y4 : h1.J 3091 O = lN (tyc (b :: q')) := by rw [y2, eq]
        have tv := e2.tv.1
        rw [eq] at tv
        refine k_X25_takeReference_28 o (r2 := y4) ?_
        refine lpoi_ok tv (by omega) ?_
        have er : rtg (some t) y.1 = (q' == t) := by unfold rtg; rw [hrf, eq]; rfl
        refine k_X25_takeReference_35 o (fun c => ?_) (fun c => ?_)
        · refine k_X25_takeReference_44 o ?_
          refine wr false ?_
          have : ¬ q' = t := fun z => c ((lN_tyc hq.ok.tv.1 hT).mpr z)
          rw [er]; simpa using this
        · refine k_X25_takeReference_40 o ?_
          refine wr true ?_
          rw [er]; simpa using (lN_tyc hq.ok.tv.1 hT).mp c
def fTN (b : Bool) (x : Ts) : Except Nat Ts := eb (fTk x) fun y => match y.1 with
  | some r => eb (nee (isNu r.1 || (b && r.1 == [1])) 3) fun _ => fTT r.1 y
  | none => .ok y
theorem ltakN_ok {G : Gt} {d : Nat} {h : AH} {K : Outcome → AH → Prop} {O : Nat} {m : Md} {lt : List Ty} {e : Except Nat Ts} {b : Bool} (hs : SLk h O) (hr : TRs h O m lt e) (hd : 3 ≤ d) (kk : ∀ h', Fq (FS tkG) h h' → TRs h' O m lt (eb e (fTN b)) → K (.returned none) h') : MW G d e_X25_takeNumbers [.ref O, .int (bI b)] h K := by
  refine st_X25_takeNumbers fun X o hG hD _ => ?_
  subst hG; subst hD
  have s0 := hs.1
  refine k_X25_takeNumbers_0 o ?_
  refine ltake_ok hs hr (by omega) fun h1 f1 r1 => ?_
  have s1 : SLk h1 O := hs.fr f1.1 (FS.no rfl)
  have u0 := s1.1
  have ee : eb e (fTN b) = eb (eb e fTk) fun y => match y.1 with | some r => eb (nee (isNu r.1 || (b && r.1 == [1])) 3) fun _ => fTT r.1 y | none => .ok y := by
    rw [eb_a]; rfl
  rw [ee] at kk
  generalize hee : eb e fTk = e1 at *
  cases e1 with
  | error w' =>
    obtain ⟨z1, z2, -⟩ := id (r1 : TBd h1 O w')
    refine k_X25_takeNumbers_4 o (fun c => absurd c (nI_nz z2)) (fun _ => ?_)
    refine k_X25_takeNumbers_11 o ?_
    exact kk h1 f1 r1
  | ok x =>
    obtain ⟨y, e1, e2, e3, e4, z, e5, -⟩ := fTk_ok hr hee
    rw [eb_k, e1] at kk
    simp only at kk
    have g1 := id (r1 : TGd h1 O m lt x)
    have y1 := g1.1
    have y2 : h1.J 3091 O = lN (tyc y.1) := by have := g1.2.2.2; rw [e1] at this; exact this.1
    refine k_X25_takeNumbers_4 o (fun _ => ?_) (fun c => absurd rfl c)
    refine k_X25_takeNumbers_12 o ?_
    refine linu_ok e2.tv.1 ?_
    have nx : ∀ b', b' = (isNu y.1 || (b && y.1 == [1])) → V X K 41 [.ref O, .int (bI b)] [.int (bI b'), .ref O] h1 := by
      intro b' hb'
      refine k_X25_takeNumbers_41 o ?_
      refine lneed_ok (e := .ok x) (b := b') u0 r1 (fun _ _ => rfl) (by decide) (by omega) fun h2 f2 r2 => ?_
      have s2 : SLk h2 O := s1.fr f2.1 (FS.no rfl)
      have u1 := s2.1
      have y3 : h2.J 3091 O = lN (tyc y.1) := by rw [f2.1.J (FS.n rfl)]; exact y2
      rw [hb'] at r2
      refine k_X25_takeNumbers_45 o ?_
      refine ltakT_ok (t := y.1) s2 r2 (fun _ _ => ⟨rfl, e2.tv.1⟩) (by omega) fun h3 f3 r3 => ?_
      refine k_X25_takeNumbers_53 o ?_
      refine kk h3 ((f1.trans (f2.mono (FS.mono rfl))).trans f3) ?_
      have : (eb (eb (Except.ok x) fun x => eb (nee (isNu y.1 || (b && y.1 == [1])) 3) fun _ => Except.ok x) (fTT y.1)) = eb (nee (isNu y.1 || (b && y.1 == [1])) 3) fun _ => fTT y.1 x := by
        cases (isNu y.1 || (b && y.1 == [1])) <;> rfl
      rw [this] at r3
      exact r3
    have eq1 : (lN (tyc y.1) = lN 1) ↔ y.1 = [1] := by
      have := lN_ty (m := m) e2 (t := [1]) ⟨fun x hx => by simp at hx; omega, by simp, 1, [], rfl, by omega, by omega⟩
      rw [← this]; simp [tyc]
    cases hn : isNu y.1 with
    | true =>
      refine k_X25_takeNumbers_20 o (fun _ => ?_) (fun c => absurd (show bI true = 0 from c) (by decide))
      refine k_X25_takeNumbers_36 o ?_
      exact nx true (by rw [hn]; rfl)
    | false =>
      refine k_X25_takeNumbers_20 o (fun c => absurd rfl c) (fun _ => ?_)
      cases b with
      | false =>
        refine k_X25_takeNumbers_23 o (fun _ => ?_) (fun c => absurd rfl c)
        refine k_X25_takeNumbers_40 o ?_
        exact nx false (by rw [hn]; rfl)
      | true =>
        refine k_X25_takeNumbers_23 o (fun c => absurd (show bI true = 0 from c) (by decide)) (fun _ => ?_)
        refine k_X25_takeNumbers_27 o (fun c => ?_) (fun c => ?_)
        · refine k_X25_takeNumbers_40 o ?_
          refine nx false ?_
          have : ¬ y.1 = [1] := fun z => c (eq1.mpr z)
          rw [hn]; simp [this]
        · refine k_X25_takeNumbers_36 o ?_
          refine nx true ?_
          have : y.1 = [1] := eq1.mp c
          rw [hn, this]; rfl
