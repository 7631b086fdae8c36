/-! which places matter to a call -/
def EQV (env env' : Pc → Cn) : Prop := ∀ p : Pc, ((1 ≤ p.1 ∧ p.1 < 4) ∨ p = (4, 0, 0)) → env' p = env p
section
variable {env env' : Pc → Cn} {W : Wd} {snd : Int64} {lim : Nat} {s : Ms}
theorem mask_cg {c : Bool} {p : Pc} {k : Nat → Ms → Rz} (h : env' p = env p) : mask env' c p s k = mask env c p s k := by unfold mask; rw [h]
theorem oRes_cg {o k : Nat} {m : Md} (h : EQV env env') : oRes snd env' lim o m k s = oRes snd env lim o m k s := by
  unfold oRes
  split
  · rw [mask_cg (h _ (Or.inl ⟨by show 1 ≤ 3; omega, by show 3 < 4; omega⟩))]
  · rfl
theorem oCoi_cg {n : Nat} (h : EQV env env') : oCoi snd env' lim n s = oCoi snd env lim n s := by
  have h1 : ∀ a, env' (1, a, 0) = env (1, a, 0) := fun a => h _ (Or.inl ⟨by show 1 ≤ 1; omega, by show 1 < 4; omega⟩)
  unfold oCoi
  split
  · split
    · rw [mask_cg (h1 _)]
    · rfl
  · split
    · split
      · congr 1
        split
        · rw [mask_cg (h1 _)]
        · rfl
      · rfl
    · split
      · rfl
      · split
        · rfl
        · split
          · rfl
          · split
            · split
              · rw [mask_cg (h1 _)]
              · rfl
            · rfl
theorem mset_cg (h : EQV env env') : mset env' s = mset env s := by
  unfold mset
  split
  · rfl
  · split
    · rfl
    · rw [mask_cg (h _ (Or.inr rfl))]
theorem mend_cg {u : Ux} (h : EQV env env') : mend env' u s = mend env u s := by
  unfold mend
  rw [mset_cg h]
theorem mop_cg {m : Md} {x : Ix} (h : EQV env env') : mop snd env' lim m x s = mop snd env lim m x s := by
  unfold mop
  rw [oRes_cg h]
theorem mstp_cg (h : EQV env env') : mstp W snd lim env' s = mstp W snd lim env s := by
  unfold mstp
  split
  · rfl
  · split
    · rfl
    · split
      · rfl
      · congr 1
        funext s'
        rw [mend_cg h, mop_cg h]
        split
        · rfl
        · split
          · rfl
          · split
            · rfl
            · split
              · rfl
              · split
                · split
                  · rfl
                  · split
                    · rfl
                    · rw [oCoi_cg h, mask_cg (h _ (Or.inl ⟨by show 1 ≤ 2; omega, by show 2 < 4; omega⟩))]
                · rfl
theorem mit_cg (h : EQV env env') : ∀ k (s : Ms), mit W snd lim env' k s = mit W snd lim env k s
  | 0, s => rfl
  | k + 1, s => by
    show rb (mit W snd lim env' k s) (mstp W snd lim env') = rb (mit W snd lim env k s) (mstp W snd lim env)
    rw [mit_cg h k s, show mstp W snd lim env' = mstp W snd lim env from funext fun s => mstp_cg h]
theorem mbg_cg {x : TxC} (h : EQV env env') : mbg W x env' = mbg W x env := by
  have h1 : env' (1, x.1, 0) = env (1, x.1, 0) := h _ (Or.inl ⟨by show 1 ≤ 1; omega, by show 1 < 4; omega⟩)
  have h2 : env' (2, lN x.2.2.2.1, 0) = env (2, lN x.2.2.2.1, 0) := h _ (Or.inl ⟨by show 1 ≤ 2; omega, by show 2 < 4; omega⟩)
  unfold mbg
  simp only [h1, h2]
theorem MTX.cg {x : TxC} {r : TxR} (h : EQV env env') (m : MTX W x env r) : MTX W x env' r := by
  unfold MTX at m ⊢
  rw [mbg_cg h]
  cases hb : mbg W x env with
  | error e => rw [hb] at m; exact m
  | ok s0 =>
    rw [hb] at m
    obtain ⟨k, s, e, a1, a2, a3⟩ := m
    exact ⟨k, s, e, by rw [mit_cg h]; exact a1, by rw [mstp_cg h]; exact a2, a3⟩
end
