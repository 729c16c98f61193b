set_option maxRecDepth 100000
/-! ===== the model: statements and blocks ===== -/
/-- fields that reading a block may change -/
abbrev pks : List Nat := [2, 3, 4, 5, 6, 7, 10, 11, 12, 15, 16, 17, 18, 19, 20, 21, 22]
/-- how a statement is read: the answer v, the model then -/
def PS (T : Nat → Int32) (p c : Nat) (res : ps_B) (μ : mm_S) (v : Int32) (μ' : mm_S) : Prop := fr pks μ μ' ∧ match res with
  | (.inl (k, q), N') => v = 0 ∧ ¬ k = 0 ∧ PF k q N' μ' ∧ fn c μ μ'
  | (.inr ((t, s), p'), N') => v = 1 ∧ p < p' ∧ mI μ' 18 = mI μ 18 ∧ mI μ' 20 = nI s ∧ s ≤ 60 ∧ fn c μ μ' ∧ ∃ c' k, PI T p' N' c' μ' ∧ c ≤ c' ∧ c' + p ≤ p' + c ∧ c ≤ k ∧ k < c' ∧ mI μ' 22 = nI k ∧ isT (mA μ' 15) 8400 c t k ∧ nf (mA μ' 15) 8400 k 4 = -1
/-- how a block is read -/
def PB (T : Nat → Int32) (p c : Nat) (res : ps_B) (μ : mm_S) (v : Int32) (μ' : mm_S) : Prop := fr pks μ μ' ∧ match res with
  | (.inl (k, q), N') => v = 0 ∧ ¬ k = 0 ∧ PF k q N' μ' ∧ fn c μ μ'
  | (.inr ((t, s), p'), N') => v = 1 ∧ p < p' ∧ mI μ' 18 = mI μ 18 ∧ mI μ' 20 = nI s ∧ s ≤ 60 ∧ fn c μ μ' ∧ ∃ c', PI T p' N' c' μ' ∧ c ≤ c' ∧ c' + p ≤ p' + c ∧ isB (mA μ' 15) 8400 c t c' (mI μ' 21)
def SubS (W : mm_S → (Int32 → mm_S → Prop) → Prop) (T : Nat → Int32) (ns : Int32) (st : Nat → ps_N → Nat → ps_B) : Prop := ∀ (p : Nat) (N : ps_N) (c s : Nat) (μ : mm_S) (Q : Int32 → mm_S → Prop), PI T p N c μ → c ≤ p → mI μ 18 = ns → mI μ 20 = nI s → s ≤ 60 → (∀ v μ', PS T p c (st p N s) μ v μ' → Q v μ') → W μ Q
def SubB (W : mm_S → (Int32 → mm_S → Prop) → Prop) (T : Nat → Int32) (ns : Int32) (st : Nat → ps_N → Nat → ps_B) : Prop := ∀ (p : Nat) (N : ps_N) (c s : Nat) (μ : mm_S) (Q : Int32 → mm_S → Prop), PI T p N c μ → c ≤ p → mI μ 18 = ns → mI μ 20 = nI s → s ≤ 60 → (∀ v μ', PB T p c (st p N s) μ v μ' → Q v μ') → W μ Q
section
variable {G : am_G} {ρ : mm_F} {d : Nat} {T : Nat → Int32} {ns : Int32}
theorem S_link {k : Nat} {x v : Int32} {μ : mm_S} {Q : mm_S → Prop} (hx : x = nI k) (hk : k < 1200) (hQ : Q (mm_sA μ 15 (5 * (8400 + k) + 4) v)) : W_X6_link G ρ d x v μ Q := by
  have e : 5 * (8400 + x) + 4 = nI (5 * (8400 + k) + 4) := by
    subst hx
    show nI 5 * (nI 8400 + nI k) + nI 4 = _
    rw [nI_add, pk_mul, nI_add]
  refine W_X6_link_f ?_
  rw [e, nI_clamp (by omega)]
  exact ⟨vp_in_nI (by omega) (by decide), fun μ1 e1 => by rw [e1]; exact hQ⟩
end
