set_option maxRecDepth 100000
section
variable {F : am_H} {D : xs_D} {ξ : xs_X} {σ : am_S} {b : Nat} {μ : mm_S}
/-- a call of the model within the law -/
theorem MoA.call (H : XS F D ξ σ) (hM : MoA D ξ b μ) {K : mm_F → mm_S → Prop} (h : K (b, σ.1, σ.2) μ) : f_m σ (some b) K := ⟨_, μ, hM.see H, rfl, h⟩
end
/-- the texts on both tapes are the same -/
theorem XTx_of {μ : mm_S} {n : Nat} {ξ : xs_X} (hn : n ≤ 1000) (h1 : mI μ 1 = nI n) (h18 : xI ξ 0 18 = nI n) (hA : ∀ q, q < n → (∃ c, c < 256 ∧ mA μ 0 q = nI c) ∧ xA ξ 8 q &&& 255 = mA μ 0 q) : XTx (tx μ) n ξ ∧ tok μ := by
  have hT : ∀ q, tx μ q = if q < n then mA μ 0 q else -1 := fun q => by
    unfold tx
    rw [h1, nI_clamp (by omega)]
  refine ⟨⟨hn, h18, fun q hq => by rw [hT, if_neg (by omega)], fun q hq => ?_⟩, n, hn, h1, fun q hq => (hA q hq).1⟩
  rw [hT, if_pos hq]
  exact hA q hq
/-- both tapes: n characters -/
def TpR (ξ : xs_X) (μ : mm_S) (n : Nat) : Prop := n ≤ 1000 ∧ mI μ 1 = nI n ∧ xI ξ 0 18 = nI n ∧ ∀ q, q < n → (∃ c, c < 256 ∧ mA μ 0 q = nI c) ∧ xA ξ 8 q &&& 255 = mA μ 0 q
/-- fed on both sides -/
theorem TpR.feed {ξ ξ' : xs_X} {μ μ' : mm_S} {n : Nat} {ws : Nat → Int32} (h : TpR ξ μ n) (h20 : n + 20 ≤ 1000) (x18 : xI ξ' 0 18 = nI (n + 20)) (xA' : ∀ q, xA ξ' 8 q &&& 255 = if n ≤ q ∧ q < n + 20 then feC ws (q - n) else xA ξ 8 q &&& 255) (m1 : mI μ' 1 = nI (n + 20)) (mA' : ∀ q, mA μ' 0 q = if n ≤ q ∧ q < n + 20 then feC ws (q - n) else mA μ 0 q) : TpR ξ' μ' (n + 20) := by
  obtain ⟨a1, a2, a3, a4⟩ := h
  refine ⟨h20, m1, x18, fun q hq => ?_⟩
  rw [xA', mA']
  by_cases h9 : n ≤ q ∧ q < n + 20
  · rw [if_pos h9, if_pos h9]
    exact ⟨lt256 _, rfl⟩
  · rw [if_neg h9, if_neg h9]
    exact a4 q (by omega)
