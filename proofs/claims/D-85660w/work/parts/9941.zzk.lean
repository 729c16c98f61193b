set_option maxRecDepth 100000
/-! ===== the model's cells as roles 900..952 ===== -/
def tyM (j : Nat) : Nat := match mm_kd.getD (mm_fo.getD j 95) 0 with
  | 4 => 104
  | 3 => 103
  | _ => 100
/-- the model, as the roles have it -/
def mdR (ξ : xs_X) : mm_S := (xI ξ 900, fun k => Int64.ofNat ((xR ξ 900 k).getD 0), fun k => xA ξ (900 + mm_or.getD k 0), fun k q => Int64.ofNat ((xQ ξ (900 + mm_or.getD k 0) q).getD 0))
/-- where it lies -/
def MoR (D : xs_D) (ξ : xs_X) (b : Nat) : Prop := (rl D 900 b 50 ∧ ∀ j, 1 ≤ j → j ≤ 52 → rl D (900 + j) (b + j) (tyM j)) ∧ (∀ k, mm_kd.getD k 0 = 0 ∨ mm_kd.getD k 0 = 1 ∨ mm_kd.getD k 0 = 5 ∨ xR ξ 900 k = some (b + mm_or.getD k 0)) ∧ ∀ j, 1 ≤ j → j ≤ 52 → xN ξ (900 + j) = mm_ln.getD (mm_fo.getD j 95) 0
theorem or_fo : ∀ j, j < 53 → 1 ≤ j → mm_or.getD (mm_fo.getD j 95) 0 = j := by decide +kernel
theorem mdR_f {ρ : mm_F} {ξ : xs_X} {b : Nat} (hρ : ρ.1 = b) (h : ∀ k, mm_kd.getD k 0 = 0 ∨ mm_kd.getD k 0 = 1 ∨ mm_kd.getD k 0 = 5 ∨ xR ξ 900 k = some (b + mm_or.getD k 0)) : mm_f ρ (mdR ξ) = xs_mo (xI ξ 900) (xR ξ 900) := by
  funext k
  have hk := h k
  unfold mm_f xs_mo
  revert hk
  generalize mm_kd.getD k 0 = d
  intro hk
  match d, hk with
  | 0, _ => rfl
  | 1, _ => rfl
  | 5, _ => rfl
  | 2, hk | 3, hk | 4, hk =>
    rcases hk with h1 | h1 | h1 | h1
    · cases h1
    · cases h1
    · cases h1
    · show Value.ref (ρ.1 + mm_or.getD k 0) = va_rf (xR ξ 900 k)
      rw [h1, hρ]
      rfl
  | d + 6, hk =>
    rcases hk with h1 | h1 | h1 | h1
    · cases h1
    · cases h1
    · cases h1
    · show Value.ref (ρ.1 + mm_or.getD k 0) = va_rf (xR ξ 900 k)
      rw [h1, hρ]
      rfl
theorem mdR_a {ξ : xs_X} {j : Nat} (h1 : 1 ≤ j) (h2 : j ≤ 52) (hn : xN ξ (900 + j) = mm_ln.getD (mm_fo.getD j 95) 0) : xs_E (tyM j) (900 + j) ξ = mm_arr (mdR ξ) j := by
  have ho := or_fo j (by omega) h1
  unfold mm_arr tyM
  generalize mm_kd.getD (mm_fo.getD j 95) 0 = d
  unfold mm_av
  have e3 : (mdR ξ).2.2.1 (mm_fo.getD j 95) = xA ξ (900 + j) := by show xA ξ (900 + mm_or.getD (mm_fo.getD j 95) 0) = _; rw [ho]
  have e4 : (mdR ξ).2.2.2 (mm_fo.getD j 95) = fun q => Int64.ofNat ((xQ ξ (900 + j) q).getD 0) := by
    show (fun q => Int64.ofNat ((xQ ξ (900 + mm_or.getD (mm_fo.getD j 95) 0) q).getD 0)) = _
    rw [ho]
  match d with
  | 4 => show xs_E 104 (900 + j) ξ = .inl (4, _, .inr (.inl ((mdR ξ).2.2.2 (mm_fo.getD j 95)))); rw [e4, ← hn]; rfl
  | 3 => show xs_E 103 (900 + j) ξ = .inl (3, _, .inl ((mdR ξ).2.2.1 (mm_fo.getD j 95))); rw [e3, ← hn]; rfl
  | 0 | 1 | 2 => show xs_E 100 (900 + j) ξ = .inl (0, _, .inl ((mdR ξ).2.2.1 (mm_fo.getD j 95))); rw [e3, ← hn]; rfl
  | _ + 5 => show xs_E 100 (900 + j) ξ = .inl (0, _, .inl ((mdR ξ).2.2.1 (mm_fo.getD j 95))); rw [e3, ← hn]; rfl
section
variable {F : am_H} {D : xs_D} {ξ : xs_X} {σ : am_S} {b : Nat}
/-- the store, seen from the model -/
theorem MoR.see (H : XS F D ξ σ) (hM : MoR D ξ b) : σ = mm_s (b, σ.1, σ.2) (mdR ξ) := by
  obtain ⟨⟨r0, rj⟩, hf, hn⟩ := hM
  have e1 : σ.1 = mm_h (b, σ.1, σ.2) (mdR ξ) := by
    funext q
    unfold mm_h
    by_cases h0 : q = b
    · rw [if_pos h0, h0]
      have := (H.2.1 900 r0.1).1
      rw [r0.2.1, r0.2.2] at this
      rw [this, mdR_f rfl hf]
      rfl
    · rw [if_neg h0]
      by_cases h1 : b < q ∧ q ≤ b + 52
      · rw [if_pos h1]
        obtain ⟨j, rfl⟩ : ∃ j, q = b + j := ⟨q - b, by omega⟩
        have hj1 : 1 ≤ j := by omega
        have hj2 : j ≤ 52 := by omega
        have r := rj j hj1 hj2
        have := (H.2.1 (900 + j) r.1).1
        rw [r.2.1, r.2.2, mdR_a hj1 hj2 (hn j hj1 hj2)] at this
        rw [this, show b + j - b = j by omega]
      · rw [if_neg h1]
  unfold mm_s
  rw [← e1]
end
