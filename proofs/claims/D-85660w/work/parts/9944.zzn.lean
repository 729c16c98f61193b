set_option maxRecDepth 100000
section
variable {G : am_G} {A : Nat → Nat} {F : am_H} {D : xs_D} {C : Ctx} {p : RP} {s : RSt} {d : Nat}
/-- X's counters are set for a run -/
theorem X_begins0 {ξ : xs_X} {σ : am_S} (H : XS F D ξ σ) (r0 : rl D 0 (A 0) 0) {Q : am_S → Prop} (hQ : ∀ ξ' σ', XS F D ξ' σ' → xI ξ' 0 10 = nI 500 → xI ξ' 0 11 = nI 0 → xI ξ' 0 15 = 0 → xI ξ' 0 16 = 0 → (∀ k, k ∉ [10, 11, 15, 16] → xI ξ' 0 k = xI ξ 0 k) → xR ξ' = xR ξ → xN ξ' = xN ξ → (∀ r, r ≠ 0 → sc ξ ξ' r) → σ'.2 = σ.2 → Q σ') : W_X0_begins G d (A 0) σ Q := by
  refine W_X0_begins_f (x_p H r0 (by decide) fun σ1 H1 e1 => x_p H1 r0 (by decide) fun σ2 H2 e2 => x_p H2 r0 (by decide) fun σ3 H3 e3 => x_p H3 r0 (by decide) fun σ4 H4 e4 => ?_)
  refine hQ _ σ4 H4 ?_ ?_ ?_ sI_s (fun k hk => ?_) rfl rfl (fun r hr => (((sI_sc hr).trans (sI_sc hr)).trans (sI_sc hr)).trans (sI_sc hr)) (((e4.trans e3).trans e2).trans e1)
  · rw [sI_o (by decide), sI_o (by decide), sI_o (by decide), sI_s]; rfl
  · rw [sI_o (by decide), sI_o (by decide), sI_s]; rfl
  · rw [sI_o (by decide), sI_s]
  · simp only [List.mem_cons, List.not_mem_nil, or_false, not_or] at hk
    rw [sI_o hk.2.2.2, sI_o hk.2.2.1, sI_o hk.2.1, sI_o hk.1]
end
