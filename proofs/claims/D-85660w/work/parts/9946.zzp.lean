set_option maxRecDepth 100000
section
variable {G : am_G} {A : Nat → Nat} {F : am_H} {D : xs_D} {d : Nat}
/-- what an act came to is kept -/
theorem X_told0 {ξ : xs_X} {σ : am_S} (H : XS F D ξ σ) (r0 : rl D 0 (A 0) 0) {a b s0 : Int32} {u : Nat} (h15 : xI ξ 0 15 = a) (h16 : xI ξ 0 16 = b) (h10 : xI ξ 0 10 = nI u) (hu : u ≤ 500) {Q : Int32 → am_S → Prop} (hQ : ∀ σ', XS F D (xs_sI (xs_sI (xs_sI ξ 0 42 a) 0 43 b) 0 44 (nI (500 - u))) σ' → σ'.2 = σ.2 → Q s0 σ') : B_X0_act_28 G (d + 1) (A 0) s0 σ Q := by
  have e9 : (500 : Int32) - nI u = nI (500 - u) := pk_sub (a := 500) hu
  refine B_X0_act_28_f (x_gi H r0 (by decide) h15 (x_p H r0 (by decide) fun σ1 H1 e1 => x_gi H1 r0 (by decide) (v := b) ((sI_o (by decide)).trans h16) (x_p H1 r0 (by decide) fun σ2 H2 e2 => x_gi H2 r0 (by decide) (v := nI u) (((sI_o (by decide)).trans (sI_o (by decide))).trans h10) (x_p H2 r0 (by decide) fun σ3 H3 e3 => ?_))))
  rw [e9] at H3
  exact hQ σ3 H3 ((e3.trans e2).trans e1)
end
