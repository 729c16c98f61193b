set_option maxRecDepth 100000
section
variable {G : am_G} {A : Nat → Nat} {T : Nat → Int32} {n d x : Nat} {N : ps_N} {F : am_H} {D : xs_D} {ξ : xs_X} {σ : am_S}
/-- a text begins to be read -/
theorem X_begins (hG : GK G) (hB : XB G A T n F D ξ σ) (hN : XNm G F N ξ) (hcr : cr G (600 * (n + 1) + x) σ) (hx : 6 ≤ x) {Q : am_S → Prop} (hQ : ∀ F' ξ' σ', XI G A T n 0 N F' D ξ' σ' → pf D F ξ F' ξ' → xI ξ' 1 4 = nI 0 → cr G (600 * (n + 1 - 0) + (x - 6)) σ' → Q σ') : W_X4_begins G (d + 9) (A 1) σ Q := by
  have hR := hB.2.2.1
  have r1 := hR.2.1
  refine W_X4_begins_f (x_p hB.1 r1 (by decide) fun σ1 H1 e1 => x_p H1 r1 (by decide) fun σ2 H2 e2 => x_o H2 r1 (by decide) ?_)
  have hB2 : XB G A T n F D (xs_sI (xs_sI ξ 1 0 0) 1 4 0) σ2 := (hB.sI1 H1).sI1 H2
  have h0 : xI (xs_sI (xs_sI ξ 1 0 0) 1 4 0) 1 0 = nI 0 := (sI_o (by decide)).trans sI_s
  have pf1 : pf D F ξ F (xs_sI (xs_sI ξ 1 0 0) 1 4 0) := ⟨FE.refl, fun q hq h9 => (sI_sc fun e => h9 (by rw [e]; decide)).trans (sI_sc fun e => h9 (by rw [e]; decide)), fun k _ => congrFun ((sI_sc (show 0 ≠ 1 by decide)).trans (sI_sc (by decide))).1 k, ((sI_sc (show 0 ≠ 1 by decide)).trans (sI_sc (by decide))).2.1⟩
  refine X_next (d := d) (m := 600 * (n + 1 - 0) + (x - 6)) hG (n + 1) 0 _ σ2 hB2 h0 (Nat.zero_le _) (by omega) (((hcr.eq e1).eq e2).le (by omega)) fun F' ξ' σ' g1 g2 g3 g4 g5 => ?_
  have hN2 : XNm G F N (xs_sI (xs_sI ξ 1 0 0) 1 4 0) := hN.up FE.refl (congrFun ((sI_sc (show 0 ≠ 1 by decide)).trans (sI_sc (by decide))).1 1) rfl
  exact hQ F' ξ' σ' ⟨g2, hN2.rfr g1 hR g3, g4, Nat.zero_le _⟩ (pf1.trans (g3.pf hR.1.1 g1)) ((g3.2 4 (by decide)).trans sI_s) g5
end
