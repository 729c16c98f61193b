set_option maxRecDepth 100000
section
variable {G : am_G} {A : Nat → Nat} {F : am_H} {D : xs_D} {C : Ctx} {p : RP} {s : RSt} {d : Nat}
/-- X's counters are set for a run -/
theorem X_begins0 {ξ : xs_X} {σ : am_S} (H : XS F D ξ σ) (r0 : rl D 0 (A 0) 0) {Q : am_S → Prop} (hQ : ∀ ξ' σ', XS F D ξ' σ' → xI ξ' 0 10 = nI 500 → xI ξ' 0 11 = nI 0 → xI ξ' 0 15 = 0 → xI ξ' 0 16 = 0 → (∀ k, k ∉ [10, 11, 15, 16] → xI ξ' 0 k = xI ξ 0 k) → xR ξ' = xR ξ → xN ξ' = xN ξ → (∀ r, r ≠ 0 → sc ξ ξ' r) → σ'.2 = σ.2 → Q σ') : W_X0_begins G d (A 0) σ Q := by
  refine W_X0_begins_f (x_p H r0 (by decide) fun σ1 H1 e1 => x_p H1 r0 (by decide) fun σ2 H2 e2 => x_p H2 r0 (by decide) fun σ3 H3 e3 => x_p H3 r0 (by decide) fun σ4 H4 e4 => ?_)
  refine hQ _ σ4 H4 ?_ ?_ ?_ sI_s (fun k hk => ?_) rfl rfl (fun r hr => (((sI_sc hr).trans (sI_sc hr)).trans (sI_sc hr)).trans (sI_sc hr)) (((e4.trans e3).trans e2).trans e1)
  · rw [sI_o (by decide), sI_o (by decide), sI_o (by decide), sI_s]; rfl
  · rw [sI_o (by decide), sI_o (by decide), sI_s]; rfl
  · rw [sI_o (by decide), sI_s]
  · simp only [List.mem_cons, List.not_mem_nil, or_false, not_or] at hk
    rw [sI_o hk.2.2.2, sI_o hk.2.2.1, sI_o hk.2.1, sI_o hk.1]
/-- role 0's other numbers written -/
theorem RXs.z {ξ ξ1 : xs_X} (hS : RXs A F D C p ξ) (h6 : xI ξ1 0 6 = xI ξ 0 6) (h12 : xI ξ1 0 12 = xI ξ 0 12) (hR : xR ξ1 0 = xR ξ 0) (hN : xN ξ1 = xN ξ) (hs : ∀ r, r ≠ 0 → sc ξ ξ1 r) : RXs A F D C p ξ1 := by
  obtain ⟨a1, a2, a3, a4, a5, a6, a7, a8⟩ := hS
  refine ⟨a1, ⟨by rw [hR]; exact a2.1, a2.2⟩, ⟨by rw [hR]; exact a3.1, by rw [hR]; exact a3.2.1, by rw [hN]; exact a3.2.2.1, by rw [hR]; exact a3.2.2.2.1, by rw [hN]; exact a3.2.2.2.2⟩, ⟨by rw [h6]; exact a4.1, a4.2.1, by rw [h12]; exact a4.2.2⟩, ⟨by rw [hR]; exact a5.1, a5.2⟩, a6, fun c hc => ?_, a8⟩
  obtain ⟨b1, b2, b3, b4, b5⟩ := a7 c hc
  have s10 := hs 10 (by decide)
  have sc1 := hs (2000 + pCr p c) (by omega)
  have sc2 := hs (2000 + pHl p c) (by omega)
  exact ⟨⟨by rw [s10.2.2.2.1]; exact b1.1, b1.2.1, by rw [sc1.1]; exact b1.2.2.1, by rw [sc1.2.1]; exact b1.2.2.2.1, by rw [sc1.2.1]; exact b1.2.2.2.2⟩, ⟨by rw [sc1.2.1]; exact b2.1, by rw [sc1.2.1]; exact b2.2.1, by rw [sc1.2.1]; exact b2.2.2⟩, ⟨b3.1, b3.2.1, b3.2.2.1, by rw [hN]; exact b3.2.2.2.1, by rw [hN]; exact b3.2.2.2.2⟩, fun n hn => by rw [sc2.2.2.1]; exact b4 n hn, fun hl => ⟨(b5 hl).1, by rw [hN]; exact (b5 hl).2⟩⟩
end
