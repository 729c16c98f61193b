set_option maxRecDepth 100000
section
variable {G : am_G} {A : Nat → Nat} {T : Nat → Int32} {n : Nat} {F : am_H} {D : xs_D} {ξ : xs_X} {σ : am_S} {N : ps_N} {x d : Nat}
/-- what is asked when a word was read -/
def WoQ (G : am_G) (A : Nat → Nat) (F0 : am_H) (D0 : xs_D) (ξ0 : xs_X) (x : Nat) (res : Int32 × ps_N) (Q : Int32 → am_S → Prop) : Prop := ∀ F' ξ' σ', FE F0 F' → XS F' D0 ξ' σ' → XNm G F' res.2 ξ' → xI ξ' 0 18 = 0 → (∀ k, k ∉ [1, 18] → xI ξ' 0 k = xI ξ0 0 k) → xR ξ' 0 = xR ξ0 0 → (∀ r, D0.2.2 r → r ∉ [0, 1, 4, 6] → sc ξ0 ξ' r) → xR ξ' 1 7 = some (A 0) → xN ξ' 6 = 40 → cr G x σ' → Q res.1 σ'
/-- the tape is empty again -/
theorem X_taped {F0 : am_H} {D0 : xs_D} {ξ0 : xs_X} {res : Int32 × ps_N} {Q : Int32 → am_S → Prop} (hQ : WoQ G A F0 D0 ξ0 x res Q) {F' : am_H} {ξ' : xs_X} {σ' : am_S} (hB : XB G A T n F' D0 ξ' σ') (hN : XNm G F' res.2 ξ') (hp : pf D0 F0 ξ0 F' ξ') (hc : cr G x σ') : f_p σ' (some (A 0)) [0] 18 (.int 0) (fun σ13 => Q res.1 σ13) := by
  have r0 := hB.2.2.1.1
  refine x_p hB.1 r0 (by decide) fun σ1 H1 e1 => hQ F' _ σ1 hp.1 H1 (hN.up FE.refl (sI_o (by decide)) (sI_sc (by decide)).2.2.2.1) sI_s (fun k hk => ?_) hp.2.2.2 (fun r hr hn => ?_) hB.2.2.2.1.2.2.2.1 hB.2.2.2.1.2.2.2.2.1 (hc.eq e1)
  · simp only [List.mem_cons, List.not_mem_nil, or_false, not_or] at hk
    rw [sI_o hk.2]
    exact hp.2.2.1 k hk.1
  · exact (hp.2.1 r hr hn).trans (sI_sc fun e => hn (by rw [e]; decide))
/-- X's word -/
theorem X_word (hG : GK G) (hB : XB G A T n F D ξ σ) (hN : XNm G F N ξ) (h22 : xR ξ 0 22 = some (A 1)) (hcr : cr G (600 * (n + 1) + (x + 6)) σ) {Q : Int32 → am_S → Prop} (hQ : WoQ G A F D ξ x (wordR T N) Q) : W_X0_word G (d + 10) (A 0) σ Q := by
  have hR := hB.2.2.1
  have r0 := hR.1
  have r1 := hR.2.1
  have g22 : ∀ {F' : am_H} {ξ' : xs_X}, pf D F ξ F' ξ' → xR ξ' 0 22 = some (A 1) := fun hp => by rw [hp.2.2.2]; exact h22
  refine W_X0_word_f (x_gr hB.1 r0 (by decide) h22 (x_o hB.1 r1 (by decide) (X_begins (d := d) hG hB hN hcr (by omega) fun F1 ξ1 σ1 h1 p1 t1 c1 => ?_)))
  refine x_gr h1.1.1 r0 (by decide) (g22 p1) (x_o h1.1.1 r1 (by decide) ?_)
  unfold wordR at hQ
  refine X_takesName (x := x) h1 hG (c1.le (by omega)) (fun k p' N' hres hk F2 ξ2 σ2 h2 p2 _ _ _ c2 => ?_) fun k q N' hres F2 ξ2 σ2 hB2 hN2 p2 _ _ c2 => ?_
  · rw [hres] at hQ
    have p12 := p1.trans p2
    refine x_gr h2.1.1 r0 (by decide) (g22 p12) (x_gi h2.1.1 r1 (by decide) rfl ⟨fun hne => ?_, fun he => ?_⟩)
    · have hQ' : WoQ G A F D ξ x ((if lxt T p' = 0 then nI k else -1), N') Q := hQ
      rw [if_neg fun e => hne (h2.t0.mpr e)] at hQ'
      exact X_taped hQ' h2.1 h2.2.1 p12 (c2.le (by omega))
    · have hQ' : WoQ G A F D ξ x ((if lxt T p' = 0 then nI k else -1), N') Q := hQ
      rw [if_pos (h2.t0.mp he)] at hQ'
      exact X_taped hQ' h2.1 h2.2.1 p12 (c2.le (by omega))
  · rw [hres] at hQ
    have hQ' : WoQ G A F D ξ x (-1, N') Q := hQ
    exact x_o hB2.1 hB2.2.2.1.2.2.1 (by decide) (B_X0_word_38_f (X_taped hQ' hB2 hN2 (p1.trans p2) c2))
end
