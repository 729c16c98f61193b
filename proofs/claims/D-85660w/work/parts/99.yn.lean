set_option maxRecDepth 100000
section
variable {G : am_G} {A : Nat → Nat} {T : Nat → Int32} {n d : Nat}
/-- what is asked when a kind's members are read: Rows of drafts stand for L' -/
def KmQ (G : am_G) (A : Nat → Nat) (T : Nat → Int32) (n : Nat) (F0 : am_H) (D0 : xs_D) (ξ0 : xs_X) (D : xs_D) (b l : Nat) (e : Option Nat) (cap : Nat) (ds : List (Nat × Nat)) (p x : Nat) (res : ps_R (List Kd)) (Q : am_S → Prop) : Prop := ∀ L' p' N', res = ps_ok L' p' N' → ∀ F' ξ' σ', XI G A T n p' N' F' D ξ' σ' → pf D0 F0 ξ0 F' ξ' → xI ξ' 1 4 = nI 0 → PW G F' D ξ' b l e cap ds L' → KW L' → p < p' → cr G (600 * (n + 1 - p') + x) σ' → Q σ'
theorem X_pmems (hG : GK G) (hd : 48 ≤ d) {F0 : am_H} {D0 D : xs_D} {ξ0 : xs_X} {b l cap k p0 x : Nat} {e : Option Nat} {ds : List (Nat × Nat)} {dd : Nat × Nat} (hdk : ds[k]? = some dd) (hD0 : XD D0 D) (hT0 : TD D0) (hR0 : RR A D0) (hno : ∀ q, drR dd.1 dd.2 q → ¬ D0.2.2 q) {Q : Option Nat → am_S → Prop} {E : Nat → am_S → Prop} : ∀ (g p : Nat) (N : ps_N) (F : am_H) (ξ : xs_X) (σ : am_S) (L : List Kd) (kd : Kd), 1001 ≤ p + g → p0 ≤ p → XI G A T n p N F D ξ σ → xI ξ 1 4 = nI 0 → PW G F D ξ b l e cap ds L → KW L → L[k]? = some kd → pf D0 F0 ξ0 F ξ → cr G (600 * (n + 1 - p) + x) σ → KmQ G A T n F0 D0 ξ0 D b l e cap ds p0 x (ps_pmems T g L k p N) (fun σ' => f_gi σ' (some (A 1)) [4] 2 (fun v9 => ((¬ v9 = 0 → B_X4_pond_12 G (d + 19) (A 1) (some b) σ' Q E) ∧ (v9 = 0 → Q (some b) σ')))) → XFn G A T n F0 D0 ξ0 x (ps_pmems T g L k p N) E → B_X4_pond_104 G (d + 19) (A 1) (some b) (some dd.1) σ Q E
  | 0, p, N, F, ξ, σ, L, kd, hg, hp0, h, h4, hW, hK, hk, hpf, hcr, hQ, hE => by
    have hn : n ≤ 1000 := h.1.2.2.2.2.1
    have := h.2.2.2
    omega
  | g + 1, p, N, F, ξ, σ, L, kd, hg, hp0, h, h4, hW, hK, hk, hpf, hcr, hQ, hE => by
    have r1 := h.1.2.2.1.2.1
    refine B_X4_pond_104_f (x_o h.1.1 r1 (by decide) (X_isMember (d := d + 15) h hG (fun hm => y2 ?_) fun hm => z2 ?_))
    · have h325 : ¬ lxt T p = 325 := fun e => by rw [e] at hm; exact absurd hm (by decide)
      unfold ps_pmems at hQ hE
      rw [if_neg h325] at hQ hE
      refine x_o h.1.1 r1 (by decide) (X_member_p (x := x) hG hd h h4 hcr hm hW hK.1 hK.2.2.1 hK.2.2.2 ?_ hk hdk (fun m p' N' e1 F1 ξ1 σ1 v g1 g2 g3 g4 g5 g6 => ?_) fun kd q N' e1 => (hE kd q N' (by rw [e1]; rfl)).pre hpf hD0 hT0 hR0 (Nat.le_refl _))
      · cases ho : kA kd with
        | none => exact trivial
        | some u =>
          have hu := hK.2.1 k kd hk u ho
          have hkl := (List.getElem?_eq_some_iff.mp hk).1
          exact hK.2.1.acL hK.1 u (by omega)
      · have hW1 := hW.pf g2
        have hD1 := hW1.2.2.1 k dd kd hdk hk
        have hfull : fullM kd m.1 = false := by
          have := ps_mem_ok e1
          unfold chkP at this
          rw [hk] at this
          dsimp only at this
          by_cases h9 : fullM kd m.1 = true
          · rw [if_pos h9] at this
            exfalso
            revert this
            generalize (if m.1 = 2 then (ixA kd m.2.1).isSome else hasO m.2.1 kd || (upK L (hasO m.2.1) 12 (kA kd)).isSome) = bb
            cases bb <;> intro h <;> cases h
          · simpa using h9
        rw [e1] at hQ hE
        refine x_o g1.1.1 hD1.2.1 (by decide) (X_drAdd (d := d + 16) g1.1.1 hD1 (fun n v => rfl) g6 (Or.inl hfull) fun ξ' σ' k1 k2 k3 k4 k5 => ?_)
        have hs : ∀ q, D0.2.2 q → sc ξ1 ξ' q := fun q hq => k3 q fun hdr => hno q hdr hq
        exact X_pmems hG hd hdk hD0 hT0 hR0 hno g p' N' F1 ξ' σ' (addK L k m) (addM kd m) (by omega) (by omega) (g1.own hR0 k2 hs) ((congrFun (hs 1 hR0.2.1.1).1 4).trans g3) (hW1.add hk hdk k1 k3) (hK.add hk) ((addK_get hk).trans (if_pos rfl)) ((hpf.trans (g2.less hD0)).trans (pf.own hR0 hs)) ((g5.eq k5).le (by omega)) hQ hE
    · unfold ps_pmems at hQ hE
      refine x_o h.1.1 r1 (by decide) (X_needs (d := d + 8) (x := x) h hG (c := 125) (by decide) hcr (fun e2 F1 ξ1 σ1 g1 g2 g3 g4 g5 g6 => ?_) fun kd q N3 e2 => ?_)
      · have h325 : lxt T p = 325 := by
          unfold ps_need at e2
          by_cases h9 : lxt T p = 200 + 125
          · exact h9
          · rw [if_neg h9] at e2; cases e2
        rw [if_pos h325] at hQ
        exact hQ L (lxe T p) N rfl F1 ξ1 σ1 g1 (hpf.trans (g2.less hD0)) (g3.trans h4) (hW.pf g2) hK (by omega) (g6.le (by omega))
      · have h325 : ¬ lxt T p = 325 := fun e => by
          unfold ps_need at e2
          rw [if_pos (show lxt T p = 200 + 125 from e)] at e2
          cases e2
        rw [if_neg h325] at hE
        have : ps_need T 125 p N = ps_f 1 (lxa T p) N := by unfold ps_need; rw [if_neg (show ¬ lxt T p = 200 + 125 from h325)]
        rw [this] at e2
        unfold ps_f at e2
        injection e2 with e3 e4
        injection e3 with e3
        injection e3 with e5 e6
        subst e5; subst e6; subst e4
        refine (hE 1 (lxa T p) N ?_).pre hpf hD0 hT0 hR0 (Nat.le_refl _)
        unfold ps_mem
        rw [if_pos hm]
        rfl
end
