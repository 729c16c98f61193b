set_option maxRecDepth 100000
/-! ===== X: copies that are frozen; kinds ===== -/
section
variable {G : am_G} {d m : Nat} {F : am_H} {D : xs_D} {ξ : xs_X} {σ : am_S}
/-- a new cell that is frozen at once -/
theorem XS.newF (H : XS F D ξ σ) {e : am_E} {N : Nat} (ht : ∀ h, tf e h) : XS (fzF F σ.2.1 e) D ξ (am_nw σ e N) ∧ F σ.2.1 = none := by
  have hfr : ∀ a e9, σ.1 a = some e9 → a ≠ σ.2.1 := fun a e9 h q => by have := H.2.2.2 a e9 h; omega
  have hF : F σ.2.1 = none := by
    cases h : F σ.2.1 with
    | none => rfl
    | some e9 => exact absurd rfl (hfr _ _ (H.1 _ _ h))
  refine ⟨⟨fun a e9 h => ?_, fun j hj => ?_, H.2.2.1, fun a e9 h => ?_⟩, hF⟩
  · have h' : (if a = σ.2.1 then some e else F a) = some e9 := h
    show (if a = σ.2.1 then some e else σ.1 a) = some e9
    by_cases ha : a = σ.2.1
    · rw [if_pos ha] at h' ⊢; exact h'
    · rw [if_neg ha] at h' ⊢; exact H.1 a e9 h'
  · have hj1 := H.2.1 j hj
    have hne := hfr _ _ hj1.1
    refine ⟨?_, ?_, fun e0 a e9 h => ?_⟩
    · show (if D.1 j = σ.2.1 then some e else σ.1 (D.1 j)) = _
      rw [if_neg hne]; exact hj1.1
    · show (if D.1 j = σ.2.1 then some e else F (D.1 j)) = none
      rw [if_neg hne]; exact hj1.2.1
    · have h' : (if a = σ.2.1 then some e else F a) = some e9 := h
      by_cases ha : a = σ.2.1
      · rw [if_pos ha] at h'
        cases h'
        exact ht _
      · rw [if_neg ha] at h'
        exact hj1.2.2 e0 a e9 h'
  · have h' : (if a = σ.2.1 then some e else σ.1 a) = some e9 := h
    show a < σ.2.1 + 1
    by_cases ha : a = σ.2.1
    · omega
    · rw [if_neg ha] at h'
      have := H.2.2.2 a _ h'
      omega
theorem tf_arr {τ : Nat} {x : vp_A} (h : Nat) : tf (.inl (τ, x)) h := fun c f e => by cases e
/-- a copy of an array of ints, frozen -/
theorem X_copyOf3F (H : XS F D ξ σ) (hT : TD D) {i a n q : Nat} (ri : rl D i a 100) (hn : xN ξ i = n) (hq : q ≤ n) (hn9 : n ≤ 1000) {y : Int32} (hy : y = nI q) (hcr : cr G (m + (q + 1)) σ) {Q : Option Nat → am_S → Prop} (hQ : ∀ F1 ξ1 σ1 b g, FE F F1 → XS F1 D ξ1 σ1 → (∀ j, D.2.2 j → sc ξ ξ1 j) → F1 b = some (.inl (0, q, .inl g)) → (∀ k, k < q → g k = xA ξ i k) → cr G m σ1 → Q (some b) σ1) : W_J8_copyOf_3 G (d + 1) (some a) y σ Q := by
  subst hy
  refine W_J8_copyOf_3_f (x_al H ri hn ⟨fun hne => ?_, fun heq => ?_⟩)
  · have hqn : q < n := Nat.lt_of_le_of_ne hq fun e => hne (by rw [e])
    refine x_nai (n := q) (m := m) (j := q + 1) H hT rfl (by decide) hcr ⟨by omega, by omega, by omega⟩ fun D1 ξ1 σ1 i1 xd td ni r1 h20 H1 s1 n1 a1 c1 hF1 => x_al H1 (xd _ _ _ ri) ((s1 i ri.1).2.2.2.2.trans hn) (W_J7_min_f ⟨fun c => ?_, fun c => absurd (nI_lt hqn (by omega)) c⟩)
    refine x_cpi (s := 0) (p := 0) (q := q) H1 (xd _ _ _ ri) r1 (by decide) ((s1 i ri.1).2.2.2.2.trans hn) n1 rfl rfl rfl (by omega) (by omega) ⟨by omega, by omega⟩ (fun k hk => rfl) fun σ2 H2 e2 => ?_
    obtain ⟨H3, hF3⟩ := H2.frz r1 (fun _ _ => tf_no (by decide))
    refine hQ _ _ σ2 _ (xA (xs_wA ξ1 i1 (va_cpy (xA ξ1 i) (xA ξ1 i1) 0 0 q)) i1) (fzF_FE hF3) (H3.cong (xd.drop ni)) (fun j hj => (s1 j hj).trans (wA_sc fun e => ni (e ▸ hj))) (fzF_s.trans ?_) (fun k hk => ?_) (c1.eq e2)
    · unfold xs_E
      rw [if_neg (by decide), if_neg (by decide), if_pos (by decide)]
      show some (Sum.inl (0, xN ξ1 i1, _)) = _
      rw [n1]
    · rw [wA_s]
      show (if 0 ≤ k ∧ k < 0 + q then xA ξ1 i (0 + (k - 0)) else _) = _
      rw [if_pos ⟨Nat.zero_le _, by omega⟩, show 0 + (k - 0) = k by omega, (s1 i ri.1).2.2.1]
  · have hqn : q = n := (nI_eq (by omega) (by omega)).mp heq
    subst hqn
    unfold f_cl f_a
    dsimp only
    have hc := H.ari (i := i) (τ := 0) ri.1 ri.2.2 (by decide)
    rw [ri.2.1] at hc
    rw [hc]
    dsimp only
    rw [hn]
    refine ⟨rfl, by have := hcr.1; omega, by have := hcr.2.1; omega, ?_⟩
    obtain ⟨H1, hF1⟩ := H.newF (e := .inl (0, q, .inl (xA ξ i))) (N := q) tf_arr
    unfold f_ca f_a
    dsimp only
    rw [H1.1 σ.2.1 _ fzF_s]
    refine ⟨rfl, hQ _ ξ _ σ.2.1 (xA ξ i) (fzF_FE hF1) H1 (fun _ _ => sc.refl) fzF_s (fun _ _ => rfl) ⟨?_, ?_, ?_⟩⟩
    · have := hcr.1
      show σ.2.1 + 1 + m ≤ _
      omega
    · have := hcr.2.1
      show σ.2.2 + q + 4 * m ≤ _
      omega
    · have := hcr.2.2
      show am_z G ≤ σ.2.1 + 1
      omega
end
