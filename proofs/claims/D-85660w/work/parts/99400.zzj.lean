set_option maxRecDepth 100000
section
variable {G : am_G} {A : Nat → Nat} {F : am_H} {D : xs_D} {d : Nat}
/-- what feeding leaves -/
def PuF (ξ ξ' : xs_X) : Prop := (∀ k, k ≠ 18 → xI ξ' 0 k = xI ξ 0 k) ∧ xR ξ' 0 = xR ξ 0 ∧ (∀ r, r ≠ 0 → r ≠ 8 → sc ξ ξ' r) ∧ xN ξ' = xN ξ
theorem PuF.refl {ξ : xs_X} : PuF ξ ξ := ⟨fun _ _ => rfl, rfl, fun _ _ _ => sc.refl, rfl⟩
theorem PuF.trans {ξ ξ1 ξ2 : xs_X} (h1 : PuF ξ ξ1) (h2 : PuF ξ1 ξ2) : PuF ξ ξ2 := ⟨fun k hk => (h2.1 k hk).trans (h1.1 k hk), h2.2.1.trans h1.2.1, fun r a b => (h1.2.2.1 r a b).trans (h2.2.2.1 r a b), h2.2.2.2.trans h1.2.2.2⟩
theorem X_puts_l (r0 : rl D 0 (A 0) 0) (r8 : rl D 8 (A 8) 101) {w : Int32} {n : Nat} (hn : n + 4 ≤ 1000) {ξ0 : xs_X} (h17 : xR ξ0 0 17 = some (A 8)) (hN : xN ξ0 8 = 1000) {Q : am_S → Prop} {σ0 : am_S} (hQ : ∀ ξ' σ', XS F D ξ' σ' → xI ξ' 0 18 = nI (n + 4) → PuF ξ0 ξ' → (∀ q, xA ξ' 8 q &&& 255 = if n ≤ q ∧ q < n + 4 then (w >>> (nI (24 - 8 * (q - n)) &&& 31)) &&& 255 else xA ξ0 8 q &&& 255) → σ'.2 = σ0.2 → Q σ') : ∀ (f j : Nat) (x2 : Int32) (ξ : xs_X) (σ : am_S), j + f = 4 → x2 = (if j < 4 then nI (24 - 8 * j) else -8) → XS F D ξ σ → xI ξ 0 18 = nI (n + j) → PuF ξ0 ξ → (∀ q, xA ξ 8 q &&& 255 = if n ≤ q ∧ q < n + j then (w >>> (nI (24 - 8 * (q - n)) &&& 31)) &&& 255 else xA ξ0 8 q &&& 255) → σ.2 = σ0.2 → B_X0_puts_3 G d (A 0) w x2 σ Q
  | 0, j, x2, ξ, σ, hj, hx, H, h18, hP, hA, e => by
    have hj4 : j = 4 := by omega
    subst hj4
    rw [hx]
    exact B_X0_puts_3_f ⟨fun _ => hQ ξ σ H h18 hP hA e, fun h9 => absurd (by decide) h9⟩
  | f + 1, j, x2, ξ, σ, hj, hx, H, h18, hP, hA, e => by
    rw [if_pos (by omega)] at hx
    rw [hx]
    have h17' : xR ξ 0 17 = some (A 8) := by rw [hP.2.1]; exact h17
    have hN' : xN ξ 8 = 1000 := by rw [hP.2.2.2]; exact hN
    refine B_X0_puts_3_f ⟨fun h9 => absurd h9 (nI_pos (by omega)), fun _ => x_gr H r0 (by decide) h17' (x_gi H r0 (by decide) h18 (x_si (n := 1000) (q := n + j) H r8 (by decide) hN' rfl (by omega) (by decide) fun σ1 H1 e1 => x_gi H1 r0 (by decide) (v := nI (n + j)) h18 (x_p H1 r0 (by decide) fun σ2 H2 e2 => ?_)))⟩
    rw [nI_1] at H2
    refine X_puts_l r0 r8 hn h17 hN hQ f (j + 1) _ _ σ2 (by omega) ?_ H2 sI_s ⟨fun k hk => (sI_o hk).trans (hP.1 k hk), hP.2.1, fun r a b => ((hP.2.2.1 r a b).trans (sA_sc b)).trans (sI_sc a), hP.2.2.2⟩ (fun q => ?_) ((e2.trans e1).trans e)
    · by_cases h3 : j + 1 < 4
      · rw [if_pos h3]
        have : 24 - 8 * j = (24 - 8 * (j + 1)) + 8 := by omega
        rw [this, ← nI_add, Int32.add_assoc, show nI 8 + (-8 : Int32) = 0 from by decide, Int32.add_zero]
      · rw [if_neg h3]
        have : j = 3 := by omega
        rw [this]
        decide
    · show xA (xs_sA ξ 8 (n + j) (f_nar 1 _)) 8 q &&& 255 = _
      by_cases hq : q = n + j
      · rw [hq, sA_s, nar_b, b255, if_pos ⟨by omega, by omega⟩, show n + j - n = j by omega]
      · rw [sA_o hq, hA q]
        by_cases h8 : n ≤ q ∧ q < n + j
        · rw [if_pos h8, if_pos ⟨h8.1, by omega⟩]
        · rw [if_neg h8, if_neg (by omega)]
/-- X's feed -/
theorem X_feed {ξ : xs_X} {σ : am_S} (H : XS F D ξ σ) (r0 : rl D 0 (A 0) 0) (r8 : rl D 8 (A 8) 101) (h17 : xR ξ 0 17 = some (A 8)) (hN : xN ξ 8 = 1000) {a b c e g : Int32} {n : Nat} (hn : n ≤ 1000) (h18 : xI ξ 0 18 = nI n) {Q : Int32 → am_S → Prop} (hQ : n + 20 ≤ 1000 → ∀ ξ' σ', XS F D ξ' σ' → xI ξ' 0 18 = nI (n + 20) → PuF ξ ξ' → (∀ q, xA ξ' 8 q &&& 255 = if n ≤ q ∧ q < n + 20 then feC (fw5 a b c e g) (q - n) else xA ξ 8 q &&& 255) → σ'.2 = σ.2 → Q (nI (n + 20)) σ') (hF : ¬ n + 20 ≤ 1000 → Q (-1) σ) : W_X0_feed G (d + 1) (A 0) a b c e g σ Q := by
  refine W_X0_feed_f (x_gi H r0 (by decide) h18 ?_)
  have e20 : nI n + 20 = nI (n + 20) := nI_add n 20
  rw [e20]
  refine ⟨fun h9 => ?_, fun h9 => hF fun h8 => h9 (nI_le (b := 1000) h8 (by decide))⟩
  have h20 : n + 20 ≤ 1000 := (nI_leI (a := n + 20) (b := 1000) (by omega) (by decide)).mp h9
  have one : ∀ {w : Int32} {m : Nat} {ξ1 : xs_X} {σ1 : am_S} {K : am_S → Prop}, m + 4 ≤ 1000 → XS F D ξ1 σ1 → xI ξ1 0 18 = nI m → PuF ξ ξ1 → (∀ ξ' σ', XS F D ξ' σ' → xI ξ' 0 18 = nI (m + 4) → PuF ξ1 ξ' → (∀ q, xA ξ' 8 q &&& 255 = if m ≤ q ∧ q < m + 4 then (w >>> (nI (24 - 8 * (q - m)) &&& 31)) &&& 255 else xA ξ1 8 q &&& 255) → σ'.2 = σ1.2 → K σ') → W_X0_puts G d (A 0) w σ1 K := fun {w m ξ1 σ1 K} hm H1 h1 hP hK => W_X0_puts_f (X_puts_l r0 r8 hm (by rw [hP.2.1]; exact h17) (by rw [hP.2.2.2]; exact hN) hK 4 0 24 ξ1 σ1 rfl rfl H1 h1 PuF.refl (fun q => by rw [if_neg (by omega)]) rfl)
  refine x_o H r0 (by decide) (one (m := n) (by omega) H h18 PuF.refl fun ξ1 σ1 H1 i1 P1 A1 e1 => x_o H1 r0 (by decide) (one (m := n + 4) (by omega) H1 i1 P1 fun ξ2 σ2 H2 i2 P2 A2 e2 => x_o H2 r0 (by decide) (one (m := n + 8) (by omega) H2 i2 (P1.trans P2) fun ξ3 σ3 H3 i3 P3 A3 e3 => x_o H3 r0 (by decide) (one (m := n + 12) (by omega) H3 i3 ((P1.trans P2).trans P3) fun ξ4 σ4 H4 i4 P4 A4 e4 => x_o H4 r0 (by decide) (one (m := n + 16) (by omega) H4 i4 (((P1.trans P2).trans P3).trans P4) fun ξ5 σ5 H5 i5 P5 A5 e5 => x_gi H5 r0 (by decide) i5 (hQ h20 ξ5 σ5 H5 i5 ((((P1.trans P2).trans P3).trans P4).trans P5) (fun q => ?_) ((((e5.trans e4).trans e3).trans e2).trans e1)))))))
  have sh : ∀ (j : Nat) (w : Int32) (q : Nat), n + 4 * j ≤ q → q < n + 4 * j + 4 → fw5 a b c e g j = w → feC (fw5 a b c e g) (q - n) = (w >>> (nI (24 - 8 * (q - (n + 4 * j))) &&& 31)) &&& 255 := fun j w q h1 h2 h3 => by
    unfold feC feR
    rw [show (q - n) / 4 = j by omega, h3, show (q - n) % 4 = q - (n + 4 * j) by omega]
  rw [A5 q]
  by_cases q5 : n + 16 ≤ q ∧ q < n + 16 + 4
  · rw [if_pos q5, if_pos ⟨by omega, by omega⟩]
    exact (sh 4 g q (by omega) (by omega) rfl).symm
  · rw [if_neg q5, A4 q]
    by_cases q4 : n + 12 ≤ q ∧ q < n + 12 + 4
    · rw [if_pos q4, if_pos ⟨by omega, by omega⟩]
      exact (sh 3 e q (by omega) (by omega) rfl).symm
    · rw [if_neg q4, A3 q]
      by_cases q3 : n + 8 ≤ q ∧ q < n + 8 + 4
      · rw [if_pos q3, if_pos ⟨by omega, by omega⟩]
        exact (sh 2 c q (by omega) (by omega) rfl).symm
      · rw [if_neg q3, A2 q]
        by_cases q2 : n + 4 ≤ q ∧ q < n + 4 + 4
        · rw [if_pos q2, if_pos ⟨by omega, by omega⟩]
          exact (sh 1 b q (by omega) (by omega) rfl).symm
        · rw [if_neg q2, A1 q]
          by_cases q1 : n ≤ q ∧ q < n + 4
          · rw [if_pos q1, if_pos ⟨by omega, by omega⟩]
            exact (sh 0 a q (by omega) (by omega) rfl).symm
          · rw [if_neg q1, if_neg (by omega)]
/-- X's end -/
theorem X_end {ξ : xs_X} {σ : am_S} (H : XS F D ξ σ) (r0 : rl D 0 (A 0) 0) {x : Int32} {n : Nat} (hn : n ≤ 1000) (h18 : xI ξ 0 18 = nI n) {Q : Int32 → am_S → Prop} (hy : ∀ m, m ≤ n → x = nI m → ∀ σ', XS F D (xs_sI ξ 0 18 (nI m)) σ' → σ'.2 = σ.2 → Q 1 σ') (hno : (∀ m, m ≤ n → ¬ x = nI m) → Q 0 σ) : W_X0_end G d (A 0) x σ Q := by
  refine W_X0_end_f ⟨fun h => hno fun m hm e => ?_, fun h => x_gi H r0 (by decide) h18 ⟨fun h2 => ?_, fun h2 => hno fun m hm e => ?_⟩⟩
  · rw [e] at h
    exact absurd h (nI_pos (by omega))
  · obtain ⟨j, j1, j2⟩ := nI_of h
    rw [j2] at h2 ⊢
    exact x_p H r0 (by decide) fun σ1 H1 e1 => hy j ((nI_leI j1 (by omega)).mp h2) j2 σ1 H1 e1
  · rw [e] at h2
    exact absurd (nI_le hm (by omega)) h2
end
