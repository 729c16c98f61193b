set_option maxRecDepth 100000
/-! ===== X's lexer ===== -/
/-- the token at p, as X has it -/
def tkx (G : am_G) (F : am_H) (T : Nat → Int32) (p : Nat) (ξ : xs_X) : Prop := (lxt T p = 0 ∧ xI ξ 1 2 = 0) ∨ (lxt T p = 2 ∧ xI ξ 1 2 = 2 ∧ ∃ a, xR ξ 1 6 = some a ∧ sOf G F a (lxn T p)) ∨ (∃ k, k < 22 ∧ lxt T p = nI (100 + k) ∧ xI ξ 1 2 = 3 ∧ ∃ a, xR ξ 1 6 = some a ∧ sOf G F a (wcd (wds.getD k []))) ∨ (lxt T p = 3 ∧ xI ξ 1 2 = 4 ∧ xI ξ 1 3 = lxv T p) ∨ (lxt T p = 201 ∧ xI ξ 1 2 = 5 ∧ xI ξ 1 3 = 256) ∨ (∃ c, cSg c = true ∧ lxt T p = 200 + c ∧ xI ξ 1 2 = 5 ∧ xI ξ 1 3 = c) ∨ (lxt T p = 1 ∧ (xI ξ 1 2 = 1 ∨ (xI ξ 1 2 = 5 ∧ xI ξ 1 3 = 46)))
def XK (G : am_G) (F : am_H) (T : Nat → Int32) (p : Nat) (ξ : xs_X) : Prop := xI ξ 1 0 = nI (lxe T p) ∧ xI ξ 1 1 = nI (lxa T p) ∧ tkx G F T p ξ
/-- only the reader changes, and of it not what is open -/
def rfr (D : xs_D) (ξ ξ' : xs_X) : Prop := (∀ r, D.2.2 r → r ≠ 1 → sc ξ ξ' r) ∧ ∀ k, 4 ≤ k → xI ξ' 1 k = xI ξ 1 k
theorem rfr.refl {D : xs_D} {ξ : xs_X} : rfr D ξ ξ := ⟨fun _ _ _ => sc.refl, fun _ _ => rfl⟩
theorem rfr.trans {D : xs_D} {ξ ξ1 ξ2 : xs_X} (h1 : rfr D ξ ξ1) (h2 : rfr D ξ1 ξ2) : rfr D ξ ξ2 := ⟨fun r hr h => (h1.1 r hr h).trans (h2.1 r hr h), fun k hk => (h2.2 k hk).trans (h1.2 k hk)⟩
theorem rfr.sI {D : xs_D} {ξ ξ1 : xs_X} {k : Nat} {v : Int32} (h : rfr D ξ ξ1) (hk : k < 4) : rfr D ξ (xs_sI ξ1 1 k v) := ⟨fun r hr h9 => (h.1 r hr h9).trans (sI_sc h9), fun q hq => (sI_o (by omega)).trans (h.2 q hq)⟩
theorem rfr.sR {D : xs_D} {ξ ξ1 : xs_X} {k : Nat} {v : Option Nat} (h : rfr D ξ ξ1) : rfr D ξ (xs_sR ξ1 1 k v) := ⟨fun r hr h9 => (h.1 r hr h9).trans (sR_sc h9), h.2⟩
theorem SB.ext {D : xs_D} {ξ : xs_X} {i j b v cnt : Nat} {L L' : Nat → Int32} (h : SB D ξ i j b v cnt L) (hL : ∀ k, k < cnt → L k = L' k) : SB D ξ i j b v cnt L' := by
  obtain ⟨h1, h2, h3, h4, h5, h6, h7, h8⟩ := h
  exact ⟨h1, h2, h3, h4, h5, h6, h7, fun k hk => (h8 k hk).trans (hL k hk)⟩
section
variable {G : am_G} {A : Nat → Nat} {T : Nat → Int32} {n d m : Nat} {F : am_H} {D : xs_D} {ξ : xs_X} {σ : am_S}
theorem XB.lt (h : XB G A T n F D ξ σ) {q : Nat} (hq : ¬ T q = -1) : q < n := Nat.lt_of_not_le fun h9 => hq (h.2.2.2.2.2.2.1 q h9)
theorem XB.ch (h : XB G A T n F D ξ σ) {q : Nat} (hq : ¬ T q = -1) : ∃ c, c < 256 ∧ T q = nI c := (h.2.2.2.2.2.2.2 q (h.lt hq)).1
theorem XB.isL (h : XB G A T n F D ξ σ) {q : Nat} (hs : cSm (T q) = true) : isL (T q) := by
  obtain ⟨c, hc, e⟩ := h.ch (cSm1 hs)
  have hs2 : 97 ≤ T q ∧ T q ≤ 122 := by unfold cSm at hs; simpa using hs
  rw [e] at hs2
  exact ⟨c, (nI_leI (show 97 < 2 ^ 31 by decide) (by omega)).mp hs2.1, (nI_leI (by omega) (show 122 < 2 ^ 31 by decide)).mp hs2.2, e⟩
/-- the reader's own ints and references change -/
theorem XB.sI1 (h : XB G A T n F D ξ σ) {k : Nat} {v : Int32} {σ1 : am_S} (H : XS F D (xs_sI ξ 1 k v) σ1) : XB G A T n F D (xs_sI ξ 1 k v) σ1 := h.up H FE.refl XD.refl h.2.1 xk.sI1
/-- what is asked of the reading of letters -/
def LeQ (G : am_G) (A : Nat → Nat) (T : Nat → Int32) (n : Nat) (F : am_H) (D : xs_D) (ξ0 : xs_X) (m a : Nat) (Q : am_S → Prop) : Prop := ∀ F' ξ' σ' j, FE F F' → XB G A T n F' D ξ' σ' → rfr D ξ0 ξ' → 1 ≤ j → (∀ k, k < j → cSm (T (a + k)) = true) → ¬ cSm (T (a + j)) = true → xI ξ' 1 0 = nI (a + j) → xI ξ' 1 1 = xI ξ0 1 1 → (7 ≤ j → xI ξ' 1 2 = 1) → (j ≤ 6 → ∃ s, xR ξ' 1 6 = some s ∧ sOf G F' s (lcd T a j) ∧ ((xI ξ' 1 2 = 2 ∧ wtk (lcd T a j) 22 = 2) ∨ (xI ξ' 1 2 = 3 ∧ ∃ k, k < 22 ∧ wtk (lcd T a j) 22 = nI (100 + k) ∧ wcd (wds.getD k []) = lcd T a j))) → cr G m σ' → Q σ'
theorem X_letters_l (hG : GK G) {ξ0 : xs_X} {σ0 : am_S} (hB0 : XB G A T n F D ξ0 σ0) {a i j9 b v : Nat} (ha : cSm (T a) = true) {Q : am_S → Prop} (hQ : LeQ G A T n F D ξ0 m a Q) (hi : ¬ D.2.2 i) (hj9 : ¬ D.2.2 j9) : ∀ (f j : Nat) (D1 : xs_D) (ξ : xs_X) (σ : am_S), XD D D1 → XB G A T n F D1 ξ σ → SB D1 ξ i j9 b v (min j 7) (fun k => T (a + k)) → rfr D ξ0 ξ → xI ξ 1 0 = nI (a + j) → xI ξ 1 1 = xI ξ0 1 1 → xI ξ 1 2 = 1 → (∀ k, k < j → cSm (T (a + k)) = true) → a + j ≤ n → n + 1 ≤ a + j + f → cr G (m + 3) σ → B_X4_letters_10 G (d + 7) (A 1) (some b) σ Q
  | 0, j, D1, ξ, σ, hD, hB, hs, hr, h0, h1, h2, hsm, han, hf, hc => by omega
  | f + 1, j, D1, ξ, σ, hD, hB, hs, hr, h0, h1, h2, hsm, han, hf, hc => by
    have hn : n ≤ 1000 := hB.2.2.2.2.1
    have r1 := hB.2.2.1.2.1
    have h1i : (1 : Nat) ≠ i := fun e => hi (e ▸ hB0.2.2.1.2.1.1)
    have h1j : (1 : Nat) ≠ j9 := fun e => hj9 (e ▸ hB0.2.2.1.2.1.1)
    refine B_X4_letters_10_f (x_o hB.1 r1 (by decide) (X_raw (j := 0) hB h0 (by omega) rfl (x_o hB.1 r1 (by decide) (X_isSmall ?_))))
    rw [Nat.add_zero]
    by_cases hsj : cSm (T (a + j)) = true
    · rw [if_pos hsj]
      have hlt : a + j < n := hB.lt (cSm1 hsj)
      have hsm' : ∀ k, k < j + 1 → cSm (T (a + k)) = true := fun k hk => by
        by_cases h9 : k = j
        · rw [h9]; exact hsj
        · exact hsm k (by omega)
      refine ⟨fun c => absurd c (by decide), fun _ => x_o hB.1 hs.1 (by decide) (X_length (d := d + 5) hB.1 hs ⟨fun c7 => ?_, fun c7 => ?_⟩)⟩
      · have h7 : 7 ≤ j := by
          have := (nI_leI (show 7 < 2 ^ 31 by decide) (show min j 7 < 2 ^ 31 by omega)).mp c7
          omega
        refine x_gi hB.1 r1 (by decide) h0 (x_p hB.1 r1 (by decide) fun σ2 H2 e2 => ?_)
        have hB2 := hB.sI1 H2
        refine X_letters_l (v := v) hG hB0 ha hQ hi hj9 f (j + 1) D1 _ σ2 hD hB2 ?_ (hr.sI (by decide)) (sI_s.trans (nI_1 _)) ((sI_o (by decide)).trans h1) ((sI_o (by decide)).trans h2) hsm' (by omega) (by omega) (hc.eq e2)
        have hs2 := hs.up (XD.refl) (sI_sc (ξ := ξ) (k := 0) (v := nI (a + j) + 1) (Ne.symm h1i)) (sI_sc (Ne.symm h1j))
        rw [show min (j + 1) 7 = min j 7 by omega]
        exact hs2
      · have h7 : j < 7 := Nat.lt_of_not_le fun h9 => c7 (nI_le (a := 7) (b := min j 7) (by omega) (by omega))
        obtain ⟨c, hc1, hc2, hce⟩ := hB.isL hsj
        refine x_o hB.1 r1 (by decide) (X_raw (j := 0) hB h0 (by omega) rfl (x_o hB.1 hs.1 (by decide) ?_))
        rw [show T (a + j + 0) = nI c from hce, by_u16 c (by omega)]
        refine X_append (d := d + 3) hB.1 hG hs (by omega) (show c < 128 by omega) rfl fun σ2 ξ2 H2 e2 s2 hs2 => ?_
        have hB2 : XB G A T n F D1 ξ2 σ2 := hB.up H2 FE.refl XD.refl hB.2.1 (xk.of fun r hr9 => s2 r (fun e => by
            rcases hr9 with h | h | h | h
            · exact hi (e ▸ h ▸ hB0.2.2.1.1.1)
            · exact hi (e ▸ h ▸ hB0.2.2.1.2.1.1)
            · exact hi (e ▸ h ▸ hB0.2.2.1.2.2.2.1.1)
            · exact hi (e ▸ h ▸ hB0.2.2.1.2.2.2.2.1)) (fun e => by
            rcases hr9 with h | h | h | h
            · exact hj9 (e ▸ h ▸ hB0.2.2.1.1.1)
            · exact hj9 (e ▸ h ▸ hB0.2.2.1.2.1.1)
            · exact hj9 (e ▸ h ▸ hB0.2.2.1.2.2.2.1.1)
            · exact hj9 (e ▸ h ▸ hB0.2.2.1.2.2.2.2.1)))
        have s21 := s2 1 h1i h1j
        have hr2 : rfr D ξ0 ξ2 := ⟨fun r hr9 h9 => (hr.1 r hr9 h9).trans (s2 r (fun e => hi (e ▸ hr9)) fun e => hj9 (e ▸ hr9)), fun k hk => (congrFun s21.1 k).trans (hr.2 k hk)⟩
        have k0 : xI ξ2 1 0 = nI (a + j) := (congrFun s21.1 0).trans h0
        refine x_gi H2 hB2.2.2.1.2.1 (by decide) k0 (x_p H2 hB2.2.2.1.2.1 (by decide) fun σ3 H3 e3 => ?_)
        have hB3 := hB2.sI1 H3
        refine X_letters_l (v := v) hG hB0 ha hQ hi hj9 f (j + 1) D1 _ σ3 hD hB3 ?_ (hr2.sI (by decide)) (sI_s.trans (nI_1 _)) (((sI_o (by decide)).trans (congrFun s21.1 1)).trans h1) (((sI_o (by decide)).trans (congrFun s21.1 2)).trans h2) hsm' (by omega) (by omega) ((hc.eq e2).eq e3)
        have hs3 := (hs2.ext (L' := fun k => T (a + k)) fun k hk => by
          by_cases h9 : k = min j 7
          · rw [h9, pk_us, ← hce, show min j 7 = j by omega]
          · rw [pk_un h9]).up (XD.refl) (sI_sc (ξ := ξ2) (k := 0) (v := nI (a + j) + 1) (Ne.symm h1i)) (sI_sc (Ne.symm h1j))
        rw [show min (j + 1) 7 = min j 7 + 1 by omega]
        exact hs3
    · rw [if_neg hsj]
      have hj1 : 1 ≤ j := Nat.one_le_iff_ne_zero.mpr fun e => hsj (by rw [e]; exact ha)
      refine ⟨fun _ => x_o hB.1 hs.1 (by decide) (X_toString (d := d) hB.1 hB.2.1 hG hs (by omega) (fun k hk => ?_) hc fun F2 ξ2 σ2 s hF2 H2 s2 hst c2 => ?_), fun c => absurd rfl c⟩
      · obtain ⟨c, hc1, hc2, hce⟩ := hB.isL (hsm k (by omega))
        exact ⟨c, by omega, hce⟩
      have hB2 : XB G A T n F2 D1 ξ2 σ2 := hB.up H2 hF2 XD.refl hB.2.1 (xk.of fun r hr9 => s2 r (by
          have hR := hB.2.2.1
          rcases hr9 with h | h | h | h
          · rw [h]; exact hR.1.1
          · rw [h]; exact hR.2.1.1
          · rw [h]; exact hR.2.2.2.1.1
          · rw [h]; exact hR.2.2.2.2.1))
      have s21 := s2 1 r1.1
      refine x_pr H2 hB2.2.2.1.2.1 (by decide) fun σ3 H3 e3 => ?_
      have hB3 : XB G A T n F2 D1 (xs_sR ξ2 1 6 (some s)) σ3 := hB2.up H3 FE.refl XD.refl hB.2.1 (xk.sR1 (by decide))
      have hr3 : rfr D ξ0 (xs_sR ξ2 1 6 (some s)) := (show rfr D ξ0 ξ2 from ⟨fun r hr9 h9 => (hr.1 r hr9 h9).trans (s2 r (hD.has hr9)), fun k hk => (congrFun s21.1 k).trans (hr.2 k hk)⟩).sR
      have hs3 := (hs.up XD.refl (s2 i hs.1.1) (s2 j9 hs.2.1.1)).up XD.refl (sR_sc (ξ := ξ2) (k := 6) (v := some s) (Ne.symm h1i)) (sR_sc (Ne.symm h1j))
      have q0 : xI (xs_sR ξ2 1 6 (some s)) 1 0 = nI (a + j) := (congrFun s21.1 0).trans h0
      have q1 : xI (xs_sR ξ2 1 6 (some s)) 1 1 = xI ξ0 1 1 := (congrFun s21.1 1).trans h1
      have q2 : xI (xs_sR ξ2 1 6 (some s)) 1 2 = 1 := (congrFun s21.1 2).trans h2
      have c3 := c2.eq e3
      refine x_o H3 hs3.1 (by decide) (X_length (d := d + 5) H3 hs3 ⟨fun c7 => ?_, fun c7 => ?_⟩)
      · have h7 : 7 ≤ j := by
          have := (nI_leI (show 7 < 2 ^ 31 by decide) (show min j 7 < 2 ^ 31 by omega)).mp c7
          omega
        exact hQ F2 _ σ3 j hF2 (hB0.up (H3.cong hD) hF2 XD.refl hB0.2.1 (by
          refine xk.trans (ξ1 := ξ) ?_ (xk.trans (ξ1 := ξ2) ?_ (xk.sR1 (by decide)))
          · exact ⟨congrFun (hr.1 0 hB0.2.2.1.1.1 (by decide)).1 18, (hr.1 0 hB0.2.2.1.1.1 (by decide)).2.1, by rw [hB.2.2.2.1.2.2.2.1, hB0.2.2.2.1.2.2.2.1], (hr.1 6 hB0.2.2.1.2.2.2.1.1 (by decide)).2.2.2.2, (hr.1 8 hB0.2.2.1.2.2.2.2.1 (by decide)).2.2.2.2, (hr.1 8 hB0.2.2.1.2.2.2.2.1 (by decide)).2.2.1⟩
          · exact xk.of fun r hr9 => s2 r (by
              have hR := hB.2.2.1
              rcases hr9 with h | h | h | h
              · rw [h]; exact hR.1.1
              · rw [h]; exact hR.2.1.1
              · rw [h]; exact hR.2.2.2.1.1
              · rw [h]; exact hR.2.2.2.2.1))) hr3 hj1 hsm hsj q0 q1 (fun _ => q2) (fun h9 => absurd h7 (by omega)) c3
      · have h6 : j ≤ 6 := Nat.le_of_lt_succ (Nat.lt_of_not_le fun h9 => c7 (nI_le (a := 7) (b := min j 7) (by omega) (by omega)))
        have hso : sOf G F2 s (lcd T a j) := by
          refine ⟨j, fun k => T (a + k), hj1, h6, by rw [show min j 7 = j by omega] at hst; exact hst, fun k hk => hB.isL (hsm k hk), ?_⟩
          exact lcd_ext j fun k _ => by rw [Nat.zero_add]
        obtain ⟨b1, b2, b3, b4, b5, b6, w, f9, b7, b8, b9⟩ := hB3.2.2.2.1
        refine x_gr H3 hB3.2.2.1.2.1 (by decide) b4 (x_gr H3 hB3.2.2.1.1 (by decide) b7 (x_gr H3 hB3.2.2.1.2.1 (by decide) sR_s (X_isAmong (d := d + 4) H3 hG b8 b9 hso (fun hy => ?_) fun hn9 => ?_)))
        · have hw9 := wtk_of (c := lcd T a j) 22 (Nat.le_refl _)
          refine ⟨fun c => absurd c (by decide), fun _ => x_p H3 hB3.2.2.1.2.1 (by decide) fun σ4 H4 e4 => ?_⟩
          have hB4 := hB3.sI1 H4
          refine hQ F2 _ σ4 j hF2 (hB0.up (H4.cong hD) hF2 XD.refl hB0.2.1 (by
            refine xk.trans (ξ1 := ξ) ?_ (xk.trans (ξ1 := ξ2) ?_ ((xk.sR1 (by decide)).trans xk.sI1))
            · exact ⟨congrFun (hr.1 0 hB0.2.2.1.1.1 (by decide)).1 18, (hr.1 0 hB0.2.2.1.1.1 (by decide)).2.1, by rw [hB.2.2.2.1.2.2.2.1, hB0.2.2.2.1.2.2.2.1], (hr.1 6 hB0.2.2.1.2.2.2.1.1 (by decide)).2.2.2.2, (hr.1 8 hB0.2.2.1.2.2.2.2.1 (by decide)).2.2.2.2, (hr.1 8 hB0.2.2.1.2.2.2.2.1 (by decide)).2.2.1⟩
            · exact xk.of fun r hr9 => s2 r (by
                have hR := hB.2.2.1
                rcases hr9 with h | h | h | h
                · rw [h]; exact hR.1.1
                · rw [h]; exact hR.2.1.1
                · rw [h]; exact hR.2.2.2.1.1
                · rw [h]; exact hR.2.2.2.2.1))) (hr3.sI (by decide)) hj1 hsm hsj ((sI_o (by decide)).trans q0) ((sI_o (by decide)).trans q1) (fun h9 => absurd h9 (by omega)) (fun _ => ⟨s, sR_s, hso, Or.inr ⟨sI_s, ?_⟩⟩) (c3.eq e4)
          rcases hw9 with ⟨-, h8⟩ | ⟨k, k1, k2, k3⟩
          · obtain ⟨k, k1, k2⟩ := hy
            exact absurd k2 (h8 k k1)
          · exact ⟨k, k1, k2, k3⟩
        · have hw9 := wtk_of (c := lcd T a j) 22 (Nat.le_refl _)
          refine ⟨fun _ => x_p H3 hB3.2.2.1.2.1 (by decide) fun σ4 H4 e4 => ?_, fun c => absurd rfl c⟩
          have hB4 := hB3.sI1 H4
          refine hQ F2 _ σ4 j hF2 (hB0.up (H4.cong hD) hF2 XD.refl hB0.2.1 (by
            refine xk.trans (ξ1 := ξ) ?_ (xk.trans (ξ1 := ξ2) ?_ ((xk.sR1 (by decide)).trans xk.sI1))
            · exact ⟨congrFun (hr.1 0 hB0.2.2.1.1.1 (by decide)).1 18, (hr.1 0 hB0.2.2.1.1.1 (by decide)).2.1, by rw [hB.2.2.2.1.2.2.2.1, hB0.2.2.2.1.2.2.2.1], (hr.1 6 hB0.2.2.1.2.2.2.1.1 (by decide)).2.2.2.2, (hr.1 8 hB0.2.2.1.2.2.2.2.1 (by decide)).2.2.2.2, (hr.1 8 hB0.2.2.1.2.2.2.2.1 (by decide)).2.2.1⟩
            · exact xk.of fun r hr9 => s2 r (by
                have hR := hB.2.2.1
                rcases hr9 with h | h | h | h
                · rw [h]; exact hR.1.1
                · rw [h]; exact hR.2.1.1
                · rw [h]; exact hR.2.2.2.1.1
                · rw [h]; exact hR.2.2.2.2.1))) (hr3.sI (by decide)) hj1 hsm hsj ((sI_o (by decide)).trans q0) ((sI_o (by decide)).trans q1) (fun h9 => absurd h9 (by omega)) (fun _ => ⟨s, sR_s, hso, Or.inl ⟨sI_s, ?_⟩⟩) (c3.eq e4)
          rcases hw9 with ⟨h8, -⟩ | ⟨k, k1, k2, k3⟩
          · exact h8
          · exact absurd k3 (hn9 k k1)
theorem X_letters (hG : GK G) (hB : XB G A T n F D ξ σ) {a : Nat} (ha : cSm (T a) = true) (h0 : xI ξ 1 0 = nI a) (h2 : xI ξ 1 2 = 1) (hcr : cr G (m + 6) σ) {Q : am_S → Prop} (hQ : LeQ G A T n F D ξ m a Q) : W_X4_letters G (d + 7) (A 1) σ Q := by
  have hlt := hB.lt (cSm1 ha)
  refine W_X4_letters_f (X_sbnew (d := d + 4) (m := m + 3) hB.1 hB.2.1 hG (hcr.le (by omega)) fun D1 ξ1 σ1 i j b v xd td ni nj hs H1 s1 c1 => ?_)
  have hR := hB.2.2.1
  have hB1 : XB G A T n F D1 ξ1 σ1 := hB.up H1 FE.refl xd td (xk.of fun r hr => s1 r (by
    rcases hr with h | h | h | h
    · rw [h]; exact hR.1.1
    · rw [h]; exact hR.2.1.1
    · rw [h]; exact hR.2.2.2.1.1
    · rw [h]; exact hR.2.2.2.2.1))
  have s11 := s1 1 hR.2.1.1
  exact X_letters_l hG hB ha hQ ni nj (n + 1) 0 D1 ξ1 σ1 xd hB1 (hs.ext fun k hk => absurd hk (by omega)) ⟨fun r hr _ => s1 r hr, fun k _ => congrFun s11.1 k⟩ ((congrFun s11.1 0).trans h0) (congrFun s11.1 1) ((congrFun s11.1 2).trans h2) (fun k hk => absurd hk (by omega)) (by omega) (by omega) c1
end
