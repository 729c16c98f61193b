set_option maxRecDepth 100000
/-! ===== X's lexer: digits, signs, the next token ===== -/
theorem spn_is {q : Int32 → Bool} {T : Nat → Int32} {a : Nat} : ∀ (f i j : Nat), i ≤ j → j < i + f → (∀ k, i ≤ k → k < j → q (T (a + k)) = true) → ¬ q (T (a + j)) = true → spn q T f (a + i) = a + j
  | 0, i, j, h1, h2, _, _ => by omega
  | f + 1, i, j, h1, h2, h3, h4 => by
    by_cases hij : i = j
    · subst hij
      exact spn_no h4
    · rw [spn_st (h3 i (Nat.le_refl _) (by omega))]
      exact spn_is f (i + 1) j (by omega) (by omega) (fun k k1 k2 => h3 k (by omega) k2) h4
section
variable {G : am_G} {A : Nat → Nat} {T : Nat → Int32} {n d m : Nat} {F : am_H} {D : xs_D} {ξ : xs_X} {σ : am_S}
/-- what is asked of the reading of digits -/
def DiQ (G : am_G) (A : Nat → Nat) (T : Nat → Int32) (n : Nat) (F : am_H) (D : xs_D) (ξ0 : xs_X) (σ0 : am_S) (a : Nat) (Q : am_S → Prop) : Prop := ∀ ξ' σ' j, XB G A T n F D ξ' σ' → rfr D ξ0 ξ' → σ'.2 = σ0.2 → 1 ≤ j → (∀ k, k < j → cDg (T (a + k)) = true) → ¬ cDg (T (a + j)) = true → xI ξ' 1 0 = nI (a + j) → xI ξ' 1 1 = xI ξ0 1 1 → xI ξ' 1 3 = ldg T a (min j 6) → xI ξ' 1 2 = (if j ≤ 6 ∧ cSm (T (a + j)) = false ∧ cGr (T (a + j)) = false then 4 else 1) → Q σ'
theorem X_digits_l {ξ0 : xs_X} {σ0 : am_S} {a : Nat} (ha : cDg (T a) = true) {Q : am_S → Prop} (hQ : DiQ G A T n F D ξ0 σ0 a Q) : ∀ (f j : Nat) (ξ : xs_X) (σ : am_S) {x : Int32}, x = nI j → XB G A T n F D ξ σ → rfr D ξ0 ξ → σ.2 = σ0.2 → xI ξ 1 0 = nI (a + j) → xI ξ 1 1 = xI ξ0 1 1 → xI ξ 1 2 = 1 → xI ξ 1 3 = ldg T a (min j 6) → (∀ k, k < j → cDg (T (a + k)) = true) → a + j ≤ n → n + 1 ≤ a + j + f → B_X4_digits_7 G (d + 1) (A 1) x σ Q
  | 0, j, ξ, σ, x, hx, hB, hr, he, h0, h1, h2, h3, hdg, han, hf => by omega
  | f + 1, j, ξ, σ, x, hx, hB, hr, he, h0, h1, h2, h3, hdg, han, hf => by
    subst hx
    have hn : n ≤ 1000 := hB.2.2.2.2.1
    have r1 := hB.2.2.1.2.1
    refine B_X4_digits_7_f (x_o hB.1 r1 (by decide) (X_raw (j := 0) hB h0 (by omega) rfl (x_o hB.1 r1 (by decide) (X_isDigit ?_))))
    rw [Nat.add_zero]
    by_cases hj : cDg (T (a + j)) = true
    · rw [if_pos hj]
      have hlt : a + j < n := hB.lt (cDg1 hj)
      have hdg' : ∀ k, k < j + 1 → cDg (T (a + k)) = true := fun k hk => by
        by_cases h9 : k = j
        · rw [h9]; exact hj
        · exact hdg k (by omega)
      refine ⟨fun c => absurd c (by decide), fun _ => ⟨fun c6 => ?_, fun c6 => ?_⟩⟩
      · have h6 : 6 ≤ j := (nI_leI (show 6 < 2 ^ 31 by decide) (by omega)).mp c6
        refine x_gi hB.1 r1 (by decide) rfl (x_p hB.1 r1 (by decide) fun σ2 H2 e2 => ?_)
        have hB2 := hB.sI1 H2
        refine x_gi H2 r1 (by decide) ((sI_o (by decide)).trans h0) (x_p H2 r1 (by decide) fun σ3 H3 e3 => ?_)
        have hB3 := hB2.sI1 H3
        refine X_digits_l ha hQ f (j + 1) _ σ3 (nI_1 j) hB3 ((hr.sI (by decide)).sI (by decide)) ((e3.trans e2).trans he) (sI_s.trans (nI_1 _)) (((sI_o (by decide)).trans (sI_o (by decide))).trans h1) (((sI_o (by decide)).trans (sI_o (by decide))).trans h2) ?_ hdg' (by omega) (by omega)
        rw [sI_o (by decide), sI_s, h3, Nat.min_eq_right h6, Nat.min_eq_right (by omega)]
      · have h6 : j < 6 := Nat.lt_of_not_le fun h9 => c6 (nI_le (a := 6) (b := j) h9 (by omega))
        refine x_gi hB.1 r1 (by decide) h3 (x_o hB.1 r1 (by decide) (X_raw (j := 0) hB h0 (by omega) rfl (x_p hB.1 r1 (by decide) fun σ2 H2 e2 => ?_)))
        have hB2 := hB.sI1 H2
        refine x_gi H2 r1 (by decide) ((sI_o (by decide)).trans h0) (x_p H2 r1 (by decide) fun σ3 H3 e3 => ?_)
        have hB3 := hB2.sI1 H3
        refine X_digits_l ha hQ f (j + 1) _ σ3 (nI_1 j) hB3 ((hr.sI (by decide)).sI (by decide)) ((e3.trans e2).trans he) (sI_s.trans (nI_1 _)) (((sI_o (by decide)).trans (sI_o (by decide))).trans h1) (((sI_o (by decide)).trans (sI_o (by decide))).trans h2) ?_ hdg' (by omega) (by omega)
        rw [sI_o (by decide), sI_s, Nat.min_eq_left (by omega), Nat.min_eq_left (by omega)]
        rfl
    · rw [if_neg hj]
      have hj1 : 1 ≤ j := Nat.one_le_iff_ne_zero.mpr fun e => hj (by rw [e]; exact ha)
      refine ⟨fun _ => ⟨fun c7 => ?_, fun c7 => ?_⟩, fun c => absurd rfl c⟩
      · have h7 : 7 ≤ j := (nI_leI (show 7 < 2 ^ 31 by decide) (by omega)).mp c7
        exact hQ ξ σ j hB hr he hj1 hdg hj h0 h1 h3 (by rw [if_neg (fun h => by omega)]; exact h2)
      · have h6 : j ≤ 6 := Nat.le_of_lt_succ (Nat.lt_of_not_le fun h9 => c7 (nI_le (a := 7) (b := j) h9 (by omega)))
        refine x_o hB.1 r1 (by decide) (X_raw (j := 0) hB h0 (by omega) rfl (x_o hB.1 r1 (by decide) (X_isSmall ?_)))
        rw [Nat.add_zero]
        by_cases hs : cSm (T (a + j)) = true
        · rw [if_pos hs]
          exact y1 (hQ ξ σ j hB hr he hj1 hdg hj h0 h1 h3 (by rw [if_neg (fun h => by rw [hs] at h; exact absurd h.2.1 (by decide))]; exact h2))
        · rw [if_neg hs]
          refine z1 (x_o hB.1 r1 (by decide) (X_raw (j := 0) hB h0 (by omega) rfl (x_o hB.1 r1 (by decide) (X_isGreat ?_))))
          rw [Nat.add_zero]
          by_cases hg : cGr (T (a + j)) = true
          · rw [if_pos hg]
            exact y1 (hQ ξ σ j hB hr he hj1 hdg hj h0 h1 h3 (by rw [if_neg (fun h => by rw [hg] at h; exact absurd h.2.2 (by decide))]; exact h2))
          · rw [if_neg hg]
            refine z1 (x_p hB.1 r1 (by decide) fun σ2 H2 e2 => ?_)
            have hB2 := hB.sI1 H2
            exact hQ _ σ2 j hB2 (hr.sI (by decide)) (e2.trans he) hj1 hdg hj ((sI_o (by decide)).trans h0) ((sI_o (by decide)).trans h1) ((sI_o (by decide)).trans h3) (by rw [if_pos ⟨h6, by simpa using hs, by simpa using hg⟩]; exact sI_s)
theorem X_digits (hB : XB G A T n F D ξ σ) {a : Nat} (ha : cDg (T a) = true) (h0 : xI ξ 1 0 = nI a) (h2 : xI ξ 1 2 = 1) {Q : am_S → Prop} (hQ : DiQ G A T n F D ξ σ a Q) : W_X4_digits G (d + 1) (A 1) σ Q := by
  have hlt := hB.lt (cDg1 ha)
  refine W_X4_digits_f (x_p hB.1 hB.2.2.1.2.1 (by decide) fun σ2 H2 e2 => ?_)
  have hB2 := hB.sI1 H2
  exact X_digits_l ha hQ (n + 1) 0 _ σ2 rfl hB2 (rfr.refl.sI (by decide)) e2 ((sI_o (by decide)).trans h0) (sI_o (by decide)) ((sI_o (by decide)).trans h2) sI_s (fun k hk => absurd hk (by omega)) (by omega) (by omega)
/-! signs -/
theorem sg_by : ∀ c, c < 256 → ((∃ k, k < 12 ∧ am_byte 0 k = (Int32.toInt8 (nI c)).toInt32) ↔ (cSg (nI c) = true ∨ nI c = 46)) := by decide +kernel
theorem sg_len : (am_txs.getD 0 "").length = 12 := by decide +kernel
theorem X_iOC_l (H : XS F D ξ σ) {v : Nat} (hv : arX G F v 12 (fun k => am_byte 0 k)) {y : Int32} {Q : Int32 → am_S → Prop} (hy : ∀ k, k < 12 → am_byte 0 k = y → Q (nI k) σ) (hn : (∀ k, k < 12 → ¬ am_byte 0 k = y) → Q (-1) σ) : ∀ (f k : Nat) {x : Int32}, k + f = 12 → x = nI k → (∀ j, j < k → ¬ am_byte 0 j = y) → B_J9_indexOfChar_7 G d (some v) 12 y x σ Q
  | 0, k, x, hk, hx, hj => B_J9_indexOfChar_7_f (by
      subst hx
      have hk : k = 12 := by omega
      subst hk
      exact ⟨fun _ => hn hj, fun c => absurd (nI_le (Nat.le_refl 12) (by omega)) c⟩)
  | f + 1, k, x, hk, hx, hj => B_J9_indexOfChar_7_f (by
      subst hx
      refine ⟨fun c => absurd c (nI_ge (a := k) (b := 12) (by omega) (by omega)), fun _ => X_Gai H hv rfl (show k < 12 by omega) (by decide) ⟨fun c => ?_, fun c => hy k (by omega) c⟩⟩
      refine X_iOC_l H hv hy hn f (k + 1) (by omega) (nI_1 k) fun j hj9 => ?_
      by_cases h9 : j = k
      · rw [h9]; exact c
      · exact hj j (by omega))
theorem X_indexOf (H : XS F D ξ σ) (hG : GK G) {c : Nat} (hc : c < 256) {x : Int32} (hx : x = nI c) {Q : Int32 → am_S → Prop} (hy : ∀ v, (cSg (nI c) = true ∨ nI c = 46) → ¬ v < 0 → Q v σ) (hn : ¬ (cSg (nI c) = true ∨ nI c = 46) → Q (-1) σ) : W_J4_indexOf G (d + 4) (am_sk G 0) x σ Q := by
  subst hx
  have hs : stX G F (am_sk G 0) 12 (fun k => am_byte 0 k) := Or.inr ⟨0, by decide, rfl, sg_len.symm, fun _ _ => rfl⟩
  have hkey := sg_by c hc
  refine W_J4_indexOf_f (X_Go H hs (W_J4_indexOf_2_f (X_Go H hs (W_J4_isLatin1_f (X_sti hG ⟨fun c => absurd c (by decide), fun _ => X_Gi H hs ⟨fun c => absurd rfl c, fun _ => ?_⟩⟩)))))
  refine ⟨fun c => absurd c (by decide), fun _ => X_Gr H hs fun v hv => X_Go H hs (W_J4_length_f (X_Gr H hs fun w hw => X_Gal H hw (X_Go H hs (W_J4_coder_f (X_sti hG ⟨fun c => absurd c (by decide), fun _ => X_Gi H hs ⟨rfl, ?_⟩⟩)))))⟩
  have e12 : (nI 12 >>> ((0 : Int32) &&& 31)) = 12 := by decide
  rw [e12]
  refine W_J9_indexOf_f (W_J9_canEncode_2_f ⟨fun c9 => absurd c9 (nI_pos (by omega)), fun _ => ⟨fun c9 => ?_, fun _ => ?_⟩⟩)
  · have := (nI_ltI (show 255 < 2 ^ 31 by decide) (show c < 2 ^ 31 by omega)).mp c9
    omega
  · refine ⟨fun _ => W_J7_max_f ⟨fun c => absurd c (by decide), fun _ => X_Gal H hv (W_J7_min_f ⟨fun c => absurd c (by decide), fun _ => ⟨fun _ => W_J9_indexOfChar_f ?_, fun c => absurd (by decide) c⟩⟩)⟩, fun c => absurd c (by decide)⟩
    exact X_iOC_l H hv (fun k hk e => hy (nI k) (hkey.mp ⟨k, hk, e⟩) (nI_pos (by omega))) (fun h9 => hn fun h8 => by
      obtain ⟨k, hk, e⟩ := hkey.mpr h8
      exact h9 k hk e) 12 0 (by omega) rfl fun j hj => absurd hj (by omega)
/-- what is asked of a sign's reading -/
def SiQ (G : am_G) (A : Nat → Nat) (T : Nat → Int32) (n : Nat) (F : am_H) (D : xs_D) (ξ0 : xs_X) (σ0 : am_S) (a : Nat) (Q : am_S → Prop) : Prop := ∀ ξ' σ', XB G A T n F D ξ' σ' → rfr D ξ0 ξ' → σ'.2 = σ0.2 → xI ξ' 1 0 = nI (if T a = 61 ∧ T (a + 1) = 61 then a + 2 else a + 1) → xI ξ' 1 1 = xI ξ0 1 1 → xI ξ' 1 3 = (if T a = 61 ∧ T (a + 1) = 61 then 256 else T a) → xI ξ' 1 2 = (if cSg (T a) = true ∨ T a = 46 then 5 else 1) → Q σ'
theorem X_sign (hG : GK G) (hB : XB G A T n F D ξ σ) {a : Nat} (ha : ¬ T a = -1) (h0 : xI ξ 1 0 = nI a) (h2 : xI ξ 1 2 = 1) {Q : am_S → Prop} (hQ : SiQ G A T n F D ξ σ a Q) : W_X4_sign G (d + 5) (A 1) (T a) σ Q := by
  have hlt := hB.lt ha
  have hn : n ≤ 1000 := hB.2.2.2.2.1
  have r1 := hB.2.2.1.2.1
  obtain ⟨c, hc, hce⟩ := hB.ch ha
  have b48 : ∀ (s0 x9 : Int32) (ξ1 : xs_X) (σ1 : am_S), XB G A T n F D ξ1 σ1 → rfr D ξ ξ1 → σ1.2 = σ.2 → xI ξ1 1 0 = nI a → xI ξ1 1 1 = xI ξ 1 1 → (s0 = 0 ∧ ¬ (T a = 61 ∧ T (a + 1) = 61) ∧ x9 = T a ∨ ¬ s0 = 0 ∧ (T a = 61 ∧ T (a + 1) = 61) ∧ x9 = 256) → xI ξ1 1 2 = (if cSg (T a) = true ∨ T a = 46 then 5 else 1) → B_X4_sign_48 G (d + 5) (A 1) s0 x9 σ1 Q := fun s0 x9 ξ1 σ1 hB1 hr1 he1 k0 k1 hs k2 => by
    refine B_X4_sign_48_f (x_p hB1.1 r1 (by decide) fun σ2 H2 e2 => ?_)
    have hB2 := hB1.sI1 H2
    refine x_gi H2 r1 (by decide) ((sI_o (by decide)).trans k0) ⟨fun c0 => x_p H2 r1 (by decide) fun σ3 H3 e3 => ?_, fun c0 => x_p H2 r1 (by decide) fun σ3 H3 e3 => ?_⟩
    · rcases hs with ⟨-, g2, g3⟩ | ⟨g1, -⟩
      · refine hQ _ σ3 (hB2.sI1 H3) ((hr1.sI (by decide)).sI (by decide)) ((e3.trans e2).trans he1) ?_ (((sI_o (by decide)).trans (sI_o (by decide))).trans k1) ?_ (((sI_o (by decide)).trans (sI_o (by decide))).trans k2)
        · rw [if_neg g2]; exact sI_s.trans (nI_1 _)
        · rw [if_neg g2, sI_o (by decide), sI_s]; exact g3
      · exact absurd c0 g1
    · rcases hs with ⟨g1, -⟩ | ⟨-, g2, g3⟩
      · exact absurd g1 c0
      · refine hQ _ σ3 (hB2.sI1 H3) ((hr1.sI (by decide)).sI (by decide)) ((e3.trans e2).trans he1) ?_ (((sI_o (by decide)).trans (sI_o (by decide))).trans k1) ?_ (((sI_o (by decide)).trans (sI_o (by decide))).trans k2)
        · rw [if_pos g2]; exact sI_s.trans (nI_add a 2)
        · rw [if_pos g2, sI_o (by decide), sI_s]; exact g3
  have b21 : ∀ s0 : Int32, (s0 = 0 ∧ ¬ (T a = 61 ∧ T (a + 1) = 61) ∨ ¬ s0 = 0 ∧ (T a = 61 ∧ T (a + 1) = 61)) → B_X4_sign_21 G (d + 5) (A 1) (T a) s0 σ Q := fun s0 hs => by
    have hst : stX G F (am_sk G 0) 12 (fun k => am_byte 0 k) := Or.inr ⟨0, by decide, rfl, sg_len.symm, fun _ _ => rfl⟩
    have hs' : ∀ x9 : Int32, (s0 = 0 → x9 = T a) → (¬ s0 = 0 → x9 = 256) → (s0 = 0 ∧ ¬ (T a = 61 ∧ T (a + 1) = 61) ∧ x9 = T a ∨ ¬ s0 = 0 ∧ (T a = 61 ∧ T (a + 1) = 61) ∧ x9 = 256) := fun x9 h1 h2 => by
      rcases hs with ⟨g1, g2⟩ | ⟨g1, g2⟩
      · exact Or.inl ⟨g1, g2, h1 g1⟩
      · exact Or.inr ⟨g1, g2, h2 g1⟩
    refine B_X4_sign_21_f (X_Go hB.1 hst (X_indexOf (d := d) hB.1 hG hc hce (fun v hy hv => ⟨fun c9 => absurd c9 hv, fun _ => x_p hB.1 r1 (by decide) fun σ2 H2 e2 => ?_⟩) fun hno => ⟨fun _ => ?_, fun c9 => absurd (by decide) c9⟩))
    · have hB2 := hB.sI1 H2
      rw [← hce] at hy
      refine ⟨fun c0 => b48 s0 _ _ σ2 hB2 (rfr.refl.sI (by decide)) e2 ((sI_o (by decide)).trans h0) (sI_o (by decide)) (hs' _ (fun _ => rfl) fun h9 => absurd c0 h9) (by rw [if_pos hy]; exact sI_s), fun c0 => b48 s0 _ _ σ2 hB2 (rfr.refl.sI (by decide)) e2 ((sI_o (by decide)).trans h0) (sI_o (by decide)) (hs' _ (fun h9 => absurd h9 c0) fun _ => rfl) (by rw [if_pos hy]; exact sI_s)⟩
    · rw [← hce] at hno
      exact ⟨fun c0 => b48 s0 _ ξ σ hB rfr.refl rfl h0 rfl (hs' _ (fun _ => rfl) fun h9 => absurd c0 h9) (by rw [if_neg hno]; exact h2), fun c0 => b48 s0 _ ξ σ hB rfr.refl rfl h0 rfl (hs' _ (fun h9 => absurd h9 c0) fun _ => rfl) (by rw [if_neg hno]; exact h2)⟩
  refine W_X4_sign_f ⟨fun n61 => b21 0 (Or.inl ⟨rfl, fun h => n61 h.1⟩), fun c61 => x_o hB.1 r1 (by decide) (X_raw (j := 1) hB h0 (by omega) rfl ⟨fun n => b21 0 (Or.inl ⟨rfl, fun h => n h.2⟩), fun c => b21 1 (Or.inr ⟨by decide, c61, c⟩)⟩)⟩
/-- what is asked of the next token's reading -/
def NxQ (G : am_G) (A : Nat → Nat) (T : Nat → Int32) (n : Nat) (F : am_H) (D : xs_D) (ξ0 : xs_X) (m q : Nat) (Q : am_S → Prop) : Prop := ∀ F' ξ' σ', FE F F' → XB G A T n F' D ξ' σ' → rfr D ξ0 ξ' → XK G F' T q ξ' → cr G m σ' → Q σ'
theorem XK.eq {p q : Nat} (h : lxa T p = lxa T q) (hk : XK G F T q ξ) : XK G F T p ξ := by
  obtain ⟨h1, h2, h3⟩ := hk
  refine ⟨by rw [lxe_eq h]; exact h1, by rw [h]; exact h2, ?_⟩
  unfold tkx lxn lxv at h3 ⊢
  rw [lxt_eq h, lxe_eq h, h]
  exact h3
theorem X_next (hG : GK G) {Q : am_S → Prop} : ∀ (f q : Nat) (ξ : xs_X) (σ : am_S), XB G A T n F D ξ σ → xI ξ 1 0 = nI q → q ≤ n → n + 1 ≤ q + f → cr G (m + 6) σ → NxQ G A T n F D ξ m q Q → W_X4_next G (d + 8) (A 1) σ Q
  | 0, q, ξ, σ, hB, h0, hq, hf, hc, hQ => by omega
  | f + 1, q, ξ, σ, hB, h0, hq, hf, hc, hQ => by
    have hn : n ≤ 1000 := hB.2.2.2.2.1
    have he : ∀ p, 1000 ≤ p → T p = -1 := fun p hp => hB.2.2.2.2.2.2.1 p (by omega)
    have r1 := hB.2.2.1.2.1
    have space : cSp (T q) = true → ∀ σ2, XS F D (xs_sI ξ 1 0 (nI q + 1)) σ2 → σ2.2 = σ.2 → W_X4_next G (d + 8) (A 1) σ2 Q := fun hs σ2 H2 e2 => by
      have hlt : q < n := hB.lt fun e => by rw [e] at hs; exact absurd hs (by decide)
      refine X_next hG f (q + 1) _ σ2 (hB.sI1 H2) (sI_s.trans (nI_1 q)) (by omega) (by omega) (hc.eq e2) fun F' ξ' σ' k1 k2 k3 k4 k5 => hQ F' ξ' σ' k1 k2 ((rfr.refl.sI (by decide)).trans k3) (XK.eq (lxa_sp he hs) k4) k5
    refine W_X4_next_f (x_o hB.1 r1 (by decide) (X_raw (j := 0) hB h0 (by omega) rfl ?_))
    rw [Nat.add_zero]
    refine ⟨fun c32 => x_gi hB.1 r1 (by decide) h0 (x_p hB.1 r1 (by decide) fun σ2 H2 e2 => space (by rw [c32]; rfl) σ2 H2 e2), fun n32 => x_o hB.1 r1 (by decide) (X_raw (j := 0) hB h0 (by omega) rfl ?_)⟩
    rw [Nat.add_zero]
    refine ⟨fun n10 => x_gi hB.1 r1 (by decide) h0 (x_p hB.1 r1 (by decide) fun σ2 H2 e2 => ?_), fun c10 => x_gi hB.1 r1 (by decide) h0 (x_p hB.1 r1 (by decide) fun σ2 H2 e2 => space (by rw [c10]; rfl) σ2 H2 e2)⟩
    have hns : ¬ cSp (T q) = true := by unfold cSp; simp [n32, n10]
    have ea : lxa T q = q := lxa_no hns
    have hB2 := hB.sI1 H2
    have k0 : xI (xs_sI ξ 1 1 (nI q)) 1 0 = nI q := (sI_o (by decide)).trans h0
    refine x_o H2 r1 (by decide) (X_raw (j := 0) hB2 k0 (by omega) rfl (x_p H2 r1 (by decide) fun σ3 H3 e3 => ?_))
    rw [Nat.add_zero]
    have hB3 := hB2.sI1 H3
    have hr3 : rfr D ξ (xs_sI (xs_sI ξ 1 1 (nI q)) 1 2 1) := (rfr.refl.sI (by decide)).sI (by decide)
    have l0 : xI (xs_sI (xs_sI ξ 1 1 (nI q)) 1 2 1) 1 0 = nI q := (sI_o (by decide)).trans k0
    have l1 : xI (xs_sI (xs_sI ξ 1 1 (nI q)) 1 2 1) 1 1 = nI q := (sI_o (by decide)).trans sI_s
    have hc3 := (hc.eq e2).eq e3
    refine ⟨fun n1 => x_o H3 r1 (by decide) (X_isSmall ?_), fun c1 => x_p H3 r1 (by decide) fun σ4 H4 e4 => ?_⟩
    · by_cases hs : cSm (T q) = true
      · rw [if_pos hs]
        refine y2 (x_o H3 r1 (by decide) (X_letters (d := d) (m := m) hG hB3 hs l0 sI_s hc3 fun F' ξ' σ' j g1 g2 g3 g4 g5 g6 g7 g8 g9 g10 g11 => ?_))
        have hj1000 : q + j ≤ 1000 := by
          by_cases h9 : j = 0
          · omega
          · have := g2.lt (cSm1 (g5 (j - 1) (by omega)))
            omega
        have es : spn cSm T 1001 q = q + j := spn_is 1001 0 j (by omega) (by omega) (fun k _ hk => g5 k hk) g6
        have hE : lxe T q = q + j := by unfold lxe; rw [ea]; simp only [if_neg n1, if_pos hs]; exact es
        have hX : lxt T q = if j ≤ 6 then wtk (lcd T q j) 22 else 1 := by unfold lxt; rw [ea, hE]; simp only [if_neg n1, if_pos hs]; rw [Nat.add_sub_cancel_left]
        have hNm : lxn T q = lcd T q j := by unfold lxn; rw [ea, hE, Nat.add_sub_cancel_left]
        refine hQ F' ξ' σ' g1 g2 (hr3.trans g3) ⟨by rw [hE]; exact g7, by rw [ea, g8]; exact l1, ?_⟩ g11
        by_cases h6 : j ≤ 6
        · rw [if_pos h6] at hX
          obtain ⟨s, s1, s2, s3⟩ := g10 h6
          rcases s3 with ⟨s3, s4⟩ | ⟨s3, k, s4, s5, s6⟩
          · exact Or.inr (Or.inl ⟨hX.trans s4, s3, s, s1, by rw [hNm]; exact s2⟩)
          · exact Or.inr (Or.inr (Or.inl ⟨k, s4, hX.trans s5, s3, s, s1, by rw [s6]; exact s2⟩))
        · rw [if_neg h6] at hX
          exact Or.inr (Or.inr (Or.inr (Or.inr (Or.inr (Or.inr ⟨hX, Or.inl (g9 (by omega))⟩)))))
      · rw [if_neg hs]
        refine z2 (x_o H3 r1 (by decide) (X_isDigit ?_))
        by_cases hdg : cDg (T q) = true
        · rw [if_pos hdg]
          refine y2 (x_o H3 r1 (by decide) (X_digits (d := d + 6) hB3 hdg l0 sI_s fun ξ' σ' j g2 g3 ge g4 g5 g6 g7 g8 g9 g10 => ?_))
          have hj1000 : q + j ≤ 1000 := by
            have := g2.lt (cDg1 (g5 (j - 1) (by omega)))
            omega
          have es : spn cDg T 1001 q = q + j := spn_is 1001 0 j (by omega) (by omega) (fun k _ hk => g5 k hk) g6
          have hE : lxe T q = q + j := by unfold lxe; rw [ea]; simp only [if_neg n1, if_neg hs, if_pos hdg]; exact es
          have hX : lxt T q = if j ≤ 6 ∧ cSm (T (q + j)) = false ∧ cGr (T (q + j)) = false then 3 else 1 := by unfold lxt; rw [ea, hE]; simp only [if_neg n1, if_neg hs, if_pos hdg]; rw [Nat.add_sub_cancel_left]
          have hV : lxv T q = ldg T q j := by unfold lxv; rw [ea, hE, Nat.add_sub_cancel_left]
          refine hQ F ξ' σ' FE.refl g2 (hr3.trans g3) ⟨by rw [hE]; exact g7, by rw [ea, g8]; exact l1, ?_⟩ ((hc3.eq ge).le (by omega))
          by_cases h6 : j ≤ 6 ∧ cSm (T (q + j)) = false ∧ cGr (T (q + j)) = false
          · rw [if_pos h6] at hX g10
            refine Or.inr (Or.inr (Or.inr (Or.inl ⟨hX, g10, ?_⟩)))
            rw [g9, hV, Nat.min_eq_left h6.1]
          · rw [if_neg h6] at hX g10
            exact Or.inr (Or.inr (Or.inr (Or.inr (Or.inr (Or.inr ⟨hX, Or.inl g10⟩)))))
        · rw [if_neg hdg]
          refine z2 (x_o H3 r1 (by decide) (X_sign (d := d + 2) hG hB3 n1 l0 sI_s fun ξ' σ' g2 g3 ge g7 g8 g9 g10 => ?_))
          have hE : lxe T q = if T q = 61 ∧ T (q + 1) = 61 then q + 2 else q + 1 := by unfold lxe; rw [ea]; simp only [if_neg n1, if_neg hs, if_neg hdg]
          have hX : lxt T q = if T q = 61 ∧ T (q + 1) = 61 then 201 else if cSg (T q) = true then 200 + T q else 1 := by unfold lxt; rw [ea]; simp only [if_neg n1, if_neg hs, if_neg hdg]
          refine hQ F ξ' σ' FE.refl g2 (hr3.trans g3) ⟨by rw [hE]; exact g7, by rw [ea, g8]; exact l1, ?_⟩ ((hc3.eq ge).le (by omega))
          by_cases h61 : T q = 61 ∧ T (q + 1) = 61
          · rw [if_pos h61] at hX g9
            rw [if_pos (Or.inl (by rw [h61.1]; rfl))] at g10
            exact Or.inr (Or.inr (Or.inr (Or.inr (Or.inl ⟨hX, g10, g9⟩))))
          · rw [if_neg h61] at hX g9
            by_cases hsg : cSg (T q) = true
            · rw [if_pos hsg] at hX
              rw [if_pos (Or.inl hsg)] at g10
              exact Or.inr (Or.inr (Or.inr (Or.inr (Or.inr (Or.inl ⟨T q, hsg, hX, g10, g9⟩)))))
            · rw [if_neg hsg] at hX
              refine Or.inr (Or.inr (Or.inr (Or.inr (Or.inr (Or.inr ⟨hX, ?_⟩)))))
              by_cases h46 : T q = 46
              · rw [if_pos (Or.inr h46)] at g10
                exact Or.inr ⟨g10, g9.trans h46⟩
              · rw [if_neg (fun h => h.elim hsg h46)] at g10
                exact Or.inl g10
    · have hE : lxe T q = q := by unfold lxe; rw [ea]; simp only [if_pos c1]
      have hX : lxt T q = 0 := by unfold lxt; rw [ea]; simp only [if_pos c1]
      exact hQ F _ σ4 FE.refl (hB3.sI1 H4) (hr3.sI (by decide)) ⟨by rw [hE]; exact (sI_o (by decide)).trans l0, by rw [ea]; exact (sI_o (by decide)).trans l1, Or.inl ⟨hX, sI_s⟩⟩ ((hc3.eq e4).le (by omega))
end
