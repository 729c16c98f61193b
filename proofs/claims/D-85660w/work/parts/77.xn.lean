set_option maxRecDepth 100000
/-! ===== X's reader: the token at hand; names ===== -/
def XNm (G : am_G) (F : am_H) (N : ps_N) (ξ : xs_X) : Prop := xI ξ 0 1 = nI N.1 ∧ N.1 ≤ 40 ∧ ∀ i, i < N.1 → ∃ a, xQ ξ 6 i = some a ∧ sOf G F a (N.2 i)
/-- X while it reads, the token at p at hand -/
def XI (G : am_G) (A : Nat → Nat) (T : Nat → Int32) (n p : Nat) (N : ps_N) (F : am_H) (D : xs_D) (ξ : xs_X) (σ : am_S) : Prop := XB G A T n F D ξ σ ∧ XNm G F N ξ ∧ XK G F T p ξ ∧ p ≤ n
/-- what reading leaves as it is -/
def pf (D : xs_D) (F : am_H) (ξ : xs_X) (F' : am_H) (ξ' : xs_X) : Prop := FE F F' ∧ (∀ r, D.2.2 r → r ∉ [0, 1, 4, 6] → sc ξ ξ' r) ∧ (∀ k, k ≠ 1 → xI ξ' 0 k = xI ξ 0 k) ∧ xR ξ' 0 = xR ξ 0
theorem pf.refl {D : xs_D} {F : am_H} {ξ : xs_X} : pf D F ξ F ξ := ⟨FE.refl, fun _ _ _ => sc.refl, fun _ _ => rfl, rfl⟩
theorem pf.trans {D : xs_D} {F F1 F2 : am_H} {ξ ξ1 ξ2 : xs_X} (h1 : pf D F ξ F1 ξ1) (h2 : pf D F1 ξ1 F2 ξ2) : pf D F ξ F2 ξ2 := ⟨h1.1.trans h2.1, fun r hr h => (h1.2.1 r hr h).trans (h2.2.1 r hr h), fun k hk => (h2.2.2.1 k hk).trans (h1.2.2.1 k hk), h2.2.2.2.trans h1.2.2.2⟩
theorem pf.less {D D1 : xs_D} {F F1 : am_H} {ξ ξ1 : xs_X} (h : pf D1 F ξ F1 ξ1) (hD : XD D D1) : pf D F ξ F1 ξ1 := ⟨h.1, fun r hr h9 => h.2.1 r (hD.has hr) h9, h.2.2⟩
theorem rfr.pf {D : xs_D} {F F' : am_H} {ξ ξ' : xs_X} (h : rfr D ξ ξ') (h0 : D.2.2 0) (hF : FE F F') : pf D F ξ F' ξ' := ⟨hF, fun r hr h9 => h.1 r hr fun e => h9 (by rw [e]; decide), fun k _ => congrFun (h.1 0 h0 (by decide)).1 k, (h.1 0 h0 (by decide)).2.1⟩
/-- a fault was told -/
def XFt (G : am_G) (A : Nat → Nat) (T : Nat → Int32) (n : Nat) (F : am_H) (D : xs_D) (ξ : xs_X) (x : Nat) (E : Nat → am_S → Prop) (k : Int32) (q : Nat) (N : ps_N) : Prop := ∀ F' ξ' σ', XB G A T n F' D ξ' σ' → XNm G F' N ξ' → pf D F ξ F' ξ' → xI ξ' 4 6 = k → xI ξ' 4 7 = nI q → cr G x σ' → E (A 4) σ'
/-- what is asked of a refusal -/
def XFn {α : Type} (G : am_G) (A : Nat → Nat) (T : Nat → Int32) (n : Nat) (F : am_H) (D : xs_D) (ξ : xs_X) (x : Nat) (res : ps_R α) (E : Nat → am_S → Prop) : Prop := ∀ k q N', res = ps_f k q N' → XFt G A T n F D ξ x E k q N'
theorem XFt.pre {G : am_G} {A : Nat → Nat} {T : Nat → Int32} {n : Nat} {F F1 : am_H} {D D1 : xs_D} {ξ ξ1 : xs_X} {x : Nat} {E : Nat → am_S → Prop} {k : Int32} {q : Nat} {N : ps_N} (h : XFt G A T n F D ξ x E k q N) (hp : pf D F ξ F1 ξ1) (hD : XD D D1) (hT : TD D) (hR : RR A D) {x1 : Nat} (hx : x ≤ x1) : XFt G A T n F1 D1 ξ1 x1 E k q N := fun F' ξ' σ' h1 h2 h3 h4 h5 h6 =>
  h F' ξ' σ' ⟨h1.1.cong hD, hT, hR, h1.2.2.2⟩ h2 (hp.trans (h3.less hD)) h4 h5 (h6.le hx)
section
variable {G : am_G} {A : Nat → Nat} {T : Nat → Int32} {n d x p : Nat} {N : ps_N} {F : am_H} {D : xs_D} {ξ : xs_X} {σ : am_S}
theorem XNm.up {F1 : am_H} {ξ1 : xs_X} (h : XNm G F N ξ) (hF : FE F F1) (h0 : xI ξ1 0 1 = xI ξ 0 1) (h6 : xQ ξ1 6 = xQ ξ 6) : XNm G F1 N ξ1 := by
  obtain ⟨h1, h2, h3⟩ := h
  refine ⟨h0.trans h1, h2, fun i hi => ?_⟩
  obtain ⟨a, e1, e2⟩ := h3 i hi
  exact ⟨a, by rw [h6]; exact e1, e2.up hF⟩
theorem XNm.rfr {F1 : am_H} {ξ1 : xs_X} (h : XNm G F N ξ) (hF : FE F F1) (hR : RR A D) (hr : rfr D ξ ξ1) : XNm G F1 N ξ1 := h.up hF (congrFun (hr.1 0 hR.1.1 (by decide)).1 1) (hr.1 6 hR.2.2.2.1.1 (by decide)).2.2.2.1
theorem tkx.up {F1 : am_H} {ξ1 : xs_X} (h : tkx G F T p ξ) (hF : FE F F1) (h2 : xI ξ1 1 2 = xI ξ 1 2) (h3 : xI ξ1 1 3 = xI ξ 1 3) (h6 : xR ξ1 1 6 = xR ξ 1 6) : tkx G F1 T p ξ1 := by
  unfold tkx at h ⊢
  rw [h2, h3, h6]
  rcases h with h | ⟨a, b, c, e, g⟩ | ⟨k, a, b, c, w, e, g⟩ | h | h | h | h
  · exact Or.inl h
  · exact Or.inr (Or.inl ⟨a, b, c, e, g.up hF⟩)
  · exact Or.inr (Or.inr (Or.inl ⟨k, a, b, c, w, e, g.up hF⟩))
  · exact Or.inr (Or.inr (Or.inr (Or.inl h)))
  · exact Or.inr (Or.inr (Or.inr (Or.inr (Or.inl h))))
  · exact Or.inr (Or.inr (Or.inr (Or.inr (Or.inr (Or.inl h)))))
  · exact Or.inr (Or.inr (Or.inr (Or.inr (Or.inr (Or.inr h)))))
theorem XK.up {F1 : am_H} {ξ1 : xs_X} (h : XK G F T p ξ) (hF : FE F F1) (h0 : ∀ k, k < 4 → xI ξ1 1 k = xI ξ 1 k) (h6 : xR ξ1 1 6 = xR ξ 1 6) : XK G F1 T p ξ1 := ⟨(h0 0 (by decide)).trans h.1, (h0 1 (by decide)).trans h.2.1, h.2.2.up hF (h0 2 (by decide)) (h0 3 (by decide)) h6⟩
/-- X's store grows, or other roles change -/
theorem XI.up {F1 : am_H} {D1 : xs_D} {ξ1 : xs_X} {σ1 : am_S} (h : XI G A T n p N F D ξ σ) (H : XS F1 D1 ξ1 σ1) (hF : FE F F1) (hD : XD D D1) (hT : TD D1) (hs : ∀ j, j = 0 ∨ j = 1 ∨ j = 6 ∨ j = 8 → sc ξ ξ1 j) : XI G A T n p N F1 D1 ξ1 σ1 :=
  ⟨h.1.up H hF hD hT (xk.of hs), h.2.1.up hF (congrFun (hs 0 (by decide)).1 1) (hs 6 (by decide)).2.2.2.1, h.2.2.1.up hF (fun k _ => congrFun (hs 1 (by decide)).1 k) (congrFun (hs 1 (by decide)).2.1 6), h.2.2.2⟩
/-- the same with fewer roles -/
theorem XI.down {D1 : xs_D} (h : XI G A T n p N F D1 ξ σ) (hD : XD D D1) (hT : TD D) (hR : RR A D) : XI G A T n p N F D ξ σ := ⟨⟨h.1.1.cong hD, hT, hR, h.1.2.2.2⟩, h.2⟩
theorem XI.s0 (h : XI G A T n p N F D ξ σ) {ξ1 : xs_X} (hs : ∀ r, D.2.2 r → sc ξ ξ1 r) : ∀ j, j = 0 ∨ j = 1 ∨ j = 6 ∨ j = 8 → sc ξ ξ1 j := fun j hj => hs j (by
  have hR := h.1.2.2.1
  rcases hj with e | e | e | e
  · rw [e]; exact hR.1.1
  · rw [e]; exact hR.2.1.1
  · rw [e]; exact hR.2.2.2.1.1
  · rw [e]; exact hR.2.2.2.2.1)
/-- the token at hand is passed -/
theorem XI.next (h : XI G A T n p N F D ξ σ) (hG : GK G) (h0 : ¬ lxt T p = 0) (hc : cr G (600 * (n + 1 - p) + x) σ) {Q : am_S → Prop} (hQ : ∀ F' ξ' σ', XI G A T n (lxe T p) N F' D ξ' σ' → pf D F ξ F' ξ' → xI ξ' 1 4 = xI ξ 1 4 → xI ξ' 1 5 = xI ξ 1 5 → p < lxe T p → cr G (600 * (n + 1 - lxe T p) + (x + 590)) σ' → Q σ') : W_X4_next G (d + 8) (A 1) σ Q := by
  obtain ⟨hB, hN, hK, hp⟩ := h
  have hn : n ≤ 1000 := hB.2.2.2.2.1
  have he : ∀ p, n ≤ p → T p = -1 := hB.2.2.2.2.2.2.1
  have hgt := lxe_gt h0
  have hle : lxe T p ≤ n := by
    have spl : ∀ (q : Int32 → Bool), q (-1) = false → ∀ (f p : Nat), p ≤ n → spn q T f p ≤ n := fun q hq f => by
      induction f with
      | zero => intro p hp; exact hp
      | succ f ih =>
        intro p hp
        by_cases h9 : q (T p) = true
        · rw [spn_st h9]
          exact ih (p + 1) (Nat.lt_of_le_of_ne hp fun e => by rw [e, he n (Nat.le_refl _), hq] at h9; exact absurd h9 (by decide))
        · rw [spn_no h9]; exact hp
    have ha : lxa T p ≤ n := spl cSp (by decide) _ _ hp
    unfold lxe
    dsimp only
    by_cases h1 : T (lxa T p) = -1
    · rw [if_pos h1]; exact ha
    · have ha2 : lxa T p < n := Nat.lt_of_not_le fun h9 => h1 (he _ h9)
      rw [if_neg h1]
      by_cases h2 : cSm (T (lxa T p)) = true
      · rw [if_pos h2]; exact spl cSm (by decide) _ _ ha
      · rw [if_neg h2]
        by_cases h3 : cDg (T (lxa T p)) = true
        · rw [if_pos h3]; exact spl cDg (by decide) _ _ ha
        · rw [if_neg h3]
          by_cases h4 : T (lxa T p) = 61 ∧ T (lxa T p + 1) = 61
          · rw [if_pos h4]
            have : lxa T p + 1 < n := Nat.lt_of_not_le fun h9 => by have := h4.2; rw [he _ h9] at this; exact absurd this (by decide)
            omega
          · rw [if_neg h4]; omega
  refine X_next (d := d) (m := 600 * (n + 1 - lxe T p) + (x + 590)) hG (n + 1) (lxe T p) ξ σ hB hK.1 hle (by omega) (hc.le (by omega)) fun F' ξ' σ' g1 g2 g3 g4 g5 => ?_
  exact hQ F' ξ' σ' ⟨g2, hN.rfr g1 hB.2.2.1 g3, g4, hle⟩ (g3.pf hB.2.2.1.1.1 g1) (g3.2 4 (by decide)) (g3.2 5 (by decide)) hgt g5
/-- a word's token -/
theorem tk_w {k j : Nat} (hk : k < 22) (hj : j < 22) : nI (100 + k) = nI (100 + j) ↔ k = j := ⟨fun h => by have := (nI_eq (by omega) (by omega)).mp h; omega, fun h => by rw [h]⟩
theorem tk_ne {k m : Nat} (hk : k < 22) (hm : m < 100 ∨ 122 ≤ m) (hm2 : m < 2 ^ 31) : ¬ nI (100 + k) = nI m := fun h => by have := (nI_eq (by omega) hm2).mp h; omega
theorem wcd_inj : ∀ k, k < 22 → ∀ j, j < 22 → wcd (wds.getD k []) = wcd (wds.getD j []) → k = j := by decide +kernel
theorem sg_v : ∀ c, c < 256 → cSg (nI c) = true → 40 ≤ c ∧ c ≤ 125 := by decide +kernel
theorem sg_c {c : Int32} (h : cSg c = true) : ∃ k, 40 ≤ k ∧ k ≤ 125 ∧ c = nI k := by
  unfold cSg at h
  simp only [Bool.or_eq_true, beq_iff_eq] at h
  rcases h with (((((((((h | h) | h) | h) | h) | h) | h) | h) | h) | h) | h
  · exact ⟨123, by decide, by decide, h⟩
  · exact ⟨125, by decide, by decide, h⟩
  · exact ⟨40, by decide, by decide, h⟩
  · exact ⟨41, by decide, by decide, h⟩
  · exact ⟨59, by decide, by decide, h⟩
  · exact ⟨61, by decide, by decide, h⟩
  · exact ⟨43, by decide, by decide, h⟩
  · exact ⟨45, by decide, by decide, h⟩
  · exact ⟨42, by decide, by decide, h⟩
  · exact ⟨47, by decide, by decide, h⟩
  · exact ⟨60, by decide, by decide, h⟩
/-- a sign is at hand, or not; 256 is two '=' -/
theorem X_isSign (h : XI G A T n p N F D ξ σ) {c : Int32} {t : Int32} (hc : (cSg c = true ∧ t = 200 + c) ∨ (c = 256 ∧ t = 201)) {Q : Int32 → am_S → Prop} (hQ : Q (if lxt T p = t then 1 else 0) σ) : W_X4_isSign G d (A 1) c σ Q := by
  obtain ⟨hB, hN, ⟨k1, k2, k3⟩, hp⟩ := h
  have r1 := hB.2.2.1.2.1
  have hlow : ∀ m : Nat, m < 200 → ¬ nI m = t := fun m hm e => by
    rcases hc with ⟨h1, h2⟩ | ⟨h1, h2⟩
    · obtain ⟨k, g1, g2, g3⟩ := sg_c h1
      rw [h2, g3, show (200 : Int32) = nI 200 from rfl, nI_add] at e
      have := (nI_eq (by omega) (by omega)).mp e
      omega
    · rw [h2] at e
      have := (nI_eq (by omega) (show 201 < 2 ^ 31 by decide)).mp e
      omega
  have no : ∀ v2 : Int32, xI ξ 1 2 = v2 → ¬ v2 = 5 → ¬ lxt T p = t → W_X4_isSign G d (A 1) c σ Q := fun v2 e2 n5 nt => by
    rw [if_neg nt] at hQ
    exact W_X4_isSign_f (x_gi hB.1 r1 (by decide) e2 ⟨fun _ => hQ, fun c5 => absurd c5 n5⟩)
  have yes : ∀ v3 : Int32, xI ξ 1 2 = 5 → xI ξ 1 3 = v3 → (v3 = c ↔ lxt T p = t) → W_X4_isSign G d (A 1) c σ Q := fun v3 e2 e3 hiff => by
    refine W_X4_isSign_f (x_gi hB.1 r1 (by decide) e2 ⟨fun n5 => absurd rfl n5, fun _ => x_gi hB.1 r1 (by decide) e3 ⟨fun n => ?_, fun e => ?_⟩⟩)
    · rw [if_neg (fun h9 => n (hiff.mpr h9))] at hQ; exact hQ
    · rw [if_pos (hiff.mp e)] at hQ; exact hQ
  rcases k3 with ⟨a, b⟩ | ⟨a, b, -⟩ | ⟨k, a, b, e, -⟩ | ⟨a, b, -⟩ | ⟨a, b, e⟩ | ⟨c', a, b, e, g⟩ | ⟨a, b⟩
  · exact no 0 b (by decide) (by rw [a]; exact hlow 0 (by decide))
  · exact no 2 b (by decide) (by rw [a]; exact hlow 2 (by decide))
  · exact no 3 e (by decide) (by rw [b]; exact hlow _ (by omega))
  · exact no 4 b (by decide) (by rw [a]; exact hlow 3 (by decide))
  · refine yes 256 b e ?_
    rw [a]
    rcases hc with ⟨h1, h2⟩ | ⟨h1, h2⟩
    · obtain ⟨k, g1, g2, g3⟩ := sg_c h1
      rw [h2, g3]
      refine ⟨fun e => ?_, fun e => ?_⟩
      · have := (nI_eq (show 256 < 2 ^ 31 by decide) (show k < 2 ^ 31 by omega)).mp e
        omega
      · have e' : nI 201 = nI (200 + k) := e.trans (nI_add 200 k)
        have := (nI_eq (show 201 < 2 ^ 31 by decide) (show 200 + k < 2 ^ 31 by omega)).mp e'
        omega
    · rw [h1, h2]
      exact ⟨fun _ => rfl, fun _ => rfl⟩
  · refine yes c' e g ?_
    rw [b]
    obtain ⟨k', g1', g2', g3'⟩ := sg_c a
    rcases hc with ⟨h1, h2⟩ | ⟨h1, h2⟩
    · obtain ⟨k, g1, g2, g3⟩ := sg_c h1
      rw [h2, g3, g3']
      refine ⟨fun e => by rw [e], fun e => ?_⟩
      have e' : nI (200 + k') = nI (200 + k) := ((nI_add 200 k').symm.trans e).trans (nI_add 200 k)
      have := (nI_eq (show 200 + k' < 2 ^ 31 by omega) (show 200 + k < 2 ^ 31 by omega)).mp e'
      rw [show k' = k by omega]
    · rw [h1, h2, g3']
      refine ⟨fun e => ?_, fun e => ?_⟩
      · have := (nI_eq (show k' < 2 ^ 31 by omega) (show 256 < 2 ^ 31 by decide)).mp e
        omega
      · have e' : nI (200 + k') = nI 201 := (nI_add 200 k').symm.trans e
        have := (nI_eq (show 200 + k' < 2 ^ 31 by omega) (show 201 < 2 ^ 31 by decide)).mp e'
        omega
  · have nt : ¬ lxt T p = t := by rw [a]; exact hlow 1 (by decide)
    rcases b with b | ⟨b, e⟩
    · exact no 1 b (by decide) nt
    · refine yes 46 b e ⟨fun e9 => ?_, fun e9 => absurd e9 nt⟩
      exfalso
      rcases hc with ⟨h1, h2⟩ | ⟨h1, h2⟩
      · rw [← e9] at h1
        exact absurd h1 (by decide)
      · rw [h1] at e9
        exact absurd e9 (by decide)
/-- a word is at hand, or not -/
theorem X_isWord (h : XI G A T n p N F D ξ σ) (hG : GK G) {k : Nat} (hk : k < 22) {Q : Int32 → am_S → Prop} (hQ : Q (if lxt T p = nI (100 + k) then 1 else 0) σ) : W_X4_isWord G (d + 2) (A 1) (some (am_sk G (k + 1))) σ Q := by
  obtain ⟨hB, hN, ⟨k1, k2, k3⟩, hp⟩ := h
  have r1 := hB.2.2.1.2.1
  have no : ∀ v2 : Int32, xI ξ 1 2 = v2 → ¬ v2 = 3 → ¬ lxt T p = nI (100 + k) → W_X4_isWord G (d + 2) (A 1) (some (am_sk G (k + 1))) σ Q := fun v2 e2 n3 nt => by
    rw [if_neg nt] at hQ
    exact W_X4_isWord_f (x_gi hB.1 r1 (by decide) e2 ⟨fun _ => hQ, fun c3 => absurd c3 n3⟩)
  rcases k3 with ⟨a, b⟩ | ⟨a, b, -⟩ | ⟨j, a, b, e, w, g1, g2⟩ | ⟨a, b, -⟩ | ⟨a, b, -⟩ | ⟨c', a, b, e, -⟩ | ⟨a, b⟩
  · exact no 0 b (by decide) (by rw [a]; exact fun e => tk_ne hk (Or.inl (show 0 < 100 by decide)) (by decide) e.symm)
  · exact no 2 b (by decide) (by rw [a]; exact fun e => tk_ne hk (Or.inl (show 2 < 100 by decide)) (by decide) e.symm)
  · refine W_X4_isWord_f (x_gi hB.1 r1 (by decide) e ⟨fun n3 => absurd rfl n3, fun _ => x_gr hB.1 r1 (by decide) g1 ?_⟩)
    have hst : stX G F w _ _ := Or.inl g2.choose_spec.choose_spec.2.2.1
    refine X_Go hB.1 hst (X_eqV (d := d) hB.1 hG hk g2 (fun e9 => y2 ?_) fun e9 => z2 ?_)
    · have hkj : k = j := wcd_inj k hk j a e9
      rw [b, if_pos (by rw [hkj])] at hQ
      exact hQ
    · rw [b, if_neg (fun e8 => e9 (by rw [(tk_w a hk).mp e8]))] at hQ
      exact hQ
  · exact no 4 b (by decide) (by rw [a]; exact fun e => tk_ne hk (Or.inl (show 3 < 100 by decide)) (by decide) e.symm)
  · exact no 5 b (by decide) (by rw [a]; exact fun e => tk_ne hk (Or.inr (show 122 ≤ 201 by decide)) (by decide) e.symm)
  · obtain ⟨k', g1', g2', g3'⟩ := sg_c a
    exact no 5 e (by decide) (by rw [b, g3', show (200 : Int32) = nI 200 from rfl, nI_add]; exact fun e => tk_ne hk (Or.inr (show 122 ≤ 200 + k' by omega)) (by omega) e.symm)
  · rcases b with b | ⟨b, -⟩
    · exact no 1 b (by decide) (by rw [a]; exact fun e => tk_ne hk (Or.inl (show 1 < 100 by decide)) (by decide) e.symm)
    · exact no 5 b (by decide) (by rw [a]; exact fun e => tk_ne hk (Or.inl (show 1 < 100 by decide)) (by decide) e.symm)
end
