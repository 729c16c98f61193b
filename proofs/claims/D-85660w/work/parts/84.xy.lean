set_option maxRecDepth 100000
/-! ===== X: blocks while they are made ===== -/
theorem RR.nin {A : Nat → Nat} {D : xs_D} {i : Nat} (hR : RR A D) (hi : ¬ D.2.2 i) : i ∉ [0, 1, 4, 6] := fun h9 => hi (by
  have : i = 0 ∨ i = 1 ∨ i = 4 ∨ i = 6 := by simpa using h9
  rcases this with e | e | e | e
  · rw [e]; exact hR.1.1
  · rw [e]; exact hR.2.1.1
  · rw [e]; exact hR.2.2.1.1
  · rw [e]; exact hR.2.2.2.1.1)
theorem xL.le {F : am_H} : ∀ (t : Term) (o : Nat → Option Nat) (j k : Nat), xL F t o j k → j ≤ k
  | .thrown, o, j, k, h => Nat.le_of_eq h
  | .add (.elem (.index m) e) b, o, j, k, h => Nat.le_of_lt h.1
  | .add (.length e) b, o, j, k, h => Nat.le_of_lt h.1
  | .add (.sum e) b, o, j, k, h => Nat.le_of_lt h.1
  | .add .null b, o, j, k, h => Nat.le_of_lt h.1
  | .add (.arg a) b, o, j, k, h => Nat.le_of_lt h.1
  | .add (.mul (.index l) (.index a)) b, o, j, k, h => Nat.le_of_lt h.1
  | .add .result b, o, j, k, h => Nat.le_of_lt h.1
  | .add (.sub e (.sub y z)) b, o, j, k, h => Nat.le_of_lt h.1
/-- a block (role i, at r), its statements (jo, oa): k of them, room for l -/
def BN (D : xs_D) (ξ : xs_X) (i jo r oa k l : Nat) : Prop := rl D i r 10 ∧ rl D jo oa 107 ∧ i ≠ jo ∧ xR ξ i 0 = some oa ∧ xI ξ i 1 = nI k ∧ xN ξ jo = l ∧ k ≤ l ∧ 2 ≤ l ∧ l ≤ 2 * k + 2 ∧ ∃ h, xR ξ i 2 = some h ∧ rl D 0 h 0
theorem BN.up {D D1 : xs_D} {ξ ξ1 : xs_X} {i jo r oa k l : Nat} (h : BN D ξ i jo r oa k l) (hD : XD D D1) (h1 : sc ξ ξ1 i) (h2 : sc ξ ξ1 jo) : BN D1 ξ1 i jo r oa k l := by
  obtain ⟨a1, a2, a3, a4, a5, a6, a7, a8, a9, hv, hv1, hv2⟩ := h
  exact ⟨hD _ _ _ a1, hD _ _ _ a2, a3, by rw [h1.2.1]; exact a4, by rw [h1.1]; exact a5, h2.2.2.2.2.trans a6, a7, a8, a9, hv, by rw [h1.2.1]; exact hv1, hD _ _ _ hv2⟩
section
variable {G : am_G} {d m : Nat} {F : am_H} {D : xs_D} {ξ : xs_X} {σ : am_S}
/-- a new block -/
theorem X_blockInit (H : XS F D ξ σ) (hT : TD D) {i r : Nat} (hr : rl D i r 10) (h1 : xI ξ i 1 = 0) {v : Option Nat} (hv : ∃ h, v = some h ∧ rl D 0 h 0) (hcr : cr G (m + 1) σ) {Q : am_S → Prop} (h : ∀ D1 ξ1 σ1 jo oa, XD D D1 → TD D1 → ¬ D.2.2 jo → BN D1 ξ1 i jo r oa 0 2 → XS F D1 ξ1 σ1 → (∀ q, D.2.2 q → q ≠ i → sc ξ ξ1 q) → cr G m σ1 → Q σ1) : W_X10_init G (d + 1) r v σ Q := by
  refine W_X10_init_f (x_pr H hr (by decide) fun σ1 H1 e1 => x_nar (n := 2) (j := 1) (m := m) H1 hT rfl (by decide) (hcr.eq e1) ⟨by omega, by omega, by omega⟩ fun D2 ξ2 σ2 jo xd td nj r2 _ H2 s2 n2 q2 c2 hF2 => x_pr H2 (xd _ _ _ hr) (by decide) fun σ3 H3 e3 => ?_)
  have hij : i ≠ jo := fun e => nj (e ▸ hr.1)
  refine h D2 _ σ3 jo _ xd td nj ⟨xd _ _ _ hr, r2, hij, sR_s, ?_, n2, by omega, by omega, by omega, ?_⟩ H3 (fun q hq hqi => ((sR_sc hqi).trans (s2 q hq)).trans (sR_sc hqi)) (c2.eq e3)
  · show xI ξ2 i 1 = 0
    rw [(s2 i hr.1).1]
    exact h1
  · obtain ⟨h9, e9, r9⟩ := hv
    refine ⟨h9, ?_, xd _ _ _ r9⟩
    rw [sR_o (by decide), (s2 i hr.1).2.1, sR_s]
    exact e9
/-- a statement comes -/
theorem X_blockAdd (H : XS F D ξ σ) (hT : TD D) {i jo r oa k l w : Nat} {t' : Term} (hc : BN D ξ i jo r oa k l) (hk9 : k < 2000) (ho : ∀ q, q < k → ∀ b, xQ ξ jo q = some b → ∃ t, isSt F t b) (hw : isSt F t' w) (hcr : cr G (m + (k + 2)) σ) {Q : am_S → Prop} (h : ∀ D' ξ' σ' jo' oa' l', XD D D' → TD D' → (jo' = jo ∨ ¬ D.2.2 jo') → XS F D' ξ' σ' → cr G m σ' → BN D' ξ' i jo' r oa' (k + 1) l' → (∀ q, D.2.2 q → q ≠ i → q ≠ jo → sc ξ ξ' q) → (∀ q, q < k → xQ ξ' jo' q = xQ ξ jo q) → xQ ξ' jo' k = some w → Q σ') : W_X10_add G (d + 1) r (some w) σ Q := by
  obtain ⟨a1, a2, a3, a4, a5, a6, a7, a8, a9, a10⟩ := hc
  have hcl : ∀ {ξ : xs_X} {D : xs_D} {σ : am_S}, XS F D ξ σ → ∀ b : Nat, some w = some b → f_k σ (some w) [11, 17, 18, 19, 20] True := fun H b _ => by
    obtain ⟨c, f, g1, g2⟩ := hw.cls
    exact z_k H g1 g2 trivial
  refine W_X10_add_f (x_gi H a1 (by decide) a5 (x_gr H a1 (by decide) a4 (x_al H a2 a6 ⟨fun n => ?_, fun e => ?_⟩)))
  · have hkl : k < l := Nat.lt_of_le_of_ne a7 fun e => n (by rw [e])
    refine x_gr H a1 (by decide) a4 (x_gi H a1 (by decide) a5 (x_sr H a2 (by decide) a6 rfl hkl (by omega) (hcl H) fun σ3 H3 e3 => x_gi H3 a1 (by decide) (v := nI k) a5 (x_p H3 a1 (by decide) fun σ4 H4 e4 => ?_)))
    refine h D _ σ4 jo oa l XD.refl hT (Or.inl rfl) H4 (((hcr.eq e3).eq e4).le (by omega)) ⟨a1, a2, a3, a4, sI_s.trans (nI_1 k), a6, by omega, a8, by omega, a10⟩ (fun q _ h1 h2 => (sQ_sc h2).trans (sI_sc h1)) (fun q hq => sQ_o (by omega)) sQ_s
  · have hkl : k = l := (nI_eq (by omega) (by omega)).mp e
    have e2 : 2 * nI k = nI (2 * k) := pk_mul 2 k
    refine x_gi H a1 (by decide) a5 ?_
    rw [e2]
    refine x_nar (n := 2 * k) (j := (k + 1) / 2) (m := m) H hT rfl (by decide) (hcr.le (by omega)) ⟨by omega, by omega, by omega⟩ fun D1 ξ1 σ1 jo' xd1 td1 njo r1 _ H1 sc1 n1 q1 cr1 hF1 => ?_
    have hij' : i ≠ jo' := fun e => njo (e ▸ a1.1)
    have hjj' : jo ≠ jo' := fun e => njo (e ▸ a2.1)
    obtain ⟨b1, b2, b3, b4, b5, b6, b7, b8, b9, bv, bv1, bv2⟩ := BN.up ⟨a1, a2, a3, a4, a5, a6, a7, a8, a9, a10⟩ xd1 (sc1 i a1.1) (sc1 jo a2.1)
    refine x_gr H1 b1 (by decide) b4 (x_gi H1 b1 (by decide) b5 (x_cpr (s := 0) (p := 0) (q := k) H1 b2 r1 (by decide) b6 n1 rfl rfl rfl (by omega) (by omega) ⟨by omega, by omega⟩ (fun q hq b hb => ?_) fun σ2 H2 e2' => ?_))
    · rw [(sc1 jo a2.1).2.2.2.1, Nat.zero_add] at hb
      obtain ⟨t, ht⟩ := ho q hq b hb
      obtain ⟨c, f, g1, g2⟩ := ht.cls
      exact z_k H1 g1 g2 trivial
    refine x_pr H2 b1 (by decide) fun σ3 H3 e3 => x_gr H3 b1 (by decide) sR_s (x_gi H3 b1 (by decide) (v := nI k) b5 (x_sr (n := 2 * k) H3 r1 (by decide) n1 rfl (by omega) (by omega) (hcl H3) fun σ4 H4 e4 => x_gi H4 b1 (by decide) (v := nI k) b5 (x_p H4 b1 (by decide) fun σ5 H5 e5 => ?_)))
    refine h D1 _ σ5 jo' σ.2.1 (2 * k) xd1 td1 (Or.inr njo) H5 ((((cr1.eq e2').eq e3).eq e4).eq e5) ⟨b1, r1, hij', sR_s, sI_s.trans (nI_1 k), n1, by omega, by omega, by omega, bv, (sR_o (by decide)).trans bv1, bv2⟩ (fun q hq h1 h2 => ?_) (fun q hq => ?_) sQ_s
    · have hqo : q ≠ jo' := fun e => njo (e ▸ hq)
      exact (((((sc1 q hq).trans (wQ_sc hqo)).trans (sR_sc h1)).trans (sQ_sc hqo)).trans (sI_sc h1))
    · refine (sQ_o (show q ≠ k by omega)).trans ?_
      show xQ (xs_wQ ξ1 jo' (va_cpy (xQ ξ1 jo) (xQ ξ1 jo') 0 0 k)) jo' q = _
      rw [wQ_s]
      show (if 0 ≤ q ∧ q < 0 + k then xQ ξ1 jo (0 + (q - 0)) else _) = _
      rw [if_pos ⟨Nat.zero_le _, by omega⟩, show 0 + (q - 0) = q by omega, (sc1 jo a2.1).2.2.2.1]
/-- the block is done -/
theorem X_blockDone (H : XS F D ξ σ) {D0 : xs_D} (hD : XD D0 D) {i jo r oa k l : Nat} {t : Term} (hc : BN D ξ i jo r oa k l) (hi : ¬ D0.2.2 i) (hjo : ¬ D0.2.2 jo) (hl : l < 65536) (ht : xL F t (xQ ξ jo) 0 k) : ∃ F', FE F F' ∧ XS F' D0 ξ σ ∧ isBk F' r (xL F' t) := by
  obtain ⟨a1, a2, a3, a4, a5, a6, a7, a8, a9, hv, hv1, hv2⟩ := hc
  obtain ⟨H1, hF1⟩ := H.frz a1 (fun h hh => tf_of (by decide) fun k hk => by
    have hk5 : k = 2 := by simpa [tfs] using hk
    subst hk5
    rw [hv1, ← hh.2.1, ← hv2.2.1])
  have b2 : rl (D.1, D.2.1, fun q => q ≠ i ∧ D.2.2 q) jo oa 107 := ⟨⟨Ne.symm a3, a2.1⟩, a2.2.1, a2.2.2⟩
  obtain ⟨H2, hF2⟩ := H1.frz b2 (fun _ _ => tf_no (by decide))
  have n1 : oa ≠ r := fun e => a3 (H.2.2.1 i jo a1.1 a2.1 (by rw [a1.2.1, a2.2.1, e]))
  have hFE : FE F (fzF (fzF F r (xs_E 10 i ξ)) oa (xs_E 107 jo ξ)) := (fzF_FE hF1).trans (fzF_FE hF2)
  refine ⟨_, hFE, H2.cong ((hD.drop hi).drop hjo), ?_⟩
  have e1 : fzF (fzF F r (xs_E 10 i ξ)) oa (xs_E 107 jo ξ) r = some (xs_E 10 i ξ) := by
    unfold fzF
    rw [if_neg (Ne.symm n1), if_pos rfl]
  refine ⟨_, oa, k, l, xQ ξ jo, e1.trans rfl, ?_, ?_, fzF_s.trans ?_, a7, hl, xL.mono hFE t _ _ _ ht⟩
  · show (if xs_rf 10 0 = true then va_rf (xR ξ i 0) else _) = _
    rw [if_pos (by decide), a4]
  · show (if xs_rf 10 1 = true then _ else Value.int (xI ξ i 1)) = _
    rw [if_neg (by decide), a5]
  · unfold xs_E
    rw [if_neg (by decide), if_neg (by decide), if_neg (by decide), if_neg (by decide), a6]
end
