set_option maxRecDepth 100000
/-- the roles 900..952 hold the model's state -/
def MoA (D : xs_D) (ξ : xs_X) (b : Nat) (μ : mm_S) : Prop := (rl D 900 b 50 ∧ ∀ j, 1 ≤ j → j ≤ 52 → rl D (900 + j) (b + j) (tyM j)) ∧ xs_mo (xI ξ 900) (xR ξ 900) = mm_f (b, (fun _ => none), 0, 0) μ ∧ ∀ j, 1 ≤ j → j ≤ 52 → xs_E (tyM j) (900 + j) ξ = mm_arr μ j
/-- the model's state is written into its roles -/
def wrM (ξ : xs_X) (b : Nat) (μ : mm_S) : xs_X := (fun i k => if i = 900 then μ.1 k else xI ξ i k, fun i k => if i = 900 then (if mm_kd.getD k 0 = 1 then some (μ.2.1 k).toBitVec.toNat else some (b + mm_or.getD k 0)) else xR ξ i k, fun i q => if 901 ≤ i ∧ i ≤ 952 then μ.2.2.1 (mm_fo.getD (i - 900) 95) q else xA ξ i q, fun i q => if 901 ≤ i ∧ i ≤ 952 then some (μ.2.2.2 (mm_fo.getD (i - 900) 95) q).toBitVec.toNat else xQ ξ i q, fun i => if 901 ≤ i ∧ i ≤ 952 then mm_ln.getD (mm_fo.getD (i - 900) 95) 0 else xN ξ i)
theorem ofN64 (x : Int64) : Int64.ofNat x.toBitVec.toNat = x := by
  apply Int64.toBitVec_inj.mp
  show BitVec.ofNat 64 _ = _
  rw [BitVec.ofNat_toNat]
  simp
theorem mm_f_b {ρ ρ' : mm_F} {μ : mm_S} (h : ρ.1 = ρ'.1) : mm_f ρ μ = mm_f ρ' μ := by
  funext k
  unfold mm_f mm_fv
  rw [h]
theorem wrM_sc {ξ : xs_X} {b : Nat} {μ : mm_S} {r : Nat} (h : ¬ (900 ≤ r ∧ r ≤ 952)) : sc ξ (wrM ξ b μ) r := by
  have h1 : ¬ r = 900 := by omega
  have h2 : ¬ (901 ≤ r ∧ r ≤ 952) := by omega
  refine ⟨?_, ?_, ?_, ?_, ?_⟩
  · funext k; exact if_neg h1
  · funext k; exact if_neg h1
  · funext k; exact if_neg h2
  · funext k; exact if_neg h2
  · exact if_neg h2
theorem wrM_f {ξ : xs_X} {b : Nat} {μ : mm_S} : xs_mo (xI (wrM ξ b μ) 900) (xR (wrM ξ b μ) 900) = mm_f (b, (fun _ => none), 0, 0) μ := by
  funext k
  have eI : xI (wrM ξ b μ) 900 k = μ.1 k := rfl
  have eR : xR (wrM ξ b μ) 900 k = if mm_kd.getD k 0 = 1 then some (μ.2.1 k).toBitVec.toNat else some (b + mm_or.getD k 0) := rfl
  unfold xs_mo mm_f
  rw [eI, eR]
  generalize mm_kd.getD k 0 = d
  match d with
  | 0 => rfl
  | 1 => show Value.long (Int64.ofNat (μ.2.1 k).toBitVec.toNat) = .long (μ.2.1 k); rw [ofN64]
  | 5 => rfl
  | 2 | 3 | 4 => rfl
  | d + 6 => rfl
theorem wrM_a {ξ : xs_X} {b : Nat} {μ : mm_S} {j : Nat} (h1 : 1 ≤ j) (h2 : j ≤ 52) : xs_E (tyM j) (900 + j) (wrM ξ b μ) = mm_arr μ j := by
  have hj : 901 ≤ 900 + j ∧ 900 + j ≤ 952 := by omega
  have eA : xA (wrM ξ b μ) (900 + j) = μ.2.2.1 (mm_fo.getD j 95) := by
    funext q
    show (if 901 ≤ 900 + j ∧ 900 + j ≤ 952 then μ.2.2.1 (mm_fo.getD (900 + j - 900) 95) q else _) = _
    rw [if_pos hj, show 900 + j - 900 = j by omega]
  have eQ : (fun q => Int64.ofNat ((xQ (wrM ξ b μ) (900 + j) q).getD 0)) = μ.2.2.2 (mm_fo.getD j 95) := by
    funext q
    show Int64.ofNat ((if 901 ≤ 900 + j ∧ 900 + j ≤ 952 then some (μ.2.2.2 (mm_fo.getD (900 + j - 900) 95) q).toBitVec.toNat else _).getD 0) = _
    rw [if_pos hj, show 900 + j - 900 = j by omega]
    exact ofN64 _
  have eN : xN (wrM ξ b μ) (900 + j) = mm_ln.getD (mm_fo.getD j 95) 0 := by
    show (if 901 ≤ 900 + j ∧ 900 + j ≤ 952 then mm_ln.getD (mm_fo.getD (900 + j - 900) 95) 0 else _) = _
    rw [if_pos hj, show 900 + j - 900 = j by omega]
  unfold mm_arr tyM
  generalize mm_kd.getD (mm_fo.getD j 95) 0 = d
  unfold mm_av
  match d with
  | 4 => show (Sum.inl (4, xN (wrM ξ b μ) (900 + j), Sum.inr (Sum.inl fun q => Int64.ofNat ((xQ (wrM ξ b μ) (900 + j) q).getD 0))) : am_E) = .inl (4, _, .inr (.inl (μ.2.2.2 (mm_fo.getD j 95)))); rw [eQ, eN]
  | 3 => show (Sum.inl (3, xN (wrM ξ b μ) (900 + j), Sum.inl (xA (wrM ξ b μ) (900 + j))) : am_E) = .inl (3, _, .inl (μ.2.2.1 (mm_fo.getD j 95))); rw [eA, eN]
  | 0 | 1 | 2 => show (Sum.inl (0, xN (wrM ξ b μ) (900 + j), Sum.inl (xA (wrM ξ b μ) (900 + j))) : am_E) = .inl (0, _, .inl (μ.2.2.1 (mm_fo.getD j 95))); rw [eA, eN]
  | _ + 5 => show (Sum.inl (0, xN (wrM ξ b μ) (900 + j), Sum.inl (xA (wrM ξ b μ) (900 + j))) : am_E) = .inl (0, _, .inl (μ.2.2.1 (mm_fo.getD j 95))); rw [eA, eN]
section
variable {F : am_H} {D : xs_D} {ξ : xs_X} {σ : am_S} {b : Nat} {μ : mm_S}
/-- the store, seen from the model -/
theorem MoA.see (H : XS F D ξ σ) (hM : MoA D ξ b μ) : σ = mm_s (b, σ.1, σ.2) μ := by
  obtain ⟨⟨r0, rj⟩, hf, hn⟩ := hM
  have e1 : σ.1 = mm_h (b, σ.1, σ.2) μ := by
    funext q
    unfold mm_h
    by_cases h0 : q = b
    · rw [if_pos h0, h0]
      have := (H.2.1 900 r0.1).1
      rw [r0.2.1, r0.2.2] at this
      rw [this, mm_f_b (ρ := (b, σ.1, σ.2)) (ρ' := (b, (fun _ => none), 0, 0)) rfl, ← hf]
      rfl
    · rw [if_neg h0]
      by_cases h1 : b < q ∧ q ≤ b + 52
      · rw [if_pos h1]
        obtain ⟨j, rfl⟩ : ∃ j, q = b + j := ⟨q - b, by omega⟩
        have hj1 : 1 ≤ j := by omega
        have hj2 : j ≤ 52 := by omega
        have r := rj j hj1 hj2
        have := (H.2.1 (900 + j) r.1).1
        rw [r.2.1, r.2.2, hn j hj1 hj2] at this
        rw [this, show b + j - b = j by omega]
      · rw [if_neg h1]
  unfold mm_s
  rw [← e1]
/-- what the model leaves -/
theorem MoA.back (H : XS F D ξ σ) (hM : MoA D ξ b μ) (μ' : mm_S) : XS F D (wrM ξ b μ') (mm_s (b, σ.1, σ.2) μ') ∧ MoA D (wrM ξ b μ') b μ' := by
  obtain ⟨⟨r0, rj⟩, hf, hn⟩ := hM
  refine ⟨?_, ⟨r0, rj⟩, wrM_f, fun j h1 h2 => wrM_a h1 h2⟩
  obtain ⟨c1, c2, c3, c4⟩ := H
  have hb0 : F b = none := by have := (c2 900 r0.1).2.1; rw [r0.2.1] at this; exact this
  have hbj : ∀ j, 1 ≤ j → j ≤ 52 → F (b + j) = none := fun j h1 h2 => by
    have r := rj j h1 h2
    have := (c2 (900 + j) r.1).2.1
    rw [r.2.1] at this
    exact this
  have cell : ∀ q, ¬ (b ≤ q ∧ q ≤ b + 52) → (mm_s (b, σ.1, σ.2) μ').1 q = σ.1 q := fun q hq => by
    show mm_h (b, σ.1, σ.2) μ' q = _
    unfold mm_h
    rw [if_neg (show ¬ q = b by omega), if_neg (show ¬ (b < q ∧ q ≤ b + 52) by omega)]
  refine ⟨fun a e he => ?_, fun i hi => ⟨?_, (c2 i hi).2⟩, c3, fun a e he => ?_⟩
  · rw [cell a fun h9 => ?_]
    · exact c1 a e he
    · by_cases h8 : a = b
      · rw [h8, hb0] at he; cases he
      · obtain ⟨j, rfl⟩ : ∃ j, a = b + j := ⟨a - b, by omega⟩
        rw [hbj j (by omega) (by omega)] at he
        cases he
  · by_cases h900 : 900 ≤ i ∧ i ≤ 952
    · by_cases h0 : i = 900
      · subst h0
        rw [r0.2.1, r0.2.2]
        show mm_h (b, σ.1, σ.2) μ' b = _
        unfold mm_h
        rw [if_pos rfl, mm_f_b (ρ := (b, σ.1, σ.2)) (ρ' := (b, (fun _ => none), 0, 0)) rfl, ← wrM_f (ξ := ξ)]
        rfl
      · obtain ⟨j, rfl⟩ : ∃ j, i = 900 + j := ⟨i - 900, by omega⟩
        have hj1 : 1 ≤ j := by omega
        have hj2 : j ≤ 52 := by omega
        have r := rj j hj1 hj2
        rw [r.2.1, r.2.2, wrM_a hj1 hj2]
        show mm_h (b, σ.1, σ.2) μ' (b + j) = _
        unfold mm_h
        rw [if_neg (show ¬ b + j = b by omega), if_pos (show b < b + j ∧ b + j ≤ b + 52 by omega)]
        show some (mm_arr μ' (b + j - b)) = _
        rw [show b + j - b = j by omega]
    · have hs := wrM_sc (ξ := ξ) (b := b) (μ := μ') h900
      have hc : ¬ (b ≤ D.1 i ∧ D.1 i ≤ b + 52) := fun h9 => by
        by_cases h8 : D.1 i = b
        · exact h900 (by have := c3 i 900 hi r0.1 (by rw [r0.2.1]; exact h8); omega)
        · have r := rj (D.1 i - b) (by omega) (by omega)
          have := c3 i (900 + (D.1 i - b)) hi r.1 (by rw [r.2.1]; omega)
          omega
      rw [cell _ hc, (c2 i hi).1]
      congr 1
      exact (xs_Ec hs.1 hs.2.1 hs.2.2.1 hs.2.2.2.1 hs.2.2.2.2).symm
  · by_cases hq : b ≤ a ∧ a ≤ b + 52
    · by_cases h8 : a = b
      · rw [h8]
        have := (c2 900 r0.1).1
        rw [r0.2.1] at this
        exact c4 b _ this
      · obtain ⟨j, rfl⟩ : ∃ j, a = b + j := ⟨a - b, by omega⟩
        have r := rj j (by omega) (by omega)
        have := (c2 (900 + j) r.1).1
        rw [r.2.1] at this
        exact c4 _ _ this
    · rw [cell a hq] at he
      exact c4 a e he
/-- X leaves the model alone -/
theorem MoA.up {D1 : xs_D} {ξ1 : xs_X} (hM : MoA D ξ b μ) (hD : XD D D1) (hs : ∀ r, 900 ≤ r → r ≤ 952 → sc ξ ξ1 r) : MoA D1 ξ1 b μ := by
  obtain ⟨⟨r0, rj⟩, hf, hn⟩ := hM
  have s0 := hs 900 (by decide) (by decide)
  refine ⟨⟨hD _ _ _ r0, fun j h1 h2 => hD _ _ _ (rj j h1 h2)⟩, by rw [s0.1, s0.2.1]; exact hf, fun j h1 h2 => ?_⟩
  have s1 := hs (900 + j) (by omega) (by omega)
  rw [xs_Ec s1.1 s1.2.1 s1.2.2.1 s1.2.2.2.1 s1.2.2.2.2]
  exact hn j h1 h2
end
