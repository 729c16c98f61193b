set_option maxRecDepth 100000
section
variable {G : am_G} {ρ : mm_F} {d : Nat}
theorem S_isLetter {μ : mm_S} {c : Int32} {Q : Int32 → mm_S → Prop} (h : Q (if cSm c = true ∨ cGr c = true then 1 else 0) μ) : W_X6_isLetter G ρ (d + 1) c μ Q := by
  refine W_X6_isLetter_f (S_isIn ⟨fun c1 => ⟨fun _ => ?_, fun c2 => absurd c2 (by decide)⟩, fun c1 => ⟨fun c2 => absurd rfl c2, fun _ => S_isIn ⟨fun c2 => ⟨fun c3 => absurd c3 (by decide), fun _ => ?_⟩, fun c2 => ⟨fun _ => ?_, fun c3 => absurd rfl c3⟩⟩⟩⟩)
  · rw [if_pos (Or.inl (by unfold cSm; simp [c1.1, c1.2]))] at h; exact h
  · rw [if_pos (Or.inr (by unfold cGr; simp [c2.1, c2.2]))] at h; exact h
  · rw [if_neg (fun h9 => h9.elim (fun h9 => c1 (by unfold cSm at h9; simpa using h9)) (fun h9 => c2 (by unfold cGr at h9; simpa using h9)))] at h; exact h
theorem S_l219 {T : Nat → Int32} {a : Nat} : ∀ (f j : Nat) {μ : mm_S} {x : Int32} {Q : mm_S → Prop}, x = nI j → tx μ = T → tok μ → mI μ 2 = nI (a + j) → mI μ 5 = ldg T a (min j 6) → 1001 ≤ a + j + f → a + j ≤ 1000 → mI μ 3 = 1 → (∀ μ', fr [2, 3, 5] μ μ' → mI μ' 2 = nI (spn cDg T f (a + j)) → mI μ' 3 = (if spn cDg T f (a + j) - a ≤ 6 ∧ cSm (T (spn cDg T f (a + j))) = false ∧ cGr (T (spn cDg T f (a + j))) = false then 3 else 1) → mI μ' 5 = ldg T a (min (spn cDg T f (a + j) - a) 6) → Q μ') → B_X6_look0_219 G ρ (d + 2) x μ Q
  | 0, j, μ, x, Q, hx, hT, ht, h2, h5, hf, ha, h3, h => by omega
  | f + 1, j, μ, x, Q, hx, hT, ht, h2, h5, hf, ha, h3, h => B_X6_look0_219_f (S_see h2 ht (by omega) (by
      subst hx
      rw [hT]
      by_cases hs : cDg (T (a + j)) = true
      · have hs2 : 48 ≤ T (a + j) ∧ T (a + j) ≤ 57 := by unfold cDg at hs; simpa using hs
        rw [spn_st hs] at h
        have haj : a + j < 1000 := Nat.lt_of_not_le fun h9 => cDg1 hs (by rw [← hT]; exact ht.end_ h9)
        refine S_isIn ⟨fun _ => ⟨fun c => absurd c (by decide), fun _ => ⟨fun c μ1 e => ?_, fun c => S_see h2 ht (by omega) fun μ1 e1 μ2 e2 => ?_⟩⟩, fun c => absurd hs2 c⟩
        · have hj : 6 ≤ j := (nI_leI (by decide) (by omega)).mp c
          have hfr : fr [2, 3, 5] μ μ1 := by rw [e]; exact fr.refl.sI (by decide)
          refine S_l219 f (j + 1) (nI_1 j) ((hfr.txt (by decide) (by decide)).trans hT) (hfr.tok (by decide) (by decide) ht) ?_ ?_ (by omega) (by omega) ?_ fun μ' g1 g2 g3 g4 => h μ' (hfr.trans g1) g2 g3 g4
          · rw [e, mI_s, h2]; exact nI_1 _
          · rw [e, mI_o (by decide), h5, Nat.min_eq_right hj, Nat.min_eq_right (by omega)]
          · rw [e, mI_o (by decide)]; exact h3
        · have hj : j < 6 := Nat.lt_of_not_le fun h9 => c (nI_le (a := 6) h9 (by omega))
          have hfr : fr [2, 3, 5] μ μ2 := by rw [e2, e1]; exact (fr.refl.sI (by decide)).sI (by decide)
          refine S_l219 f (j + 1) (nI_1 j) ((hfr.txt (by decide) (by decide)).trans hT) (hfr.tok (by decide) (by decide) ht) ?_ ?_ (by omega) (by omega) ?_ fun μ' g1 g2 g3 g4 => h μ' (hfr.trans g1) g2 g3 g4
          · rw [e2, mI_s, e1, mI_o (by decide), h2]; exact nI_1 _
          · rw [e2, mI_o (by decide), e1, mI_s, h5, hT, Nat.min_eq_left (by omega), Nat.min_eq_left (by omega)]; rfl
          · rw [e2, mI_o (by decide), e1, mI_o (by decide)]; exact h3
      · have hs2 : ¬ (48 ≤ T (a + j) ∧ T (a + j) ≤ 57) := by unfold cDg at hs; simpa using hs
        rw [spn_no hs] at h
        rw [show a + j - a = j by omega] at h
        refine S_isIn ⟨fun c => absurd c hs2, fun _ => ⟨fun _ => ⟨fun c => ?_, fun c => S_see h2 ht (by omega) (S_isLetter (by
          rw [hT]
          have hj : j ≤ 6 := Nat.le_of_not_lt fun h9 => c (nI_lt (a := 6) h9 (by omega))
          by_cases hl : cSm (T (a + j)) = true ∨ cGr (T (a + j)) = true
          · rw [if_pos hl]
            rw [if_neg (fun h9 => by rcases hl with h1 | h1 <;> simp [h1] at h9)] at h
            exact ⟨fun _ => h μ fr.refl h2 h3 h5, fun c2 => absurd c2 (by decide)⟩
          · rw [if_neg hl]
            rw [if_pos ⟨hj, by simpa using fun h1 => hl (Or.inl h1), by simpa using fun h1 => hl (Or.inr h1)⟩] at h
            refine ⟨fun c2 => absurd rfl c2, fun _ μ1 e => ?_⟩
            rw [e]
            exact h _ (fr.refl.sI (by decide)) (by rw [mI_o (by decide)]; exact h2) mI_s (by rw [mI_o (by decide)]; exact h5)))⟩, fun c => absurd rfl c⟩⟩
        have hj : ¬ j ≤ 6 := by
          have := (nI_ltI (show 6 < 2 ^ 31 by decide) (show j < 2 ^ 31 by omega)).mp c
          omega
        rw [if_neg (fun h9 => hj h9.1)] at h
        exact h μ fr.refl h2 h3 h5))
end
