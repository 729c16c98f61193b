set_option maxRecDepth 100000
theorem spn_ge {q : Int32 → Bool} {T : Nat → Int32} : ∀ (f p : Nat), p ≤ spn q T f p
  | 0, p => Nat.le_refl p
  | f + 1, p => by
    unfold spn
    by_cases h : q (T p) = true
    · rw [if_pos h]; exact Nat.le_of_succ_le (spn_ge f (p + 1))
    · rw [if_neg h]; exact Nat.le_refl p
theorem spn_st {q : Int32 → Bool} {T : Nat → Int32} {f p : Nat} (h : q (T p) = true) : spn q T (f + 1) p = spn q T f (p + 1) := by
  rw [spn, if_pos h]
theorem spn_no {q : Int32 → Bool} {T : Nat → Int32} {f p : Nat} (h : ¬ q (T p) = true) : spn q T f p = p := by
  cases f with
  | zero => rfl
  | succ f => rw [spn, if_neg h]
theorem spn_fu {q : Int32 → Bool} {T : Nat → Int32} (he : ∀ p, 1000 ≤ p → T p = -1) (hq : q (-1) = false) : ∀ (f g p : Nat), 1001 ≤ p + f → 1001 ≤ p + g → spn q T f p = spn q T g p
  | f, g, p, hf, hg => by
    by_cases h : q (T p) = true
    · have hp : p < 1000 := Nat.lt_of_not_le fun h9 => by rw [he p h9, hq] at h; exact absurd h (by decide)
      match f, g, hf, hg with
      | 0, g, hf, hg => omega
      | f + 1, 0, hf, hg => omega
      | f + 1, g + 1, hf, hg =>
        rw [spn_st h, spn_st h]
        exact spn_fu he hq f g (p + 1) (by omega) (by omega)
    · rw [spn_no h, spn_no h]
section
variable {G : am_G} {ρ : mm_F} {d : Nat}
theorem S_more {μ : mm_S} {w : Int64} {c : Int32} {Q : Int64 → mm_S → Prop} (hc : ¬ c = 0) (h : Q ((w <<< ((6 : Int32).toInt64 &&& 63)) ||| Int32.toInt64 (c - 96)) μ) : W_X6_more G ρ d w c μ Q :=
  W_X6_more_f ⟨fun _ => h, fun c2 => absurd c2 hc⟩
theorem cSm0 {c : Int32} (h : cSm c = true) : ¬ c = 0 := fun e => by rw [e] at h; exact absurd h (by decide)
theorem cSm1 {c : Int32} (h : cSm c = true) : ¬ c = -1 := fun e => by rw [e] at h; exact absurd h (by decide)
theorem cDg1 {c : Int32} (h : cDg c = true) : ¬ c = -1 := fun e => by rw [e] at h; exact absurd h (by decide)
theorem S_l88 {T : Nat → Int32} {a : Nat} : ∀ (f j : Nat) {μ : mm_S} {x : Int32} {Q : mm_S → Prop}, x = nI j → tx μ = T → tok μ → wok0 μ → mI μ 2 = nI (a + j) → mJ μ 10 = lcd T a (min j 7) → 1001 ≤ a + j + f → a + j ≤ 1000 → mI μ 3 = 1 → (∀ μ', fr [2, 3, 10] μ μ' → mI μ' 2 = nI (spn cSm T f (a + j)) → mI μ' 3 = (if spn cSm T f (a + j) - a ≤ 6 then wtk (lcd T a (spn cSm T f (a + j) - a)) 22 else 1) → mJ μ' 10 = lcd T a (min (spn cSm T f (a + j) - a) 7) → Q μ') → B_X6_look0_88 G ρ (d + 2) x μ Q
  | 0, j, μ, x, Q, hx, hT, ht, hw, h2, h10, hf, ha, h3, h => by omega
  | f + 1, j, μ, x, Q, hx, hT, ht, hw, h2, h10, hf, ha, h3, h => B_X6_look0_88_f (S_see h2 ht (by omega) (S_isSmall (by
      subst hx
      rw [hT]
      by_cases hs : cSm (T (a + j)) = true
      · rw [if_pos hs]
        rw [spn_st hs] at h
        have haj : a + j < 1000 := Nat.lt_of_not_le fun h9 => cSm1 hs (by rw [← hT]; exact ht.end_ h9)
        refine ⟨fun c => absurd c (by decide), fun _ => ⟨fun c μ1 e => ?_, fun c => S_see h2 ht (by omega) (S_more (by rw [hT]; exact cSm0 hs) fun μ1 e1 μ2 e2 => ?_)⟩⟩
        · have hj : 7 ≤ j := (nI_leI (by decide) (by omega)).mp c
          have hfr : fr [2, 3, 10] μ μ1 := by rw [e]; exact fr.refl.sI (by decide)
          refine S_l88 f (j + 1) (nI_1 j) ((hfr.txt (by decide) (by decide)).trans hT) (hfr.tok (by decide) (by decide) ht) (hfr.wok0 (by decide) hw) ?_ ?_ (by omega) (by omega) ?_ fun μ' g1 g2 g3 g4 => h μ' (hfr.trans g1) g2 g3 g4
          · rw [e, mI_s, h2]; exact nI_1 _
          · rw [e]; show mJ μ 10 = _; rw [h10, Nat.min_eq_right hj, Nat.min_eq_right (by omega)]
          · rw [e, mI_o (by decide)]; exact h3
        · have hj : j < 7 := Nat.lt_of_not_le fun h9 => c (nI_le (a := 7) h9 (by omega))
          have hfr : fr [2, 3, 10] μ μ2 := by rw [e2, e1]; exact (fr.refl.sJ (by decide)).sI (by decide)
          refine S_l88 f (j + 1) (nI_1 j) ((hfr.txt (by decide) (by decide)).trans hT) (hfr.tok (by decide) (by decide) ht) (hfr.wok0 (by decide) hw) ?_ ?_ (by omega) (by omega) ?_ fun μ' g1 g2 g3 g4 => h μ' (hfr.trans g1) g2 g3 g4
          · rw [e2, mI_s, e1]; show mI μ 2 + 1 = _; rw [h2]; exact nI_1 _
          · rw [e2]; show mJ μ1 10 = _; rw [e1, mJ_s, h10, hT, Nat.min_eq_left (by omega), Nat.min_eq_left (by omega)]; rfl
          · rw [e2, mI_o (by decide), e1]; exact h3
      · rw [if_neg hs]
        rw [spn_no hs] at h
        rw [show a + j - a = j by omega] at h
        refine ⟨fun _ => ⟨fun c μ1 e => ?_, fun c => ?_⟩, fun c => absurd rfl c⟩
        · have hj : j ≤ 6 := (nI_leI (by omega) (by decide)).mp c
          rw [if_pos hj, Nat.min_eq_left (by omega)] at h
          rw [Nat.min_eq_left (by omega)] at h10
          have hfr : fr [2, 3, 10] μ μ1 := by rw [e]; exact fr.refl.sI (by decide)
          refine S_l157 (c := lcd T a j) 22 0 rfl rfl (hfr.wok0 (by decide) hw) (by rw [e, mI_s]; rfl) (by rw [e]; exact h10) fun μ' g1 g2 => h μ' (hfr.trans (g1.more (by decide))) ?_ g2 ?_
          · rw [show mI μ' 2 = mI μ1 2 from (g1 2 (by decide)).1, e, mI_o (by decide)]; exact h2
          · rw [show mJ μ' 10 = mJ μ1 10 from (g1 10 (by decide)).2.1, e]; exact h10
        · have hj : ¬ j ≤ 6 := fun h9 => c (nI_le (b := 6) h9 (by decide))
          rw [if_neg hj] at h
          exact h μ fr.refl h2 h3 h10)))
end
