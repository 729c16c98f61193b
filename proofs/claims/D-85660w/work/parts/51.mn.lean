set_option maxRecDepth 100000
theorem spn_le {q : Int32 → Bool} {T : Nat → Int32} (he : ∀ p, 1000 ≤ p → T p = -1) (hq : q (-1) = false) : ∀ (f p : Nat), p ≤ 1000 → spn q T f p ≤ 1000
  | 0, p, hp => hp
  | f + 1, p, hp => by
    by_cases h : q (T p) = true
    · have hp2 : p < 1000 := Nat.lt_of_not_le fun h9 => by rw [he p h9, hq] at h; exact absurd h (by decide)
      rw [spn_st h]
      exact spn_le he hq f (p + 1) (by omega)
    · rw [spn_no h]; exact hp
theorem lxa_le {T : Nat → Int32} (he : ∀ p, 1000 ≤ p → T p = -1) {p : Nat} (hp : p ≤ 1000) : lxa T p ≤ 1000 := spn_le he (by decide) _ _ hp
theorem lxe_le {T : Nat → Int32} (he : ∀ p, 1000 ≤ p → T p = -1) {p : Nat} (hp : p ≤ 1000) : lxe T p ≤ 1000 := by
  have ha := lxa_le he hp
  unfold lxe
  dsimp only
  by_cases h1 : T (lxa T p) = -1
  · rw [if_pos h1]; exact ha
  · have ha2 : lxa T p < 1000 := Nat.lt_of_not_le fun h9 => h1 (he _ h9)
    rw [if_neg h1]
    by_cases h2 : cSm (T (lxa T p)) = true
    · rw [if_pos h2]; exact spn_le he (by decide) _ _ ha
    · rw [if_neg h2]
      by_cases h3 : cDg (T (lxa T p)) = true
      · rw [if_pos h3]; exact spn_le he (by decide) _ _ ha
      · rw [if_neg h3]
        by_cases h4 : T (lxa T p) = 61 ∧ T (lxa T p + 1) = 61
        · rw [if_pos h4]
          have : lxa T p + 1 < 1000 := Nat.lt_of_not_le fun h9 => by have := h4.2; rw [he _ h9] at this; exact absurd this (by decide)
          omega
        · rw [if_neg h4]; omega
theorem lxe_gt {T : Nat → Int32} {p : Nat} (h : ¬ lxt T p = 0) : p < lxe T p := by
  have ha : p ≤ lxa T p := spn_ge _ _
  have h1 : ¬ T (lxa T p) = -1 := fun e => h (by unfold lxt; simp only [if_pos e])
  refine Nat.lt_of_le_of_lt ha ?_
  unfold lxe
  dsimp only
  rw [if_neg h1]
  by_cases h2 : cSm (T (lxa T p)) = true
  · rw [if_pos h2, spn_st h2]
    exact spn_ge 1000 _
  · rw [if_neg h2]
    by_cases h3 : cDg (T (lxa T p)) = true
    · rw [if_pos h3, spn_st h3]
      exact spn_ge 1000 _
    · rw [if_neg h3]
      by_cases h4 : T (lxa T p) = 61 ∧ T (lxa T p + 1) = 61
      · rw [if_pos h4]; omega
      · rw [if_neg h4]; omega
/-- the model while a text is read, the token at p at hand, c nodes made -/
def PI (T : Nat → Int32) (p : Nat) (N : ps_N) (c : Nat) (μ : mm_S) : Prop := tx μ = T ∧ tok μ ∧ wok0 μ ∧ tkn T p μ ∧ p ≤ 1000 ∧ mI μ 11 = 0 ∧ mI μ 7 = nI N.1 ∧ N.1 ≤ 40 ∧ μ.2.2.2 6 = N.2 ∧ mI μ 16 = nI c ∧ c ≤ 1001
/-- the model when a text is refused -/
def PF (kind : Int32) (place : Nat) (N : ps_N) (μ : mm_S) : Prop := mI μ 11 = kind ∧ mI μ 12 = nI place ∧ mI μ 7 = nI N.1 ∧ N.1 ≤ 40 ∧ μ.2.2.2 6 = N.2
section
variable {G : am_G} {ρ : mm_F} {d : Nat} {T : Nat → Int32} {p c : Nat} {N : ps_N} {μ : mm_S}
theorem PI.end_ (h : PI T p N c μ) : ∀ q, 1000 ≤ q → T q = -1 := fun q hq => by rw [← h.1]; exact h.2.1.end_ hq
/-- the next token -/
theorem S_next {Q : mm_S → Prop} (h : PI T p N c μ) (h0 : ¬ lxt T p = 0) (hQ : ∀ μ', fr [2, 3, 4, 5, 10] μ μ' → PI T (lxe T p) N c μ' → Q μ') : W_X6_look0 G ρ (d + 3) μ Q := by
  have he := h.end_
  obtain ⟨a1, a2, a3, a4, a5, a6, a7, a8, a9, a10, a11⟩ := h
  have hle := lxe_le he a5
  have hgt := lxe_gt h0
  refine S_look0 1001 (lxe T p) a1 a2 a3 a4.1 hle (by omega) fun μ' g1 g2 => hQ μ' g1 ⟨(g1.txt (by decide) (by decide)).trans a1, g1.tok (by decide) (by decide) a2, g1.wok0 (by decide) a3, g2, hle, ?_, ?_, a8, ?_, ?_, a11⟩
  · rw [show mI μ' 11 = mI μ 11 from (g1 11 (by decide)).1]; exact a6
  · rw [show mI μ' 7 = mI μ 7 from (g1 7 (by decide)).1]; exact a7
  · rw [(g1 6 (by decide)).2.2.2]; exact a9
  · rw [show mI μ' 16 = mI μ 16 from (g1 16 (by decide)).1]; exact a10
theorem S_badAt {k x : Int32} {q : Nat} {Q : Int32 → mm_S → Prop} (h : PI T p N c μ) (hx : x = nI q) (hQ : ∀ μ', fr [11, 12] μ μ' → PF k q N μ' → Q 0 μ') : W_X6_badAt G ρ d k x μ Q := by
  obtain ⟨a1, a2, a3, a4, a5, a6, a7, a8, a9, a10, a11⟩ := h
  refine W_X6_badAt_f ⟨fun c1 => absurd a6 c1, fun _ μ1 e1 μ2 e2 => ?_⟩
  have g : fr [11, 12] μ μ2 := by rw [e2, e1]; exact (fr.refl.sI (by decide)).sI (by decide)
  refine hQ μ2 g ⟨?_, ?_, ?_, a8, ?_⟩
  · rw [e2, mI_o (by decide), e1, mI_s]
  · rw [e2, mI_s]; exact hx
  · rw [show mI μ2 7 = mI μ 7 from (g 7 (by decide)).1]; exact a7
  · rw [(g 6 (by decide)).2.2.2]; exact a9
theorem S_bad {k : Int32} {Q : Int32 → mm_S → Prop} (h : PI T p N c μ) (hQ : ∀ μ', fr [11, 12] μ μ' → PF k (lxa T p) N μ' → Q 0 μ') : W_X6_bad G ρ (d + 1) k μ Q :=
  W_X6_bad_f (S_badAt h h.2.2.2.1.2.2.1 fun μ' g1 g2 => ⟨rfl, hQ μ' g1 g2⟩)
theorem S_isSign {k : Int32} {Q : Int32 → mm_S → Prop} (h : PI T p N c μ) (hQ : Q (if lxt T p = 200 + k then 1 else 0) μ) : W_X6_isSign G ρ d k μ Q := by
  have e := h.2.2.2.1.2.1
  refine W_X6_isSign_f ?_
  rw [e]
  refine ⟨fun c1 => ?_, fun c1 => ?_⟩
  · rw [if_neg c1] at hQ; exact hQ
  · rw [if_pos c1] at hQ; exact hQ
theorem S_need {k : Int32} {Q : Int32 → mm_S → Prop} (hk : ¬ 200 + k = 0) (h : PI T p N c μ) (hy : ∀ μ', lxt T p = 200 + k → fr [2, 3, 4, 5, 10] μ μ' → PI T (lxe T p) N c μ' → Q 1 μ') (hn : ∀ μ', ¬ lxt T p = 200 + k → fr [11, 12] μ μ' → PF 1 (lxa T p) N μ' → Q 0 μ') : W_X6_need G ρ (d + 4) k μ Q := by
  refine W_X6_need_f (S_isSign h ?_)
  by_cases hs : lxt T p = 200 + k
  · rw [if_pos hs]
    exact ⟨fun _ => S_next h (by rw [hs]; exact hk) fun μ' g1 g2 => hy μ' hs g1 g2, fun c1 => absurd c1 (by decide)⟩
  · rw [if_neg hs]
    exact ⟨fun c1 => absurd rfl c1, fun _ => S_bad h fun μ' g1 g2 => ⟨rfl, hn μ' hs g1 g2⟩⟩
end
