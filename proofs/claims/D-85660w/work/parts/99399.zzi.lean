set_option maxRecDepth 100000
/-- five numbers; their twenty characters -/
def fw5 (a b c d e : Int32) : Nat → Int32
  | 0 => a
  | 1 => b
  | 2 => c
  | 3 => d
  | _ => e
def feR (ws : Nat → Int32) (i : Nat) : Int32 := ws (i / 4) >>> (nI (24 - 8 * (i % 4)) &&& 31)
def feC (ws : Nat → Int32) (i : Nat) : Int32 := feR ws i &&& 255
section
variable {G : am_G} {ρ : mm_F} {d : Nat}
/-- the model's feed -/
theorem S_feed_l {a b c e g : Int32} {n : Nat} (hn : n + 20 ≤ 1000) {μ0 : mm_S} {Q : Int32 → mm_S → Prop} (hQ : ∀ μ', fr [0, 1] μ0 μ' → mI μ' 1 = nI (n + 20) → (∀ q, mA μ' 0 q = if n ≤ q ∧ q < n + 20 then feC (fw5 a b c e g) (q - n) else mA μ0 0 q) → Q (nI (n + 20)) μ') : ∀ (f i : Nat) (μ : mm_S), i + f = 20 → fr [0, 1] μ0 μ → mI μ 1 = nI (n + i) → (∀ q, mA μ 0 q = if n ≤ q ∧ q < n + i then feC (fw5 a b c e g) (q - n) else mA μ0 0 q) → B_X6_feed_18 G ρ d a b c e g (nI i) μ Q
  | 0, i, μ, hi, g1, h1, hA => by
    have hi' : i = 20 := by omega
    subst hi'
    refine B_X6_feed_18_f ⟨fun _ => ?_, fun h9 => absurd (Int32.le_refl _) h9⟩
    rw [h1]
    exact hQ μ g1 h1 hA
  | f + 1, i, μ, hi, g1, h1, hA => by
    have key : B_X6_feed_71 G ρ d a b c e g (nI i) (fw5 a b c e g (i / 4)) μ Q := by
      refine B_X6_feed_71_f ?_
      have e1 : (24 : Int32) - 8 * (nI i - nI i / 4 * 4) = nI (24 - 8 * (i % 4)) := by
        rw [show (4 : Int32) = nI 4 from rfl, pk_rem (by omega) (by decide) (by decide), show (8 : Int32) = nI 8 from rfl, pk_mul, show (24 : Int32) = nI 24 from rfl, pk_sub (by omega)]
      rw [h1, nI_clamp (show n + i < 2 ^ 31 by omega), e1]
      refine ⟨vp_in_nI (by omega) (by decide), fun μ1 q1 μ2 q2 => ?_⟩
      rw [nI_1]
      have g2 : fr [0, 1] μ0 μ2 := by rw [q2, q1]; exact (g1.sA (by decide)).sI (by decide)
      refine S_feed_l hn hQ f (i + 1) μ2 (by omega) g2 ?_ fun q => ?_
      · rw [q2, mI_s, q1]
        show mI μ 1 + 1 = _
        rw [h1, nI_1]
        rfl
      · rw [q2]
        show mA μ1 0 q = _
        rw [q1]
        by_cases hq : q = n + i
        · rw [hq, mA_s, if_pos ⟨by omega, by omega⟩, show n + i - n = i by omega]
          rfl
        · rw [mA_i hq, hA q]
          by_cases h8 : n ≤ q ∧ q < n + i
          · rw [if_pos h8, if_pos ⟨h8.1, by omega⟩]
          · rw [if_neg h8, if_neg (by omega)]
    have le : ∀ m : Nat, m < 100 → (nI m ≤ nI i ↔ m ≤ i) := fun m hm => nI_leI (by omega) (by omega)
    have kk : ∀ j x, fw5 a b c e g j = x → i / 4 = j → B_X6_feed_71 G ρ d a b c e g (nI i) x μ Q := fun j x h1 h2 => by rw [← h1, ← h2]; exact key
    refine B_X6_feed_18_f ⟨fun h9 => absurd ((le 20 (by decide)).mp h9) (by omega), fun _ => ⟨fun h4 => ⟨fun h8 => ⟨fun h12 => ⟨fun h16 => ?_, fun h16 => ?_⟩, fun h12 => ?_⟩, fun h8 => ?_⟩, fun h4 => ?_⟩⟩
    · have := (le 16 (by decide)).mp h16
      exact kk 4 g rfl (by omega)
    · have h12' := (le 12 (by decide)).mp h12
      have h16' := mt (le 16 (by decide)).mpr h16
      exact kk 3 e rfl (by omega)
    · have h8' := (le 8 (by decide)).mp h8
      have h12' := mt (le 12 (by decide)).mpr h12
      exact kk 2 c rfl (by omega)
    · have h4' := (le 4 (by decide)).mp h4
      have h8' := mt (le 8 (by decide)).mpr h8
      exact kk 1 b rfl (by omega)
    · have h4' := mt (le 4 (by decide)).mpr h4
      exact kk 0 a rfl (by omega)
theorem S_feed {a b c e g : Int32} {n : Nat} {μ : mm_S} (hn : n ≤ 1000) (h1 : mI μ 1 = nI n) {Q : Int32 → mm_S → Prop} (hQ : n + 20 ≤ 1000 → ∀ μ', fr [0, 1] μ μ' → mI μ' 1 = nI (n + 20) → (∀ q, mA μ' 0 q = if n ≤ q ∧ q < n + 20 then feC (fw5 a b c e g) (q - n) else mA μ 0 q) → Q (nI (n + 20)) μ') (hF : ¬ n + 20 ≤ 1000 → Q (-1) μ) : W_X6_feed G ρ d a b c e g μ Q := by
  refine W_X6_feed_f ?_
  have e20 : nI n + 20 = nI (n + 20) := nI_add n 20
  rw [h1, e20]
  refine ⟨fun h9 => ?_, fun h9 => hF fun h8 => h9 (nI_le (b := 1000) h8 (by decide))⟩
  have h20 : n + 20 ≤ 1000 := (nI_leI (a := n + 20) (b := 1000) (by omega) (by decide)).mp h9
  exact S_feed_l h20 (hQ h20) 20 0 μ rfl fr.refl h1 fun q => by rw [if_neg (by omega)]
/-- the model's end -/
theorem S_endc {x : Int32} {n : Nat} {μ : mm_S} (hn : n ≤ 1000) (h1 : mI μ 1 = nI n) {Q : Int32 → mm_S → Prop} (hy : ∀ m, m ≤ n → x = nI m → ∀ μ', μ' = mm_sI μ 1 (nI m) → Q 1 μ') (hno : (∀ m, m ≤ n → ¬ x = nI m) → Q 0 μ) : W_X6_end G ρ (d + 1) x μ Q := by
  refine W_X6_end_f (S_isIn ?_)
  rw [h1]
  refine ⟨fun h => ⟨fun _ μ3 e3 => ?_, fun h9 => absurd h9 (by decide)⟩, fun h => ⟨fun h9 => absurd rfl h9, fun _ => hno fun m hm e => h ?_⟩⟩
  · obtain ⟨j, j1, j2⟩ := nI_of (fun h9 => absurd h.1 (Int32.not_le.mpr h9))
    rw [j2] at h e3
    exact hy j ((nI_leI j1 (by omega)).mp h.2) j2 μ3 e3
  · rw [e]
    exact ⟨nI_pos' (by omega), nI_le hm (by omega)⟩
end
