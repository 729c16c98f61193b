set_option maxRecDepth 100000
/-! ===== the model's lexer (look0) ===== -/
theorem fr.txt {ks : List Nat} {μ μ' : mm_S} (h : fr ks μ μ') (h0 : 0 ∉ ks) (h1 : 1 ∉ ks) : tx μ' = tx μ := by
  funext p
  have e1 : mI μ' 1 = mI μ 1 := (h 1 h1).1
  have e0 : mA μ' 0 = mA μ 0 := (h 0 h0).2.2.1
  unfold tx
  rw [e1, e0]
theorem fr.tok {ks : List Nat} {μ μ' : mm_S} (h : fr ks μ μ') (h0 : 0 ∉ ks) (h1 : 1 ∉ ks) (ht : tok μ) : tok μ' := by
  have e1 : mI μ' 1 = mI μ 1 := (h 1 h1).1
  have e0 : mA μ' 0 = mA μ 0 := (h 0 h0).2.2.1
  obtain ⟨n, a, b, c⟩ := ht
  exact ⟨n, a, by rw [e1]; exact b, by rw [e0]; exact c⟩
theorem tok.end_ {μ : mm_S} (h : tok μ) {p : Nat} (hp : 1000 ≤ p) : tx μ p = -1 := by
  obtain ⟨n, a, b, c⟩ := h
  unfold tx
  rw [b, nI_clamp (by omega), if_neg (by omega)]
theorem tok.in_ {μ : mm_S} (h : tok μ) (p : Nat) : tx μ p = -1 ∨ ∃ c, c < 256 ∧ tx μ p = nI c := by
  obtain ⟨n, a, b, c⟩ := h
  unfold tx
  rw [b, nI_clamp (by omega)]
  by_cases hp : p < n
  · rw [if_pos hp]; exact Or.inr (c p hp)
  · rw [if_neg hp]; exact Or.inl rfl
def wok0 (μ : mm_S) : Prop := ∀ k, k < 22 → mB μ 8 k = wcd (wds.getD k [])
theorem fr.wok0 {ks : List Nat} {μ μ' : mm_S} (h : fr ks μ μ') (h8 : 8 ∉ ks) (hw : wok0 μ) : wok0 μ' := fun k hk => by
  have e : mB μ' 8 = mB μ 8 := (h 8 h8).2.2.2
  rw [e]; exact hw k hk
theorem lg_cmp0 {a b : Int64} : lg_cmp a b = 0 ↔ a = b := by
  unfold lg_cmp
  constructor
  · intro h
    by_cases h1 : b < a
    · rw [if_pos h1] at h
      exact absurd h (by decide)
    · rw [if_neg h1] at h
      by_cases h2 : a = b
      · exact h2
      · rw [if_neg h2] at h
        exact absurd h (by decide)
  · intro h
    subst h
    rw [if_neg (Int64.lt_irrefl), if_pos rfl]
section
variable {G : am_G} {ρ : mm_F} {d : Nat}
theorem S_l157 {c : Int64} : ∀ (f i : Nat) {μ : mm_S} {x : Int32} {Q : mm_S → Prop}, i + f = 22 → x = nI i → wok0 μ → mI μ 3 = wtk c i → mJ μ 10 = c → (∀ μ', fr [3] μ μ' → mI μ' 3 = wtk c 22 → Q μ') → B_X6_look0_157 G ρ (d + 1) x μ Q
  | 0, i, μ, x, Q, hf, hx, hw, h3, h10, h => B_X6_look0_157_f (by
      subst hx
      rw [show i = 22 by omega] at h3 ⊢
      exact ⟨fun _ => h μ fr.refl h3, fun c => absurd (nI_le (Nat.le_refl 22) (by decide)) c⟩)
  | f + 1, i, μ, x, Q, hf, hx, hw, h3, h10, h => B_X6_look0_157_f (by
      subst hx
      refine ⟨fun c => absurd c (nI_ge (show i < 22 by omega) (by decide)), fun _ => ⟨vp_in_nI (by omega) (by decide), fun c1 μ1 e => ?_, fun c1 μ1 e => ?_⟩⟩
      · rw [nI_clamp (by omega), hw i (by omega), h10, lg_cmp0] at c1
        subst e
        refine S_l157 f (i + 1) (by omega) (nI_1 i) ((fr.refl (ks := [3])).sI (by decide) |>.wok0 (by decide) hw) ?_ h10 fun μ' h1 h2 => h μ' (((fr.refl (ks := [3])).sI (by decide)).trans h1) h2
        rw [mI_s, wtk, if_neg c1]
        exact h3
      · rw [nI_clamp (by omega), hw i (by omega), h10, lg_cmp0] at c1
        subst e
        refine S_l157 f (i + 1) (by omega) (nI_1 i) ((fr.refl (ks := [3])).sI (by decide) |>.wok0 (by decide) hw) ?_ h10 fun μ' h1 h2 => h μ' (((fr.refl (ks := [3])).sI (by decide)).trans h1) h2
        rw [mI_s, wtk, if_pos c1])
theorem S_isSmall {μ : mm_S} {c : Int32} {Q : Int32 → mm_S → Prop} (h : Q (if cSm c = true then 1 else 0) μ) : W_X6_isSmall G ρ (d + 1) c μ Q := by
  unfold cSm at h
  refine W_X6_isSmall_f (S_isIn ⟨fun c1 => ⟨rfl, ?_⟩, fun c1 => ⟨rfl, ?_⟩⟩)
  · rw [if_pos (by simp [c1.1, c1.2])] at h; exact h
  · rw [if_neg (by simpa using c1)] at h; exact h
end
