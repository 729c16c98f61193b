set_option maxRecDepth 100000
/-! ===== the model's worlds, read (S_: what a method answers) ===== -/
/-- the first i from the second number on, of so many, with v i = x; -1 -/
def fs (v : Nat → Int32) (x : Int32) : Nat → Nat → Int32
  | 0, _ => -1
  | f + 1, i => if v i = x then nI i else fs v x f (i + 1)
theorem fs_m1 {v : Nat → Int32} {x : Int32} : ∀ {f i : Nat}, i + f < 2 ^ 31 → (fs v x f i = -1 ↔ ∀ j, i ≤ j → j < i + f → ¬ v j = x)
  | 0, i, _ => by
    unfold fs
    exact ⟨fun _ j h1 h2 => by omega, fun _ => rfl⟩
  | f + 1, i, hf => by
    unfold fs
    by_cases h : v i = x
    · rw [if_pos h]
      refine ⟨fun h1 => ?_, fun h1 => absurd h (h1 i (Nat.le_refl _) (by omega))⟩
      exact absurd (show nI i < 0 by rw [h1]; decide) (nI_pos (by omega))
    · rw [if_neg h, fs_m1 (f := f) (i := i + 1) (by omega)]
      refine ⟨fun h1 j h2 h3 => ?_, fun h1 j h2 h3 => h1 j (by omega) (by omega)⟩
      by_cases hj : j = i
      · rw [hj]; exact h
      · exact h1 j (by omega) (by omega)
theorem fs_of {v : Nat → Int32} {x : Int32} : ∀ {f i : Nat}, ¬ fs v x f i = -1 → ∃ j, i ≤ j ∧ j < i + f ∧ v j = x ∧ fs v x f i = nI j ∧ ∀ q, i ≤ q → q < j → ¬ v q = x
  | 0, i, h => absurd rfl h
  | f + 1, i, h => by
    unfold fs at h ⊢
    by_cases h1 : v i = x
    · rw [if_pos h1]
      exact ⟨i, Nat.le_refl _, by omega, h1, rfl, fun q h2 h3 => by omega⟩
    · rw [if_neg h1] at h ⊢
      obtain ⟨j, e1, e2, e3, e4, e5⟩ := fs_of h
      refine ⟨j, by omega, by omega, e3, e4, fun q h2 h3 => ?_⟩
      by_cases hq : q = i
      · rw [hq]; exact h1
      · exact e5 q (by omega) h3
theorem fs_is {v : Nat → Int32} {x : Int32} {j : Nat} : ∀ {f i : Nat}, i ≤ j → j < i + f → v j = x → (∀ q, i ≤ q → q < j → ¬ v q = x) → fs v x f i = nI j
  | 0, i, h1, h2, _, _ => by omega
  | f + 1, i, h1, h2, h3, h4 => by
    unfold fs
    by_cases h : v i = x
    · rw [if_pos h]
      by_cases hj : i = j
      · rw [hj]
      · exact absurd h (h4 i (Nat.le_refl _) (by omega))
    · rw [if_neg h]
      have hj : i ≠ j := fun e => h (by rw [e]; exact h3)
      exact fs_is (by omega) (by omega) h3 fun q h5 h6 => h4 q (by omega) h6
theorem fs_ext {v v' : Nat → Int32} {x : Int32} : ∀ {f i : Nat}, (∀ j, i ≤ j → j < i + f → v j = v' j) → fs v x f i = fs v' x f i
  | 0, i, _ => rfl
  | f + 1, i, h => by
    unfold fs
    rw [h i (Nat.le_refl _) (by omega), fs_ext (f := f) (i := i + 1) fun j h1 h2 => h j (by omega) (by omega)]
abbrev wm (μ : mm_S) (w : Nat) : Int32 := mA μ 23 (769 * w)
abbrev wd (μ : mm_S) (w k f : Nat) : Int32 := mA μ 23 (769 * w + 1 + 64 * k + f)
theorem ix_w {x1 x2 x3 : Int32} {w k f : Nat} (h1 : x1 = nI w) (h2 : x2 = nI k) (h3 : x3 = nI f) : 769 * x1 + 1 + 64 * x2 + x3 = nI (769 * w + 1 + 64 * k + f) := by
  subst h1; subst h2; subst h3
  show nI 769 * nI w + nI 1 + nI 64 * nI k + nI f = _
  rw [pk_mul, pk_mul, nI_add, nI_add, nI_add]
section
variable {G : am_G} {ρ : mm_F} {d : Nat} {μ : mm_S}
theorem S_isIn {a b c : Int32} {Q : Int32 → mm_S → Prop} (h : (b ≤ a ∧ a ≤ c → Q 1 μ) ∧ (¬ (b ≤ a ∧ a ≤ c) → Q 0 μ)) : W_X6_isIn G ρ d a b c μ Q := by
  refine W_X6_isIn_f ⟨fun h1 => h.2 fun h2 => ?_, fun h1 => ⟨fun h2 => h.2 fun h3 => ?_, fun h2 => h.1 ⟨?_, ?_⟩⟩⟩
  · exact absurd h2.1 (Int32.not_le.mpr h1)
  · exact absurd h3.2 (Int32.not_le.mpr h2)
  · exact Int32.not_lt.mp h1
  · exact Int32.not_lt.mp h2
theorem S_many {w : Nat} {x : Int32} {Q : Int32 → mm_S → Prop} (hx : x = nI w) (hw : w < 3) (h : Q (wm μ w) μ) : W_X6_many G ρ d x μ Q := by
  have e : 769 * x = nI (769 * w) := by rw [hx]; exact pk_mul 769 w
  refine W_X6_many_f ?_
  rw [e, nI_clamp (by omega)]
  exact ⟨vp_in_nI (by omega) (by decide), h⟩
theorem S_get {w k f : Nat} {x1 x2 x3 : Int32} {Q : Int32 → mm_S → Prop} (h1 : x1 = nI w) (h2 : x2 = nI k) (h3 : x3 = nI f) (hw : w < 3) (hk : k < 12) (hf : f < 64) (h : Q (wd μ w k f) μ) : W_X6_get G ρ d x1 x2 x3 μ Q := by
  refine W_X6_get_f ?_
  rw [ix_w h1 h2 h3, nI_clamp (by omega)]
  exact ⟨vp_in_nI (by omega) (by decide), h⟩
theorem S_set {w k f : Nat} {x1 x2 x3 v : Int32} {Q : mm_S → Prop} (h1 : x1 = nI w) (h2 : x2 = nI k) (h3 : x3 = nI f) (hw : w < 3) (hk : k < 12) (hf : f < 64) (h : Q (mm_sA μ 23 (769 * w + 1 + 64 * k + f) v)) : W_X6_set G ρ d x1 x2 x3 v μ Q := by
  refine W_X6_set_f ?_
  rw [ix_w h1 h2 h3, nI_clamp (by omega)]
  exact ⟨vp_in_nI (by omega) (by decide), fun μ1 e => by rw [e]; exact h⟩
theorem S_find_l {w m : Nat} {x1 n : Int32} {Q : Int32 → mm_S → Prop} (h1 : x1 = nI w) (hw : w < 3) (hm : wm μ w = nI m) (hm12 : m ≤ 12) : ∀ (f i : Nat) {x3 : Int32}, x3 = nI i → i + f = m → Q (fs (fun k => wd μ w k 0) n f i) μ → B_X6_find_2 G ρ (d + 1) x1 n x3 μ Q
  | 0, i, x3, hx, hf, h => B_X6_find_2_f (S_many h1 hw (by
      rw [hm, hx]
      exact ⟨fun _ => h, fun c => absurd (nI_le (by omega) (by omega)) c⟩))
  | f + 1, i, x3, hx, hf, h => B_X6_find_2_f (S_many h1 hw (by
      rw [hm]
      refine ⟨fun c => absurd c (by rw [hx]; exact nI_ge (by omega) (by omega)), fun _ => S_get (f := 0) h1 hx rfl hw (by omega) (by omega) ⟨fun c => ?_, fun c => ?_⟩⟩
      · unfold fs at h
        rw [if_neg c] at h
        exact S_find_l h1 hw hm hm12 f (i + 1) (by rw [hx]; exact nI_1 i) (by omega) h
      · unfold fs at h
        rw [if_pos c] at h
        rw [hx]
        exact h))
theorem S_find {w m : Nat} {x1 n : Int32} {Q : Int32 → mm_S → Prop} (h1 : x1 = nI w) (hw : w < 3) (hm : wm μ w = nI m) (hm12 : m ≤ 12) (h : Q (fs (fun k => wd μ w k 0) n m 0) μ) : W_X6_find G ρ (d + 1) x1 n μ Q :=
  W_X6_find_f (S_find_l h1 hw hm hm12 m 0 rfl (by omega) h)
theorem S_field_l {w k m : Nat} {x1 x2 n : Int32} {Q : Int32 → mm_S → Prop} (h1 : x1 = nI w) (h2 : x2 = nI k) (hw : w < 3) (hk : k < 12) (hm : wd μ w k 5 = nI m) (hm8 : m ≤ 8) : ∀ (f i : Nat) {x3 : Int32}, x3 = nI i → i + f = m → Q (fs (fun i => wd μ w k (6 + i)) n f i) μ → B_X6_field_3 G ρ (d + 1) x1 x2 n x3 μ Q
  | 0, i, x3, hx, hf, h => B_X6_field_3_f (S_get (f := 5) h1 h2 rfl hw hk (by omega) (by
      rw [hm, hx]
      exact ⟨fun _ => h, fun c => absurd (nI_le (by omega) (by omega)) c⟩))
  | f + 1, i, x3, hx, hf, h => B_X6_field_3_f (S_get (f := 5) h1 h2 rfl hw hk (by omega) (by
      rw [hm]
      refine ⟨fun c => absurd c (by rw [hx]; exact nI_ge (by omega) (by omega)), fun _ => S_get h1 h2 (f := 6 + i) (by rw [hx]; exact nI_add 6 i) hw hk (by omega) ⟨fun c => ?_, fun c => ?_⟩⟩
      · unfold fs at h
        rw [if_neg c] at h
        exact S_field_l h1 h2 hw hk hm hm8 f (i + 1) (by rw [hx]; exact nI_1 i) (by omega) h
      · unfold fs at h
        rw [if_pos c] at h
        rw [hx]
        exact h))
theorem S_field {w k m : Nat} {x1 x2 n : Int32} {Q : Int32 → mm_S → Prop} (h1 : x1 = nI w) (h2 : x2 = nI k) (hw : w < 3) (hk : k < 12) (hm : wd μ w k 5 = nI m) (hm8 : m ≤ 8) (h : Q (fs (fun i => wd μ w k (6 + i)) n m 0) μ) : W_X6_field G ρ (d + 1) x1 x2 n μ Q :=
  W_X6_field_f (S_field_l h1 h2 hw hk hm hm8 m 0 rfl (by omega) h)
theorem S_fixedOf_l {w k m : Nat} {x1 x2 n : Int32} {Q : Int32 → mm_S → Prop} (h1 : x1 = nI w) (h2 : x2 = nI k) (hw : w < 3) (hk : k < 12) (hm : wd μ w k 30 = nI m) (hm8 : m ≤ 4) : ∀ (f i : Nat) {x3 : Int32}, x3 = nI i → i + f = m → Q (fs (fun i => wd μ w k (31 + i)) n f i) μ → B_X6_fixedOf_3 G ρ (d + 1) x1 x2 n x3 μ Q
  | 0, i, x3, hx, hf, h => B_X6_fixedOf_3_f (S_get (f := 30) h1 h2 rfl hw hk (by omega) (by
      rw [hm, hx]
      exact ⟨fun _ => h, fun c => absurd (nI_le (by omega) (by omega)) c⟩))
  | f + 1, i, x3, hx, hf, h => B_X6_fixedOf_3_f (S_get (f := 30) h1 h2 rfl hw hk (by omega) (by
      rw [hm]
      refine ⟨fun c => absurd c (by rw [hx]; exact nI_ge (by omega) (by omega)), fun _ => S_get h1 h2 (f := 31 + i) (by rw [hx]; exact nI_add 31 i) hw hk (by omega) ⟨fun c => ?_, fun c => ?_⟩⟩
      · unfold fs at h
        rw [if_neg c] at h
        exact S_fixedOf_l h1 h2 hw hk hm hm8 f (i + 1) (by rw [hx]; exact nI_1 i) (by omega) h
      · unfold fs at h
        rw [if_pos c] at h
        rw [hx]
        exact h))
theorem S_fixedOf {w k m : Nat} {x1 x2 n : Int32} {Q : Int32 → mm_S → Prop} (h1 : x1 = nI w) (h2 : x2 = nI k) (hw : w < 3) (hk : k < 12) (hm : wd μ w k 30 = nI m) (hm8 : m ≤ 4) (h : Q (fs (fun i => wd μ w k (31 + i)) n m 0) μ) : W_X6_fixedOf G ρ (d + 1) x1 x2 n μ Q :=
  W_X6_fixedOf_f (S_fixedOf_l h1 h2 hw hk hm hm8 m 0 rfl (by omega) h)
theorem S_actOf_l {w k m : Nat} {x1 x2 n : Int32} {Q : Int32 → mm_S → Prop} (h1 : x1 = nI w) (h2 : x2 = nI k) (hw : w < 3) (hk : k < 12) (hm : wd μ w k 39 = nI m) (hm8 : m ≤ 8) : ∀ (f i : Nat) {x3 : Int32}, x3 = nI i → i + f = m → Q (fs (fun i => wd μ w k (40 + i)) n f i) μ → B_X6_actOf_3 G ρ (d + 1) x1 x2 n x3 μ Q
  | 0, i, x3, hx, hf, h => B_X6_actOf_3_f (S_get (f := 39) h1 h2 rfl hw hk (by omega) (by
      rw [hm, hx]
      exact ⟨fun _ => h, fun c => absurd (nI_le (by omega) (by omega)) c⟩))
  | f + 1, i, x3, hx, hf, h => B_X6_actOf_3_f (S_get (f := 39) h1 h2 rfl hw hk (by omega) (by
      rw [hm]
      refine ⟨fun c => absurd c (by rw [hx]; exact nI_ge (by omega) (by omega)), fun _ => S_get h1 h2 (f := 40 + i) (by rw [hx]; exact nI_add 40 i) hw hk (by omega) ⟨fun c => ?_, fun c => ?_⟩⟩
      · unfold fs at h
        rw [if_neg c] at h
        exact S_actOf_l h1 h2 hw hk hm hm8 f (i + 1) (by rw [hx]; exact nI_1 i) (by omega) h
      · unfold fs at h
        rw [if_pos c] at h
        rw [hx]
        exact h))
theorem S_actOf {w k m : Nat} {x1 x2 n : Int32} {Q : Int32 → mm_S → Prop} (h1 : x1 = nI w) (h2 : x2 = nI k) (hw : w < 3) (hk : k < 12) (hm : wd μ w k 39 = nI m) (hm8 : m ≤ 8) (h : Q (fs (fun i => wd μ w k (40 + i)) n m 0) μ) : W_X6_actOf G ρ (d + 1) x1 x2 n μ Q :=
  W_X6_actOf_f (S_actOf_l h1 h2 hw hk hm hm8 m 0 rfl (by omega) h)
end
