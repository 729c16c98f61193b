set_option maxRecDepth 100000
/-! ===== the model's worlds: kinds and those above them ===== -/
def fld (μ : mm_S) (w k : Nat) (n : Int32) : Int32 := fs (fun i => wd μ w k (6 + i)) n (wd μ w k 5).toNatClampNeg 0
def fxd (μ : mm_S) (w k : Nat) (n : Int32) : Int32 := fs (fun i => wd μ w k (31 + i)) n (wd μ w k 30).toNatClampNeg 0
def act (μ : mm_S) (w k : Nat) (n : Int32) : Int32 := fs (fun i => wd μ w k (40 + i)) n (wd μ w k 39).toNatClampNeg 0
def fnd (μ : mm_S) (w : Nat) (n : Int32) : Int32 := fs (fun k => wd μ w k 0) n (wm μ w).toNatClampNeg 0
/-- a kind's counts -/
def kok (μ : mm_S) (w k : Nat) : Prop := (∃ a, a ≤ 8 ∧ wd μ w k 5 = nI a) ∧ (∃ b, b ≤ 4 ∧ wd μ w k 30 = nI b) ∧ ∃ c, c ≤ 8 ∧ wd μ w k 39 = nI c
/-- the way up from x ends within f steps, among m kinds -/
def cok (ab : Nat → Int32) (m : Nat) : Nat → Int32 → Prop
  | 0, x => x = -1
  | f + 1, x => x = -1 ∨ ∃ k, k < m ∧ x = nI k ∧ cok ab m f (ab k)
/-- a world -/
def wok (μ : mm_S) (w : Nat) : Prop := ∃ m, m ≤ 12 ∧ wm μ w = nI m ∧ (∀ k, k < m → kok μ w k) ∧ ∀ k, k < m → cok (fun k => wd μ w k 1) m 12 (nI k)
/-- the first from x up that is so; -1 -/
def fat (ab : Nat → Int32) (p : Nat → Bool) : Nat → Int32 → Int32
  | 0, _ => -1
  | f + 1, x => if x = -1 then -1 else if p x.toNatClampNeg = true then x else fat ab p f (ab x.toNatClampNeg)
theorem nI_m1 {k : Nat} (h : k < 2 ^ 31) : ¬ nI k = -1 := fun e => absurd (show nI k < 0 by rw [e]; decide) (nI_pos h)
theorem cok.mono {ab : Nat → Int32} {m : Nat} : ∀ {f g : Nat} {x : Int32}, f ≤ g → cok ab m f x → cok ab m g x
  | 0, 0, x, _, h => h
  | 0, g + 1, x, _, h => Or.inl h
  | f + 1, g + 1, x, hg, h => h.imp id fun ⟨k, h1, h2, h3⟩ => ⟨k, h1, h2, h3.mono (by omega)⟩
theorem fat_S {ab : Nat → Int32} {p : Nat → Bool} {f k : Nat} (h : k < 2 ^ 31) : fat ab p (f + 1) (nI k) = if p k = true then nI k else fat ab p f (ab k) := by
  rw [fat, if_neg (nI_m1 h), nI_clamp h]
theorem fat_N {ab : Nat → Int32} {p : Nat → Bool} {f : Nat} : fat ab p f (-1) = -1 := by
  cases f with
  | zero => rfl
  | succ f => rw [fat, if_pos rfl]
section
variable {G : am_G} {ρ : mm_F} {d : Nat} {μ : mm_S}
theorem S_fld {w k : Nat} {x1 x2 n : Int32} {Q : Int32 → mm_S → Prop} (h1 : x1 = nI w) (h2 : x2 = nI k) (hw : w < 3) (hk : k < 12) (hm : kok μ w k) (h : Q (fld μ w k n) μ) : W_X6_field G ρ (d + 1) x1 x2 n μ Q := by
  obtain ⟨⟨a, ha, e⟩, -, -⟩ := hm
  refine S_field h1 h2 hw hk e ha ?_
  unfold fld at h
  rw [e, nI_clamp (by omega)] at h
  exact h
theorem S_fxd {w k : Nat} {x1 x2 n : Int32} {Q : Int32 → mm_S → Prop} (h1 : x1 = nI w) (h2 : x2 = nI k) (hw : w < 3) (hk : k < 12) (hm : kok μ w k) (h : Q (fxd μ w k n) μ) : W_X6_fixedOf G ρ (d + 1) x1 x2 n μ Q := by
  obtain ⟨-, ⟨a, ha, e⟩, -⟩ := hm
  refine S_fixedOf h1 h2 hw hk e ha ?_
  unfold fxd at h
  rw [e, nI_clamp (by omega)] at h
  exact h
theorem S_act {w k : Nat} {x1 x2 n : Int32} {Q : Int32 → mm_S → Prop} (h1 : x1 = nI w) (h2 : x2 = nI k) (hw : w < 3) (hk : k < 12) (hm : kok μ w k) (h : Q (act μ w k n) μ) : W_X6_actOf G ρ (d + 1) x1 x2 n μ Q := by
  obtain ⟨-, -, ⟨a, ha, e⟩⟩ := hm
  refine S_actOf h1 h2 hw hk e ha ?_
  unfold act at h
  rw [e, nI_clamp (by omega)] at h
  exact h
theorem S_fnd {w : Nat} {x1 n : Int32} {Q : Int32 → mm_S → Prop} (h1 : x1 = nI w) (hw : w < 3) (hm : wok μ w) (h : Q (fnd μ w n) μ) : W_X6_find G ρ (d + 1) x1 n μ Q := by
  obtain ⟨m, hm12, e, -⟩ := hm
  refine S_find h1 hw e hm12 ?_
  unfold fnd at h
  rw [e, nI_clamp (by omega)] at h
  exact h
/-- whether a kind has an own field or static of a name -/
def own (μ : mm_S) (w k : Nat) (n : Int32) : Bool := fld μ w k n != -1 || fxd μ w k n != -1
theorem S_hasOwn {w k : Nat} {x1 x2 n : Int32} {Q : Int32 → mm_S → Prop} (h1 : x1 = nI w) (h2 : x2 = nI k) (hw : w < 3) (hk : k < 12) (hm : kok μ w k) (h : Q (if own μ w k n = true then 1 else 0) μ) : W_X6_hasOwn G ρ (d + 2) x1 x2 n μ Q := by
  unfold own at h
  refine W_X6_hasOwn_f (S_fld h1 h2 hw hk hm ⟨fun c => ?_, fun c => S_fxd h1 h2 hw hk hm ⟨fun c2 => ?_, fun c2 => ?_⟩⟩)
  · rw [if_pos (by simp [c])] at h; exact h
  · rw [if_neg (by simp [c, c2])] at h; exact h
  · rw [if_pos (by simp [c2])] at h; exact h
theorem S_fieldAt_l {w m : Nat} {x1 n : Int32} {Q : Int32 → mm_S → Prop} (h1 : x1 = nI w) (hw : w < 3) (hm12 : m ≤ 12) (hk : ∀ k, k < m → kok μ w k) : ∀ (f : Nat) {x : Int32}, cok (fun k => wd μ w k 1) m f x → Q (fat (fun k => wd μ w k 1) (fun k => fld μ w k n != -1) f x) μ → B_X6_fieldAt_3 G ρ (d + 2) x1 n x μ Q
  | 0, x, hc, h => B_X6_fieldAt_3_f (by
      have hc : x = -1 := hc
      subst hc
      exact ⟨fun _ => h, fun c => absurd rfl c⟩)
  | f + 1, x, hc, h => B_X6_fieldAt_3_f (by
      rcases hc with rfl | ⟨k, hkm, rfl, hc⟩
      · rw [fat_N] at h
        exact ⟨fun _ => h, fun c => absurd rfl c⟩
      · rw [fat_S (by omega)] at h
        refine ⟨fun c => absurd c (nI_m1 (by omega)), fun _ => S_fld h1 rfl hw (by omega) (hk k hkm) ⟨fun c => ?_, fun c => S_get (f := 1) h1 rfl rfl hw (by omega) (by omega) ?_⟩⟩
        · rw [if_pos (by simp [c])] at h; exact h
        · rw [if_neg (by simp [c])] at h
          exact S_fieldAt_l h1 hw hm12 hk f hc h)
theorem S_fieldAt {w : Nat} {x1 x2 n : Int32} {Q : Int32 → mm_S → Prop} (h1 : x1 = nI w) (hw : w < 3) (hok : wok μ w) (hx : x2 = -1 ∨ ∃ k, x2 = nI k ∧ nI k < wm μ w ∧ k < 12) (h : Q (fat (fun k => wd μ w k 1) (fun k => fld μ w k n != -1) 12 x2) μ) : W_X6_fieldAt G ρ (d + 2) x1 x2 n μ Q := by
  obtain ⟨m, hm12, e, hk, hc⟩ := hok
  refine W_X6_fieldAt_f (S_fieldAt_l h1 hw hm12 hk 12 ?_ h)
  rcases hx with rfl | ⟨k, rfl, h2, h3⟩
  · exact Or.inl rfl
  · refine hc k ?_
    rw [e] at h2
    exact (nI_ltI (by omega) (by omega)).mp h2
theorem S_fixedAt_l {w m : Nat} {x1 n : Int32} {Q : Int32 → mm_S → Prop} (h1 : x1 = nI w) (hw : w < 3) (hm12 : m ≤ 12) (hk : ∀ k, k < m → kok μ w k) : ∀ (f : Nat) {x : Int32}, cok (fun k => wd μ w k 1) m f x → Q (fat (fun k => wd μ w k 1) (fun k => fxd μ w k n != -1) f x) μ → B_X6_fixedAt_3 G ρ (d + 2) x1 n x μ Q
  | 0, x, hc, h => B_X6_fixedAt_3_f (by
      have hc : x = -1 := hc
      subst hc
      exact ⟨fun _ => h, fun c => absurd rfl c⟩)
  | f + 1, x, hc, h => B_X6_fixedAt_3_f (by
      rcases hc with rfl | ⟨k, hkm, rfl, hc⟩
      · rw [fat_N] at h
        exact ⟨fun _ => h, fun c => absurd rfl c⟩
      · rw [fat_S (by omega)] at h
        refine ⟨fun c => absurd c (nI_m1 (by omega)), fun _ => S_fxd h1 rfl hw (by omega) (hk k hkm) ⟨fun c => ?_, fun c => S_get (f := 1) h1 rfl rfl hw (by omega) (by omega) ?_⟩⟩
        · rw [if_pos (by simp [c])] at h; exact h
        · rw [if_neg (by simp [c])] at h
          exact S_fixedAt_l h1 hw hm12 hk f hc h)
theorem S_fixedAt {w : Nat} {x1 x2 n : Int32} {Q : Int32 → mm_S → Prop} (h1 : x1 = nI w) (hw : w < 3) (hok : wok μ w) (hx : x2 = -1 ∨ ∃ k, x2 = nI k ∧ nI k < wm μ w ∧ k < 12) (h : Q (fat (fun k => wd μ w k 1) (fun k => fxd μ w k n != -1) 12 x2) μ) : W_X6_fixedAt G ρ (d + 2) x1 x2 n μ Q := by
  obtain ⟨m, hm12, e, hk, hc⟩ := hok
  refine W_X6_fixedAt_f (S_fixedAt_l h1 hw hm12 hk 12 ?_ h)
  rcases hx with rfl | ⟨k, rfl, h2, h3⟩
  · exact Or.inl rfl
  · refine hc k ?_
    rw [e] at h2
    exact (nI_ltI (by omega) (by omega)).mp h2
theorem S_isAbove_l {w m : Nat} {x1 n : Int32} {Q : Int32 → mm_S → Prop} (h1 : x1 = nI w) (hw : w < 3) (hm12 : m ≤ 12) (hk : ∀ k, k < m → kok μ w k) : ∀ (f : Nat) {x : Int32}, cok (fun k => wd μ w k 1) m f x → Q (if fat (fun k => wd μ w k 1) (fun k => own μ w k n) f x = -1 then 0 else 1) μ → B_X6_isAbove_9 G ρ (d + 3) x1 n x μ Q
  | 0, x, hc, h => B_X6_isAbove_9_f (by
      have hc : x = -1 := hc
      subst hc
      exact ⟨fun _ => by rw [if_pos fat_N] at h; exact h, fun c => absurd rfl c⟩)
  | f + 1, x, hc, h => B_X6_isAbove_9_f (by
      rcases hc with rfl | ⟨k, hkm, rfl, hc⟩
      · rw [fat_N, if_pos rfl] at h
        exact ⟨fun _ => h, fun c => absurd rfl c⟩
      · rw [fat_S (by omega)] at h
        refine ⟨fun c => absurd c (nI_m1 (by omega)), fun _ => S_hasOwn h1 rfl hw (by omega) (hk k hkm) ⟨fun c => S_get (f := 1) h1 rfl rfl hw (by omega) (by omega) ?_, fun c => ?_⟩⟩
        · by_cases ho : own μ w k n = true
          · rw [if_pos ho] at c; exact absurd c (by decide)
          · rw [if_neg ho] at h
            exact S_isAbove_l h1 hw hm12 hk f hc h
        · by_cases ho : own μ w k n = true
          · rw [if_pos ho, if_neg (nI_m1 (by omega))] at h; exact h
          · rw [if_neg ho] at c; exact absurd rfl c)
end
