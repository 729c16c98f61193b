set_option maxRecDepth 100000
/-- what is asked behind a whole run of the model -/
def RmQ (C : Ctx) (μ : mm_S) (Q : Int32 → mm_S → Prop) (R : RO) : Prop := match R with
  | ((0, _, _), _, s') => ∀ μ', MR C s' μ' → fr rks μ μ' → (∀ q, 769 ≤ q → mA μ' 23 q = mA μ 23 q) → mI μ' 54 = 0 → mI μ' 42 = 0 → Q 0 μ'
  | ((1, x, _), _, s') => ∀ μ', MR C s' μ' → fr rks μ μ' → (∀ q, 769 ≤ q → mA μ' 23 q = mA μ 23 q) → mI μ' 54 = 0 → mI μ' 42 = 0 → mI μ' 40 = x → Q 1 μ'
  | ((2, q, _), _, s') => ∀ μ', MR C s' μ' → fr rks μ μ' → (∀ q, 769 ≤ q → mA μ' 23 q = mA μ 23 q) → mI μ' 54 = 0 → mI μ' 42 = 0 → mI μ' 39 = q → Q 2 μ'
  | ((3, _, _), _, s') => ∀ μ', MR C s' μ' → fr rks μ μ' → (∀ q, 769 ≤ q → mA μ' 23 q = mA μ 23 q) → mI μ' 54 = 0 → mI μ' 42 = 1 → Q 2 μ'
  | _ => True
section
variable {G : am_G} {ρ : mm_F} {C : Ctx} {s : RSt} {d : Nat} {μ : mm_S}
/-- an open act in frame 0 is gone through -/
theorem M_run0 (H : MR C s μ) (hg : s.1 ≤ 500) {c : Nat} {n v : Int32} {t : Term × Int32 × Int32} {l : List (Term × Int32 × Int32)} (hc : c < cN C) (hl : cL C c = true) (hF : FM μ 0 c v 0) (h47 : mA μ 47 0 = 0) (hA : FA μ 0 n (t :: l)) (h54 : mI μ 54 = 0) (h42 : mI μ 42 = 0) (hd : 1300 ≤ d) {Q : Int32 → mm_S → Prop} (hQ : RmQ C μ Q (go C 500 false 0 c n l v 0 t.1 s)) : W_X6_goes G ρ d (mA μ 49 0) 0 0 μ Q := by
  obtain ⟨x1, x2, x3, x4⟩ := hA
  have hA : FA μ 0 n (t :: l) := ⟨x1, x2, x3, x4⟩
  obtain ⟨⟨txt, m, y, b1, b2, b3, b4⟩, c2, c3, c4⟩ := x4 0 t rfl
  obtain ⟨d', rfl⟩ : ∃ d', d = d' + 1 := ⟨d - 1, by omega⟩
  have b4' : mA μ 49 0 = gI txt y := b4
  rw [b4']
  refine W_X6_goes_f ?_
  refine M_go 500 false 0 c n l v 0 t.1 s μ txt y (t :: l) 0 (d' + 1) 12 t Q H hg hc hl hF hA h47 rfl rfl (Nat.zero_le _) h54 h42 b1 (isB.up _ _ _ _ b2 b3) c4 (Nat.le_refl _) (by omega) ?_
  have h4 := go_no4 (C := C) 500 0 c n l v 0 t.1 s
  revert hQ h4
  generalize go C 500 false 0 c n l v 0 t.1 s = R
  intro hQ h4
  obtain ⟨⟨q, x, b⟩, lx, s'⟩ := R
  match q, hQ, h4 with
  | 0, hQ, _ => exact fun μ' a1 a2 a3 a4 a5 => hQ μ' a1 a2.1 a2.2.1 a4 a5
  | 1, hQ, _ => exact fun μ' a1 a2 a3 a4 a5 a6 => hQ μ' a1 a2.1 a2.2.1 a4 a5 a6
  | 2, hQ, _ => exact fun μ' a1 a2 a3 a4 a5 => hQ μ' a1 a2.1 a2.2.1 a3 a4 a5
  | 3, hQ, _ => exact fun μ' a1 a2 a3 a4 => hQ μ' a1 a2.1 a2.2.1 a3 a4
  | 4, _, h4 => exact absurd rfl h4
  | _ + 5, _, _ => exact trivial
end
