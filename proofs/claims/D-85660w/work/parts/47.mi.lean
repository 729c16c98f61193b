set_option maxRecDepth 100000
theorem lxa_sp {T : Nat → Int32} {p : Nat} (he : ∀ p, 1000 ≤ p → T p = -1) (h : cSp (T p) = true) : lxa T p = lxa T (p + 1) := by
  have hp : p < 1000 := Nat.lt_of_not_le fun h9 => by rw [he p h9] at h; exact absurd h (by decide)
  unfold lxa
  rw [spn_fu he (by decide) 1001 1002 p (by omega) (by omega), spn_st h]
theorem lxa_no {T : Nat → Int32} {p : Nat} (h : ¬ cSp (T p) = true) : lxa T p = p := spn_no h
section
variable {G : am_G} {ρ : mm_F} {d : Nat}
theorem S_395 {T : Nat → Int32} {a : Nat} {c : Int32} {μ : mm_S} {Q : mm_S → Prop} (hT : tx μ = T) (ht : tok μ) (h2 : mI μ 2 = nI a) (ha : a ≤ 1000) (h : ∀ μ', fr [2, 3] μ μ' → mI μ' 2 = nI (if c = 61 ∧ T (a + 1) = 61 then a + 2 else a + 1) → mI μ' 3 = (if c = 61 ∧ T (a + 1) = 61 then 201 else mI μ 3) → Q μ') : B_X6_look0_395 G ρ (d + 1) c μ Q := by
  refine B_X6_look0_395_f fun μ1 e => ?_
  have hfr : fr [2, 3] μ μ1 := by rw [e]; exact fr.refl.sI (by decide)
  have e2 : mI μ1 2 = nI (a + 1) := by rw [e, mI_s, h2]; exact nI_1 _
  have e3 : mI μ1 3 = mI μ 3 := by rw [e]; exact mI_o (by decide)
  have hT1 := (hfr.txt (by decide) (by decide)).trans hT
  refine ⟨fun c1 => ?_, fun c1 => S_see e2 (hfr.tok (by decide) (by decide) ht) (by omega) ⟨fun c2 => ?_, fun c2 μ2 f2 μ3 f3 => ?_⟩⟩
  · rw [if_neg (fun h9 => c1 h9.1), if_neg (fun h9 => c1 h9.1)] at h
    exact h μ1 hfr e2 e3
  · rw [hT1] at c2
    rw [if_neg (fun h9 => c2 h9.2), if_neg (fun h9 => c2 h9.2)] at h
    exact h μ1 hfr e2 e3
  · rw [hT1] at c2
    rw [if_pos ⟨c1, c2⟩, if_pos ⟨c1, c2⟩] at h
    refine h μ3 (by rw [f3, f2]; exact (hfr.sI (by decide)).sI (by decide)) ?_ ?_
    · rw [f3, mI_s, f2, mI_o (by decide), e2]; exact nI_1 _
    · rw [f3, mI_o (by decide), f2, mI_s]
theorem S_376 {T : Nat → Int32} {a : Nat} {c : Int32} {μ : mm_S} {Q : mm_S → Prop} (hT : tx μ = T) (ht : tok μ) (h2 : mI μ 2 = nI a) (ha : a ≤ 1000) (h : ∀ μ', fr [2, 3] μ μ' → mI μ' 2 = nI (if c = 61 ∧ T (a + 1) = 61 then a + 2 else a + 1) → mI μ' 3 = (if c = 61 ∧ T (a + 1) = 61 then 201 else 200 + c) → Q μ') : B_X6_look0_376 G ρ (d + 1) c μ Q := by
  refine B_X6_look0_376_f fun μ1 e => ?_
  have hfr : fr [2, 3] μ μ1 := by rw [e]; exact fr.refl.sI (by decide)
  have e3 : mI μ1 3 = 200 + c := by rw [e]; exact mI_s
  refine S_395 ((hfr.txt (by decide) (by decide)).trans hT) (hfr.tok (by decide) (by decide) ht) (a := a) (by rw [e, mI_o (by decide)]; exact h2) ha fun μ' g1 g2 g3 => h μ' (hfr.trans g1) g2 ?_
  rw [g3, e3]
/-- the token at p, of the text T, is at hand -/
def tkn (T : Nat → Int32) (p : Nat) (μ : mm_S) : Prop := mI μ 2 = nI (lxe T p) ∧ mI μ 3 = lxt T p ∧ mI μ 4 = nI (lxa T p) ∧ (lxt T p = 3 → mI μ 5 = lxv T p) ∧ (lxt T p = 2 → mJ μ 10 = lxn T p)
theorem wtk_1 {c : Int64} : ∀ {n : Nat}, n ≤ 22 → ¬ wtk c n = 1 ∧ (wtk c n = 2 ∨ ∃ k, k < n ∧ wtk c n = 100 + nI k ∧ wcd (wds.getD k []) = c)
  | 0, _ => ⟨by show ¬ (2 : Int32) = 1; decide, Or.inl rfl⟩
  | n + 1, hn => by
    unfold wtk
    by_cases h : wcd (wds.getD n []) = c
    · rw [if_pos h]
      refine ⟨fun e => ?_, Or.inr ⟨n, by omega, rfl, h⟩⟩
      have e2 : nI (100 + n) = nI 1 := (nI_add 100 n).symm.trans e
      have := (nI_eq (by omega) (by decide)).mp e2
      omega
    · rw [if_neg h]
      obtain ⟨h1, h2⟩ := wtk_1 (c := c) (n := n) (by omega)
      exact ⟨h1, h2.imp id fun ⟨k, a, b, c⟩ => ⟨k, by omega, b, c⟩⟩
end
