set_option maxRecDepth 100000
theorem goB_no4 {last : Int32} {k : Int32 → RSt → RO} {r : RO} (hr : r.1.1 ≠ 4) (hk : ∀ x s, (k x s).1.1 ≠ 4) : (goB last k r).1.1 ≠ 4 := by
  obtain ⟨⟨o, x, b⟩, l, s⟩ := r
  unfold goB
  split
  · exact hk _ _
  · exact hk _ _
  · rename_i h
    cases h
    exact hr
theorem goI_no4 {k : Int32 → RSt → RO} {r : RO} (hr : r.1.1 ≠ 4) (hk : ∀ x s, (k x s).1.1 ≠ 4) : (goI k r).1.1 ≠ 4 := by
  obtain ⟨⟨o, x, b⟩, l, s⟩ := r
  unfold goI
  split
  · exact hk _ _
  · exact hr
theorem go_no4 {C : Ctx} : ∀ (g d c : Nat) (n : Int32) (ab : List (Term × Int32 × Int32)) (v last : Int32) (b : Term) (s : RSt), (go C g false d c n ab v last b s).1.1 ≠ 4 := fun g => by
  induction g with
  | zero =>
    intro d c n ab v last b s
    cases b <;> first | (show (0 : Nat) ≠ 4; decide) | (show (3 : Nat) ≠ 4; decide)
  | succ g ih =>
    intro d c n ab v last b s
    cases b with
    | thrown => rw [go_end]; show (0 : Nat) ≠ 4; decide
    | add st b =>
      by_cases h : s.1 = 0
      · rw [go_sp h]; show (3 : Nat) ≠ 4; decide
      · unfold go
        rw [if_neg h]
        dsimp only
        split
        all_goals (repeat' split)
        all_goals first
          | (show (0 : Nat) ≠ 4; decide)
          | (show (1 : Nat) ≠ 4; decide)
          | (show (2 : Nat) ≠ 4; decide)
          | exact ih _ _ _ _ _ _ _ _
          | exact goB_no4 (ih _ _ _ _ _ _ _ _) (fun _ _ => ih _ _ _ _ _ _ _ _)
          | exact goI_no4 (ih _ _ _ _ _ _ _ _) (fun _ _ => ih _ _ _ _ _ _ _ _)
          | (exfalso; simp at *)
    | _ => show (2 : Nat) ≠ 4; decide
/-- fuel only goes down -/
theorem go_fuel {C : Ctx} : ∀ (g : Nat) (lg : Bool) (d c : Nat) (n : Int32) (ab : List (Term × Int32 × Int32)) (v last : Int32) (b : Term) (s : RSt), (go C g lg d c n ab v last b s).2.2.1 ≤ s.1 := fun g => by
  induction g with
  | zero =>
    intro lg d c n ab v last b s
    cases b <;> exact Nat.le_refl _
  | succ g ih =>
    intro lg d c n ab v last b s
    cases b with
    | thrown => rw [go_end]; exact Nat.le_refl _
    | add st b =>
      by_cases h : s.1 = 0
      · rw [go_sp h]; exact Nat.le_refl _
      · have hp : (pay s).1 ≤ s.1 := Nat.sub_le _ _
        have hn : ∀ c n t, (noteR C (pay s) c n t).1 ≤ s.1 := fun c n t => by rw [noteR_fuel]; exact hp
        have hw : ∀ c n v s2, wrv C (pay s) c n v = some s2 → s2.1 ≤ s.1 := fun c n v s2 h9 => by rw [wrv_fuel h9]; exact hp
        unfold go
        rw [if_neg h]
        dsimp only
        split
        all_goals (repeat' split)
        all_goals first
          | exact hp
          | exact Nat.le_trans (ih _ _ _ _ _ _ _ _ _) hp
          | exact goB_fuel (Nat.le_trans (ih _ _ _ _ _ _ _ _ _) (hn _ _ _)) (fun _ _ hs => Nat.le_trans (ih _ _ _ _ _ _ _ _ _) hs)
          | exact goI_fuel (Nat.le_trans (ih _ _ _ _ _ _ _ _ _) hp) (fun _ _ hs => Nat.le_trans (ih _ _ _ _ _ _ _ _ _) hs)
          | (rename_i h9; exact Nat.le_trans (ih _ _ _ _ _ _ _ _ _) (hw _ _ _ _ h9))
    | _ => exact Nat.le_refl _
