set_option maxRecDepth 100000
/-! ===== the model (PondHouseModel) as numbers and rows of numbers (mm_) ===== -/
/-- of each field: 0 an int, 5 a boolean, 1 a long, 2 a row of ints, 3 of booleans, 4 of longs -/
def mm_kd : List Nat := [2, 0, 0, 0, 0, 0, 4, 0, 4, 5, 1, 0, 0, 0, 0, 2, 0, 0, 0, 0, 0, 0, 0, 2, 0, 0, 0, 0, 0, 0, 0, 2, 2, 0, 3, 2, 2, 2, 3, 0, 0, 0, 5, 2, 2, 2, 2, 2, 2, 2, 2, 2, 0, 2, 0, 0, 0, 0, 0, 0, 5, 2, 2, 2, 2, 2, 0, 3, 3, 3, 2, 2, 2, 2, 2, 2, 2, 2, 2, 2, 2, 2, 0, 0, 0, 2, 2, 2, 3, 3, 2, 2, 2, 2, 2]
/-- its place among the rows, from 1 on -/
def mm_or : List Nat := [1, 0, 0, 0, 0, 0, 2, 0, 3, 0, 0, 0, 0, 0, 0, 4, 0, 0, 0, 0, 0, 0, 0, 5, 0, 0, 0, 0, 0, 0, 0, 6, 7, 0, 8, 9, 10, 11, 12, 0, 0, 0, 0, 13, 14, 15, 16, 17, 18, 19, 20, 21, 0, 22, 0, 0, 0, 0, 0, 0, 0, 23, 24, 25, 26, 27, 0, 28, 29, 30, 31, 32, 33, 34, 35, 36, 37, 38, 39, 40, 41, 42, 0, 0, 0, 43, 44, 45, 46, 47, 48, 49, 50, 51, 52]
/-- its length -/
def mm_ln : List Nat := [1000, 0, 0, 0, 0, 0, 40, 0, 22, 0, 0, 0, 0, 0, 0, 48000, 0, 0, 0, 0, 0, 0, 0, 2307, 0, 0, 0, 0, 0, 0, 0, 6, 6, 0, 40, 40, 1600, 1600, 1600, 0, 0, 0, 0, 21, 21, 21, 21, 21, 21, 252, 252, 252, 0, 1200, 0, 0, 0, 0, 0, 0, 0, 40, 50, 50, 50, 50, 0, 10, 10, 10, 10, 10, 10, 10, 10, 10, 10, 10, 10, 120, 120, 120, 0, 0, 0, 1600, 1600, 1600, 1600, 1600, 40, 40, 40, 40, 769]
/-- the field of a row -/
def mm_fo : List Nat := [95, 0, 6, 8, 15, 23, 31, 32, 34, 35, 36, 37, 38, 43, 44, 45, 46, 47, 48, 49, 50, 51, 53, 61, 62, 63, 64, 65, 67, 68, 69, 70, 71, 72, 73, 74, 75, 76, 77, 78, 79, 80, 81, 85, 86, 87, 88, 89, 90, 91, 92, 93, 94]
/-- ints, longs, rows of ints, rows of longs: by fields -/
abbrev mm_S : Type := (Nat → Int32) × (Nat → Int64) × (Nat → Nat → Int32) × (Nat → Nat → Int64)
/-- where the model lies, what lies beside it, the next address, the slots in use -/
abbrev mm_F : Type := Nat × am_H × Nat × Nat
abbrev mI (μ : mm_S) (k : Nat) : Int32 := μ.1 k
abbrev mJ (μ : mm_S) (k : Nat) : Int64 := μ.2.1 k
abbrev mA (μ : mm_S) (k i : Nat) : Int32 := μ.2.2.1 k i
abbrev mB (μ : mm_S) (k i : Nat) : Int64 := μ.2.2.2 k i
def mm_sI (μ : mm_S) (k : Nat) (x : Int32) : mm_S := (fun j => if j = k then x else μ.1 j, μ.2)
def mm_sJ (μ : mm_S) (k : Nat) (x : Int64) : mm_S := (μ.1, fun j => if j = k then x else μ.2.1 j, μ.2.2)
def mm_sA (μ : mm_S) (k i : Nat) (x : Int32) : mm_S := (μ.1, μ.2.1, fun j => if j = k then upd (μ.2.2.1 k) i x else μ.2.2.1 j, μ.2.2.2)
def mm_sB (μ : mm_S) (k i : Nat) (x : Int64) : mm_S := (μ.1, μ.2.1, μ.2.2.1, fun j => if j = k then vp_updL (μ.2.2.2 k) i x else μ.2.2.2 j)
def mm_fv (ρ : mm_F) (μ : mm_S) (k d : Nat) : Value := match d with
  | 0 => .int (μ.1 k)
  | 5 => .int (μ.1 k)
  | 1 => .long (μ.2.1 k)
  | _ => .ref (ρ.1 + mm_or.getD k 0)
def mm_f (ρ : mm_F) (μ : mm_S) (k : Nat) : Value := mm_fv ρ μ k (mm_kd.getD k 0)
def mm_av (μ : mm_S) (k d : Nat) : am_E := match d with
  | 4 => .inl (4, mm_ln.getD k 0, .inr (.inl (μ.2.2.2 k)))
  | 3 => .inl (3, mm_ln.getD k 0, .inl (μ.2.2.1 k))
  | _ => .inl (0, mm_ln.getD k 0, .inl (μ.2.2.1 k))
def mm_arr (μ : mm_S) (j : Nat) : am_E := mm_av μ (mm_fo.getD j 95) (mm_kd.getD (mm_fo.getD j 95) 0)
def mm_h (ρ : mm_F) (μ : mm_S) : am_H := fun q => if q = ρ.1 then some (.inr (6, mm_f ρ μ)) else if ρ.1 < q ∧ q ≤ ρ.1 + 52 then some (mm_arr μ (q - ρ.1)) else ρ.2.1 q
def mm_s (ρ : mm_F) (μ : mm_S) : am_S := (mm_h ρ μ, ρ.2.2)
def mm_qi (ρ : mm_F) (Q : Int32 → mm_S → Prop) : am_R → am_S → Prop := fun r σ => ∃ v μ', r = .inl (some (.int v)) ∧ σ = mm_s ρ μ' ∧ Q v μ'
def mm_ql (ρ : mm_F) (Q : Int64 → mm_S → Prop) : am_R → am_S → Prop := fun r σ => ∃ v μ', r = .inl (some (.long v)) ∧ σ = mm_s ρ μ' ∧ Q v μ'
def mm_qv (ρ : mm_F) (Q : mm_S → Prop) : am_R → am_S → Prop := fun r σ => ∃ μ', r = .inl none ∧ σ = mm_s ρ μ' ∧ Q μ'
theorem mm_at (ρ : mm_F) (μ : mm_S) : (mm_s ρ μ).1 ρ.1 = some (.inr (6, mm_f ρ μ)) := by simp [mm_s, mm_h]
theorem mm_atA (ρ : mm_F) (μ : mm_S) (j : Nat) (h1 : 0 < j) (h2 : j ≤ 52) : (mm_s ρ μ).1 (ρ.1 + j) = some (mm_arr μ j) := by
  unfold mm_s mm_h
  dsimp only
  rw [if_neg (by omega), if_pos (by omega), Nat.add_sub_cancel_left]
theorem mm_tab1 : ∀ j, j < 52 + 1 → 0 < j → mm_or.getD (mm_fo.getD j 95) 0 = j ∧ mm_fo.getD j 95 < 95 := by decide +kernel
theorem mm_upI (ρ : mm_F) (μ : mm_S) (k : Nat) (x : Int32) (hk : mm_kd.getD k 9 = 0 ∨ mm_kd.getD k 9 = 5) (hk9 : k < 95) : am_up (mm_s ρ μ) ρ.1 (.inr (6, updV (mm_f ρ μ) k (.int x))) = mm_s ρ (mm_sI μ k x) := by
  have hlen : mm_kd.length = 95 := rfl
  have hk0 : mm_kd.getD k 0 = 0 ∨ mm_kd.getD k 0 = 5 := by
    simp only [List.getD_eq_getElem?_getD] at hk ⊢
    rw [List.getElem?_eq_getElem (by omega)] at hk ⊢
    exact hk
  unfold am_up mm_s
  congr 1
  funext q
  unfold mm_h
  by_cases h : q = ρ.1
  · simp only [h, if_true]
    congr 3
    funext j
    unfold updV mm_f mm_sI
    by_cases hj : j = k
    · subst hj
      simp only [if_true]
      rcases hk0 with e | e <;> rw [e] <;> simp [mm_fv]
    · simp only [if_neg hj]
      unfold mm_fv
      split <;> simp [hj]
  · simp only [if_neg h]
    rfl
theorem mm_upJ (ρ : mm_F) (μ : mm_S) (k : Nat) (x : Int64) (hk : mm_kd.getD k 0 = 1) : am_up (mm_s ρ μ) ρ.1 (.inr (6, updV (mm_f ρ μ) k (.long x))) = mm_s ρ (mm_sJ μ k x) := by
  unfold am_up mm_s
  congr 1
  funext q
  unfold mm_h
  by_cases h : q = ρ.1
  · simp only [h, if_true]
    congr 3
    funext j
    unfold updV mm_f mm_sJ
    by_cases hj : j = k
    · subst hj
      simp only [if_true]
      rw [hk]; simp [mm_fv]
    · simp only [if_neg hj]
      unfold mm_fv
      split <;> simp [hj]
  · simp only [if_neg h]
    rfl
theorem mm_upA (ρ : mm_F) (μ : mm_S) (k j t i : Nat) (x : Int32) (hj : mm_fo.getD j 95 = k) (h1 : 0 < j) (h2 : j < 52 + 1) (hk : (mm_kd.getD k 0 = 2 ∧ t = 0) ∨ (mm_kd.getD k 0 = 3 ∧ t = 3)) : am_up (mm_s ρ μ) (ρ.1 + j) (.inl (t, mm_ln.getD k 0, .inl (upd (μ.2.2.1 k) i x))) = mm_s ρ (mm_sA μ k i x) := by
  unfold am_up mm_s
  congr 1
  funext q
  unfold mm_h
  dsimp only
  have hf : mm_f ρ μ = mm_f ρ (mm_sA μ k i x) := rfl
  by_cases h : q = ρ.1 + j
  · rw [if_pos h, if_neg (by omega), if_pos (by omega), h, Nat.add_sub_cancel_left]
    unfold mm_arr
    rw [hj]
    rcases hk with ⟨e1, e2⟩ | ⟨e1, e2⟩ <;> subst e2 <;> rw [e1] <;> simp [mm_av, mm_sA]
  · rw [if_neg h]
    by_cases h3 : q = ρ.1
    · rw [if_pos h3, if_pos h3]
      rfl
    · rw [if_neg h3, if_neg h3]
      by_cases h4 : ρ.1 < q ∧ q ≤ ρ.1 + 52
      · rw [if_pos h4, if_pos h4]
        have hq1 := mm_tab1 (q - ρ.1) (by omega) (by omega)
        have hq2 := mm_tab1 j h2 h1
        have hne : mm_fo.getD (q - ρ.1) 95 ≠ k := by
          intro e
          rw [e, ← hj, hq2.1] at hq1
          omega
        unfold mm_arr mm_av mm_sA
        simp only [if_neg hne]
      · rw [if_neg h4, if_neg h4]
theorem mm_upB (ρ : mm_F) (μ : mm_S) (k j i : Nat) (x : Int64) (hj : mm_fo.getD j 95 = k) (h1 : 0 < j) (h2 : j < 52 + 1) (hk : mm_kd.getD k 0 = 4) : am_up (mm_s ρ μ) (ρ.1 + j) (.inl (4, mm_ln.getD k 0, .inr (.inl (vp_updL (μ.2.2.2 k) i x)))) = mm_s ρ (mm_sB μ k i x) := by
  unfold am_up mm_s
  congr 1
  funext q
  unfold mm_h
  dsimp only
  by_cases h : q = ρ.1 + j
  · rw [if_pos h, if_neg (by omega), if_pos (by omega), h, Nat.add_sub_cancel_left]
    unfold mm_arr
    rw [hj, hk]
    simp [mm_av, mm_sB]
  · rw [if_neg h]
    by_cases h3 : q = ρ.1
    · rw [if_pos h3, if_pos h3]
      rfl
    · rw [if_neg h3, if_neg h3]
      by_cases h4 : ρ.1 < q ∧ q ≤ ρ.1 + 52
      · rw [if_pos h4, if_pos h4]
        have hq1 := mm_tab1 (q - ρ.1) (by omega) (by omega)
        have hq2 := mm_tab1 j h2 h1
        have hne : mm_fo.getD (q - ρ.1) 95 ≠ k := by
          intro e
          rw [e, ← hj, hq2.1] at hq1
          omega
        unfold mm_arr mm_av mm_sB
        simp only [if_neg hne]
      · rw [if_neg h4, if_neg h4]
section
variable {G : am_G} {M : am_M} {pc d : Nat} {L : List (Nat × Value)} {rest : List Value} {ρ : mm_F} {μ : mm_S} {Q : am_R → am_S → Prop}
theorem mm_gI {index k : Nat} (hM : M.1.cls = RX6) (hk : mm_kd.getD k 0 = 0 ∨ mm_kd.getD k 0 = 5) (hk9 : k < 95) (hlink : Cond.fieldLink RX6 index (TX6 k).1 (TX6 k).2.1 (TX6 k).2.2.1 ∈ lw_all) (hdg : decode M.2.1 pc = .ok (.getfield index, 3)) (kk : am_Wp G M (pc + 3) d L (.int (mI μ k) :: rest) (mm_s ρ μ) Q) : am_Wp G M pc d L (va_rf (some ρ.1) :: rest) (mm_s ρ μ) Q := by
  refine am_getfield inf_X6 k hk9 (by rw [hM]; exact hlink) (Or.inl rfl) hdg (mm_at ρ μ) ?_
  have e : mm_f ρ μ k = .int (mI μ k) := by
    unfold mm_f
    rcases hk with h | h <;> rw [h] <;> rfl
  rw [e]
  exact kk
theorem mm_gJ {index k : Nat} (hM : M.1.cls = RX6) (hk : mm_kd.getD k 0 = 1) (hk9 : k < 95) (hlink : Cond.fieldLink RX6 index (TX6 k).1 (TX6 k).2.1 (TX6 k).2.2.1 ∈ lw_all) (hdg : decode M.2.1 pc = .ok (.getfield index, 3)) (kk : am_Wp G M (pc + 3) d L (.long (mJ μ k) :: rest) (mm_s ρ μ) Q) : am_Wp G M pc d L (va_rf (some ρ.1) :: rest) (mm_s ρ μ) Q := by
  refine am_getfield inf_X6 k hk9 (by rw [hM]; exact hlink) (Or.inl rfl) hdg (mm_at ρ μ) ?_
  have e : mm_f ρ μ k = .long (mJ μ k) := by
    unfold mm_f
    rw [hk]; rfl
  rw [e]
  exact kk
/-- a row's reference -/
def mm_r (ρ : mm_F) (k : Nat) : Option Nat := some (ρ.1 + mm_or.getD k 0)
def mm_isA (k : Nat) : Prop := (mm_kd.getD k 0 = 2 ∨ mm_kd.getD k 0 = 3 ∨ mm_kd.getD k 0 = 4) ∧ k < 95 ∧ mm_fo.getD (mm_or.getD k 0) 95 = k ∧ 0 < mm_or.getD k 0 ∧ mm_or.getD k 0 < 52 + 1
theorem mm_gA {index k : Nat} (hM : M.1.cls = RX6) (hk : mm_isA k) (hlink : Cond.fieldLink RX6 index (TX6 k).1 (TX6 k).2.1 (TX6 k).2.2.1 ∈ lw_all) (hdg : decode M.2.1 pc = .ok (.getfield index, 3)) (kk : am_Wp G M (pc + 3) d L (va_rf (mm_r ρ k) :: rest) (mm_s ρ μ) Q) : am_Wp G M pc d L (va_rf (some ρ.1) :: rest) (mm_s ρ μ) Q := by
  refine am_getfield inf_X6 k hk.2.1 (by rw [hM]; exact hlink) (Or.inl rfl) hdg (mm_at ρ μ) ?_
  have e : mm_f ρ μ k = va_rf (mm_r ρ k) := by
    unfold mm_f
    rcases hk.1 with h | h | h <;> rw [h] <;> rfl
  rw [e]
  exact kk
theorem mm_pI {index k : Nat} {x : Int32} (hM : M.1.cls = RX6) (hk : mm_kd.getD k 9 = 0) (hty : tyX6 k = .int) (hk9 : k < 95) (hlink : Cond.fieldLink RX6 index (TX6 k).1 (TX6 k).2.1 (TX6 k).2.2.1 ∈ lw_all) (hfin : (TX6 k).2.2.2 = false) (hdg : decode M.2.1 pc = .ok (.putfield index, 3)) (kk : am_Wp G M (pc + 3) d L rest (mm_s ρ (mm_sI μ k x)) Q) : am_Wp G M pc d L (.int x :: va_rf (some ρ.1) :: rest) (mm_s ρ μ) Q := by
  refine am_putfield inf_X6 k hk9 (by rw [hM]; exact hlink) rfl hfin (by rw [hty]; rfl) (by rw [hty]; rfl) hdg (mm_at ρ μ) ?_
  rw [mm_upI ρ μ k x (Or.inl hk) hk9]
  exact kk
theorem mm_pZ {index k : Nat} {x : Int32} (hM : M.1.cls = RX6) (hk : mm_kd.getD k 9 = 5) (hty : tyX6 k = .boolean) (hk9 : k < 95) (hlink : Cond.fieldLink RX6 index (TX6 k).1 (TX6 k).2.1 (TX6 k).2.2.1 ∈ lw_all) (hfin : (TX6 k).2.2.2 = false) (hx : x = 0 ∨ x = 1) (hdg : decode M.2.1 pc = .ok (.putfield index, 3)) (kk : am_Wp G M (pc + 3) d L rest (mm_s ρ (mm_sI μ k x)) Q) : am_Wp G M pc d L (.int x :: va_rf (some ρ.1) :: rest) (mm_s ρ μ) Q := by
  refine am_putfield inf_X6 k hk9 (by rw [hM]; exact hlink) rfl hfin (by rw [hty]; rcases hx with rfl | rfl <;> rfl) (by rw [hty]; rcases hx with rfl | rfl <;> rfl) hdg (mm_at ρ μ) ?_
  rw [mm_upI ρ μ k x (Or.inr hk) hk9]
  exact kk
theorem mm_pJ {index k : Nat} {x : Int64} (hM : M.1.cls = RX6) (hk : mm_kd.getD k 0 = 1) (hty : tyX6 k = .long) (hk9 : k < 95) (hlink : Cond.fieldLink RX6 index (TX6 k).1 (TX6 k).2.1 (TX6 k).2.2.1 ∈ lw_all) (hfin : (TX6 k).2.2.2 = false) (hdg : decode M.2.1 pc = .ok (.putfield index, 3)) (kk : am_Wp G M (pc + 3) d L rest (mm_s ρ (mm_sJ μ k x)) Q) : am_Wp G M pc d L (.long x :: va_rf (some ρ.1) :: rest) (mm_s ρ μ) Q := by
  refine am_putfield inf_X6 k hk9 (by rw [hM]; exact hlink) rfl hfin (by rw [hty]; rfl) (by rw [hty]; rfl) hdg (mm_at ρ μ) ?_
  rw [mm_upJ ρ μ k x hk]
  exact kk
theorem mm_arA {k : Nat} (hA : mm_isA k) (hk : mm_kd.getD k 0 = 2) : (mm_s ρ μ).1 (ρ.1 + mm_or.getD k 0) = some (.inl (0, mm_ln.getD k 0, .inl (μ.2.2.1 k))) := by
  rw [mm_atA ρ μ _ hA.2.2.2.1 (by have := hA.2.2.2.2; omega)]
  unfold mm_arr
  rw [hA.2.2.1, hk]
  rfl
theorem mm_arZ {k : Nat} (hA : mm_isA k) (hk : mm_kd.getD k 0 = 3) : (mm_s ρ μ).1 (ρ.1 + mm_or.getD k 0) = some (.inl (3, mm_ln.getD k 0, .inl (μ.2.2.1 k))) := by
  rw [mm_atA ρ μ _ hA.2.2.2.1 (by have := hA.2.2.2.2; omega)]
  unfold mm_arr
  rw [hA.2.2.1, hk]
  rfl
theorem mm_arJ {k : Nat} (hA : mm_isA k) (hk : mm_kd.getD k 0 = 4) : (mm_s ρ μ).1 (ρ.1 + mm_or.getD k 0) = some (.inl (4, mm_ln.getD k 0, .inr (.inl (μ.2.2.2 k)))) := by
  rw [mm_atA ρ μ _ hA.2.2.2.1 (by have := hA.2.2.2.2; omega)]
  unfold mm_arr
  rw [hA.2.2.1, hk]
  rfl
theorem mm_ldA {k n : Nat} {i : Int32} (hA : mm_isA k) (hk : mm_kd.getD k 0 = 2) (hn : mm_ln.getD k 0 = n) (hdg : decode M.2.1 pc = .ok (.iaload, 1)) (hi : vp_in i n) (kk : am_Wp G M (pc + 1) d L (.int (mA μ k i.toNatClampNeg) :: rest) (mm_s ρ μ) Q) : am_Wp G M pc d L (.int i :: va_rf (mm_r ρ k) :: rest) (mm_s ρ μ) Q := am_iald hdg (mm_arA hA hk) (by rw [hn]; exact hi) kk
theorem mm_ldZ {k n : Nat} {i : Int32} (hA : mm_isA k) (hk : mm_kd.getD k 0 = 3) (hn : mm_ln.getD k 0 = n) (hdg : decode M.2.1 pc = .ok (.baload, 1)) (hi : vp_in i n) (kk : am_Wp G M (pc + 1) d L (.int (mA μ k i.toNatClampNeg) :: rest) (mm_s ρ μ) Q) : am_Wp G M pc d L (.int i :: va_rf (mm_r ρ k) :: rest) (mm_s ρ μ) Q := am_zald hdg (mm_arZ hA hk) (by rw [hn]; exact hi) kk
theorem mm_ldJ {k n : Nat} {i : Int32} (hA : mm_isA k) (hk : mm_kd.getD k 0 = 4) (hn : mm_ln.getD k 0 = n) (hdg : decode M.2.1 pc = .ok (.laload, 1)) (hi : vp_in i n) (kk : am_Wp G M (pc + 1) d L (.long (mB μ k i.toNatClampNeg) :: rest) (mm_s ρ μ) Q) : am_Wp G M pc d L (.int i :: va_rf (mm_r ρ k) :: rest) (mm_s ρ μ) Q := am_lald hdg (mm_arJ hA hk) (by rw [hn]; exact hi) kk
theorem mm_stA {k n : Nat} {i x : Int32} (hA : mm_isA k) (hk : mm_kd.getD k 0 = 2) (hn : mm_ln.getD k 0 = n) (hdg : decode M.2.1 pc = .ok (.iastore, 1)) (hi : vp_in i n) (kk : am_Wp G M (pc + 1) d L rest (mm_s ρ (mm_sA μ k i.toNatClampNeg x)) Q) : am_Wp G M pc d L (.int x :: .int i :: va_rf (mm_r ρ k) :: rest) (mm_s ρ μ) Q := by
  refine am_iast hdg (mm_arA hA hk) (by rw [hn]; exact hi) ?_
  rw [mm_upA ρ μ k _ 0 _ x hA.2.2.1 hA.2.2.2.1 hA.2.2.2.2 (Or.inl ⟨hk, rfl⟩)]
  exact kk
theorem mm_stZ {k n : Nat} {i x : Int32} (hA : mm_isA k) (hk : mm_kd.getD k 0 = 3) (hn : mm_ln.getD k 0 = n) (hx : x = 0 ∨ x = 1) (hdg : decode M.2.1 pc = .ok (.bastore, 1)) (hi : vp_in i n) (kk : am_Wp G M (pc + 1) d L rest (mm_s ρ (mm_sA μ k i.toNatClampNeg x)) Q) : am_Wp G M pc d L (.int x :: .int i :: va_rf (mm_r ρ k) :: rest) (mm_s ρ μ) Q := by
  refine am_zast hdg (mm_arZ hA hk) (by rw [hn]; exact hi) ?_
  have e : vp_nar .boolean x = x := by rcases hx with rfl | rfl <;> rfl
  rw [e, mm_upA ρ μ k _ 3 _ x hA.2.2.1 hA.2.2.2.1 hA.2.2.2.2 (Or.inr ⟨hk, rfl⟩)]
  exact kk
theorem mm_stJ {k n : Nat} {i : Int32} {x : Int64} (hA : mm_isA k) (hk : mm_kd.getD k 0 = 4) (hn : mm_ln.getD k 0 = n) (hdg : decode M.2.1 pc = .ok (.lastore, 1)) (hi : vp_in i n) (kk : am_Wp G M (pc + 1) d L rest (mm_s ρ (mm_sB μ k i.toNatClampNeg x)) Q) : am_Wp G M pc d L (.long x :: .int i :: va_rf (mm_r ρ k) :: rest) (mm_s ρ μ) Q := by
  refine am_last hdg (mm_arJ hA hk) (by rw [hn]; exact hi) ?_
  rw [mm_upB ρ μ k _ _ x hA.2.2.1 hA.2.2.2.1 hA.2.2.2.2 hk]
  exact kk
end
/-! more room, other ends -/
theorem am_mono {G : am_G} {M : am_M} {pc d : Nat} {L : List (Nat × Value)} {st : List Value} {σ : am_S} {Q Q' : am_R → am_S → Prop} (h : am_Wp G M pc d L st σ Q) (hq : ∀ r σ', Q r σ' → Q' r σ') : am_Wp G M pc d L st σ Q' := by
  intro p e R s m args below meth c H locs cells slots ls C hw hA hl T hT X
  obtain ⟨t, a1, o, b1, b2, b3⟩ := h p e R s m args below meth c H locs cells slots ls C hw hA hl T hT X
  refine ⟨t, a1, o, b1, b2, ?_⟩
  rcases b3 with ⟨⟨v, σ', e1, e2, e3⟩, L', h1⟩ | ⟨q, σ', L', e1, e2, e3⟩
  · exact Or.inl ⟨⟨v, σ', e1, hq _ _ e2, e3⟩, L', h1⟩
  · exact Or.inr ⟨q, σ', L', e1, hq _ _ e2, e3⟩
theorem am_more {G : am_G} {M : am_M} {pc d d' : Nat} {L : List (Nat × Value)} {st : List Value} {σ : am_S} {Q : am_R → am_S → Prop} (h : am_Wp G M pc d L st σ Q) (hd : d ≤ d') : am_Wp G M pc d' L st σ Q := by
  intro p e R s m args below meth c H locs cells slots ls C hw hA hl
  refine h p e R s m args below meth c H locs cells slots ls ?_ hw hA hl
  obtain ⟨c1, c2, c3, c4, c5, c6, c7, c8, ⟨c9, c10⟩, c11⟩ := C
  exact ⟨c1, c2, c3, c4, c5, c6, c7, c8, ⟨by omega, by omega⟩, c11⟩
/-- fewer locals are asked, by the tables -/
theorem am_lss {G : am_G} {M : am_M} {pc d : Nat} {L L' : List (Nat × Value)} {st : List Value} {σ : am_S} {Q : am_R → am_S → Prop} (k : am_Wp G M pc d L' st σ Q) (hs : L'.map (fun q => am_lk L q.1) = L'.map (fun q => some q.2)) : am_Wp G M pc d L st σ Q := by
  refine am_less k fun q hq => ?_
  obtain ⟨i, hi⟩ := List.getElem?_of_mem hq
  have h1 := congrArg (fun l => l[i]?) hs
  simp only [List.getElem?_map, hi, Option.map_some, Option.some.injEq] at h1
  exact h1
/-- a method of the model at a call -/
def am_Bm (Mc : am_M) (n : Nat) (w : Cond) : Prop := Cond.initialized Mc.1.cls ∈ lw_all ∧ w ∈ lw_all ∧ (parseMethodDescriptor Mc.1.desc).map (fun d => d.parameters.length) = some n ∧ Mc.2.2.1 ≤ 37 ∧ (Mc.1.cls ≠ "java/lang/invoke/MethodHandle" ∧ Mc.1.cls ≠ "java/lang/invoke/VarHandle")
section
variable {G : am_G} {M : am_M} {pc d : Nat} {L L' : List (Nat × Value)} {rest : List Value} {ρ : mm_F} {μ : mm_S} {Q : am_R → am_S → Prop}
theorem mm_k2i {Mc : am_M} {K : Int32 → mm_S → Prop} (h : am_Wp G Mc 0 d L' [] (mm_s ρ μ) (mm_qi ρ K)) (kk : ∀ v μ', K v μ' → am_Wp G M (pc + 3) (d + 1) L (.int v :: rest) (mm_s ρ μ') Q) : am_Wp G Mc 0 d L' [] (mm_s ρ μ) (am_K2 G M pc (d + 1) L rest Q) := by
  refine am_mono h ?_
  rintro r σ' ⟨v, μ', rfl, rfl, h⟩
  exact kk v μ' h
theorem mm_k2l {Mc : am_M} {K : Int64 → mm_S → Prop} (h : am_Wp G Mc 0 d L' [] (mm_s ρ μ) (mm_ql ρ K)) (kk : ∀ v μ', K v μ' → am_Wp G M (pc + 3) (d + 1) L (.long v :: rest) (mm_s ρ μ') Q) : am_Wp G Mc 0 d L' [] (mm_s ρ μ) (am_K2 G M pc (d + 1) L rest Q) := by
  refine am_mono h ?_
  rintro r σ' ⟨v, μ', rfl, rfl, h⟩
  exact kk v μ' h
theorem mm_k2v {Mc : am_M} {K : mm_S → Prop} (h : am_Wp G Mc 0 d L' [] (mm_s ρ μ) (mm_qv ρ K)) (kk : ∀ μ', K μ' → am_Wp G M (pc + 3) (d + 1) L rest (mm_s ρ μ') Q) : am_Wp G Mc 0 d L' [] (mm_s ρ μ) (am_K2 G M pc (d + 1) L rest Q) := by
  refine am_mono h ?_
  rintro r σ' ⟨μ', rfl, rfl, h⟩
  exact kk μ' h
/-- a call of the model's own method -/
theorem mm_callV {Mc : am_M} {index : Nat} {as : List Value} (hM : M.1.cls = RX6) (hB : am_Bm Mc as.length (Cond.code Mc.1 Mc.2.1 Mc.2.2.1 Mc.2.2.2.1)) (hlink : Cond.methodLink RX6 index Mc.1 ∈ lw_all) (hinst : Cond.instanceMethod Mc.1 ∈ lw_all) (hsel : Cond.selects RX6 Mc.1 Mc.1 ∈ lw_all) (hst : rest.length ≤ 8) (hdg : decode M.2.1 pc = .ok (.invokevirtual index, 3)) (hm : am_Mt G Mc d (Cond.code Mc.1 Mc.2.1 Mc.2.2.1 Mc.2.2.2.1) (va_rf (some ρ.1) :: as) (mm_s ρ μ) (am_K2 G M pc (d + 1) L rest Q)) : am_Wp G M pc (d + 1) L (as.reverse ++ va_rf (some ρ.1) :: rest) (mm_s ρ μ) Q :=
  am_callV inf_X6 (mm_at ρ μ) hm (by rw [hM]; exact hlink) hinst hsel hB.1 hB.2.1 hB.2.2.1 hB.2.2.2.1 hst hB.2.2.2.2 hdg
theorem mm_callS {Mc : am_M} {index : Nat} {as : List Value} (hM : M.1.cls = RX6) (hB : am_Bm Mc as.length (Cond.code Mc.1 Mc.2.1 Mc.2.2.1 Mc.2.2.2.1)) (hlink : Cond.methodLink RX6 index Mc.1 ∈ lw_all) (hstat : Cond.static Mc.1 ∈ lw_all) (hst : rest.length ≤ 8) (hdg : decode M.2.1 pc = .ok (.invokestatic index, 3)) (hm : am_Mt G Mc d (Cond.code Mc.1 Mc.2.1 Mc.2.2.1 Mc.2.2.2.1) as (mm_s ρ μ) (am_K2 G M pc (d + 1) L rest Q)) : am_Wp G M pc (d + 1) L (as.reverse ++ rest) (mm_s ρ μ) Q :=
  am_callS hm (by rw [hM]; exact hlink) hstat hB.1 hB.2.1 hB.2.2.1 hB.2.2.2.1 hst hB.2.2.2.2 hdg
end
theorem am_lcmp {G : am_G} {M : am_M} {pc d : Nat} {L : List (Nat × Value)} {rest : List Value} {σ : am_S} {Q : am_R → am_S → Prop} {x y : Int64} (hdg : decode M.2.1 pc = .ok (.lcmp, 1)) (k : am_Wp G M (pc + 1) d L (.int (lg_cmp x y) :: rest) σ Q) : am_Wp G M pc d L (.long y :: .long x :: rest) σ Q := fun p e R s m args below meth c H locs cells slots ls C hw hA hl => W.lcmp C.1 C.2.1 hdg (k p e R s m args below meth c H locs cells slots ls C hw hA hl)
theorem am_tab {x : Int} {lo hi : Int} {n : Nat} (h : ¬ (x < lo ∨ hi < x)) (hn : hi = lo + n - 1 := by decide) : ∃ j : Nat, j < n ∧ x = lo + j := ⟨(x - lo).toNat, by omega, by omega⟩

