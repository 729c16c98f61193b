set_option maxRecDepth 100000
section
variable {G : am_G} {A : Nat → Nat} {T : Nat → Int32} {n : Nat}
theorem X_unit (hG : GK G) : ∀ (r : Nat), r ≤ 12 → ∀ d, 4 * r ≤ d → XSub G A T n (fun σ Q E => W_X4_unit G (d + 11) (A 1) σ Q E) (nI (12 - r)) (ps_unit T r)
  | 0, hr, d, hd => X_unit1 hG hr (fun s e => absurd e (by omega)) fun s e => absurd e (by omega)
  | r + 1, hr, d, hd => by
    obtain ⟨d4, rfl⟩ : ∃ d4, d = d4 + 4 := ⟨d - 4, by omega⟩
    refine X_unit1 hG hr (fun s e => ?_) fun s e => ?_
    · obtain rfl : r = s := by omega
      exact X_unit hG r (by omega) (d4 + 3) (by omega)
    · obtain rfl : r = s := by omega
      exact X_worth (d := d4 + 5) hG (X_sum (d := d4 + 4) hG (X_product (d := d4 + 3) hG (X_unit hG r (by omega) d4 (by omega))))
/-- an expression -/
theorem X_expr (hG : GK G) {r d : Nat} (hr : r ≤ 12) (hd : 4 * r ≤ d) : XSub G A T n (fun σ Q E => W_X4_worth G (d + 14) (A 1) σ Q E) (nI (12 - r)) (ps_exp T (ps_unit T r)) := X_worth (d := d + 5) hG (X_sum (d := d + 4) hG (X_product (d := d + 3) hG (X_unit hG r hr d hd)))
end
/-! ===== X: blocks as trees of frozen objects ===== -/
def isBk (F : am_H) (r : Nat) (P : (Nat → Option Nat) → Nat → Nat → Prop) : Prop := ∃ f oa k l o, F r = some (.inr (10, f)) ∧ f 0 = va_rf (some oa) ∧ f 1 = .int (nI k) ∧ F oa = some (.inl (7, l, .inr (.inr (.inr (.inr o))))) ∧ k ≤ l ∧ l < 65536 ∧ P o 0 k
/-- the statements from the j-th on, of k -/
def xL (F : am_H) : Term → (Nat → Option Nat) → Nat → Nat → Prop
  | .thrown, _, j, k => j = k
  | .add (.elem (.index m) e) b, o, j, k => j < k ∧ (∃ w f r, o j = some w ∧ F w = some (.inr (17, f)) ∧ f 1 = .int (nI m) ∧ m < 40 ∧ f 2 = va_rf (some r) ∧ xE F e r) ∧ xL F b o (j + 1) k
  | .add (.length e) b, o, j, k => j < k ∧ (∃ w f r, o j = some w ∧ F w = some (.inr (18, f)) ∧ f 1 = va_rf (some r) ∧ f 2 = .int 0 ∧ xE F e r) ∧ xL F b o (j + 1) k
  | .add (.sum e) b, o, j, k => j < k ∧ (∃ w f r, o j = some w ∧ F w = some (.inr (18, f)) ∧ f 1 = va_rf (some r) ∧ f 2 = .int 1 ∧ xE F e r) ∧ xL F b o (j + 1) k
  | .add .null b, o, j, k => j < k ∧ (∃ w f, o j = some w ∧ F w = some (.inr (19, f)) ∧ f 1 = .int (-1) ∧ f 2 = .int (-1)) ∧ xL F b o (j + 1) k
  | .add (.arg a) b, o, j, k => j < k ∧ (∃ w f, o j = some w ∧ F w = some (.inr (19, f)) ∧ f 1 = .int (-1) ∧ f 2 = .int (nI a) ∧ a < 40) ∧ xL F b o (j + 1) k
  | .add (.mul (.index l) (.index a)) b, o, j, k => j < k ∧ (∃ w f, o j = some w ∧ F w = some (.inr (19, f)) ∧ f 1 = .int (nI l) ∧ l < 40 ∧ f 2 = .int (nI a) ∧ a < 40) ∧ xL F b o (j + 1) k
  | .add .result b, o, j, k => j < k ∧ (∃ w f, o j = some w ∧ F w = some (.inr (20, f))) ∧ xL F b o (j + 1) k
  | .add (.sub e (.sub y z)) b, o, j, k => j < k ∧ (∃ w f r ry, o j = some w ∧ F w = some (.inr (11, f)) ∧ f 1 = va_rf (some r) ∧ xE F e r ∧ f 2 = va_rf (some ry) ∧ isBk F ry (xL F y) ∧ ((f 3 = va_rf none ∧ z = .thrown) ∨ ∃ rn, f 3 = va_rf (some rn) ∧ isBk F rn (xL F z))) ∧ xL F b o (j + 1) k
  | _, _, _, _ => False
/-- a statement -/
def isSt (F : am_H) (s : Term) (w : Nat) : Prop := match s with
  | .elem (.index m) e => ∃ f r, F w = some (.inr (17, f)) ∧ f 1 = .int (nI m) ∧ m < 40 ∧ f 2 = va_rf (some r) ∧ xE F e r
  | .length e => ∃ f r, F w = some (.inr (18, f)) ∧ f 1 = va_rf (some r) ∧ f 2 = .int 0 ∧ xE F e r
  | .sum e => ∃ f r, F w = some (.inr (18, f)) ∧ f 1 = va_rf (some r) ∧ f 2 = .int 1 ∧ xE F e r
  | .null => ∃ f, F w = some (.inr (19, f)) ∧ f 1 = .int (-1) ∧ f 2 = .int (-1)
  | .arg a => ∃ f, F w = some (.inr (19, f)) ∧ f 1 = .int (-1) ∧ f 2 = .int (nI a) ∧ a < 40
  | .mul (.index l) (.index a) => ∃ f, F w = some (.inr (19, f)) ∧ f 1 = .int (nI l) ∧ l < 40 ∧ f 2 = .int (nI a) ∧ a < 40
  | .result => ∃ f, F w = some (.inr (20, f))
  | .sub e (.sub y z) => ∃ f r ry, F w = some (.inr (11, f)) ∧ f 1 = va_rf (some r) ∧ xE F e r ∧ f 2 = va_rf (some ry) ∧ isBk F ry (xL F y) ∧ ((f 3 = va_rf none ∧ z = .thrown) ∨ ∃ rn, f 3 = va_rf (some rn) ∧ isBk F rn (xL F z))
  | _ => False
theorem isBk.mono {F F1 : am_H} (hF : FE F F1) {r : Nat} {P P1 : (Nat → Option Nat) → Nat → Nat → Prop} (hP : ∀ o j k, P o j k → P1 o j k) (h : isBk F r P) : isBk F1 r P1 := by
  obtain ⟨f, oa, k, l, o, h1, h2, h3, h4, h5, h6, h7⟩ := h
  exact ⟨f, oa, k, l, o, hF _ _ h1, h2, h3, hF _ _ h4, h5, h6, hP _ _ _ h7⟩
theorem xL.mono {F F1 : am_H} (hF : FE F F1) : ∀ (t : Term) (o : Nat → Option Nat) (j k : Nat), xL F t o j k → xL F1 t o j k
  | .thrown, o, j, k, h => h
  | .add (.elem (.index m) e) b, o, j, k, h => by
    obtain ⟨h0, ⟨w, f, r, h1, h2, h3, h4, h5, h6⟩, h7⟩ := h
    exact ⟨h0, ⟨w, f, r, h1, hF _ _ h2, h3, h4, h5, xT.mono hF e _ _ _ _ _ h6⟩, xL.mono hF b o (j + 1) k h7⟩
  | .add (.length e) b, o, j, k, h => by
    obtain ⟨h0, ⟨w, f, r, h1, h2, h3, h4, h6⟩, h7⟩ := h
    exact ⟨h0, ⟨w, f, r, h1, hF _ _ h2, h3, h4, xT.mono hF e _ _ _ _ _ h6⟩, xL.mono hF b o (j + 1) k h7⟩
  | .add (.sum e) b, o, j, k, h => by
    obtain ⟨h0, ⟨w, f, r, h1, h2, h3, h4, h6⟩, h7⟩ := h
    exact ⟨h0, ⟨w, f, r, h1, hF _ _ h2, h3, h4, xT.mono hF e _ _ _ _ _ h6⟩, xL.mono hF b o (j + 1) k h7⟩
  | .add .null b, o, j, k, h => by
    obtain ⟨h0, ⟨w, f, h1, h2, h3⟩, h7⟩ := h
    exact ⟨h0, ⟨w, f, h1, hF _ _ h2, h3⟩, xL.mono hF b o (j + 1) k h7⟩
  | .add (.arg a) b, o, j, k, h => by
    obtain ⟨h0, ⟨w, f, h1, h2, h3⟩, h7⟩ := h
    exact ⟨h0, ⟨w, f, h1, hF _ _ h2, h3⟩, xL.mono hF b o (j + 1) k h7⟩
  | .add (.mul (.index l) (.index a)) b, o, j, k, h => by
    obtain ⟨h0, ⟨w, f, h1, h2, h3⟩, h7⟩ := h
    exact ⟨h0, ⟨w, f, h1, hF _ _ h2, h3⟩, xL.mono hF b o (j + 1) k h7⟩
  | .add .result b, o, j, k, h => by
    obtain ⟨h0, ⟨w, f, h1, h2⟩, h7⟩ := h
    exact ⟨h0, ⟨w, f, h1, hF _ _ h2⟩, xL.mono hF b o (j + 1) k h7⟩
  | .add (.sub e (.sub y z)) b, o, j, k, h => by
    obtain ⟨h0, ⟨w, f, r, ry, h1, h2, h3, h4, h5, h6, h8⟩, h7⟩ := h
    refine ⟨h0, ⟨w, f, r, ry, h1, hF _ _ h2, h3, xT.mono hF e _ _ _ _ _ h4, h5, h6.mono hF fun o j k => xL.mono hF y o j k, ?_⟩, xL.mono hF b o (j + 1) k h7⟩
    exact h8.imp id fun ⟨rn, g1, g2⟩ => ⟨rn, g1, g2.mono hF fun o j k => xL.mono hF z o j k⟩
theorem isSt.mono {F F1 : am_H} (hF : FE F F1) {s : Term} {w : Nat} (h : isSt F s w) : isSt F1 s w := by
  unfold isSt at h ⊢
  split at h
  · obtain ⟨f, r, h2, h3, h4, h5, h6⟩ := h
    exact ⟨f, r, hF _ _ h2, h3, h4, h5, xT.mono hF _ _ _ _ _ _ h6⟩
  · obtain ⟨f, r, h2, h3, h4, h6⟩ := h
    exact ⟨f, r, hF _ _ h2, h3, h4, xT.mono hF _ _ _ _ _ _ h6⟩
  · obtain ⟨f, r, h2, h3, h4, h6⟩ := h
    exact ⟨f, r, hF _ _ h2, h3, h4, xT.mono hF _ _ _ _ _ _ h6⟩
  · obtain ⟨f, h2, h3⟩ := h
    exact ⟨f, hF _ _ h2, h3⟩
  · obtain ⟨f, h2, h3⟩ := h
    exact ⟨f, hF _ _ h2, h3⟩
  · obtain ⟨f, h2, h3⟩ := h
    exact ⟨f, hF _ _ h2, h3⟩
  · obtain ⟨f, h2⟩ := h
    exact ⟨f, hF _ _ h2⟩
  · obtain ⟨f, r, ry, h2, h3, h4, h5, h6, h8⟩ := h
    exact ⟨f, r, ry, hF _ _ h2, h3, xT.mono hF _ _ _ _ _ _ h4, h5, h6.mono hF fun o j k => xL.mono hF _ o j k, h8.imp id fun ⟨rn, g1, g2⟩ => ⟨rn, g1, g2.mono hF fun o j k => xL.mono hF _ o j k⟩⟩
  · exact h.elim
theorem xL_cons {F : am_H} {s b : Term} {o : Nat → Option Nat} {j k w : Nat} (hj : j < k) (ho : o j = some w) (hs : isSt F s w) (hb : xL F b o (j + 1) k) : xL F (.add s b) o j k := by
  unfold isSt at hs
  split at hs
  · obtain ⟨f, r, h⟩ := hs
    exact ⟨hj, ⟨w, f, r, ho, h⟩, hb⟩
  · obtain ⟨f, r, h⟩ := hs
    exact ⟨hj, ⟨w, f, r, ho, h⟩, hb⟩
  · obtain ⟨f, r, h⟩ := hs
    exact ⟨hj, ⟨w, f, r, ho, h⟩, hb⟩
  · obtain ⟨f, h⟩ := hs
    exact ⟨hj, ⟨w, f, ho, h⟩, hb⟩
  · obtain ⟨f, h⟩ := hs
    exact ⟨hj, ⟨w, f, ho, h⟩, hb⟩
  · obtain ⟨f, h⟩ := hs
    exact ⟨hj, ⟨w, f, ho, h⟩, hb⟩
  · obtain ⟨f, h⟩ := hs
    exact ⟨hj, ⟨w, f, ho, h⟩, hb⟩
  · obtain ⟨f, r, ry, h⟩ := hs
    exact ⟨hj, ⟨w, f, r, ry, ho, h⟩, hb⟩
  · exact hs.elim
theorem isSt.cls {F : am_H} {s : Term} {w : Nat} (hs : isSt F s w) : ∃ c f, F w = some (.inr (c, f)) ∧ c ∈ [11, 17, 18, 19, 20] := by
  unfold isSt at hs
  split at hs
  · obtain ⟨f, r, h, -⟩ := hs; exact ⟨17, f, h, by decide⟩
  · obtain ⟨f, r, h, -⟩ := hs; exact ⟨18, f, h, by decide⟩
  · obtain ⟨f, r, h, -⟩ := hs; exact ⟨18, f, h, by decide⟩
  · obtain ⟨f, h, -⟩ := hs; exact ⟨19, f, h, by decide⟩
  · obtain ⟨f, h, -⟩ := hs; exact ⟨19, f, h, by decide⟩
  · obtain ⟨f, h, -⟩ := hs; exact ⟨19, f, h, by decide⟩
  · obtain ⟨f, h⟩ := hs; exact ⟨20, f, h, by decide⟩
  · obtain ⟨f, r, ry, h, -⟩ := hs; exact ⟨11, f, h, by decide⟩
  · exact hs.elim
/-- the list depends on what lies from j on -/
theorem xL.ext {F : am_H} {o o1 : Nat → Option Nat} {k : Nat} : ∀ (t : Term) (j : Nat), (∀ q, j ≤ q → q < k → o1 q = o q) → xL F t o j k → xL F t o1 j k
  | .thrown, j, he, h => h
  | .add (.elem (.index m) e) b, j, he, h => by
    obtain ⟨h0, ⟨w, h1⟩, h7⟩ := h
    rw [← he j (Nat.le_refl _) h0] at h1
    exact ⟨h0, ⟨w, h1⟩, xL.ext b (j + 1) (fun q h1 h2 => he q (by omega) h2) h7⟩
  | .add (.length e) b, j, he, h => by
    obtain ⟨h0, ⟨w, h1⟩, h7⟩ := h
    rw [← he j (Nat.le_refl _) h0] at h1
    exact ⟨h0, ⟨w, h1⟩, xL.ext b (j + 1) (fun q h1 h2 => he q (by omega) h2) h7⟩
  | .add (.sum e) b, j, he, h => by
    obtain ⟨h0, ⟨w, h1⟩, h7⟩ := h
    rw [← he j (Nat.le_refl _) h0] at h1
    exact ⟨h0, ⟨w, h1⟩, xL.ext b (j + 1) (fun q h1 h2 => he q (by omega) h2) h7⟩
  | .add .null b, j, he, h => by
    obtain ⟨h0, ⟨w, h1⟩, h7⟩ := h
    rw [← he j (Nat.le_refl _) h0] at h1
    exact ⟨h0, ⟨w, h1⟩, xL.ext b (j + 1) (fun q h1 h2 => he q (by omega) h2) h7⟩
  | .add (.arg a) b, j, he, h => by
    obtain ⟨h0, ⟨w, h1⟩, h7⟩ := h
    rw [← he j (Nat.le_refl _) h0] at h1
    exact ⟨h0, ⟨w, h1⟩, xL.ext b (j + 1) (fun q h1 h2 => he q (by omega) h2) h7⟩
  | .add (.mul (.index l) (.index a)) b, j, he, h => by
    obtain ⟨h0, ⟨w, h1⟩, h7⟩ := h
    rw [← he j (Nat.le_refl _) h0] at h1
    exact ⟨h0, ⟨w, h1⟩, xL.ext b (j + 1) (fun q h1 h2 => he q (by omega) h2) h7⟩
  | .add .result b, j, he, h => by
    obtain ⟨h0, ⟨w, h1⟩, h7⟩ := h
    rw [← he j (Nat.le_refl _) h0] at h1
    exact ⟨h0, ⟨w, h1⟩, xL.ext b (j + 1) (fun q h1 h2 => he q (by omega) h2) h7⟩
  | .add (.sub e (.sub y z)) b, j, he, h => by
    obtain ⟨h0, ⟨w, h1⟩, h7⟩ := h
    rw [← he j (Nat.le_refl _) h0] at h1
    exact ⟨h0, ⟨w, h1⟩, xL.ext b (j + 1) (fun q h1 h2 => he q (by omega) h2) h7⟩
