set_option maxRecDepth 100000
/-! ===== codes of words and names ===== -/
theorem sh6 {x d : Nat} (hx : x < 2 ^ 50) (hd : d < 64) : ((Int64.ofNat x <<< ((6 : Int32).toInt64 &&& 63)) ||| Int64.ofNat d) = Int64.ofNat (64 * x + d) := by
  apply Int64.toBitVec_inj.mp
  rw [Int64.toBitVec_or, Int64.toBitVec_shiftLeft]
  have e : ((6 : Int32).toInt64 &&& 63).toBitVec.smod 64 = 6#64 := by decide
  rw [e]
  apply BitVec.eq_of_toNat_eq
  have e1 : ∀ q : Nat, (Int64.ofNat q).toBitVec = BitVec.ofNat 64 q := fun q => rfl
  rw [e1, e1, e1, BitVec.toNat_or, BitVec.shiftLeft_eq', BitVec.toNat_shiftLeft, BitVec.toNat_ofNat, BitVec.toNat_ofNat, BitVec.toNat_ofNat, BitVec.toNat_ofNat]
  rw [Nat.mod_eq_of_lt (show x < 2 ^ 64 by omega), Nat.mod_eq_of_lt (show d < 2 ^ 64 by omega), Nat.mod_eq_of_lt (show 6 < 2 ^ 64 by omega), Nat.mod_eq_of_lt (show 64 * x + d < 2 ^ 64 by omega)]
  have e2 : x <<< 6 = 64 * x := by rw [Nat.shiftLeft_eq]; omega
  rw [Nat.mod_eq_of_lt (show x <<< 6 < 2 ^ 64 by rw [e2]; omega), ← Nat.shiftLeft_add_eq_or_of_lt (show d < 2 ^ 6 by omega), e2]
/-- a letter -/
def isL (x : Int32) : Prop := ∃ k, 97 ≤ k ∧ k ≤ 122 ∧ x = nI k
theorem isL_d : ∀ k, k < 123 → 97 ≤ k → Int32.toInt64 (nI k - 96) = Int64.ofNat (k - 96) := by decide +kernel
def cdN (L : Nat → Int32) (p : Nat) : Nat → Nat
  | 0 => 0
  | n + 1 => 64 * cdN L p n + ((L (p + n)).toNatClampNeg - 96)
theorem lcd_cd {L : Nat → Int32} {p : Nat} : ∀ n, n ≤ 8 → (∀ k, k < n → isL (L (p + k))) → lcd L p n = Int64.ofNat (cdN L p n) ∧ cdN L p n < 64 ^ n
  | 0, _, _ => ⟨rfl, by show 0 < 64 ^ 0; decide⟩
  | n + 1, hn, h => by
    obtain ⟨h1, h2⟩ := lcd_cd n (by omega) fun k hk => h k (by omega)
    obtain ⟨k, k1, k2, k3⟩ := h n (by omega)
    have hp : 64 ^ n ≤ 64 ^ 7 := Nat.pow_le_pow_right (by decide) (by omega)
    have hb : cdN L p n < 2 ^ 50 := by
      have : (64 : Nat) ^ 7 = 2 ^ 42 := by decide
      omega
    have e : (L (p + n)).toNatClampNeg = k := by rw [k3, nI_clamp (by omega)]
    refine ⟨?_, ?_⟩
    · show (lcd L p n <<< ((6 : Int32).toInt64 &&& 63)) ||| Int32.toInt64 (L (p + n) - 96) = Int64.ofNat (64 * cdN L p n + ((L (p + n)).toNatClampNeg - 96))
      rw [h1, e, k3, isL_d k (by omega) k1]
      exact sh6 hb (by omega)
    · show 64 * cdN L p n + ((L (p + n)).toNatClampNeg - 96) < 64 ^ (n + 1)
      rw [e, Nat.pow_succ]
      omega
theorem cdN_inj {L M : Nat → Int32} {p q : Nat} : ∀ n m, (∀ k, k < n → isL (L (p + k))) → (∀ k, k < m → isL (M (q + k))) → cdN L p n = cdN M q m → n = m ∧ ∀ k, k < n → L (p + k) = M (q + k)
  | 0, 0, _, _, _ => ⟨rfl, fun k hk => absurd hk (by omega)⟩
  | 0, m + 1, _, hM, h => by
    obtain ⟨k, k1, k2, k3⟩ := hM m (by omega)
    have h' : 0 = 64 * cdN M q m + ((M (q + m)).toNatClampNeg - 96) := h
    rw [k3, nI_clamp (by omega)] at h'
    omega
  | n + 1, 0, hL, _, h => by
    obtain ⟨k, k1, k2, k3⟩ := hL n (by omega)
    have h' : 64 * cdN L p n + ((L (p + n)).toNatClampNeg - 96) = 0 := h
    rw [k3, nI_clamp (by omega)] at h'
    omega
  | n + 1, m + 1, hL, hM, h => by
    obtain ⟨k, k1, k2, k3⟩ := hL n (by omega)
    obtain ⟨j, j1, j2, j3⟩ := hM m (by omega)
    have h' : 64 * cdN L p n + ((L (p + n)).toNatClampNeg - 96) = 64 * cdN M q m + ((M (q + m)).toNatClampNeg - 96) := h
    rw [k3, j3, nI_clamp (by omega), nI_clamp (by omega)] at h'
    obtain ⟨e1, e2⟩ := cdN_inj n m (fun k hk => hL k (by omega)) (fun k hk => hM k (by omega)) (by omega)
    subst e1
    refine ⟨rfl, fun i hi => ?_⟩
    by_cases hin : i = n
    · rw [hin, k3, j3]
      congr 1
      omega
    · exact e2 i (by omega)
theorem lcd_ext {L M : Nat → Int32} {p q : Nat} : ∀ n, (∀ k, k < n → L (p + k) = M (q + k)) → lcd L p n = lcd M q n
  | 0, _ => rfl
  | n + 1, h => by
    show (lcd L p n <<< ((6 : Int32).toInt64 &&& 63)) ||| Int32.toInt64 (L (p + n) - 96) = (lcd M q n <<< ((6 : Int32).toInt64 &&& 63)) ||| Int32.toInt64 (M (q + n) - 96)
    rw [lcd_ext n fun k hk => h k (by omega), h n (by omega)]
theorem lcd_inj {L M : Nat → Int32} {p q n m : Nat} (hn : n ≤ 8) (hm : m ≤ 8) (hL : ∀ k, k < n → isL (L (p + k))) (hM : ∀ k, k < m → isL (M (q + k))) : lcd L p n = lcd M q m ↔ (n = m ∧ ∀ k, k < n → L (p + k) = M (q + k)) := by
  obtain ⟨a1, a2⟩ := lcd_cd n hn hL
  obtain ⟨b1, b2⟩ := lcd_cd m hm hM
  have hp : 64 ^ n ≤ 64 ^ 8 := Nat.pow_le_pow_right (by decide) hn
  have hq : 64 ^ m ≤ 64 ^ 8 := Nat.pow_le_pow_right (by decide) hm
  have h8 : (64 : Nat) ^ 8 = 2 ^ 48 := by decide
  constructor
  · intro h
    rw [a1, b1] at h
    have h2 : (Int64.ofNat (cdN L p n)).toBitVec.toNat = (Int64.ofNat (cdN M q m)).toBitVec.toNat := by rw [h]
    have e1 : ∀ q : Nat, (Int64.ofNat q).toBitVec = BitVec.ofNat 64 q := fun q => rfl
    rw [e1, e1, BitVec.toNat_ofNat, BitVec.toNat_ofNat, Nat.mod_eq_of_lt (by omega), Nat.mod_eq_of_lt (by omega)] at h2
    exact cdN_inj n m hL hM h2
  · intro ⟨h1, h2⟩
    subst h1
    exact lcd_ext n h2
/-- the words as constants -/
theorem wd_len : ∀ k, k < 22 → (am_txs.getD (k + 1) "").length = (wds.getD k []).length ∧ (wds.getD k []).length ≤ 6 ∧ 1 ≤ (wds.getD k []).length := by decide +kernel
theorem wd_by : ∀ k, k < 22 → ∀ j, j < 6 → j < (wds.getD k []).length → am_byte (k + 1) j = (wds.getD k []).getD j 0 := by decide +kernel
theorem wd_isL0 : ∀ k, k < 22 → ∀ j, j < 6 → j < (wds.getD k []).length → 97 ≤ ((wds.getD k []).getD j 0).toNatClampNeg ∧ ((wds.getD k []).getD j 0).toNatClampNeg ≤ 122 ∧ (wds.getD k []).getD j 0 = nI (((wds.getD k []).getD j 0).toNatClampNeg) := by decide +kernel
theorem wd_isL {k j : Nat} (hk : k < 22) (hj : j < (wds.getD k []).length) : isL ((wds.getD k []).getD j 0) := by
  have := (wd_len k hk).2.1
  obtain ⟨h1, h2, h3⟩ := wd_isL0 k hk j (by omega) hj
  exact ⟨_, h1, h2, h3⟩
theorem wtk_of {c : Int64} : ∀ n, n ≤ 22 → (wtk c n = 2 ∧ ∀ k, k < n → ¬ wcd (wds.getD k []) = c) ∨ ∃ k, k < n ∧ wtk c n = nI (100 + k) ∧ wcd (wds.getD k []) = c
  | 0, _ => Or.inl ⟨rfl, fun k hk => absurd hk (by omega)⟩
  | n + 1, hn => by
    unfold wtk
    by_cases h : wcd (wds.getD n []) = c
    · rw [if_pos h]
      exact Or.inr ⟨n, by omega, nI_add 100 n, h⟩
    · rw [if_neg h]
      rcases wtk_of n (by omega) with ⟨h1, h2⟩ | ⟨k, h1, h2, h3⟩
      · refine Or.inl ⟨h1, fun k hk => ?_⟩
        by_cases hkn : k = n
        · rw [hkn]; exact h
        · exact h2 k (by omega)
      · exact Or.inr ⟨k, by omega, h2, h3⟩
/-- a String of at most six letters, by its code -/
def sOf (G : am_G) (F : am_H) (a : Nat) (c : Int64) : Prop := ∃ n L, 1 ≤ n ∧ n ≤ 6 ∧ stF G F a n L ∧ (∀ k, k < n → isL (L k)) ∧ lcd L 0 n = c
theorem sOf.up {G : am_G} {F F1 : am_H} {a : Nat} {c : Int64} (h : sOf G F a c) (hF : FE F F1) : sOf G F1 a c := by
  obtain ⟨n, L, h1, h2, h3, h4, h5⟩ := h
  exact ⟨n, L, h1, h2, h3.up hF, h4, h5⟩
section
variable {G : am_G} {d : Nat} {F : am_H} {D : xs_D} {ξ : xs_X} {σ : am_S}
theorem X_eqS (H : XS F D ξ σ) (hG : GK G) {a b : Nat} {c e : Int64} (ha : sOf G F a c) (hb : sOf G F b e) {Q : Int32 → am_S → Prop} (hy : c = e → Q 1 σ) (hn : ¬ c = e → Q 0 σ) : W_J4_equals G (d + 1) a (some b) σ Q := by
  obtain ⟨n, L, h1, h2, h3, h4, h5⟩ := ha
  obtain ⟨m, M, k1, k2, k3, k4, k5⟩ := hb
  have key := lcd_inj (L := L) (M := M) (p := 0) (q := 0) (n := n) (m := m) (by omega) (by omega) (fun k hk => by rw [Nat.zero_add]; exact h4 k hk) (fun k hk => by rw [Nat.zero_add]; exact k4 k hk)
  rw [h5, k5] at key
  refine X_equals H hG (Or.inl h3) (Or.inl k3) (Or.inl h3) (by omega) (by omega) (fun e1 e2 => hy (key.mpr ⟨e1, fun k hk => by rw [Nat.zero_add]; exact e2 k hk⟩)) fun h9 => hn fun h8 => h9 ?_
  obtain ⟨e1, e2⟩ := key.mp h8
  exact ⟨e1, fun k hk => by have := e2 k hk; rw [Nat.zero_add] at this; exact this⟩
/-- a word as a constant -/
theorem wd_stX {k : Nat} (hk : k < 22) : stX G F (am_sk G (k + 1)) (wds.getD k []).length (fun j => (wds.getD k []).getD j 0) := by
  have h1 := wd_len k hk
  exact Or.inr ⟨k + 1, by omega, rfl, h1.1.symm, fun j hj => (wd_by k hk j (by omega) hj).symm⟩
theorem wd_key {k n : Nat} {L : Nat → Int32} (hk : k < 22) (h2 : n ≤ 6) (h4 : ∀ k, k < n → isL (L k)) : wcd (wds.getD k []) = lcd L 0 n ↔ ((wds.getD k []).length = n ∧ ∀ j, j < (wds.getD k []).length → (wds.getD k []).getD j 0 = L j) := by
  have h1 := wd_len k hk
  have key := lcd_inj (L := fun j => (wds.getD k []).getD j 0) (M := L) (p := 0) (q := 0) (n := (wds.getD k []).length) (m := n) (by omega) (by omega) (fun j hj => by rw [Nat.zero_add]; exact wd_isL hk hj) (fun k hk => by rw [Nat.zero_add]; exact h4 k hk)
  refine key.trans ⟨fun h => ⟨h.1, fun j hj => ?_⟩, fun h => ⟨h.1, fun j hj => ?_⟩⟩
  · have := h.2 j hj
    rw [Nat.zero_add] at this
    exact this
  · rw [Nat.zero_add]
    exact h.2 j hj
/-- the word k, and a String -/
theorem X_eqW (H : XS F D ξ σ) (hG : GK G) {b k : Nat} {c : Int64} (hk : k < 22) (hb : sOf G F b c) {Q : Int32 → am_S → Prop} (hy : wcd (wds.getD k []) = c → Q 1 σ) (hn : ¬ wcd (wds.getD k []) = c → Q 0 σ) : W_J4_equals G (d + 1) (am_sk G (k + 1)) (some b) σ Q := by
  obtain ⟨n, L, h1, h2, h3, h4, h5⟩ := hb
  have key := wd_key hk h2 h4
  rw [h5] at key
  have hl := wd_len k hk
  exact X_equals H hG (wd_stX hk) (Or.inl h3) (Or.inr h3) (by omega) (by omega) (fun e1 e2 => hy (key.mpr ⟨e1, e2⟩)) fun h9 => hn fun h8 => h9 (key.mp h8)
theorem X_eqV (H : XS F D ξ σ) (hG : GK G) {b k : Nat} {c : Int64} (hk : k < 22) (hb : sOf G F b c) {Q : Int32 → am_S → Prop} (hy : wcd (wds.getD k []) = c → Q 1 σ) (hn : ¬ wcd (wds.getD k []) = c → Q 0 σ) : W_J4_equals G (d + 1) b (some (am_sk G (k + 1))) σ Q := by
  obtain ⟨n, L, h1, h2, h3, h4, h5⟩ := hb
  have key := wd_key hk h2 h4
  rw [h5] at key
  have hl := wd_len k hk
  refine X_equals H hG (Or.inl h3) (wd_stX hk) (Or.inl h3) (by omega) (by omega) (fun e1 e2 => hy (key.mpr ⟨e1.symm, fun j hj => (e2 j (by omega)).symm⟩)) fun h9 => hn fun h8 => h9 ?_
  obtain ⟨e1, e2⟩ := key.mp h8
  exact ⟨e1.symm, fun j hj => (e2 j (by omega)).symm⟩
/-- whether it is one of the words -/
theorem X_isAmong_l (H : XS F D ξ σ) (hG : GK G) {w b : Nat} {f : Nat → Option Nat} {c : Int64} (hw : F w = some (.inl (5, 22, .inr (.inr (.inr (.inr f)))))) (hf : ∀ k, k < 22 → f k = some (am_sk G (k + 1))) (hb : sOf G F b c) {Q : Int32 → am_S → Prop} (hy : (∃ k, k < 22 ∧ wcd (wds.getD k []) = c) → Q 1 σ) (hn : (∀ k, k < 22 → ¬ wcd (wds.getD k []) = c) → Q 0 σ) : ∀ (g k : Nat) {x : Int32}, k + g = 22 → x = nI k → (∀ j, j < k → ¬ wcd (wds.getD j []) = c) → B_X0_isAmong_8 G (d + 2) (some b) (some w) 22 x σ Q
  | 0, k, x, hk, hx, hj => B_X0_isAmong_8_f (by
      subst hx
      have hk : k = 22 := by omega
      subst hk
      exact ⟨fun _ => hn hj, fun c => absurd (nI_le (Nat.le_refl 22) (by omega)) c⟩)
  | g + 1, k, x, hk, hx, hj => B_X0_isAmong_8_f (by
      subst hx
      refine ⟨fun c => absurd c (nI_ge (a := k) (b := 22) (by omega) (by omega)), fun _ => z_ar H hw rfl (show k < 22 by omega) (by decide) (hf k (by omega)) (X_Go H (wd_stX (show k < 22 by omega)) (X_eqW H hG (show k < 22 by omega) hb (fun e => y2 (hy ⟨k, by omega, e⟩)) fun e => z2 (X_isAmong_l H hG hw hf hb hy hn g (k + 1) (by omega) (nI_1 k) fun j hj9 => ?_)))⟩
      by_cases h9 : j = k
      · rw [h9]; exact e
      · exact hj j (by omega))
theorem X_isAmong (H : XS F D ξ σ) (hG : GK G) {w b : Nat} {f : Nat → Option Nat} {c : Int64} (hw : F w = some (.inl (5, 22, .inr (.inr (.inr (.inr f)))))) (hf : ∀ k, k < 22 → f k = some (am_sk G (k + 1))) (hb : sOf G F b c) {Q : Int32 → am_S → Prop} (hy : (∃ k, k < 22 ∧ wcd (wds.getD k []) = c) → Q 1 σ) (hn : (∀ k, k < 22 → ¬ wcd (wds.getD k []) = c) → Q 0 σ) : W_X0_isAmong G (d + 2) (some w) (some b) σ Q :=
  W_X0_isAmong_f (z_al H hw (X_isAmong_l H hG hw hf hb hy hn 22 0 (by omega) rfl fun j hj => absurd hj (by omega)))
end
