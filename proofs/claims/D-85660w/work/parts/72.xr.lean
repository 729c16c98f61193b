set_option maxRecDepth 100000
/-! ===== X's reader: what stays while a text is read; characters ===== -/
/-- the constants -/
def GK (G : am_G) : Prop := am_st G 0 = .int 1 ∧ (∃ t, am_st G 1 = .ref t ∧ t < am_z G) ∧ ∀ i, i < 23 → am_sk G i < am_z G ∧ am_sv G i < am_z G
def RR (A : Nat → Nat) (D : xs_D) : Prop := rl D 0 (A 0) 0 ∧ rl D 1 (A 1) 4 ∧ rl D 4 (A 4) 3 ∧ rl D 6 (A 6) 105 ∧ rl D 8 (A 8) 101
/-- what refers to what -/
def XL (G : am_G) (A : Nat → Nat) (F : am_H) (ξ : xs_X) : Prop := xR ξ 0 0 = some (A 6) ∧ xR ξ 0 17 = some (A 8) ∧ xR ξ 0 21 = some (A 4) ∧ xR ξ 1 7 = some (A 0) ∧ xN ξ 6 = 40 ∧ xN ξ 8 = 1000 ∧ ∃ w f, xR ξ 0 2 = some w ∧ F w = some (.inl (5, 22, .inr (.inr (.inr (.inr f))))) ∧ ∀ k, k < 22 → f k = some (am_sk G (k + 1))
/-- the text -/
def XTx (T : Nat → Int32) (n : Nat) (ξ : xs_X) : Prop := n ≤ 1000 ∧ xI ξ 0 18 = nI n ∧ (∀ q, n ≤ q → T q = -1) ∧ ∀ q, q < n → (∃ c, c < 256 ∧ T q = nI c) ∧ xA ξ 8 q &&& 255 = T q
def XB (G : am_G) (A : Nat → Nat) (T : Nat → Int32) (n : Nat) (F : am_H) (D : xs_D) (ξ : xs_X) (σ : am_S) : Prop := XS F D ξ σ ∧ TD D ∧ RR A D ∧ XL G A F ξ ∧ XTx T n ξ
/-- what of it a change leaves -/
def xk (ξ ξ' : xs_X) : Prop := xI ξ' 0 18 = xI ξ 0 18 ∧ xR ξ' 0 = xR ξ 0 ∧ xR ξ' 1 7 = xR ξ 1 7 ∧ xN ξ' 6 = xN ξ 6 ∧ xN ξ' 8 = xN ξ 8 ∧ xA ξ' 8 = xA ξ 8
theorem xk.refl {ξ : xs_X} : xk ξ ξ := ⟨rfl, rfl, rfl, rfl, rfl, rfl⟩
theorem xk.trans {ξ ξ1 ξ2 : xs_X} (h1 : xk ξ ξ1) (h2 : xk ξ1 ξ2) : xk ξ ξ2 := ⟨h2.1.trans h1.1, h2.2.1.trans h1.2.1, h2.2.2.1.trans h1.2.2.1, h2.2.2.2.1.trans h1.2.2.2.1, h2.2.2.2.2.1.trans h1.2.2.2.2.1, h2.2.2.2.2.2.trans h1.2.2.2.2.2⟩
theorem xk.sI1 {ξ : xs_X} {k : Nat} {v : Int32} : xk ξ (xs_sI ξ 1 k v) := ⟨congrFun (sI_sc (by decide)).1 18, rfl, rfl, rfl, rfl, rfl⟩
theorem xk.sR1 {ξ : xs_X} {k : Nat} {v : Option Nat} (h : k ≠ 7) : xk ξ (xs_sR ξ 1 k v) := ⟨rfl, (sR_sc (by decide)).2.1, sR_o (fun e => h e.symm), rfl, rfl, rfl⟩
theorem xk.of {ξ ξ' : xs_X} (h : ∀ j, j = 0 ∨ j = 1 ∨ j = 6 ∨ j = 8 → sc ξ ξ' j) : xk ξ ξ' := ⟨congrFun (h 0 (by decide)).1 18, (h 0 (by decide)).2.1, congrFun (h 1 (by decide)).2.1 7, (h 6 (by decide)).2.2.2.2, (h 8 (by decide)).2.2.2.2, (h 8 (by decide)).2.2.1⟩
section
variable {G : am_G} {A : Nat → Nat} {T : Nat → Int32} {n d : Nat} {F : am_H} {D : xs_D} {ξ : xs_X} {σ : am_S}
theorem RR.up {D1 : xs_D} (h : RR A D) (hx : XD D D1) : RR A D1 := ⟨hx _ _ _ h.1, hx _ _ _ h.2.1, hx _ _ _ h.2.2.1, hx _ _ _ h.2.2.2.1, hx _ _ _ h.2.2.2.2⟩
theorem XB.up {F1 : am_H} {D1 : xs_D} {ξ1 : xs_X} {σ1 : am_S} (h : XB G A T n F D ξ σ) (H : XS F1 D1 ξ1 σ1) (hF : FE F F1) (hD : XD D D1) (hT : TD D1) (hk : xk ξ ξ1) : XB G A T n F1 D1 ξ1 σ1 := by
  obtain ⟨-, -, a3, ⟨b1, b2, b3, b4, b5, b6, w, f, b7, b8, b9⟩, c1, c2, c3, c4⟩ := h
  obtain ⟨k1, k2, k3, k4, k5, k6⟩ := hk
  refine ⟨H, hT, a3.up hD, ⟨?_, ?_, ?_, ?_, k4.trans b5, k5.trans b6, w, f, ?_, hF _ _ b8, b9⟩, c1, k1.trans c2, c3, fun q hq => ?_⟩
  · rw [k2]; exact b1
  · rw [k2]; exact b2
  · rw [k2]; exact b3
  · rw [k3]; exact b4
  · rw [k2]; exact b7
  · rw [k6]; exact c4 q hq
theorem X_raw (hB : XB G A T n F D ξ σ) {q j : Nat} {x : Int32} {Q : Int32 → am_S → Prop} (h0 : xI ξ 1 0 = nI q) (hj : q + j < 2 ^ 30) (hx : x = nI j) (h : Q (T (q + j)) σ) : W_X4_raw G d (A 1) x σ Q := by
  obtain ⟨H, hT, ⟨r0, r1, r4, r6, r8⟩, ⟨b1, b2, b3, b4, b5, b6, -⟩, c1, c2, c3, c4⟩ := hB
  subst hx
  refine W_X4_raw_f (x_gi H r1 (by decide) h0 (x_gr H r1 (by decide) b4 (x_gi H r0 (by decide) c2 ?_)))
  rw [nI_add]
  refine ⟨fun c => ?_, fun c => ?_⟩
  · have hq := (nI_leI (by omega) (by omega)).mp c
    rw [c3 _ hq] at h
    exact h
  · have hq : q + j < n := Nat.lt_of_not_le fun h9 => c (nI_le h9 (by omega))
    refine x_gr H r1 (by decide) b4 (x_gr H r0 (by decide) b2 (x_gi H r1 (by decide) h0 (x_ai H r8 (by decide) b6 (nI_add q j) (by omega) (by omega) rfl ?_)))
    rw [(c4 _ hq).2]
    exact h
theorem X_isSmall {c : Int32} {a : Nat} {Q : Int32 → am_S → Prop} (h : Q (if cSm c = true then 1 else 0) σ) : W_X4_isSmall G d a c σ Q := by
  unfold cSm at h
  refine W_X4_isSmall_f ⟨fun c1 => ?_, fun c1 => ⟨fun c2 => ?_, fun c2 => ?_⟩⟩
  · rw [if_neg (by simp [Int32.not_le.mpr c1])] at h; exact h
  · rw [if_neg (by simp [Int32.not_le.mpr c2])] at h; exact h
  · rw [if_pos (by simp [Int32.not_lt.mp c1, Int32.not_lt.mp c2])] at h; exact h
theorem X_isDigit {c : Int32} {a : Nat} {Q : Int32 → am_S → Prop} (h : Q (if cDg c = true then 1 else 0) σ) : W_X4_isDigit G d a c σ Q := by
  unfold cDg at h
  refine W_X4_isDigit_f ⟨fun c1 => ?_, fun c1 => ⟨fun c2 => ?_, fun c2 => ?_⟩⟩
  · rw [if_neg (by simp [Int32.not_le.mpr c1])] at h; exact h
  · rw [if_neg (by simp [Int32.not_le.mpr c2])] at h; exact h
  · rw [if_pos (by simp [Int32.not_lt.mp c1, Int32.not_lt.mp c2])] at h; exact h
theorem X_isGreat {c : Int32} {a : Nat} {Q : Int32 → am_S → Prop} (h : Q (if cGr c = true then 1 else 0) σ) : W_X4_isGreat G d a c σ Q := by
  unfold cGr at h
  refine W_X4_isGreat_f ⟨fun c1 => ?_, fun c1 => ⟨fun c2 => ?_, fun c2 => ?_⟩⟩
  · rw [if_neg (by simp [Int32.not_le.mpr c1])] at h; exact h
  · rw [if_neg (by simp [Int32.not_le.mpr c2])] at h; exact h
  · rw [if_pos (by simp [Int32.not_lt.mp c1, Int32.not_lt.mp c2])] at h; exact h
/-! ===== Strings ===== -/
/-- a byte array: frozen, or of a constant -/
def arX (G : am_G) (F : am_H) (v n : Nat) (L : Nat → Int32) : Prop := (∃ g, F v = some (.inl (1, n, .inl g)) ∧ ∀ k, k < n → g k = L k) ∨ ∃ i, i < 23 ∧ v = am_sv G i ∧ n = (am_txs.getD i "").length ∧ ∀ k, k < n → L k = am_byte i k
/-- a frozen String -/
def stF (G : am_G) (F : am_H) (a n : Nat) (L : Nat → Int32) : Prop := ∃ f v g, F a = some (.inr (35, f)) ∧ f 0 = va_rf (some v) ∧ f 1 = .int 0 ∧ F v = some (.inl (1, n, .inl g)) ∧ (∀ k, k < n → g k = L k) ∧ am_z G ≤ a
/-- a String: frozen, or a constant -/
def stX (G : am_G) (F : am_H) (a n : Nat) (L : Nat → Int32) : Prop := stF G F a n L ∨ ∃ i, i < 23 ∧ a = am_sk G i ∧ n = (am_txs.getD i "").length ∧ ∀ k, k < n → L k = am_byte i k
theorem stF.up {F1 : am_H} {a m : Nat} {L : Nat → Int32} (h : stF G F a m L) (hF : FE F F1) : stF G F1 a m L := by
  obtain ⟨f, v, g, h1, h2, h3, h4, h5, h6⟩ := h
  exact ⟨f, v, g, hF _ _ h1, h2, h3, hF _ _ h4, h5, h6⟩
theorem X_sti {K : Int32 → Prop} (hG : GK G) (h : K 1) : f_sti G 0 K := by
  unfold f_sti
  rw [hG.1]
  exact h
theorem X_Gal (H : XS F D ξ σ) {v m : Nat} {L : Nat → Int32} {K : Int32 → Prop} (ha : arX G F v m L) (h : K (nI m)) : f_Gal G σ (some v) 1 K := by
  rcases ha with ⟨g, h1, h2⟩ | ⟨i, h1, h2, h3, h4⟩
  · exact Or.inl (z_al H h1 h)
  · exact Or.inr (Or.inl ⟨i, h1, by rw [h2], by rw [← h3]; exact h⟩)
theorem X_Gai (H : XS F D ξ σ) {v m k : Nat} {L : Nat → Int32} {x : Int32} {K : Int32 → Prop} (ha : arX G F v m L) (hx : x = nI k) (hk : k < m) (hm : m < 2 ^ 31) (h : K (L k)) : f_Gai G σ (some v) x K := by
  subst hx
  rcases ha with ⟨g, h1, h2⟩ | ⟨i, h1, h2, h3, h4⟩
  · exact Or.inl (z_ai H h1 rfl hk hm (h2 k hk) h)
  · refine Or.inr ⟨i, h1, by rw [h2], by rw [← h3]; exact vp_in_nI hk hm, ?_⟩
    rw [nI_clamp (by omega), ← h4 k hk]
    exact h
theorem X_Gk (H : XS F D ξ σ) {a m : Nat} {L : Nat → Int32} {K : Prop} (hs : stX G F a m L) (h : K) : f_Gk G σ (some a) K := by
  rcases hs with ⟨f, v, g, h1, h2, h3, h4, h5, h6⟩ | ⟨i, h1, h2, h3, h4⟩
  · exact Or.inl (z_k H h1 (by decide) h)
  · exact Or.inr ⟨i, h1, by rw [h2], h⟩
theorem X_Go (H : XS F D ξ σ) {a m : Nat} {L : Nat → Int32} {K : Nat → Prop} (hs : stX G F a m L) (h : K a) : f_Go G σ (some a) K := by
  rcases hs with ⟨f, v, g, h1, h2, h3, h4, h5, h6⟩ | ⟨i, h1, h2, h3, h4⟩
  · exact Or.inl (z_o H h1 (by decide) h)
  · exact Or.inr ⟨i, h1, by rw [h2], by rw [← h2]; exact h⟩
theorem X_Gi (H : XS F D ξ σ) {a m : Nat} {L : Nat → Int32} {K : Int32 → Prop} (hs : stX G F a m L) (h : K 0) : f_Gi G σ (some a) 1 K := by
  rcases hs with ⟨f, v, g, h1, h2, h3, h4, h5, h6⟩ | ⟨i, h1, h2, h3, h4⟩
  · exact Or.inl (z_gi H h1 (by decide) h3 h)
  · exact Or.inr ⟨i, h1, by rw [h2], rfl, h⟩
theorem X_Gr (H : XS F D ξ σ) {a m : Nat} {L : Nat → Int32} {K : Option Nat → Prop} (hs : stX G F a m L) (h : ∀ v, arX G F v m L → K (some v)) : f_Gr G σ (some a) 0 K := by
  rcases hs with ⟨f, v, g, h1, h2, h3, h4, h5, h6⟩ | ⟨i, h1, h2, h3, h4⟩
  · exact Or.inl (z_gr H h1 (by decide) h2 (h v (Or.inl ⟨g, h4, h5⟩)))
  · exact Or.inr ⟨i, h1, by rw [h2], rfl, h _ (Or.inr ⟨i, h1, rfl, h3, h4⟩)⟩
theorem X_eq9 (H : XS F D ξ σ) {v w m : Nat} {L M : Nat → Int32} (hv : arX G F v m L) (hw : arX G F w m M) (hm : m < 2 ^ 31) {Q : Int32 → am_S → Prop} (hy : (∀ k, k < m → L k = M k) → Q 1 σ) (hn : (¬ ∀ k, k < m → L k = M k) → Q 0 σ) : ∀ (f k : Nat) {x : Int32}, k + f = m → x = nI k → (∀ j, j < k → L j = M j) → B_J9_equals_9 G d (some v) (some w) x σ Q
  | f, k, x, hk, hx, he => B_J9_equals_9_f (X_Gal H hv (by
      subst hx
      cases f with
      | zero =>
        refine ⟨fun _ => hy fun j hj => he j (by omega), fun c => absurd (nI_le (by omega) (by omega)) c⟩
      | succ f =>
        refine ⟨fun c => absurd c (nI_ge (by omega) (by omega)), fun _ => X_Gai H hv rfl (by omega) hm (X_Gai H hw rfl (by omega) hm ⟨fun c => ?_, fun c => hn fun h9 => c (h9 k (by omega))⟩)⟩
        refine X_eq9 H hv hw hm hy hn f (k + 1) (by omega) (nI_1 k) fun j hj => ?_
        by_cases h9 : j = k
        · rw [h9]; exact c
        · exact he j (by omega)))
  termination_by f => f
/-- two Strings -/
theorem X_equals (H : XS F D ξ σ) (hG : GK G) {a b m q : Nat} {L M : Nat → Int32} (ha : stX G F a m L) (hb : stX G F b q M) (hs : stF G F a m L ∨ stF G F b q M) (hm : m < 2 ^ 31) (hq : q < 2 ^ 31) {Q : Int32 → am_S → Prop} (hy : m = q → (∀ k, k < m → L k = M k) → Q 1 σ) (hn : (¬ (m = q ∧ ∀ k, k < m → L k = M k)) → Q 0 σ) : W_J4_equals G (d + 1) a (some b) σ Q := by
  refine W_J4_equals_f ⟨fun hne => ?_, fun he => ?_⟩
  · refine X_Gk H hb (X_Gk H hb (X_sti hG ⟨fun c => absurd c (by decide), fun _ => X_Gi H ha (X_Gi H hb ⟨fun c => absurd rfl c, fun _ => X_Gr H ha fun v hv => X_Gr H hb fun w hw => ?_⟩)⟩))
    refine W_J9_equals_f (X_Gal H hv (X_Gal H hw ⟨fun c => ?_, fun c => ?_⟩))
    · exact z2 (hn fun h9 => c (by rw [h9.1]))
    · have hmq : m = q := (nI_eq hm hq).mp c
      subst hmq
      exact X_eq9 H hv hw hm (fun h9 => y2 (hy rfl h9)) (fun h9 => z2 (hn fun h8 => h9 h8.2)) m 0 (by omega) rfl fun j hj => absurd hj (by omega)
  · have he : a = b := by cases he; rfl
    subst he
    have key : m = q ∧ ∀ k, k < m → L k = M k := by
      rcases ha with ⟨f, v, g, h1, h2, h3, h4, h5, h6⟩ | ⟨i, h1, h2, h3, h4⟩
      · rcases hb with ⟨f', v', g', k1, k2, k3, k4, k5, k6⟩ | ⟨i, k1, k2, k3, k4⟩
        · rw [h1] at k1
          cases k1
          rw [h2] at k2
          cases k2
          rw [h4] at k4
          cases k4
          exact ⟨rfl, fun k hk => (h5 k hk).symm.trans (k5 k hk)⟩
        · have := (hG.2.2 i k1).1
          omega
      · rcases hb with ⟨f', v', g', k1, k2, k3, k4, k5, k6⟩ | ⟨i', k1, k2, k3, k4⟩
        · have := (hG.2.2 i h1).1
          omega
        · exfalso
          have h9 := (hG.2.2 i h1).1
          rcases hs with ⟨-, -, -, -, -, -, -, -, h8⟩ | ⟨-, -, -, -, -, -, -, -, h8⟩ <;> omega
    exact hy key.1 key.2
/-- a fault is told -/
theorem X_refused (hB : XB G A T n F D ξ σ) {k x : Int32} {Q : Option Nat → am_S → Prop} (h : ∀ σ' ξ', XS F D ξ' σ' → σ'.2 = σ.2 → (∀ j, j ≠ 4 → sc ξ ξ' j) → xI ξ' 4 6 = k → xI ξ' 4 7 = x → Q (some (A 4)) σ') : W_X0_refused G d (A 0) k x σ Q := by
  obtain ⟨H, hT, ⟨r0, r1, r4, r6, r8⟩, ⟨b1, b2, b3, b4, b5, b6, -⟩, -⟩ := hB
  refine W_X0_refused_f (x_gr H r0 (by decide) b3 (x_p H r4 (by decide) fun σ2 H2 e2 => ?_))
  have b3a : xR (xs_sI ξ 4 6 k) 0 21 = some (A 4) := b3
  refine x_gr H2 r0 (by decide) b3a (x_p H2 r4 (by decide) fun σ4 H4 e4 => ?_)
  have b3b : xR (xs_sI (xs_sI ξ 4 6 k) 4 7 x) 0 21 = some (A 4) := b3
  refine x_gr H4 r0 (by decide) b3b (h σ4 _ H4 (e4.trans e2) (fun j hj => (sI_sc hj).trans (sI_sc hj)) ?_ sI_s)
  rw [sI_o (by decide), sI_s]
end
