set_option maxRecDepth 100000
/-! ===== X: drafts ===== -/
/-- a draft at a, its arrays from c on: what is above it by name, the kind's lists; fm: what a field was -/
def DR (F : am_H) (D : xs_D) (ξ : xs_X) (fm : Int32 × Int32 × Int32 → Int32) (a c : Nat) (ab : Int32) (kd : Kd) : Prop := a < c ∧ rl D (2000 + a) a 8 ∧ (∀ j, j < 7 → xR ξ (2000 + a) (3 + j) = some (c + j) ∧ rl D (2000 + (c + j)) (c + j) (if j = 6 then 110 else 100) ∧ xN ξ (2000 + (c + j)) = if j = 3 ∨ j = 4 then 4 else 8) ∧ xI ξ (2000 + a) 0 = kN kd ∧ xI ξ (2000 + a) 1 = ab ∧
  (xI ξ (2000 + a) 10 = nI (kF kd).length ∧ (kF kd).length ≤ 8 ∧ ∀ q f, (kF kd)[q]? = some f → xA ξ (2000 + (c + 0)) q = f.1 ∧ xA ξ (2000 + (c + 1)) q = f.2.1 ∧ xA ξ (2000 + (c + 2)) q = fm f) ∧
  (xI ξ (2000 + a) 11 = nI (kS kd).length ∧ (kS kd).length ≤ 4 ∧ ∀ q f, (kS kd)[q]? = some f → xA ξ (2000 + (c + 3)) q = f.1 ∧ xA ξ (2000 + (c + 4)) q = f.2) ∧
  (xI ξ (2000 + a) 12 = nI (kX kd).length ∧ (kX kd).length ≤ 8 ∧ ∀ q f, (kX kd)[q]? = some f → xA ξ (2000 + (c + 5)) q = f.1 ∧ ∃ v, xQ ξ (2000 + (c + 6)) q = some v ∧ isBk F v (xL F f.2))
/-- the roles of a draft -/
def drR (a c q : Nat) : Prop := q = 2000 + a ∨ (2000 + c ≤ q ∧ q < 2000 + c + 7)
section
variable {G : am_G} {d m : Nat} {F : am_H} {D : xs_D} {ξ : xs_X} {σ : am_S} {fm : Int32 × Int32 × Int32 → Int32} {a c : Nat} {ab : Int32} {kd : Kd}
theorem DR.up {F1 : am_H} {D1 : xs_D} {ξ1 : xs_X} (h : DR F D ξ fm a c ab kd) (hF : FE F F1) (hD : XD D D1) (hs : ∀ q, drR a c q → sc ξ ξ1 q) : DR F1 D1 ξ1 fm a c ab kd := by
  obtain ⟨a0, a1, a2, a3, a4, ⟨b1, b2, b3⟩, ⟨c1, c2, c3⟩, d1, d2, d3⟩ := h
  have s0 := hs _ (Or.inl rfl)
  have sj : ∀ j, j < 7 → sc ξ ξ1 (2000 + (c + j)) := fun j hj => hs _ (Or.inr ⟨by omega, by omega⟩)
  refine ⟨a0, hD _ _ _ a1, fun j hj => ?_, by rw [s0.1]; exact a3, by rw [s0.1]; exact a4, ⟨by rw [s0.1]; exact b1, b2, fun q f hq => ?_⟩, ⟨by rw [s0.1]; exact c1, c2, fun q f hq => ?_⟩, by rw [s0.1]; exact d1, d2, fun q f hq => ?_⟩
  · obtain ⟨e1, e2, e3⟩ := a2 j hj
    exact ⟨by rw [s0.2.1]; exact e1, hD _ _ _ e2, (sj j hj).2.2.2.2.trans e3⟩
  · obtain ⟨e1, e2, e3⟩ := b3 q f hq
    exact ⟨by rw [(sj 0 (by decide)).2.2.1]; exact e1, by rw [(sj 1 (by decide)).2.2.1]; exact e2, by rw [(sj 2 (by decide)).2.2.1]; exact e3⟩
  · obtain ⟨e1, e2⟩ := c3 q f hq
    exact ⟨by rw [(sj 3 (by decide)).2.2.1]; exact e1, by rw [(sj 4 (by decide)).2.2.1]; exact e2⟩
  · obtain ⟨e1, v, e2, e3⟩ := d3 q f hq
    exact ⟨by rw [(sj 5 (by decide)).2.2.1]; exact e1, v, by rw [(sj 6 (by decide)).2.2.2.1]; exact e2, e3.mono hF fun o j k => xL.mono hF _ o j k⟩
/-- the search in an array -/
theorem X_find_l (H : XS F D ξ σ) {α : Type} {key : α → Int32} {x : Int32} {l0 : List α} {i b n : Nat} (hr : rl D i b 100) (hn : xN ξ i = n) (hl : l0.length ≤ n) (hn31 : n < 2 ^ 31) (hk : ∀ q f, l0[q]? = some f → xA ξ i q = key f) {Q : Int32 → am_S → Prop} : ∀ (l : List α) (j : Nat) {y : Int32}, y = nI j → j + l.length = l0.length → (∀ q, l[q]? = l0[j + q]?) → Q (oI ((ixf key x l).map (· + j))) σ → B_X8_find_2 G d (some b) (nI l0.length) x y σ Q
  | [], j, y, hy, hj, he, hQ => by
    subst hy
    exact B_X8_find_2_f ⟨fun _ => hQ, fun c => absurd (nI_le (by simp at hj; omega) (by simp at hj; omega)) c⟩
  | f :: l, j, y, hy, hj, he, hQ => by
    subst hy
    have hj' : j < l0.length := by simp at hj; omega
    have h0 : l0[j]? = some f := by
      have := he 0
      simpa using this.symm
    refine B_X8_find_2_f ⟨fun c => absurd c (nI_ge hj' (by omega)), fun _ => x_ai H (τ := 0) hr (by decide) hn rfl (by omega) hn31 (hk j f h0) ⟨fun hne => ?_, fun heq => ?_⟩⟩
    · refine X_find_l H hr hn hl hn31 hk l (j + 1) (nI_1 j) (by simp at hj; omega) (fun q => ?_) ?_
      · have := he (q + 1)
        rw [show j + 1 + q = j + (q + 1) by omega, ← this]
        simp
      · unfold ixf at hQ
        rw [if_neg hne, Option.map_map] at hQ
        have e : ((· + j) ∘ (· + 1) : Nat → Nat) = (· + (j + 1)) := by funext q; show q + 1 + j = q + (j + 1); omega
        rw [e] at hQ
        exact hQ
    · unfold ixf at hQ
      rw [if_pos heq] at hQ
      have : oI (Option.map (· + j) (some 0)) = nI j := by
        show nI (0 + j) = nI j
        rw [Nat.zero_add]
      rw [this] at hQ
      exact hQ
theorem X_find_0 (H : XS F D ξ σ) {α : Type} {key : α → Int32} {x : Int32} {l0 : List α} {i b n : Nat} (hr : rl D i b 100) (hn : xN ξ i = n) (hl : l0.length ≤ n) (hn31 : n < 2 ^ 31) (hk : ∀ q f, l0[q]? = some f → xA ξ i q = key f) {Q : Int32 → am_S → Prop} (hQ : Q (oI (ixf key x l0)) σ) : W_X8_find G d (some b) (nI l0.length) x σ Q := by
  refine W_X8_find_f (X_find_l H hr hn hl hn31 hk l0 0 rfl (by omega) (fun q => by rw [Nat.zero_add]) ?_)
  have : (fun q => q + 0 : Nat → Nat) = id := by funext q; rfl
  rw [this, Option.map_id]
  exact hQ
theorem X_drField (H : XS F D ξ σ) (h : DR F D ξ fm a c ab kd) {x : Int32} {Q : Int32 → am_S → Prop} (hQ : Q (oI (ixF kd x)) σ) : W_X8_field G (d + 1) a x σ Q := by
  obtain ⟨a0, a1, a2, a3, a4, ⟨b1, b2, b3⟩, -⟩ := h
  exact W_X8_field_f (x_gr H a1 (by decide) (a2 0 (by decide)).1 (x_gi H a1 (by decide) b1 (X_find_0 H (a2 0 (by decide)).2.1 (a2 0 (by decide)).2.2 b2 (by decide) (fun q f hq => (b3 q f hq).1) hQ)))
theorem X_drAct (H : XS F D ξ σ) (h : DR F D ξ fm a c ab kd) {x : Int32} {Q : Int32 → am_S → Prop} (hQ : Q (oI (ixA kd x)) σ) : W_X8_act G (d + 1) a x σ Q := by
  obtain ⟨a0, a1, a2, a3, a4, -, -, b1, b2, b3⟩ := h
  exact W_X8_act_f (x_gr H a1 (by decide) (a2 5 (by decide)).1 (x_gi H a1 (by decide) b1 (X_find_0 H (a2 5 (by decide)).2.1 (a2 5 (by decide)).2.2 b2 (by decide) (fun q f hq => (b3 q f hq).1) hQ)))
theorem X_drHolds (H : XS F D ξ σ) (h : DR F D ξ fm a c ab kd) {x : Int32} {Q : Int32 → am_S → Prop} (hQ : Q (if hasO x kd = true then 1 else 0) σ) : W_X8_holds G (d + 2) a x σ Q := by
  obtain ⟨a0, a1, a2, a3, a4, ⟨b1, b2, b3⟩, ⟨c1, c2, c3⟩, -⟩ := id h
  refine W_X8_holds_f (x_o H a1 (by decide) (X_drField (d := d) H h ?_))
  unfold hasO at hQ
  cases hf : ixF kd x with
  | some i =>
    rw [hf] at hQ
    exact ⟨fun _ => hQ, fun e => absurd e (nI_m1 (by have := ixf_lt hf; omega))⟩
  | none =>
    rw [hf] at hQ
    refine ⟨fun e => absurd rfl e, fun _ => x_gr H a1 (by decide) (a2 3 (by decide)).1 (x_gi H a1 (by decide) c1 (X_find_0 H (a2 3 (by decide)).2.1 (a2 3 (by decide)).2.2 c2 (by decide) (fun q f hq => (c3 q f hq).1) ?_))⟩
    show (oI (ixS kd x) = -1 → _) ∧ (¬ oI (ixS kd x) = -1 → _)
    cases hs : ixS kd x with
    | some i =>
      rw [hs] at hQ
      exact ⟨fun e => absurd e (nI_m1 (by have := ixf_lt hs; omega)), fun _ => hQ⟩
    | none =>
      rw [hs] at hQ
      exact ⟨fun _ => hQ, fun e => absurd rfl e⟩
theorem X_drFull (H : XS F D ξ σ) (h : DR F D ξ fm a c ab kd) {s : Nat} (hs : s < 3) {Q : Int32 → am_S → Prop} (hQ : Q (if fullM kd s = true then 1 else 0) σ) : W_X8_isFull G d a (nI s) σ Q := by
  obtain ⟨a0, a1, a2, a3, a4, ⟨b1, b2, b3⟩, ⟨c1, c2, c3⟩, d1, d2, d3⟩ := id h
  have go : ∀ (n k : Nat), n < 2 ^ 31 → k < 2 ^ 31 → fullM kd s = (n == k) → (¬ nI n = nI k → Q 0 σ) ∧ (nI n = nI k → Q 1 σ) := fun n k hn hk he => by
    rw [he] at hQ
    refine ⟨fun h9 => ?_, fun h9 => ?_⟩
    · rw [if_neg (by simpa using fun e : n = k => h9 (by rw [e]))] at hQ; exact hQ
    · rw [if_pos (by simpa using (nI_eq hn hk).mp h9)] at hQ; exact hQ
  unfold fullM at go
  refine W_X8_isFull_f ⟨fun n2 => ⟨fun n1 => ?_, fun c1' => ?_⟩, fun c2' => ?_⟩
  · have h2 : ¬ s = 2 := fun e => n2 (by rw [e]; rfl)
    have h1 : ¬ s = 1 := fun e => n1 (by rw [e]; rfl)
    rw [if_neg h2, if_neg h1] at go
    exact x_gi H a1 (by decide) b1 (go _ 8 (by omega) (by decide) rfl)
  · have h1 : s = 1 := (nI_eq (show s < 2 ^ 31 by omega) (show 1 < 2 ^ 31 by decide)).mp c1'
    rw [if_neg (by omega), if_pos h1] at go
    exact x_gi H a1 (by decide) c1 (go _ 4 (by omega) (by decide) rfl)
  · have h2 : s = 2 := (nI_eq (show s < 2 ^ 31 by omega) (show 2 < 2 ^ 31 by decide)).mp c2'
    rw [if_pos h2] at go
    exact x_gi H a1 (by decide) d1 (go _ 8 (by omega) (by decide) rfl)
end
