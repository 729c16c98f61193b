set_option maxRecDepth 100000
/-! ===== X: statics of kinds ===== -/
/-- the first static of a kind and a name -/
abbrev fiX (V : List (Int32 × Int32 × Int32)) (kn sn : Int32) : Option Nat := ixf (fun x : Int32 × Int32 × Int32 => if x.1 = kn ∧ x.2.1 = sn then 1 else 0) 1 V
def fAr (F : am_H) (w : Nat) (fs : List Nat) : Prop := ∃ g : Nat → Option Nat, F w = some (.inl (11, fs.length, .inr (.inr (.inr (.inr g))))) ∧ ∀ (k a : Nat), fs[k]? = some a → g k = some a
theorem fAr.mono {F F1 : am_H} {w : Nat} {fs : List Nat} (h : fAr F w fs) (hF : FE F F1) : fAr F1 w fs := by
  obtain ⟨g, h1, h2⟩ := h
  exact ⟨g, hF _ _ h1, h2⟩
/-- statics' objects: kind, name, value -/
def FXo (D : xs_D) (ξ : xs_X) (fs : List Nat) (V : List (Int32 × Int32 × Int32)) : Prop := fs.length = V.length ∧ ∀ (q v : Nat) (x : Int32 × Int32 × Int32), fs[q]? = some v → V[q]? = some x → rl D (2000 + v) v 23 ∧ xI ξ (2000 + v) 0 = x.1 ∧ xI ξ (2000 + v) 1 = x.2.1 ∧ xI ξ (2000 + v) 2 = x.2.2
theorem FXo.up {D D1 : xs_D} {ξ ξ1 : xs_X} {fs : List Nat} {V : List (Int32 × Int32 × Int32)} (h : FXo D ξ fs V) (hD : XD D D1) (hs : ∀ v, v ∈ fs → sc ξ ξ1 (2000 + v)) : FXo D1 ξ1 fs V := ⟨h.1, fun q v x h1 h2 => by
  obtain ⟨a1, a2, a3, a4⟩ := h.2 q v x h1 h2
  have hsv := hs v (List.mem_of_getElem? h1)
  exact ⟨hD _ _ _ a1, by rw [hsv.1]; exact a2, by rw [hsv.1]; exact a3, by rw [hsv.1]; exact a4⟩⟩
theorem FXo.has {D : xs_D} {ξ : xs_X} {fs : List Nat} {V : List (Int32 × Int32 × Int32)} (h : FXo D ξ fs V) {v : Nat} (hv : v ∈ fs) : D.2.2 (2000 + v) := by
  obtain ⟨q, hq⟩ := List.getElem?_of_mem hv
  have hl := get_lt hq
  exact (h.2 q v _ hq (List.getElem?_eq_getElem (by rw [← h.1]; exact hl))).1.1
section
variable {G : am_G} {d m : Nat} {F : am_H} {D : xs_D} {ξ : xs_X} {σ : am_S}
theorem X_find2_l (H : XS F D ξ σ) {w : Nat} {fs : List Nat} {V : List (Int32 × Int32 × Int32)} (hA : fAr F w fs) (hV : FXo D ξ fs V) (hl : fs.length < 1000) {kn sn : Int32} {Q : Option Nat → am_S → Prop} : ∀ (l' : List (Int32 × Int32 × Int32)) (j : Nat) {y : Int32}, y = nI j → j + l'.length = V.length → (∀ q : Nat, l'[q]? = V[j + q]?) → Q (((fiX l' kn sn).map (· + j)).bind (fun q => fs[q]?)) σ → B_X0_find_2_9 G d kn sn (some w) (nI fs.length) y σ Q
  | [], j, y, hy, hj, hq, h => by
    subst hy
    have hjl : fs.length = j := by rw [hV.1, ← hj]; rfl
    exact B_X0_find_2_9_f ⟨fun _ => h, fun c => absurd (nI_le (a := fs.length) (b := j) (by omega) (by omega)) c⟩
  | x :: l', j, y, hy, hj, hq, h => by
    subst hy
    have hjl : j < fs.length := by rw [hV.1, ← hj]; show j < j + (l'.length + 1); omega
    have hk : V[j]? = some x := by have := hq 0; rw [Nat.add_zero] at this; exact this.symm
    obtain ⟨v, hv⟩ : ∃ v, fs[j]? = some v := ⟨_, List.getElem?_eq_getElem hjl⟩
    obtain ⟨a1, a2, a3, a4⟩ := hV.2 j v x hv hk
    have hA' := hA
    obtain ⟨g, g1, g2⟩ := hA
    have rec9 : ¬ (x.1 = kn ∧ x.2.1 = sn) → B_X0_find_2_9 G d kn sn (some w) (nI fs.length) (nI j + 1) σ Q := fun hne => by
      refine X_find2_l H hA' hV hl l' (j + 1) (nI_1 j) (by rw [← hj]; show j + 1 + l'.length = j + (l'.length + 1); omega) (fun q => ?_) ?_
      · have := hq (q + 1)
        rw [show j + (q + 1) = j + 1 + q by omega] at this
        exact this
      · unfold fiX ixf at h
        rw [if_neg hne, if_neg (by decide), Option.map_map] at h
        rw [show ((fun x => x + j) ∘ fun x => x + 1) = (fun x => x + (j + 1)) from by funext q; show q + 1 + j = q + (j + 1); omega] at h
        exact h
    refine B_X0_find_2_9_f ⟨fun c => absurd c (nI_ge hjl (by omega)), fun _ => z_ar H g1 rfl hjl (by omega) (g2 j v hv) (x_gi H a1 (by decide) a2 ⟨fun hne => rec9 fun h9 => hne h9.1, fun he => x_gi H a1 (by decide) a3 ⟨fun hne => rec9 fun h9 => hne h9.2, fun he2 => ?_⟩⟩)⟩
    unfold fiX ixf at h
    rw [show (if x.1 = kn ∧ x.2.1 = sn then (1 : Int32) else 0) = 1 from if_pos ⟨he, he2⟩, if_pos rfl] at h
    rw [show ((some 0).map (fun x => x + j)).bind (fun q => fs[q]?) = some v from by show fs[0 + j]? = _; rw [Nat.zero_add]; exact hv] at h
    exact h
theorem X_find2 (H : XS F D ξ σ) {w : Nat} {fs : List Nat} {V : List (Int32 × Int32 × Int32)} (hA : fAr F w fs) (hV : FXo D ξ fs V) (hl : fs.length < 1000) {kn sn : Int32} {Q : Option Nat → am_S → Prop} (hQ : Q ((fiX V kn sn).bind (fun q => fs[q]?)) σ) : W_X0_find_2 G d (some w) kn sn σ Q := by
  have hA' := hA
  obtain ⟨g, g1, g2⟩ := hA
  refine W_X0_find_2_f (z_al H g1 (X_find2_l H hA' hV hl V 0 rfl (by omega) (fun q => by rw [Nat.zero_add]) ?_))
  rw [show (fiX V kn sn).map (fun x => x + 0) = fiX V kn sn from by cases h : fiX V kn sn <;> simp [h]]
  exact hQ
/-- the statics of kinds: values of those that were -/
def nfV (V : List (Int32 × Int32 × Int32)) (kn : Int32) (s : Int32 × Int32) : Int32 × Int32 × Int32 := (kn, s.1, match (fiX V kn s.1).bind (fun q => V[q]?) with
  | some x => x.2.2
  | none => s.2)
def nfK (V : List (Int32 × Int32 × Int32)) (kd : Kd) : List (Int32 × Int32 × Int32) := (kS kd).map (nfV V (kN kd))
def nfx (V : List (Int32 × Int32 × Int32)) (L : List Kd) : List (Int32 × Int32 × Int32) := L.flatMap (nfK V)
theorem nfK_len {V : List (Int32 × Int32 × Int32)} {kd : Kd} : (nfK V kd).length = (kS kd).length := by unfold nfK; rw [List.length_map]
/-- how many statics -/
theorem nfx_le {V : List (Int32 × Int32 × Int32)} : ∀ (L : List Kd), (∀ kd, kd ∈ L → (kS kd).length ≤ 4) → (nfx V L).length ≤ 4 * L.length
  | [], _ => Nat.le_refl _
  | kd :: L, h => by
    have h1 := nfx_le (V := V) L fun k hk => h k (List.mem_cons_of_mem _ hk)
    have h2 := h kd List.mem_cons_self
    unfold nfx at h1 ⊢
    rw [List.flatMap_cons, List.length_append, nfK_len, List.length_cons]
    omega
/-- a row of references that is new, empty and frozen -/
theorem x_narZ (H : XS F D ξ σ) {n j τ : Nat} {x : Int32} (hx : x = nI n) (hcr : cr G (m + j) σ) (hj : 1 ≤ j ∧ n ≤ 4 * j ∧ n ≤ 65536) {K : Nat → am_S → Prop} (h : ∀ F1 σ1 b, FE F F1 → XS F1 D ξ σ1 → F1 b = some (.inl (τ, n, .inr (.inr (.inr (.inr fun _ => none))))) → cr G m σ1 → K b σ1) : f_na G σ τ f_a0r x K := by
  refine ⟨n, hx, hj.2.2, by have := hcr.1; omega, by have := hcr.2.1; omega, ?_⟩
  obtain ⟨H1, hF1⟩ := H.newF (e := .inl (τ, f_a0r n)) (N := n) tf_arr
  refine h _ _ _ (fzF_FE hF1) H1 fzF_s ⟨?_, ?_, ?_⟩
  · have := hcr.1
    show σ.2.1 + 1 + m ≤ _
    omega
  · have := hcr.2.1
    show σ.2.2 + n + 4 * m ≤ _
    omega
  · have := hcr.2.2
    show am_z G ≤ σ.2.1 + 1
    omega
end
