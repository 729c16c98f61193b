set_option maxRecDepth 100000
/-! ===== X: kinds made of drafts ===== -/
/-- what is above a kind, by where things lie -/
def abO (o : Nat → Option Nat) (kd : Kd) : Option Nat := (kA kd).bind o
/-- kinds lie at these addresses -/
def WX (F : am_H) (as : List Nat) (L : List Kd) : Prop := as.length = L.length ∧ ∀ (k : Nat) (kd : Kd) (a : Nat), L[k]? = some kd → as[k]? = some a → KP F a (abO (fun u => as[u]?) kd) kd
theorem WX.mono {F F1 : am_H} {as : List Nat} {L : List Kd} (h : WX F as L) (hF : FE F F1) : WX F1 as L := ⟨h.1, fun k kd a h1 h2 => (h.2 k kd a h1 h2).mono hF⟩
/-- an array of kinds -/
def kAr (F : am_H) (w : Nat) (as : List Nat) : Prop := ∃ g : Nat → Option Nat, F w = some (.inl (9, as.length, .inr (.inr (.inr (.inr g))))) ∧ ∀ (k : Nat) (a : Nat), as[k]? = some a → g k = some a
theorem kAr.mono {F F1 : am_H} {w : Nat} {as : List Nat} (h : kAr F w as) (hF : FE F F1) : kAr F1 w as := by
  obtain ⟨g, h1, h2⟩ := h
  exact ⟨g, hF _ _ h1, h2⟩
/-- a kind stays as it was -/
def mdS (as0 : List Nat) (L0 : List Kd) (kd : Kd) (ab' : Option Nat) (v : Nat) : Prop := kC kd = false ∧ ∃ o kd0, ixK L0 (kN kd) = some o ∧ L0[o]? = some kd0 ∧ as0[o]? = some v ∧ abO (fun u => as0[u]?) kd0 = ab'
/-- a kind is made, or stays -/
def MDk (F0 F : am_H) (as0 : List Nat) (L0 : List Kd) (gg : Int32) (kd : Kd) (ab' : Option Nat) (v : Nat) : Prop := mdS as0 L0 kd ab' v ∨ ((∀ v', ¬ mdS as0 L0 kd ab' v') ∧ F0 v = none ∧ KP F v ab' ((kN kd, kA kd, gg, kC kd, kO kd), kd.2))
theorem MDk.mono {F0 F F1 : am_H} {as0 : List Nat} {L0 : List Kd} {gg : Int32} {kd : Kd} {ab' : Option Nat} {v : Nat} (h : MDk F0 F as0 L0 gg kd ab' v) (hF : FE F F1) : MDk F0 F1 as0 L0 gg kd ab' v := by
  rcases h with h | ⟨h1, h2, h3⟩
  · exact Or.inl h
  · exact Or.inr ⟨h1, h2, h3.mono hF⟩
/-- those made so far -/
def MDi (F0 F : am_H) (as0 : List Nat) (L0 : List Kd) (gg : Int32) (L : List Kd) (o : Nat → Option Nat) : Prop := ∀ (k : Nat) (kd : Kd) (v : Nat), L[k]? = some kd → o k = some v → (∀ u, kA kd = some u → ∃ v', o u = some v') ∧ MDk F0 F as0 L0 gg kd (abO o kd) v
def oup (o : Nat → Option Nat) (k v : Nat) : Nat → Option Nat := fun q => if q = k then some v else o q
theorem abO_oup {o : Nat → Option Nat} {k v : Nat} {kd : Kd} (hk : o k = none) (h : ∀ u, kA kd = some u → ∃ v', o u = some v') : abO (oup o k v) kd = abO o kd := by
  unfold abO
  cases hA : kA kd with
  | none => rfl
  | some u =>
    obtain ⟨v', hv'⟩ := h u hA
    show oup o k v u = o u
    unfold oup
    rw [if_neg (fun e => by rw [e, hk] at hv'; cases hv')]
theorem MDi.upd {F0 F F1 : am_H} {as0 : List Nat} {L0 : List Kd} {gg : Int32} {L : List Kd} {o : Nat → Option Nat} (h : MDi F0 F as0 L0 gg L o) (hF : FE F F1) {k v : Nat} {kd : Kd} (hk : L[k]? = some kd) (ho : o k = none) (hab : ∀ u, kA kd = some u → ∃ v', o u = some v') (hm : MDk F0 F1 as0 L0 gg kd (abO o kd) v) : MDi F0 F1 as0 L0 gg L (oup o k v) := fun k' kd' v' h1 h2 => by
  have hup : ∀ {x : Kd}, (∀ u, kA x = some u → ∃ v', o u = some v') → ∀ u, kA x = some u → ∃ v', oup o k v u = some v' := fun hx u hu => by
    obtain ⟨v9, hv9⟩ := hx u hu
    exact ⟨v9, by unfold oup; rw [if_neg (fun e => by rw [e, ho] at hv9; cases hv9)]; exact hv9⟩
  by_cases hkk : k' = k
  · subst hkk
    rw [hk] at h1
    cases h1
    have : v' = v := by
      unfold oup at h2
      rw [if_pos rfl] at h2
      cases h2
      rfl
    subst this
    exact ⟨hup hab, by rw [abO_oup ho hab]; exact hm⟩
  · have h2' : o k' = some v' := by
      unfold oup at h2
      rw [if_neg hkk] at h2
      exact h2
    obtain ⟨a1, a2⟩ := h k' kd' v' h1 h2'
    exact ⟨hup a1, by rw [abO_oup ho a1]; exact a2.mono hF⟩
/-- how many are none yet -/
def cntN (o : Nat → Option Nat) : Nat → Nat
  | 0 => 0
  | n + 1 => cntN o n + if o n = none then 1 else 0
theorem cntN_oup {o : Nat → Option Nat} {k v : Nat} (ho : o k = none) : ∀ n, k < n → cntN (oup o k v) n + 1 = cntN o n
  | 0, h => absurd h (by omega)
  | n + 1, h => by
    have hlow : ∀ j, j ≤ k → cntN (oup o k v) j = cntN o j := fun j => by
      induction j with
      | zero => exact fun _ => rfl
      | succ j ih =>
        intro hj
        unfold cntN
        rw [ih (by omega), show oup o k v j = o j by unfold oup; rw [if_neg (by omega)]]
    by_cases hkn : k = n
    · subst hkn
      unfold cntN
      rw [hlow k (Nat.le_refl _), ho, if_pos rfl, show oup o k v k = some v by unfold oup; rw [if_pos rfl], if_neg (by simp)]
    · have := cntN_oup (v := v) ho n (by omega)
      unfold cntN
      rw [show oup o k v n = o n by unfold oup; rw [if_neg (by omega)]]
      omega
theorem cntN_0 {o : Nat → Option Nat} : ∀ n, cntN o n = 0 → ∀ k, k < n → ∃ v, o k = some v
  | 0, _, k, h => absurd h (by omega)
  | n + 1, h0, k, h => by
    unfold cntN at h0
    cases hn : o n with
    | none => rw [hn, if_pos rfl] at h0; omega
    | some v =>
      by_cases hk : k = n
      · rw [hk]; exact ⟨v, hn⟩
      · exact cntN_0 n (by omega) k (by omega)
theorem cntN_le {o : Nat → Option Nat} : ∀ n, cntN o n ≤ n
  | 0 => Nat.le_refl _
  | n + 1 => by
    have := cntN_le (o := o) n
    unfold cntN
    split <;> omega
theorem cntN_all {o : Nat → Option Nat} (h : ∀ q, o q = none) : ∀ n, cntN o n = n
  | 0 => rfl
  | n + 1 => by
    unfold cntN
    rw [cntN_all h n, h n, if_pos rfl]
theorem cntN_pos {o : Nat → Option Nat} : ∀ n, cntN o n ≠ 0 → ∃ k, k < n ∧ o k = none
  | 0, h => absurd rfl h
  | n + 1, h => by
    by_cases hn : o n = none
    · exact ⟨n, by omega, hn⟩
    · unfold cntN at h
      rw [if_neg hn] at h
      obtain ⟨k, h1, h2⟩ := cntN_pos n (by omega)
      exact ⟨k, by omega, h2⟩
/-- one can be made -/
theorem mk_next {L : List Kd} {o : Nat → Option Nat} : ∀ (f k : Nat), ac L f (some k) → o k = none → ∃ k' kd', L[k']? = some kd' ∧ o k' = none ∧ ∀ u, kA kd' = some u → ∃ v, o u = some v
  | 0, _, h, _ => h.elim
  | f + 1, k, h, ho => by
    obtain ⟨kd, h1, h2⟩ := h
    cases hA : kA kd with
    | none => exact ⟨k, kd, h1, ho, fun u hu => by rw [hA] at hu; cases hu⟩
    | some u =>
      rw [hA] at h2
      cases hu : o u with
      | none => exact mk_next f u h2 hu
      | some v => exact ⟨k, kd, h1, ho, fun u' hu' => by rw [hA] at hu'; cases hu'; exact ⟨v, hu⟩⟩
section
variable {G : am_G} {d m : Nat} {F : am_H} {D : xs_D} {ξ : xs_X} {σ : am_S}
/-- the kind of a name in an array -/
theorem X_findK_l (H : XS F D ξ σ) {w : Nat} {as : List Nat} {L : List Kd} (hA : kAr F w as) (hW : WX F as L) (hl : L.length < 1000) {x : Int32} {Q : Int32 → am_S → Prop} : ∀ (l' : List Kd) (j : Nat) {y : Int32}, y = nI j → j + l'.length = L.length → (∀ q : Nat, l'[q]? = L[j + q]?) → Q (oI ((ixf kN x l').map (· + j))) σ → B_X0_find_2 G d (some w) x y σ Q
  | [], j, y, hy, hj, hq, h => by
    subst hy
    obtain ⟨g, g1, g2⟩ := hA
    have hjl : as.length = j := by rw [hW.1, ← hj]; rfl
    exact B_X0_find_2_f (z_al H g1 ⟨fun _ => h, fun c => absurd (nI_le (a := as.length) (b := j) (by omega) (by have := hW.1; omega)) c⟩)
  | kd :: l', j, y, hy, hj, hq, h => by
    subst hy
    have hlen : as.length = L.length := hW.1
    have hjl : j < as.length := by rw [hlen, ← hj]; show j < j + (l'.length + 1); omega
    have hk : L[j]? = some kd := by have := hq 0; rw [Nat.add_zero] at this; exact this.symm
    obtain ⟨a, ha⟩ : ∃ a, as[j]? = some a := ⟨_, List.getElem?_eq_getElem hjl⟩
    obtain ⟨f, c3, c4, c5, c6, c7, c8, g3, g4, g5, g6, g7, g8, k1, k2, k3⟩ := hW.2 j kd a hk ha
    have hA' := hA
    obtain ⟨g, g1, g2⟩ := hA
    refine B_X0_find_2_f (z_al H g1 ⟨fun c => absurd c (nI_ge hjl (by omega)), fun _ => z_ar H g1 rfl hjl (by omega) (g2 j a ha) (z_gi H k1 (by decide) k2 ⟨fun hne => ?_, fun he => ?_⟩)⟩)
    · refine X_findK_l H hA' hW hl l' (j + 1) (nI_1 j) (by rw [← hj]; show j + 1 + l'.length = j + (l'.length + 1); omega) (fun q => ?_) ?_
      · have := hq (q + 1)
        rw [show j + (q + 1) = j + 1 + q by omega] at this
        exact this
      · unfold ixf at h
        rw [if_neg hne] at h
        rw [Option.map_map] at h
        rw [show ((fun x => x + j) ∘ fun x => x + 1) = (fun x => x + (j + 1)) from by funext q; show q + 1 + j = q + (j + 1); omega] at h
        exact h
    · unfold ixf at h
      rw [if_pos he] at h
      rw [show (some 0).map (fun x => x + j) = some j from by show some (0 + j) = _; rw [Nat.zero_add]] at h
      exact h
theorem X_findK (H : XS F D ξ σ) {w : Nat} {as : List Nat} {L : List Kd} (hA : kAr F w as) (hW : WX F as L) (hl : L.length < 1000) {x : Int32} {Q : Int32 → am_S → Prop} (hQ : Q (oI (ixK L x)) σ) : W_X0_find G d (some w) x σ Q := by
  refine W_X0_find_f (X_findK_l H hA hW hl L 0 rfl (by omega) (fun q => by rw [Nat.zero_add]) ?_)
  rw [show (ixf kN x L).map (fun x => x + 0) = ixK L x from by cases h : ixf kN x L <;> simp [ixK, h]]
  exact hQ
/-- the place of a draft -/
theorem X_place (H : XS F D ξ σ) {b l cap : Nat} {e : Option Nat} {ds : List (Nat × Nat)} {L : List Kd} (hW : PW G F D ξ b l e cap ds L) (hL : L.length ≤ 12) (hu : ∀ (i j : Nat) (ki kj : Kd), L[i]? = some ki → L[j]? = some kj → kN ki = kN kj → i = j) {u : Nat} {kd : Kd} (hk : L[u]? = some kd) {x : Int32} (hx : x = kN kd) {Q : Int32 → am_S → Prop} (hQ : Q (nI u) σ) : W_X0_place G (d + 5) (some b) x σ Q := by
  subst hx
  have hul := get_lt hk
  have go : ∀ (f j : Nat) {y : Int32}, j + f = u → y = nI j → B_X0_place_2 G (d + 5) (some b) (kN kd) y σ Q := fun f => by
    induction f with
    | zero =>
      intro j y hj hy
      subst hy
      have hju : j = u := by omega
      subst hju
      obtain ⟨dd, h1, h2, h3⟩ := hW.get hk
      refine B_X0_place_2_f (x_o H hW.1.1 (by decide) (X_rowsGet (d := d) H hW.1 rfl h2 (x_k H h3.2.1 (by decide) (x_gi H h3.2.1 (by decide) h3.2.2.2.1 ⟨fun _ => hQ, fun c => absurd rfl c⟩))))
    | succ f ih =>
      intro j y hj hy
      subst hy
      have hjl : j < L.length := by omega
      have hkj : L[j]? = some L[j] := List.getElem?_eq_getElem hjl
      obtain ⟨dd, h1, h2, h3⟩ := hW.get hkj
      refine B_X0_place_2_f (x_o H hW.1.1 (by decide) (X_rowsGet (d := d) H hW.1 rfl h2 (x_k H h3.2.1 (by decide) (x_gi H h3.2.1 (by decide) h3.2.2.2.1 ⟨fun c => ?_, fun _ => ih (j + 1) (by omega) (nI_1 j)⟩))))
      have := hu j u _ _ hkj hk c
      omega
  exact W_X0_place_f (go u 0 (by omega) rfl)
end
