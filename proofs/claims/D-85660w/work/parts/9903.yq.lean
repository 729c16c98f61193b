set_option maxRecDepth 100000
theorem abN_app {L : List Kd} {x : Kd} {o : Option Nat} (h : ∀ u, o = some u → u < L.length) : abN (L ++ [x]) o = abN L o := by
  cases o with
  | none => rfl
  | some u =>
    unfold abN
    dsimp only
    rw [List.getElem?_append_left (h u rfl)]
theorem PW.app {G : am_G} {F : am_H} {D3 D4 : xs_D} {ξ3 ξ4 : xs_X} {b l cap cap' a c : Nat} {e e' : Option Nat} {ds : List (Nat × Nat)} {L : List Kd} {nm : Int32} {ab : Option Nat} (h : PW G F D3 ξ3 b l e cap ds L) (hD : DR F D3 ξ3 fmP a c (abN L ab) (newK nm ab)) (hnew : ∀ q, drR a c q → ¬ pwR b l e ds q) (xd : XD D3 D4) (he : e' = e ∨ ∃ t, e' = some t ∧ ¬ D3.2.2 (2000 + t)) (hR : RW G D4 ξ4 b l e' cap' (ds.map (·.1) ++ [a])) (hs : ∀ q, D3.2.2 q → ¬ rwR b l e q → sc ξ3 ξ4 q) (hdec : decL L) (hab : ∀ u, ab = some u → u < L.length) : PW G F D4 ξ4 b l e' cap' (ds ++ [(a, c)]) (L ++ [newK nm ab]) := by
  have hrw : ∀ q, D3.2.2 q → rwR b l e' q → rwR b l e q := fun q hq hr => by
    rcases he with e1 | ⟨t, e1, e2⟩
    · rw [← e1]; exact hr
    · rcases hr with h1 | h1 | ⟨t', h1, h2⟩
      · exact Or.inl h1
      · exact Or.inr (Or.inl h1)
      · rw [e1] at h1
        cases h1
        rw [h2] at hq
        exact absurd hq e2
  have hW := h
  obtain ⟨a1, a2, a3, a4, a5⟩ := h
  have hds : ∀ (k : Nat) (d : Nat × Nat), (ds ++ [(a, c)])[k]? = some d → (k < ds.length ∧ ds[k]? = some d) ∨ (k = ds.length ∧ d = (a, c)) := fun k d h => getApp h
  refine ⟨by rw [List.map_append]; exact hR, by rw [List.length_append, List.length_append, a2]; rfl, fun k d kd h1 h2 => ?_, fun k k' d d' hkk h1 h2 q hq hq' => ?_, fun k d h1 q hq hq' => ?_⟩
  · rcases hds k d h1 with ⟨e1, e2⟩ | ⟨e1, e2⟩
    · rw [List.getElem?_append_left (by omega)] at h2
      rw [abN_app fun u hu => by have := hdec k kd h2 u hu; omega]
      have hd := a3 k d kd e2 h2
      exact hd.up FE.refl xd fun q hq => hs q (hd.has hq).1 fun hr => a5 k d e2 q hr hq
    · subst e2
      have : k = L.length := by omega
      subst this
      rw [List.getElem?_append_right (Nat.le_refl _), Nat.sub_self] at h2
      cases h2
      show DR F D4 ξ4 fmP a c (abN (L ++ [newK nm ab]) ab) (newK nm ab)
      rw [abN_app hab]
      exact hD.up FE.refl xd fun q hq => hs q (hD.has hq).1 fun hr => hnew q hq (Or.inl hr)
  · rcases hds k d h1 with ⟨e1, e2⟩ | ⟨e1, e2⟩
    · rcases hds k' d' h2 with ⟨e3, e4⟩ | ⟨e3, e4⟩
      · exact a4 k k' d d' hkk e2 e4 q hq hq'
      · subst e4
        exact hnew q hq' (Or.inr ⟨k, d, e2, hq⟩)
    · rcases hds k' d' h2 with ⟨e3, e4⟩ | ⟨e3, e4⟩
      · subst e2
        exact hnew q hq (Or.inr ⟨k', d', e4, hq'⟩)
      · omega
  · rcases hds k d h1 with ⟨e1, e2⟩ | ⟨e1, e2⟩
    · have hq3 : D3.2.2 q := (hW.has (Or.inr ⟨k, d, e2, hq'⟩)).1
      exact a5 k d e2 q (hrw q hq3 hq) hq'
    · subst e2
      exact hnew q hq' (Or.inl (hrw q (hD.has hq').1 hq))
