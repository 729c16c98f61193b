set_option maxRecDepth 100000
theorem addM_h {kd : Kd} {m : Mem} : (addM kd m).1 = kd.1 := by
  unfold addM
  split
  · rfl
  · split <;> rfl
theorem addK_get {L : List Kd} {k : Nat} {kd : Kd} {m : Mem} (hk : L[k]? = some kd) {j : Nat} : (addK L k m)[j]? = if j = k then some (addM kd m) else L[j]? := by
  have hlt := (List.getElem?_eq_some_iff.mp hk).1
  unfold addK
  rw [hk]
  dsimp only
  by_cases hj : j = k
  · subst hj
    rw [if_pos rfl, List.getElem?_set_self hlt]
  · rw [if_neg hj, List.getElem?_set_ne (Ne.symm hj)]
theorem abN_addK {L : List Kd} {k : Nat} {kd : Kd} {m : Mem} (hk : L[k]? = some kd) (o : Option Nat) : abN (addK L k m) o = abN L o := by
  cases o with
  | none => rfl
  | some u =>
    unfold abN
    dsimp only
    rw [addK_get hk]
    by_cases hu : u = k
    · subst hu
      rw [if_pos rfl, hk]
      show (addM kd m).1.1 = kd.1.1
      rw [addM_h]
    · rw [if_neg hu]
section
variable {G : am_G} {F : am_H} {D : xs_D} {ξ : xs_X} {b l : Nat} {e : Option Nat} {cap : Nat} {ds : List (Nat × Nat)} {L : List Kd}
theorem PW.add {ξ1 : xs_X} (h : PW G F D ξ b l e cap ds L) {k : Nat} {kd : Kd} {dd : Nat × Nat} {m : Mem} (hk : L[k]? = some kd) (hdk : ds[k]? = some dd) (hD : DR F D ξ1 fmP dd.1 dd.2 (abN L (kA kd)) (addM kd m)) (hs : ∀ q, ¬ drR dd.1 dd.2 q → sc ξ ξ1 q) : PW G F D ξ1 b l e cap ds (addK L k m) := by
  obtain ⟨a1, a2, a3, a4, a5⟩ := h
  refine ⟨a1.up XD.refl fun q hq => hs q (a5 k dd hdk q hq), ?_, fun j d' kd' h1 h2 => ?_, a4, a5⟩
  · rw [a2]
    unfold addK
    rw [hk]
    exact List.length_set.symm
  · rw [addK_get hk] at h2
    rw [abN_addK hk]
    by_cases hj : j = k
    · subst hj
      rw [if_pos rfl] at h2
      cases h2
      rw [hdk] at h1
      cases h1
      have : kA (addM kd m) = kA kd := by show (addM kd m).1.2.1 = _; rw [addM_h]
      rw [this]
      exact hD
    · rw [if_neg hj] at h2
      exact (a3 j d' kd' h1 h2).up FE.refl XD.refl fun q hq => hs q (a4 j k d' dd hj h1 hdk q hq)
end
theorem ps_b_ok {α β : Type} {r : ps_R α} {f : α → Nat → ps_N → ps_R β} {b : β} {p' : Nat} {N' : ps_N} (h : ps_b r f = ps_ok b p' N') : ∃ a p1 N1, r = ps_ok a p1 N1 ∧ f a p1 N1 = ps_ok b p' N' := by
  rcases r with ⟨e | ⟨a, p⟩, N⟩
  · cases h
  · exact ⟨a, p, N, rfl, h⟩
theorem ps_ok_inj {α : Type} {a b : α} {p q : Nat} {N M : ps_N} (h : ps_ok a p N = ps_ok b q M) : a = b ∧ p = q ∧ N = M := by
  unfold ps_ok at h
  injection h with h1 h2
  injection h1 with h1
  injection h1 with h1 h3
  exact ⟨h1, h3, h2⟩
theorem ps_mrest_ok {T : Nat → Int32} {t : Int32} {nm p p' : Nat} {N N' : ps_N} {m : Mem} (h : ps_mrest T t nm p N = ps_ok m p' N') : m.1 = msort t ∧ m.2.1 = nI nm := by
  unfold ps_mrest at h
  by_cases h5 : t = 105
  · rw [if_pos h5] at h
    obtain ⟨a, p1, N1, -, e⟩ := ps_b_ok h
    obtain ⟨e, -⟩ := ps_ok_inj e
    rw [← e, msort_2 h5]
    exact ⟨rfl, rfl⟩
  · rw [if_neg h5] at h
    by_cases h3 : t = 103
    · rw [if_pos h3] at h
      obtain ⟨a, p1, N1, -, e⟩ := ps_b_ok h
      obtain ⟨e, -⟩ := ps_ok_inj e
      rw [← e, h3]
      exact ⟨rfl, rfl⟩
    · rw [if_neg h3] at h
      obtain ⟨a, p1, N1, -, e⟩ := ps_b_ok h
      obtain ⟨a2, p2, N2, -, e⟩ := ps_b_ok e
      obtain ⟨a3, p3, N3, -, e⟩ := ps_b_ok e
      obtain ⟨e, -⟩ := ps_ok_inj e
      rw [← e]
      exact ⟨rfl, rfl⟩
theorem ps_mem_ok {T : Nat → Int32} {chk : Nat → Int32 → Option Int32} {p p' : Nat} {N N' : ps_N} {m : Mem} (h : ps_mem T chk p N = ps_ok m p' N') : chk m.1 m.2.1 = none := by
  unfold ps_mem at h
  by_cases hm : ¬ (102 ≤ lxt T p ∧ lxt T p ≤ 105)
  · rw [if_pos hm] at h
    cases h
  · rw [if_neg hm] at h
    obtain ⟨nm, p1, N1, -, e⟩ := ps_b_ok h
    cases hc : chk (msort (lxt T p)) (nI nm) with
    | some kd => rw [hc] at e; cases e
    | none =>
      rw [hc] at e
      obtain ⟨e1, e2⟩ := ps_mrest_ok e
      rw [e1, e2]
      exact hc
/-- the kinds so far: few, each above is earlier, names are names and differ -/
def KW (L : List Kd) : Prop := L.length ≤ 12 ∧ decL L ∧ (∀ (i j : Nat) (ki kj : Kd), L[i]? = some ki → L[j]? = some kj → kN ki = kN kj → i = j) ∧ ∀ (k : Nat) (kd : Kd), L[k]? = some kd → ¬ kN kd = -1
theorem KW.add {L : List Kd} {k : Nat} {kd : Kd} {m : Mem} (h : KW L) (hk : L[k]? = some kd) : KW (addK L k m) := by
  obtain ⟨h1, h2, h3, h4⟩ := h
  have hn : ∀ (j : Nat) (kj : Kd), (addK L k m)[j]? = some kj → ∃ kj', L[j]? = some kj' ∧ kN kj = kN kj' := fun j kj hj => by
    rw [addK_get hk] at hj
    by_cases hjk : j = k
    · subst hjk
      rw [if_pos rfl] at hj
      cases hj
      exact ⟨kd, hk, by show (addM kd m).1.1 = _; rw [addM_h]⟩
    · rw [if_neg hjk] at hj
      exact ⟨kj, hj, rfl⟩
  refine ⟨by rw [addK_len]; exact h1, h2.addM, fun i j ki kj hi hj he => ?_, fun j kj hj => ?_⟩
  · obtain ⟨ki', e1, e2⟩ := hn i ki hi
    obtain ⟨kj', e3, e4⟩ := hn j kj hj
    exact h3 i j ki' kj' e1 e3 (by rw [← e2, ← e4]; exact he)
  · obtain ⟨kj', e3, e4⟩ := hn j kj hj
    rw [e4]
    exact h4 j kj' e3
