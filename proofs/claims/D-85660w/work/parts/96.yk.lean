set_option maxRecDepth 100000
/-! ===== X: the drafts of a pond that is read ===== -/
abbrev fmP : Int32 × Int32 × Int32 → Int32 := fun f => f.2.2
/-- what is above, by name -/
def abN (L : List Kd) (o : Option Nat) : Int32 := match o with
  | none => -1
  | some u => match L[u]? with
    | none => -1
    | some kd => kN kd
/-- Rows of drafts: the kinds L -/
def PW (G : am_G) (F : am_H) (D : xs_D) (ξ : xs_X) (b l : Nat) (e : Option Nat) (cap : Nat) (ds : List (Nat × Nat)) (L : List Kd) : Prop := RW G D ξ b l e cap (ds.map (·.1)) ∧ ds.length = L.length ∧ (∀ (k : Nat) (d : Nat × Nat) (kd : Kd), ds[k]? = some d → L[k]? = some kd → DR F D ξ fmP d.1 d.2 (abN L (kA kd)) kd) ∧ (∀ (k k' : Nat) (d d' : Nat × Nat), k ≠ k' → ds[k]? = some d → ds[k']? = some d' → ∀ q, drR d.1 d.2 q → ¬ drR d'.1 d'.2 q) ∧ ∀ (k : Nat) (d : Nat × Nat), ds[k]? = some d → ∀ q, rwR b l e q → ¬ drR d.1 d.2 q
theorem DR.has {F : am_H} {D : xs_D} {ξ : xs_X} {fm : Int32 × Int32 × Int32 → Int32} {a c : Nat} {ab : Int32} {kd : Kd} (h : DR F D ξ fm a c ab kd) {q : Nat} (hq : drR a c q) : D.2.2 q ∧ 2000 ≤ q := by
  rcases hq with e | ⟨h1, h2⟩
  · rw [e]; exact ⟨h.2.1.1, by omega⟩
  · have := (h.2.2.1 (q - (2000 + c)) (by omega)).2.1.1
    rw [show 2000 + (c + (q - (2000 + c))) = q by omega] at this
    exact ⟨this, by omega⟩
theorem RW.has {G : am_G} {D : xs_D} {ξ : xs_X} {b l : Nat} {e : Option Nat} {cap : Nat} {ws : List Nat} (h : RW G D ξ b l e cap ws) {q : Nat} (hq : rwR b l e q) : D.2.2 q ∧ 2000 ≤ q := by
  rcases hq with e1 | e1 | ⟨a, e1, e2⟩
  · rw [e1]; exact ⟨h.1.1, by omega⟩
  · rw [e1]; exact ⟨h.2.1.1, by omega⟩
  · subst e1
    rw [e2]
    exact ⟨h.2.2.2.2.2.2.2.2.1.1, by omega⟩
/-- the roles of Rows of drafts -/
def pwR (b l : Nat) (e : Option Nat) (ds : List (Nat × Nat)) (q : Nat) : Prop := rwR b l e q ∨ ∃ (k : Nat) (d : Nat × Nat), ds[k]? = some d ∧ drR d.1 d.2 q
section
variable {G : am_G} {d m : Nat} {F : am_H} {D : xs_D} {ξ : xs_X} {σ : am_S} {b l : Nat} {e : Option Nat} {cap : Nat} {ds : List (Nat × Nat)} {L : List Kd}
theorem PW.up {F1 : am_H} {D1 : xs_D} {ξ1 : xs_X} (h : PW G F D ξ b l e cap ds L) (hF : FE F F1) (hD : XD D D1) (hs : ∀ q, pwR b l e ds q → sc ξ ξ1 q) : PW G F1 D1 ξ1 b l e cap ds L := by
  obtain ⟨a1, a2, a3, a4, a5⟩ := h
  exact ⟨a1.up hD fun q hq => hs q (Or.inl hq), a2, fun k d kd h1 h2 => (a3 k d kd h1 h2).up hF hD fun q hq => hs q (Or.inr ⟨k, d, h1, hq⟩), a4, a5⟩
theorem PW.has (h : PW G F D ξ b l e cap ds L) {q : Nat} (hq : pwR b l e ds q) : D.2.2 q ∧ 2000 ≤ q := by
  obtain ⟨a1, a2, a3, a4, a5⟩ := h
  rcases hq with hq | ⟨k, d, h1, h2⟩
  · exact a1.has hq
  · have hk : k < L.length := by
      have := (List.getElem?_eq_some_iff.mp h1).1
      omega
    exact (a3 k d _ h1 (List.getElem?_eq_getElem hk)).has h2
theorem PW.pf {F1 : am_H} {ξ1 : xs_X} (h : PW G F D ξ b l e cap ds L) (hp : pf D F ξ F1 ξ1) : PW G F1 D ξ1 b l e cap ds L := h.up hp.1 XD.refl fun q hq => by
  obtain ⟨h1, h2⟩ := h.has hq
  refine hp.2.1 q h1 fun h9 => ?_
  have : q = 0 ∨ q = 1 ∨ q = 4 ∨ q = 6 := by simpa using h9
  omega
theorem PW.get (h : PW G F D ξ b l e cap ds L) {k : Nat} {kd : Kd} (hk : L[k]? = some kd) : ∃ dd, ds[k]? = some dd ∧ (ds.map (·.1))[k]? = some dd.1 ∧ DR F D ξ fmP dd.1 dd.2 (abN L (kA kd)) kd := by
  obtain ⟨a1, a2, a3, a4, a5⟩ := h
  have hk' : k < ds.length := by
    have := (List.getElem?_eq_some_iff.mp hk).1
    omega
  refine ⟨ds[k], List.getElem?_eq_getElem hk', ?_, a3 k _ kd (List.getElem?_eq_getElem hk') hk⟩
  rw [List.getElem?_map, List.getElem?_eq_getElem hk']
  rfl
/-- the draft of a name -/
theorem X_draft_l (H : XS F D ξ σ) (h : PW G F D ξ b l e cap ds L) (hL : L.length ≤ 12) {x : Int32} {Q : Option Nat → am_S → Prop} (hQ : ∀ o, ixK L x = o → (∀ k, o = some k → ∀ dd, ds[k]? = some dd → Q (some dd.1) σ) ∧ (o = none → Q none σ)) : ∀ (l' : List Kd) (j : Nat) {y : Int32}, y = nI j → j + l'.length = L.length → (∀ q, l'[q]? = L[j + q]?) → ixK L x = (ixf kN x l').map (· + j) → B_X0_draft_2 G (d + 5) (some b) x y σ Q
  | [], j, y, hy, hj, he, hx => by
    subst hy
    have hj : j = L.length := by simpa using hj
    refine B_X0_draft_2_f (x_o H h.1.1 (by decide) (X_rowsSize (d := d + 3) H h.1 ⟨fun _ => (hQ _ hx).2 rfl, fun c => absurd (nI_le ?_ ?_) c⟩))
    · rw [List.length_map, h.2.1]; omega
    · omega
  | f :: l', j, y, hy, hj, he, hx => by
    subst hy
    have hj' : j < L.length := by simp at hj; omega
    have h0 : L[j]? = some f := by
      have := he 0
      simpa using this.symm
    obtain ⟨dd, g1, g2, g3⟩ := h.get h0
    refine B_X0_draft_2_f (x_o H h.1.1 (by decide) (X_rowsSize (d := d + 3) H h.1 ⟨fun c => absurd c (nI_ge ?_ ?_), fun _ => x_o H h.1.1 (by decide) (X_rowsGet (d := d) H h.1 rfl g2 ?_)⟩))
    · rw [List.length_map, h.2.1]; exact hj'
    · rw [List.length_map, h.2.1]; omega
    refine x_k H g3.2.1 (by decide) (x_gi H g3.2.1 (by decide) g3.2.2.2.1 ⟨fun hne => ?_, fun heq => x_o H h.1.1 (by decide) (X_rowsGet (d := d) H h.1 rfl g2 (x_k H g3.2.1 (by decide) ?_))⟩)
    · refine X_draft_l H h hL hQ l' (j + 1) (nI_1 j) (by simp at hj; omega) (fun q => ?_) ?_
      · have := he (q + 1)
        rw [show j + 1 + q = j + (q + 1) by omega, ← this]
        simp
      · rw [show ixf kN x (f :: l') = if kN f = x then some 0 else (ixf kN x l').map (· + 1) from rfl, if_neg hne, Option.map_map] at hx
        have e : ((· + j) ∘ (· + 1) : Nat → Nat) = (· + (j + 1)) := by funext q; show q + 1 + j = q + (j + 1); omega
        rw [e] at hx
        exact hx
    · rw [show ixf kN x (f :: l') = if kN f = x then some 0 else (ixf kN x l').map (· + 1) from rfl, if_pos heq] at hx
      refine (hQ _ hx).1 (0 + j) rfl dd ?_
      rw [Nat.zero_add]
      exact g1
theorem X_draft (H : XS F D ξ σ) (h : PW G F D ξ b l e cap ds L) (hL : L.length ≤ 12) {x : Int32} {Q : Option Nat → am_S → Prop} (hy : ∀ k dd kd, ixK L x = some k → ds[k]? = some dd → L[k]? = some kd → DR F D ξ fmP dd.1 dd.2 (abN L (kA kd)) kd → Q (some dd.1) σ) (hn : ixK L x = none → Q none σ) : W_X0_draft G (d + 5) (some b) x σ Q := by
  refine W_X0_draft_f (d := d + 4) (X_draft_l (d := d) H h hL (fun o ho => ⟨fun k hk dd hd => ?_, fun hk => hn (ho.trans hk)⟩) L 0 rfl (by omega) (fun q => by rw [Nat.zero_add]) ?_)
  · have hk' : ixK L x = some k := ho.trans hk
    have hlt := ixf_lt hk'
    have hkd : L[k]? = some L[k] := List.getElem?_eq_getElem hlt
    exact hy k dd _ hk' hd hkd (h.2.2.1 k dd _ hd hkd)
  · have : (fun q => q + 0 : Nat → Nat) = id := by funext q; rfl
    rw [this, Option.map_id]
    rfl
/-- a name held above, in what is above o -/
theorem X_isAbove_l (H : XS F D ξ σ) (h : PW G F D ξ b l e cap ds L) (hL : L.length ≤ 12) (hu : ∀ (i j : Nat) (ki kj : Kd), L[i]? = some ki → L[j]? = some kj → kN ki = kN kj → i = j) {x : Int32} {Q : Int32 → am_S → Prop} (hneg : ∀ (k : Nat) (kd : Kd), L[k]? = some kd → ¬ kN kd = -1) {a : Nat} : ∀ (f : Nat) (o : Option Nat) {y : Int32}, ac L f o → y = abN L o → Q (if (upK L (hasO x) f o).isSome = true then 1 else 0) σ → B_X4_isAbove_6 G (d + 6) a (some b) x y σ Q
  | _, none, y, ha, hy, hQ => by
    subst hy
    refine B_X4_isAbove_6_f ⟨fun _ => ?_, fun c => absurd rfl c⟩
    unfold upK at hQ
    exact hQ
  | 0, some u, y, ha, hy, hQ => ha.elim
  | f + 1, some u, y, ha, hy, hQ => by
    obtain ⟨kd, hk, ha'⟩ := ha
    have hy' : y = kN kd := by rw [hy]; unfold abN; simp only [hk]
    subst hy'
    have hne := hneg u kd hk
    refine B_X4_isAbove_6_f ⟨fun c => absurd c hne, fun _ => X_draft (d := d) H h hL (fun k dd kd' e1 e2 e3 e4 => ?_) fun e1 => ?_⟩
    · obtain ⟨g, g1, g2⟩ := ixf_some e1
      have hku : k = u := hu k u g kd g1 hk g2
      subst hku
      rw [hk] at e3
      cases e3
      refine x_o H e4.2.1 (by decide) (X_drHolds (d := d + 3) H e4 ?_)
      have hup : upK L (hasO x) (f + 1) (some k) = if hasO x kd = true then some k else upK L (hasO x) f (kA kd) := by
        show (match L[k]? with
          | none => none
          | some kd => if hasO x kd = true then some k else upK L (hasO x) f (kA kd)) = _
        rw [hk]
      rw [hup] at hQ
      by_cases hh : hasO x kd = true
      · rw [if_pos hh]
        rw [if_pos hh] at hQ
        exact ⟨fun c => absurd c (by decide), fun _ => hQ⟩
      · rw [if_neg hh]
        rw [if_neg hh] at hQ
        exact ⟨fun _ => x_gi H e4.2.1 (by decide) e4.2.2.2.2.1 (X_isAbove_l H h hL hu hneg f (kA kd) ha' rfl hQ), fun c => absurd rfl c⟩
    · exact absurd rfl (ixf_none e1 kd (List.mem_of_getElem? hk))
end
