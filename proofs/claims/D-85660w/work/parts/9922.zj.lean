set_option maxRecDepth 100000
/-! ===== X: kinds at work; places of fields ===== -/
/-- the fields of a kind, those from above first: whose, which -/
def plc (L : List Kd) : Nat → Option Nat → List (Nat × (Int32 × Int32 × Int32))
  | _, none => []
  | 0, some _ => []
  | f + 1, some k => match L[k]? with
    | none => []
    | some kd => plc L f (kA kd) ++ (kF kd).map fun x => (k, x)
/-- a field's place -/
def plI (L : List Kd) (n : Int32) : Nat → Option Nat → Option Nat
  | _, none => none
  | 0, some _ => none
  | f + 1, some k => match L[k]? with
    | none => none
    | some kd => match ixF kd n with
      | some i => some ((plc L f (kA kd)).length + i)
      | none => plI L n f (kA kd)
theorem plc_none {L : List Kd} {f : Nat} : plc L f none = [] := by cases f <;> rfl
theorem plI_none {L : List Kd} {n : Int32} {f : Nat} : plI L n f none = none := by cases f <;> rfl
theorem upK_none {L : List Kd} {q : Kd → Bool} {f : Nat} : upK L q f none = none := by cases f <;> rfl
theorem plc_some {L : List Kd} {f k : Nat} {kd : Kd} (h : L[k]? = some kd) : plc L (f + 1) (some k) = plc L f (kA kd) ++ (kF kd).map fun x => (k, x) := by
  show (match L[k]? with | none => [] | some kd => plc L f (kA kd) ++ (kF kd).map fun x => (k, x)) = _
  rw [h]
theorem plI_some {L : List Kd} {n : Int32} {f k : Nat} {kd : Kd} (h : L[k]? = some kd) : plI L n (f + 1) (some k) = match ixF kd n with
      | some i => some ((plc L f (kA kd)).length + i)
      | none => plI L n f (kA kd) := by
  show (match L[k]? with | none => none | some kd => match ixF kd n with
      | some i => some ((plc L f (kA kd)).length + i)
      | none => plI L n f (kA kd)) = _
  rw [h]
theorem upK_some {L : List Kd} {q : Kd → Bool} {f k : Nat} {kd : Kd} (h : L[k]? = some kd) : upK L q (f + 1) (some k) = if q kd = true then some k else upK L q f (kA kd) := by
  show (match L[k]? with | none => none | some kd => if q kd = true then some k else upK L q f (kA kd)) = _
  rw [h]
theorem ac_some {L : List Kd} {f k : Nat} (h : ac L (f + 1) (some k)) : ∃ kd, L[k]? = some kd ∧ ac L f (kA kd) := h
/-- more steps than needed change nothing -/
theorem plc_f {L : List Kd} : ∀ (f : Nat) (o : Option Nat), ac L f o → ∀ g, f ≤ g → plc L g o = plc L f o
  | f, none, _, g, _ => by rw [plc_none, plc_none]
  | 0, some _, h, _, _ => h.elim
  | f + 1, some k, h, g, hg => by
    obtain ⟨kd, h1, h2⟩ := ac_some h
    obtain ⟨g', rfl⟩ : ∃ g', g = g' + 1 := ⟨g - 1, by omega⟩
    rw [plc_some h1, plc_some h1, plc_f f _ h2 g' (by omega)]
theorem plI_f {L : List Kd} {n : Int32} : ∀ (f : Nat) (o : Option Nat), ac L f o → ∀ g, f ≤ g → plI L n g o = plI L n f o
  | f, none, _, g, _ => by rw [plI_none, plI_none]
  | 0, some _, h, _, _ => h.elim
  | f + 1, some k, h, g, hg => by
    obtain ⟨kd, h1, h2⟩ := ac_some h
    obtain ⟨g', rfl⟩ : ∃ g', g = g' + 1 := ⟨g - 1, by omega⟩
    rw [plI_some h1, plI_some h1, plc_f f _ h2 g' (by omega), plI_f f _ h2 g' (by omega)]
theorem upK_f {L : List Kd} {q : Kd → Bool} : ∀ (f : Nat) (o : Option Nat), ac L f o → ∀ g, f ≤ g → upK L q g o = upK L q f o
  | f, none, _, g, _ => by rw [upK_none, upK_none]
  | 0, some _, h, _, _ => h.elim
  | f + 1, some k, h, g, hg => by
    obtain ⟨kd, h1, h2⟩ := ac_some h
    obtain ⟨g', rfl⟩ : ∃ g', g = g' + 1 := ⟨g - 1, by omega⟩
    rw [upK_some h1, upK_some h1, upK_f f _ h2 g' (by omega)]
/-- a field has a place exactly if some kind up has it -/
theorem plI_up {L : List Kd} {n : Int32} : ∀ (f : Nat) (o : Option Nat), ac L f o → (plI L n f o).isSome = (upK L (fun kd => (ixF kd n).isSome) f o).isSome
  | f, none, _ => by rw [plI_none, upK_none]
  | 0, some _, h => h.elim
  | f + 1, some k, h => by
    obtain ⟨kd, h1, h2⟩ := ac_some h
    rw [plI_some h1, upK_some h1]
    cases hx : ixF kd n with
    | some i => rfl
    | none =>
      rw [if_neg (by decide)]
      exact plI_up f _ h2
/-- what lies in a field's place -/
theorem plI_get {L : List Kd} {n : Int32} : ∀ (f : Nat) (o : Option Nat) {p : Nat}, plI L n f o = some p → ∃ u x, (plc L f o)[p]? = some (u, x) ∧ x.1 = n
  | f, none, p, h => by rw [plI_none] at h; cases h
  | 0, some k, p, h => by cases h
  | f + 1, some k, p, h => by
    cases hk : L[k]? with
    | none =>
      have : plI L n (f + 1) (some k) = none := by
        show (match L[k]? with | none => none | some kd => match ixF kd n with
          | some i => some ((plc L f (kA kd)).length + i)
          | none => plI L n f (kA kd)) = _
        rw [hk]
      rw [this] at h
      cases h
    | some kd =>
      rw [plI_some hk] at h
      rw [plc_some hk]
      cases hx : ixF kd n with
      | some i =>
        rw [hx] at h
        injection h with h
        subst h
        obtain ⟨x, x1, x2⟩ := ixf_some hx
        refine ⟨k, x, ?_, x2⟩
        rw [List.getElem?_append_right (by omega), Nat.add_sub_cancel_left, List.getElem?_map, x1]
        rfl
      | none =>
        rw [hx] at h
        have h' : plI L n f (kA kd) = some p := h
        obtain ⟨u, x, x1, x2⟩ := plI_get f _ h'
        refine ⟨u, x, ?_, x2⟩
        rw [List.getElem?_append_left (get_lt x1)]
        exact x1
theorem plc_le {L : List Kd} (hF : ∀ (k : Nat) (kd : Kd), L[k]? = some kd → (kF kd).length ≤ 8) : ∀ (f : Nat) (o : Option Nat), (plc L f o).length ≤ 8 * f
  | f, none => by rw [plc_none]; exact Nat.zero_le _
  | 0, some _ => Nat.le_refl _
  | f + 1, some k => by
    cases hk : L[k]? with
    | none =>
      have : plc L (f + 1) (some k) = [] := by
        show (match L[k]? with | none => [] | some kd => plc L f (kA kd) ++ (kF kd).map fun x => (k, x)) = _
        rw [hk]
      rw [this]
      exact Nat.zero_le _
    | some kd =>
      have h1 := plc_le hF f (kA kd)
      have h2 := hF k kd hk
      rw [plc_some hk, List.length_append, List.length_map]
      omega
section
variable {F : am_H} {as : List Nat} {L : List Kd}
theorem WX.get (hW : WX F as L) {k : Nat} {kd : Kd} (hk : L[k]? = some kd) : ∃ a, as[k]? = some a ∧ KP F a (abO (fun u => as[u]?) kd) kd := by
  have hl := get_lt hk
  refine ⟨as[k]'(by rw [hW.1]; exact hl), List.getElem?_eq_getElem _, hW.2 k kd _ hk (List.getElem?_eq_getElem _)⟩
theorem WX.ab (hW : WX F as L) {kd : Kd} {f : Nat} (h : ac L f (kA kd)) : (kA kd = none ∧ abO (fun u => as[u]?) kd = none) ∨ ∃ u ku a, kA kd = some u ∧ L[u]? = some ku ∧ as[u]? = some a ∧ abO (fun u => as[u]?) kd = some a := by
  unfold abO
  cases hA : kA kd with
  | none => exact Or.inl ⟨rfl, rfl⟩
  | some u =>
    rw [hA] at h
    cases f with
    | zero => exact h.elim
    | succ f =>
      obtain ⟨ku, h1, -⟩ := ac_some h
      obtain ⟨a, h2, -⟩ := hW.get h1
      exact Or.inr ⟨u, ku, a, rfl, h1, h2, h2⟩
theorem WX.F8 (hW : WX F as L) : ∀ (k : Nat) (kd : Kd), L[k]? = some kd → (kF kd).length ≤ 8 := fun k kd hk => by
  obtain ⟨a, h1, h2⟩ := hW.get hk
  obtain ⟨f, c3, c4, c5, c6, c7, c8, g3, g4, g5, g6, g7, g8, k1, k2, k3, k4, k5, k6, k7, k8, k9, k10, k11, k12⟩ := h2
  exact k11.1
end
section
variable {G : am_G} {d : Nat} {F : am_H} {D : xs_D} {ξ : xs_X} {σ : am_S} {as : List Nat} {L : List Kd}
/-- how many fields -/
theorem X_all (H : XS F D ξ σ) (hW : WX F as L) : ∀ (f k a : Nat) {Q : Int32 → am_S → Prop}, f ≤ 12 → ac L f (some k) → as[k]? = some a → Q (nI (plc L f (some k)).length) σ → W_X23_all G (d + f) a σ Q
  | 0, k, a, Q, hf, h, _, _ => h.elim
  | f + 1, k, a, Q, hf, h, ha, hQ => by
    obtain ⟨kd, h1, h2⟩ := ac_some h
    obtain ⟨fv, c3, c4, c5, c6, c7, c8, g3, g4, g5, g6, g7, g8, k1, k2, k3, k4, k5, k6, k7, k8, k9, k10, k11, k12⟩ := hW.2 k kd a h1 ha
    rw [plc_some h1, List.length_append, List.length_map] at hQ
    refine W_X23_all_f (d := d + f) (z_gr H k1 (by decide) k5.1 (z_al H k5.2 (z_gr H k1 (by decide) k4 ?_)))
    rcases hW.ab h2 with ⟨e1, e2⟩ | ⟨u, ku, b, e1, e2, e3, e4⟩
    · rw [e1, plc_none] at hQ
      refine ⟨fun hne => absurd e2 hne, fun _ => ?_⟩
      rw [show nI (kF kd).length + 0 = nI ((kF kd).length + 0) from nI_add _ 0]
      simpa using hQ
    · refine ⟨fun _ => z_gr H k1 (by decide) (k4.trans (by rw [e4])) ?_, fun h9 => by rw [e4] at h9; cases h9⟩
      rw [e1] at h2 hQ
      obtain ⟨fu, d3, d4, d5, d6, d7, d8, j3, j4, j5, j6, j7, j8, l1, l2⟩ := hW.2 u ku b e2 e3
      refine z_o H l1 (by decide) (X_all H hW f u b (by omega) h2 e3 ?_)
      rw [nI_add, Nat.add_comm]
      exact hQ
/-- the search among own fields -/
theorem X_pl21 (H : XS F D ξ σ) {a c3 base : Nat} {fv : Nat → Value} {g3 : Nat → Int32} {kd : Kd} {n : Int32} (k1 : F a = some (.inr (21, fv))) (k5 : fv 3 = va_rf (some c3) ∧ F c3 = some (.inl (0, (kF kd).length, .inl g3))) (hg : ∀ (q : Nat) (x : Int32 × Int32 × Int32), (kF kd)[q]? = some x → g3 q = x.1) (h8 : (kF kd).length ≤ 8) {Q : Int32 → am_S → Prop} (hy : ∀ i, ixF kd n = some i → Q (nI (base + i)) σ) (hn : ixF kd n = none → f_gr σ (some a) [21] 2 (fun v3 => ((¬ v3 = none → f_gr σ (some a) [21] 2 (fun v4 => f_o σ v4 [21] (fun b => W_X23_place G d b n σ (fun v5 σ6 => Q v5 σ6)))) ∧ (v3 = none → Q (-1) σ)))) : ∀ (l' : List (Int32 × Int32 × Int32)) (j : Nat) {y : Int32}, y = nI j → j + l'.length = (kF kd).length → (∀ q : Nat, l'[q]? = (kF kd)[j + q]?) → ixF kd n = (ixf (fun f : Int32 × Int32 × Int32 => f.1) n l').map (· + j) → B_X23_place_21 G (d + 1) a n (nI base) y σ Q
  | [], j, y, hy9, hj, hq, hx => by
    subst hy9
    have hjl : (kF kd).length = j := by rw [← hj]; rfl
    exact B_X23_place_21_f (z_gr H k1 (by decide) k5.1 (z_al H k5.2 ⟨fun _ => hn hx, fun c => absurd (nI_le (a := (kF kd).length) (b := j) (by omega) (by omega)) c⟩))
  | x :: l', j, y, hy9, hj, hq, hx => by
    subst hy9
    have hjl : j < (kF kd).length := by rw [← hj]; show j < j + (l'.length + 1); omega
    have hk : (kF kd)[j]? = some x := by have := hq 0; rw [Nat.add_zero] at this; exact this.symm
    refine B_X23_place_21_f (z_gr H k1 (by decide) k5.1 (z_al H k5.2 ⟨fun c => absurd c (nI_ge hjl (by omega)), fun _ => z_gr H k1 (by decide) k5.1 (z_ai H k5.2 rfl hjl (by omega) (hg j x hk) ⟨fun hne => ?_, fun he => ?_⟩)⟩))
    · refine X_pl21 H k1 k5 hg h8 hy hn l' (j + 1) (nI_1 j) (by rw [← hj]; show j + 1 + l'.length = j + (l'.length + 1); omega) (fun q => ?_) ?_
      · have := hq (q + 1)
        rw [show j + (q + 1) = j + 1 + q by omega] at this
        exact this
      · rw [hx, show ixf (fun f : Int32 × Int32 × Int32 => f.1) n (x :: l') = Option.map (fun x => x + 1) (ixf (fun f : Int32 × Int32 × Int32 => f.1) n l') from if_neg hne, Option.map_map]
        rw [show ((fun x => x + j) ∘ fun x => x + 1) = (fun x => x + (j + 1)) from by funext q; show q + 1 + j = q + (j + 1); omega]
    · have := hy j (by
        rw [hx]
        unfold ixf
        rw [if_pos he]
        show some (0 + j) = _
        rw [Nat.zero_add])
      rw [nI_add]
      exact this
/-- a field's place -/
theorem X_place23 (H : XS F D ξ σ) (hW : WX F as L) {n : Int32} : ∀ (f k a : Nat) {Q : Int32 → am_S → Prop}, f ≤ 12 → ac L f (some k) → as[k]? = some a → Q (oI (plI L n f (some k))) σ → W_X23_place G (d + f) a n σ Q
  | 0, k, a, Q, hf, h, _, _ => h.elim
  | f + 1, k, a, Q, hf, h, ha, hQ => by
    obtain ⟨kd, h1, h2⟩ := ac_some h
    obtain ⟨fv, c3, c4, c5, c6, c7, c8, g3, g4, g5, g6, g7, g8, k1, k2, k3, k4, k5, k6, k7, k8, k9, k10, k11, k12, k13⟩ := hW.2 k kd a h1 ha
    rw [plI_some h1] at hQ
    have hg : ∀ (q : Nat) (x : Int32 × Int32 × Int32), (kF kd)[q]? = some x → g3 q = x.1 := fun q x hx => (k12 q x hx).1
    have go : B_X23_place_21 G (d + f + 1) a n (nI (plc L f (kA kd)).length) 0 σ Q := by
      refine X_pl21 (d := d + f) H k1 k5 hg k11.1 (fun i hi => ?_) (fun hno => z_gr H k1 (by decide) k4 ?_) (kF kd) 0 rfl (by omega) (fun q => by rw [Nat.zero_add]) (by cases h9 : ixF kd n <;> simp [ixF] at h9 ⊢ <;> simp [h9])
      · rw [hi] at hQ
        exact hQ
      · rw [hno] at hQ
        rcases hW.ab h2 with ⟨e1, e2⟩ | ⟨u, ku, b, e1, e2, e3, e4⟩
        · rw [e1] at hQ
          have hQ' : Q (oI (plI L n f none)) σ := hQ
          rw [plI_none] at hQ'
          exact ⟨fun hne => absurd e2 hne, fun _ => hQ'⟩
        · refine ⟨fun _ => z_gr H k1 (by decide) (k4.trans (by rw [e4])) ?_, fun h9 => by rw [e4] at h9; cases h9⟩
          rw [e1] at h2 hQ
          obtain ⟨fu, d3, d4, d5, d6, d7, d8, j3, j4, j5, j6, j7, j8, l1, l2⟩ := hW.2 u ku b e2 e3
          exact z_o H l1 (by decide) (X_place23 H hW f u b (by omega) h2 e3 hQ)
    refine W_X23_place_f (d := d + f) (z_gr H k1 (by decide) k4 ?_)
    rcases hW.ab h2 with ⟨e1, e2⟩ | ⟨u, ku, b, e1, e2, e3, e4⟩
    · rw [e1, plc_none] at go
      exact ⟨fun hne => absurd e2 hne, fun _ => go⟩
    · refine ⟨fun _ => z_gr H k1 (by decide) (k4.trans (by rw [e4])) ?_, fun h9 => by rw [e4] at h9; cases h9⟩
      rw [e1] at h2 go
      obtain ⟨fu, d3, d4, d5, d6, d7, d8, j3, j4, j5, j6, j7, j8, l1, l2⟩ := hW.2 u ku b e2 e3
      exact z_o H l1 (by decide) (X_all H hW f u b (by omega) h2 e3 go)
/-- the search among own acts -/
theorem X_bo11 (H : XS F D ξ σ) {a c8 : Nat} {fv : Nat → Value} {g8 : Nat → Option Nat} {kd : Kd} {n : Int32} (k10 : F c8 = some (.inl (8, (kX kd).length, .inr (.inr (.inr (.inr g8)))))) (hg : ∀ (q : Nat) (x : Int32 × Term), (kX kd)[q]? = some x → ∃ v, g8 q = some v ∧ isBo F a x v) (h8 : (kX kd).length ≤ 8) {Q : Option Nat → am_S → Prop} (hy : ∀ i x v, ixA kd n = some i → (kX kd)[i]? = some x → isBo F a x v → Q (some v) σ) (hn : ixA kd n = none → f_gr σ (some a) [21] 2 (fun v1 => ((¬ v1 = none → f_gr σ (some a) [21] 2 (fun v2 => f_o σ v2 [21] (fun b => W_X23_body G d b n σ (fun v3 σ4 => Q v3 σ4)))) ∧ (v1 = none → Q none σ)))) : ∀ (l' : List (Int32 × Term)) (j : Nat) {y : Int32}, y = nI j → j + l'.length = (kX kd).length → (∀ q : Nat, l'[q]? = (kX kd)[j + q]?) → ixA kd n = (ixf (fun f : Int32 × Term => f.1) n l').map (· + j) → B_X23_body_11 G (d + 1) a n (some c8) (nI (kX kd).length) y σ Q
  | [], j, y, hy9, hj, hq, hx => by
    subst hy9
    have hjl : (kX kd).length = j := by rw [← hj]; rfl
    exact B_X23_body_11_f ⟨fun _ => hn hx, fun c => absurd (nI_le (a := (kX kd).length) (b := j) (by omega) (by omega)) c⟩
  | x :: l', j, y, hy9, hj, hq, hx => by
    subst hy9
    have hjl : j < (kX kd).length := by rw [← hj]; show j < j + (l'.length + 1); omega
    have hk : (kX kd)[j]? = some x := by have := hq 0; rw [Nat.add_zero] at this; exact this.symm
    obtain ⟨v, v1, v2⟩ := hg j x hk
    have v2' := v2
    obtain ⟨fb, rb, b1, b2, b3, b4⟩ := v2
    refine B_X23_body_11_f ⟨fun c => absurd c (nI_ge hjl (by omega)), fun _ => z_ar H k10 rfl hjl (by omega) v1 (z_gi H b1 (by decide) b3 ⟨fun hne => ?_, fun he => ?_⟩)⟩
    · refine X_bo11 H (fv := fv) k10 hg h8 hy hn l' (j + 1) (nI_1 j) (by rw [← hj]; show j + 1 + l'.length = j + (l'.length + 1); omega) (fun q => ?_) ?_
      · have := hq (q + 1)
        rw [show j + (q + 1) = j + 1 + q by omega] at this
        exact this
      · rw [hx, show ixf (fun f : Int32 × Term => f.1) n (x :: l') = Option.map (fun x => x + 1) (ixf (fun f : Int32 × Term => f.1) n l') from if_neg hne, Option.map_map]
        rw [show ((fun x => x + j) ∘ fun x => x + 1) = (fun x => x + (j + 1)) from by funext q; show q + 1 + j = q + (j + 1); omega]
    · exact hy j x v (by
        rw [hx]
        unfold ixf
        rw [if_pos he]
        show some (0 + j) = _
        rw [Nat.zero_add]) hk v2'
/-- the body of an act -/
theorem X_body (H : XS F D ξ σ) (hW : WX F as L) {n : Int32} : ∀ (f k a : Nat) {Q : Option Nat → am_S → Prop}, f ≤ 12 → ac L f (some k) → as[k]? = some a → (∀ u ku i x au v, upK L (fun kd => (ixA kd n).isSome) f (some k) = some u → L[u]? = some ku → ixA ku n = some i → (kX ku)[i]? = some x → as[u]? = some au → isBo F au x v → Q (some v) σ) → (upK L (fun kd => (ixA kd n).isSome) f (some k) = none → Q none σ) → W_X23_body G (d + f) a n σ Q
  | 0, k, a, Q, hf, h, _, _, _ => h.elim
  | f + 1, k, a, Q, hf, h, ha, hy, hn => by
    obtain ⟨kd, h1, h2⟩ := ac_some h
    obtain ⟨fv, c3, c4, c5, c6, c7, c8, g3, g4, g5, g6, g7, g8, k1, k2, k3, k4, k5, k6, k7, k8, k9, k10, k11, k12, k13, k14⟩ := hW.2 k kd a h1 ha
    rw [upK_some h1] at hy hn
    refine W_X23_body_f (d := d + f) (z_gr H k1 (by decide) k10.1 (z_al H k10.2 (X_bo11 (d := d + f) H (fv := fv) k10.2 k14 k11.2.2 (fun i x v hi hx hv => ?_) (fun hno => z_gr H k1 (by decide) k4 ?_) (kX kd) 0 rfl (by omega) (fun q => by rw [Nat.zero_add]) (by cases h9 : ixA kd n <;> simp [ixA] at h9 ⊢ <;> simp [h9]))))
    · exact hy k kd i x a v (by rw [if_pos (by rw [hi]; rfl)]) h1 hi hx ha hv
    · rw [if_neg (by rw [hno]; decide)] at hy hn
      rcases hW.ab h2 with ⟨e1, e2⟩ | ⟨u, ku, b, e1, e2, e3, e4⟩
      · rw [e1, upK_none] at hn
        exact ⟨fun hne => absurd e2 hne, fun _ => hn rfl⟩
      · refine ⟨fun _ => z_gr H k1 (by decide) (k4.trans (by rw [e4])) ?_, fun h9 => by rw [e4] at h9; cases h9⟩
        rw [e1] at h2 hy hn
        obtain ⟨fu, d3, d4, d5, d6, d7, d8, j3, j4, j5, j6, j7, j8, l1, l2⟩ := hW.2 u ku b e2 e3
        exact z_o H l1 (by decide) (X_body H hW f u b (by omega) h2 e3 hy hn)
end
