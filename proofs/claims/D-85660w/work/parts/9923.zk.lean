set_option maxRecDepth 100000
/-- the first static up, among those there are -/
def fxU (L : List Kd) (V : List (Int32 × Int32 × Int32)) (n : Int32) : Nat → Option Nat → Option Nat
  | _, none => none
  | 0, some _ => none
  | f + 1, some k => match L[k]? with
    | none => none
    | some kd => match fiX V (kN kd) n with
      | some q => some q
      | none => fxU L V n f (kA kd)
theorem fxU_none {L : List Kd} {V : List (Int32 × Int32 × Int32)} {n : Int32} {f : Nat} : fxU L V n f none = none := by cases f <;> rfl
theorem fxU_some {L : List Kd} {V : List (Int32 × Int32 × Int32)} {n : Int32} {f k : Nat} {kd : Kd} (h : L[k]? = some kd) : fxU L V n (f + 1) (some k) = match fiX V (kN kd) n with
      | some q => some q
      | none => fxU L V n f (kA kd) := by
  show (match L[k]? with | none => none | some kd => match fiX V (kN kd) n with
      | some q => some q
      | none => fxU L V n f (kA kd)) = _
  rw [h]
section
variable {G : am_G} {A : Nat → Nat} {d : Nat} {F : am_H} {D : xs_D} {ξ : xs_X} {σ : am_S} {as : List Nat} {L : List Kd}
/-- whose a place is -/
theorem X_owner (H : XS F D ξ σ) (hW : WX F as L) {p : Nat} (hp9 : p < 2 ^ 31) : ∀ (f k a : Nat) {Q : Option Nat → am_S → Prop}, f ≤ 12 → ac L f (some k) → as[k]? = some a → p < (plc L f (some k)).length → (∀ u x i ku au, (plc L f (some k))[p]? = some (u, x) → L[u]? = some ku → as[u]? = some au → (kF ku)[i]? = some x → p = (plc L 12 (kA ku)).length + i → Q (some au) σ) → W_X23_owner G (d + f) a (nI p) σ Q
  | 0, k, a, Q, hf, h, _, _, _ => h.elim
  | f + 1, k, a, Q, hf, h, ha, hp, hQ => by
    obtain ⟨kd, h1, h2⟩ := ac_some h
    obtain ⟨fv, c3, c4, c5, c6, c7, c8, g3, g4, g5, g6, g7, g8, k1, k2, k3, k4, k5, k6, k7, k8, k9, k10, k11, k12⟩ := hW.2 k kd a h1 ha
    rw [plc_some h1] at hp hQ
    have hl := plc_le hW.F8 f (kA kd)
    have hown : (plc L f (kA kd)).length ≤ p → Q (some a) σ := fun hle => by
      have hi : p - (plc L f (kA kd)).length < (kF kd).length := by rw [List.length_append, List.length_map] at hp; omega
      obtain ⟨x, hx⟩ : ∃ x, (kF kd)[p - (plc L f (kA kd)).length]? = some x := ⟨_, List.getElem?_eq_getElem hi⟩
      refine hQ k x (p - (plc L f (kA kd)).length) kd a ?_ h1 ha hx ?_
      · rw [List.getElem?_append_right hle, List.getElem?_map, hx]
        rfl
      · rw [plc_f f _ h2 12 (by omega)]
        omega
    refine W_X23_owner_f (d := d + f) (z_gr H k1 (by decide) k4 ?_)
    rcases hW.ab h2 with ⟨e1, e2⟩ | ⟨u, ku, b, e1, e2, e3, e4⟩
    · refine ⟨fun _ => hown (by rw [e1, plc_none]; exact Nat.zero_le _), fun hne => absurd e2 hne⟩
    · refine ⟨fun h9 => (by rw [e4] at h9; cases h9), fun _ => z_gr H k1 (by decide) (k4.trans (by rw [e4])) ?_⟩
      rw [e1] at h2 hl hown hQ
      obtain ⟨fu, d3, d4, d5, d6, d7, d8, j3, j4, j5, j6, j7, j8, l1, l2⟩ := hW.2 u ku b e2 e3
      refine z_o H l1 (by decide) (X_all H hW f u b (by omega) h2 e3 ⟨fun hle => hown ((nI_leI (by omega) hp9).mp hle), fun hlt => ?_⟩)
      have hpl : p < (plc L f (some u)).length := Nat.lt_of_not_le fun h9 => hlt (nI_le h9 hp9)
      refine z_gr H k1 (by decide) (k4.trans (by rw [e4])) (z_o H l1 (by decide) (X_owner H hW hp9 f u b (by omega) h2 e3 hpl fun u' x i ku' au b1 b2 b3 b4 b5 => ?_))
      refine hQ u' x i ku' au ?_ b2 b3 b4 b5
      rw [List.getElem?_append_left hpl]
      exact b1
/-- a place among own ones -/
theorem X_own (H : XS F D ξ σ) (hW : WX F as L) {u au i p : Nat} {ku : Kd} (hac : ac L 12 (some u)) (hu : L[u]? = some ku) (ha : as[u]? = some au) (hp : p = (plc L 12 (kA ku)).length + i) (hp9 : p < 2 ^ 31) {Q : Int32 → am_S → Prop} (hQ : Q (nI i) σ) : W_X23_own G (d + 12) au (nI p) σ Q := by
  obtain ⟨kd, h1, h2⟩ := ac_some hac
  rw [hu] at h1
  cases h1
  obtain ⟨fv, c3, c4, c5, c6, c7, c8, g3, g4, g5, g6, g7, g8, k1, k2, k3, k4, k5⟩ := hW.2 u ku au hu ha
  refine W_X23_own_f (d := d + 11) (z_gr H k1 (by decide) k4 ?_)
  rcases hW.ab h2 with ⟨e1, e2⟩ | ⟨u', ku', b, e1, e2, e3, e4⟩
  · refine ⟨fun hne => absurd e2 hne, fun _ => ?_⟩
    rw [e1, plc_none] at hp
    have : nI p - 0 = nI i := by
      rw [show (0 : Int32) = nI 0 from rfl, pk_sub (by omega)]
      congr 1
      simpa using hp
    rw [this]
    exact hQ
  · refine ⟨fun _ => z_gr H k1 (by decide) (k4.trans (by rw [e4])) ?_, fun h9 => by rw [e4] at h9; cases h9⟩
    rw [e1] at h2 hp
    obtain ⟨fu, d3, d4, d5, d6, d7, d8, j3, j4, j5, j6, j7, j8, l1, l2⟩ := hW.2 u' ku' b e2 e3
    refine z_o H l1 (by decide) (X_all H hW 11 u' b (by omega) h2 e3 ?_)
    rw [plc_f 11 _ h2 12 (by omega)] at hp
    rw [pk_sub (by omega)]
    rw [hp, Nat.add_sub_cancel_left]
    exact hQ
section
variable {k a p u : Nat} {x : Int32 × Int32 × Int32} {Q : Int32 → am_S → Prop}
/-- the name of the field in a place -/
theorem X_fld23 (H : XS F D ξ σ) (hW : WX F as L) (hac : acL L) (hk : as[k]? = some a) (hp : (plc L 12 (some k))[p]? = some (u, x)) (hQ : Q x.1 σ) : W_X23_field G (d + 13) a (nI p) σ Q := by
  have hkl : k < L.length := by rw [← hW.1]; exact get_lt hk
  have hpl := get_lt hp
  have hp8 := plc_le hW.F8 12 (some k)
  obtain ⟨kd, h1⟩ : ∃ kd, L[k]? = some kd := ⟨_, List.getElem?_eq_getElem hkl⟩
  obtain ⟨fv, c3, c4, c5, c6, c7, c8, g3, g4, g5, g6, g7, g8, k1, k2⟩ := hW.2 k kd a h1 hk
  refine W_X23_field_f (d := d + 12) (z_o H k1 (by decide) (X_owner H hW (by omega) 12 k a (Nat.le_refl _) (hac k hkl) hk hpl fun u' x' i ku au b1 b2 b3 b4 b5 => ?_))
  rw [hp] at b1
  cases b1
  obtain ⟨fu, d3, d4, d5, d6, d7, d8, j3, j4, j5, j6, j7, j8, l1, l2, l3, l4, l5, l6, l7, l8, l9, l10, l11, l12, l13⟩ := hW.2 u ku au b2 b3
  refine z_gr H l1 (by decide) l5.1 (z_o H l1 (by decide) (X_own H hW (hac u (get_lt b2)) b2 b3 b5 (by omega) (z_ai H l5.2 rfl (get_lt b4) (by omega) (l12 i x b4).1 hQ)))
theorem X_first23 (H : XS F D ξ σ) (hW : WX F as L) (hac : acL L) (hk : as[k]? = some a) (hp : (plc L 12 (some k))[p]? = some (u, x)) (hQ : Q x.2.1 σ) : W_X23_first G (d + 13) a (nI p) σ Q := by
  have hkl : k < L.length := by rw [← hW.1]; exact get_lt hk
  have hpl := get_lt hp
  have hp8 := plc_le hW.F8 12 (some k)
  obtain ⟨kd, h1⟩ : ∃ kd, L[k]? = some kd := ⟨_, List.getElem?_eq_getElem hkl⟩
  obtain ⟨fv, c3, c4, c5, c6, c7, c8, g3, g4, g5, g6, g7, g8, k1, k2⟩ := hW.2 k kd a h1 hk
  refine W_X23_first_f (d := d + 12) (z_o H k1 (by decide) (X_owner H hW (by omega) 12 k a (Nat.le_refl _) (hac k hkl) hk hpl fun u' x' i ku au b1 b2 b3 b4 b5 => ?_))
  rw [hp] at b1
  cases b1
  obtain ⟨fu, d3, d4, d5, d6, d7, d8, j3, j4, j5, j6, j7, j8, l1, l2, l3, l4, l5, l6, l7, l8, l9, l10, l11, l12, l13⟩ := hW.2 u ku au b2 b3
  refine z_gr H l1 (by decide) l6.1 (z_o H l1 (by decide) (X_own H hW (hac u (get_lt b2)) b2 b3 b5 (by omega) (z_ai H l6.2 rfl (get_lt b4) (by omega) (l12 i x b4).2.1 hQ)))
theorem X_former23 (H : XS F D ξ σ) (hW : WX F as L) (hac : acL L) (hk : as[k]? = some a) (hp : (plc L 12 (some k))[p]? = some (u, x)) {ku : Kd} (hu : L[u]? = some ku) (hc : kC ku = true) (hQ : Q x.2.2 σ) : W_X23_former G (d + 13) a (nI p) σ Q := by
  have hkl : k < L.length := by rw [← hW.1]; exact get_lt hk
  have hpl := get_lt hp
  have hp8 := plc_le hW.F8 12 (some k)
  obtain ⟨kd, h1⟩ : ∃ kd, L[k]? = some kd := ⟨_, List.getElem?_eq_getElem hkl⟩
  obtain ⟨fv, c3, c4, c5, c6, c7, c8, g3, g4, g5, g6, g7, g8, k1, k2⟩ := hW.2 k kd a h1 hk
  refine W_X23_former_f (d := d + 12) (z_o H k1 (by decide) (X_owner H hW (by omega) 12 k a (Nat.le_refl _) (hac k hkl) hk hpl fun u' x' i ku' au b1 b2 b3 b4 b5 => ?_))
  rw [hp] at b1
  cases b1
  rw [hu] at b2
  cases b2
  obtain ⟨fu, d3, d4, d5, d6, d7, d8, j3, j4, j5, j6, j7, j8, l1, l2, l3, l4, l5, l6, l7, l8, l9, l10, l11, l12, l13⟩ := hW.2 u ku au hu b3
  refine z_gr H l1 (by decide) l9.1 (z_o H l1 (by decide) (X_own H hW (hac u (get_lt hu)) hu b3 b5 (by omega) (z_ai H l9.2 rfl (get_lt b4) (by omega) ((l12 i x b4).2.2 hc) hQ)))
end
/-- whether a kind is one or under it -/
theorem X_isUnder (H : XS F D ξ σ) (hW : WX F as L) {n : Int32} : ∀ (f k a : Nat) {Q : Int32 → am_S → Prop}, f ≤ 12 → ac L f (some k) → as[k]? = some a → Q (if (upK L (fun kd => kN kd == n) f (some k)).isSome = true then 1 else 0) σ → W_X23_isUnder G (d + f) a n σ Q
  | 0, k, a, Q, hf, h, _, _ => h.elim
  | f + 1, k, a, Q, hf, h, ha, hQ => by
    obtain ⟨kd, h1, h2⟩ := ac_some h
    obtain ⟨fv, c3, c4, c5, c6, c7, c8, g3, g4, g5, g6, g7, g8, k1, k2, k3, k4, k5⟩ := hW.2 k kd a h1 ha
    rw [upK_some h1] at hQ
    refine W_X23_isUnder_f (d := d + f) (z_gi H k1 (by decide) k2 ⟨fun he => ?_, fun hne => z_gr H k1 (by decide) k4 ?_⟩)
    · rw [if_pos (show (kN kd == n) = true by simpa using he)] at hQ
      exact hQ
    · rw [if_neg (show ¬ (kN kd == n) = true by simpa using hne)] at hQ
      rcases hW.ab h2 with ⟨e1, e2⟩ | ⟨u, ku, b, e1, e2, e3, e4⟩
      · rw [e1, upK_none] at hQ
        exact ⟨fun _ => hQ, fun hne9 => absurd e2 hne9⟩
      · refine ⟨fun h9 => (by rw [e4] at h9; cases h9), fun _ => z_gr H k1 (by decide) (k4.trans (by rw [e4])) ?_⟩
        rw [e1] at h2 hQ
        obtain ⟨fu, d3, d4, d5, d6, d7, d8, j3, j4, j5, j6, j7, j8, l1, l2⟩ := hW.2 u ku b e2 e3
        refine z_o H l1 (by decide) (X_isUnder H hW f u b (by omega) h2 e3 ?_)
        by_cases h9 : (upK L (fun kd => kN kd == n) f (some u)).isSome = true
        · rw [if_pos h9] at hQ ⊢
          exact y2 hQ
        · rw [if_neg h9] at hQ ⊢
          exact z2 hQ
/-- whether a name is in a row -/
theorem X_rowHas (H : XS F D ξ σ) {α : Type} {key : α → Int32} {n : Int32} {c m : Nat} {g : Nat → Int32} {l0 : List α} (hF : F c = some (.inl (0, l0.length, .inl g))) (hg : ∀ q x, l0[q]? = some x → g q = key x) (h8 : l0.length < 1000) {Q : Int32 → am_S → Prop} (hQ : Q (if (ixf key n l0).isSome = true then 1 else 0) σ) : W_X0_has_2 G d (some c) n σ Q ∧ ∀ (a : Nat) (fv : Nat → Value), F a = some (.inr (21, fv)) → fv 3 = va_rf (some c) → W_X23_hasOwn G d a n σ Q := by
  constructor
  · have go : ∀ (l' : List α) (j : Nat) {y : Int32}, y = nI j → j + l'.length = l0.length → (∀ q : Nat, l'[q]? = l0[j + q]?) → (ixf key n l').isSome = (ixf key n l0).isSome → B_X0_has_2_8 G d n (some c) (nI l0.length) y σ Q := fun l' => by
      induction l' with
      | nil =>
        intro j y hy hj hq hs
        subst hy
        refine B_X0_has_2_8_f ⟨fun _ => ?_, fun c9 => absurd (nI_le (a := l0.length) (b := j) (by rw [← hj]; exact Nat.le_refl _) (by simp at hj; omega)) c9⟩
        rw [← hs, if_neg (show ¬ (ixf key n ([] : List α)).isSome = true from (show ¬ (none : Option Nat).isSome = true by decide))] at hQ
        exact hQ
      | cons x l' ih =>
        intro j y hy hj hq hs
        subst hy
        have hjl : j < l0.length := by rw [← hj]; show j < j + (l'.length + 1); omega
        have hk : l0[j]? = some x := by have := hq 0; rw [Nat.add_zero] at this; exact this.symm
        refine B_X0_has_2_8_f ⟨fun c9 => absurd c9 (nI_ge hjl (by omega)), fun _ => z_ai H hF rfl hjl (by omega) (hg j x hk) ⟨fun hne => ?_, fun he => ?_⟩⟩
        · refine ih (j + 1) (nI_1 j) (by rw [← hj]; show j + 1 + l'.length = j + (l'.length + 1); omega) (fun q => ?_) ?_
          · have := hq (q + 1)
            rw [show j + (q + 1) = j + 1 + q by omega] at this
            exact this
          · rw [← hs, show ixf key n (x :: l') = Option.map (fun x => x + 1) (ixf key n l') from if_neg hne]
            cases ixf key n l' <;> rfl
        · rw [← hs, show ixf key n (x :: l') = some 0 from if_pos he] at hQ
          exact hQ
    exact W_X0_has_2_f (z_al H hF (go l0 0 rfl (by omega) (fun q => by rw [Nat.zero_add]) rfl))
  · intro a fv k1 k5
    have go : ∀ (l' : List α) (j : Nat) {y : Int32}, y = nI j → j + l'.length = l0.length → (∀ q : Nat, l'[q]? = l0[j + q]?) → (ixf key n l').isSome = (ixf key n l0).isSome → B_X23_hasOwn_11 G d a n (some c) (nI l0.length) y σ Q := fun l' => by
      induction l' with
      | nil =>
        intro j y hy hj hq hs
        subst hy
        refine B_X23_hasOwn_11_f ⟨fun _ => ?_, fun c9 => absurd (nI_le (a := l0.length) (b := j) (by rw [← hj]; exact Nat.le_refl _) (by simp at hj; omega)) c9⟩
        rw [← hs, if_neg (show ¬ (ixf key n ([] : List α)).isSome = true from (show ¬ (none : Option Nat).isSome = true by decide))] at hQ
        exact hQ
      | cons x l' ih =>
        intro j y hy hj hq hs
        subst hy
        have hjl : j < l0.length := by rw [← hj]; show j < j + (l'.length + 1); omega
        have hk : l0[j]? = some x := by have := hq 0; rw [Nat.add_zero] at this; exact this.symm
        refine B_X23_hasOwn_11_f ⟨fun c9 => absurd c9 (nI_ge hjl (by omega)), fun _ => z_ai H hF rfl hjl (by omega) (hg j x hk) ⟨fun hne => ?_, fun he => ?_⟩⟩
        · refine ih (j + 1) (nI_1 j) (by rw [← hj]; show j + 1 + l'.length = j + (l'.length + 1); omega) (fun q => ?_) ?_
          · have := hq (q + 1)
            rw [show j + (q + 1) = j + 1 + q by omega] at this
            exact this
          · rw [← hs, show ixf key n (x :: l') = Option.map (fun x => x + 1) (ixf key n l') from if_neg hne]
            cases ixf key n l' <;> rfl
        · rw [← hs, show ixf key n (x :: l') = some 0 from if_pos he] at hQ
          exact hQ
    exact W_X23_hasOwn_f (z_gr H k1 (by decide) k5 (z_al H hF (go l0 0 rfl (by omega) (fun q => by rw [Nat.zero_add]) rfl)))
/-- whether an own field has its name still -/
theorem X_holds23 (H : XS F D ξ σ) {a : Nat} {ab : Option Nat} {kd : Kd} (hK : KP F a ab kd) (hc : kC kd = true) {n : Int32} {Q : Int32 → am_S → Prop} (hQ : Q (match ixF kd n with | none => 0 | some i => match (kF kd)[i]? with | none => 0 | some x => if x.2.2 = n then 1 else 0) σ) : W_X23_holds G d a n σ Q := by
  obtain ⟨fv, c3, c4, c5, c6, c7, c8, g3, g4, g5, g6, g7, g8, k1, k2, k3, k4, k5, k6, k7, k8, k9, k10, k11, k12, k13⟩ := hK
  have go : ∀ (l' : List (Int32 × Int32 × Int32)) (j : Nat) {y : Int32}, y = nI j → j + l'.length = (kF kd).length → (∀ q : Nat, l'[q]? = (kF kd)[j + q]?) → ixF kd n = (ixf (fun f : Int32 × Int32 × Int32 => f.1) n l').map (· + j) → B_X23_holds_2 G d a n y σ Q := fun l' => by
    induction l' with
    | nil =>
      intro j y hy hj hq hs
      subst hy
      have hjl : (kF kd).length = j := by rw [← hj]; rfl
      refine B_X23_holds_2_f (z_gr H k1 (by decide) k5.1 (z_al H k5.2 ⟨fun _ => ?_, fun c9 => absurd (nI_le (a := (kF kd).length) (b := j) (by omega) (by omega)) c9⟩))
      rw [show ixF kd n = none from hs] at hQ
      exact hQ
    | cons x l' ih =>
      intro j y hy hj hq hs
      subst hy
      have hjl : j < (kF kd).length := by rw [← hj]; show j < j + (l'.length + 1); omega
      have hk : (kF kd)[j]? = some x := by have := hq 0; rw [Nat.add_zero] at this; exact this.symm
      obtain ⟨q1, q2, q3⟩ := k12 j x hk
      refine B_X23_holds_2_f (z_gr H k1 (by decide) k5.1 (z_al H k5.2 ⟨fun c9 => absurd c9 (nI_ge hjl (by omega)), fun _ => z_gr H k1 (by decide) k5.1 (z_ai H k5.2 rfl hjl (by omega) q1 ⟨fun hne => ?_, fun he => ?_⟩)⟩))
      · refine ih (j + 1) (nI_1 j) (by rw [← hj]; show j + 1 + l'.length = j + (l'.length + 1); omega) (fun q => ?_) ?_
        · have := hq (q + 1)
          rw [show j + (q + 1) = j + 1 + q by omega] at this
          exact this
        · rw [hs, show ixf (fun f : Int32 × Int32 × Int32 => f.1) n (x :: l') = Option.map (fun x => x + 1) (ixf (fun f : Int32 × Int32 × Int32 => f.1) n l') from if_neg hne, Option.map_map]
          rw [show ((fun x => x + j) ∘ fun x => x + 1) = (fun x => x + (j + 1)) from by funext q; show q + 1 + j = q + (j + 1); omega]
      · rw [hs, show ixf (fun f : Int32 × Int32 × Int32 => f.1) n (x :: l') = some 0 from if_pos he] at hQ
        rw [show (some 0).map (fun x => x + j) = some j from by show some (0 + j) = _; rw [Nat.zero_add]] at hQ
        dsimp only at hQ
        rw [hk] at hQ
        dsimp only at hQ
        refine z_gr H k1 (by decide) k9.1 (z_ai H k9.2 rfl hjl (by omega) (q3 hc) ⟨fun hne => ?_, fun he9 => ?_⟩)
        · rw [if_neg hne] at hQ; exact hQ
        · rw [if_pos he9] at hQ; exact hQ
  exact W_X23_holds_f (go (kF kd) 0 rfl (by omega) (fun q => by rw [Nat.zero_add]) (by cases h9 : ixF kd n <;> simp [ixF] at h9 ⊢ <;> simp [h9]))
/-- a static from a kind up -/
theorem X_fixedOf (H : XS F D ξ σ) (hW : WX F as L) (r0 : rl D 0 (A 0) 0) {fw : Nat} {fs : List Nat} {V : List (Int32 × Int32 × Int32)} (h4 : xR ξ 0 4 = some fw) (hA : fAr F fw fs) (hV : FXo D ξ fs V) (hl : fs.length < 1000) {n : Int32} {Q : Option Nat → am_S → Prop} : ∀ (f : Nat) (o r : Option Nat), ac L f o → r = o.bind (fun k => as[k]?) → Q ((fxU L V n f o).bind (fun q => fs[q]?)) σ → B_X0_fixedOf_2 G (d + 1) (A 0) n r σ Q
  | f, none, r, h, hr, hQ => by
    subst hr
    rw [fxU_none] at hQ
    exact B_X0_fixedOf_2_f ⟨fun _ => hQ, fun hne => absurd rfl hne⟩
  | 0, some _, r, h, hr, hQ => h.elim
  | f + 1, some k, r, h, hr, hQ => by
    obtain ⟨kd, h1, h2⟩ := ac_some h
    obtain ⟨a, ha, hK⟩ := hW.get h1
    have hr' : r = some a := hr.trans ha
    subst hr'
    obtain ⟨fv, c3, c4, c5, c6, c7, c8, g3, g4, g5, g6, g7, g8, k1, k2, k3, k4, k5⟩ := hK
    rw [fxU_some h1] at hQ
    refine B_X0_fixedOf_2_f ⟨fun h9 => by (cases h9), fun _ => x_gr H r0 (by decide) h4 (z_gi H k1 (by decide) k2 (X_find2 H hA hV hl ?_))⟩
    cases hx : fiX V (kN kd) n with
    | some q =>
      rw [hx] at hQ
      have hq : q < V.length := ixf_lt hx
      obtain ⟨v, hv⟩ : ∃ v, fs[q]? = some v := ⟨_, List.getElem?_eq_getElem (by rw [hV.1]; exact hq)⟩
      have e9 : ((some q).bind fun q => fs[q]?) = some v := hv
      rw [e9]
      have hQ' : Q ((some q).bind fun q => fs[q]?) σ := hQ
      rw [e9] at hQ'
      exact ⟨fun h9 => by (cases h9), fun _ => hQ'⟩
    | none =>
      rw [hx] at hQ
      refine ⟨fun _ => z_gr H k1 (by decide) k4 (X_fixedOf H hW r0 h4 hA hV hl f (kA kd) _ h2 ?_ hQ), fun hne => absurd rfl hne⟩
      rfl
end
