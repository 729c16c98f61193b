set_option maxRecDepth 100000
/-! ===== X's heap as a typed store: roles with contents, and what is frozen (xs_) ===== -/
def xs_ty (c : Nat) : Nat → FieldType := match c with
  | 0 => tyX0
  | 1 => tyX1
  | 2 => tyX2
  | 3 => tyX3
  | 4 => tyX4
  | 5 => tyX5
  | 6 => tyX6
  | 7 => tyX7
  | 8 => tyX8
  | 9 => tyX9
  | 10 => tyX10
  | 11 => tyX12
  | 12 => tyX14
  | 13 => tyX15
  | 14 => tyX16
  | 15 => tyX17
  | 16 => tyX18
  | 17 => tyX19
  | 18 => tyX20
  | 19 => tyX21
  | 20 => tyX22
  | 21 => tyX23
  | 22 => tyX24
  | 23 => tyX25
  | 24 => tyX26
  | 25 => tyX28
  | 26 => tyX29
  | 27 => tyX30
  | 28 => tyX31
  | 29 => tyX32
  | 30 => tyX33
  | 31 => tyX34
  | 32 => tyX35
  | 33 => tyJ14
  | 34 => tyJ3
  | 35 => tyJ4
  | _ => fun _ => .int
def xs_rf (c k : Nat) : Bool := (xs_ty c k).isReference
/-- ints and references of objects by (role, field); of arrays by (role, place); lengths of arrays -/
abbrev xs_X : Type := (Nat → Nat → Int32) × (Nat → Nat → Option Nat) × (Nat → Nat → Int32) × (Nat → Nat → Option Nat) × (Nat → Nat)
abbrev xI (ξ : xs_X) : Nat → Nat → Int32 := ξ.1
abbrev xR (ξ : xs_X) : Nat → Nat → Option Nat := ξ.2.1
abbrev xA (ξ : xs_X) : Nat → Nat → Int32 := ξ.2.2.1
abbrev xQ (ξ : xs_X) : Nat → Nat → Option Nat := ξ.2.2.2.1
abbrev xN (ξ : xs_X) : Nat → Nat := ξ.2.2.2.2
def xs_u {α : Type} (f : Nat → Nat → α) (i k : Nat) (v : α) : Nat → Nat → α := fun j q => if j = i then (if q = k then v else f j q) else f j q
def xs_r {α : Type} (f : Nat → α) (i : Nat) (v : α) : Nat → α := fun j => if j = i then v else f j
def xs_sI (ξ : xs_X) (i k : Nat) (v : Int32) : xs_X := (xs_u ξ.1 i k v, ξ.2)
def xs_sR (ξ : xs_X) (i k : Nat) (v : Option Nat) : xs_X := (ξ.1, xs_u ξ.2.1 i k v, ξ.2.2)
def xs_sA (ξ : xs_X) (i k : Nat) (v : Int32) : xs_X := (ξ.1, ξ.2.1, xs_u ξ.2.2.1 i k v, ξ.2.2.2)
def xs_sQ (ξ : xs_X) (i k : Nat) (v : Option Nat) : xs_X := (ξ.1, ξ.2.1, ξ.2.2.1, xs_u ξ.2.2.2.1 i k v, ξ.2.2.2.2)
/-- a new one at the role i, of length n -/
def xs_0 (ξ : xs_X) (i n : Nat) : xs_X := (xs_r ξ.1 i (fun _ => 0), xs_r ξ.2.1 i (fun _ => none), xs_r ξ.2.2.1 i (fun _ => 0), xs_r ξ.2.2.2.1 i (fun _ => none), xs_r ξ.2.2.2.2 i n)
/-- addresses and kinds of roles: below 100 a class, from 100 on an array of the type less 100; which roles there are -/
abbrev xs_D : Type := (Nat → Nat) × (Nat → Nat) × (Nat → Prop)
/-- the model's object: its long field lies among the references -/
def xs_mo (fI : Nat → Int32) (fR : Nat → Option Nat) (k : Nat) : Value := match mm_kd.getD k 0 with
  | 0 => .int (fI k)
  | 1 => .long (Int64.ofNat ((fR k).getD 0))
  | 5 => .int (fI k)
  | _ => va_rf (fR k)
def xs_E (t : Nat) (i : Nat) (ξ : xs_X) : am_E := if t < 50 then .inr (t, fun k => if xs_rf t k = true then va_rf (xR ξ i k) else .int (xI ξ i k)) else if t < 100 then .inr (6, xs_mo (xI ξ i) (xR ξ i)) else .inl (t - 100, xN ξ i, if t < 104 then .inl (xA ξ i) else if t = 104 then .inr (.inl fun q => Int64.ofNat ((xQ ξ i q).getD 0)) else .inr (.inr (.inr (.inr (xQ ξ i)))))
theorem xs_un {α : Type} {f : Nat → Nat → α} {i j k : Nat} {v : α} (h : j ≠ i) : xs_u f i k v j = f j := by
  funext q
  unfold xs_u
  rw [if_neg h]
theorem xs_us {α : Type} {f : Nat → Nat → α} {i k : Nat} {v : α} : xs_u f i k v i = fun q => if q = k then v else f i q := by
  funext q
  unfold xs_u
  rw [if_pos rfl]
theorem xs_Ec {t j : Nat} {ξ ξ' : xs_X} (h1 : ξ'.1 j = ξ.1 j) (h2 : ξ'.2.1 j = ξ.2.1 j) (h3 : ξ'.2.2.1 j = ξ.2.2.1 j) (h4 : ξ'.2.2.2.1 j = ξ.2.2.2.1 j) (h5 : ξ'.2.2.2.2 j = ξ.2.2.2.2 j) : xs_E t j ξ' = xs_E t j ξ := by
  unfold xs_E xI xR xA xQ xN
  rw [h1, h2, h3, h4, h5]
/-- whose inner thing a frozen one is: the field that tells it -/
def tfs : List (Nat × Nat) := [(10, 2), (16, 5), (18, 3), (19, 3), (25, 1), (25, 4), (26, 1), (26, 3), (28, 1), (28, 2), (29, 1), (29, 3), (30, 1), (30, 3)]
def tf (e : am_E) (h : Nat) : Prop := ∀ c f, e = .inr (c, f) → ∀ k, (c, k) ∈ tfs → f k = va_rf (some h)
def XS (F : am_H) (D : xs_D) (ξ : xs_X) (σ : am_S) : Prop := (∀ a e, F a = some e → σ.1 a = some e) ∧ (∀ i, D.2.2 i → σ.1 (D.1 i) = some (xs_E (D.2.1 i) i ξ) ∧ F (D.1 i) = none ∧ (i = 0 → ∀ a e, F a = some e → tf e (D.1 i))) ∧ (∀ i j, D.2.2 i → D.2.2 j → D.1 i = D.1 j → i = j) ∧ ∀ a e, σ.1 a = some e → a < σ.2.1
def xs_add (D : xs_D) (i a t : Nat) : xs_D := (xs_r D.1 i a, xs_r D.2.1 i t, fun j => j = i ∨ D.2.2 j)
section
variable {F : am_H} {D : xs_D} {ξ : xs_X} {σ : am_S}
theorem XS.obj (H : XS F D ξ σ) {i c : Nat} (hi : D.2.2 i) (ht : D.2.1 i = c) (hc : c < 50) : σ.1 (D.1 i) = some (.inr (c, fun k => if xs_rf c k = true then va_rf (xR ξ i k) else .int (xI ξ i k))) := by
  rw [(H.2.1 i hi).1, ht]
  unfold xs_E
  rw [if_pos hc]
theorem XS.ari (H : XS F D ξ σ) {i τ : Nat} (hi : D.2.2 i) (ht : D.2.1 i = 100 + τ) (hc : τ < 4) : σ.1 (D.1 i) = some (.inl (τ, xN ξ i, .inl (xA ξ i))) := by
  rw [(H.2.1 i hi).1, ht]
  unfold xs_E
  rw [if_neg (by omega), if_neg (by omega), if_pos (by omega), Nat.add_sub_cancel_left]
theorem XS.arq (H : XS F D ξ σ) {i τ : Nat} (hi : D.2.2 i) (ht : D.2.1 i = 100 + τ) (hc : 5 ≤ τ) : σ.1 (D.1 i) = some (.inl (τ, xN ξ i, .inr (.inr (.inr (.inr (xQ ξ i)))))) := by
  rw [(H.2.1 i hi).1, ht]
  unfold xs_E
  rw [if_neg (by omega), if_neg (by omega), if_neg (by omega), if_neg (by omega), Nat.add_sub_cancel_left]
theorem xs_gi (H : XS F D ξ σ) {r : Option Nat} {cs : List Nat} {i c k : Nat} {K : Int32 → Prop} (hi : D.2.2 i) (hr : r = some (D.1 i)) (ht : D.2.1 i = c) (hc : c < 50) (hm : c ∈ cs) (hk : xs_rf c k = false) (h : K (xI ξ i k)) : f_gi σ r cs k K := by
  subst hr
  unfold f_gi f_c
  dsimp only
  rw [H.obj hi ht hc]
  dsimp only
  rw [hk]
  exact ⟨hm, h⟩
theorem xs_gr (H : XS F D ξ σ) {r : Option Nat} {cs : List Nat} {i c k : Nat} {K : Option Nat → Prop} (hi : D.2.2 i) (hr : r = some (D.1 i)) (ht : D.2.1 i = c) (hc : c < 50) (hm : c ∈ cs) (hk : xs_rf c k = true) (h : K (xR ξ i k)) : f_gr σ r cs k K := by
  subst hr
  unfold f_gr f_c
  dsimp only
  rw [H.obj hi ht hc]
  dsimp only
  rw [hk]
  refine ⟨hm, ?_⟩
  cases hx : xR ξ i k with
  | none => rw [hx] at h; exact h
  | some a => rw [hx] at h; exact h
theorem xs_o (H : XS F D ξ σ) {r : Option Nat} {cs : List Nat} {i c : Nat} {K : Nat → Prop} (hi : D.2.2 i) (hr : r = some (D.1 i)) (ht : D.2.1 i = c) (hc : c < 50) (hm : c ∈ cs) (h : K (D.1 i)) : f_o σ r cs K := by
  subst hr
  unfold f_o f_c
  dsimp only
  rw [H.obj hi ht hc]
  exact ⟨hm, h⟩
theorem xs_al (H : XS F D ξ σ) {r : Option Nat} {i τ : Nat} {K : Int32 → Prop} (hi : D.2.2 i) (hr : r = some (D.1 i)) (ht : D.2.1 i = 100 + τ) (h : K (nI (xN ξ i))) : f_al σ r τ K := by
  subst hr
  unfold f_al f_a
  dsimp only
  by_cases hc : τ < 4
  · rw [H.ari hi ht hc]; exact ⟨rfl, h⟩
  · by_cases h4 : τ = 4
    · subst h4
      rw [(H.2.1 i hi).1, ht]
      exact ⟨rfl, h⟩
    · rw [H.arq hi ht (by omega)]; exact ⟨rfl, h⟩
theorem xs_ai (H : XS F D ξ σ) {r : Option Nat} {i τ : Nat} {x : Int32} {K : Int32 → Prop} (hi : D.2.2 i) (hr : r = some (D.1 i)) (ht : D.2.1 i = 100 + τ) (hc : τ < 4) (hx : vp_in x (xN ξ i)) (h : K (xA ξ i x.toNatClampNeg)) : f_ai σ r τ x K := by
  subst hr
  unfold f_ai f_a
  dsimp only
  rw [H.ari hi ht hc]
  exact ⟨rfl, hx, h⟩
theorem xs_ar (H : XS F D ξ σ) {r : Option Nat} {i τ : Nat} {x : Int32} {K : Option Nat → Prop} (hi : D.2.2 i) (hr : r = some (D.1 i)) (ht : D.2.1 i = 100 + τ) (hc : 5 ≤ τ) (hx : vp_in x (xN ξ i)) (h : K (xQ ξ i x.toNatClampNeg)) : f_ar σ r τ x K := by
  subst hr
  unfold f_ar f_a
  dsimp only
  rw [H.arq hi ht hc]
  exact ⟨rfl, hx, h⟩
/-- one role's contents change -/
theorem XS.set (H : XS F D ξ σ) {i : Nat} {e : am_E} {ξ' : xs_X} (hi : D.2.2 i) (he : e = xs_E (D.2.1 i) i ξ') (ho : ∀ j, j ≠ i → xs_E (D.2.1 j) j ξ' = xs_E (D.2.1 j) j ξ) : XS F D ξ' (am_up σ (D.1 i) e) := by
  refine ⟨fun a e9 h => ?_, fun j hj => ⟨?_, (H.2.1 j hj).2⟩, H.2.2.1, fun a e9 h => ?_⟩
  · show (if a = D.1 i then some e else σ.1 a) = some e9
    rw [if_neg (fun q => by rw [q, (H.2.1 i hi).2.1] at h; cases h)]
    exact H.1 a e9 h
  · show (if D.1 j = D.1 i then some e else σ.1 (D.1 j)) = _
    by_cases hij : j = i
    · subst hij
      rw [if_pos rfl, he]
    · rw [if_neg (fun q => hij (H.2.2.1 j i hj hi q)), (H.2.1 j hj).1, ho j hij]
  · have h' : (if a = D.1 i then some e else σ.1 a) = some e9 := h
    by_cases ha : a = D.1 i
    · rw [ha]
      exact H.2.2.2 _ _ (H.2.1 i hi).1
    · rw [if_neg ha] at h'
      exact H.2.2.2 a _ h'
theorem xs_p (H : XS F D ξ σ) {r : Option Nat} {cs : List Nat} {i c k : Nat} {v : Int32} {K : am_S → Prop} (hi : D.2.2 i) (hr : r = some (D.1 i)) (ht : D.2.1 i = c) (hc : c < 50) (hm : c ∈ cs) (hk : xs_rf c k = false) (h : ∀ σ', XS F D (xs_sI ξ i k v) σ' → σ'.2 = σ.2 → K σ') : f_p σ r cs k (.int v) K := by
  subst hr
  unfold f_p f_c
  dsimp only
  rw [H.obj hi ht hc]
  refine ⟨hm, h _ (H.set hi ?_ fun j hj => ?_) rfl⟩
  · rw [ht]
    unfold xs_E
    rw [if_pos hc]
    congr 2
    funext q
    unfold updV
    by_cases hq : q = k
    · subst hq
      simp [hk, xs_sI, xs_u, xI, xR, xA, xQ, xN]
    · simp [hq, xs_sI, xs_u, xI, xR, xA, xQ, xN]
  · exact xs_Ec (xs_un hj) rfl rfl rfl rfl
theorem xs_pr (H : XS F D ξ σ) {r : Option Nat} {cs : List Nat} {i c k : Nat} {v : Option Nat} {K : am_S → Prop} (hi : D.2.2 i) (hr : r = some (D.1 i)) (ht : D.2.1 i = c) (hc : c < 50) (hm : c ∈ cs) (hk : xs_rf c k = true) (h : ∀ σ', XS F D (xs_sR ξ i k v) σ' → σ'.2 = σ.2 → K σ') : f_p σ r cs k (va_rf v) K := by
  subst hr
  unfold f_p f_c
  dsimp only
  rw [H.obj hi ht hc]
  refine ⟨hm, h _ (H.set hi ?_ fun j hj => ?_) rfl⟩
  · rw [ht]
    unfold xs_E
    rw [if_pos hc]
    congr 2
    funext q
    unfold updV
    by_cases hq : q = k
    · subst hq
      simp [hk, xs_sR, xs_u, xI, xR, xA, xQ, xN]
    · simp [hq, xs_sR, xs_u, xI, xR, xA, xQ, xN]
  · exact xs_Ec rfl (xs_un hj) rfl rfl rfl
theorem xs_si (H : XS F D ξ σ) {r : Option Nat} {i τ : Nat} {x v : Int32} {K : am_S → Prop} (hi : D.2.2 i) (hr : r = some (D.1 i)) (ht : D.2.1 i = 100 + τ) (hc : τ < 4) (hx : vp_in x (xN ξ i)) (h : ∀ σ', XS F D (xs_sA ξ i x.toNatClampNeg (f_nar τ v)) σ' → σ'.2 = σ.2 → K σ') : f_si σ r τ x v K := by
  subst hr
  unfold f_si f_a
  dsimp only
  rw [H.ari hi ht hc]
  refine ⟨rfl, hx, h _ (H.set hi ?_ fun j hj => ?_) rfl⟩
  · rw [ht]
    unfold xs_E
    rw [if_neg (by omega), if_neg (by omega), if_pos (by omega), Nat.add_sub_cancel_left]
    have e : upd (xA ξ i) x.toNatClampNeg (f_nar τ v) = xA (xs_sA ξ i x.toNatClampNeg (f_nar τ v)) i := by
      show _ = xs_u ξ.2.2.1 i x.toNatClampNeg (f_nar τ v) i
      rw [xs_us]
      funext q
      by_cases hq : q = x.toNatClampNeg
      · simp [hq, upd]
      · simp [hq, upd]
    rw [e]
    rfl
  · exact xs_Ec rfl rfl (xs_un hj) rfl rfl
theorem xs_sr (H : XS F D ξ σ) {r v : Option Nat} {i τ : Nat} {cs : List Nat} {x : Int32} {K : am_S → Prop} (hi : D.2.2 i) (hr : r = some (D.1 i)) (ht : D.2.1 i = 100 + τ) (hc : 5 ≤ τ) (hx : vp_in x (xN ξ i)) (hv : ∀ b, v = some b → f_k σ v cs True) (h : ∀ σ', XS F D (xs_sQ ξ i x.toNatClampNeg v) σ' → σ'.2 = σ.2 → K σ') : f_sr σ r τ cs x v K := by
  subst hr
  unfold f_sr f_a
  dsimp only
  rw [H.arq hi ht hc]
  refine ⟨rfl, hx, ?_, h _ (H.set hi ?_ fun j hj => ?_) rfl⟩
  · cases v with
    | none => trivial
    | some b => exact hv b rfl
  · rw [ht]
    unfold xs_E
    rw [if_neg (by omega), if_neg (by omega), if_neg (by omega), if_neg (by omega), Nat.add_sub_cancel_left]
    have e : va_up (xQ ξ i) x.toNatClampNeg v = xQ (xs_sQ ξ i x.toNatClampNeg v) i := by
      show _ = xs_u ξ.2.2.2.1 i x.toNatClampNeg v i
      rw [xs_us]
      funext q
      by_cases hq : q = x.toNatClampNeg
      · simp [hq, va_up]
      · simp [hq, va_up]
    rw [e]
    rfl
  · exact xs_Ec rfl rfl rfl (xs_un hj) rfl
/-- a new cell at a role that was free -/
theorem XS.new (H : XS F D ξ σ) {i t n N : Nat} {e : am_E} (hi0 : i ≠ 0) (hi : ¬ D.2.2 i) (he : e = xs_E t i (xs_0 ξ i n)) : XS F (xs_add D i σ.2.1 t) (xs_0 ξ i n) (am_nw σ e N) := by
  have hfr : ∀ a e9, σ.1 a = some e9 → a ≠ σ.2.1 := fun a e9 h q => by have := H.2.2.2 a e9 h; omega
  refine ⟨fun a e9 h => ?_, fun j hj => ?_, fun j q hj hq heq => ?_, fun a e9 h => ?_⟩
  · show (if a = σ.2.1 then some e else σ.1 a) = some e9
    rw [if_neg (hfr a e9 (H.1 a e9 h))]
    exact H.1 a e9 h
  · by_cases hji : j = i
    · subst hji
      refine ⟨?_, ?_⟩
      · show (if xs_r D.1 j σ.2.1 j = σ.2.1 then some e else _) = some (xs_E (xs_r D.2.1 j t j) j _)
        rw [show xs_r D.1 j σ.2.1 j = σ.2.1 by simp [xs_r], show xs_r D.2.1 j t j = t by simp [xs_r], if_pos rfl, he]
      · show F (xs_r D.1 j σ.2.1 j) = none ∧ (j = 0 → ∀ a e, F a = some e → tf e (xs_r D.1 j σ.2.1 j))
        rw [show xs_r D.1 j σ.2.1 j = σ.2.1 by simp [xs_r]]
        refine ⟨?_, fun e => absurd e hi0⟩
        cases hF : F σ.2.1 with
        | none => rfl
        | some e9 => exact absurd rfl (hfr _ _ (H.1 _ _ hF))
    · have hj' : D.2.2 j := hj.resolve_left hji
      refine ⟨?_, ?_⟩
      · show (if xs_r D.1 i σ.2.1 j = σ.2.1 then some e else σ.1 (xs_r D.1 i σ.2.1 j)) = some (xs_E (xs_r D.2.1 i t j) j _)
        rw [show xs_r D.1 i σ.2.1 j = D.1 j by simp [xs_r, hji], show xs_r D.2.1 i t j = D.2.1 j by simp [xs_r, hji], if_neg (hfr _ _ (H.2.1 j hj').1), (H.2.1 j hj').1]
        exact congrArg some (xs_Ec (ξ := ξ) (ξ' := xs_0 ξ i n) (by simp [xs_0, xs_r, hji]) (by simp [xs_0, xs_r, hji]) (by simp [xs_0, xs_r, hji]) (by simp [xs_0, xs_r, hji]) (by simp [xs_0, xs_r, hji])).symm
      · show F (xs_r D.1 i σ.2.1 j) = none ∧ (j = 0 → ∀ a e, F a = some e → tf e (xs_r D.1 i σ.2.1 j))
        rw [show xs_r D.1 i σ.2.1 j = D.1 j by simp [xs_r, hji]]
        exact (H.2.1 j hj').2
  · have e1 : ∀ j, j ≠ i → xs_r D.1 i σ.2.1 j = D.1 j := fun j h => by simp [xs_r, h]
    have e2 : xs_r D.1 i σ.2.1 i = σ.2.1 := by simp [xs_r]
    have heq' : xs_r D.1 i σ.2.1 j = xs_r D.1 i σ.2.1 q := heq
    by_cases hji : j = i
    · by_cases hqi : q = i
      · rw [hji, hqi]
      · rw [hji, e2, e1 q hqi] at heq'
        exact absurd heq'.symm (hfr _ _ (H.2.1 q (hq.resolve_left hqi)).1)
    · by_cases hqi : q = i
      · rw [hqi, e2, e1 j hji] at heq'
        exact absurd heq' (hfr _ _ (H.2.1 j (hj.resolve_left hji)).1)
      · rw [e1 j hji, e1 q hqi] at heq'
        exact H.2.2.1 j q (hj.resolve_left hji) (hq.resolve_left hqi) heq'
  · have h' : (if a = σ.2.1 then some e else σ.1 a) = some e9 := h
    show a < σ.2.1 + 1
    by_cases ha : a = σ.2.1
    · omega
    · rw [if_neg ha] at h'
      have := H.2.2.2 a _ h'
      omega
/-- a role becomes frozen -/
theorem XS.freeze (H : XS F D ξ σ) {i : Nat} (hi : D.2.2 i) (ht : D.2.2 0 → tf (xs_E (D.2.1 i) i ξ) (D.1 0)) : XS (fun a => if a = D.1 i then some (xs_E (D.2.1 i) i ξ) else F a) (D.1, D.2.1, fun j => j ≠ i ∧ D.2.2 j) ξ σ := by
  refine ⟨fun a e h => ?_, fun j hj => ⟨(H.2.1 j hj.2).1, ?_⟩, fun j q hj hq => H.2.2.1 j q hj.2 hq.2, H.2.2.2⟩
  · have h' : (if a = D.1 i then some (xs_E (D.2.1 i) i ξ) else F a) = some e := h
    by_cases ha : a = D.1 i
    · rw [if_pos ha] at h'
      rw [ha, (H.2.1 i hi).1]
      exact h'
    · rw [if_neg ha] at h'
      exact H.1 a e h'
  · refine ⟨?_, fun e0 a e h => ?_⟩
    · show (if D.1 j = D.1 i then _ else F (D.1 j)) = none
      rw [if_neg (fun q => hj.1 (H.2.2.1 j i hj.2 hi q))]
      exact (H.2.1 j hj.2).2.1
    · have h' : (if a = D.1 i then some (xs_E (D.2.1 i) i ξ) else F a) = some e := h
      by_cases ha : a = D.1 i
      · rw [if_pos ha] at h'
        cases h'
        subst e0
        exact ht hj.2
      · rw [if_neg ha] at h'
        exact (H.2.1 j hj.2).2.2 e0 a e h'
/-- what is no inner thing -/
theorem tf_no {t i h : Nat} {ξ : xs_X} (ht : ∀ k, k < 6 → (t, k) ∉ tfs) : tf (xs_E t i ξ) h := fun c f e k hk => by
  exfalso
  unfold xs_E at e
  by_cases h9 : t < 50
  · rw [if_pos h9] at e
    injection e with e
    injection e with e1 e2
    subst e1
    have hk6 : k < 6 := by
      have : ∀ x, x ∈ tfs → x.2 < 6 := by decide
      exact this _ hk
    exact ht k hk6 hk
  · rw [if_neg h9] at e
    by_cases h8 : t < 100
    · rw [if_pos h8] at e
      injection e with e
      injection e with e1 e2
      subst e1
      have : ∀ x, x ∈ tfs → x.1 ≠ 6 := by decide
      exact this _ hk rfl
    · rw [if_neg h8] at e
      cases e
/-- an inner thing that tells its house -/
theorem tf_of {t i h : Nat} {ξ : xs_X} (hr : ∀ x, x ∈ tfs → x.1 = t → xs_rf t x.2 = true) (ht : ∀ k, (t, k) ∈ tfs → xR ξ i k = some h) : tf (xs_E t i ξ) h := fun c f e k hk => by
  unfold xs_E at e
  by_cases h9 : t < 50
  · rw [if_pos h9] at e
    injection e with e
    injection e with e1 e2
    subst e1; subst e2
    show (if xs_rf t k = true then va_rf (xR ξ i k) else _) = _
    rw [if_pos (hr _ hk rfl), ht k hk]
  · rw [if_neg h9] at e
    by_cases h8 : t < 100
    · rw [if_pos h8] at e
      injection e with e
      injection e with e1 e2
      subst e1
      have : ∀ x, x ∈ tfs → x.1 ≠ 6 := by decide
      exact absurd rfl (this _ hk)
    · rw [if_neg h8] at e
      cases e
/-- fewer roles -/
theorem XS.less (H : XS F D ξ σ) {P : Nat → Prop} (h : ∀ i, P i → D.2.2 i) : XS F (D.1, D.2.1, P) ξ σ := ⟨H.1, fun i hi => H.2.1 i (h i hi), fun i j hi hj => H.2.2.1 i j (h i hi) (h j hj), H.2.2.2⟩
end
