set_option maxRecDepth 100000
/-! ===== X's store at work: roles with addresses, growth, credits (x_) ===== -/
/-- the role i lies at a, of the kind t -/
def rl (D : xs_D) (i a t : Nat) : Prop := D.2.2 i ∧ D.1 i = a ∧ D.2.1 i = t
/-- more roles -/
def XD (D D1 : xs_D) : Prop := ∀ i a t, rl D i a t → rl D1 i a t
/-- more that is frozen -/
def FE (F F' : am_H) : Prop := ∀ a e, F a = some e → F' a = some e
/-- the same contents at a role -/
def sc (ξ ξ' : xs_X) (i : Nat) : Prop := xI ξ' i = xI ξ i ∧ xR ξ' i = xR ξ i ∧ xA ξ' i = xA ξ i ∧ xQ ξ' i = xQ ξ i ∧ xN ξ' i = xN ξ i
/-- credits: a cell costs one, and one more for each four slots beyond four -/
def cr (G : am_G) (m : Nat) (σ : am_S) : Prop := σ.2.1 + m ≤ am_bc G ∧ σ.2.2 + 4 * m ≤ am_bs G ∧ am_z G ≤ σ.2.1
theorem XD.refl {D : xs_D} : XD D D := fun _ _ _ h => h
theorem XD.trans {D D1 D2 : xs_D} (h1 : XD D D1) (h2 : XD D1 D2) : XD D D2 := fun i a t h => h2 i a t (h1 i a t h)
theorem FE.refl {F : am_H} : FE F F := fun _ _ h => h
theorem FE.trans {F F1 F2 : am_H} (h1 : FE F F1) (h2 : FE F1 F2) : FE F F2 := fun a e h => h2 a e (h1 a e h)
theorem sc.refl {ξ : xs_X} {i : Nat} : sc ξ ξ i := ⟨rfl, rfl, rfl, rfl, rfl⟩
theorem sc.trans {ξ ξ1 ξ2 : xs_X} {i : Nat} (h1 : sc ξ ξ1 i) (h2 : sc ξ1 ξ2 i) : sc ξ ξ2 i := ⟨h2.1.trans h1.1, h2.2.1.trans h1.2.1, h2.2.2.1.trans h1.2.2.1, h2.2.2.2.1.trans h1.2.2.2.1, h2.2.2.2.2.trans h1.2.2.2.2⟩
theorem cr.le {G : am_G} {m m' : Nat} {σ : am_S} (h : cr G m σ) (hm : m' ≤ m) : cr G m' σ := ⟨by have := h.1; omega, by have := h.2.1; omega, h.2.2⟩
theorem cr.eq {G : am_G} {m : Nat} {σ σ' : am_S} (h : cr G m σ) (e : σ'.2 = σ.2) : cr G m σ' := by
  unfold cr at h ⊢
  rw [e]
  exact h
theorem sc.E {ξ ξ' : xs_X} {i t : Nat} (h : sc ξ ξ' i) : xs_E t i ξ' = xs_E t i ξ := xs_Ec h.1 h.2.1 h.2.2.1 h.2.2.2.1 h.2.2.2.2
theorem XS.cong {F : am_H} {D D1 : xs_D} {ξ : xs_X} {σ : am_S} (H : XS F D1 ξ σ) (h : XD D D1) : XS F D ξ σ := by
  have hr : ∀ i, D.2.2 i → D1.2.2 i ∧ D1.1 i = D.1 i ∧ D1.2.1 i = D.2.1 i := fun i hi => h i (D.1 i) (D.2.1 i) ⟨hi, rfl, rfl⟩
  refine ⟨H.1, fun i hi => ?_, fun i j hi hj e => ?_, H.2.2.2⟩
  · obtain ⟨h1, h2, h3⟩ := hr i hi
    have := H.2.1 i h1
    rw [h2, h3] at this
    exact this
  · obtain ⟨h1, h2, h3⟩ := hr i hi
    obtain ⟨k1, k2, k3⟩ := hr j hj
    exact H.2.2.1 i j h1 k1 (by rw [h2, k2]; exact e)
section
variable {G : am_G} {F : am_H} {D : xs_D} {ξ : xs_X} {σ : am_S} {i a c τ k : Nat} {cs : List Nat}
theorem x_gi (H : XS F D ξ σ) (hr : rl D i a c) (hd : c < 50 ∧ c ∈ cs ∧ xs_rf c k = false) {v : Int32} {K : Int32 → Prop} (hv : xI ξ i k = v) (h : K v) : f_gi σ (some a) cs k K := xs_gi H hr.1 (by rw [hr.2.1]) hr.2.2 hd.1 hd.2.1 hd.2.2 (by rw [hv]; exact h)
theorem x_gr (H : XS F D ξ σ) (hr : rl D i a c) (hd : c < 50 ∧ c ∈ cs ∧ xs_rf c k = true) {v : Option Nat} {K : Option Nat → Prop} (hv : xR ξ i k = v) (h : K v) : f_gr σ (some a) cs k K := xs_gr H hr.1 (by rw [hr.2.1]) hr.2.2 hd.1 hd.2.1 hd.2.2 (by rw [hv]; exact h)
theorem x_o (H : XS F D ξ σ) (hr : rl D i a c) (hd : c < 50 ∧ c ∈ cs) {K : Nat → Prop} (h : K a) : f_o σ (some a) cs K := xs_o H hr.1 (by rw [hr.2.1]) hr.2.2 hd.1 hd.2 (by rw [hr.2.1]; exact h)
theorem x_k (H : XS F D ξ σ) (hr : rl D i a c) (hd : c < 50 ∧ c ∈ cs) {K : Prop} (h : K) : f_k σ (some a) cs K := by
  have := x_o H hr hd (K := fun _ => K) h
  unfold f_o f_c at this
  unfold f_k f_c
  dsimp only at this ⊢
  cases hs : σ.1 a with
  | none => rw [hs] at this; exact this.elim
  | some e =>
    rw [hs] at this
    cases e with
    | inl x => exact this.elim
    | inr x => exact this
theorem x_al (H : XS F D ξ σ) (hr : rl D i a (100 + τ)) {n : Nat} {K : Int32 → Prop} (hn : xN ξ i = n) (h : K (nI n)) : f_al σ (some a) τ K := xs_al H hr.1 (by rw [hr.2.1]) hr.2.2 (by rw [hn]; exact h)
theorem x_ai (H : XS F D ξ σ) (hr : rl D i a (100 + τ)) (hc : τ < 4) {n q : Nat} {x v : Int32} {K : Int32 → Prop} (hn : xN ξ i = n) (hx : x = nI q) (hq : q < n) (hn31 : n < 2 ^ 31) (hv : xA ξ i q = v) (h : K v) : f_ai σ (some a) τ x K := by
  subst hx
  refine xs_ai H hr.1 (by rw [hr.2.1]) hr.2.2 hc (by rw [hn]; exact vp_in_nI hq hn31) ?_
  rw [nI_clamp (by omega), hv]
  exact h
theorem x_ar (H : XS F D ξ σ) (hr : rl D i a (100 + τ)) (hc : 5 ≤ τ) {n q : Nat} {x : Int32} {v : Option Nat} {K : Option Nat → Prop} (hn : xN ξ i = n) (hx : x = nI q) (hq : q < n) (hn31 : n < 2 ^ 31) (hv : xQ ξ i q = v) (h : K v) : f_ar σ (some a) τ x K := by
  subst hx
  refine xs_ar H hr.1 (by rw [hr.2.1]) hr.2.2 hc (by rw [hn]; exact vp_in_nI hq hn31) ?_
  rw [nI_clamp (by omega), hv]
  exact h
theorem x_p (H : XS F D ξ σ) (hr : rl D i a c) (hd : c < 50 ∧ c ∈ cs ∧ xs_rf c k = false) {v : Int32} {K : am_S → Prop} (h : ∀ σ', XS F D (xs_sI ξ i k v) σ' → σ'.2 = σ.2 → K σ') : f_p σ (some a) cs k (.int v) K := xs_p H hr.1 (by rw [hr.2.1]) hr.2.2 hd.1 hd.2.1 hd.2.2 h
theorem x_pr (H : XS F D ξ σ) (hr : rl D i a c) (hd : c < 50 ∧ c ∈ cs ∧ xs_rf c k = true) {v : Option Nat} {K : am_S → Prop} (h : ∀ σ', XS F D (xs_sR ξ i k v) σ' → σ'.2 = σ.2 → K σ') : f_p σ (some a) cs k (va_rf v) K := xs_pr H hr.1 (by rw [hr.2.1]) hr.2.2 hd.1 hd.2.1 hd.2.2 h
theorem x_si (H : XS F D ξ σ) (hr : rl D i a (100 + τ)) (hc : τ < 4) {n q : Nat} {x v : Int32} {K : am_S → Prop} (hn : xN ξ i = n) (hx : x = nI q) (hq : q < n) (hn31 : n < 2 ^ 31) (h : ∀ σ', XS F D (xs_sA ξ i q (f_nar τ v)) σ' → σ'.2 = σ.2 → K σ') : f_si σ (some a) τ x v K := by
  subst hx
  refine xs_si H hr.1 (by rw [hr.2.1]) hr.2.2 hc (by rw [hn]; exact vp_in_nI hq hn31) ?_
  rw [nI_clamp (by omega)]
  exact h
theorem x_sr (H : XS F D ξ σ) (hr : rl D i a (100 + τ)) (hc : 5 ≤ τ) {n q : Nat} {x : Int32} {v : Option Nat} {K : am_S → Prop} (hn : xN ξ i = n) (hx : x = nI q) (hq : q < n) (hn31 : n < 2 ^ 31) (hv : ∀ b, v = some b → f_k σ v cs True) (h : ∀ σ', XS F D (xs_sQ ξ i q v) σ' → σ'.2 = σ.2 → K σ') : f_sr σ (some a) τ cs x v K := by
  subst hx
  refine xs_sr H hr.1 (by rw [hr.2.1]) hr.2.2 hc (by rw [hn]; exact vp_in_nI hq hn31) hv ?_
  rw [nI_clamp (by omega)]
  exact h
/-! what is frozen -/
theorem z_o (H : XS F D ξ σ) {f : Nat → Value} (hF : F a = some (.inr (c, f))) (hm : c ∈ cs) {K : Nat → Prop} (h : K a) : f_o σ (some a) cs K := by
  unfold f_o f_c
  dsimp only
  rw [H.1 a _ hF]
  exact ⟨hm, h⟩
theorem z_k (H : XS F D ξ σ) {f : Nat → Value} (hF : F a = some (.inr (c, f))) (hm : c ∈ cs) {K : Prop} (h : K) : f_k σ (some a) cs K := by
  unfold f_k f_c
  dsimp only
  rw [H.1 a _ hF]
  exact ⟨hm, h⟩
theorem z_gi (H : XS F D ξ σ) {f : Nat → Value} (hF : F a = some (.inr (c, f))) (hm : c ∈ cs) {v : Int32} {K : Int32 → Prop} (hv : f k = .int v) (h : K v) : f_gi σ (some a) cs k K := by
  unfold f_gi f_c
  dsimp only
  rw [H.1 a _ hF]
  dsimp only
  rw [hv]
  exact ⟨hm, h⟩
theorem z_gr (H : XS F D ξ σ) {f : Nat → Value} (hF : F a = some (.inr (c, f))) (hm : c ∈ cs) {v : Option Nat} {K : Option Nat → Prop} (hv : f k = va_rf v) (h : K v) : f_gr σ (some a) cs k K := by
  unfold f_gr f_c
  dsimp only
  rw [H.1 a _ hF]
  dsimp only
  rw [hv]
  cases v with
  | none => exact ⟨hm, h⟩
  | some b => exact ⟨hm, h⟩
theorem z_al (H : XS F D ξ σ) {x : vp_A} (hF : F a = some (.inl (τ, x))) {K : Int32 → Prop} (h : K (nI x.1)) : f_al σ (some a) τ K := by
  unfold f_al f_a
  dsimp only
  rw [H.1 a _ hF]
  exact ⟨rfl, h⟩
theorem z_ai (H : XS F D ξ σ) {n q : Nat} {f : Nat → Int32} (hF : F a = some (.inl (τ, n, .inl f))) {x v : Int32} {K : Int32 → Prop} (hx : x = nI q) (hq : q < n) (hn31 : n < 2 ^ 31) (hv : f q = v) (h : K v) : f_ai σ (some a) τ x K := by
  subst hx
  unfold f_ai f_a
  dsimp only
  rw [H.1 a _ hF]
  refine ⟨rfl, vp_in_nI hq hn31, ?_⟩
  dsimp only
  rw [nI_clamp (by omega), hv]
  exact h
theorem z_ar (H : XS F D ξ σ) {n q : Nat} {f : Nat → Option Nat} (hF : F a = some (.inl (τ, n, .inr (.inr (.inr (.inr f)))))) {x : Int32} {v : Option Nat} {K : Option Nat → Prop} (hx : x = nI q) (hq : q < n) (hn31 : n < 2 ^ 31) (hv : f q = v) (h : K v) : f_ar σ (some a) τ x K := by
  subst hx
  unfold f_ar f_a
  dsimp only
  rw [H.1 a _ hF]
  refine ⟨rfl, vp_in_nI hq hn31, ?_⟩
  dsimp only
  rw [nI_clamp (by omega), hv]
  exact h
/-! new cells -/
theorem xs_add_XD {t : Nat} (hi : ¬ D.2.2 i) : XD D (xs_add D i a t) := fun j b t' ⟨h1, h2, h3⟩ => by
  have hji : j ≠ i := fun e => hi (e ▸ h1)
  refine ⟨Or.inr h1, ?_, ?_⟩
  · show xs_r D.1 i a j = b
    unfold xs_r
    rw [if_neg hji]
    exact h2
  · show xs_r D.2.1 i t j = t'
    unfold xs_r
    rw [if_neg hji]
    exact h3
theorem xs_add_rl {t : Nat} : rl (xs_add D i a t) i a t := ⟨Or.inl rfl, by show xs_r D.1 i a i = a; unfold xs_r; rw [if_pos rfl], by show xs_r D.2.1 i t i = t; unfold xs_r; rw [if_pos rfl]⟩
/-- roles from 2000 on are of what lies there -/
def TD (D : xs_D) : Prop := ∀ j, D.2.2 (2000 + j) → D.1 (2000 + j) = j
theorem TD.free (h : TD D) (H : XS F D ξ σ) : ¬ D.2.2 (2000 + σ.2.1) := fun hi => by
  have h1 := (H.2.1 _ hi).1
  have h2 := H.2.2.2 _ _ h1
  rw [h _ hi] at h2
  omega
theorem TD.add (h : TD D) {t b : Nat} : TD (xs_add D (2000 + b) b t) := fun j hj => by
  show xs_r D.1 (2000 + b) b (2000 + j) = j
  unfold xs_r
  by_cases e : 2000 + j = 2000 + b
  · rw [if_pos e]
    omega
  · rw [if_neg e]
    exact h j (hj.resolve_left e)
theorem xs_0_sc {n j : Nat} (h : j ≠ i) : sc ξ (xs_0 ξ i n) j := by
  refine ⟨?_, ?_, ?_, ?_, ?_⟩
  · show xs_r ξ.1 i _ j = _; unfold xs_r; rw [if_neg h]
  · show xs_r ξ.2.1 i _ j = _; unfold xs_r; rw [if_neg h]
  · show xs_r ξ.2.2.1 i _ j = _; unfold xs_r; rw [if_neg h]
  · show xs_r ξ.2.2.2.1 i _ j = _; unfold xs_r; rw [if_neg h]
  · show xs_r ξ.2.2.2.2 i _ j = _; unfold xs_r; rw [if_neg h]
/-- types whose default is 0 or null -/
def okT (t : FieldType) : Bool := match t with
  | .long => false
  | .float => false
  | .double => false
  | _ => true
theorem okT_d {t : FieldType} (h : okT t = true) : defaultValue t = if t.isReference = true then va_rf none else .int 0 := by
  cases t with
  | long => cases h
  | float => cases h
  | double => cases h
  | _ => rfl
/-- a new object: its role is i -/
theorem x_new (H : XS F D ξ σ) (hT : TD D) {m N j : Nat} (hok : ∀ j, okT (xs_ty c j) = true) (hc : c < 50) (hcr : cr G (m + j) σ) (hN : 1 ≤ j ∧ N ≤ 4 * j) {ty : Nat → FieldType} (hty : ty = xs_ty c) {K : Nat → am_S → Prop} (h : ∀ D1 ξ1 σ1 i, XD D D1 → TD D1 → ¬ D.2.2 i → rl D1 i σ.2.1 c → 2000 ≤ i → XS F D1 ξ1 σ1 → (∀ j, D.2.2 j → sc ξ ξ1 j) → xI ξ1 i = (fun _ => 0) → xR ξ1 i = (fun _ => none) → cr G m σ1 → F σ.2.1 = none → K σ.2.1 σ1) : f_new G σ c N ty K := by
  subst hty
  have hfree := hT.free H
  refine ⟨by have := hcr.1; omega, by have := hcr.2.1; omega, ?_⟩
  have H1 := H.new (i := 2000 + σ.2.1) (t := c) (n := 0) (N := N) (e := .inr (c, fun j => defaultValue (xs_ty c j))) (by omega) hfree (by
    unfold xs_E
    rw [if_pos hc]
    congr 2
    funext j
    rw [okT_d (hok j)]
    show _ = if (xs_ty c j).isReference = true then va_rf (xs_r ξ.2.1 _ _ _ j) else .int (xs_r ξ.1 _ _ _ j)
    unfold xs_r
    rw [if_pos rfl, if_pos rfl])
  have hF : F σ.2.1 = none := by
    cases h9 : F σ.2.1 with
    | none => rfl
    | some e =>
      have := H.2.2.2 _ _ (H.1 _ _ h9)
      omega
  refine h _ _ _ (2000 + σ.2.1) (xs_add_XD hfree) hT.add hfree xs_add_rl (by omega) H1 (fun j hj => xs_0_sc fun e => hfree (e ▸ hj)) ?_ ?_ ⟨?_, ?_, ?_⟩ hF
  · show xs_r ξ.1 _ _ _ = _; unfold xs_r; rw [if_pos rfl]
  · show xs_r ξ.2.1 _ _ _ = _; unfold xs_r; rw [if_pos rfl]
  · have := hcr.1
    show σ.2.1 + 1 + m ≤ _
    omega
  · have := hcr.2.1
    show σ.2.2 + N + 4 * m ≤ _
    omega
  · have := hcr.2.2
    show am_z G ≤ σ.2.1 + 1
    omega
/-- a new array of ints, of length n -/
theorem x_nai (H : XS F D ξ σ) (hT : TD D) {n m j : Nat} {x : Int32} (hx : x = nI n) (hτ : τ < 4) (hcr : cr G (m + j) σ) (hj : 1 ≤ j ∧ n ≤ 4 * j ∧ n ≤ 65536) {K : Nat → am_S → Prop} (h : ∀ D1 ξ1 σ1 i, XD D D1 → TD D1 → ¬ D.2.2 i → rl D1 i σ.2.1 (100 + τ) → 2000 ≤ i → XS F D1 ξ1 σ1 → (∀ j, D.2.2 j → sc ξ ξ1 j) → xN ξ1 i = n → xA ξ1 i = (fun _ => 0) → cr G m σ1 → F σ.2.1 = none → K σ.2.1 σ1) : f_na G σ τ f_a0i x K := by
  have hfree := hT.free H
  refine ⟨n, hx, hj.2.2, by have := hcr.1; omega, by have := hcr.2.1; omega, ?_⟩
  have H1 := H.new (i := 2000 + σ.2.1) (t := 100 + τ) (n := n) (N := n) (e := .inl (τ, f_a0i n)) (by omega) hfree (by
    unfold xs_E
    rw [if_neg (by omega), if_neg (by omega), if_pos (by omega), Nat.add_sub_cancel_left]
    show _ = (Sum.inl (τ, xs_r ξ.2.2.2.2 _ _ _, .inl (xs_r ξ.2.2.1 _ _ _)) : am_E)
    unfold xs_r
    rw [if_pos rfl, if_pos rfl]
    rfl)
  have hF : F σ.2.1 = none := by
    cases h9 : F σ.2.1 with
    | none => rfl
    | some e =>
      have := H.2.2.2 _ _ (H.1 _ _ h9)
      omega
  refine h _ _ _ (2000 + σ.2.1) (xs_add_XD hfree) hT.add hfree xs_add_rl (by omega) H1 (fun j hj => xs_0_sc fun e => hfree (e ▸ hj)) ?_ ?_ ⟨?_, ?_, ?_⟩ hF
  · show xs_r ξ.2.2.2.2 _ _ _ = _; unfold xs_r; rw [if_pos rfl]
  · show xs_r ξ.2.2.1 _ _ _ = _; unfold xs_r; rw [if_pos rfl]
  · have := hcr.1
    show σ.2.1 + 1 + m ≤ _
    omega
  · have := hcr.2.1
    show σ.2.2 + n + 4 * m ≤ _
    omega
  · have := hcr.2.2
    show am_z G ≤ σ.2.1 + 1
    omega
/-- a new array of references, of length n -/
theorem x_nar (H : XS F D ξ σ) (hT : TD D) {n m j : Nat} {x : Int32} (hx : x = nI n) (hτ : 5 ≤ τ) (hcr : cr G (m + j) σ) (hj : 1 ≤ j ∧ n ≤ 4 * j ∧ n ≤ 65536) {K : Nat → am_S → Prop} (h : ∀ D1 ξ1 σ1 i, XD D D1 → TD D1 → ¬ D.2.2 i → rl D1 i σ.2.1 (100 + τ) → 2000 ≤ i → XS F D1 ξ1 σ1 → (∀ j, D.2.2 j → sc ξ ξ1 j) → xN ξ1 i = n → xQ ξ1 i = (fun _ => none) → cr G m σ1 → F σ.2.1 = none → K σ.2.1 σ1) : f_na G σ τ f_a0r x K := by
  have hfree := hT.free H
  refine ⟨n, hx, hj.2.2, by have := hcr.1; omega, by have := hcr.2.1; omega, ?_⟩
  have H1 := H.new (i := 2000 + σ.2.1) (t := 100 + τ) (n := n) (N := n) (e := .inl (τ, f_a0r n)) (by omega) hfree (by
    unfold xs_E
    rw [if_neg (by omega), if_neg (by omega), if_neg (by omega), if_neg (by omega), Nat.add_sub_cancel_left]
    show _ = (Sum.inl (τ, xs_r ξ.2.2.2.2 _ _ _, .inr (.inr (.inr (.inr (xs_r ξ.2.2.2.1 _ _ _))))) : am_E)
    unfold xs_r
    rw [if_pos rfl, if_pos rfl]
    rfl)
  have hF : F σ.2.1 = none := by
    cases h9 : F σ.2.1 with
    | none => rfl
    | some e =>
      have := H.2.2.2 _ _ (H.1 _ _ h9)
      omega
  refine h _ _ _ (2000 + σ.2.1) (xs_add_XD hfree) hT.add hfree xs_add_rl (by omega) H1 (fun j hj => xs_0_sc fun e => hfree (e ▸ hj)) ?_ ?_ ⟨?_, ?_, ?_⟩ hF
  · show xs_r ξ.2.2.2.2 _ _ _ = _; unfold xs_r; rw [if_pos rfl]
  · show xs_r ξ.2.2.2.1 _ _ _ = _; unfold xs_r; rw [if_pos rfl]
  · have := hcr.1
    show σ.2.1 + 1 + m ≤ _
    omega
  · have := hcr.2.1
    show σ.2.2 + n + 4 * m ≤ _
    omega
  · have := hcr.2.2
    show am_z G ≤ σ.2.1 + 1
    omega
/-- a role is frozen -/
def fzF (F : am_H) (a : Nat) (e : am_E) : am_H := fun q => if q = a then some e else F q
theorem fzF_s {e : am_E} : fzF F a e a = some e := if_pos rfl
theorem fzF_FE {e : am_E} (h : F a = none) : FE F (fzF F a e) := fun q e' h' => by
  unfold fzF
  rw [if_neg (fun eq => by rw [eq, h] at h'; cases h')]
  exact h'
theorem XS.frz (H : XS F D ξ σ) {t : Nat} (hr : rl D i a t) (ht : ∀ h, rl D 0 h (D.2.1 0) → tf (xs_E t i ξ) h) : XS (fzF F a (xs_E t i ξ)) (D.1, D.2.1, fun j => j ≠ i ∧ D.2.2 j) ξ σ ∧ F a = none := by
  obtain ⟨h1, h2, h3⟩ := hr
  have := H.freeze h1 (fun h0 => by rw [h3]; exact ht _ ⟨h0, rfl, rfl⟩)
  rw [h2, h3] at this
  refine ⟨this, ?_⟩
  have h9 := (H.2.1 i h1).2.1
  rw [h2] at h9
  exact h9
theorem XD.drop {D0 : xs_D} (h : XD D0 D) (hi : ¬ D0.2.2 i) : XD D0 (D.1, D.2.1, fun j => j ≠ i ∧ D.2.2 j) := fun j b t hj => by
  obtain ⟨h1, h2, h3⟩ := h j b t hj
  exact ⟨⟨fun e => hi (e ▸ hj.1), h1⟩, h2, h3⟩
theorem TD.drop (h : TD D) {P : Nat → Prop} : TD (D.1, D.2.1, fun j => P j ∧ D.2.2 j) := fun j hj => h j hj.2
theorem rl_of (hr : D.2.2 i) : rl D i (D.1 i) (D.2.1 i) := ⟨hr, rfl, rfl⟩
theorem rl.ne {D : xs_D} (H : XS F D ξ σ) {i j a b t t' : Nat} (hi : rl D i a t) (hj : rl D j b t') (h : i ≠ j) : a ≠ b := fun e => h (H.2.2.1 i j hi.1 hj.1 (by rw [hi.2.1, hj.2.1, e]))
end
/-! contents behind writes -/
theorem sI_sc {ξ : xs_X} {i j k : Nat} {v : Int32} (h : j ≠ i) : sc ξ (xs_sI ξ i k v) j := ⟨xs_un h, rfl, rfl, rfl, rfl⟩
theorem sR_sc {ξ : xs_X} {i j k : Nat} {v : Option Nat} (h : j ≠ i) : sc ξ (xs_sR ξ i k v) j := ⟨rfl, xs_un h, rfl, rfl, rfl⟩
theorem sA_sc {ξ : xs_X} {i j k : Nat} {v : Int32} (h : j ≠ i) : sc ξ (xs_sA ξ i k v) j := ⟨rfl, rfl, xs_un h, rfl, rfl⟩
theorem sQ_sc {ξ : xs_X} {i j k : Nat} {v : Option Nat} (h : j ≠ i) : sc ξ (xs_sQ ξ i k v) j := ⟨rfl, rfl, rfl, xs_un h, rfl⟩
theorem sI_s {ξ : xs_X} {i k : Nat} {v : Int32} : xI (xs_sI ξ i k v) i k = v := by show xs_u ξ.1 i k v i k = v; rw [xs_us]; exact if_pos rfl
theorem sI_o {ξ : xs_X} {i k q : Nat} {v : Int32} (h : q ≠ k) : xI (xs_sI ξ i k v) i q = xI ξ i q := by show xs_u ξ.1 i k v i q = _; rw [xs_us]; exact if_neg h
theorem sR_s {ξ : xs_X} {i k : Nat} {v : Option Nat} : xR (xs_sR ξ i k v) i k = v := by show xs_u ξ.2.1 i k v i k = v; rw [xs_us]; exact if_pos rfl
theorem sR_o {ξ : xs_X} {i k q : Nat} {v : Option Nat} (h : q ≠ k) : xR (xs_sR ξ i k v) i q = xR ξ i q := by show xs_u ξ.2.1 i k v i q = _; rw [xs_us]; exact if_neg h
theorem sA_s {ξ : xs_X} {i k : Nat} {v : Int32} : xA (xs_sA ξ i k v) i k = v := by show xs_u ξ.2.2.1 i k v i k = v; rw [xs_us]; exact if_pos rfl
theorem sA_o {ξ : xs_X} {i k q : Nat} {v : Int32} (h : q ≠ k) : xA (xs_sA ξ i k v) i q = xA ξ i q := by show xs_u ξ.2.2.1 i k v i q = _; rw [xs_us]; exact if_neg h
theorem sQ_s {ξ : xs_X} {i k : Nat} {v : Option Nat} : xQ (xs_sQ ξ i k v) i k = v := by show xs_u ξ.2.2.2.1 i k v i k = v; rw [xs_us]; exact if_pos rfl
theorem sQ_o {ξ : xs_X} {i k q : Nat} {v : Option Nat} (h : q ≠ k) : xQ (xs_sQ ξ i k v) i q = xQ ξ i q := by show xs_u ξ.2.2.2.1 i k v i q = _; rw [xs_us]; exact if_neg h
theorem ok_0 : ∀ j, okT (xs_ty 0 j) = true := fun j => by
  show okT (tyX0 j) = true
  unfold tyX0
  split <;> rfl
theorem ok_1 : ∀ j, okT (xs_ty 1 j) = true := fun j => by
  show okT (tyX1 j) = true
  unfold tyX1
  split <;> rfl
theorem ok_2 : ∀ j, okT (xs_ty 2 j) = true := fun j => by
  show okT (tyX2 j) = true
  unfold tyX2
  split <;> rfl
theorem ok_3 : ∀ j, okT (xs_ty 3 j) = true := fun j => by
  show okT (tyX3 j) = true
  unfold tyX3
  split <;> rfl
theorem ok_4 : ∀ j, okT (xs_ty 4 j) = true := fun j => by
  show okT (tyX4 j) = true
  unfold tyX4
  split <;> rfl
theorem ok_5 : ∀ j, okT (xs_ty 5 j) = true := fun j => by
  show okT (tyX5 j) = true
  unfold tyX5
  split <;> rfl
theorem ok_7 : ∀ j, okT (xs_ty 7 j) = true := fun j => by
  show okT (tyX7 j) = true
  unfold tyX7
  split <;> rfl
theorem ok_8 : ∀ j, okT (xs_ty 8 j) = true := fun j => by
  show okT (tyX8 j) = true
  unfold tyX8
  split <;> rfl
theorem ok_9 : ∀ j, okT (xs_ty 9 j) = true := fun j => by
  show okT (tyX9 j) = true
  unfold tyX9
  split <;> rfl
theorem ok_10 : ∀ j, okT (xs_ty 10 j) = true := fun j => by
  show okT (tyX10 j) = true
  unfold tyX10
  split <;> rfl
theorem ok_11 : ∀ j, okT (xs_ty 11 j) = true := fun j => by
  show okT (tyX12 j) = true
  unfold tyX12
  split <;> rfl
theorem ok_12 : ∀ j, okT (xs_ty 12 j) = true := fun j => by
  show okT (tyX14 j) = true
  unfold tyX14
  split <;> rfl
theorem ok_13 : ∀ j, okT (xs_ty 13 j) = true := fun j => by
  show okT (tyX15 j) = true
  unfold tyX15
  split <;> rfl
theorem ok_14 : ∀ j, okT (xs_ty 14 j) = true := fun j => by
  show okT (tyX16 j) = true
  unfold tyX16
  split <;> rfl
theorem ok_15 : ∀ j, okT (xs_ty 15 j) = true := fun j => by
  show okT (tyX17 j) = true
  unfold tyX17
  split <;> rfl
theorem ok_16 : ∀ j, okT (xs_ty 16 j) = true := fun j => by
  show okT (tyX18 j) = true
  unfold tyX18
  split <;> rfl
theorem ok_17 : ∀ j, okT (xs_ty 17 j) = true := fun j => by
  show okT (tyX19 j) = true
  unfold tyX19
  split <;> rfl
theorem ok_18 : ∀ j, okT (xs_ty 18 j) = true := fun j => by
  show okT (tyX20 j) = true
  unfold tyX20
  split <;> rfl
theorem ok_19 : ∀ j, okT (xs_ty 19 j) = true := fun j => by
  show okT (tyX21 j) = true
  unfold tyX21
  split <;> rfl
theorem ok_20 : ∀ j, okT (xs_ty 20 j) = true := fun j => by
  show okT (tyX22 j) = true
  unfold tyX22
  split <;> rfl
theorem ok_21 : ∀ j, okT (xs_ty 21 j) = true := fun j => by
  show okT (tyX23 j) = true
  unfold tyX23
  split <;> rfl
theorem ok_22 : ∀ j, okT (xs_ty 22 j) = true := fun j => by
  show okT (tyX24 j) = true
  unfold tyX24
  split <;> rfl
theorem ok_23 : ∀ j, okT (xs_ty 23 j) = true := fun j => by
  show okT (tyX25 j) = true
  unfold tyX25
  split <;> rfl
theorem ok_24 : ∀ j, okT (xs_ty 24 j) = true := fun j => by
  show okT (tyX26 j) = true
  unfold tyX26
  split <;> rfl
theorem ok_25 : ∀ j, okT (xs_ty 25 j) = true := fun j => by
  show okT (tyX28 j) = true
  unfold tyX28
  split <;> rfl
theorem ok_26 : ∀ j, okT (xs_ty 26 j) = true := fun j => by
  show okT (tyX29 j) = true
  unfold tyX29
  split <;> rfl
theorem ok_27 : ∀ j, okT (xs_ty 27 j) = true := fun j => by
  show okT (tyX30 j) = true
  unfold tyX30
  split <;> rfl
theorem ok_28 : ∀ j, okT (xs_ty 28 j) = true := fun j => by
  show okT (tyX31 j) = true
  unfold tyX31
  split <;> rfl
theorem ok_29 : ∀ j, okT (xs_ty 29 j) = true := fun j => by
  show okT (tyX32 j) = true
  unfold tyX32
  split <;> rfl
theorem ok_30 : ∀ j, okT (xs_ty 30 j) = true := fun j => by
  show okT (tyX33 j) = true
  unfold tyX33
  split <;> rfl
theorem ok_31 : ∀ j, okT (xs_ty 31 j) = true := fun j => by
  show okT (tyX34 j) = true
  unfold tyX34
  split <;> rfl
theorem ok_32 : ∀ j, okT (xs_ty 32 j) = true := fun j => by
  show okT (tyX35 j) = true
  unfold tyX35
  split <;> rfl
theorem ok_33 : ∀ j, okT (xs_ty 33 j) = true := fun j => by
  show okT (tyJ14 j) = true
  unfold tyJ14
  split <;> rfl
theorem ok_34 : ∀ j, okT (xs_ty 34 j) = true := fun j => by
  show okT (tyJ3 j) = true
  unfold tyJ3
  split <;> rfl
theorem ok_35 : ∀ j, okT (xs_ty 35 j) = true := fun j => by
  show okT (tyJ4 j) = true
  unfold tyJ4
  split <;> rfl
