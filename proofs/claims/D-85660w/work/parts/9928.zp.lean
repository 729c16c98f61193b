set_option maxRecDepth 100000
/-- a frozen inner thing tells its house -/
theorem XS.tfx {A : Nat → Nat} {F : am_H} {D : xs_D} {ξ : xs_X} {σ : am_S} (H : XS F D ξ σ) (r0 : rl D 0 (A 0) 0) {a c k : Nat} {f : Nat → Value} (hF : F a = some (.inr (c, f))) (hm : (c, k) ∈ tfs) : f k = va_rf (some (A 0)) := by
  have := (H.2.1 0 r0.1).2.2 rfl a _ hF c f rfl k hm
  rw [r0.2.1] at this
  exact this
theorem z_c {F : am_H} {D : xs_D} {ξ : xs_X} {σ : am_S} (H : XS F D ξ σ) {a c : Nat} {f : Nat → Value} (hF : F a = some (.inr (c, f))) {K : Nat → (Nat → Value) → Nat → Prop} (h : K c f a) : f_c σ (some a) K := by
  unfold f_c
  dsimp only
  rw [H.1 a _ hF]
  exact h
section
variable {G : am_G} {A : Nat → Nat} {d : Nat} {F : am_H} {D : xs_D} {ξ : xs_X} {σ : am_S} {C : Ctx} {p : RP} {s : RSt} {E : Nat → am_S → Prop}
/-- an operator's work -/
theorem X_tog (H : XS F D ξ σ) (hS : RXs A F D C p ξ) {a0 : Nat} {f : Nat → Value} (hF : F a0 = some (.inr (16, f))) {x y : Int32} {Q : Int32 → am_S → Prop} : (Q (x * y) σ → W_X18_together G (d + 1) a0 x 42 y σ Q E) ∧ (Q (x + y) σ → W_X18_together G (d + 1) a0 x 43 y σ Q E) ∧ (Q (x - y) σ → W_X18_together G (d + 1) a0 x 45 y σ Q E) ∧ (Q (if x < y then 1 else 0) σ → W_X18_together G (d + 1) a0 x 60 y σ Q E) ∧ (Q (if x = y then 1 else 0) σ → W_X18_together G (d + 1) a0 x 61 y σ Q E) ∧ ((¬ y = 0 → Q (x / y) σ) → (y = 0 → FQ A F D ξ σ 1002 E) → W_X18_together G (d + 1) a0 x 47 y σ Q E) := by
  refine ⟨fun h => ?_, fun h => ?_, fun h => ?_, fun h => ?_, fun h => ?_, fun h h0 => ?_⟩
  · exact W_X18_together_f ⟨fun _ => h, fun c => absurd rfl c⟩
  · exact W_X18_together_f ⟨fun c => absurd c (by decide), fun _ => ⟨fun _ => h, fun c => absurd rfl c⟩⟩
  · exact W_X18_together_f ⟨fun c => absurd c (by decide), fun _ => ⟨fun c => absurd c (by decide), fun _ => ⟨fun _ => h, fun c => absurd rfl c⟩⟩⟩
  · refine W_X18_together_f ⟨fun c => absurd c (by decide), fun _ => ⟨fun c => absurd c (by decide), fun _ => ⟨fun c => absurd c (by decide), fun _ => ⟨fun _ => ⟨fun hle => ?_, fun hle => ?_⟩, fun c => absurd rfl c⟩⟩⟩⟩
    · rw [if_neg (Int32.not_lt.mpr hle)] at h; exact h
    · rw [if_pos (Int32.not_le.mp hle)] at h; exact h
  · refine W_X18_together_f ⟨fun c => absurd c (by decide), fun _ => ⟨fun c => absurd c (by decide), fun _ => ⟨fun c => absurd c (by decide), fun _ => ⟨fun c => absurd c (by decide), fun _ => ⟨fun _ => ⟨fun hne => ?_, fun he => ?_⟩, fun c => absurd rfl c⟩⟩⟩⟩⟩
    · rw [if_neg hne] at h; exact h
    · rw [if_pos he] at h; exact h
  · refine W_X18_together_f ⟨fun c => absurd c (by decide), fun _ => ⟨fun c => absurd c (by decide), fun _ => ⟨fun c => absurd c (by decide), fun _ => ⟨fun c => absurd c (by decide), fun _ => ⟨fun c => absurd c (by decide), fun _ => ⟨fun hne => ⟨hne, h hne⟩, fun he => ?_⟩⟩⟩⟩⟩⟩
    exact z_gr H hF (by decide) (H.tfx hS.1.1 hF (by decide)) (x_o H hS.1.1 (by decide) (X_fails H hS.1.1 hS.1.2.1 hS.2.2.1.1 (h0 he)))
/-- the operators: sign, what they make -/
def opS (sg : Int32) (f : Int32 → Int32 → Int32 ⊕ Int32) : Prop := ∀ {G : am_G} {A : Nat → Nat} {d : Nat} {F : am_H} {D : xs_D} {ξ : xs_X} {σ : am_S} {C : Ctx} {p : RP} {E : Nat → am_S → Prop} {a0 : Nat} {fv : Nat → Value} {x y : Int32} {Q : Int32 → am_S → Prop}, XS F D ξ σ → RXs A F D C p ξ → F a0 = some (.inr (16, fv)) → (∀ z, f x y = .inr z → Q z σ) → (∀ q, f x y = .inl q → FQ A F D ξ σ q E) → W_X18_together G (d + 1) a0 x sg y σ Q E
theorem opS_mul : opS 42 fun x y => .inr (x * y) := fun H hS hF h _ => (X_tog H hS hF).1 (h _ rfl)
theorem opS_add : opS 43 fun x y => .inr (x + y) := fun H hS hF h _ => (X_tog H hS hF).2.1 (h _ rfl)
theorem opS_sub : opS 45 fun x y => .inr (x - y) := fun H hS hF h _ => (X_tog H hS hF).2.2.1 (h _ rfl)
theorem opS_lt : opS 60 fun x y => .inr (if x < y then 1 else 0) := fun H hS hF h _ => (X_tog H hS hF).2.2.2.1 (h _ rfl)
theorem opS_eq : opS 61 fun x y => .inr (if x = y then 1 else 0) := fun H hS hF h _ => (X_tog H hS hF).2.2.2.2.1 (h _ rfl)
theorem opS_div : opS 47 fun x y => if y = 0 then .inl 1002 else .inr (x / y) := fun H hS hF h h0 => (X_tog H hS hF).2.2.2.2.2 (fun hne => h _ (if_neg hne)) (fun he => h0 _ (if_pos he))
/-- a number in a frame, worked out by X -/
def XV (G : am_G) (A : Nat → Nat) (F : am_H) (D : xs_D) (ξ : xs_X) (σ : am_S) (fa : Nat) (E : Nat → am_S → Prop) (r d : Nat) (res : Int32 ⊕ Int32) : Prop := ∀ Q : Int32 → am_S → Prop, (∀ x, res = .inr x → Q x σ) → (∀ q, res = .inl q → FQ A F D ξ σ q E) → V_X13_of G d r (some fa) σ Q E
/-- links of a chain up to one -/
def XW (G : am_G) (A : Nat → Nat) (F : am_H) (D : xs_D) (ξ : xs_X) (σ : am_S) (fa : Nat) (E : Nat → am_S → Prop) (a0 fi d k : Nat) (res : Int32 ⊕ Int32) : Prop := ∀ Q : Int32 → am_S → Prop, (∀ x, res = .inr x → B_X18_of_11 G (d + 1) a0 (some fa) x (nI k) σ Q E) → (∀ q, res = .inl q → FQ A F D ξ σ q E) → V_X13_of G d fi (some fa) σ (fun v2 σ3 => B_X18_of_11 G (d + 1) a0 (some fa) v2 0 σ3 Q E) E
section
variable {fi fa c : Nat} {v last : Int32}
theorem X_of_li (H : XS F D ξ σ) (hS : RXs A F D C p ξ) {sg : Int32} {f9 : Int32 → Int32 → Int32 ⊕ Int32} (hop : opS sg f9) {a b : Term} {a0 fi0 oa sa K l k : Nat} {f : Nat → Value} {o : Nat → Option Nat} {sn : Nat → Int32} (h1 : F a0 = some (.inr (16, f))) (h3 : f 2 = va_rf (some oa)) (h4 : f 3 = va_rf (some sa)) (h5 : f 4 = .int (nI K)) (h6 : F oa = some (.inl (6, l, .inr (.inr (.inr (.inr o)))))) (h7 : F sa = some (.inl (2, l, .inl sn))) (hKl : K ≤ l) (hl : l < 65536) {ra rb : Int32 ⊕ Int32} (hk : k < K) (hsg : sn k = sg) {w : Nat} (hw : o k = some w) (hW : XW G A F D ξ σ fa E a0 fi0 (d + 1) k ra) (hV : XV G A F D ξ σ fa E w (d + 1) rb) : XW G A F D ξ σ fa E a0 fi0 (d + 1) (k + 1) (ev2 ra rb f9) := fun Q hQ hE => by
  refine hW Q (fun x hx => ?_) fun q hq => hE q (by rw [hq]; rfl)
  rw [hx] at hQ hE
  refine B_X18_of_11_f (z_gi H h1 (by decide) h5 ⟨fun c9 => absurd c9 (nI_ge hk (by omega)), fun _ => z_gr H h1 (by decide) h4 (z_ai H h7 rfl (by omega) (by omega) hsg (z_gr H h1 (by decide) h3 (z_ar H h6 rfl (by omega) (by omega) hw ?_)))⟩)
  refine hV _ (fun y hy => ?_) fun q hq => hE q (by rw [hq]; rfl)
  rw [hy] at hQ hE
  refine z_o H h1 (by decide) (hop H hS h1 (fun z hz => ?_) fun q hq => hE q (by rw [← hq]; rfl))
  rw [nI_1]
  exact hQ z (by rw [← hz]; rfl)
/-- numbers worked out by X -/
theorem X_of (H : XS F D ξ σ) (hS : RXs A F D C p ξ) (hD : RXd D C p ξ s) (hf : rl D fi fa 1) (hc : c < cN C) (hl : cL C c = true) (f0 : xR ξ fi 0 = some (pCr p c)) (f2 : xI ξ fi 2 = v) (f3 : xI ξ fi 3 = last) : ∀ (t : Term), (∀ (r d : Nat), xE F t r → hm t + 40 ≤ d → XV G A F D ξ σ fa E r d (ev (rdv C s c) v last t)) ∧ (∀ (a0 fi0 oa sa K l k d : Nat) (f : Nat → Value) (o : Nat → Option Nat) (sn : Nat → Int32), F a0 = some (.inr (16, f)) → f 2 = va_rf (some oa) → f 3 = va_rf (some sa) → f 4 = .int (nI K) → F oa = some (.inl (6, l, .inr (.inr (.inr (.inr o))))) → F sa = some (.inl (2, l, .inl sn)) → K ≤ l → l < 65536 → k ≤ K → xT F t true o sn fi0 k → hm t + 40 ≤ d → XW G A F D ξ σ fa E a0 fi0 d k (ev (rdv C s c) v last t)) := by
  -- what has its own object
  have base : ∀ {t : Term}, (∀ (r d : Nat), xE F t r → hm t + 40 ≤ d → XV G A F D ξ σ fa E r d (ev (rdv C s c) v last t)) → ∀ (a0 fi0 d : Nat), xE F t fi0 → hm t + 40 ≤ d → XW G A F D ξ σ fa E a0 fi0 d 0 (ev (rdv C s c) v last t) := fun hP a0 fi0 d hx hd Q hQ hE => hP fi0 d hx hd _ (fun x hx => hQ x hx) hE
  -- an operator
  have opr : ∀ {t a b : Term} {sg : Int32} {f9 : Int32 → Int32 → Int32 ⊕ Int32}, opS sg f9 → hm t = max (hm a) (hm b) + 1 → ev (rdv C s c) v last t = ev2 (ev (rdv C s c) v last a) (ev (rdv C s c) v last b) f9 → (∀ (bb : Bool) (o : Nat → Option Nat) (sn : Nat → Int32) (fi0 k : Nat), xT F t bb o sn fi0 k = ((bb = true ∧ isLi sg (fun w => xT F b false (fun _ => none) (fun _ => 0) w 0) (xT F a true) o sn fi0 k) ∨ ((bb = true → k = 0) ∧ isCn F fi0 (isLi sg (fun w => xT F b false (fun _ => none) (fun _ => 0) w 0) (xT F a true))))) → ((∀ (r d : Nat), xE F a r → hm a + 40 ≤ d → XV G A F D ξ σ fa E r d (ev (rdv C s c) v last a)) ∧ (∀ (a0 fi0 oa sa K l k d : Nat) (f : Nat → Value) (o : Nat → Option Nat) (sn : Nat → Int32), F a0 = some (.inr (16, f)) → f 2 = va_rf (some oa) → f 3 = va_rf (some sa) → f 4 = .int (nI K) → F oa = some (.inl (6, l, .inr (.inr (.inr (.inr o))))) → F sa = some (.inl (2, l, .inl sn)) → K ≤ l → l < 65536 → k ≤ K → xT F a true o sn fi0 k → hm a + 40 ≤ d → XW G A F D ξ σ fa E a0 fi0 d k (ev (rdv C s c) v last a))) → (∀ (r d : Nat), xE F b r → hm b + 40 ≤ d → XV G A F D ξ σ fa E r d (ev (rdv C s c) v last b)) → (∀ (r d : Nat), xE F t r → hm t + 40 ≤ d → XV G A F D ξ σ fa E r d (ev (rdv C s c) v last t)) ∧ (∀ (a0 fi0 oa sa K l k d : Nat) (f : Nat → Value) (o : Nat → Option Nat) (sn : Nat → Int32), F a0 = some (.inr (16, f)) → f 2 = va_rf (some oa) → f 3 = va_rf (some sa) → f 4 = .int (nI K) → F oa = some (.inl (6, l, .inr (.inr (.inr (.inr o))))) → F sa = some (.inl (2, l, .inl sn)) → K ≤ l → l < 65536 → k ≤ K → xT F t true o sn fi0 k → hm t + 40 ≤ d → XW G A F D ξ σ fa E a0 fi0 d k (ev (rdv C s c) v last t)) := fun {t a b sg f9} hop hhm hev hxT iha ihb => by
    have li : ∀ (a0 fi0 oa sa K l k d : Nat) (f : Nat → Value) (o : Nat → Option Nat) (sn : Nat → Int32), F a0 = some (.inr (16, f)) → f 2 = va_rf (some oa) → f 3 = va_rf (some sa) → f 4 = .int (nI K) → F oa = some (.inl (6, l, .inr (.inr (.inr (.inr o))))) → F sa = some (.inl (2, l, .inl sn)) → K ≤ l → l < 65536 → k ≤ K → isLi sg (fun w => xT F b false (fun _ => none) (fun _ => 0) w 0) (xT F a true) o sn fi0 k → max (hm a) (hm b) + 40 ≤ d → XW G A F D ξ σ fa E a0 fi0 d k (ev (rdv C s c) v last t) := fun a0 fi0 oa sa K l k d f o sn h1 h3 h4 h5 h6 h7 h8 h9 hk hli hd => by
      obtain ⟨j, w, e1, e2, e3, e4, e5⟩ := hli
      subst e1
      obtain ⟨d', rfl⟩ : ∃ d', d = d' + 1 := ⟨d - 1, by omega⟩
      rw [hev]
      exact X_of_li H hS hop (a := a) (b := b) h1 h3 h4 h5 h6 h7 h8 h9 (by omega) e2 e3 (iha.2 a0 fi0 oa sa K l j (d' + 1) f o sn h1 h3 h4 h5 h6 h7 h8 h9 (by omega) e5 (by omega)) (ihb w (d' + 1) e4 (by omega))
    have hP : ∀ (r d : Nat), xE F t r → hm t + 40 ≤ d → XV G A F D ξ σ fa E r d (ev (rdv C s c) v last t) := fun r d hx hd Q hQ hE => by
      have hx' := hx
      unfold xE at hx'
      rw [hxT] at hx'
      rcases hx' with ⟨h, -⟩ | ⟨-, h⟩
      · exact absurd h (by decide)
      · obtain ⟨f, fi0, oa, sa, K, l, o, sn, h1, h2, h3, h4, h5, h6, h7, h8, h9, hli⟩ := h
        obtain ⟨d', rfl⟩ : ∃ d', d = d' + 1 := ⟨d - 1, by omega⟩
        unfold V_X13_of
        refine z_c H h1 (Or.inr (Or.inr (Or.inr (Or.inr ⟨rfl, W_X18_of_f (z_gr H h1 (by decide) h2 ?_)⟩))))
        refine li r fi0 oa sa K l K d' f o sn h1 h3 h4 h5 h6 h7 h8 h9 (Nat.le_refl _) hli (by omega) Q (fun x hx => ?_) hE
        exact B_X18_of_11_f (z_gi H h1 (by decide) h5 ⟨fun _ => hQ x hx, fun c9 => absurd (nI_le (Nat.le_refl K) (by omega)) c9⟩)
    refine ⟨hP, fun a0 fi0 oa sa K l k d f o sn h1 h3 h4 h5 h6 h7 h8 h9 hk hx hd => ?_⟩
    rw [hxT] at hx
    rcases hx with ⟨-, h⟩ | ⟨h, h'⟩
    · exact li a0 fi0 oa sa K l k d f o sn h1 h3 h4 h5 h6 h7 h8 h9 hk h (by omega)
    · have hk0 := h rfl
      subst hk0
      exact base hP a0 fi0 d (by unfold xE; rw [hxT]; exact Or.inr ⟨fun h => absurd h (by decide), h'⟩) hd
  intro t
  induction t with
  | int x =>
    have hP : ∀ (r d : Nat), xE F (.int x) r → hm (.int x) + 40 ≤ d → XV G A F D ξ σ fa E r d (ev (rdv C s c) v last (.int x)) := fun r d hx hd Q hQ hE => by
      obtain ⟨-, f, h1, h2⟩ := hx
      unfold V_X13_of
      exact z_c H h1 (Or.inl ⟨rfl, W_X14_of_f (z_gi H h1 (by decide) h2 (hQ x rfl))⟩)
    refine ⟨hP, fun a0 fi0 oa sa K l k d f o sn h1 h3 h4 h5 h6 h7 h8 h9 hk hx hd => ?_⟩
    have hk0 := hx.1 rfl
    subst hk0
    exact base hP a0 fi0 d ⟨fun h => absurd h (by decide), hx.2⟩ hd
  | index m =>
    have hP : ∀ (r d : Nat), xE F (.index m) r → hm (.index m) + 40 ≤ d → XV G A F D ξ σ fa E r d (ev (rdv C s c) v last (.index m)) := fun r d hx hd Q hQ hE => by
      obtain ⟨-, f, h1, h2, h3⟩ := hx
      obtain ⟨d', rfl⟩ : ∃ d', d = d' + 13 + 1 := ⟨d - 14, by have : hm (.index m) = 1 := rfl; omega⟩
      unfold V_X13_of
      refine z_c H h1 (Or.inr (Or.inl ⟨rfl, W_X15_of_f (x_gr H hf (by decide) f0 (z_gi H h1 (by decide) h2 (x_o H ((hS.2.2.2.2.2.2.1 c hc).1.2.1) (by decide) (X_getV (d := d') H hS hD hc hl h3 rfl (fun y hy => ?_) fun hno => ?_))))⟩))
      · refine hQ y ?_
        show (match rdv C s c (nI m) with | none => (Sum.inl 1001 : Int32 ⊕ Int32) | some x => Sum.inr x) = _
        rw [hy]
      · refine hE 1001 ?_
        show (match rdv C s c (nI m) with | none => (Sum.inl 1001 : Int32 ⊕ Int32) | some x => Sum.inr x) = _
        rw [hno]
    refine ⟨hP, fun a0 fi0 oa sa K l k d f o sn h1 h3 h4 h5 h6 h7 h8 h9 hk hx hd => ?_⟩
    have hk0 := hx.1 rfl
    subst hk0
    exact base hP a0 fi0 d ⟨fun h => absurd h (by decide), hx.2⟩ hd
  | null =>
    have hP : ∀ (r d : Nat), xE F .null r → hm .null + 40 ≤ d → XV G A F D ξ σ fa E r d (ev (rdv C s c) v last .null) := fun r d hx hd Q hQ hE => by
      obtain ⟨-, f, h1, h2⟩ := hx
      unfold V_X13_of
      exact z_c H h1 (Or.inr (Or.inr (Or.inl ⟨rfl, W_X16_of_f (z_gi H h1 (by decide) h2 ⟨fun _ => x_gi H hf (by decide) f2 (hQ v rfl), fun c9 => absurd rfl c9⟩)⟩)))
    refine ⟨hP, fun a0 fi0 oa sa K l k d f o sn h1 h3 h4 h5 h6 h7 h8 h9 hk hx hd => ?_⟩
    have hk0 := hx.1 rfl
    subst hk0
    exact base hP a0 fi0 d ⟨fun h => absurd h (by decide), hx.2⟩ hd
  | result =>
    have hP : ∀ (r d : Nat), xE F .result r → hm .result + 40 ≤ d → XV G A F D ξ σ fa E r d (ev (rdv C s c) v last .result) := fun r d hx hd Q hQ hE => by
      obtain ⟨-, f, h1, h2⟩ := hx
      unfold V_X13_of
      exact z_c H h1 (Or.inr (Or.inr (Or.inl ⟨rfl, W_X16_of_f (z_gi H h1 (by decide) h2 ⟨fun c9 => absurd c9 (by decide), fun _ => x_gi H hf (by decide) f3 (hQ last rfl)⟩)⟩)))
    refine ⟨hP, fun a0 fi0 oa sa K l k d f o sn h1 h3 h4 h5 h6 h7 h8 h9 hk hx hd => ?_⟩
    have hk0 := hx.1 rfl
    subst hk0
    exact base hP a0 fi0 d ⟨fun h => absurd h (by decide), hx.2⟩ hd
  | old a iha =>
    have hP : ∀ (r d : Nat), xE F (.old a) r → hm (.old a) + 40 ≤ d → XV G A F D ξ σ fa E r d (ev (rdv C s c) v last (.old a)) := fun r d hx hd Q hQ hE => by
      obtain ⟨-, f, w, h1, h2, h3⟩ := hx
      have hh : hm (.old a) = hm a + 2 := rfl
      obtain ⟨d', rfl⟩ : ∃ d', d = d' + 1 := ⟨d - 1, by omega⟩
      have e9 : ev (rdv C s c) v last (.old a) = match ev (rdv C s c) v last a with | .inl e => .inl e | .inr x => .inr (-x) := rfl
      unfold V_X13_of
      refine z_c H h1 (Or.inr (Or.inr (Or.inr (Or.inl ⟨rfl, W_X17_of_f (z_gr H h1 (by decide) h2 ?_)⟩))))
      exact iha.1 w d' h3 (by omega) _ (fun x hx => hQ (-x) (by rw [e9, hx])) fun q hq => hE q (by rw [e9, hq])
    refine ⟨hP, fun a0 fi0 oa sa K l k d f o sn h1 h3 h4 h5 h6 h7 h8 h9 hk hx hd => ?_⟩
    have hk0 := hx.1 rfl
    subst hk0
    exact base hP a0 fi0 d ⟨fun h => absurd h (by decide), hx.2⟩ hd
  | add a b iha ihb => exact opr opS_add rfl rfl (fun _ _ _ _ _ => rfl) iha ihb.1
  | sub a b iha ihb => exact opr opS_sub rfl rfl (fun _ _ _ _ _ => rfl) iha ihb.1
  | mul a b iha ihb => exact opr opS_mul rfl rfl (fun _ _ _ _ _ => rfl) iha ihb.1
  | div a b iha ihb => exact opr opS_div rfl rfl (fun _ _ _ _ _ => rfl) iha ihb.1
  | elem a b iha ihb => exact opr opS_lt rfl rfl (fun _ _ _ _ _ => rfl) iha ihb.1
  | rem a b iha ihb => exact opr opS_eq rfl rfl (fun _ _ _ _ _ => rfl) iha ihb.1
  | _ => exact ⟨fun r d hx _ => hx.elim, fun a0 fi0 oa sa K l k d f o sn h1 h3 h4 h5 h6 h7 h8 h9 hk hx _ => hx.elim⟩
end
end
