set_option maxRecDepth 100000
/-- a block's first statement -/
theorem xL_inv {F : am_H} : ∀ (st b : Term) (o : Nat → Option Nat) (j k : Nat), xL F (.add st b) o j k → j < k ∧ (∃ w, o j = some w ∧ isSt F st w) ∧ xL F b o (j + 1) k
  | .elem (.index m) e, b, o, j, k, ⟨h1, ⟨w, f, r, h2, h3⟩, h4⟩ => ⟨h1, ⟨w, h2, f, r, h3⟩, h4⟩
  | .length e, b, o, j, k, ⟨h1, ⟨w, f, r, h2, h3⟩, h4⟩ => ⟨h1, ⟨w, h2, f, r, h3⟩, h4⟩
  | .sum e, b, o, j, k, ⟨h1, ⟨w, f, r, h2, h3⟩, h4⟩ => ⟨h1, ⟨w, h2, f, r, h3⟩, h4⟩
  | .null, b, o, j, k, ⟨h1, ⟨w, f, h2, h3⟩, h4⟩ => ⟨h1, ⟨w, h2, f, h3⟩, h4⟩
  | .arg a, b, o, j, k, ⟨h1, ⟨w, f, h2, h3⟩, h4⟩ => ⟨h1, ⟨w, h2, f, h3⟩, h4⟩
  | .mul (.index l) (.index a), b, o, j, k, ⟨h1, ⟨w, f, h2, h3⟩, h4⟩ => ⟨h1, ⟨w, h2, f, h3⟩, h4⟩
  | .result, b, o, j, k, ⟨h1, ⟨w, f, h2, h3⟩, h4⟩ => ⟨h1, ⟨w, h2, f, h3⟩, h4⟩
  | .sub e (.sub y z), b, o, j, k, ⟨h1, ⟨w, f, r, ry, h2, h3⟩, h4⟩ => ⟨h1, ⟨w, h2, f, r, ry, h3⟩, h4⟩
/-- an open body's frame -/
def FRo (ξ : xs_X) (p : RP) (fi c ba : Nat) (v last : Int32) : Prop := xR ξ fi 0 = some (pCr p c) ∧ xR ξ fi 1 = some ba ∧ xI ξ fi 2 = v ∧ xI ξ fi 3 = last ∧ xI ξ fi 4 = 0
/-- what is asked of a run's outcome -/
def GrQ (A : Nat → Nat) (F : am_H) (D : xs_D) (C : Ctx) (p : RP) (dp fi : Nat) (ξ : xs_X) (σ : am_S) (o : Nat → Option Nat) (K j : Nat) (Q : Int32 → am_S → Prop) (E : Nat → am_S → Prop) (R : RO) : Prop := match R with
  | ((0, _, _), l, s') => ∀ ξ' σ', XS F D ξ' σ' → RXd D C p ξ' s' → RXf D C p dp fi ξ ξ' → xI ξ' fi 3 = l → xI ξ' fi 4 = 0 → xI ξ' 0 11 = nI dp → σ'.2 = σ.2 → Q (nI K) σ'
  | ((1, x, _), l, s') => ∀ ξ' σ', XS F D ξ' σ' → RXd D C p ξ' s' → RXf D C p dp fi ξ ξ' → xI ξ' fi 3 = l → xI ξ' fi 4 = x → xI ξ' 0 11 = nI dp → σ'.2 = σ.2 → Q (-1) σ'
  | ((2, q, _), _, s') => ∀ ξ' σ', XS F D ξ' σ' → RXd D C p ξ' s' → RXf D C p dp fi ξ ξ' → xI ξ' 3 6 = q → xI ξ' 3 7 = 0 → σ'.2 = σ.2 → E (A 3) σ'
  | ((3, _, _), _, s') => ∀ ξ' σ', XS F D ξ' σ' → RXd D C p ξ' s' → RXf D C p dp fi ξ ξ' → xI ξ' 3 7 = 1 → σ'.2 = σ.2 → E (A 3) σ'
  | ((4, _, b'), l, s') => ∀ ξ' σ' j', j < j' → j' ≤ K → xL F b' o j' K → (∃ w f, o (j' - 1) = some w ∧ F w = some (.inr (20, f))) → XS F D ξ' σ' → RXd D C p ξ' s' → RXf D C p dp fi ξ ξ' → xI ξ' fi 3 = l → xI ξ' fi 4 = 0 → xI ξ' 0 11 = nI dp → σ'.2 = σ.2 → Q (nI j') σ'
  | _ => True
section
variable {A : Nat → Nat} {F : am_H} {D : xs_D} {C : Ctx} {p : RP} {dp fi : Nat} {ξ ξ1 : xs_X} {σ σ1 : am_S} {o : Nat → Option Nat} {K j j1 : Nat} {Q : Int32 → am_S → Prop} {E : Nat → am_S → Prop}
theorem GrQ.up {R : RO} (h : GrQ A F D C p dp fi ξ σ o K j Q E R) (hf : RXf D C p dp fi ξ ξ1) (he : σ1.2 = σ.2) (hj : j ≤ j1) : GrQ A F D C p dp fi ξ1 σ1 o K j1 Q E R := by
  obtain ⟨⟨q, x, b⟩, l, s⟩ := R
  match q, h with
  | 0, h => exact fun ξ' σ' a1 a2 a3 a4 a5 a6 a7 => h ξ' σ' a1 a2 (hf.trans a3) a4 a5 a6 (a7.trans he)
  | 1, h => exact fun ξ' σ' a1 a2 a3 a4 a5 a6 a7 => h ξ' σ' a1 a2 (hf.trans a3) a4 a5 a6 (a7.trans he)
  | 2, h => exact fun ξ' σ' a1 a2 a3 a4 a5 a6 => h ξ' σ' a1 a2 (hf.trans a3) a4 a5 (a6.trans he)
  | 3, h => exact fun ξ' σ' a1 a2 a3 a4 a5 => h ξ' σ' a1 a2 (hf.trans a3) a4 (a5.trans he)
  | 4, h => exact fun ξ' σ' j' b1 b2 b3 b4 a1 a2 a3 a4 a5 a6 a7 => h ξ' σ' j' (by omega) b2 b3 b4 a1 a2 (hf.trans a3) a4 a5 a6 (a7.trans he)
  | _ + 5, _ => exact trivial
/-- what a run is looks at little -/
theorem RXd.cong {s : RSt} {u : Nat} (h : RXd D C p ξ s) (hs : ∀ r, 2000 ≤ r ∨ r = 7 → sc ξ ξ1 r) (h14 : xI ξ1 0 14 = xI ξ 0 14) (h10 : xI ξ1 0 10 = nI u) (hu : u ≤ 500) : RXd D C p ξ1 (u, s.2) := by
  obtain ⟨d1, d2, d4, d5, d6⟩ := h
  refine ⟨⟨h10, hu⟩, ⟨d2.1.up XD.refl fun v _ => hs _ (Or.inl (by omega)), d2.2⟩, fun c hc hl q u' x hx => ?_, fun c hc n hn hne => ?_, by rw [h14]; exact d6.1, d6.2.1, fun i r hr => ?_⟩
  · rw [(hs _ (Or.inl (by omega))).2.2.1]; exact d4 c hc hl q u' x hx
  · rw [(hs _ (Or.inl (by omega))).2.2.1]; exact d5 c hc n hn hne
  · unfold rnA
    rw [(hs 7 (Or.inr rfl)).2.2.1]
    exact d6.2.2 i r hr
theorem RXd.same {s : RSt} (h : RXd D C p ξ s) (hs : ∀ r, 2000 ≤ r ∨ r = 7 → sc ξ ξ1 r) (h14 : xI ξ1 0 14 = xI ξ 0 14) (h10 : xI ξ1 0 10 = xI ξ 0 10) : RXd D C p ξ1 s := h.cong hs h14 (h10.trans h.1.1) h.1.2
/-- role 0's or 3's numbers written -/
theorem RXf.s0 {k : Nat} {y : Int32} (hk : k = 10 ∨ k = 11 ∨ k = 14) (hf : fi ≠ 0) : RXf D C p dp fi ξ (xs_sI ξ 0 k y) := ⟨fun r _ hn => sI_sc fun e => hn (Or.inl e), fun q hq => sI_o fun e => by
  rw [e] at hq
  rcases hk with h | h | h
  · rw [h] at hq; exact hq (by decide)
  · rw [h] at hq; exact hq (by decide)
  · rw [h] at hq; exact hq (by decide), rfl, fun _ => rfl, rfl, fun q _ _ => congrFun (sI_sc hf).1 q⟩
theorem RXf.s3 {k : Nat} {y : Int32} (hf : fi ≠ 3) : RXf D C p dp fi ξ (xs_sI ξ 3 k y) := ⟨fun r _ hn => sI_sc fun e => hn (Or.inr (Or.inl e)), fun q _ => congrFun (sI_sc (show (0 : Nat) ≠ 3 by decide)).1 q, rfl, fun _ => rfl, rfl, fun q _ _ => congrFun (sI_sc hf).1 q⟩
theorem RXf.sf {k : Nat} {y : Int32} (hk : k = 3 ∨ k = 4) (hf : fi ≠ 0) : RXf D C p dp fi ξ (xs_sI ξ fi k y) := ⟨fun r _ hn => sI_sc fun e => hn (Or.inr (Or.inr (Or.inr (Or.inl e)))), fun q _ => congrFun (sI_sc (Ne.symm hf)).1 q, rfl, fun _ => rfl, rfl, fun q h3 h4 => sI_o fun e => by
  rcases hk with h | h
  · exact h3 (e.trans h)
  · exact h4 (e.trans h)⟩
/-- a failure told in the midst of a run -/
theorem GrQ.fail {s : RSt} {q : Int32} {b : Term} {l : Int32} (h : GrQ A F D C p dp fi ξ σ o K j Q E ((2, q, b), l, s)) (hD : RXd D C p ξ s) (hf : fi ≠ 3) : FQ A F D ξ σ q E := fun σ' H' e' => h _ σ' H' (hD.same (fun r hr => (sI_sc (by omega)).trans (sI_sc (by omega))) rfl rfl) ((RXf.s3 hf).trans (RXf.s3 hf)) ((sI_o (by decide)).trans sI_s) sI_s e'
end
section
variable {G : am_G} {A : Nat → Nat} {d : Nat} {F : am_H} {D : xs_D} {ξ : xs_X} {σ : am_S} {C : Ctx} {p : RP} {s : RSt} {E : Nat → am_S → Prop}
theorem X_spends (H : XS F D ξ σ) (hS : RXs A F D C p ξ) (hD : RXd D C p ξ s) {Q : am_S → Prop} (hy : ¬ s.1 = 0 → ∀ σ', XS F D (xs_sI ξ 0 10 (nI (s.1 - 1))) σ' → σ'.2 = σ.2 → Q σ') (hn : s.1 = 0 → ∀ σ', XS F D (xs_sI ξ 3 7 1) σ' → σ'.2 = σ.2 → E (A 3) σ') : W_X0_spends G d (A 0) σ Q E := by
  have r0 := hS.1.1
  have h9 := hS.2.2.1.1
  refine W_X0_spends_f (x_gi H r0 (by decide) hD.1.1 ⟨fun hne => x_gi H r0 (by decide) hD.1.1 (x_p H r0 (by decide) fun σ1 H1 e1 => ?_), fun h0 => ?_⟩)
  · have h0 : ¬ s.1 = 0 := fun e => hne (by rw [e]; rfl)
    have e9 : nI s.1 - 1 = nI (s.1 - 1) := by rw [show (1 : Int32) = nI 1 from rfl, pk_sub (by omega)]
    rw [e9] at H1
    exact hy h0 σ1 H1 e1
  · have h0' : s.1 = 0 := (nI_eq (a := s.1) (b := 0) (by have := hD.1.2; omega) (by decide)).mp h0
    exact x_gr H r0 (by decide) h9 (x_p H hS.1.2.1 (by decide) fun σ1 H1 e1 => x_gr H1 r0 (by decide) h9 (x_o H1 hS.1.2.1 (by decide) (hn h0' σ1 H1 e1)))
end
/-- a run of X follows the pure one, with g to spend -/
def GrP (G : am_G) (A : Nat → Nat) (F : am_H) (D : xs_D) (C : Ctx) (p : RP) (g : Nat) : Prop := ∀ (lg : Bool) (dp c : Nat) (n : Int32) (ab : List (Term × Int32 × Int32)) (v last : Int32) (b : Term) (s : RSt) (ξ : xs_X) (σ : am_S) (fi fa ba r oa K j l d rr : Nat) (f : Nat → Value) (o : Nat → Option Nat) (t0 : Term × Int32 × Int32) (Q : Int32 → am_S → Prop) (E : Nat → am_S → Prop), XS F D ξ σ → RXs A F D C p ξ → RXd D C p ξ s → s.1 ≤ g → c < cN C → cL C c = true → rl D fi fa 1 → (∀ i, dp < i → i ≤ 20 → fi ≠ 20 + i) → FRo ξ p fi c ba v last → BRo F ba n (t0 :: ab) → xI ξ 0 11 = nI dp → dp ≤ 20 → F r = some (.inr (10, f)) → f 0 = va_rf (some oa) → f 1 = .int (nI K) → F oa = some (.inl (7, l, .inr (.inr (.inr (.inr o))))) → K ≤ l → l < 65536 → xL F b o j K → okB b rr → rr ≤ 12 → 600 + (20 - dp) * 30 + 2 * rr ≤ d → GrQ A F D C p dp fi ξ σ o K j Q E (go C g lg dp c n ab v last b s) → B_X10_does_3 G d r (some fa) (if lg = true then 1 else 0) (nI j) σ Q E
