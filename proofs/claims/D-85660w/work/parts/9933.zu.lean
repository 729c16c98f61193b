set_option maxRecDepth 100000
/-- roles that a run changes, frames from lo on -/
def RXk (C : Ctx) (p : RP) (lo r : Nat) : Prop := r = 0 ∨ r = 3 ∨ r = 7 ∨ (lo ≤ r ∧ r ≤ 40) ∨ (∃ c, c < cN C ∧ (r = 2000 + pVa p c ∨ r = 2000 + pLo p c)) ∨ ∃ v, v ∈ pFs p ∧ r = 2000 + v
def RXg (D : xs_D) (C : Ctx) (p : RP) (lo : Nat) (ξ ξ' : xs_X) : Prop := (∀ r, D.2.2 r → ¬ RXk C p lo r → sc ξ ξ' r) ∧ (∀ k, k ∉ [10, 11, 14] → xI ξ' 0 k = xI ξ 0 k) ∧ xR ξ' 0 = xR ξ 0 ∧ ∀ r, xN ξ' r = xN ξ r
theorem RXg.trans {D : xs_D} {C : Ctx} {p : RP} {lo : Nat} {ξ ξ1 ξ2 : xs_X} (h1 : RXg D C p lo ξ ξ1) (h2 : RXg D C p lo ξ1 ξ2) : RXg D C p lo ξ ξ2 := ⟨fun r a b => (h1.1 r a b).trans (h2.1 r a b), fun k hk => (h2.2.1 k hk).trans (h1.2.1 k hk), h2.2.2.1.trans h1.2.2.1, fun r => (h2.2.2.2 r).trans (h1.2.2.2 r)⟩
theorem RXg.refl {D : xs_D} {C : Ctx} {p : RP} {lo : Nat} {ξ : xs_X} : RXg D C p lo ξ ξ := ⟨fun _ _ _ => sc.refl, fun _ _ => rfl, rfl, fun _ => rfl⟩
theorem RXg.le {D : xs_D} {C : Ctx} {p : RP} {lo l2 : Nat} {ξ ξ1 : xs_X} (h : RXg D C p lo ξ ξ1) (hl : l2 ≤ lo) : RXg D C p l2 ξ ξ1 := ⟨fun r a b => h.1 r a fun h9 => b (by
  rcases h9 with h9 | h9 | h9 | h9 | h9 | h9
  · exact Or.inl h9
  · exact Or.inr (Or.inl h9)
  · exact Or.inr (Or.inr (Or.inl h9))
  · exact Or.inr (Or.inr (Or.inr (Or.inl ⟨by omega, h9.2⟩)))
  · exact Or.inr (Or.inr (Or.inr (Or.inr (Or.inl h9))))
  · exact Or.inr (Or.inr (Or.inr (Or.inr (Or.inr h9))))), h.2⟩
/-- a frame's run is one from its frame on -/
theorem RXf.toG {D : xs_D} {C : Ctx} {p : RP} {dq : Nat} {ξ ξ1 : xs_X} (h : RXf D C p dq (20 + dq) ξ ξ1) (hdq : dq ≤ 20) : RXg D C p (20 + dq) ξ ξ1 := ⟨fun r a b => h.1 r a fun h9 => b (by
  rcases h9 with h9 | h9 | h9 | h9 | h9 | h9 | h9
  · exact Or.inl h9
  · exact Or.inr (Or.inl h9)
  · exact Or.inr (Or.inr (Or.inl h9))
  · exact Or.inr (Or.inr (Or.inr (Or.inl ⟨by omega, by omega⟩)))
  · exact Or.inr (Or.inr (Or.inr (Or.inl ⟨by omega, h9.2⟩)))
  · exact Or.inr (Or.inr (Or.inr (Or.inr (Or.inl h9))))
  · exact Or.inr (Or.inr (Or.inr (Or.inr (Or.inr h9))))), h.2.1, h.2.2.1, h.2.2.2.1⟩
section
variable {A : Nat → Nat} {F : am_H} {D : xs_D} {C : Ctx} {p : RP} {ξ ξ' : xs_X} {s : RSt} {lo fi fa dp : Nat}
theorem RXk.ty (hS : RXs A F D C p ξ) (hV : FXo D ξ (pFs p) (fxl s.2.1)) (hlo : 20 ≤ lo) {r : Nat} (h : RXk C p lo r) : D.2.1 r ∈ [0, 2, 100, 1, 23] := by
  rcases h with h | h | h | ⟨h1, h2⟩ | ⟨c, hc, h | h⟩ | ⟨v, hv, h⟩
  · rw [h, hS.1.1.2.2]; decide
  · rw [h, hS.1.2.1.2.2]; decide
  · rw [h, hS.1.2.2.1.2.2]; decide
  · obtain ⟨i, rfl⟩ : ∃ i, r = 20 + i := ⟨r - 20, by omega⟩
    rw [(hS.1.2.2.2.2 i (by omega)).2.2]; decide
  · rw [h, (hS.2.2.2.2.2.2.1 c hc).2.2.1.1.2.2]; decide
  · rw [h, (hS.2.2.2.2.2.2.1 c hc).2.2.1.2.1.2.2]; decide
  · obtain ⟨q, hq⟩ := List.getElem?_of_mem hv
    have hl := get_lt hq
    rw [h, (hV.2 q v _ hq (List.getElem?_eq_getElem (by rw [← hV.1]; exact hl))).1.2.2]; decide
theorem RXk.no (hS : RXs A F D C p ξ) (hV : FXo D ξ (pFs p) (fxl s.2.1)) (hlo : 20 ≤ lo) {r a t : Nat} (hr : rl D r a t) (ht : t ∉ [0, 2, 100, 1, 23]) : ¬ RXk C p lo r := fun h => by
  have := RXk.ty hS hV hlo h
  rw [hr.2.2] at this
  exact ht this
theorem RXs.upg (hS : RXs A F D C p ξ) (hV : FXo D ξ (pFs p) (fxl s.2.1)) (hlo : 20 ≤ lo) (h : RXg D C p lo ξ ξ') : RXs A F D C p ξ' := by
  have hS' := hS
  obtain ⟨a1, a2, a3, a4, a5, a6, a7, a8⟩ := hS
  obtain ⟨h1, h2, h3, h4⟩ := h
  have s10 := h1 10 a1.2.2.2.1.1 (RXk.no hS' hV hlo a1.2.2.2.1 (by decide))
  refine ⟨a1, ⟨by rw [h3]; exact a2.1, a2.2⟩, ⟨by rw [h3]; exact a3.1, by rw [h3]; exact a3.2.1, by rw [h4]; exact a3.2.2.1, by rw [h3]; exact a3.2.2.2.1, by rw [h4]; exact a3.2.2.2.2⟩, ⟨by rw [h2 6 (by decide)]; exact a4.1, a4.2.1, by rw [h2 12 (by decide)]; exact a4.2.2⟩, ⟨by rw [h3]; exact a5.1, a5.2⟩, a6, fun c hc => ?_, a8⟩
  obtain ⟨b1, b2, b3, b4, b5⟩ := a7 c hc
  have sc1 := h1 _ b1.2.1.1 (RXk.no hS' hV hlo b1.2.1 (by decide))
  have sc2 := h1 _ b3.2.2.1.1 (RXk.no hS' hV hlo b3.2.2.1 (by decide))
  refine ⟨⟨by rw [s10.2.2.2.1]; exact b1.1, b1.2.1, by rw [sc1.1]; exact b1.2.2.1, by rw [sc1.2.1]; exact b1.2.2.2.1, by rw [sc1.2.1]; exact b1.2.2.2.2⟩, ⟨by rw [sc1.2.1]; exact b2.1, by rw [sc1.2.1]; exact b2.2.1, by rw [sc1.2.1]; exact b2.2.2⟩, ⟨b3.1, b3.2.1, b3.2.2.1, by rw [h4]; exact b3.2.2.2.1, by rw [h4]; exact b3.2.2.2.2⟩, fun n hn => by rw [sc2.2.2.1]; exact b4 n hn, fun hl => ⟨(b5 hl).1, by rw [h4]; exact (b5 hl).2⟩⟩
/-- a frame that is none of those -/
theorem RXk.nof (hS : RXs A F D C p ξ) (hV : FXo D ξ (pFs p) (fxl s.2.1)) (hf : rl D fi fa 1) (hfi : ∀ i, dp < i → i ≤ 20 → fi ≠ 20 + i) : ¬ RXk C p (20 + (dp + 1)) fi := fun h => by
  have no : ∀ {t : Nat}, D.2.1 fi = t → t ≠ 1 → False := fun h1 h2 => h2 (h1.symm.trans hf.2.2)
  rcases h with h | h | h | ⟨h1, h2⟩ | ⟨c, hc, h | h⟩ | ⟨v, hv, h⟩
  · exact no (by rw [h, hS.1.1.2.2]) (by decide)
  · exact no (by rw [h, hS.1.2.1.2.2]) (by decide)
  · exact no (by rw [h, hS.1.2.2.1.2.2]) (by decide)
  · exact hfi (fi - 20) (by omega) (by omega) (by omega)
  · exact no (by rw [h, (hS.2.2.2.2.2.2.1 c hc).2.2.1.1.2.2]) (by decide)
  · exact no (by rw [h, (hS.2.2.2.2.2.2.1 c hc).2.2.1.2.1.2.2]) (by decide)
  · obtain ⟨q, hq⟩ := List.getElem?_of_mem hv
    have hl := get_lt hq
    exact no (by rw [h, (hV.2 q v _ hq (List.getElem?_eq_getElem (by rw [← hV.1]; exact hl))).1.2.2]) (by decide)
theorem RXg.toF (hS : RXs A F D C p ξ) (hV : FXo D ξ (pFs p) (fxl s.2.1)) (hf : rl D fi fa 1) (hfi : ∀ i, dp < i → i ≤ 20 → fi ≠ 20 + i) (h : RXg D C p (20 + (dp + 1)) ξ ξ') : RXf D C p dp fi ξ ξ' ∧ sc ξ ξ' fi := by
  have hs := h.1 fi hf.1 (RXk.nof hS hV hf hfi)
  refine ⟨⟨fun r a b => h.1 r a fun h9 => b ?_, h.2.1, h.2.2.1, h.2.2.2, hs.2.1, fun k _ _ => congrFun hs.1 k⟩, hs⟩
  rcases h9 with h9 | h9 | h9 | h9 | h9 | h9
  · exact Or.inl h9
  · exact Or.inr (Or.inl h9)
  · exact Or.inr (Or.inr (Or.inl h9))
  · exact Or.inr (Or.inr (Or.inr (Or.inr (Or.inl ⟨by omega, h9.2⟩))))
  · exact Or.inr (Or.inr (Or.inr (Or.inr (Or.inr (Or.inl h9)))))
  · exact Or.inr (Or.inr (Or.inr (Or.inr (Or.inr (Or.inr h9)))))
end
/-- what is asked behind a body -/
def CaQ (A : Nat → Nat) (F : am_H) (D : xs_D) (C : Ctx) (p : RP) (dq : Nat) (ξ : xs_X) (σ : am_S) (K : Int32 → am_S → Prop) (E : Nat → am_S → Prop) (R : RO) : Prop := match R with
  | ((0, _, _), _, s') => ∀ ξ' σ', XS F D ξ' σ' → RXd D C p ξ' s' → RXg D C p (20 + dq) ξ ξ' → xI ξ' 0 11 = nI dq → σ'.2 = σ.2 → K 0 σ'
  | ((1, x, _), _, s') => ∀ ξ' σ', XS F D ξ' σ' → RXd D C p ξ' s' → RXg D C p (20 + dq) ξ ξ' → xI ξ' 0 11 = nI dq → σ'.2 = σ.2 → K x σ'
  | ((2, q, _), _, s') => ∀ ξ' σ', XS F D ξ' σ' → RXd D C p ξ' s' → RXg D C p (20 + dq) ξ ξ' → xI ξ' 3 6 = q → xI ξ' 3 7 = 0 → σ'.2 = σ.2 → E (A 3) σ'
  | ((3, _, _), _, s') => ∀ ξ' σ', XS F D ξ' σ' → RXd D C p ξ' s' → RXg D C p (20 + dq) ξ ξ' → xI ξ' 3 7 = 1 → σ'.2 = σ.2 → E (A 3) σ'
  | _ => True
section
variable {G : am_G} {A : Nat → Nat} {d : Nat} {F : am_H} {D : xs_D} {C : Ctx} {p : RP} {s : RSt} {g : Nat}
/-- a body is gone through in the frame of its depth -/
theorem X_body0 (ih : GrP G A F D C p g) {ξ : xs_X} {σ : am_S} (H : XS F D ξ σ) (hS : RXs A F D C p ξ) (hD : RXd D C p ξ s) (hg : s.1 ≤ g) {dq c ba : Nat} {n v : Int32} {t : Term × Int32 × Int32} {l : List (Term × Int32 × Int32)} (hc : c < cN C) (hl : cL C c = true) (hB : BRo F ba n (t :: l)) (hok : okB t.1 12) (h11 : xI ξ 0 11 = nI dq) (hdq : dq ≤ 20) (hd : 600 + (20 - dq) * 30 + 24 + 1 ≤ d) {Q : Int32 → am_S → Prop} {E : Nat → am_S → Prop} (hQ : CaQ A F D C p dq ξ σ Q E (go C g false dq c n l v 0 t.1 (noteR C s c n t))) : W_X0_body G d (A 0) (some (pCr p c)) (some ba) v σ Q E := by
  have hB' := hB
  obtain ⟨as0, L0, k, kd, a, i, x, b1, b2, b3, b4, b5, b6, b7, b8⟩ := hB
  obtain ⟨fb, rb, k1, k2, k3, k4, k5⟩ := b7
  obtain ⟨f, oa, K, lk, o, m1, m2, m3, m4, m5, m6, m7⟩ := k5
  injection b8 with e8 e9
  have et : t.1 = x.2 := by rw [e8]
  obtain ⟨d', rfl⟩ : ∃ d', d = d' + 1 + 1 := ⟨d - 2, by omega⟩
  have r0 := hS.1.1
  have rf := hS.1.2.2.2.2 dq hdq
  obtain ⟨g9, gF, gi⟩ := hS.2.1.2
  refine W_X0_body_f (x_o H r0 (by decide) (X_notes H hS hD hc hB' fun ξ1 σ1 H1 hD1 s1 i1 q1 n1 e1 => ?_))
  refine x_gr H1 r0 (by decide) (by rw [q1]; exact hS.2.1.1) (x_gi H1 r0 (by decide) ((i1 11 (by decide)).trans h11) (z_ar H1 gF rfl (by omega) (by decide) (gi dq hdq) (x_o H1 rf (by decide) ?_)))
  refine W_X1_begins_f (x_pr H1 rf (by decide) fun σ2 H2 e2 => x_pr H2 rf (by decide) fun σ3 H3 e3 => x_p H3 rf (by decide) fun σ4 H4 e4 => x_p H4 rf (by decide) fun σ5 H5 e5 => x_p H5 rf (by decide) fun σ6 H6 e6 => ?_)
  have hf0 : 20 + dq ≠ 0 := by omega
  have s6 : ∀ r, r ≠ 20 + dq → sc ξ1 (xs_sI (xs_sI (xs_sI (xs_sR (xs_sR ξ1 (20 + dq) 0 (some (pCr p c))) (20 + dq) 1 (some ba)) (20 + dq) 2 v) (20 + dq) 3 0) (20 + dq) 4 0) r := fun r hr => ((((sR_sc hr).trans (sR_sc hr)).trans (sI_sc hr)).trans (sI_sc hr)).trans (sI_sc hr)
  have hfr : FRo (xs_sI (xs_sI (xs_sI (xs_sR (xs_sR ξ1 (20 + dq) 0 (some (pCr p c))) (20 + dq) 1 (some ba)) (20 + dq) 2 v) (20 + dq) 3 0) (20 + dq) 4 0) p (20 + dq) c ba v 0 := by
    refine ⟨?_, ?_, ?_, ?_, sI_s⟩
    · rw [xR_sI, xR_sI, xR_sI, xR_sR, if_neg (by decide), xR_sR, if_pos rfl]
    · rw [xR_sI, xR_sI, xR_sI, xR_sR, if_pos rfl]
    · rw [xI_sI, if_neg (by decide), xI_sI, if_neg (by decide), xI_sI, if_pos rfl]
    · rw [xI_sI, if_neg (by decide), xI_sI, if_pos rfl]
  revert H6 s6 hfr
  generalize hξ : xs_sI (xs_sI (xs_sI (xs_sR (xs_sR ξ1 (20 + dq) 0 (some (pCr p c))) (20 + dq) 1 (some ba)) (20 + dq) 2 v) (20 + dq) 3 0) (20 + dq) 4 0 = ξ6
  intro H6 s6 hfr
  have hN6 : ∀ r, xN ξ6 r = xN ξ r := fun r => by rw [← hξ]; show xN ξ1 r = _; rw [n1]
  have s60 := s6 0 (Ne.symm hf0)
  have hG6 : RXg D C p (20 + dq) ξ ξ6 := ⟨fun r hr hn => (s1 r (fun e => hn (Or.inl e)) (fun e => hn (Or.inr (Or.inr (Or.inl e))))).trans (s6 r fun e => hn (Or.inr (Or.inr (Or.inr (Or.inl ⟨by omega, by omega⟩))))), fun k hk => by
    rw [s60.1]
    exact i1 k fun e => by rw [e] at hk; exact hk (by decide), by rw [s60.2.1, q1], hN6⟩
  have hS6 : RXs A F D C p ξ6 := hS.upg hD.2.1.1 (by omega) hG6
  have hD6 : RXd D C p ξ6 (noteR C s c n t) := hD1.same (fun r hr => s6 r (by omega)) (congrFun s60.1 14) (congrFun s60.1 10)
  have h116 : xI ξ6 0 11 = nI dq := by rw [s60.1, i1 11 (by decide)]; exact h11
  have e69 : σ6.2 = σ.2 := ((((e6.trans e5).trans e4).trans e3).trans e2).trans e1
  refine z_gr H6 k1 (by decide) k4 (z_o H6 m1 (by decide) (W_X10_does_f ?_))
  refine ih false dq c n l v 0 t.1 (noteR C s c n t) ξ6 σ6 (20 + dq) (A (20 + dq)) ba rb oa K 0 lk (d' + 1) 12 f o t _ E H6 hS6 hD6 (by rw [noteR_fuel]; exact hg) hc hl rf (fun i h1 h2 => by omega) hfr hB' h116 hdq m1 m2 m3 m4 m5 m6 (by rw [et]; exact m7) hok (Nat.le_refl _) (by omega) ?_
  have h4 := go_no4 (C := C) g dq c n l v 0 t.1 (noteR C s c n t)
  revert hQ h4
  generalize go C g false dq c n l v 0 t.1 (noteR C s c n t) = R
  intro hQ h4
  obtain ⟨⟨q, y, b⟩, lx, s'⟩ := R
  match q, hQ, h4 with
  | 0, hQ, _ => exact fun ξ' σ' a1 a2 a3 a4 a5 a6 a7 => x_gi a1 rf (by decide) a5 (hQ ξ' σ' a1 a2 (hG6.trans (a3.toG hdq)) a6 (a7.trans e69))
  | 1, hQ, _ => exact fun ξ' σ' a1 a2 a3 a4 a5 a6 a7 => x_gi a1 rf (by decide) a5 (hQ ξ' σ' a1 a2 (hG6.trans (a3.toG hdq)) a6 (a7.trans e69))
  | 2, hQ, _ => exact fun ξ' σ' a1 a2 a3 a4 a5 a6 => hQ ξ' σ' a1 a2 (hG6.trans (a3.toG hdq)) a4 a5 (a6.trans e69)
  | 3, hQ, _ => exact fun ξ' σ' a1 a2 a3 a4 a5 => hQ ξ' σ' a1 a2 (hG6.trans (a3.toG hdq)) a4 (a5.trans e69)
  | 4, _, h4 => exact absurd rfl h4
  | _ + 5, _, _ => exact trivial
/-- what is asked behind a call -/
def CdQ (A : Nat → Nat) (F : am_H) (D : xs_D) (C : Ctx) (p : RP) (dp : Nat) (ξ : xs_X) (σ : am_S) (K : Int32 → am_S → Prop) (E : Nat → am_S → Prop) (R : RO) : Prop := match R with
  | ((0, _, _), _, s') => ∀ ξ' σ', XS F D ξ' σ' → RXd D C p ξ' s' → RXg D C p (20 + (dp + 1)) ξ ξ' → xI ξ' 0 11 = nI dp → σ'.2 = σ.2 → K 0 σ'
  | ((1, x, _), _, s') => ∀ ξ' σ', XS F D ξ' σ' → RXd D C p ξ' s' → RXg D C p (20 + (dp + 1)) ξ ξ' → xI ξ' 0 11 = nI dp → σ'.2 = σ.2 → K x σ'
  | ((2, q, _), _, s') => ∀ ξ' σ', XS F D ξ' σ' → RXd D C p ξ' s' → RXg D C p (20 + (dp + 1)) ξ ξ' → xI ξ' 3 6 = q → xI ξ' 3 7 = 0 → σ'.2 = σ.2 → E (A 3) σ'
  | ((3, _, _), _, s') => ∀ ξ' σ', XS F D ξ' σ' → RXd D C p ξ' s' → RXg D C p (20 + (dp + 1)) ξ ξ' → xI ξ' 3 7 = 1 → σ'.2 = σ.2 → E (A 3) σ'
  | _ => True
/-- a call within a body -/
theorem X_called (ih : GrP G A F D C p g) {ξ : xs_X} {σ : am_S} (H : XS F D ξ σ) (hS : RXs A F D C p ξ) (hD : RXd D C p ξ s) (hg : s.1 ≤ g) {dp c ba : Nat} {n v : Int32} {t : Term × Int32 × Int32} {l : List (Term × Int32 × Int32)} (hc : c < cN C) (hl : cL C c = true) (hB : BRo F ba n (t :: l)) (hok : okB t.1 12) (h11 : xI ξ 0 11 = nI dp) (hdp : dp ≤ 20) (hd0 : 1 ≤ d) (hd : ¬ dp = 20 → 600 + (19 - dp) * 30 + 24 + 2 ≤ d) {Q : Int32 → am_S → Prop} {E : Nat → am_S → Prop} (hdeep : dp = 20 → FQ A F D ξ σ 1005 E) (hQ : ¬ dp = 20 → CdQ A F D C p dp ξ σ Q E (go C g false (dp + 1) c n l v 0 t.1 (noteR C s c n t))) : W_X0_called G d (A 0) (some (pCr p c)) (some ba) v σ Q E := by
  have r0 := hS.1.1
  obtain ⟨d', rfl⟩ : ∃ d', d = d' + 1 := ⟨d - 1, by omega⟩
  refine W_X0_called_f (x_gi H r0 (by decide) h11 ⟨fun hne => x_gi H r0 (by decide) h11 (x_p H r0 (by decide) fun σ1 H1 e1 => ?_), fun he => ?_⟩)
  · have hd20 : ¬ dp = 20 := fun e => hne (by rw [e]; rfl)
    have hd := hd hd20
    rw [nI_1] at H1
    have hG1 : RXg D C p (20 + (dp + 1)) ξ (xs_sI ξ 0 11 (nI (dp + 1))) := ⟨fun r _ hn => sI_sc fun e => hn (Or.inl e), fun k hk => sI_o fun e => by rw [e] at hk; exact hk (by decide), rfl, fun _ => rfl⟩
    have hS1 := hS.upg hD.2.1.1 (by omega) hG1
    have hD1 : RXd D C p (xs_sI ξ 0 11 (nI (dp + 1))) s := hD.same (fun r hr => sI_sc (by omega)) (sI_o (by decide)) (sI_o (by decide))
    have hQ1 := hQ hd20
    refine x_o H1 r0 (by decide) (X_body0 ih H1 hS1 hD1 hg hc hl hB hok sI_s (by omega) (by omega) ?_)
    revert hQ1
    generalize go C g false (dp + 1) c n l v 0 t.1 (noteR C s c n t) = R
    intro hQ1
    have e9 : nI (dp + 1) - 1 = nI dp := by rw [show (1 : Int32) = nI 1 from rfl, pk_sub (by omega)]; congr 1
    have fin : ∀ (x : Int32) (s' : RSt) (ξ' : xs_X) (σ' : am_S), XS F D ξ' σ' → RXd D C p ξ' s' → RXg D C p (20 + (dp + 1)) (xs_sI ξ 0 11 (nI (dp + 1))) ξ' → xI ξ' 0 11 = nI (dp + 1) → σ'.2 = σ1.2 → (∀ ξ' σ', XS F D ξ' σ' → RXd D C p ξ' s' → RXg D C p (20 + (dp + 1)) ξ ξ' → xI ξ' 0 11 = nI dp → σ'.2 = σ.2 → Q x σ') → f_gi σ' (some (A 0)) [0] 11 (fun v8 => f_p σ' (some (A 0)) [0] 11 (.int (v8 - 1)) (fun σ9 => Q x σ9)) := fun x s' ξ' σ' a1 a2 a3 a5 a6 h => x_gi a1 r0 (by decide) a5 (x_p a1 r0 (by decide) fun σ9 H9 e9' => h (xs_sI ξ' 0 11 (nI dp)) σ9 (by rw [e9] at H9; exact H9) (a2.same (fun r hr => sI_sc (by omega)) (sI_o (by decide)) (sI_o (by decide))) (hG1.trans (a3.trans ⟨fun r _ hn => sI_sc fun e => hn (Or.inl e), fun k hk => sI_o fun e => by rw [e] at hk; exact hk (by decide), rfl, fun _ => rfl⟩)) sI_s (e9'.trans (a6.trans e1)))
    obtain ⟨⟨q, y, b⟩, lx, s'⟩ := R
    match q, hQ1 with
    | 0, hQ1 => exact fun ξ' σ' a1 a2 a3 a5 a6 => fin 0 s' ξ' σ' a1 a2 a3 a5 a6 hQ1
    | 1, hQ1 => exact fun ξ' σ' a1 a2 a3 a5 a6 => fin y s' ξ' σ' a1 a2 a3 a5 a6 hQ1
    | 2, hQ1 => exact fun ξ' σ' a1 a2 a3 a4 a5 a6 => hQ1 ξ' σ' a1 a2 (hG1.trans a3) a4 a5 (a6.trans e1)
    | 3, hQ1 => exact fun ξ' σ' a1 a2 a3 a4 a5 => hQ1 ξ' σ' a1 a2 (hG1.trans a3) a4 (a5.trans e1)
    | _ + 4, _ => exact trivial
  · have hd20 : dp = 20 := (nI_eq (a := dp) (b := 20) (by omega) (by decide)).mp he
    exact x_o H r0 (by decide) (X_fails H r0 hS.1.2.1 hS.2.2.1.1 (hdeep hd20))
end
