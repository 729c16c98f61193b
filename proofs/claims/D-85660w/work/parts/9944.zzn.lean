set_option maxRecDepth 100000
section
variable {G : am_G} {A : Nat → Nat} {F : am_H} {D : xs_D} {C : Ctx} {p : RP} {s : RSt} {d : Nat}
/-- X's counters are set for a run -/
theorem X_begins0 {ξ : xs_X} {σ : am_S} (H : XS F D ξ σ) (r0 : rl D 0 (A 0) 0) {Q : am_S → Prop} (hQ : ∀ ξ' σ', XS F D ξ' σ' → xI ξ' 0 10 = nI 500 → xI ξ' 0 11 = nI 0 → xI ξ' 0 15 = 0 → xI ξ' 0 16 = 0 → (∀ k, k ∉ [10, 11, 15, 16] → xI ξ' 0 k = xI ξ 0 k) → xR ξ' = xR ξ → xN ξ' = xN ξ → (∀ r, r ≠ 0 → sc ξ ξ' r) → σ'.2 = σ.2 → Q σ') : W_X0_begins G d (A 0) σ Q := by
  refine W_X0_begins_f (x_p H r0 (by decide) fun σ1 H1 e1 => x_p H1 r0 (by decide) fun σ2 H2 e2 => x_p H2 r0 (by decide) fun σ3 H3 e3 => x_p H3 r0 (by decide) fun σ4 H4 e4 => ?_)
  refine hQ _ σ4 H4 ?_ ?_ ?_ sI_s (fun k hk => ?_) rfl rfl (fun r hr => (((sI_sc hr).trans (sI_sc hr)).trans (sI_sc hr)).trans (sI_sc hr)) (((e4.trans e3).trans e2).trans e1)
  · rw [sI_o (by decide), sI_o (by decide), sI_o (by decide), sI_s]; rfl
  · rw [sI_o (by decide), sI_o (by decide), sI_s]; rfl
  · rw [sI_o (by decide), sI_s]
  · simp only [List.mem_cons, List.not_mem_nil, or_false, not_or] at hk
    rw [sI_o hk.2.2.2, sI_o hk.2.2.1, sI_o hk.2.1, sI_o hk.1]
/-- role 0's other numbers written -/
theorem RXs.z {ξ ξ1 : xs_X} (hS : RXs A F D C p ξ) (h6 : xI ξ1 0 6 = xI ξ 0 6) (h12 : xI ξ1 0 12 = xI ξ 0 12) (hR : xR ξ1 0 = xR ξ 0) (hN : xN ξ1 = xN ξ) (hs : ∀ r, r ≠ 0 → sc ξ ξ1 r) : RXs A F D C p ξ1 := by
  obtain ⟨a1, a2, a3, a4, a5, a6, a7, a8⟩ := hS
  refine ⟨a1, ⟨by rw [hR]; exact a2.1, a2.2⟩, ⟨by rw [hR]; exact a3.1, by rw [hR]; exact a3.2.1, by rw [hN]; exact a3.2.2.1, by rw [hR]; exact a3.2.2.2.1, by rw [hN]; exact a3.2.2.2.2⟩, ⟨by rw [h6]; exact a4.1, a4.2.1, by rw [h12]; exact a4.2.2⟩, ⟨by rw [hR]; exact a5.1, a5.2⟩, a6, fun c hc => ?_, a8⟩
  obtain ⟨b1, b2, b3, b4, b5⟩ := a7 c hc
  have s10 := hs 10 (by decide)
  have sc1 := hs (2000 + pCr p c) (by omega)
  have sc2 := hs (2000 + pHl p c) (by omega)
  exact ⟨⟨by rw [s10.2.2.2.1]; exact b1.1, b1.2.1, by rw [sc1.1]; exact b1.2.2.1, by rw [sc1.2.1]; exact b1.2.2.2.1, by rw [sc1.2.1]; exact b1.2.2.2.2⟩, ⟨by rw [sc1.2.1]; exact b2.1, by rw [sc1.2.1]; exact b2.2.1, by rw [sc1.2.1]; exact b2.2.2⟩, ⟨b3.1, b3.2.1, b3.2.2.1, by rw [hN]; exact b3.2.2.2.1, by rw [hN]; exact b3.2.2.2.2⟩, fun n hn => by rw [sc2.2.2.1]; exact b4 n hn, fun hl => ⟨(b5 hl).1, by rw [hN]; exact (b5 hl).2⟩⟩
/-- what a whole run leaves -/
def RXh (D : xs_D) (C : Ctx) (p : RP) (ξ ξ' : xs_X) : Prop := (∀ r, D.2.2 r → ¬ RXk C p 20 r → sc ξ ξ' r) ∧ (∀ k, k ∉ [10, 11, 14, 15, 16] → xI ξ' 0 k = xI ξ 0 k) ∧ xR ξ' 0 = xR ξ 0 ∧ ∀ r, xN ξ' r = xN ξ r
/-- what is asked behind a whole run -/
def RnQ (F : am_H) (D : xs_D) (C : Ctx) (p : RP) (ξ : xs_X) (σ : am_S) (Q : Int32 → am_S → Prop) (R : RO) : Prop := match R with
  | ((0, _, _), _, s') => ∀ ξ' σ', XS F D ξ' σ' → RXd D C p ξ' s' → RXh D C p ξ ξ' → xI ξ' 0 15 = 0 → xI ξ' 0 16 = 0 → σ'.2 = σ.2 → Q 0 σ'
  | ((1, x, _), _, s') => ∀ ξ' σ', XS F D ξ' σ' → RXd D C p ξ' s' → RXh D C p ξ ξ' → xI ξ' 0 15 = x → xI ξ' 0 16 = 0 → σ'.2 = σ.2 → Q 0 σ'
  | ((2, q, _), _, s') => ∀ ξ' σ', XS F D ξ' σ' → RXd D C p ξ' s' → RXh D C p ξ ξ' → xI ξ' 0 15 = 0 → xI ξ' 0 16 = q → σ'.2 = σ.2 → Q 1 σ'
  | ((3, _, _), _, s') => ∀ ξ' σ', XS F D ξ' σ' → RXd D C p ξ' s' → RXh D C p ξ ξ' → xI ξ' 0 15 = 0 → xI ξ' 0 16 = 0 → σ'.2 = σ.2 → Q 4 σ'
  | _ => True
/-- an act of a creature, from its start to its end -/
def runP (C : Ctx) (s : RSt) (c : Nat) (n v : Int32) (t : Term × Int32 × Int32) (l : List (Term × Int32 × Int32)) : RO := go C 500 false 0 c n l v 0 t.1 (noteR C (500, s.2) c n t)
theorem X_run {ξ : xs_X} {σ : am_S} (H : XS F D ξ σ) (hS : RXs A F D C p ξ) (hD : RXd D C p ξ s) {c : Nat} {n v : Int32} (hc : c < cN C) (hl : cL C c = true) (hd : 1300 ≤ d) {Q : Int32 → am_S → Prop} (hQ : ∀ t l, acts (pLX p) n 12 (some (cK C c)) = t :: l → RnQ F D C p ξ σ Q (runP C s c n v t l)) (hN : acts (pLX p) n 12 (some (cK C c)) = [] → ∀ ξ' σ', XS F D ξ' σ' → RXd D C p ξ' (500, s.2) → RXh D C p ξ ξ' → xI ξ' 0 15 = 0 → xI ξ' 0 16 = 0 → σ'.2 = σ.2 → Q 2 σ') : W_X0_run G (d + 1) (A 0) (some (pCr p c)) n v σ Q := by
  have r0 := hS.1.1
  have r3 := hS.1.2.1
  obtain ⟨hW, hWd⟩ := hS.2.2.2.2.2.1
  obtain ⟨d', rfl⟩ : ∃ d', d = d' + 12 := ⟨d - 12, by omega⟩
  refine W_X0_run_f (x_o H r0 (by decide) (X_begins0 H r0 fun ξ1 σ1 H1 i10 i11 i15 i16 iR qR qN s1 e1 => ?_))
  have hS1 := hS.z (iR 6 (by decide)) (iR 12 (by decide)) (by rw [qR]) qN s1
  have hD1 : RXd D C p ξ1 (500, s.2) := hD.cong (fun r hr => s1 r (by omega)) (iR 14 (by decide)) i10 (Nat.le_refl _)
  have hh1 : RXh D C p ξ ξ1 := ⟨fun r _ hn => s1 r fun e => hn (Or.inl e), fun k hk => iR k fun h9 => hk (by
    simp only [List.mem_cons, List.not_mem_nil, or_false] at h9 ⊢
    rcases h9 with h | h | h | h <;> simp [h]), by rw [qR], fun r => by rw [qN]⟩
  obtain ⟨b1, b2, b3, b4, b5⟩ := hS1.2.2.2.2.2.2.1 c hc
  obtain ⟨hk, hn⟩ := b5 hl
  obtain ⟨ka, hka⟩ : ∃ ka, (pAs p)[cK C c]? = some ka := ⟨_, List.getElem?_eq_getElem (by rw [hW.1]; exact hk)⟩
  have hr1 : xR ξ1 (2000 + pCr p c) 1 = some ka := by rw [b1.2.2.2.2, if_pos hl]; exact hka
  obtain ⟨kd, hkd⟩ : ∃ kd, (pLX p)[cK C c]? = some kd := ⟨_, List.getElem?_eq_getElem hk⟩
  obtain ⟨fv, c3, c4, c5, c6, c7, c8, g3, g4, g5, g6, g7, g8, k1, k2⟩ := hW.2 _ kd ka hkd hka
  refine x_gr H1 b1.2.1 (by decide) hr1 (z_o H1 k1 (by decide) (X_bodyA (d := d') H1 hW hWd hka (fun ba t l e hB => ⟨fun _ => x_o H1 r0 (by decide) ?_, fun h9 => (by cases h9)⟩) fun e => ⟨fun h9 => absurd rfl h9, fun _ => hN e ξ1 σ1 H1 hD1 hh1 i15 i16 e1⟩))
  have hq := hQ t l e
  refine X_body0 (X_go 500) H1 hS1 hD1 (Nat.le_refl _) hc hl hB (acts_ok (fun k kd h => (hWd.2.2.2.1 k kd h).2.2) 12 _ t (by rw [e]; exact List.mem_cons_self)) i11 (Nat.zero_le _) (by omega) ?_
  unfold runP at hq
  revert hq
  generalize go C 500 false 0 c n l v 0 t.1 (noteR C (500, s.2) c n t) = R
  intro hq
  have cm : ∀ {ξ' : xs_X}, RXg D C p (20 + 0) ξ1 ξ' → RXh D C p ξ ξ' := fun g => ⟨fun r a b => (hh1.1 r a b).trans (g.1 r a b), fun k hk => (g.2.1 k fun h9 => hk (by
    simp only [List.mem_cons, List.not_mem_nil, or_false] at h9 ⊢
    rcases h9 with h | h | h <;> simp [h])).trans (hh1.2.1 k hk), g.2.2.1.trans hh1.2.2.1, fun r => (g.2.2.2 r).trans (hh1.2.2.2 r)⟩
  have wr : ∀ {ξ' : xs_X} {s' : RSt} {k : Nat} {x : Int32}, k = 15 ∨ k = 16 → RXd D C p ξ' s' → RXh D C p ξ ξ' → RXd D C p (xs_sI ξ' 0 k x) s' ∧ RXh D C p ξ (xs_sI ξ' 0 k x) := fun {ξ' s' k x} hk a b => by
    refine ⟨a.same (fun r hr => sI_sc (by omega)) (sI_o (by rcases hk with h | h <;> rw [h] <;> decide)) (sI_o (by rcases hk with h | h <;> rw [h] <;> decide)), fun r h1 h2 => (b.1 r h1 h2).trans (sI_sc fun e => h2 (Or.inl e)), fun q hq => (sI_o fun e => ?_).trans (b.2.1 q hq), b.2.2.1, b.2.2.2⟩
    rw [e] at hq
    rcases hk with h | h <;> (rw [h] at hq; exact hq (by decide))
  obtain ⟨⟨q, y, b⟩, lx, s'⟩ := R
  have k15 : ∀ {ξ' : xs_X}, RXg D C p (20 + 0) ξ1 ξ' → xI ξ' 0 15 = 0 ∧ xI ξ' 0 16 = 0 := fun g => ⟨(g.2.1 15 (by decide)).trans i15, (g.2.1 16 (by decide)).trans i16⟩
  match q, hq with
  | 0, hq => exact fun ξ' σ' a1 a2 a3 a4 a5 => x_p a1 r0 (by decide) fun σ9 H9 e9 => hq _ σ9 H9 (wr (Or.inl rfl) a2 (cm a3)).1 (wr (Or.inl rfl) a2 (cm a3)).2 sI_s ((sI_o (by decide)).trans (k15 a3).2) (e9.trans (a5.trans e1))
  | 1, hq => exact fun ξ' σ' a1 a2 a3 a4 a5 => x_p a1 r0 (by decide) fun σ9 H9 e9 => hq _ σ9 H9 (wr (Or.inl rfl) a2 (cm a3)).1 (wr (Or.inl rfl) a2 (cm a3)).2 sI_s ((sI_o (by decide)).trans (k15 a3).2) (e9.trans (a5.trans e1))
  | 2, hq => exact fun ξ' σ' a1 a2 a3 a4 a5 a6 => x_o a1 r3 (by decide) (B_X0_run_35_f (x_o a1 r0 (by decide) (W_X0_ended_f (x_p a1 r0 (by decide) fun σ8 H8 e8 => x_gi H8 r3 (by decide) a5 ⟨fun _ => x_gi H8 r3 (by decide) a4 (x_p H8 r0 (by decide) fun σ9 H9 e9 => hq _ σ9 H9 (wr (Or.inr rfl) (wr (Or.inl rfl) a2 (cm a3)).1 (wr (Or.inl rfl) a2 (cm a3)).2).1 (wr (Or.inr rfl) (wr (Or.inl rfl) a2 (cm a3)).1 (wr (Or.inl rfl) a2 (cm a3)).2).2 ((sI_o (by decide)).trans sI_s) sI_s (e9.trans (e8.trans (a6.trans e1)))), fun h9 => absurd rfl h9⟩))))
  | 3, hq => exact fun ξ' σ' a1 a2 a3 a4 a5 => x_o a1 r3 (by decide) (B_X0_run_35_f (x_o a1 r0 (by decide) (W_X0_ended_f (x_p a1 r0 (by decide) fun σ8 H8 e8 => x_gi H8 r3 (by decide) a4 ⟨fun h9 => absurd h9 (by decide), fun _ => hq _ σ8 H8 (wr (Or.inl rfl) a2 (cm a3)).1 (wr (Or.inl rfl) a2 (cm a3)).2 sI_s ((sI_o (by decide)).trans (k15 a3).2) (e8.trans (a5.trans e1))⟩))))
  | _ + 4, _ => exact trivial
end
