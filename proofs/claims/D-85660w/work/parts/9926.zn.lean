set_option maxRecDepth 100000
/-! ===== X while it runs ===== -/
/-- where things lie: kinds, statics, creatures, their values, lost ones, flags; the statics' row, the frames' row; the kinds as X has them -/
abbrev RP : Type := List Nat × List Nat × (Nat → Nat) × (Nat → Nat) × (Nat → Nat) × (Nat → Nat) × Nat × Nat × List Kd
abbrev pAs (p : RP) : List Nat := p.1
abbrev pFs (p : RP) : List Nat := p.2.1
abbrev pCr (p : RP) : Nat → Nat := p.2.2.1
abbrev pVa (p : RP) : Nat → Nat := p.2.2.2.1
abbrev pLo (p : RP) : Nat → Nat := p.2.2.2.2.1
abbrev pHl (p : RP) : Nat → Nat := p.2.2.2.2.2.1
abbrev pFw (p : RP) : Nat := p.2.2.2.2.2.2.1
abbrev pFr (p : RP) : Nat := p.2.2.2.2.2.2.2.1
abbrev pLX (p : RP) : List Kd := p.2.2.2.2.2.2.2.2
abbrev cN (C : Ctx) : Nat := C.1
abbrev cL (C : Ctx) : Nat → Bool := C.2.1
abbrev cK (C : Ctx) : Nat → Nat := C.2.2.1
abbrev cH (C : Ctx) : Nat → Int32 := C.2.2.2.1
abbrev cB (C : Ctx) : Bool := C.2.2.2.2
/-- a creature's objects -/
def CRo (A : Nat → Nat) (D : xs_D) (C : Ctx) (p : RP) (ξ : xs_X) (c : Nat) : Prop := (xQ ξ 10 c = some (pCr p c) ∧ rl D (2000 + pCr p c) (pCr p c) 31 ∧ xI ξ (2000 + pCr p c) 0 = nI c ∧ xR ξ (2000 + pCr p c) 5 = some (A 0) ∧ xR ξ (2000 + pCr p c) 1 = if cL C c = true then (pAs p)[cK C c]? else none) ∧ (xR ξ (2000 + pCr p c) 2 = some (pVa p c) ∧ xR ξ (2000 + pCr p c) 3 = some (pLo p c) ∧ xR ξ (2000 + pCr p c) 4 = some (pHl p c)) ∧ (rl D (2000 + pVa p c) (pVa p c) 100 ∧ rl D (2000 + pLo p c) (pLo p c) 100 ∧ rl D (2000 + pHl p c) (pHl p c) 103 ∧ xN ξ (2000 + pLo p c) = 40 ∧ xN ξ (2000 + pHl p c) = 40) ∧ (∀ n, n < 40 → xA ξ (2000 + pHl p c) n = cH C (40 * c + n)) ∧ (cL C c = true → cK C c < (pLX p).length ∧ xN ξ (2000 + pVa p c) = (plc (pLX p) 12 (some (cK C c))).length)
def RXs (A : Nat → Nat) (F : am_H) (D : xs_D) (C : Ctx) (p : RP) (ξ : xs_X) : Prop := (rl D 0 (A 0) 0 ∧ rl D 3 (A 3) 2 ∧ rl D 7 (A 7) 100 ∧ rl D 10 (A 10) 112 ∧ ∀ i, i ≤ 20 → rl D (20 + i) (A (20 + i)) 1) ∧ (xR ξ 0 7 = some (pFr p) ∧ ∃ g : Nat → Option Nat, F (pFr p) = some (.inl (13, 21, .inr (.inr (.inr (.inr g))))) ∧ ∀ i, i ≤ 20 → g i = some (A (20 + i))) ∧ (xR ξ 0 9 = some (A 3) ∧ xR ξ 0 13 = some (A 7) ∧ xN ξ 7 = 200 ∧ xR ξ 0 5 = some (A 10) ∧ xN ξ 10 = 40) ∧ (xI ξ 0 6 = nI (cN C) ∧ cN C ≤ 40 ∧ xI ξ 0 12 = if cB C = true then 1 else 0) ∧ (xR ξ 0 4 = some (pFw p) ∧ fAr F (pFw p) (pFs p) ∧ (pFs p).length < 1000 ∧ ∀ (i j v : Nat), (pFs p)[i]? = some v → (pFs p)[j]? = some v → i = j) ∧ (WX F (pAs p) (pLX p) ∧ WdI (pLX p)) ∧ (∀ c, c < cN C → CRo A D C p ξ c) ∧ ∀ c c', c < cN C → c' < cN C → (pVa p c = pVa p c' → c = c') ∧ (pLo p c = pLo p c' → c = c') ∧ pVa p c ≠ pLo p c'
/-- one that ran -/
def rnA (ξ : xs_X) (i : Nat) (r : Int32 × Int32 × Int32 × Int32) : Prop := xA ξ 7 (4 * i) = r.1 ∧ xA ξ 7 (4 * i + 1) = r.2.1 ∧ xA ξ 7 (4 * i + 2) = r.2.2.1 ∧ xA ξ 7 (4 * i + 3) = r.2.2.2
def RXd (D : xs_D) (C : Ctx) (p : RP) (ξ : xs_X) (s : RSt) : Prop := (xI ξ 0 10 = nI s.1 ∧ s.1 ≤ 500) ∧ (FXo D ξ (pFs p) (fxl s.2.1) ∧ eqS (pLX p) s.2.1) ∧ (∀ c, c < cN C → cL C c = true → ∀ (q u : Nat) (x : Int32 × Int32 × Int32), (plc (pLX p) 12 (some (cK C c)))[q]? = some (u, x) → xA ξ (2000 + pVa p c) q = s.2.2.1 (ixV c x.1)) ∧ (∀ c, c < cN C → ∀ n, n < 40 → ¬ cH C (40 * c + n) = 0 → xA ξ (2000 + pLo p c) n = s.2.2.2.1 (40 * c + n)) ∧ (xI ξ 0 14 = nI s.2.2.2.2.length ∧ s.2.2.2.2.length ≤ 50 ∧ ∀ (i : Nat) (r : Int32 × Int32 × Int32 × Int32), s.2.2.2.2[i]? = some r → rnA ξ i r)
/-- roles that a run may change, the frame fi at the depth d -/
def RXc (C : Ctx) (p : RP) (d fi r : Nat) : Prop := r = 0 ∨ r = 3 ∨ r = 7 ∨ r = fi ∨ (20 + d < r ∧ r ≤ 40) ∨ (∃ c, c < cN C ∧ (r = 2000 + pVa p c ∨ r = 2000 + pLo p c)) ∨ ∃ v, v ∈ pFs p ∧ r = 2000 + v
/-- what a run leaves -/
def RXf (D : xs_D) (C : Ctx) (p : RP) (d fi : Nat) (ξ ξ' : xs_X) : Prop := (∀ r, D.2.2 r → ¬ RXc C p d fi r → sc ξ ξ' r) ∧ (∀ k, k ∉ [10, 11, 14] → xI ξ' 0 k = xI ξ 0 k) ∧ xR ξ' 0 = xR ξ 0 ∧ (∀ r, xN ξ' r = xN ξ r) ∧ xR ξ' fi = xR ξ fi ∧ (∀ k, ¬ k = 3 → ¬ k = 4 → xI ξ' fi k = xI ξ fi k)
theorem RXf.refl {D : xs_D} {C : Ctx} {p : RP} {d fi : Nat} {ξ : xs_X} : RXf D C p d fi ξ ξ := ⟨fun _ _ _ => sc.refl, fun _ _ => rfl, rfl, fun _ => rfl, rfl, fun _ _ _ => rfl⟩
theorem RXf.trans {D : xs_D} {C : Ctx} {p : RP} {d fi : Nat} {ξ ξ1 ξ2 : xs_X} (h1 : RXf D C p d fi ξ ξ1) (h2 : RXf D C p d fi ξ1 ξ2) : RXf D C p d fi ξ ξ2 := ⟨fun r a b => (h1.1 r a b).trans (h2.1 r a b), fun k hk => (h2.2.1 k hk).trans (h1.2.1 k hk), h2.2.2.1.trans h1.2.2.1, fun r => (h2.2.2.2.1 r).trans (h1.2.2.2.1 r), h2.2.2.2.2.1.trans h1.2.2.2.2.1, fun k a b => (h2.2.2.2.2.2 k a b).trans (h1.2.2.2.2.2 k a b)⟩
section
variable {A : Nat → Nat} {F : am_H} {D : xs_D} {C : Ctx} {p : RP} {ξ ξ' : xs_X} {s : RSt} {d fi fa : Nat}
/-- the kinds of the roles that change -/
theorem RXc.ty (hS : RXs A F D C p ξ) (hV : FXo D ξ (pFs p) (fxl s.2.1)) (hf : rl D fi fa 1) {r : Nat} (h : RXc C p d fi r) : D.2.1 r ∈ [0, 2, 100, 1, 23] := by
  rcases h with h | h | h | h | ⟨h1, h2⟩ | ⟨c, hc, h | h⟩ | ⟨v, hv, h⟩
  · rw [h, hS.1.1.2.2]; decide
  · rw [h, hS.1.2.1.2.2]; decide
  · rw [h, hS.1.2.2.1.2.2]; decide
  · rw [h, hf.2.2]; decide
  · obtain ⟨i, rfl⟩ : ∃ i, r = 20 + i := ⟨r - 20, by omega⟩
    rw [(hS.1.2.2.2.2 i (by omega)).2.2]; decide
  · rw [h, (hS.2.2.2.2.2.2.1 c hc).2.2.1.1.2.2]; decide
  · rw [h, (hS.2.2.2.2.2.2.1 c hc).2.2.1.2.1.2.2]; decide
  · obtain ⟨q, hq⟩ := List.getElem?_of_mem hv
    have hl := get_lt hq
    rw [h, (hV.2 q v _ hq (List.getElem?_eq_getElem (by rw [← hV.1]; exact hl))).1.2.2]; decide
theorem RXc.no (hS : RXs A F D C p ξ) (hV : FXo D ξ (pFs p) (fxl s.2.1)) (hf : rl D fi fa 1) {r a t : Nat} (hr : rl D r a t) (ht : t ∉ [0, 2, 100, 1, 23]) : ¬ RXc C p d fi r := fun h => by
  have := RXc.ty hS hV hf h
  rw [hr.2.2] at this
  exact ht this
theorem RXs.up (hS : RXs A F D C p ξ) (hV : FXo D ξ (pFs p) (fxl s.2.1)) (hf : rl D fi fa 1) (h : RXf D C p d fi ξ ξ') : RXs A F D C p ξ' := by
  have hS' := hS
  obtain ⟨a1, a2, a3, a4, a5, a6, a7, a8⟩ := hS
  obtain ⟨h1, h2, h3, h4, h5⟩ := h
  have s10 := h1 10 a1.2.2.2.1.1 (RXc.no hS' hV hf a1.2.2.2.1 (by decide))
  refine ⟨a1, ⟨by rw [h3]; exact a2.1, a2.2⟩, ⟨by rw [h3]; exact a3.1, by rw [h3]; exact a3.2.1, by rw [h4]; exact a3.2.2.1, by rw [h3]; exact a3.2.2.2.1, by rw [h4]; exact a3.2.2.2.2⟩, ⟨by rw [h2 6 (by decide)]; exact a4.1, a4.2.1, by rw [h2 12 (by decide)]; exact a4.2.2⟩, ⟨by rw [h3]; exact a5.1, a5.2⟩, a6, fun c hc => ?_, a8⟩
  obtain ⟨b1, b2, b3, b4, b5⟩ := a7 c hc
  have sc1 := h1 _ b1.2.1.1 (RXc.no hS' hV hf b1.2.1 (by decide))
  have sc2 := h1 _ b3.2.2.1.1 (RXc.no hS' hV hf b3.2.2.1 (by decide))
  refine ⟨⟨by rw [s10.2.2.2.1]; exact b1.1, b1.2.1, by rw [sc1.1]; exact b1.2.2.1, by rw [sc1.2.1]; exact b1.2.2.2.1, by rw [sc1.2.1]; exact b1.2.2.2.2⟩, ⟨by rw [sc1.2.1]; exact b2.1, by rw [sc1.2.1]; exact b2.2.1, by rw [sc1.2.1]; exact b2.2.2⟩, ⟨b3.1, b3.2.1, b3.2.2.1, by rw [h4]; exact b3.2.2.2.1, by rw [h4]; exact b3.2.2.2.2⟩, fun n hn => by rw [sc2.2.2.1]; exact b4 n hn, fun hl => ⟨(b5 hl).1, by rw [h4]; exact (b5 hl).2⟩⟩
end
section
variable {G : am_G} {A : Nat → Nat} {d : Nat} {F : am_H} {D : xs_D} {ξ : xs_X} {σ : am_S} {C : Ctx} {p : RP} {s : RSt} {E : Nat → am_S → Prop}
theorem upK_is {L : List Kd} {q : Kd → Bool} {u : Nat} : ∀ (f : Nat) (o : Option Nat), upK L q f o = some u → ∃ ku, L[u]? = some ku ∧ q ku = true
  | f, none, h => by rw [upK_none] at h; cases h
  | 0, some _, h => by cases h
  | f + 1, some k, h => by
    cases hk : L[k]? with
    | none =>
      have : upK L q (f + 1) (some k) = none := by
        show (match L[k]? with | none => none | some kd => if q kd = true then some k else upK L q f (kA kd)) = _
        rw [hk]
      rw [this] at h
      cases h
    | some kd =>
      rw [upK_some hk] at h
      by_cases hq : q kd = true
      · rw [if_pos hq] at h
        cases h
        exact ⟨kd, hk, hq⟩
      · rw [if_neg hq] at h
        exact upK_is f _ h
theorem gtS_of {L : List Kd} {u i : Nat} {ku : Kd} {n : Int32} {s : Int32 × Int32} (h : L[u]? = some ku) (hi : ixS ku n = some i) (hs : (kS ku)[i]? = some s) : gtS L u n = s.2 := by
  unfold gtS
  rw [h]
  dsimp only
  rw [hi]
  dsimp only
  rw [hs]
/-- a failure was told -/
def FQ (A : Nat → Nat) (F : am_H) (D : xs_D) (ξ : xs_X) (σ : am_S) (code : Int32) (E : Nat → am_S → Prop) : Prop := ∀ σ', XS F D (xs_sI (xs_sI ξ 3 6 code) 3 7 0) σ' → σ'.2 = σ.2 → E (A 3) σ'
theorem X_fails (H : XS F D ξ σ) (r0 : rl D 0 (A 0) 0) (r3 : rl D 3 (A 3) 2) (h9 : xR ξ 0 9 = some (A 3)) {code : Int32} (hE : FQ A F D ξ σ code E) : W_X0_fails G d (A 0) code σ (fun v σ' => f_o σ' v [2] (fun q => E q σ')) := by
  refine W_X0_fails_f (x_gr H r0 (by decide) h9 (x_p H r3 (by decide) fun σ1 H1 e1 => x_gr H1 r0 (by decide) h9 (x_p H1 r3 (by decide) fun σ2 H2 e2 => x_gr H2 r0 (by decide) h9 (x_o H2 r3 (by decide) (hE σ2 H2 (e2.trans e1))))))
/-- what is under a name -/
theorem X_getV (H : XS F D ξ σ) (hS : RXs A F D C p ξ) (hD : RXd D C p ξ s) {c m : Nat} (hc : c < cN C) (hl : cL C c = true) (hm : m < 40) {x : Int32} (hx : x = nI m) {Q : Int32 → am_S → Prop} (hQ : ∀ y, rdv C s c x = some y → Q y σ) (hE : rdv C s c x = none → FQ A F D ξ σ 1001 E) : W_X34_get G (d + 13) (pCr p c) x σ Q E := by
  obtain ⟨a1, a2, a3, a4, a5, ⟨hW, hWd⟩, a7, a8⟩ := hS
  obtain ⟨b1, b2, b3, b4, b5⟩ := a7 c hc
  obtain ⟨hk, hn⟩ := b5 hl
  obtain ⟨d1, ⟨d2, d3⟩, d4, d5, d6⟩ := hD
  have hac := hWd.2.1 _ hk
  have hl8 := plc_le hW.F8 12 (some (cK C c))
  obtain ⟨ka, hka⟩ : ∃ ka, (pAs p)[cK C c]? = some ka := ⟨_, List.getElem?_eq_getElem (by rw [hW.1]; exact hk)⟩
  have hr1 : xR ξ (2000 + pCr p c) 1 = some ka := by rw [b1.2.2.2.2, if_pos hl]; exact hka
  obtain ⟨kd, hkd⟩ : ∃ kd, (pLX p)[cK C c]? = some kd := ⟨_, List.getElem?_eq_getElem hk⟩
  obtain ⟨fv, c3, c4, c5, c6, c7, c8, g3, g4, g5, g6, g7, g8, k1, k2⟩ := hW.2 _ kd ka hkd hka
  have huq := (wdI_eqS hWd d3).2.2.1
  have hfU : fUp s.2.1 (cK C c) x = upK (pLX p) (fun kd => (ixF kd x).isSome) 12 (some (cK C c)) := (eqS.upE d3 (fun k kd kd' h1 h2 => by rw [(d3.ix h1 h2 x).1]) 12 _).symm
  have hsU : sUp s.2.1 (cK C c) x = upK (pLX p) (fun kd => (ixS kd x).isSome) 12 (some (cK C c)) := (eqS.upE d3 (fun k kd kd' h1 h2 => by rw [(d3.ix h1 h2 x).2.1]) 12 _).symm
  have hpl := plI_up (n := x) 12 _ hac
  rw [← hfU] at hpl
  refine W_X34_get_f (x_gr H b1.2.1 (by decide) hr1 (z_o H k1 (by decide) (X_place23 (d := d) H hW 12 _ ka (Nat.le_refl _) hac hka ?_)))
  unfold rdv at hQ hE
  cases hp : plI (pLX p) x 12 (some (cK C c)) with
  | some q =>
    rw [hp] at hpl
    obtain ⟨u, y, y1, y2⟩ := plI_get 12 _ hp
    have hql := get_lt y1
    cases hf : fUp s.2.1 (cK C c) x with
    | none => rw [hf] at hpl; cases hpl
    | some u9 =>
      rw [hf] at hQ
      refine ⟨fun h9 => absurd h9 (nI_m1 (show q < 2 ^ 31 by omega)), fun _ => x_gr H b1.2.1 (by decide) b2.1 (x_ai H b3.1 (by decide) hn rfl hql (by omega) (d4 c hc hl q u y y1) ?_)⟩
      rw [y2]
      exact hQ _ rfl
  | none =>
    rw [hp] at hpl
    cases hf : fUp s.2.1 (cK C c) x with
    | some u9 => rw [hf] at hpl; cases hpl
    | none =>
      rw [hf] at hQ hE
      have hQ1 : ∀ y, (match sUp s.2.1 (cK C c) x with | some u => some (gtS s.2.1 u x) | none => if cH C (ixV c x) = 0 then none else some (s.2.2.2.1 (ixV c x))) = some y → Q y σ := hQ
      have hE1 : (match sUp s.2.1 (cK C c) x with | some u => some (gtS s.2.1 u x) | none => if cH C (ixV c x) = 0 then none else some (s.2.2.2.1 (ixV c x))) = none → FQ A F D ξ σ 1001 E := hE
      refine ⟨fun _ => x_gr H b1.2.1 (by decide) b1.2.2.2.1 (x_gr H b1.2.1 (by decide) hr1 (x_o H a1.1 (by decide) (W_X0_fixedOf_f (X_fixedOf (d := d + 11) H hW a1.1 a5.1 a5.2.1 d2 a5.2.2.1 12 (some (cK C c)) _ hac hka.symm ?_)))), fun h9 => absurd rfl h9⟩
      have hsu : upK s.2.1 (fun kd => (ixS kd x).isSome) 12 (some (cK C c)) = sUp s.2.1 (cK C c) x := rfl
      rw [fxU_eq d3 huq, hsu]
      cases hs : sUp s.2.1 (cK C c) x with
      | some u =>
        rw [hs] at hQ1
        obtain ⟨ku, u1, u2⟩ := upK_is 12 _ hs
        cases hi : ixS ku x with
        | none => rw [hi] at u2; cases u2
        | some i =>
          obtain ⟨sv, s1, s2⟩ := ixf_some hi
          have hg := fxl_get u1 s1
          obtain ⟨v, hv⟩ : ∃ v, (pFs p)[off s.2.1 u + i]? = some v := ⟨_, List.getElem?_eq_getElem (by rw [d2.1]; exact get_lt hg)⟩
          obtain ⟨w1, w2, w3, w4⟩ := d2.2 _ v _ hv hg
          have e9 : ((some u).bind fun u => (s.2.1[u]?).bind fun ku => (ixS ku x).map (off s.2.1 u + ·)) = some (off s.2.1 u + i) := by
            show (s.2.1[u]?).bind _ = _
            rw [u1]
            show (ixS ku x).map _ = _
            rw [hi]
            rfl
          rw [e9, show ((some (off s.2.1 u + i)).bind fun q => (pFs p)[q]?) = some v from hv]
          refine ⟨fun h9 => (by cases h9), fun _ => x_gi H w1 (by decide) w4 (hQ1 _ ?_)⟩
          show some (gtS s.2.1 u x) = some sv.2
          rw [gtS_of u1 hi s1]
      | none =>
        rw [hs] at hQ1 hE1
        refine ⟨fun _ => x_gr H b1.2.1 (by decide) b2.2.2 (x_ai (n := 40) (q := m) H b3.2.2.1 (by decide) b3.2.2.2.2 hx hm (by decide) (b4 m hm) ?_), fun h9 => absurd rfl h9⟩
        have hix : ixV c x = 40 * c + m := by unfold ixV; rw [hx, nI_clamp (by omega)]
        rw [hix] at hQ1 hE1
        have hQ2 : ∀ y, (if cH C (40 * c + m) = 0 then none else some (s.2.2.2.1 (40 * c + m))) = some y → Q y σ := hQ1
        have hE2 : (if cH C (40 * c + m) = 0 then (none : Option Int32) else some (s.2.2.2.1 (40 * c + m))) = none → FQ A F D ξ σ 1001 E := hE1
        refine ⟨fun hne => x_gr H b1.2.1 (by decide) b2.2.1 (x_ai (n := 40) (q := m) H b3.2.1 (by decide) b3.2.2.2.1 hx hm (by decide) (d5 c hc m hm hne) (hQ2 _ (if_neg hne))), fun he => x_gr H b1.2.1 (by decide) b1.2.2.2.1 (x_o H a1.1 (by decide) (X_fails H a1.1 a1.2.1 a3.1 (hE2 (if_pos he))))⟩
end
