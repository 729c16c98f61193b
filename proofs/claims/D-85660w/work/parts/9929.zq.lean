set_option maxRecDepth 100000
theorem acts_none {L : List Kd} {n : Int32} {f : Nat} : acts L n f none = [] := by cases f <;> rfl
theorem acts_some {L : List Kd} {n : Int32} {f k : Nat} {kd : Kd} (h : L[k]? = some kd) : acts L n (f + 1) (some k) = actK kd n ++ acts L n f (kA kd) := by
  show (match L[k]? with | none => [] | some kd => actK kd n ++ acts L n f (kA kd)) = _
  rw [h]
theorem acts_f {L : List Kd} {n : Int32} : ∀ (f : Nat) (o : Option Nat), ac L f o → ∀ g, f ≤ g → acts L n g o = acts L n f o
  | f, none, _, g, _ => by rw [acts_none, acts_none]
  | 0, some _, h, _, _ => h.elim
  | f + 1, some k, h, g, hg => by
    obtain ⟨kd, h1, h2⟩ := ac_some h
    obtain ⟨g', rfl⟩ : ∃ g', g = g' + 1 := ⟨g - 1, by omega⟩
    rw [acts_some h1, acts_some h1, acts_f f _ h2 g' (by omega)]
/-- the first act up and those above it -/
theorem acts_up {L : List Kd} {n : Int32} : ∀ (f : Nat) (o : Option Nat), f ≤ 12 → ac L f o → (upK L (fun kd => (ixA kd n).isSome) f o = none → acts L n f o = []) ∧ (∀ u ku i x, upK L (fun kd => (ixA kd n).isSome) f o = some u → L[u]? = some ku → ixA ku n = some i → (kX ku)[i]? = some x → acts L n f o = (x.2, kN ku, kG ku) :: acts L n 12 (kA ku))
  | f, none, _, _ => ⟨fun _ => acts_none, fun u ku i x h => by rw [upK_none] at h; cases h⟩
  | 0, some _, _, h => h.elim
  | f + 1, some k, hf, h => by
    obtain ⟨kd, h1, h2⟩ := ac_some h
    obtain ⟨r1, r2⟩ := acts_up (n := n) f _ (by omega) h2
    rw [upK_some h1, acts_some h1]
    cases hx : ixA kd n with
    | none =>
      rw [if_neg (by decide)]
      have : actK kd n = [] := by unfold actK; rw [hx]
      rw [this, List.nil_append]
      exact ⟨r1, r2⟩
    | some i =>
      rw [if_pos (show (some i).isSome = true from rfl)]
      refine ⟨fun h9 => (by cases h9), fun u ku i' x e1 e2 e3 e4 => ?_⟩
      injection e1 with e1
      subst e1
      rw [h1] at e2
      cases e2
      rw [hx] at e3
      cases e3
      have : actK kd n = [(x.2, kN kd, kG kd)] := by unfold actK; rw [hx]; dsimp only; rw [e4]
      rw [this, acts_f f _ h2 12 (by omega)]
      rfl
/-- an act's body at b: its acts from there up -/
def BRo (F : am_H) (b : Nat) (n : Int32) (l : List (Term × Int32 × Int32)) : Prop := ∃ (as0 : List Nat) (L0 : List Kd) (k : Nat) (kd : Kd) (a i : Nat) (x : Int32 × Term), WX F as0 L0 ∧ WdI L0 ∧ L0[k]? = some kd ∧ as0[k]? = some a ∧ ixA kd n = some i ∧ (kX kd)[i]? = some x ∧ isBo F a x b ∧ l = (x.2, kN kd, kG kd) :: acts L0 n 12 (kA kd)
theorem BRo.mono {F F1 : am_H} {b : Nat} {n : Int32} {l : List (Term × Int32 × Int32)} (h : BRo F b n l) (hF : FE F F1) : BRo F1 b n l := by
  obtain ⟨as0, L0, k, kd, a, i, x, h1, h2, h3, h4, h5, h6, h7, h8⟩ := h
  exact ⟨as0, L0, k, kd, a, i, x, h1.mono hF, h2, h3, h4, h5, h6, h7.mono hF, h8⟩
section
variable {G : am_G} {A : Nat → Nat} {d : Nat} {F : am_H} {D : xs_D} {ξ : xs_X} {σ : am_S} {C : Ctx} {p : RP} {s : RSt}
/-- the body of an act of a kind -/
theorem X_bodyA (H : XS F D ξ σ) {as : List Nat} {L : List Kd} (hW : WX F as L) (hWd : WdI L) {n : Int32} {k a : Nat} (ha : as[k]? = some a) {Q : Option Nat → am_S → Prop} (hy : ∀ b t l, acts L n 12 (some k) = t :: l → BRo F b n (t :: l) → Q (some b) σ) (hn : acts L n 12 (some k) = [] → Q none σ) : W_X23_body G (d + 12) a n σ Q := by
  have hk : k < L.length := by rw [← hW.1]; exact get_lt ha
  obtain ⟨r1, r2⟩ := acts_up (n := n) 12 (some k) (Nat.le_refl _) (hWd.2.1 k hk)
  refine X_body H hW 12 k a (Nat.le_refl _) (hWd.2.1 k hk) ha (fun u ku i x au v e1 e2 e3 e4 e5 e6 => ?_) fun e1 => hn (r1 e1)
  exact hy v _ _ (r2 u ku i x e1 e2 e3 e4) ⟨as, L, u, ku, au, i, x, hW, hWd, e2, e5, e3, e4, e6, rfl⟩
/-- a creature that lives -/
theorem X_living (H : XS F D ξ σ) (hS : RXs A F D C p ξ) {x : Int32} {Q : Option Nat → am_S → Prop} (hy : ∀ c, liv C x = some c → c < cN C → cL C c = true → x = nI c → Q (some (pCr p c)) σ) (hn : liv C x = none → Q none σ) : W_X0_living G d (A 0) x σ Q := by
  have r0 := hS.1.1
  have hn40 := hS.2.2.2.1.2.1
  unfold liv at hy hn
  refine W_X0_living_f ⟨fun h9 => hn (if_neg fun h8 => absurd h9 (Int32.not_lt.mpr h8.1)), fun h9 => x_gi H r0 (by decide) hS.2.2.2.1.1 ⟨fun h8 => hn (if_neg fun h7 => absurd h7.2 (Int32.not_lt.mpr h8)), fun h8 => ?_⟩⟩
  have h0 : 0 ≤ x := Int32.not_lt.mp h9
  have h1 : x < nI (cN C) := Int32.not_le.mp h8
  obtain ⟨c, hc, hx⟩ : ∃ c, c < cN C ∧ x = nI c := by
    have := (i7 (t := x) (a := 0) (b := 40) (by decide) (by decide)).mp ⟨h0, Int32.le_trans (Int32.le_of_lt h1) (nI_le hn40 (by decide))⟩
    obtain ⟨k, k1, k2, k3⟩ := this
    refine ⟨k, ?_, k3⟩
    rw [k3] at h1
    exact (nI_ltI (by omega) (by omega)).mp h1
  rw [if_pos ⟨h0, h1⟩] at hy hn
  have hxc : x.toNatClampNeg = c := by rw [hx, nI_clamp (by omega)]
  rw [hxc] at hy hn
  obtain ⟨b1, b2, b3, b4, b5⟩ := hS.2.2.2.2.2.2.1 c hc
  refine x_gr H r0 (by decide) hS.2.2.1.2.2.2.1 (x_ar (n := 40) (q := c) H hS.1.2.2.2.1 (by decide) hS.2.2.1.2.2.2.2 hx (by omega) (by decide) b1.1 ?_)
  by_cases hl : cL C c = true
  · rw [if_pos hl] at hy
    obtain ⟨hk, -⟩ := b5 hl
    obtain ⟨ka, hka⟩ : ∃ ka, (pAs p)[cK C c]? = some ka := ⟨_, List.getElem?_eq_getElem (by rw [hS.2.2.2.2.2.1.1.1]; exact hk)⟩
    refine x_gr H b1.2.1 (by decide) (v := some ka) (by rw [b1.2.2.2.2, if_pos hl]; exact hka) ⟨fun h9 => (by cases h9), fun _ => ?_⟩
    exact x_gr H r0 (by decide) hS.2.2.1.2.2.2.1 (x_ar (n := 40) (q := c) H hS.1.2.2.2.1 (by decide) hS.2.2.1.2.2.2.2 hx (by omega) (by decide) b1.1 (hy c rfl hc hl hx))
  · rw [if_neg hl] at hn
    exact x_gr H b1.2.1 (by decide) (v := none) (by rw [b1.2.2.2.2, if_neg hl]) ⟨fun _ => hn rfl, fun h9 => absurd rfl h9⟩
/-- an act that runs is noted -/
theorem X_notes (H : XS F D ξ σ) (hS : RXs A F D C p ξ) (hD : RXd D C p ξ s) {c ba : Nat} {n : Int32} {t : Term × Int32 × Int32} {l : List (Term × Int32 × Int32)} (hc : c < cN C) (hB : BRo F ba n (t :: l)) {Q : am_S → Prop} (hQ : ∀ ξ' σ', XS F D ξ' σ' → RXd D C p ξ' (noteR C s c n t) → (∀ r, r ≠ 0 → r ≠ 7 → sc ξ ξ' r) → (∀ k, k ≠ 14 → xI ξ' 0 k = xI ξ 0 k) → xR ξ' = xR ξ → xN ξ' = xN ξ → σ'.2 = σ.2 → Q σ') : W_X0_notes G d (A 0) (some (pCr p c)) (some ba) σ Q := by
  obtain ⟨as0, L0, k, kd, a, i, x, h1, h2, h3, h4, h5, h6, h7, h8⟩ := hB
  obtain ⟨fb, rb, k1, k2, k3, k4⟩ := h7
  obtain ⟨fv, c3, c4, c5, c6, c7, c8, g3, g4, g5, g6, g7, g8, j1, j2, j3, j4⟩ := h1.2 k kd a h3 h4
  have hxn : x.1 = n := by
    obtain ⟨y, y1, y2⟩ := ixf_some h5
    rw [h6] at y1
    cases y1
    exact y2
  injection h8 with e1 e2
  obtain ⟨d1, d2, d4, d5, d6⟩ := hD
  have r0 := hS.1.1
  have r7 := hS.1.2.2.1
  have b1 := (hS.2.2.2.2.2.2.1 c hc).1
  have n7 := hS.2.2.1.2.2.1
  have h13 := hS.2.2.1.2.1
  have h12 := hS.2.2.2.1.2.2
  unfold noteR at hQ
  refine W_X0_notes_f (x_gi H r0 (by decide) h12 ⟨fun hb => ?_, fun hb => ?_⟩)
  · have hbf : ¬ cB C = true := fun e => by rw [if_pos e] at hb; exact absurd hb (by decide)
    rw [if_neg (fun h9 => hbf h9.1)] at hQ
    exact hQ ξ σ H ⟨d1, d2, d4, d5, d6⟩ (fun _ _ _ => sc.refl) (fun _ _ => rfl) rfl rfl rfl
  · have hbt : cB C = true := by
      cases h9 : cB C with
      | true => rfl
      | false => rw [h9] at hb; exact absurd rfl hb
    refine x_gi H r0 (by decide) d6.1 ⟨fun hne => ?_, fun heq => ?_⟩
    · have hlt : s.2.2.2.2.length < 50 := Nat.lt_of_le_of_ne d6.2.1 fun e => hne (by rw [e]; rfl)
      rw [if_pos ⟨hbt, hlt⟩] at hQ
      have q4 : 4 * nI s.2.2.2.2.length = nI (4 * s.2.2.2.2.length) := pk_mul 4 _
      have i0 : ∀ {ξ1 : xs_X} {k : Nat} {v : Int32}, xI (xs_sA ξ1 7 k v) 0 = xI ξ1 0 := fun {ξ1 k v} => rfl
      refine x_gr H r0 (by decide) h13 (x_gi H r0 (by decide) d6.1 (x_gi H b1.2.1 (by decide) b1.2.2.1 (x_si (n := 200) (q := 4 * s.2.2.2.2.length) H r7 (by decide) n7 q4 (by omega) (by decide) fun σ1 H1 e1' => ?_)))
      refine x_gr H1 r0 (by decide) h13 (x_gi H1 r0 (by decide) d6.1 (z_gi H1 k1 (by decide) k3 (x_si (n := 200) (q := 4 * s.2.2.2.2.length + 1) H1 r7 (by decide) n7 (by rw [q4]; exact nI_1 _) (by omega) (by decide) fun σ2 H2 e2' => ?_)))
      refine x_gr H2 r0 (by decide) h13 (x_gi H2 r0 (by decide) d6.1 (z_gr H2 k1 (by decide) k2 (z_gi H2 j1 (by decide) j2 (x_si (n := 200) (q := 4 * s.2.2.2.2.length + 2) H2 r7 (by decide) n7 (by rw [q4]; exact nI_add _ 2) (by omega) (by decide) fun σ3 H3 e3' => ?_))))
      refine x_gr H3 r0 (by decide) h13 (x_gi H3 r0 (by decide) d6.1 (z_gr H3 k1 (by decide) k2 (z_gi H3 j1 (by decide) j3 (x_si (n := 200) (q := 4 * s.2.2.2.2.length + 3) H3 r7 (by decide) n7 (by rw [q4]; exact nI_add _ 3) (by omega) (by decide) fun σ4 H4 e4' => ?_))))
      refine x_gi H4 r0 (by decide) d6.1 (x_p H4 r0 (by decide) fun σ5 H5 e5' => ?_)
      rw [nI_1] at H5
      have sA : ∀ r, r ≠ 0 → r ≠ 7 → sc ξ (xs_sI (xs_sA (xs_sA (xs_sA (xs_sA ξ 7 (4 * s.2.2.2.2.length) (nI c)) 7 (4 * s.2.2.2.2.length + 1) x.1) 7 (4 * s.2.2.2.2.length + 2) (kN kd)) 7 (4 * s.2.2.2.2.length + 3) (kG kd)) 0 14 (nI (s.2.2.2.2.length + 1))) r := fun r hr0 hr7 => ((((sA_sc hr7).trans (sA_sc hr7)).trans (sA_sc hr7)).trans (sA_sc hr7)).trans (sI_sc hr0)
      have hA7 : ∀ q, xA (xs_sI (xs_sA (xs_sA (xs_sA (xs_sA ξ 7 (4 * s.2.2.2.2.length) (nI c)) 7 (4 * s.2.2.2.2.length + 1) x.1) 7 (4 * s.2.2.2.2.length + 2) (kN kd)) 7 (4 * s.2.2.2.2.length + 3) (kG kd)) 0 14 (nI (s.2.2.2.2.length + 1))) 7 q = if q = 4 * s.2.2.2.2.length + 3 then kG kd else if q = 4 * s.2.2.2.2.length + 2 then kN kd else if q = 4 * s.2.2.2.2.length + 1 then x.1 else if q = 4 * s.2.2.2.2.length then nI c else xA ξ 7 q := fun q => by
        show xA (xs_sA (xs_sA (xs_sA (xs_sA ξ 7 (4 * s.2.2.2.2.length) (nI c)) 7 (4 * s.2.2.2.2.length + 1) x.1) 7 (4 * s.2.2.2.2.length + 2) (kN kd)) 7 (4 * s.2.2.2.2.length + 3) (kG kd)) 7 q = _
        by_cases q3 : q = 4 * s.2.2.2.2.length + 3
        · rw [if_pos q3, q3, sA_s]
        · rw [if_neg q3, sA_o q3]
          by_cases q2 : q = 4 * s.2.2.2.2.length + 2
          · rw [if_pos q2, q2, sA_s]
          · rw [if_neg q2, sA_o q2]
            by_cases q1 : q = 4 * s.2.2.2.2.length + 1
            · rw [if_pos q1, q1, sA_s]
            · rw [if_neg q1, sA_o q1]
              by_cases q0 : q = 4 * s.2.2.2.2.length
              · rw [if_pos q0, q0, sA_s]
              · rw [if_neg q0, sA_o q0]
      have hr2 : ∀ {r : Nat}, 2000 ≤ r → r ≠ 0 ∧ r ≠ 7 := fun h => ⟨by omega, by omega⟩
      refine hQ (xs_sI (xs_sA (xs_sA (xs_sA (xs_sA ξ 7 (4 * s.2.2.2.2.length) (nI c)) 7 (4 * s.2.2.2.2.length + 1) x.1) 7 (4 * s.2.2.2.2.length + 2) (kN kd)) 7 (4 * s.2.2.2.2.length + 3) (kG kd)) 0 14 (nI (s.2.2.2.2.length + 1))) σ5 H5 ⟨⟨?_, d1.2⟩, ⟨d2.1.up XD.refl fun v _ => sA _ (by omega) (by omega), d2.2⟩, fun c' hc' hl' q' u' z' w9 => ?_, fun c' hc' n' hn' hne => ?_, ?_, ?_, fun i r hr => ?_⟩ sA (fun k hk => sI_o hk) rfl rfl ((((e5'.trans e4').trans e3').trans e2').trans e1')
      · exact (sI_o (by decide)).trans d1.1
      · exact (congrFun (sA (2000 + pVa p c') (by omega) (by omega)).2.2.1 q').trans (d4 c' hc' hl' q' u' z' w9)
      · exact (congrFun (sA (2000 + pLo p c') (by omega) (by omega)).2.2.1 n').trans (d5 c' hc' n' hn' hne)
      · rw [sI_s]
        show _ = nI (s.2.2.2.2 ++ [(nI c, n, t.2.1, t.2.2)]).length
        rw [List.length_append]
        rfl
      · show (s.2.2.2.2 ++ [(nI c, n, t.2.1, t.2.2)]).length ≤ 50
        rw [List.length_append]
        show s.2.2.2.2.length + 1 ≤ 50
        omega
      · have hr' : (s.2.2.2.2 ++ [(nI c, n, t.2.1, t.2.2)])[i]? = some r := hr
        rcases getApp hr' with ⟨w1, w2⟩ | ⟨w1, w2⟩
        · obtain ⟨m1, m2, m3, m4⟩ := d6.2.2 i r w2
          unfold rnA
          refine ⟨?_, ?_, ?_, ?_⟩
          · rw [hA7, if_neg (by omega), if_neg (by omega), if_neg (by omega), if_neg (by omega)]; exact m1
          · rw [hA7, if_neg (by omega), if_neg (by omega), if_neg (by omega), if_neg (by omega)]; exact m2
          · rw [hA7, if_neg (by omega), if_neg (by omega), if_neg (by omega), if_neg (by omega)]; exact m3
          · rw [hA7, if_neg (by omega), if_neg (by omega), if_neg (by omega), if_neg (by omega)]; exact m4
        · subst w1
          rw [w2]
          unfold rnA
          refine ⟨?_, ?_, ?_, ?_⟩
          · rw [hA7, if_neg (by omega), if_neg (by omega), if_neg (by omega), if_pos rfl]
          · rw [hA7, if_neg (by omega), if_neg (by omega), if_pos rfl]; exact hxn
          · rw [hA7, if_neg (by omega), if_pos rfl, e1]
          · rw [hA7, if_pos rfl, e1]
    · have hlt : ¬ s.2.2.2.2.length < 50 := fun h9 => by
        have := (nI_eq (a := s.2.2.2.2.length) (b := 50) (by omega) (by decide)).mp heq
        omega
      rw [if_neg (fun h9 => hlt h9.2)] at hQ
      exact hQ ξ σ H ⟨d1, d2, d4, d5, d6⟩ (fun _ _ _ => sc.refl) (fun _ _ => rfl) rfl rfl rfl
end
/-! fuel only goes down -/
theorem wrv_fuel {C : Ctx} {s s' : RSt} {c : Nat} {n v : Int32} (h : wrv C s c n v = some s') : s'.1 = s.1 := by
  unfold wrv at h
  cases hf : fUp s.2.1 (C.2.2.1 c) n with
  | some u => rw [hf] at h; cases h; rfl
  | none =>
    rw [hf] at h
    cases hs : sUp s.2.1 (C.2.2.1 c) n with
    | some u =>
      rw [hs] at h
      cases h
      rfl
    | none =>
      rw [hs] at h
      by_cases h9 : C.2.2.2.1 (ixV c n) = 0
      · rw [if_pos h9] at h; cases h
      · rw [if_neg h9] at h; cases h; rfl
theorem noteR_fuel {C : Ctx} {s : RSt} {c : Nat} {n : Int32} {t : Term × Int32 × Int32} : (noteR C s c n t).1 = s.1 := by
  unfold noteR
  split <;> rfl
theorem goB_fuel {last : Int32} {k : Int32 → RSt → RO} {r : RO} {m : Nat} (hr : r.2.2.1 ≤ m) (hk : ∀ x s, s.1 ≤ m → (k x s).2.2.1 ≤ m) : (goB last k r).2.2.1 ≤ m := by
  obtain ⟨⟨o, x, b⟩, l, s⟩ := r
  unfold goB
  split
  · rename_i h
    cases h
    exact hk _ _ hr
  · rename_i h
    cases h
    exact hk _ _ hr
  · rename_i h
    cases h
    exact hr
theorem goI_fuel {k : Int32 → RSt → RO} {r : RO} {m : Nat} (hr : r.2.2.1 ≤ m) (hk : ∀ x s, s.1 ≤ m → (k x s).2.2.1 ≤ m) : (goI k r).2.2.1 ≤ m := by
  obtain ⟨⟨o, x, b⟩, l, s⟩ := r
  unfold goI
  split
  · rename_i h
    cases h
    exact hk _ _ hr
  · exact hr
