set_option maxRecDepth 100000
theorem ixV_n {c m : Nat} {x : Int32} (hx : x = nI m) (hm : m < 40) : ixV c x = 40 * c + m := by unfold ixV; rw [hx, nI_clamp (by omega)]
theorem nI_ne {a b : Nat} (ha : a < 40) (hb : b < 40) (h : ¬ nI a = nI b) : a ≠ b := fun e => h (by rw [e])
section
variable {G : am_G} {A : Nat → Nat} {d : Nat} {F : am_H} {D : xs_D} {ξ : xs_X} {σ : am_S} {C : Ctx} {p : RP} {s : RSt} {E : Nat → am_S → Prop}
/-- an array of values or lost ones is written: what a run leaves -/
theorem RXf.ofA {dd fi i q c : Nat} {y : Int32} (h0 : i ≠ 0) (hc : c < cN C) (hi : i = 2000 + pVa p c ∨ i = 2000 + pLo p c) : RXf D C p dd fi ξ (xs_sA ξ i q y) := ⟨fun r _ hn => sA_sc fun e => hn (Or.inr (Or.inr (Or.inr (Or.inr (Or.inr (Or.inl ⟨c, hc, by rw [e]; exact hi⟩)))))), fun _ _ => rfl, rfl, fun _ => rfl, rfl, fun _ _ _ => rfl⟩
theorem RXf.ofS {dd fi v : Nat} {y : Int32} (hv : v ∈ pFs p) (hf : fi ≠ 2000 + v) : RXf D C p dd fi ξ (xs_sI ξ (2000 + v) 2 y) := ⟨fun r _ hn => sI_sc fun e => hn (Or.inr (Or.inr (Or.inr (Or.inr (Or.inr (Or.inr ⟨v, hv, e⟩)))))), fun k _ => congrFun (sI_sc (show (0 : Nat) ≠ 2000 + v by omega)).1 k, rfl, fun _ => rfl, rfl, fun k _ _ => congrFun (sI_sc hf).1 k⟩
theorem FXo.sA {fs : List Nat} {V : List (Int32 × Int32 × Int32)} {i q : Nat} {y : Int32} (h : FXo D ξ fs V) : FXo D (xs_sA ξ i q y) fs V := h
/-- a name is given a value -/
theorem X_setV (H : XS F D ξ σ) (hS : RXs A F D C p ξ) (hD : RXd D C p ξ s) {c m fi fa dd : Nat} (hf : rl D fi fa 1) (hc : c < cN C) (hl : cL C c = true) (hm : m < 40) {x y : Int32} (hx : x = nI m) {Q : am_S → Prop} (hQ : ∀ s', wrv C s c x y = some s' → ∀ ξ' σ', XS F D ξ' σ' → RXd D C p ξ' s' → RXf D C p dd fi ξ ξ' → xI ξ' fi = xI ξ fi → xI ξ' 0 = xI ξ 0 → σ'.2 = σ.2 → Q σ') (hE : wrv C s c x y = none → FQ A F D ξ σ 1001 E) : W_X34_set G (d + 13) (pCr p c) x y σ Q E := by
  obtain ⟨a1, a2, a3, a4, a5, ⟨hW, hWd⟩, a7, a8⟩ := hS
  obtain ⟨b1, b2, b3, b4, b5⟩ := a7 c hc
  obtain ⟨hk, hn⟩ := b5 hl
  obtain ⟨d1, ⟨d2, d3⟩, d4, d5, d6⟩ := hD
  have hac := hWd.2.1 _ hk
  have hl8 := plc_le hW.F8 12 (some (cK C c))
  obtain ⟨ka, hka⟩ : ∃ ka, (pAs p)[cK C c]? = some ka := ⟨_, List.getElem?_eq_getElem (by rw [hW.1]; exact hk)⟩
  have hr1 : xR ξ (2000 + pCr p c) 1 = some ka := by rw [b1.2.2.2.2, if_pos hl]; exact hka
  obtain ⟨kd, hkd⟩ : ∃ kd, (pLX p)[cK C c]? = some kd := ⟨_, List.getElem?_eq_getElem hk⟩
  obtain ⟨fv, c3, c4, c5, c6, c7, c8, g3, g4, g5, g6, g7, g8, k1, k2⟩ := hW.2 _ kd ka hkd hka
  have huq := (wdI_eqS hWd d3).2.2.1
  have hfU : fUp s.2.1 (cK C c) x = upK (pLX p) (fun kd => (ixF kd x).isSome) 12 (some (cK C c)) := (eqS.upE d3 (fun k kd kd' h1 h2 => by rw [(d3.ix h1 h2 x).1]) 12 _).symm
  have hpl := plI_up (n := x) 12 _ hac
  rw [← hfU] at hpl
  have hix : ixV c x = 40 * c + m := ixV_n hx hm
  refine W_X34_set_f (x_gr H b1.2.1 (by decide) hr1 (z_o H k1 (by decide) (X_place23 (d := d) H hW 12 _ ka (Nat.le_refl _) hac hka ?_)))
  unfold wrv at hQ hE
  cases hp : plI (pLX p) x 12 (some (cK C c)) with
  | some q =>
    rw [hp] at hpl
    obtain ⟨u, z, z1, z2⟩ := plI_get 12 _ hp
    have hql := get_lt z1
    cases hf9 : fUp s.2.1 (cK C c) x with
    | none => rw [hf9] at hpl; cases hpl
    | some u9 =>
      rw [hf9] at hQ
      have hqm : ¬ nI q = -1 := nI_m1 (show q < 2 ^ 31 by omega)
      refine ⟨fun _ => B_X34_set_30_f ⟨fun h9 => absurd h9 hqm, fun _ => x_gr H b1.2.1 (by decide) b2.1 (x_si (n := (plc (pLX p) 12 (some (cK C c))).length) (q := q) H b3.1 (by decide) hn rfl hql (by omega) fun σ1 H1 e1 => ?_)⟩, fun h9 => absurd h9 hqm⟩
      refine hQ _ rfl (xs_sA ξ (2000 + pVa p c) q y) σ1 H1 ⟨d1, ⟨d2.sA, d3⟩, fun c' hc' hl' q' u' z' w1 => ?_, fun c' hc' n' hn' hne => ?_, d6.1, d6.2.1, fun i r hr => ?_⟩ (RXf.ofA (by omega) hc (Or.inl rfl)) rfl rfl e1
      · obtain ⟨nz, nz1, nz2⟩ := plc_nm hWd w1
        have hiz : ixV c' z'.1 = 40 * c' + nz := ixV_n nz2 nz1
        show xA (xs_sA ξ (2000 + pVa p c) q y) (2000 + pVa p c') q' = upd s.2.2.1 (ixV c x) y (ixV c' z'.1)
        rw [hix, hiz]
        by_cases hcc : c' = c
        · subst hcc
          by_cases hqq : q' = q
          · subst hqq
            rw [z1] at w1
            cases w1
            have hmz : nz = m := by
              have : nI nz = nI m := by rw [← nz2, z2, hx]
              exact nI_inj (by omega) (by omega) this
            rw [hmz, sA_s, pk_us]
          · have hmz : nz ≠ m := fun e => by
              have : z.1 = z'.1 := by rw [nz2, z2, hx, e]
              exact hqq (plc_inj hWd hk w1 z1 this.symm)
            rw [sA_o hqq, pk_un (by omega), ← hiz]
            exact d4 c' hc' hl' q' u' z' w1
        · rw [show xA (xs_sA ξ (2000 + pVa p c) q y) (2000 + pVa p c') = xA ξ (2000 + pVa p c') from (sA_sc fun e => hcc ((a8 c' c hc' hc).1 (by omega))).2.2.1, pk_un (by omega), ← hiz]
          exact d4 c' hc' hl' q' u' z' w1
      · rw [show xA (xs_sA ξ (2000 + pVa p c) q y) (2000 + pLo p c') = xA ξ (2000 + pLo p c') from (sA_sc fun e => (a8 c c' hc hc').2.2 (by omega)).2.2.1]
        exact d5 c' hc' n' hn' hne
      · have h7 : xA (xs_sA ξ (2000 + pVa p c) q y) 7 = xA ξ 7 := (sA_sc (by omega)).2.2.1
        unfold rnA
        rw [h7]
        exact d6.2.2 i r hr
  | none =>
    rw [hp] at hpl
    cases hf9 : fUp s.2.1 (cK C c) x with
    | some u9 => rw [hf9] at hpl; cases hpl
    | none =>
      rw [hf9] at hQ hE
      have hQ1 : ∀ s', (match sUp s.2.1 (cK C c) x with | some u => some (s.1, stS s.2.1 u x y, s.2.2) | none => if cH C (ixV c x) = 0 then none else some (s.1, s.2.1, s.2.2.1, upd s.2.2.2.1 (ixV c x) y, s.2.2.2.2)) = some s' → ∀ ξ' σ', XS F D ξ' σ' → RXd D C p ξ' s' → RXf D C p dd fi ξ ξ' → xI ξ' fi = xI ξ fi → xI ξ' 0 = xI ξ 0 → σ'.2 = σ.2 → Q σ' := hQ
      have hE1 : (match sUp s.2.1 (cK C c) x with | some u => some (s.1, stS s.2.1 u x y, s.2.2) | none => if cH C (ixV c x) = 0 then none else some (s.1, s.2.1, s.2.2.1, upd s.2.2.2.1 (ixV c x) y, s.2.2.2.2)) = none → FQ A F D ξ σ 1001 E := hE
      refine ⟨fun h9 => absurd rfl h9, fun _ => x_gr H b1.2.1 (by decide) b1.2.2.2.1 (x_gr H b1.2.1 (by decide) hr1 (x_o H a1.1 (by decide) (W_X0_fixedOf_f (X_fixedOf (d := d + 11) H hW a1.1 a5.1 a5.2.1 d2 a5.2.2.1 12 (some (cK C c)) _ hac hka.symm ?_))))⟩
      have hsu : upK s.2.1 (fun kd => (ixS kd x).isSome) 12 (some (cK C c)) = sUp s.2.1 (cK C c) x := rfl
      rw [fxU_eq d3 huq, hsu]
      cases hs : sUp s.2.1 (cK C c) x with
      | some u =>
        rw [hs] at hQ1
        obtain ⟨ku, u1, u2⟩ := upK_is 12 _ hs
        cases hi : ixS ku x with
        | none => rw [hi] at u2; cases u2
        | some i =>
          obtain ⟨sv, s1, s2⟩ := ixf_some hi
          have hg := fxl_get u1 s1
          obtain ⟨v, hv⟩ : ∃ v, (pFs p)[off s.2.1 u + i]? = some v := ⟨_, List.getElem?_eq_getElem (by rw [d2.1]; exact get_lt hg)⟩
          obtain ⟨w1, w2, w3, w4⟩ := d2.2 _ v _ hv hg
          have e9 : ((some u).bind fun u => (s.2.1[u]?).bind fun ku => (ixS ku x).map (off s.2.1 u + ·)) = some (off s.2.1 u + i) := by
            show (s.2.1[u]?).bind _ = _
            rw [u1]
            show (ixS ku x).map _ = _
            rw [hi]
            rfl
          rw [e9, show ((some (off s.2.1 u + i)).bind fun q => (pFs p)[q]?) = some v from hv]
          refine B_X34_set_30_f ⟨fun _ => ⟨fun h9 => (by cases h9), fun _ => x_p H w1 (by decide) fun σ1 H1 e1 => ?_⟩, fun h9 => absurd rfl h9⟩
          have hvm : v ∈ pFs p := List.mem_of_getElem? hv
          have hfv : fi ≠ 2000 + v := fun e => by
            have := hf.2.2
            rw [e, w1.2.2] at this
            cases this
          have hst : stS s.2.1 u x y = s.2.1.set u (ku.1, kF ku, (kS ku).set i (x, y), kX ku) := stS_of u1 hi
          refine hQ1 _ rfl _ σ1 H1 ⟨?_, ⟨?_, eqS.trans d3 stS_eqS⟩, fun c' hc' hl' q' u' z' w9 => d4 c' hc' hl' q' u' z' w9, fun c' hc' n' hn' hne => d5 c' hc' n' hn' hne, ?_, d6.2.1, d6.2.2⟩ (RXf.ofS hvm hfv) (sI_sc hfv).1 (sI_sc (by omega)).1 e1
          · refine ⟨?_, d1.2⟩
            rw [(sI_sc (show (0 : Nat) ≠ 2000 + v by omega)).1]
            exact d1.1
          · show FXo D (xs_sI ξ (2000 + v) 2 y) (pFs p) (fxl (stS s.2.1 u x y))
            rw [hst, fxl_set u1 (get_lt s1)]
            refine ⟨by rw [List.length_set]; exact d2.1, fun q' v' r h1 h2 => ?_⟩
            rcases set_get h2 with ⟨e1, e2⟩ | ⟨e1, e2⟩
            · subst e1
              rw [hv] at h1
              cases h1
              subst e2
              refine ⟨w1, by rw [sI_o (by decide)]; exact w2, by rw [sI_o (by decide), w3]; exact s2, sI_s⟩
            · obtain ⟨j1, j2, j3, j4⟩ := d2.2 q' v' r h1 e2
              have hvv : 2000 + v' ≠ 2000 + v := fun e => e1 (a5.2.2.2 q' _ v' h1 (by rw [hv]; congr 1; omega))
              rw [(sI_sc hvv).1]
              exact ⟨j1, j2, j3, j4⟩
          · rw [(sI_sc (show (0 : Nat) ≠ 2000 + v by omega)).1]
            exact d6.1
      | none =>
        rw [hs] at hQ1 hE1
        have hQ2 : ∀ s', (if cH C (ixV c x) = 0 then none else some (s.1, s.2.1, s.2.2.1, upd s.2.2.2.1 (ixV c x) y, s.2.2.2.2)) = some s' → ∀ ξ' σ', XS F D ξ' σ' → RXd D C p ξ' s' → RXf D C p dd fi ξ ξ' → xI ξ' fi = xI ξ fi → xI ξ' 0 = xI ξ 0 → σ'.2 = σ.2 → Q σ' := hQ1
        have hE2 : (if cH C (ixV c x) = 0 then (none : Option RSt) else some (s.1, s.2.1, s.2.2.1, upd s.2.2.2.1 (ixV c x) y, s.2.2.2.2)) = none → FQ A F D ξ σ 1001 E := hE1
        rw [hix] at hQ2 hE2
        refine B_X34_set_30_f ⟨fun _ => ⟨fun _ => x_gr H b1.2.1 (by decide) b2.2.2 (x_ai (n := 40) (q := m) H b3.2.2.1 (by decide) b3.2.2.2.2 hx hm (by decide) (b4 m hm) ⟨fun he => x_gr H b1.2.1 (by decide) b1.2.2.2.1 (x_o H a1.1 (by decide) (X_fails H a1.1 a1.2.1 a3.1 (hE2 (if_pos he)))), fun hne => x_gr H b1.2.1 (by decide) b2.2.1 (x_si (n := 40) (q := m) H b3.2.1 (by decide) b3.2.2.2.1 hx hm (by decide) fun σ1 H1 e1 => ?_)⟩), fun h9 => absurd rfl h9⟩, fun h9 => absurd rfl h9⟩
        refine hQ2 _ (if_neg hne) (xs_sA ξ (2000 + pLo p c) m y) σ1 H1 ⟨d1, ⟨d2.sA, d3⟩, fun c' hc' hl' q' u' z' w1 => ?_, fun c' hc' n' hn' hne' => ?_, d6.1, d6.2.1, fun i r hr => ?_⟩ (RXf.ofA (by omega) hc (Or.inr rfl)) rfl rfl e1
        · rw [show xA (xs_sA ξ (2000 + pLo p c) m y) (2000 + pVa p c') = xA ξ (2000 + pVa p c') from (sA_sc fun e => (a8 c' c hc' hc).2.2 (by omega)).2.2.1]
          exact d4 c' hc' hl' q' u' z' w1
        · show xA (xs_sA ξ (2000 + pLo p c) m y) (2000 + pLo p c') n' = upd s.2.2.2.1 (40 * c + m) y (40 * c' + n')
          by_cases hcc : c' = c
          · subst hcc
            by_cases hqq : n' = m
            · subst hqq
              rw [sA_s, pk_us]
            · rw [sA_o hqq, pk_un (by omega)]
              exact d5 c' hc' n' hn' hne'
          · rw [show xA (xs_sA ξ (2000 + pLo p c) m y) (2000 + pLo p c') = xA ξ (2000 + pLo p c') from (sA_sc fun e => hcc ((a8 c' c hc' hc).2.1 (by omega))).2.2.1, pk_un (by omega)]
            exact d5 c' hc' n' hn' hne'
        · have h7 : xA (xs_sA ξ (2000 + pLo p c) m y) 7 = xA ξ 7 := (sA_sc (by omega)).2.2.1
          unfold rnA
          rw [h7]
          exact d6.2.2 i r hr
end
