set_option maxRecDepth 100000
/-! ===== X: Rows (lists that grow) ===== -/
theorem f_na_nx {G : am_G} {σ : am_S} {τ : Nat} {x : Nat → vp_A} {n : Int32} {K : Nat → am_S → Prop} (h : f_na G σ τ x n (fun a σ1 => σ1.2.1 = σ.2.1 + 1 → K a σ1)) : f_na G σ τ x n K := by
  obtain ⟨N, h1, h2, h3, h4, h5⟩ := h
  exact ⟨N, h1, h2, h3, h4, h5 rfl⟩
theorem f_new_nx {G : am_G} {σ : am_S} {ci N : Nat} {ty : Nat → FieldType} {K : Nat → am_S → Prop} (h : f_new G σ ci N ty (fun a σ1 => σ1.2.1 = σ.2.1 + 1 → K a σ1)) : f_new G σ ci N ty K := ⟨h.1, h.2.1, h.2.2 rfl⟩
theorem TD.ro {D : xs_D} (h : TD D) {i a t : Nat} (hr : rl D i a t) (h2 : 2000 ≤ i) : i = 2000 + a := by
  have h9 := h (i - 2000)
  rw [show 2000 + (i - 2000) = i by omega] at h9
  have := h9 hr.1
  rw [hr.2.1] at this
  omega
abbrev rwC : List Nat := [8, 9, 25, 26, 27, 28, 29, 30]
/-- w may lie in Rows -/
def OKW (F : am_H) (D : xs_D) (w : Nat) : Prop := ∀ D1 ξ1 σ1, XD D D1 → XS F D1 ξ1 σ1 → f_k σ1 (some w) rwC True
theorem OKW.up {F F1 : am_H} {D D1 : xs_D} {w : Nat} (h : OKW F D w) (hF : FE F F1) (hD : XD D D1) : OKW F1 D1 w := fun D2 ξ2 σ2 hx H => by
  refine h D2 ξ2 σ2 (hD.trans hx) ⟨fun a e h9 => H.1 a e (hF a e h9), fun i hi => ⟨(H.2.1 i hi).1, ?_, fun e0 a e h9 => (H.2.1 i hi).2.2 e0 a e (hF a e h9)⟩, H.2.2⟩
  have := (H.2.1 i hi).2.1
  cases h9 : F (D2.1 i) with
  | none => rfl
  | some e => rw [hF _ _ h9] at this; cases this
theorem OKW.z {F : am_H} {D : xs_D} {w c : Nat} {f : Nat → Value} (h : F w = some (.inr (c, f))) (hc : c ∈ rwC) : OKW F D w := fun D1 ξ1 σ1 hx H => z_k H h hc trivial
theorem OKW.r {F : am_H} {D : xs_D} {i w c : Nat} (h : rl D i w c) (hc : c < 50 ∧ c ∈ rwC) : OKW F D w := fun D1 ξ1 σ1 hx H => x_k H (hx _ _ _ h) hc trivial
/-- Rows at b, with its list at l and the elements at e, so many cap of them: ws -/
def RW (G : am_G) (D : xs_D) (ξ : xs_X) (b l : Nat) (e : Option Nat) (cap : Nat) (ws : List Nat) : Prop := rl D (2000 + b) b 7 ∧ rl D (2000 + l) l 33 ∧ xR ξ (2000 + b) 0 = some l ∧ xI ξ (2000 + l) 2 = nI ws.length ∧ ws.length ≤ cap ∧ ws.length ≤ 1100 ∧ cap ≤ 10 + 2 * ws.length ∧ match e with
  | none => cap = 0 ∧ va_rf (xR ξ (2000 + l) 1) = am_st G 1
  | some e => xR ξ (2000 + l) 1 = some e ∧ rl D (2000 + e) e 116 ∧ xN ξ (2000 + e) = cap ∧ 10 ≤ cap ∧ ∀ q w, ws[q]? = some w → xQ ξ (2000 + e) q = some w
/-- the roles of Rows -/
def rwR (b l : Nat) (e : Option Nat) (q : Nat) : Prop := q = 2000 + b ∨ q = 2000 + l ∨ ∃ a, e = some a ∧ q = 2000 + a
theorem RW.up {G : am_G} {D D1 : xs_D} {ξ ξ1 : xs_X} {b l : Nat} {e : Option Nat} {cap : Nat} {ws : List Nat} (h : RW G D ξ b l e cap ws) (hD : XD D D1) (hs : ∀ q, rwR b l e q → sc ξ ξ1 q) : RW G D1 ξ1 b l e cap ws := by
  obtain ⟨a1, a2, a3, a4, a5, a6, a7, a8⟩ := h
  have s1 := hs _ (Or.inl rfl)
  have s2 := hs _ (Or.inr (Or.inl rfl))
  refine ⟨hD _ _ _ a1, hD _ _ _ a2, by rw [s1.2.1]; exact a3, by rw [s2.1]; exact a4, a5, a6, a7, ?_⟩
  cases e with
  | none => exact ⟨a8.1, by rw [s2.2.1]; exact a8.2⟩
  | some e =>
    have s3 := hs _ (Or.inr (Or.inr ⟨e, rfl, rfl⟩))
    exact ⟨by rw [s2.2.1]; exact a8.1, hD _ _ _ a8.2.1, s3.2.2.2.2.trans a8.2.2.1, a8.2.2.2.1, fun q w hq => by rw [s3.2.2.2.1]; exact a8.2.2.2.2 q w hq⟩
theorem sh1 : ∀ k, k < 2300 → nI k >>> (1 &&& 31) = nI (k / 2) := by decide +kernel
section
variable {G : am_G} {d m : Nat} {F : am_H} {D : xs_D} {ξ : xs_X} {σ : am_S}
/-- new Rows -/
theorem X_rowsNew (H : XS F D ξ σ) (hG : GK G) (hT : TD D) (hcr : cr G (m + 2) σ) {K : Nat → am_S → Prop} (h : ∀ D1 ξ1 σ1 b l, XD D D1 → TD D1 → ¬ D.2.2 (2000 + b) → ¬ D.2.2 (2000 + l) → b < l → RW G D1 ξ1 b l none 0 [] → XS F D1 ξ1 σ1 → (∀ q, D.2.2 q → sc ξ ξ1 q) → cr G m σ1 → K b σ1) : f_new G σ 7 1 tyX7 (fun n5 σ6 => W_X7_init G (d + 4) n5 σ6 (fun σ8 => K n5 σ8)) := by
  refine f_new_nx (x_new (c := 7) (j := 1) (m := m + 1) H hT ok_7 (by decide) (hcr.le (by omega)) ⟨by omega, by omega⟩ rfl fun D1 ξ1 σ1 i xd1 td1 ni r1 hi H1 s1 i1 rr1 c1 hF1 nx1 => ?_)
  refine W_X7_init_f (f_new_nx (x_new (c := 33) (j := 1) (m := m) H1 td1 ok_33 (by decide) c1 ⟨by omega, by omega⟩ rfl fun D2 ξ2 σ2 j xd2 td2 nj r2 hj H2 s2 i2 rr2 c2 hF2 nx2 => ?_))
  obtain ⟨t, ht, -⟩ := hG.2.1
  refine W_J14_init_f (d := d + 2) (W_J13_init_f (d := d + 1) (W_J12_init_f (d := d) (x_p H2 r2 (by decide) fun σ3 H3 e3 => ?_)))
  unfold f_str
  rw [ht]
  refine x_pr H3 r2 (by decide) fun σ4 H4 e4 => x_pr H4 (xd2 _ _ _ r1) (by decide) fun σ5 H5 e5 => ?_
  have ei := td1.ro r1 hi
  have ej := td2.ro r2 hj
  subst ei
  subst ej
  have hij : 2000 + σ1.2.1 ≠ 2000 + σ.2.1 := by omega
  refine h D2 _ σ5 σ.2.1 σ1.2.1 (xd1.trans xd2) td2 ni (fun hq => nj (xd1.has hq)) (by omega) ⟨xd2 _ _ _ r1, r2, sR_s, ?_, Nat.le_refl _, by decide, by decide, rfl, ?_⟩ H5 (fun q hq => ?_) (((c2.eq e3).eq e4).eq e5)
  · show xI (xs_sI ξ2 (2000 + σ1.2.1) 0 0) (2000 + σ1.2.1) 2 = _
    rw [sI_o (by decide), i2]
    rfl
  · rw [(sR_sc hij).2.1, sR_s, ht]
    rfl
  · have hqi : q ≠ 2000 + σ.2.1 := fun e => ni (e ▸ hq)
    have hqj : q ≠ 2000 + σ1.2.1 := fun e => nj (e ▸ xd1.has hq)
    exact ((((s1 q hq).trans (s2 q (xd1.has hq))).trans (sI_sc hqj)).trans (sR_sc hqj)).trans (sR_sc hqi)
/-- the element is put behind the last -/
theorem X_rowsPut (H : XS F D ξ σ) {b l e cap w : Nat} {ws : List Nat} (h1 : rl D (2000 + b) b 7) (h2 : rl D (2000 + l) l 33) (h3 : xR ξ (2000 + b) 0 = some l) (h4 : xI ξ (2000 + l) 2 = nI ws.length) (h5 : ws.length < cap) (h6 : ws.length < 1100) (h7 : cap ≤ 12 + 2 * ws.length) (h8 : xR ξ (2000 + l) 1 = some e) (h9 : rl D (2000 + e) e 116) (h10 : xN ξ (2000 + e) = cap) (h11 : 10 ≤ cap) (h12 : ∀ q w, ws[q]? = some w → xQ ξ (2000 + e) q = some w) (hw : OKW F D w) {y : Int32} (hy : y = nI ws.length) {Q : am_S → Prop} (hQ : ∀ ξ' σ', RW G D ξ' b l (some e) cap (ws ++ [w]) → XS F D ξ' σ' → (∀ q, q ≠ 2000 + l → q ≠ 2000 + e → sc ξ ξ' q) → σ'.2 = σ.2 → Q σ') : f_sr σ (some e) 16 [8, 9, 25, 26, 27, 28, 29, 30] y (some w) (fun σ2 => f_p σ2 (some l) [33] 2 (.int (y + 1)) (fun σ3 => Q σ3)) := by
  subst hy
  refine x_sr H h9 (by decide) h10 rfl h5 (by omega) (fun b hb => by cases hb; exact hw D ξ σ XD.refl H) fun σ2 H2 e2 => x_p H2 h2 (by decide) fun σ3 H3 e3 => ?_
  have n1 : 2000 + b ≠ 2000 + l := fun e => absurd (h1.2.2.symm.trans ((congrArg D.2.1 e).trans h2.2.2)) (by decide)
  have n2 : 2000 + b ≠ 2000 + e := fun e => absurd (h1.2.2.symm.trans ((congrArg D.2.1 e).trans h9.2.2)) (by decide)
  have n3 : 2000 + l ≠ 2000 + e := fun e => absurd (h2.2.2.symm.trans ((congrArg D.2.1 e).trans h9.2.2)) (by decide)
  have hl : (ws ++ [w]).length = ws.length + 1 := by simp
  refine hQ (xs_sI (xs_sQ ξ (2000 + e) ws.length (some w)) (2000 + l) 2 (nI ws.length + 1)) σ3 ⟨h1, h2, h3, sI_s.trans ((nI_1 ws.length).trans (by rw [hl])), by omega, by omega, by omega, h8, h9, h10, h11, fun q v hq => ?_⟩ H3 (fun q h1 h2 => (sQ_sc h2).trans (sI_sc h1)) (e3.trans e2)
  show xQ (xs_sQ ξ (2000 + e) ws.length (some w)) (2000 + e) q = some v
  by_cases hqk : q = ws.length
  · subst hqk
    rw [List.getElem?_append_right (Nat.le_refl _), Nat.sub_self] at hq
    cases hq
    exact sQ_s
  · rw [sQ_o hqk]
    have hlt : q < (ws ++ [w]).length := by
      have := List.getElem?_eq_some_iff.mp hq
      exact this.1
    rw [List.getElem?_append_left (by omega)] at hq
    exact h12 q v hq
/-- an element comes -/
theorem X_rowsAdd (H : XS F D ξ σ) (hG : GK G) (hT : TD D) {b l cap w : Nat} {e : Option Nat} {ws : List Nat} (hR : RW G D ξ b l e cap ws) (hlen : ws.length < 1100) (hw : OKW F D w) (hws : ∀ v, v ∈ ws → OKW F D v) (hcr : cr G (m + (ws.length + 5)) σ) {Q : am_S → Prop} (hQ : ∀ D' ξ' σ' e' cap', XD D D' → TD D' → (e' = e ∨ ∃ a, e' = some a ∧ ¬ D.2.2 (2000 + a)) → RW G D' ξ' b l e' cap' (ws ++ [w]) → XS F D' ξ' σ' → (∀ q, D.2.2 q → ¬ rwR b l e q → sc ξ ξ' q) → cr G m σ' → Q σ') : W_X7_add G (d + 8) b (some w) σ Q := by
  obtain ⟨a1, a2, a3, a4, a5, a6, a7, a8⟩ := hR
  have n1 : 2000 + b ≠ 2000 + l := fun e => absurd (a1.2.2.symm.trans ((congrArg D.2.1 e).trans a2.2.2)) (by decide)
  refine W_X7_add_f (x_gr H a1 (by decide) a3 (x_o H a2 (by decide) (W_J14_add_f (x_gi H a2 (by decide) rfl (x_p H a2 (by decide) fun σ1 H1 e1 => ?_)))))
  have s1 : ∀ q, q ≠ 2000 + l → sc ξ (xs_sI ξ (2000 + l) 0 (xI ξ (2000 + l) 0 + 1)) q := fun q hq => sI_sc hq
  have i2 : xI (xs_sI ξ (2000 + l) 0 (xI ξ (2000 + l) 0 + 1)) (2000 + l) 2 = nI ws.length := (sI_o (by decide)).trans a4
  cases e with
  | none =>
    obtain ⟨c0, c1⟩ := a8
    obtain ⟨t, ht, -⟩ := hG.2.1
    have hxt : xR ξ (2000 + l) 1 = some t := by
      rw [ht] at c1
      cases h9 : xR ξ (2000 + l) 1 with
      | none => rw [h9] at c1; cases c1
      | some a => rw [h9] at c1; cases c1; rfl
    have hl0 : ws.length = 0 := by omega
    refine x_gr H1 a2 (by decide) (v := some t) hxt (x_gi H1 a2 (by decide) i2 (x_o H1 a2 (by decide) (W_J14_add_2_f (Or.inr (Or.inr ⟨ht.symm, ⟨fun c => absurd (by rw [hl0]; rfl) c, fun _ => ?_⟩⟩)))))
    refine x_o H1 a2 (by decide) (W_J14_grow_f (x_gi H1 a2 (by decide) i2 (x_o H1 a2 (by decide) (W_J14_grow_2_f (x_gr H1 a2 (by decide) (v := some t) hxt (Or.inr (Or.inr ⟨ht.symm, ⟨fun c => absurd c (by decide), fun _ => x_gr H1 a2 (by decide) (v := some t) hxt ?_⟩⟩)))))))
    unfold f_str
    rw [ht]
    refine ⟨fun _ => W_J7_max_f ?_, fun c => absurd rfl c⟩
    rw [hl0]
    refine ⟨fun c => absurd c (by decide), fun _ => ?_⟩
    refine f_na_nx (x_nar (n := 10) (j := 3) (m := m) H1 hT rfl (by decide) ((hcr.eq e1).le (by omega)) ⟨by omega, by omega, by omega⟩ fun D3 ξ3 σ3 j xd3 td3 nj r3 hj H3 s3 nn3 q3 c3 hF3 nx3 => ?_)
    have ej := td3.ro r3 hj
    subst ej
    have njl : 2000 + l ≠ 2000 + σ1.2.1 := fun e => nj (e ▸ a2.1)
    have njb : 2000 + b ≠ 2000 + σ1.2.1 := fun e => nj (e ▸ a1.1)
    refine x_pr H3 (xd3 _ _ _ a2) (by decide) fun σ4 H4 e4 => ?_
    refine X_rowsPut (G := G) (b := b) (cap := 10) (ws := ws) H4 (xd3 _ _ _ a1) (xd3 _ _ _ a2) ?_ ?_ (by omega) hlen (by omega) sR_s r3 ?_ (by omega) (fun q w hq => ?_) (hw.up FE.refl xd3) (by rw [hl0]) fun ξ' σ' k1 k2 k3 k4 => ?_
    · rw [(sR_sc n1).2.1, (s3 _ a1.1).2.1, (s1 _ n1).2.1]; exact a3
    · show xI ξ3 (2000 + l) 2 = _
      rw [(s3 _ a2.1).1]; exact i2
    · exact nn3
    · rw [List.length_eq_zero_iff.mp hl0] at hq; cases hq
    · refine hQ D3 ξ' σ' (some σ1.2.1) 10 xd3 td3 (Or.inr ⟨_, rfl, nj⟩) k1 k2 (fun q hq hr => ?_) ((c3.eq e4).eq k4)
      have hql : q ≠ 2000 + l := fun e => hr (Or.inr (Or.inl e))
      have hqj : q ≠ 2000 + σ1.2.1 := fun e => nj (e ▸ hq)
      exact (((s1 q hql).trans (s3 q hq)).trans (sR_sc hql)).trans (k3 q hql hqj)
  | some e =>
    obtain ⟨b1, b2, b3, b4, b5⟩ := a8
    have n2 : 2000 + b ≠ 2000 + e := fun e => absurd (a1.2.2.symm.trans ((congrArg D.2.1 e).trans b2.2.2)) (by decide)
    have n3 : 2000 + l ≠ 2000 + e := fun e => absurd (a2.2.2.symm.trans ((congrArg D.2.1 e).trans b2.2.2)) (by decide)
    refine x_gr H1 a2 (by decide) (v := some e) b1 (x_gi H1 a2 (by decide) i2 (x_o H1 a2 (by decide) (W_J14_add_2_f (Or.inl (x_al H1 b2 (n := cap) b3 ⟨fun c => ?_, fun c => ?_⟩)))))
    · have hlt : ws.length < cap := Nat.lt_of_le_of_ne a5 fun e => c (by rw [e])
      refine X_rowsPut (G := G) (b := b) (cap := cap) (ws := ws) H1 a1 a2 a3 i2 hlt hlen (by omega) b1 b2 b3 b4 b5 hw rfl fun ξ' σ' k1 k2 k3 k4 => ?_
      refine hQ D ξ' σ' (some e) cap XD.refl hT (Or.inl rfl) k1 k2 (fun q hq hr => ?_) (((hcr.eq e1).eq k4).le (by omega))
      have hql : q ≠ 2000 + l := fun e => hr (Or.inr (Or.inl e))
      exact (s1 q hql).trans (k3 q hql fun e9 => hr (Or.inr (Or.inr ⟨e, rfl, e9⟩)))
    · have hcl : ws.length = cap := (nI_eq (by omega) (by omega)).mp c
      refine x_o H1 a2 (by decide) (W_J14_grow_f (x_gi H1 a2 (by decide) i2 (x_o H1 a2 (by decide) (W_J14_grow_2_f (x_gr H1 a2 (by decide) (v := some e) b1 (Or.inl (x_al H1 b2 (n := cap) b3 ⟨fun _ => ?_, fun c => absurd ((nI_ltI (show 0 < 2 ^ 31 by decide) (show cap < 2 ^ 31 by omega)).mpr (by omega)) c⟩)))))))
      have e9 : nI ws.length + 1 - nI cap = nI 1 := by
        rw [nI_1, hcl, pk_sub (by omega)]
        congr 1
        omega
      refine B_J14_grow_2_20_f (W_J6_newLength_f (d := d + 2) (W_J7_max_f ?_))
      rw [e9, sh1 cap (by omega)]
      have hadd : nI cap + nI (cap / 2) = nI (cap + cap / 2) := nI_add _ _
      refine ⟨fun _ => ?_, fun c => absurd ((nI_ltI (show 1 < 2 ^ 31 by decide) (show cap / 2 < 2 ^ 31 by omega)).mpr (by omega)) c⟩
      rw [hadd]
      refine ⟨fun c => absurd ((nI_leI (show cap + cap / 2 < 2 ^ 31 by omega) (show 0 < 2 ^ 31 by decide)).mp c) (by omega), fun _ => ⟨fun c => absurd ((nI_ltI (show 2147483639 < 2 ^ 31 by decide) (show cap + cap / 2 < 2 ^ 31 by omega)).mp c) (by omega), fun _ => ?_⟩⟩
      refine x_gr H1 a2 (by decide) (v := some e) b1 (W_J8_copyOf_f (d := d + 2) ?_)
      have hgc : ∀ K : Option Nat → Prop, K (some (am_sk G 23)) → f_gc G σ1 (some e) K := fun K hK => by
        unfold f_gc f_a
        have := H1.arq b2.1 (τ := 16) b2.2.2 (by decide)
        rw [b2.2.1] at this
        dsimp only
        rw [this]
        exact ⟨rfl, hK⟩
      refine hgc _ (W_J8_copyOf_2_f (d := d + 1) ⟨fun c => absurd rfl c, fun _ => ?_⟩)
      refine f_na_nx (x_nar (n := cap + cap / 2) (j := (cap + cap / 2 + 3) / 4) (m := m) H1 hT rfl (by decide) ((hcr.eq e1).le (by omega)) ⟨by omega, by omega, by omega⟩ fun D3 ξ3 σ3 j xd3 td3 nj r3 hj H3 s3 nn3 q3 c3 hF3 nx3 => ?_)
      have ej := td3.ro r3 hj
      subst ej
      have njl : 2000 + l ≠ 2000 + σ1.2.1 := fun e => nj (e ▸ a2.1)
      have njb : 2000 + b ≠ 2000 + σ1.2.1 := fun e => nj (e ▸ a1.1)
      have nje : 2000 + e ≠ 2000 + σ1.2.1 := fun e => nj (e ▸ b2.1)
      refine B_J8_copyOf_2_24_f (x_al H3 (xd3 _ _ _ b2) (n := cap) ((s3 _ b2.1).2.2.2.2.trans b3) (W_J7_min_f ⟨fun c => absurd ((nI_ltI (show cap + cap / 2 < 2 ^ 31 by omega) (show cap < 2 ^ 31 by omega)).mp c) (by omega), fun _ => ?_⟩))
      refine x_cpr (s := 0) (p := 0) (q := cap) H3 (xd3 _ _ _ b2) r3 (by decide) ((s3 _ b2.1).2.2.2.2.trans b3) nn3 rfl rfl rfl (by omega) (by omega) ⟨by omega, by omega⟩ (fun q hq v hv => ?_) fun σ4 H4 e4 => ?_
      · rw [Nat.zero_add, (s3 _ b2.1).2.2.2.1] at hv
        have hq' : q < ws.length := by omega
        have hv' : xQ ξ (2000 + e) q = some v := hv
        rw [b5 q _ (List.getElem?_eq_getElem hq')] at hv'
        cases hv'
        exact hws _ (List.getElem_mem hq') D3 ξ3 σ3 xd3 H3
      have s4 : ∀ q, q ≠ 2000 + σ1.2.1 → sc ξ3 (xs_wQ ξ3 (2000 + σ1.2.1) (va_cpy (xQ ξ3 (2000 + e)) (xQ ξ3 (2000 + σ1.2.1)) 0 0 cap)) q := fun q hq => wQ_sc hq
      refine x_pr H4 (xd3 _ _ _ a2) (by decide) fun σ5 H5 e5 => ?_
      refine X_rowsPut (G := G) (b := b) (cap := cap + cap / 2) (ws := ws) H5 (xd3 _ _ _ a1) (xd3 _ _ _ a2) ?_ ?_ (by omega) hlen (by omega) sR_s r3 ?_ (by omega) (fun q w hq => ?_) (hw.up FE.refl xd3) rfl fun ξ' σ' k1 k2 k3 k4 => ?_
      · rw [(sR_sc n1).2.1, (s4 _ njb).2.1, (s3 _ a1.1).2.1, (s1 _ n1).2.1]; exact a3
      · show xI ξ3 (2000 + l) 2 = _
        rw [(s3 _ a2.1).1]; exact i2
      · exact nn3
      · have hq' : q < ws.length := (List.getElem?_eq_some_iff.mp hq).1
        show xQ (xs_wQ ξ3 (2000 + σ1.2.1) (va_cpy (xQ ξ3 (2000 + e)) (xQ ξ3 (2000 + σ1.2.1)) 0 0 cap)) (2000 + σ1.2.1) q = some w
        rw [wQ_s]
        show (if 0 ≤ q ∧ q < 0 + cap then xQ ξ3 (2000 + e) (0 + (q - 0)) else _) = _
        rw [if_pos ⟨Nat.zero_le _, by omega⟩, show 0 + (q - 0) = q by omega, (s3 _ b2.1).2.2.2.1]
        exact b5 q w hq
      · refine hQ D3 ξ' σ' (some σ1.2.1) (cap + cap / 2) xd3 td3 (Or.inr ⟨_, rfl, nj⟩) k1 k2 (fun q hq hr => ?_) (((c3.eq e4).eq e5).eq k4)
        have hql : q ≠ 2000 + l := fun e => hr (Or.inr (Or.inl e))
        have hqj : q ≠ 2000 + σ1.2.1 := fun e => nj (e ▸ hq)
        exact ((((s1 q hql).trans (s3 q hq)).trans (s4 q hqj)).trans (sR_sc hql)).trans (k3 q hql hqj)
theorem X_rowsSize (H : XS F D ξ σ) {b l cap : Nat} {e : Option Nat} {ws : List Nat} (hR : RW G D ξ b l e cap ws) {Q : Int32 → am_S → Prop} (h : Q (nI ws.length) σ) : W_X7_size G (d + 1) b σ Q := by
  obtain ⟨a1, a2, a3, a4, -⟩ := hR
  exact W_X7_size_f (x_gr H a1 (by decide) a3 (x_o H a2 (by decide) (W_J14_size_f (x_gi H a2 (by decide) a4 h))))
theorem X_rowsGet (H : XS F D ξ σ) {b l cap q w : Nat} {e : Option Nat} {ws : List Nat} (hR : RW G D ξ b l e cap ws) {x : Int32} (hx : x = nI q) (hq : ws[q]? = some w) {Q : Option Nat → am_S → Prop} (h : Q (some w) σ) : W_X7_get G (d + 4) b x σ Q := by
  obtain ⟨a1, a2, a3, a4, a5, a6, a7, a8⟩ := hR
  have hq' : q < ws.length := (List.getElem?_eq_some_iff.mp hq).1
  subst hx
  cases e with
  | none => have := a8.1; omega
  | some e =>
    obtain ⟨b1, b2, b3, b4, b5⟩ := a8
    refine W_X7_get_f (x_gr H a1 (by decide) a3 (x_o H a2 (by decide) (W_J14_get_f (x_gi H a2 (by decide) a4 (W_J15_checkIndex_f (d := d + 1) (W_J10_checkIndex_f (d := d) ⟨fun c => absurd c (nI_pos (by omega)), fun _ => ⟨fun _ => ?_, fun c => absurd ((nI_ltI (show q < 2 ^ 31 by omega) (show ws.length < 2 ^ 31 by omega)).mpr hq') c⟩⟩))))))
    exact x_o H a2 (by decide) (W_J14_elementData_f (x_gr H a2 (by decide) b1 (x_ar H b2 (by decide) b3 rfl (show q < cap by omega) (by omega) (b5 q w hq) h)))
end
