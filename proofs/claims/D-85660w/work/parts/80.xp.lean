set_option maxRecDepth 100000
/-! ===== X's reader: expressions (printed by tools/gen80.py) ===== -/
/-- a reader of expressions: ns is what is open -/
def XSub (G : am_G) (A : Nat → Nat) (T : Nat → Int32) (n : Nat) (W : am_S → (Option Nat → am_S → Prop) → (Nat → am_S → Prop) → Prop) (ns : Int32) (ps : Nat → ps_N → ps_R Term) : Prop := ∀ (p : Nat) (N : ps_N) (F : am_H) (D : xs_D) (ξ : xs_X) (σ : am_S) (x : Nat) (Q : Option Nat → am_S → Prop) (E : Nat → am_S → Prop), XI G A T n p N F D ξ σ → xI ξ 1 4 = ns → 20 ≤ x → cr G (600 * (n + 1 - p) + x) σ → (∀ t p' N', ps p N = ps_ok t p' N' → ∀ F' ξ' σ' v, XI G A T n p' N' F' D ξ' σ' → pf D F ξ F' ξ' → xI ξ' 1 4 = ns → xI ξ' 1 5 = xI ξ 1 5 → p < p' → cr G (600 * (n + 1 - p') + (x + 300)) σ' → xE F' t v → Q (some v) σ') → XFn G A T n F D ξ (x - 20) (ps p N) E → W σ Q E
/-- the links of a chain so far -/
def LK (F : am_H) (ξ : xs_X) (jo js k : Nat) : Prop := ∀ q, q < k → (∀ b, xQ ξ jo q = some b → ∃ t, xE F t b) ∧ ∃ c, c < 128 ∧ xA ξ js q = nI c
theorem LK.up {F F1 : am_H} {ξ ξ1 : xs_X} {jo js k : Nat} (h : LK F ξ jo js k) (hF : FE F F1) (ho : xQ ξ1 jo = xQ ξ jo) (hs : xA ξ1 js = xA ξ js) : LK F1 ξ1 jo js k := fun q hq => by
  rw [ho, hs]
  exact ⟨fun b hb => by
    obtain ⟨t, ht⟩ := (h q hq).1 b hb
    exact ⟨t, xT.mono hF t _ _ _ _ _ ht⟩, (h q hq).2⟩
section
variable {G : am_G} {A : Nat → Nat} {T : Nat → Int32} {n d p : Nat} {N : ps_N} {F : am_H} {D : xs_D} {ξ : xs_X} {σ : am_S}
theorem XI.val (h : XI G A T n p N F D ξ σ) {c : Nat} (hc : 40 ≤ c ∧ c ≤ 125) (ht : lxt T p = nI (200 + c)) : xI ξ 1 3 = nI c := by
  have ne : ∀ m : Nat, m < 2 ^ 31 → m ≠ 200 + c → ¬ lxt T p = nI m := fun m hm hne e => hne ((nI_eq hm (by omega)).mp (e.symm.trans ht))
  rcases h.2.2.1.2.2 with ⟨a, b⟩ | ⟨a, b, -⟩ | ⟨k, a, b, e, -⟩ | ⟨a, b, -⟩ | ⟨a, b, e⟩ | ⟨c', a, b, e, g⟩ | ⟨a, b⟩
  · exact absurd a (ne 0 (by decide) (by omega))
  · exact absurd a (ne 2 (by decide) (by omega))
  · exact absurd b (ne _ (by omega) (by omega))
  · exact absurd a (ne 3 (by decide) (by omega))
  · exact absurd a (ne 201 (by decide) (by omega))
  · obtain ⟨k', g1, g2, g3⟩ := sg_c a
    rw [g3] at b g
    have b' : lxt T p = nI (200 + k') := b.trans (nI_add 200 k')
    have := (nI_eq (show 200 + k' < 2 ^ 31 by omega) (show 200 + c < 2 ^ 31 by omega)).mp (b'.symm.trans ht)
    rw [g]
    congr 1
    omega
  · exact absurd a (ne 1 (by decide) (by omega))
/-- what is asked when a chain of operators is read -/
def ChQ (G : am_G) (A : Nat → Nat) (T : Nat → Int32) (n : Nat) (F0 : am_H) (D : xs_D) (ξ0 : xs_X) (p0 : Nat) (ns : Int32) (x : Nat) (res : ps_R Term) (Q : Option Nat → am_S → Prop) : Prop := ∀ t p' N', res = ps_ok t p' N' → ∀ F' ξ' σ' v, XI G A T n p' N' F' D ξ' σ' → pf D F0 ξ0 F' ξ' → xI ξ' 1 4 = ns → xI ξ' 1 5 = xI ξ0 1 5 → p0 < p' → cr G (600 * (n + 1 - p') + (x + 300)) σ' → xE F' t v → Q (some v) σ'
/-- operators behind the first thing, the chain at r -/
theorem X_product_c (hG : GK G) {ns : Int32} {sub : Nat → ps_N → ps_R Term} (hs : XSub G A T n (fun σ Q E => W_X4_unit G (d + 8) (A 1) σ Q E) ns sub) {F0 : am_H} {ξ0 : xs_X} {p0 x : Nat} {res : ps_R Term} {Q : Option Nat → am_S → Prop} {E : Nat → am_S → Prop} (hTD : TD D) (hR : RR A D) (hQ : ChQ G A T n F0 D ξ0 p0 ns x res Q) (hE : XFn G A T n F0 D ξ0 (x - 20) res E) {fi r i : Nat} (hi : ¬ D.2.2 i) : ∀ (g : Nat) (a : Term) (p : Nat) (N : ps_N) (F : am_H) (D1 : xs_D) (ξ : xs_X) (σ : am_S) (jo js oa sa k l : Nat), 1001 ≤ p + g → p0 < p → 2 * k + p0 < p → XI G A T n p N F D1 ξ σ → XD D D1 → ¬ D.2.2 jo → ¬ D.2.2 js → CN D1 ξ i jo js r oa sa fi k l → 1 ≤ k → LK F ξ jo js k → xT F a true (xQ ξ jo) (xA ξ js) fi k → pf D F0 ξ0 F ξ → xI ξ 1 4 = ns → xI ξ 1 5 = xI ξ0 1 5 → cr G (600 * (n + 1 - p) + (x + 300)) σ → ps_loop T ps_mul sub g a p N = res → B_X4_product_7 G (d + 9) (A 1) (some fi) (some r) σ Q E
  | 0, a, p, N, F, D1, ξ, σ, jo, js, oa, sa, k, l, hg, hp0, hkp, h, hD, hjo, hjs, hc, hk1, hlk, ht, hpf, h4, h5, hcr, hr => by
    have hn : n ≤ 1000 := h.1.2.2.2.2.1
    have := h.2.2.2
    omega
  | g + 1, a, p, N, F, D1, ξ, σ, jo, js, oa, sa, k, l, hg, hp0, hkp, h, hD, hjo, hjs, hc, hk1, hlk, ht, hpf, h4, h5, hcr, hr => by
    have hn : n ≤ 1000 := h.1.2.2.2.2.1
    have hpn := h.2.2.2
    have r1 := h.1.2.2.1.2.1
    have go : ∀ (sg : Nat) (mk9 : Term → Term → Term), (40 ≤ sg ∧ sg ≤ 125) → lxt T p = nI (200 + sg) → ps_mul (lxt T p) = some mk9 → (∀ (F : am_H) (a c : Term) (o : Nat → Option Nat) (s : Nat → Int32) (fi j w : Nat), xT F a true o s fi j → o j = some w → s j = nI sg → xE F c w → xT F (mk9 a c) true o s fi (j + 1)) → B_X4_product_42 G (d + 9) (A 1) (some fi) (some r) σ Q E := fun sg mk9 hsg hl hop hmk => by
      unfold ps_loop at hr
      rw [hop] at hr
      have h0 : ¬ lxt T p = 0 := fun e => by have := (nI_eq (show 200 + sg < 2 ^ 31 by omega) (show 0 < 2 ^ 31 by decide)).mp (hl.symm.trans e); omega
      refine B_X4_product_42_f (x_gi h.1.1 r1 (by decide) (h.val hsg hl) (x_o h.1.1 r1 (by decide) (h.next hG h0 hcr fun F1 ξ1 σ1 g1 g2 g3 g4 g5 g6 => x_o g1.1.1 g1.1.2.2.1.2.1 (by decide) ?_)))
      have hdc : ∀ j, ¬ D.2.2 j → D1.2.2 j → j ∉ [0, 1, 4, 6] := fun j hj _ h9 => hj (by
        have : j = 0 ∨ j = 1 ∨ j = 4 ∨ j = 6 := by simpa using h9
        rcases this with e | e | e | e
        · rw [e]; exact hR.1.1
        · rw [e]; exact hR.2.1.1
        · rw [e]; exact hR.2.2.1.1
        · rw [e]; exact hR.2.2.2.1.1)
      refine hs (lxe T p) N F1 D1 ξ1 σ1 (x + 300 + 590) _ E g1 (g3.trans h4) (by omega) g6 (fun t p' N' h1 F2 ξ2 σ2 v k1 k2 k3 k4 k5 k6 k7 => ?_) fun kd q N' h1 => (hE kd q N' (by rw [← hr, h1]; rfl)).pre (hpf.trans (g2.less hD)) hD hTD hR (by omega)
      have hr2 : ps_loop T ps_mul sub g (mk9 a t) p' N' = res := by rw [← hr, h1]; rfl
      have s1 : ∀ j, ¬ D.2.2 j → D1.2.2 j → sc ξ ξ2 j := fun j hj h9 => (g2.2.1 j h9 (hdc j hj h9)).trans (k2.2.1 j h9 (hdc j hj h9))
      have si := s1 i hi hc.1.1
      have so := s1 jo hjo hc.2.1.1
      have ss := s1 js hjs hc.2.2.1.1
      have hc2 := hc.up XD.refl si so ss
      have hF2 : FE F F2 := g2.1.trans k2.1
      have hlk2 := hlk.up hF2 so.2.2.2.1 ss.2.2.1
      refine x_o k1.1.1 hc2.1 (by decide) (X_chainAdd (d := d + 6) (m := 600 * (n + 1 - p') + (x + 300)) k1.1.1 k1.1.2.1 hc2 (by omega) (fun q hq => (hlk2 q hq).1) (fun q hq => (hlk2 q hq).2) k7 (show sg < 128 by omega) (by_u16 sg (by omega)) (k6.le (by omega)) fun D3 ξ3 σ3 jo' js' oa' sa' l' xd3 td3 e1 e2 H3 c3 hc3 s3 q3 w3 v3 => ?_)
      have hsD : ∀ q, D.2.2 q → sc ξ2 ξ3 q := fun q hq => s3 q (hD.has hq) (fun e => hi (e ▸ hq)) (fun e => hjo (e ▸ hq)) fun e => hjs (e ▸ hq)
      have njo' : ¬ D.2.2 jo' := e1.elim (fun e => e ▸ hjo) fun h hq => h (hD.has hq)
      have njs' : ¬ D.2.2 js' := e2.elim (fun e => e ▸ hjs) fun h hq => h (hD.has hq)
      have h3 : XI G A T n p' N' F2 D3 ξ3 σ3 := k1.up H3 FE.refl xd3 td3 fun j hj => hsD j (by
        rcases hj with e | e | e | e
        · rw [e]; exact hR.1.1
        · rw [e]; exact hR.2.1.1
        · rw [e]; exact hR.2.2.2.1.1
        · rw [e]; exact hR.2.2.2.2.1)
      have hs1 := hsD 1 hR.2.1.1
      refine X_product_c hG hs hTD hR hQ hE hi g (mk9 a t) p' N' F2 D3 ξ3 σ3 jo' js' oa' sa' (k + 1) l' (by omega) (by omega) (by omega) h3 (hD.trans xd3) njo' njs' hc3 (by omega) (fun q hq => ?_) ?_ ((hpf.trans ((g2.trans k2).less hD)).trans ⟨FE.refl, fun q hq _ => hsD q hq, fun q _ => congrFun (hsD 0 hR.1.1).1 q, (hsD 0 hR.1.1).2.1⟩) ((congrFun hs1.1 4).trans k3) (((congrFun hs1.1 5).trans k4).trans (g4.trans h5)) c3 hr2
      · by_cases hqk : q = k
        · rw [hqk]
          refine ⟨fun b hb => ?_, sg, by omega, v3⟩
          rw [w3] at hb
          cases hb
          exact ⟨t, k7⟩
        · have hq9 := q3 q (by omega)
          rw [hq9.1, hq9.2]
          exact hlk2 q (by omega)
      · refine hmk F2 a t _ _ fi k v (xT.ext a (o := xQ ξ2 jo) (s := xA ξ2 js) (fun q hq => q3 q hq) ?_) w3 v3 k7
        rw [so.2.2.2.1, ss.2.2.1]
        exact xT.mono hF2 a _ _ _ _ _ ht
    refine B_X4_product_7_f (x_o h.1.1 r1 (by decide) (X_isSign h (t := 242) (Or.inl ⟨by decide, rfl⟩) ?_))
    by_cases h1 : lxt T p = 242
    · rw [if_pos h1]
      refine y1 ⟨fun _ => go 42 Term.mul (by decide) (h1.trans (by decide)) (by rw [h1]; rfl) fun F a c o s fi j w q1 q2 q3 q4 => Or.inl ⟨rfl, j, w, rfl, q3, q2, q4, q1⟩, fun e => by cases e⟩
    · rw [if_neg h1]
      refine z1 (x_o h.1.1 r1 (by decide) (X_isSign h (t := 247) (Or.inl ⟨by decide, rfl⟩) ?_))
      by_cases h2 : lxt T p = 247
      · rw [if_pos h2]
        refine y2 ⟨fun _ => go 47 Term.div (by decide) (h2.trans (by decide)) (by rw [h2]; rfl) fun F a c o s fi j w q1 q2 q3 q4 => Or.inl ⟨rfl, j, w, rfl, q3, q2, q4, q1⟩, fun e => by cases e⟩
      · rw [if_neg h2]
        refine z2 ⟨fun _ => ?_, fun e => by cases e⟩
        unfold ps_loop at hr
        have hop : ps_mul (lxt T p) = none := by
          unfold ps_mul
          rw [if_neg h1, if_neg h2]
        rw [hop] at hr
        have hl : l < 65536 := by
          have := hc.2.2.2.2.2.2.2.2.2.2.2.2.2.2.1
          omega
        obtain ⟨F', f1, f2, f3⟩ := X_chainDone h.1.1 hD hc hi hjo hjs hk1 hl ht
        have hx := (h.down hD hTD hR).up f2 f1 XD.refl hTD fun j _ => sc.refl
        exact hQ a p N hr.symm F' ξ σ r hx ⟨hpf.1.trans f1, hpf.2⟩ h4 h5 hp0 hcr f3
theorem X_product (hG : GK G) {ns : Int32} {un : Nat → ps_N → ps_R Term} (hs : XSub G A T n (fun σ Q E => W_X4_unit G (d + 8) (A 1) σ Q E) ns un) : XSub G A T n (fun σ Q E => W_X4_product G (d + 9) (A 1) σ Q E) ns (ps_prod T un) := fun p N F D ξ σ x Q E h h4 hx hcr hQ hE => by
  have r1 := h.1.2.2.1.2.1
  refine W_X4_product_f (x_o h.1.1 r1 (by decide) (hs p N F D ξ σ x _ E h h4 hx hcr (fun a p1 N1 h1 F1 ξ1 σ1 fi k1 k2 k3 k4 k5 k6 k7 => ?_) fun kd q N' h1 => hE kd q N' (by unfold ps_prod; rw [h1]; rfl)))
  have hQ1 : ChQ G A T n F D ξ p ns x (ps_loop T ps_mul un 1001 a p1 N1) Q := fun t p' N' h2 => hQ t p' N' (by unfold ps_prod; rw [h1]; exact h2)
  have hE1 : XFn G A T n F D ξ (x - 20) (ps_loop T ps_mul un 1001 a p1 N1) E := fun kd q N' h2 => hE kd q N' (by unfold ps_prod; rw [h1]; exact h2)
  have hTD := h.1.2.1
  have hR := h.1.2.2.1
  have hn : n ≤ 1000 := h.1.2.2.2.2.1
  have hp1n := k1.2.2.2
  have q1 := k1.1.2.2.1.2.1
  -- the first link
  have go : ∀ (sg : Nat) (mk9 : Term → Term → Term), (40 ≤ sg ∧ sg ≤ 125) → lxt T p1 = nI (200 + sg) → ps_mul (lxt T p1) = some mk9 → (∀ (F : am_H) (a c : Term) (o : Nat → Option Nat) (s : Nat → Int32) (fi j w : Nat), xT F a true o s fi j → o j = some w → s j = nI sg → xE F c w → xT F (mk9 a c) true o s fi (j + 1)) → f_new G σ1 16 6 tyX18 (fun n5 σ6 => f_gr σ6 (some (A 1)) [4] 7 (fun v7 => W_X18_init G (d + 8) n5 v7 (some fi) σ6 (fun σ9 => B_X4_product_42 G (d + 9) (A 1) (some fi) (some n5) σ9 Q E))) := fun sg mk9 hsg hl hop hmk => by
    refine X_chainNew (d := d + 6) (m := 600 * (n + 1 - p1) + (x + 290)) k1.1.1 hTD q1 rfl ⟨A 0, k1.1.2.2.2.1.2.2.2.1, k1.1.2.2.1.1⟩ (k6.le (by omega)) fun D1 ξ2 σ2 i jo js r oa sa xd td ni njo njs hc H2 s2 c2 => ?_
    have h2 : XI G A T n p1 N1 F1 D1 ξ2 σ2 := k1.up H2 FE.refl xd td (k1.s0 s2)
    have hr : ps_loop T ps_mul un 1001 a p1 N1 = ps_b (un (lxe T p1) N1) fun b p' N' => ps_loop T ps_mul un 1000 (mk9 a b) p' N' := by
      rw [ps_loop, hop]
    rw [hr] at hQ1 hE1
    have h0 : ¬ lxt T p1 = 0 := fun e => by have := (nI_eq (show 200 + sg < 2 ^ 31 by omega) (show 0 < 2 ^ 31 by decide)).mp (hl.symm.trans e); omega
    have s21 := s2 1 hR.2.1.1
    refine B_X4_product_42_f (x_gi h2.1.1 h2.1.2.2.1.2.1 (by decide) (h2.val hsg hl) (x_o h2.1.1 h2.1.2.2.1.2.1 (by decide) (h2.next hG h0 c2 fun F3 ξ3 σ3 g1 g2 g3 g4 g5 g6 => x_o g1.1.1 g1.1.2.2.1.2.1 (by decide) ?_)))
    have hdc : ∀ j, ¬ D.2.2 j → D1.2.2 j → j ∉ [0, 1, 4, 6] := fun j hj _ h9 => hj (by
      have : j = 0 ∨ j = 1 ∨ j = 4 ∨ j = 6 := by simpa using h9
      rcases this with e | e | e | e
      · rw [e]; exact hR.1.1
      · rw [e]; exact hR.2.1.1
      · rw [e]; exact hR.2.2.1.1
      · rw [e]; exact hR.2.2.2.1.1)
    have pf2 : pf D F ξ F1 ξ2 := k2.trans ⟨FE.refl, fun q hq _ => s2 q hq, fun q _ => congrFun (s2 0 hR.1.1).1 q, (s2 0 hR.1.1).2.1⟩
    refine hs (lxe T p1) N1 F3 D1 ξ3 σ3 (x + 290 + 590) _ E g1 (g3.trans ((congrFun s21.1 4).trans k3)) (by omega) g6 (fun t p' N' e1 F4 ξ4 σ4 v j1 j2 j3 j4 j5 j6 j7 => ?_) fun kd q N' e1 => (hE1 kd q N' (by rw [e1]; rfl)).pre (pf2.trans (g2.less xd)) xd hTD hR (by omega)
    have s4 : ∀ j, ¬ D.2.2 j → D1.2.2 j → sc ξ2 ξ4 j := fun j hj h9 => (g2.2.1 j h9 (hdc j hj h9)).trans (j2.2.1 j h9 (hdc j hj h9))
    have hc4 := hc.up XD.refl (s4 i ni hc.1.1) (s4 jo njo hc.2.1.1) (s4 js njs hc.2.2.1.1)
    refine x_o j1.1.1 hc4.1 (by decide) (X_chainAdd (d := d + 6) (m := 600 * (n + 1 - p') + (x + 300)) j1.1.1 j1.1.2.1 hc4 (by omega) (fun q hq => absurd hq (by omega)) (fun q hq => absurd hq (by omega)) j7 (show sg < 128 by omega) (by_u16 sg (by omega)) (j6.le (by omega)) fun D5 ξ5 σ5 jo' js' oa' sa' l' xd5 td5 e2 e3 H5 c5 hc5 s5 q5 w5 v5 => ?_)
    have hsD : ∀ q, D.2.2 q → sc ξ4 ξ5 q := fun q hq => s5 q (xd.has hq) (fun e => ni (e ▸ hq)) (fun e => njo (e ▸ hq)) fun e => njs (e ▸ hq)
    have njo' : ¬ D.2.2 jo' := e2.elim (fun e => e ▸ njo) fun h hq => h (xd.has hq)
    have njs' : ¬ D.2.2 js' := e3.elim (fun e => e ▸ njs) fun h hq => h (xd.has hq)
    have h5 : XI G A T n p' N' F4 D5 ξ5 σ5 := j1.up H5 FE.refl xd5 td5 fun j hj => hsD j (by
      rcases hj with e | e | e | e
      · rw [e]; exact hR.1.1
      · rw [e]; exact hR.2.1.1
      · rw [e]; exact hR.2.2.2.1.1
      · rw [e]; exact hR.2.2.2.2.1)
    have hs1 := hsD 1 hR.2.1.1
    have hr5 : (ps_b (un (lxe T p1) N1) fun b p' N' => ps_loop T ps_mul un 1000 (mk9 a b) p' N') = ps_loop T ps_mul un 1000 (mk9 a t) p' N' := by rw [e1]; rfl
    rw [hr5] at hQ1 hE1
    refine X_product_c (n := n) hG hs hTD hR hQ1 hE1 ni 1000 (mk9 a t) p' N' F4 D5 ξ5 σ5 jo' js' oa' sa' 1 l' (by omega) (by omega) (by omega) h5 (xd.trans xd5) njo' njs' hc5 (by omega) (fun q hq => ?_) ?_ ((pf2.trans ((g2.trans j2).less xd)).trans ⟨FE.refl, fun q hq _ => hsD q hq, fun q _ => congrFun (hsD 0 hR.1.1).1 q, (hsD 0 hR.1.1).2.1⟩) ((congrFun hs1.1 4).trans j3) (((congrFun hs1.1 5).trans j4).trans (g4.trans ((congrFun s21.1 5).trans k4))) c5 rfl
    · have hq0 : q = 0 := by omega
      rw [hq0]
      refine ⟨fun b hb => ?_, sg, by omega, v5⟩
      rw [w5] at hb
      cases hb
      exact ⟨t, j7⟩
    · exact hmk F4 a t _ _ fi 0 v (xT.start a (xT.mono (g2.1.trans j2.1) a _ _ _ _ _ k7)) w5 v5 j7
  refine B_X4_product_7_f (x_o k1.1.1 q1 (by decide) (X_isSign k1 (t := 242) (Or.inl ⟨by decide, rfl⟩) ?_))
  by_cases h1' : lxt T p1 = 242
  · rw [if_pos h1']
    exact y1 ⟨fun e => absurd rfl e, fun _ => go 42 Term.mul (by decide) (h1'.trans (by decide)) (by rw [h1']; rfl) fun F a c o s fi j w q1 q2 q3 q4 => Or.inl ⟨rfl, j, w, rfl, q3, q2, q4, q1⟩⟩
  · rw [if_neg h1']
    refine z1 (x_o k1.1.1 q1 (by decide) (X_isSign k1 (t := 247) (Or.inl ⟨by decide, rfl⟩) ?_))
    by_cases h2' : lxt T p1 = 247
    · rw [if_pos h2']
      exact y2 ⟨fun e => absurd rfl e, fun _ => go 47 Term.div (by decide) (h2'.trans (by decide)) (by rw [h2']; rfl) fun F a c o s fi j w q1 q2 q3 q4 => Or.inl ⟨rfl, j, w, rfl, q3, q2, q4, q1⟩⟩
    · rw [if_neg h2']
      refine z2 ⟨fun e => absurd rfl e, fun _ => ?_⟩
      have hop : ps_mul (lxt T p1) = none := by
        unfold ps_mul
        rw [if_neg h1', if_neg h2']
      have hr : ps_loop T ps_mul un 1001 a p1 N1 = ps_ok a p1 N1 := by
        rw [ps_loop, hop]
      exact hQ1 a p1 N1 hr F1 ξ1 σ1 fi k1 k2 k3 k4 k5 k6 k7
/-- operators behind the first thing, the chain at r -/
theorem X_sum_c (hG : GK G) {ns : Int32} {sub : Nat → ps_N → ps_R Term} (hs : XSub G A T n (fun σ Q E => W_X4_product G (d + 8) (A 1) σ Q E) ns sub) {F0 : am_H} {ξ0 : xs_X} {p0 x : Nat} {res : ps_R Term} {Q : Option Nat → am_S → Prop} {E : Nat → am_S → Prop} (hTD : TD D) (hR : RR A D) (hQ : ChQ G A T n F0 D ξ0 p0 ns x res Q) (hE : XFn G A T n F0 D ξ0 (x - 20) res E) {fi r i : Nat} (hi : ¬ D.2.2 i) : ∀ (g : Nat) (a : Term) (p : Nat) (N : ps_N) (F : am_H) (D1 : xs_D) (ξ : xs_X) (σ : am_S) (jo js oa sa k l : Nat), 1001 ≤ p + g → p0 < p → 2 * k + p0 < p → XI G A T n p N F D1 ξ σ → XD D D1 → ¬ D.2.2 jo → ¬ D.2.2 js → CN D1 ξ i jo js r oa sa fi k l → 1 ≤ k → LK F ξ jo js k → xT F a true (xQ ξ jo) (xA ξ js) fi k → pf D F0 ξ0 F ξ → xI ξ 1 4 = ns → xI ξ 1 5 = xI ξ0 1 5 → cr G (600 * (n + 1 - p) + (x + 300)) σ → ps_loop T ps_add sub g a p N = res → B_X4_sum_7 G (d + 9) (A 1) (some fi) (some r) σ Q E
  | 0, a, p, N, F, D1, ξ, σ, jo, js, oa, sa, k, l, hg, hp0, hkp, h, hD, hjo, hjs, hc, hk1, hlk, ht, hpf, h4, h5, hcr, hr => by
    have hn : n ≤ 1000 := h.1.2.2.2.2.1
    have := h.2.2.2
    omega
  | g + 1, a, p, N, F, D1, ξ, σ, jo, js, oa, sa, k, l, hg, hp0, hkp, h, hD, hjo, hjs, hc, hk1, hlk, ht, hpf, h4, h5, hcr, hr => by
    have hn : n ≤ 1000 := h.1.2.2.2.2.1
    have hpn := h.2.2.2
    have r1 := h.1.2.2.1.2.1
    have go : ∀ (sg : Nat) (mk9 : Term → Term → Term), (40 ≤ sg ∧ sg ≤ 125) → lxt T p = nI (200 + sg) → ps_add (lxt T p) = some mk9 → (∀ (F : am_H) (a c : Term) (o : Nat → Option Nat) (s : Nat → Int32) (fi j w : Nat), xT F a true o s fi j → o j = some w → s j = nI sg → xE F c w → xT F (mk9 a c) true o s fi (j + 1)) → B_X4_sum_42 G (d + 9) (A 1) (some fi) (some r) σ Q E := fun sg mk9 hsg hl hop hmk => by
      unfold ps_loop at hr
      rw [hop] at hr
      have h0 : ¬ lxt T p = 0 := fun e => by have := (nI_eq (show 200 + sg < 2 ^ 31 by omega) (show 0 < 2 ^ 31 by decide)).mp (hl.symm.trans e); omega
      refine B_X4_sum_42_f (x_gi h.1.1 r1 (by decide) (h.val hsg hl) (x_o h.1.1 r1 (by decide) (h.next hG h0 hcr fun F1 ξ1 σ1 g1 g2 g3 g4 g5 g6 => x_o g1.1.1 g1.1.2.2.1.2.1 (by decide) ?_)))
      have hdc : ∀ j, ¬ D.2.2 j → D1.2.2 j → j ∉ [0, 1, 4, 6] := fun j hj _ h9 => hj (by
        have : j = 0 ∨ j = 1 ∨ j = 4 ∨ j = 6 := by simpa using h9
        rcases this with e | e | e | e
        · rw [e]; exact hR.1.1
        · rw [e]; exact hR.2.1.1
        · rw [e]; exact hR.2.2.1.1
        · rw [e]; exact hR.2.2.2.1.1)
      refine hs (lxe T p) N F1 D1 ξ1 σ1 (x + 300 + 590) _ E g1 (g3.trans h4) (by omega) g6 (fun t p' N' h1 F2 ξ2 σ2 v k1 k2 k3 k4 k5 k6 k7 => ?_) fun kd q N' h1 => (hE kd q N' (by rw [← hr, h1]; rfl)).pre (hpf.trans (g2.less hD)) hD hTD hR (by omega)
      have hr2 : ps_loop T ps_add sub g (mk9 a t) p' N' = res := by rw [← hr, h1]; rfl
      have s1 : ∀ j, ¬ D.2.2 j → D1.2.2 j → sc ξ ξ2 j := fun j hj h9 => (g2.2.1 j h9 (hdc j hj h9)).trans (k2.2.1 j h9 (hdc j hj h9))
      have si := s1 i hi hc.1.1
      have so := s1 jo hjo hc.2.1.1
      have ss := s1 js hjs hc.2.2.1.1
      have hc2 := hc.up XD.refl si so ss
      have hF2 : FE F F2 := g2.1.trans k2.1
      have hlk2 := hlk.up hF2 so.2.2.2.1 ss.2.2.1
      refine x_o k1.1.1 hc2.1 (by decide) (X_chainAdd (d := d + 6) (m := 600 * (n + 1 - p') + (x + 300)) k1.1.1 k1.1.2.1 hc2 (by omega) (fun q hq => (hlk2 q hq).1) (fun q hq => (hlk2 q hq).2) k7 (show sg < 128 by omega) (by_u16 sg (by omega)) (k6.le (by omega)) fun D3 ξ3 σ3 jo' js' oa' sa' l' xd3 td3 e1 e2 H3 c3 hc3 s3 q3 w3 v3 => ?_)
      have hsD : ∀ q, D.2.2 q → sc ξ2 ξ3 q := fun q hq => s3 q (hD.has hq) (fun e => hi (e ▸ hq)) (fun e => hjo (e ▸ hq)) fun e => hjs (e ▸ hq)
      have njo' : ¬ D.2.2 jo' := e1.elim (fun e => e ▸ hjo) fun h hq => h (hD.has hq)
      have njs' : ¬ D.2.2 js' := e2.elim (fun e => e ▸ hjs) fun h hq => h (hD.has hq)
      have h3 : XI G A T n p' N' F2 D3 ξ3 σ3 := k1.up H3 FE.refl xd3 td3 fun j hj => hsD j (by
        rcases hj with e | e | e | e
        · rw [e]; exact hR.1.1
        · rw [e]; exact hR.2.1.1
        · rw [e]; exact hR.2.2.2.1.1
        · rw [e]; exact hR.2.2.2.2.1)
      have hs1 := hsD 1 hR.2.1.1
      refine X_sum_c hG hs hTD hR hQ hE hi g (mk9 a t) p' N' F2 D3 ξ3 σ3 jo' js' oa' sa' (k + 1) l' (by omega) (by omega) (by omega) h3 (hD.trans xd3) njo' njs' hc3 (by omega) (fun q hq => ?_) ?_ ((hpf.trans ((g2.trans k2).less hD)).trans ⟨FE.refl, fun q hq _ => hsD q hq, fun q _ => congrFun (hsD 0 hR.1.1).1 q, (hsD 0 hR.1.1).2.1⟩) ((congrFun hs1.1 4).trans k3) (((congrFun hs1.1 5).trans k4).trans (g4.trans h5)) c3 hr2
      · by_cases hqk : q = k
        · rw [hqk]
          refine ⟨fun b hb => ?_, sg, by omega, v3⟩
          rw [w3] at hb
          cases hb
          exact ⟨t, k7⟩
        · have hq9 := q3 q (by omega)
          rw [hq9.1, hq9.2]
          exact hlk2 q (by omega)
      · refine hmk F2 a t _ _ fi k v (xT.ext a (o := xQ ξ2 jo) (s := xA ξ2 js) (fun q hq => q3 q hq) ?_) w3 v3 k7
        rw [so.2.2.2.1, ss.2.2.1]
        exact xT.mono hF2 a _ _ _ _ _ ht
    refine B_X4_sum_7_f (x_o h.1.1 r1 (by decide) (X_isSign h (t := 243) (Or.inl ⟨by decide, rfl⟩) ?_))
    by_cases h1 : lxt T p = 243
    · rw [if_pos h1]
      refine y1 ⟨fun _ => go 43 Term.add (by decide) (h1.trans (by decide)) (by rw [h1]; rfl) fun F a c o s fi j w q1 q2 q3 q4 => Or.inl ⟨rfl, j, w, rfl, q3, q2, q4, q1⟩, fun e => by cases e⟩
    · rw [if_neg h1]
      refine z1 (x_o h.1.1 r1 (by decide) (X_isSign h (t := 245) (Or.inl ⟨by decide, rfl⟩) ?_))
      by_cases h2 : lxt T p = 245
      · rw [if_pos h2]
        refine y2 ⟨fun _ => go 45 Term.sub (by decide) (h2.trans (by decide)) (by rw [h2]; rfl) fun F a c o s fi j w q1 q2 q3 q4 => Or.inl ⟨rfl, j, w, rfl, q3, q2, q4, q1⟩, fun e => by cases e⟩
      · rw [if_neg h2]
        refine z2 ⟨fun _ => ?_, fun e => by cases e⟩
        unfold ps_loop at hr
        have hop : ps_add (lxt T p) = none := by
          unfold ps_add
          rw [if_neg h1, if_neg h2]
        rw [hop] at hr
        have hl : l < 65536 := by
          have := hc.2.2.2.2.2.2.2.2.2.2.2.2.2.2.1
          omega
        obtain ⟨F', f1, f2, f3⟩ := X_chainDone h.1.1 hD hc hi hjo hjs hk1 hl ht
        have hx := (h.down hD hTD hR).up f2 f1 XD.refl hTD fun j _ => sc.refl
        exact hQ a p N hr.symm F' ξ σ r hx ⟨hpf.1.trans f1, hpf.2⟩ h4 h5 hp0 hcr f3
theorem X_sum (hG : GK G) {ns : Int32} {un : Nat → ps_N → ps_R Term} (hs : XSub G A T n (fun σ Q E => W_X4_product G (d + 8) (A 1) σ Q E) ns (ps_prod T un)) : XSub G A T n (fun σ Q E => W_X4_sum G (d + 9) (A 1) σ Q E) ns (ps_sum T un) := fun p N F D ξ σ x Q E h h4 hx hcr hQ hE => by
  have r1 := h.1.2.2.1.2.1
  refine W_X4_sum_f (x_o h.1.1 r1 (by decide) (hs p N F D ξ σ x _ E h h4 hx hcr (fun a p1 N1 h1 F1 ξ1 σ1 fi k1 k2 k3 k4 k5 k6 k7 => ?_) fun kd q N' h1 => hE kd q N' (by unfold ps_sum; rw [h1]; rfl)))
  have hQ1 : ChQ G A T n F D ξ p ns x (ps_loop T ps_add (ps_prod T un) 1001 a p1 N1) Q := fun t p' N' h2 => hQ t p' N' (by unfold ps_sum; rw [h1]; exact h2)
  have hE1 : XFn G A T n F D ξ (x - 20) (ps_loop T ps_add (ps_prod T un) 1001 a p1 N1) E := fun kd q N' h2 => hE kd q N' (by unfold ps_sum; rw [h1]; exact h2)
  have hTD := h.1.2.1
  have hR := h.1.2.2.1
  have hn : n ≤ 1000 := h.1.2.2.2.2.1
  have hp1n := k1.2.2.2
  have q1 := k1.1.2.2.1.2.1
  -- the first link
  have go : ∀ (sg : Nat) (mk9 : Term → Term → Term), (40 ≤ sg ∧ sg ≤ 125) → lxt T p1 = nI (200 + sg) → ps_add (lxt T p1) = some mk9 → (∀ (F : am_H) (a c : Term) (o : Nat → Option Nat) (s : Nat → Int32) (fi j w : Nat), xT F a true o s fi j → o j = some w → s j = nI sg → xE F c w → xT F (mk9 a c) true o s fi (j + 1)) → f_new G σ1 16 6 tyX18 (fun n5 σ6 => f_gr σ6 (some (A 1)) [4] 7 (fun v7 => W_X18_init G (d + 8) n5 v7 (some fi) σ6 (fun σ9 => B_X4_sum_42 G (d + 9) (A 1) (some fi) (some n5) σ9 Q E))) := fun sg mk9 hsg hl hop hmk => by
    refine X_chainNew (d := d + 6) (m := 600 * (n + 1 - p1) + (x + 290)) k1.1.1 hTD q1 rfl ⟨A 0, k1.1.2.2.2.1.2.2.2.1, k1.1.2.2.1.1⟩ (k6.le (by omega)) fun D1 ξ2 σ2 i jo js r oa sa xd td ni njo njs hc H2 s2 c2 => ?_
    have h2 : XI G A T n p1 N1 F1 D1 ξ2 σ2 := k1.up H2 FE.refl xd td (k1.s0 s2)
    have hr : ps_loop T ps_add (ps_prod T un) 1001 a p1 N1 = ps_b ((ps_prod T un) (lxe T p1) N1) fun b p' N' => ps_loop T ps_add (ps_prod T un) 1000 (mk9 a b) p' N' := by
      rw [ps_loop, hop]
    rw [hr] at hQ1 hE1
    have h0 : ¬ lxt T p1 = 0 := fun e => by have := (nI_eq (show 200 + sg < 2 ^ 31 by omega) (show 0 < 2 ^ 31 by decide)).mp (hl.symm.trans e); omega
    have s21 := s2 1 hR.2.1.1
    refine B_X4_sum_42_f (x_gi h2.1.1 h2.1.2.2.1.2.1 (by decide) (h2.val hsg hl) (x_o h2.1.1 h2.1.2.2.1.2.1 (by decide) (h2.next hG h0 c2 fun F3 ξ3 σ3 g1 g2 g3 g4 g5 g6 => x_o g1.1.1 g1.1.2.2.1.2.1 (by decide) ?_)))
    have hdc : ∀ j, ¬ D.2.2 j → D1.2.2 j → j ∉ [0, 1, 4, 6] := fun j hj _ h9 => hj (by
      have : j = 0 ∨ j = 1 ∨ j = 4 ∨ j = 6 := by simpa using h9
      rcases this with e | e | e | e
      · rw [e]; exact hR.1.1
      · rw [e]; exact hR.2.1.1
      · rw [e]; exact hR.2.2.1.1
      · rw [e]; exact hR.2.2.2.1.1)
    have pf2 : pf D F ξ F1 ξ2 := k2.trans ⟨FE.refl, fun q hq _ => s2 q hq, fun q _ => congrFun (s2 0 hR.1.1).1 q, (s2 0 hR.1.1).2.1⟩
    refine hs (lxe T p1) N1 F3 D1 ξ3 σ3 (x + 290 + 590) _ E g1 (g3.trans ((congrFun s21.1 4).trans k3)) (by omega) g6 (fun t p' N' e1 F4 ξ4 σ4 v j1 j2 j3 j4 j5 j6 j7 => ?_) fun kd q N' e1 => (hE1 kd q N' (by rw [e1]; rfl)).pre (pf2.trans (g2.less xd)) xd hTD hR (by omega)
    have s4 : ∀ j, ¬ D.2.2 j → D1.2.2 j → sc ξ2 ξ4 j := fun j hj h9 => (g2.2.1 j h9 (hdc j hj h9)).trans (j2.2.1 j h9 (hdc j hj h9))
    have hc4 := hc.up XD.refl (s4 i ni hc.1.1) (s4 jo njo hc.2.1.1) (s4 js njs hc.2.2.1.1)
    refine x_o j1.1.1 hc4.1 (by decide) (X_chainAdd (d := d + 6) (m := 600 * (n + 1 - p') + (x + 300)) j1.1.1 j1.1.2.1 hc4 (by omega) (fun q hq => absurd hq (by omega)) (fun q hq => absurd hq (by omega)) j7 (show sg < 128 by omega) (by_u16 sg (by omega)) (j6.le (by omega)) fun D5 ξ5 σ5 jo' js' oa' sa' l' xd5 td5 e2 e3 H5 c5 hc5 s5 q5 w5 v5 => ?_)
    have hsD : ∀ q, D.2.2 q → sc ξ4 ξ5 q := fun q hq => s5 q (xd.has hq) (fun e => ni (e ▸ hq)) (fun e => njo (e ▸ hq)) fun e => njs (e ▸ hq)
    have njo' : ¬ D.2.2 jo' := e2.elim (fun e => e ▸ njo) fun h hq => h (xd.has hq)
    have njs' : ¬ D.2.2 js' := e3.elim (fun e => e ▸ njs) fun h hq => h (xd.has hq)
    have h5 : XI G A T n p' N' F4 D5 ξ5 σ5 := j1.up H5 FE.refl xd5 td5 fun j hj => hsD j (by
      rcases hj with e | e | e | e
      · rw [e]; exact hR.1.1
      · rw [e]; exact hR.2.1.1
      · rw [e]; exact hR.2.2.2.1.1
      · rw [e]; exact hR.2.2.2.2.1)
    have hs1 := hsD 1 hR.2.1.1
    have hr5 : (ps_b ((ps_prod T un) (lxe T p1) N1) fun b p' N' => ps_loop T ps_add (ps_prod T un) 1000 (mk9 a b) p' N') = ps_loop T ps_add (ps_prod T un) 1000 (mk9 a t) p' N' := by rw [e1]; rfl
    rw [hr5] at hQ1 hE1
    refine X_sum_c (n := n) hG hs hTD hR hQ1 hE1 ni 1000 (mk9 a t) p' N' F4 D5 ξ5 σ5 jo' js' oa' sa' 1 l' (by omega) (by omega) (by omega) h5 (xd.trans xd5) njo' njs' hc5 (by omega) (fun q hq => ?_) ?_ ((pf2.trans ((g2.trans j2).less xd)).trans ⟨FE.refl, fun q hq _ => hsD q hq, fun q _ => congrFun (hsD 0 hR.1.1).1 q, (hsD 0 hR.1.1).2.1⟩) ((congrFun hs1.1 4).trans j3) (((congrFun hs1.1 5).trans j4).trans (g4.trans ((congrFun s21.1 5).trans k4))) c5 rfl
    · have hq0 : q = 0 := by omega
      rw [hq0]
      refine ⟨fun b hb => ?_, sg, by omega, v5⟩
      rw [w5] at hb
      cases hb
      exact ⟨t, j7⟩
    · exact hmk F4 a t _ _ fi 0 v (xT.start a (xT.mono (g2.1.trans j2.1) a _ _ _ _ _ k7)) w5 v5 j7
  refine B_X4_sum_7_f (x_o k1.1.1 q1 (by decide) (X_isSign k1 (t := 243) (Or.inl ⟨by decide, rfl⟩) ?_))
  by_cases h1' : lxt T p1 = 243
  · rw [if_pos h1']
    exact y1 ⟨fun e => absurd rfl e, fun _ => go 43 Term.add (by decide) (h1'.trans (by decide)) (by rw [h1']; rfl) fun F a c o s fi j w q1 q2 q3 q4 => Or.inl ⟨rfl, j, w, rfl, q3, q2, q4, q1⟩⟩
  · rw [if_neg h1']
    refine z1 (x_o k1.1.1 q1 (by decide) (X_isSign k1 (t := 245) (Or.inl ⟨by decide, rfl⟩) ?_))
    by_cases h2' : lxt T p1 = 245
    · rw [if_pos h2']
      exact y2 ⟨fun e => absurd rfl e, fun _ => go 45 Term.sub (by decide) (h2'.trans (by decide)) (by rw [h2']; rfl) fun F a c o s fi j w q1 q2 q3 q4 => Or.inl ⟨rfl, j, w, rfl, q3, q2, q4, q1⟩⟩
    · rw [if_neg h2']
      refine z2 ⟨fun e => absurd rfl e, fun _ => ?_⟩
      have hop : ps_add (lxt T p1) = none := by
        unfold ps_add
        rw [if_neg h1', if_neg h2']
      have hr : ps_loop T ps_add (ps_prod T un) 1001 a p1 N1 = ps_ok a p1 N1 := by
        rw [ps_loop, hop]
      exact hQ1 a p1 N1 hr F1 ξ1 σ1 fi k1 k2 k3 k4 k5 k6 k7
end
