set_option maxRecDepth 100000
section
variable {G : am_G} {A : Nat → Nat} {T : Nat → Int32} {n d : Nat}
/-- what is asked when a pond is read -/
def PxQ (G : am_G) (A : Nat → Nat) (T : Nat → Int32) (n : Nat) (F0 : am_H) (D0 : xs_D) (ξ0 : xs_X) (b l : Nat) (x : Nat) (res : ps_R (List Kd)) (Q : Option Nat → am_S → Prop) : Prop := ∀ L' p' N', res = ps_ok L' p' N' → ∀ F' D' ξ' σ' e' cap' ds', XI G A T n p' N' F' D' ξ' σ' → XD D0 D' → pf D0 F0 ξ0 F' ξ' → PW G F' D' ξ' b l e' cap' ds' L' → KW L' → (∀ q, pwR b l e' ds' q → ¬ D0.2.2 q) → cr G x σ' → Q (some b) σ'
theorem nI_inj {a b : Nat} (ha : a < 2 ^ 31) (hb : b < 2 ^ 31) (h : nI a = nI b) : a = b := (nI_eq ha hb).mp h
theorem KW.app {L : List Kd} {nm : Nat} {ab : Option Nat} (h : KW L) (hl : L.length < 12) (hn : nm < 40) (hix : ixK L (nI nm) = none) (hab : ∀ u, ab = some u → u < L.length) : KW (L ++ [newK (nI nm) ab]) := by
  obtain ⟨h1, h2, h3, h4⟩ := h
  have hno : ∀ (i : Nat) (ki : Kd), L[i]? = some ki → ¬ kN ki = nI nm := fun i ki hi => ixf_none hix ki (List.mem_of_getElem? hi)
  refine ⟨by rw [List.length_append]; show L.length + 1 ≤ 12; omega, h2.app hab, fun i j ki kj hi hj he => ?_, fun k kd hk => ?_⟩
  · rcases getApp hi with ⟨a1, a2⟩ | ⟨a1, a2⟩
    · rcases getApp hj with ⟨b1, b2⟩ | ⟨b1, b2⟩
      · exact h3 i j ki kj a2 b2 he
      · rw [b2] at he
        exact absurd he (hno i ki a2)
    · rcases getApp hj with ⟨b1, b2⟩ | ⟨b1, b2⟩
      · rw [a2] at he
        exact absurd he.symm (hno j kj b2)
      · omega
  · rcases getApp hk with ⟨a1, a2⟩ | ⟨a1, a2⟩
    · exact h4 k kd a2
    · rw [a2]
      exact nI_m1 (show nm < 2 ^ 31 by omega)
/-- the rest of a kind, its draft's object made -/
theorem X_krest (hG : GK G) (hd : 48 ≤ d) {F0 : am_H} {D0 D D2 : xs_D} {ξ0 : xs_X} {b l cap p0 p x nm a : Nat} {e : Option Nat} {ds : List (Nat × Nat)} {L : List Kd} {N : ps_N} {F : am_H} {ξ : xs_X} {σ : am_S} (hD0 : XD D0 D) (hT0 : TD D0) (hR0 : RR A D0) (xd : XD D D2) (ni : ¬ D.2.2 (2000 + a)) (ri : rl D2 (2000 + a) a 8) (z10 : xI ξ (2000 + a) 10 = 0) (z11 : xI ξ (2000 + a) 11 = 0) (z12 : xI ξ (2000 + a) 12 = 0) (h : XI G A T n p N F D2 ξ σ) (hp0 : p0 < p) (h4 : xI ξ 1 4 = nI 0) (hpf : pf D0 F0 ξ0 F ξ) (hW : PW G F D ξ b l e cap ds L) (hK : KW L) (hl : L.length < 12) (hnm : nm < 40) (hix : ixK L (nI nm) = none) (hno : ∀ q, pwR b l e ds q → ¬ D0.2.2 q) {ab : Option Nat} (hab : ∀ u, ab = some u → u < L.length) {y : Int32} (hy : y = abN L ab) (hx : 60 ≤ x) (hcr : cr G (600 * (n + 1 - p) + (x + 40)) σ) {Q : Option Nat → am_S → Prop} {E : Nat → am_S → Prop} (hQ : ∀ D' e' cap' ds', XD D0 D' → (∀ q, pwR b l e' ds' q → ¬ D0.2.2 q) → KmQ G A T n F0 D0 ξ0 D' b l e' cap' ds' p0 x (ps_krest T L nm ab p N) (fun σ' => f_gi σ' (some (A 1)) [4] 2 (fun v9 => ((¬ v9 = 0 → B_X4_pond_12 G (d + 19) (A 1) (some b) σ' Q E) ∧ (v9 = 0 → Q (some b) σ'))))) (hE : XFn G A T n F0 D0 ξ0 x (ps_krest T L nm ab p N) E) : W_X8_init_2 G (d + 18) a (nI nm) y σ (fun σ28 => f_o σ28 (some b) [7] (fun b' => W_X7_add G (d + 18) b' (some a) σ28 (fun σ32 => f_o σ32 (some (A 1)) [4] (fun b' => W_X4_needs G (d + 18) b' 123 σ32 (fun σ36 => B_X4_pond_104 G (d + 19) (A 1) (some b) (some a) σ36 Q E) E)))) := by
  subst hy
  have hW2 : PW G F D2 ξ b l e cap ds L := hW.up FE.refl xd fun _ _ => sc.refl
  refine X_drInit (d := d + 17) (m := 600 * (n + 1 - p) + (x + 26)) (fm := fmP) (h1 := ab) (kg := 0) (kc := true) (ko := none) h.1.1 h.1.2.1 ri (hcr.le (by omega)) z10 z11 z12 fun D3 ξ3 σ3 c x3 t3 hc hnc hDR H3 s3 k3 n3 c3 => ?_
  have hsD : ∀ q, D.2.2 q → sc ξ ξ3 q := fun q hq => s3 q (xd.has hq) fun e => ni (e ▸ hq)
  have hW3 : PW G F D3 ξ3 b l e cap ds L := hW.up FE.refl (xd.trans x3) fun q hq => hsD q (hW.has hq).1
  have hdr : ∀ q, drR a c q → ¬ D.2.2 q := fun q hq => by
    rcases hq with e | ⟨q1, q2⟩
    · rw [e]; exact ni
    · intro h9
      have := hnc (q - (2000 + c)) (by omega)
      rw [show 2000 + (c + (q - (2000 + c))) = q by omega] at this
      exact this (xd.has h9)
  have hsD0 : ∀ q, D0.2.2 q → sc ξ ξ3 q := fun q hq => hsD q (hD0.has hq)
  have hX3 : XI G A T n p N F D3 ξ3 σ3 := h.up H3 FE.refl x3 t3 fun j hj => hsD0 j (by
    rcases hj with e | e | e | e
    · rw [e]; exact hR0.1.1
    · rw [e]; exact hR0.2.1.1
    · rw [e]; exact hR0.2.2.2.1.1
    · rw [e]; exact hR0.2.2.2.2.1)
  have hlen : (ds.map (·.1)).length = L.length := by rw [List.length_map, hW.2.1]
  refine x_o H3 hW3.1.1 (by decide) (X_rowsAdd (d := d + 10) (m := 600 * (n + 1 - p) + x) H3 hG t3 hW3.1 (by omega) (OKW.r hDR.2.1 (by decide)) (fun v hv => ?_) (c3.le (by omega)) fun D4 ξ4 σ4 e' cap' x4 t4 he R4 H4 s4 c4 => ?_)
  · obtain ⟨dd, hdd, rfl⟩ := List.mem_map.mp hv
    obtain ⟨k, hk⟩ := List.getElem?_of_mem hdd
    have hkl := (List.getElem?_eq_some_iff.mp hk).1
    have := hW.2.1
    have h9 := hW3.2.2.1 k dd _ hk (List.getElem?_eq_getElem (by omega))
    exact OKW.r h9.2.1 (by decide)
  have hW4 : PW G F D4 ξ4 b l e' cap' (ds ++ [(a, c)]) (L ++ [newK (nI nm) ab]) := hW3.app hDR (fun q hq hp => hdr q hq (hW.has hp).1) x4 he R4 s4 hK.2.1 hab
  have s40 : ∀ q, D0.2.2 q → sc ξ3 ξ4 q := fun q hq => s4 q (x3.has (xd.has (hD0.has hq))) fun hr => hno q (Or.inl hr) hq
  have hX4 : XI G A T n p N F D4 ξ4 σ4 := hX3.up H4 FE.refl x4 t4 fun j hj => s40 j (by
    rcases hj with e | e | e | e
    · rw [e]; exact hR0.1.1
    · rw [e]; exact hR0.2.1.1
    · rw [e]; exact hR0.2.2.2.1.1
    · rw [e]; exact hR0.2.2.2.2.1)
  have hD04 : XD D0 D4 := hD0.trans (xd.trans (x3.trans x4))
  have hno4 : ∀ q, pwR b l e' (ds ++ [(a, c)]) q → ¬ D0.2.2 q := fun q hq h9 => by
    rcases hq with hr | ⟨k, dd, h1, h2⟩
    · rcases he with e1 | ⟨t, e1, e2⟩
      · rw [e1] at hr
        exact hno q (Or.inl hr) h9
      · rcases hr with e3 | e3 | ⟨t', e3, e4⟩
        · exact hno q (Or.inl (Or.inl e3)) h9
        · exact hno q (Or.inl (Or.inr (Or.inl e3))) h9
        · rw [e1] at e3
          cases e3
          rw [e4] at h9
          exact e2 (x3.has (xd.has (hD0.has h9)))
    · rcases getApp h1 with ⟨e1, e2⟩ | ⟨e1, e2⟩
      · exact hno q (Or.inr ⟨k, dd, e2, h2⟩) h9
      · rw [e2] at h2
        exact hdr q h2 (hD0.has h9)
  have pf4 := (hpf.trans (pf.own hR0 hsD0)).trans (pf.own hR0 s40)
  have h44 : xI ξ4 1 4 = nI 0 := (congrFun (s40 1 hR0.2.1.1).1 4).trans ((congrFun (hsD0 1 hR0.2.1.1).1 4).trans h4)
  have hQ4 := hQ D4 e' cap' (ds ++ [(a, c)]) hD04 hno4
  unfold ps_krest at hQ4 hE
  refine x_o H4 hX4.1.2.2.1.2.1 (by decide) (X_needs (d := d + 8) (x := x) hX4 hG (c := 123) (by decide) c4 (fun e2 F5 ξ5 σ5 j1 j2 j3 j4 j5 j6 => ?_) fun kd q N3 e2 => (hE kd q N3 (by rw [e2]; rfl)).pre pf4 hD04 hT0 hR0 (Nat.le_refl _))
  rw [e2] at hQ4 hE
  have hk9 : (L ++ [newK (nI nm) ab])[L.length]? = some (newK (nI nm) ab) := by simp
  have hd9 : (ds ++ [(a, c)])[L.length]? = some (a, c) := by rw [← hW.2.1]; simp
  exact X_pmems (p0 := p0) hG hd hd9 hD04 hT0 hR0 (fun q hq => hno4 q (Or.inr ⟨L.length, (a, c), hd9, hq⟩)) 1001 (lxe T p) N F5 ξ5 σ5 (L ++ [newK (nI nm) ab]) (newK (nI nm) ab) (by omega) (by omega) j1 (j3.trans h44) (hW4.pf j2) (hK.app hl hnm hix hab) hk9 (pf4.trans (j2.less hD04)) (j6.le (by omega)) hQ4 hE
end
