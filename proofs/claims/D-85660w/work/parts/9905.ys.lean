set_option maxRecDepth 100000
section
variable {G : am_G} {A : Nat → Nat} {T : Nat → Int32} {n d : Nat}
section
variable {p : Nat} {N : ps_N} {F : am_H} {D : xs_D} {ξ : xs_X} {σ : am_S}
/-- the token at hand is the end, or not -/
theorem XI.t0 (h : XI G A T n p N F D ξ σ) : xI ξ 1 2 = 0 ↔ lxt T p = 0 := by
  rcases h.2.2.1.2.2 with ⟨h1, h2⟩ | ⟨h1, h2, _⟩ | ⟨k, hk, h1, h2, _⟩ | ⟨h1, h2, _⟩ | ⟨h1, h2, _⟩ | ⟨c, hc, h1, h2, _⟩ | ⟨h1, h2⟩
  · rw [h1, h2]
  · rw [h1, h2]
  · rw [h1, h2]
    exact ⟨fun e => absurd e (by decide), fun e => absurd e (tk_ne hk (m := 0) (by omega) (by omega))⟩
  · rw [h1, h2]; decide
  · rw [h1, h2]; decide
  · rw [h1, h2]
    obtain ⟨k, k1, k2, rfl⟩ := sg_c hc
    refine ⟨fun e => absurd e (by decide), fun e => ?_⟩
    rw [show (200 : Int32) = nI 200 from rfl, nI_add] at e
    have := (nI_eq (a := 200 + k) (b := 0) (by omega) (by omega)).mp e
    omega
  · rw [h1]
    refine ⟨fun e => ?_, fun e => absurd e (by decide)⟩
    rcases h2 with h2 | ⟨h2, _⟩
    · rw [h2] at e; exact absurd e (by decide)
    · rw [h2] at e; exact absurd e (by decide)
/-- a new object of a role of its address -/
theorem X_newD (h : XI G A T n p N F D ξ σ) {c N' j m : Nat} (hok : ∀ j, okT (xs_ty c j) = true) (hc : c < 50) (hcr : cr G (m + j) σ) (hN : 1 ≤ j ∧ N' ≤ 4 * j) {ty : Nat → FieldType} (hty : ty = xs_ty c) {K : Nat → am_S → Prop} (hK : ∀ D2 ξ2 σ2 a, XD D D2 → ¬ D.2.2 (2000 + a) → rl D2 (2000 + a) a c → XI G A T n p N F D2 ξ2 σ2 → pf D F ξ F ξ2 → (∀ q, D.2.2 q → sc ξ ξ2 q) → xI ξ2 1 4 = xI ξ 1 4 → xI ξ2 (2000 + a) = (fun _ => 0) → xR ξ2 (2000 + a) = (fun _ => none) → cr G m σ2 → K a σ2) : f_new G σ c N' ty K := by
  have hTD := h.1.2.1
  have hR := h.1.2.2.1
  refine x_new (j := j) (m := m) h.1.1 hTD hok hc hcr hN hty fun D2 ξ2 σ2 i xd td ni ri i20 H2 s2 i2 rr2 c2 hF2 => ?_
  have hi := td.ro ri i20
  subst hi
  exact hK D2 ξ2 σ2 σ.2.1 xd ni ri (h.up H2 FE.refl xd td (h.s0 s2)) ⟨FE.refl, fun q hq _ => s2 q hq, fun q _ => congrFun (s2 0 hR.1.1).1 q, (s2 0 hR.1.1).2.1⟩ s2 (congrFun (s2 1 hR.2.1.1).1 4) i2 rr2 c2
end
/-- kinds up to the end of the text -/
theorem X_pond_l (hG : GK G) (hd : 48 ≤ d) {F0 : am_H} {D0 : xs_D} {ξ0 : xs_X} {b l x : Nat} (hT0 : TD D0) (hR0 : RR A D0) (hx : 60 ≤ x) {Q : Option Nat → am_S → Prop} {E : Nat → am_S → Prop} : ∀ (g p : Nat) (N : ps_N) (F : am_H) (D : xs_D) (ξ : xs_X) (σ : am_S) (e : Option Nat) (cap : Nat) (ds : List (Nat × Nat)) (L : List Kd), 1001 ≤ p + g → XI G A T n p N F D ξ σ → XD D0 D → xI ξ 1 4 = nI 0 → pf D0 F0 ξ0 F ξ → PW G F D ξ b l e cap ds L → KW L → (∀ q, pwR b l e ds q → ¬ D0.2.2 q) → cr G (600 * (n + 1 - p) + x) σ → PxQ G A T n F0 D0 ξ0 b l x (ps_pond T g L p N) Q → XFn G A T n F0 D0 ξ0 x (ps_pond T g L p N) E → B_X4_pond_12 G (d + 19) (A 1) (some b) σ Q E
  | 0, p, N, F, D, ξ, σ, e, cap, ds, L, hg, h, hD0, h4, hpf, hW, hK, hno, hcr, hQ, hE => by
    have hn : n ≤ 1000 := h.1.2.2.2.2.1
    have := h.2.2.2
    omega
  | g + 1, p, N, F, D, ξ, σ, e, cap, ds, L, hg, h, hD0, h4, hpf, hW, hK, hno, hcr, hQ, hE => by
    have r1 := h.1.2.2.1.2.1
    have hTD := h.1.2.1
    have hR := h.1.2.2.1
    unfold ps_pond at hQ hE
    refine B_X4_pond_12_f (x_o h.1.1 r1 (by decide) (X_takesWord (d := d + 9) (k := 0) (x := x) h hG (by decide) hcr (fun e1 F1 ξ1 σ1 g1 g2 g3 g4 g5 g6 => y1 ?_) fun e1 => z1 (x_o h.1.1 r1 (by decide) (h.bad (d := d + 17) (x := x) ((hE 1 _ N ?_).pre hpf hD0 hT0 hR0 (Nat.le_refl _)) (hcr.le (by omega))))))
    · have e100 : lxt T p = 100 := e1
      have hkd : ps_kind T L p N = ps_b (ps_name T (lxe T p) N) fun n p1 N1 =>
        if (ixK L (nI n)).isSome = true then ps_f 4 (lxa T (lxe T p)) N1
        else if L.length = 12 then ps_f 5 (lxa T (lxe T p)) N1
        else if lxt T p1 = 101 then ps_b (ps_name T (lxe T p1) N1) fun a p2 N2 => match ixK L (nI a) with
          | none => ps_f 4 (lxa T (lxe T p1)) N2
          | some u => ps_krest T L n (some u) p2 N2
        else ps_krest T L n none p1 N1 := by
        unfold ps_kind
        rw [if_pos e100]
        rfl
      rw [hkd] at hQ hE
      refine x_o g1.1.1 g1.1.2.2.1.2.1 (by decide) (X_name (d := d + 14) (x := x) g1 hG (g6.le (by omega)) (fun nm p' N1 e2 e3 e4 hnm F2 ξ2 σ2 j1 j2 j3 j4 j5 => ?_) fun kd q N' e2 => ((hE kd q N' (by rw [e2]; rfl)).pre hpf hD0 hT0 hR0 (Nat.le_refl _)).pre g2 XD.refl hTD hR (Nat.le_refl _))
      subst e4
      rw [e2] at hQ hE
      have pf2 := hpf.trans ((g2.trans j2).less hD0)
      have hW2 := hW.pf (g2.trans j2)
      have c2 := g6.eq j5
      refine X_draft (d := d + 13) j1.1.1 hW2 hK.1 (fun k dd kd f1 f2 f3 f4 => ⟨fun c => absurd c (by simp), fun _ => ?_⟩) fun f1 => ⟨fun _ => ?_, fun c => absurd rfl c⟩
      · refine X_refuse (x := x) j1 ((hE 4 (lxa T (lxe T p)) N1 ?_).pre pf2 hD0 hT0 hR0 (Nat.le_refl _)) (c2.le (by omega))
        show ps_b (if (ixK L (nI nm)).isSome = true then _ else _) _ = _
        rw [f1]
        rfl
      have hQ1 : PxQ G A T n F0 D0 ξ0 b l x (ps_b (if L.length = 12 then ps_f 5 (lxa T (lxe T p)) N1
        else if lxt T (lxe T (lxe T p)) = 101 then ps_b (ps_name T (lxe T (lxe T (lxe T p))) N1) fun a p2 N2 => match ixK L (nI a) with
          | none => ps_f 4 (lxa T (lxe T (lxe T (lxe T p)))) N2
          | some u => ps_krest T L nm (some u) p2 N2
        else ps_krest T L nm none (lxe T (lxe T p)) N1) fun L' p' N' => if lxt T p' = 0 then ps_ok L' p' N' else ps_pond T g L' p' N') Q := by
        have h9 : PxQ G A T n F0 D0 ξ0 b l x (ps_b (if (ixK L (nI nm)).isSome = true then ps_f 4 (lxa T (lxe T p)) N1 else if L.length = 12 then ps_f 5 (lxa T (lxe T p)) N1
          else if lxt T (lxe T (lxe T p)) = 101 then ps_b (ps_name T (lxe T (lxe T (lxe T p))) N1) fun a p2 N2 => match ixK L (nI a) with
            | none => ps_f 4 (lxa T (lxe T (lxe T (lxe T p)))) N2
            | some u => ps_krest T L nm (some u) p2 N2
          else ps_krest T L nm none (lxe T (lxe T p)) N1) fun L' p' N' => if lxt T p' = 0 then ps_ok L' p' N' else ps_pond T g L' p' N') Q := hQ
        rw [f1] at h9
        exact h9
      have hE1 : XFn G A T n F0 D0 ξ0 x (ps_b (if L.length = 12 then ps_f 5 (lxa T (lxe T p)) N1
        else if lxt T (lxe T (lxe T p)) = 101 then ps_b (ps_name T (lxe T (lxe T (lxe T p))) N1) fun a p2 N2 => match ixK L (nI a) with
          | none => ps_f 4 (lxa T (lxe T (lxe T (lxe T p)))) N2
          | some u => ps_krest T L nm (some u) p2 N2
        else ps_krest T L nm none (lxe T (lxe T p)) N1) fun L' p' N' => if lxt T p' = 0 then ps_ok L' p' N' else ps_pond T g L' p' N') E := by
        have h9 : XFn G A T n F0 D0 ξ0 x (ps_b (if (ixK L (nI nm)).isSome = true then ps_f 4 (lxa T (lxe T p)) N1 else if L.length = 12 then ps_f 5 (lxa T (lxe T p)) N1
          else if lxt T (lxe T (lxe T p)) = 101 then ps_b (ps_name T (lxe T (lxe T (lxe T p))) N1) fun a p2 N2 => match ixK L (nI a) with
            | none => ps_f 4 (lxa T (lxe T (lxe T (lxe T p)))) N2
            | some u => ps_krest T L nm (some u) p2 N2
          else ps_krest T L nm none (lxe T (lxe T p)) N1) fun L' p' N' => if lxt T p' = 0 then ps_ok L' p' N' else ps_pond T g L' p' N') E := hE
        rw [f1] at h9
        exact h9
      refine x_o j1.1.1 hW2.1.1 (by decide) (X_rowsSize (d := d + 17) j1.1.1 hW2.1 ?_)
      have hwl : (ds.map (·.1)).length = L.length := by rw [List.length_map, hW.2.1]
      rw [hwl]
      have hcl : (nI L.length = 12 ↔ L.length = 12) := nI_eq (a := L.length) (b := 12) (by have := hK.1; omega) (by omega)
      refine ⟨fun hne => ?_, fun heq => ?_⟩
      · have hl12 : ¬ L.length = 12 := fun e => hne (hcl.mpr e)
        rw [if_neg hl12] at hQ1 hE1
        refine x_o j1.1.1 j1.1.2.2.1.2.1 (by decide) (j1.next (d := d + 10) (x := x) hG (by rw [e3]; decide) (c2.le (by omega)) fun F3 ξ3 σ3 k1 k2 k3 k4 k5 k6 => ?_)
        refine X_newD (j := 4) (m := 600 * (n + 1 - lxe T (lxe T p)) + (x + 586)) k1 ok_8 (by decide) (k6.le (by omega)) (by decide) rfl fun D4 ξ4 σ4 a xd ni ri m1 m2 m3 m4 m5 m6 m7 => ?_
        have pf4 := (pf2.trans (k2.less hD0)).trans (m2.less hD0)
        have hW4 : PW G F3 D4 ξ4 b l e cap ds L := ((hW2.pf k2).pf m2).up FE.refl xd fun _ _ => sc.refl
        have hX44 : xI ξ4 1 4 = nI 0 := m4.trans (k3.trans (j3.trans (g3.trans h4)))
        have hQk : ∀ (ab : Option Nat) (p5 : Nat) (N5 : ps_N), p < p5 → PxQ G A T n F0 D0 ξ0 b l x (ps_b (ps_krest T L nm ab p5 N5) fun L' p' N' => if lxt T p' = 0 then ps_ok L' p' N' else ps_pond T g L' p' N') Q → XFn G A T n F0 D0 ξ0 x (ps_b (ps_krest T L nm ab p5 N5) fun L' p' N' => if lxt T p' = 0 then ps_ok L' p' N' else ps_pond T g L' p' N') E → ∀ D' e' cap' ds', XD D0 D' → (∀ q, pwR b l e' ds' q → ¬ D0.2.2 q) → KmQ G A T n F0 D0 ξ0 D' b l e' cap' ds' p x (ps_krest T L nm ab p5 N5) (fun σ' => f_gi σ' (some (A 1)) [4] 2 (fun v9 => ((¬ v9 = 0 → B_X4_pond_12 G (d + 19) (A 1) (some b) σ' Q E) ∧ (v9 = 0 → Q (some b) σ')))) := fun ab p5 N5 hp5 hq hqE D' e' cap' ds' hD' hno' L' p' N' hres F' ξ' σ' q1 q2 q3 q4 q5 q6 q7 => by
          refine x_gi q1.1.1 q1.1.2.2.1.2.1 (by decide) rfl ⟨fun hne => ?_, fun h0 => ?_⟩
          · have hz : ¬ lxt T p' = 0 := fun e => hne (q1.t0.mpr e)
            rw [hres] at hq hqE
            have hq9 : PxQ G A T n F0 D0 ξ0 b l x (if lxt T p' = 0 then ps_ok L' p' N' else ps_pond T g L' p' N') Q := hq
            have hqE9 : XFn G A T n F0 D0 ξ0 x (if lxt T p' = 0 then ps_ok L' p' N' else ps_pond T g L' p' N') E := hqE
            rw [if_neg hz] at hq9 hqE9
            exact X_pond_l hG hd hT0 hR0 hx g p' N' F' D' ξ' σ' e' cap' ds' L' (by omega) q1 hD' q3 q2 q4 q5 hno' q7 hq9 hqE9
          · have hz : lxt T p' = 0 := q1.t0.mp h0
            rw [hres] at hq
            have hq9 : PxQ G A T n F0 D0 ξ0 b l x (if lxt T p' = 0 then ps_ok L' p' N' else ps_pond T g L' p' N') Q := hq
            rw [if_pos hz] at hq9
            exact hq9 L' p' N' rfl F' D' ξ' σ' e' cap' ds' q1 hD' q2 q4 q5 hno' (q7.le (by omega))
        have hl13 : L.length < 12 := by have := hK.1; omega
        refine x_o m1.1.1 m1.1.2.2.1.2.1 (by decide) (X_under_p (d := d + 8) (x := x) hG m1 (m7.le (by omega)) hW4 hK.1 (fun e101 => ?_) (fun e101 a2 p5 N5 u e5 ha2 hu F5 ξ5 σ5 w1 w2 w3 w4 w5 w6 => ?_) (fun e101 kd q N' e5 => ?_) fun e101 a2 p5 N5 e5 hu => ?_)
        · rw [if_neg e101] at hQ1 hE1
          exact X_krest (p0 := p) hG hd hD0 hT0 hR0 xd ni ri (congrFun m5 10) (congrFun m5 11) (congrFun m5 12) m1 (by omega) hX44 pf4 ((hW2.pf k2).pf m2) hK hl13 hnm f1 hno (ab := none) (fun u hu => by cases hu) rfl hx (m7.le (by omega)) (hQk none _ N1 (by omega) hQ1 hE1) fun kd q N' e2 => hE1 kd q N' (by rw [e2]; rfl)
        · rw [if_pos e101, e5] at hQ1 hE1
          obtain ⟨ku, hku, hkn⟩ := ixf_some hu
          have hq9 : PxQ G A T n F0 D0 ξ0 b l x (ps_b (match ixK L (nI a2) with
            | none => ps_f 4 (lxa T (lxe T (lxe T (lxe T p)))) N5
            | some u => ps_krest T L nm (some u) p5 N5) fun L' p' N' => if lxt T p' = 0 then ps_ok L' p' N' else ps_pond T g L' p' N') Q := hQ1
          have hqE9 : XFn G A T n F0 D0 ξ0 x (ps_b (match ixK L (nI a2) with
            | none => ps_f 4 (lxa T (lxe T (lxe T (lxe T p)))) N5
            | some u => ps_krest T L nm (some u) p5 N5) fun L' p' N' => if lxt T p' = 0 then ps_ok L' p' N' else ps_pond T g L' p' N') E := hE1
          rw [hu] at hq9 hqE9
          have h20 : 2000 + a ∉ [0, 1, 4, 6] := by simp; omega
          have z := (w2.2.1 (2000 + a) ri.1 h20).1
          exact X_krest (p0 := p) hG hd hD0 hT0 hR0 xd ni ri ((congrFun z 10).trans (congrFun m5 10)) ((congrFun z 11).trans (congrFun m5 11)) ((congrFun z 12).trans (congrFun m5 12)) w1 (by omega) (w3.trans hX44) (pf4.trans (w2.less (hD0.trans xd))) (((hW2.pf k2).pf m2).pf (w2.less xd)) hK hl13 hnm f1 hno (ab := some u) (fun u' hu' => by cases hu'; exact (List.getElem?_eq_some_iff.mp hku).1) (by unfold abN; dsimp only; rw [hku]; exact hkn.symm) hx (w6.le (by omega)) (hQk (some u) p5 N5 (by omega) hq9 hqE9) fun kd q N' e2 => hqE9 kd q N' (by show ps_b (ps_krest T L nm (some u) p5 N5) _ = _; rw [e2]; rfl)
        · rw [if_pos e101] at hE1
          exact ((hE1 kd q N' (by rw [e5]; rfl)).pre pf4 (hD0.trans xd) hT0 hR0 (Nat.le_refl _))
        · rw [if_pos e101, e5] at hE1
          refine ((hE1 4 _ N5 ?_).pre pf4 (hD0.trans xd) hT0 hR0 (Nat.le_refl _))
          show ps_b (match ixK L (nI a2) with
            | none => ps_f 4 (lxa T (lxe T (lxe T (lxe T p)))) N5
            | some u => ps_krest T L nm (some u) p5 N5) _ = _
          rw [hu]
          rfl
      · have hl12 : L.length = 12 := hcl.mp heq
        rw [if_pos hl12] at hE1
        exact X_refuse (x := x) j1 ((hE1 5 (lxa T (lxe T p)) N1 rfl).pre pf2 hD0 hT0 hR0 (Nat.le_refl _)) (c2.le (by omega))
    · unfold ps_kind
      rw [if_neg (show ¬ lxt T p = 100 from e1)]
      rfl
end
section
variable {G : am_G} {A : Nat → Nat} {T : Nat → Int32} {n d x : Nat} {N : ps_N} {F : am_H} {D : xs_D} {ξ : xs_X} {σ : am_S}
/-- X reads a pond -/
theorem X_rpond (hG : GK G) (hd : 48 ≤ d) (hB : XB G A T n F D ξ σ) (hN : XNm G F N ξ) (hcr : cr G (600 * (n + 1) + (x + 70)) σ) {Q : Option Nat → am_S → Prop} {E : Nat → am_S → Prop} (hQ : ∀ b l, PxQ G A T n F D ξ b l (x + 60) (ps_pond T 1001 [] 0 N) Q) (hE : XFn G A T n F D ξ (x + 60) (ps_pond T 1001 [] 0 N) E) : W_X4_pond G (d + 19) (A 1) σ Q E := by
  have hR := hB.2.2.1
  refine W_X4_pond_f (x_o hB.1 hR.2.1 (by decide) (X_begins (d := d + 9) (x := x + 70) hG hB hN hcr (by omega) fun F1 ξ1 σ1 g1 g2 g3 g4 => ?_))
  refine X_rowsNew (d := d + 14) (m := 600 * (n + 1 - 0) + (x + 60)) g1.1.1 hG g1.1.2.1 (g4.le (by omega)) fun D2 ξ2 σ2 b l xd td nb nl hbl hRW H2 s2 c2 => ?_
  have g1b : XI G A T n 0 N F1 D2 ξ2 σ2 := g1.up H2 FE.refl xd td (g1.s0 s2)
  refine X_pond_l (x := x + 60) hG hd hB.2.1 hR (by omega) 1001 0 N F1 D2 ξ2 σ2 none 0 [] [] (by omega) g1b xd ((congrFun (s2 1 hR.2.1.1).1 4).trans g3) (g2.trans (pf.own hR s2)) ⟨hRW, rfl, fun k d kd h => by simp at h, fun k k' d d' _ h => by simp at h, fun k d h => by simp at h⟩ ⟨by simp, fun k kd h => by simp at h, fun i j ki kj h => by simp at h, fun k kd h => by simp at h⟩ (fun q hq => ?_) (c2.le (by omega)) (hQ b l) hE
  rcases hq with hr | ⟨k, d, h, _⟩
  · rcases hr with e | e | ⟨a, e, _⟩
    · rw [e]; exact nb
    · rw [e]; exact nl
    · cases e
  · simp at h
end
