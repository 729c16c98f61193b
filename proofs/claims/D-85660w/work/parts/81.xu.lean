set_option maxRecDepth 100000
/-! ===== X's reader: expressions ===== -/
section
variable {G : am_G} {A : Nat → Nat} {T : Nat → Int32} {n d p : Nat} {N : ps_N} {F : am_H} {D : xs_D} {ξ : xs_X} {σ : am_S}
theorem XI.tok (h : XI G A T n p N F D ξ σ) : (xI ξ 1 2 = 4 ↔ lxt T p = 3) ∧ (xI ξ 1 2 = 2 ↔ lxt T p = 2) ∧ (xI ξ 1 2 = 0 ↔ lxt T p = 0) ∧ (lxt T p = 3 → xI ξ 1 3 = lxv T p) := by
  have ne : ∀ (m q : Nat), m < 2 ^ 31 → q < 2 ^ 31 → m ≠ q → ¬ nI m = nI q := fun m q hm hq h9 e => h9 ((nI_eq hm hq).mp e)
  have fin : ∀ (x2 t : Int32), xI ξ 1 2 = x2 → lxt T p = t → (x2 = 4 ↔ t = 3) → (x2 = 2 ↔ t = 2) → (x2 = 0 ↔ t = 0) → ¬ t = 3 → (xI ξ 1 2 = 4 ↔ lxt T p = 3) ∧ (xI ξ 1 2 = 2 ↔ lxt T p = 2) ∧ (xI ξ 1 2 = 0 ↔ lxt T p = 0) ∧ (lxt T p = 3 → xI ξ 1 3 = lxv T p) := fun x2 t h1 h2 h3 h4 h5 h6 => by
    rw [h1, h2]
    exact ⟨h3, h4, h5, fun e => absurd e h6⟩
  rcases h.2.2.1.2.2 with ⟨a, b⟩ | ⟨a, b, -⟩ | ⟨k, a, b, e, -⟩ | ⟨a, b, g⟩ | ⟨a, b, e⟩ | ⟨c', a, b, e, g⟩ | ⟨a, b⟩
  · exact fin 0 0 b a (by decide) (by decide) (by decide) (by decide)
  · exact fin 2 2 b a (by decide) (by decide) (by decide) (by decide)
  · refine fin 3 _ e b ⟨fun h => absurd h (by decide), fun h => absurd h (ne _ 3 (by omega) (by decide) (by omega))⟩ ⟨fun h => absurd h (by decide), fun h => absurd h (ne _ 2 (by omega) (by decide) (by omega))⟩ ⟨fun h => absurd h (by decide), fun h => absurd h (ne _ 0 (by omega) (by decide) (by omega))⟩ (ne _ 3 (by omega) (by decide) (by omega))
  · rw [a, b, g]
    exact ⟨by decide, by decide, by decide, fun _ => rfl⟩
  · exact fin 5 201 b a (by decide) (by decide) (by decide) (by decide)
  · obtain ⟨k', g1, g2, g3⟩ := sg_c a
    rw [g3] at b
    have b' : lxt T p = nI (200 + k') := b.trans (nI_add 200 k')
    refine fin 5 _ e b' ⟨fun h => absurd h (by decide), fun h => absurd h (ne _ 3 (by omega) (by decide) (by omega))⟩ ⟨fun h => absurd h (by decide), fun h => absurd h (ne _ 2 (by omega) (by decide) (by omega))⟩ ⟨fun h => absurd h (by decide), fun h => absurd h (ne _ 0 (by omega) (by decide) (by omega))⟩ (ne _ 3 (by omega) (by decide) (by omega))
  · rcases b with b | ⟨b, -⟩
    · exact fin 1 1 b a (by decide) (by decide) (by decide) (by decide)
    · exact fin 5 1 b a (by decide) (by decide) (by decide) (by decide)
/-- a new thing is frozen -/
theorem X_frz1 {D1 : xs_D} {i a c : Nat} (H : XS F D1 ξ σ) (hD : XD D D1) (hi : ¬ D.2.2 i) (hr : rl D1 i a c) (ht : ∀ h, rl D1 0 h (D1.2.1 0) → tf (xs_E c i ξ) h) : ∃ F', FE F F' ∧ F' a = some (xs_E c i ξ) ∧ XS F' D ξ σ := by
  obtain ⟨H1, h1⟩ := H.frz hr ht
  exact ⟨_, fzF_FE h1, fzF_s, H1.cong (hD.drop hi)⟩
theorem xE_i {c i k : Nat} (hc : c < 50) (hk : xs_rf c k = false) {v : Int32} (hv : xI ξ i k = v) : ∃ f, xs_E c i ξ = .inr (c, f) ∧ f k = .int v := by
  refine ⟨_, by unfold xs_E; rw [if_pos hc], ?_⟩
  rw [if_neg (by rw [hk]; decide), hv]
theorem xE_r {c i k : Nat} (hc : c < 50) (hk : xs_rf c k = true) {v : Option Nat} (hv : xR ξ i k = v) : ∃ f, xs_E c i ξ = .inr (c, f) ∧ f k = va_rf v := by
  refine ⟨_, by unfold xs_E; rw [if_pos hc], ?_⟩
  rw [if_pos hk, hv]
/-- an expression -/
theorem X_worth (hG : GK G) {ns : Int32} {un : Nat → ps_N → ps_R Term} (hs : XSub G A T n (fun σ Q E => W_X4_sum G (d + 8) (A 1) σ Q E) ns (ps_sum T un)) : XSub G A T n (fun σ Q E => W_X4_worth G (d + 9) (A 1) σ Q E) ns (ps_exp T un) := fun p N F D ξ σ x Q E h h4 hx hcr hQ hE => by
  have r1 := h.1.2.2.1.2.1
  refine W_X4_worth_f (x_o h.1.1 r1 (by decide) (hs p N F D ξ σ x _ E h h4 hx hcr (fun a p1 N1 h1 F1 ξ1 σ1 fi k1 k2 k3 k4 k5 k6 k7 => ?_) fun kd q N' h1 => hE kd q N' (by unfold ps_exp; rw [h1]; rfl)))
  have hTD := h.1.2.1
  have hR := h.1.2.2.1
  have hn : n ≤ 1000 := h.1.2.2.2.2.1
  have hp1n := k1.2.2.2
  have q1 := k1.1.2.2.1.2.1
  have hex : ps_exp T un p N = if lxt T p1 = 260 then ps_b (ps_sum T un (lxe T p1) N1) fun b p2 N2 => ps_ok (Term.elem a b) p2 N2 else if lxt T p1 = 201 then ps_b (ps_sum T un (lxe T p1) N1) fun b p2 N2 => ps_ok (Term.rem a b) p2 N2 else ps_ok a p1 N1 := by
    unfold ps_exp
    rw [h1]
    rfl
  have go : ∀ (sg : Nat) (v8 : Int32) (mk9 : Term → Term → Term), sg < 128 → ¬ lxt T p1 = 0 → xI ξ1 1 3 = v8 → (v8 = 256 → sg = 61) → (¬ v8 = 256 → sg = 60) → ps_exp T un p N = (ps_b (ps_sum T un (lxe T p1) N1) fun b p2 N2 => ps_ok (mk9 a b) p2 N2) → (∀ (F : am_H) (a c : Term) (o : Nat → Option Nat) (s : Nat → Int32) (fi j w : Nat), xT F a true o s fi j → o j = some w → s j = nI sg → xE F c w → xT F (mk9 a c) true o s fi (j + 1)) → B_X4_worth_26 G (d + 9) (A 1) (some fi) σ1 Q E := fun sg v8 mk9 hsg h0 hv8 hv1 hv2 hr hmk => by
    refine B_X4_worth_26_f (X_chainNew (d := d + 6) (m := 600 * (n + 1 - p1) + (x + 290)) k1.1.1 hTD q1 rfl ⟨A 0, k1.1.2.2.2.1.2.2.2.1, k1.1.2.2.1.1⟩ (k6.le (by omega)) fun D1 ξ2 σ2 i jo js r oa sa xd td ni njo njs hc H2 s2 c2 => ?_)
    have h2 : XI G A T n p1 N1 F1 D1 ξ2 σ2 := k1.up H2 FE.refl xd td (k1.s0 s2)
    rw [hr] at hQ hE
    have s21 := s2 1 hR.2.1.1
    have b56 : B_X4_worth_56 G (d + 9) (A 1) (some r) (nI sg) σ2 Q E := by
      refine B_X4_worth_56_f (x_o h2.1.1 h2.1.2.2.1.2.1 (by decide) (h2.next hG h0 c2 fun F3 ξ3 σ3 g1 g2 g3 g4 g5 g6 => x_o g1.1.1 g1.1.2.2.1.2.1 (by decide) ?_))
      have hdc : ∀ j, ¬ D.2.2 j → D1.2.2 j → j ∉ [0, 1, 4, 6] := fun j hj _ h9 => hj (by
        have : j = 0 ∨ j = 1 ∨ j = 4 ∨ j = 6 := by simpa using h9
        rcases this with e | e | e | e
        · rw [e]; exact hR.1.1
        · rw [e]; exact hR.2.1.1
        · rw [e]; exact hR.2.2.1.1
        · rw [e]; exact hR.2.2.2.1.1)
      have pf2 : pf D F ξ F1 ξ2 := k2.trans ⟨FE.refl, fun q hq _ => s2 q hq, fun q _ => congrFun (s2 0 hR.1.1).1 q, (s2 0 hR.1.1).2.1⟩
      refine hs (lxe T p1) N1 F3 D1 ξ3 σ3 (x + 290 + 590) _ E g1 (g3.trans ((congrFun s21.1 4).trans k3)) (by omega) g6 (fun t p' N' e1 F4 ξ4 σ4 v j1 j2 j3 j4 j5 j6 j7 => ?_) fun kd q N' e1 => (hE kd q N' (by rw [e1]; rfl)).pre (pf2.trans (g2.less xd)) xd hTD hR (by omega)
      have s4 : ∀ j, ¬ D.2.2 j → D1.2.2 j → sc ξ2 ξ4 j := fun j hj h9 => (g2.2.1 j h9 (hdc j hj h9)).trans (j2.2.1 j h9 (hdc j hj h9))
      have hc4 := hc.up XD.refl (s4 i ni hc.1.1) (s4 jo njo hc.2.1.1) (s4 js njs hc.2.2.1.1)
      refine x_o j1.1.1 hc4.1 (by decide) (X_chainAdd (d := d + 6) (m := 600 * (n + 1 - p') + (x + 300)) j1.1.1 j1.1.2.1 hc4 (by omega) (fun q hq => absurd hq (by omega)) (fun q hq => absurd hq (by omega)) j7 hsg rfl (j6.le (by omega)) fun D5 ξ5 σ5 jo' js' oa' sa' l' xd5 td5 e2 e3 H5 c5 hc5 s5 q5 w5 v5 => ?_)
      have hsD : ∀ q, D.2.2 q → sc ξ4 ξ5 q := fun q hq => s5 q (xd.has hq) (fun e => ni (e ▸ hq)) (fun e => njo (e ▸ hq)) fun e => njs (e ▸ hq)
      have njo' : ¬ D.2.2 jo' := e2.elim (fun e => e ▸ njo) fun h hq => h (xd.has hq)
      have njs' : ¬ D.2.2 js' := e3.elim (fun e => e ▸ njs) fun h hq => h (xd.has hq)
      have h5 : XI G A T n p' N' F4 D5 ξ5 σ5 := j1.up H5 FE.refl xd5 td5 fun j hj => hsD j (by
        rcases hj with e | e | e | e
        · rw [e]; exact hR.1.1
        · rw [e]; exact hR.2.1.1
        · rw [e]; exact hR.2.2.2.1.1
        · rw [e]; exact hR.2.2.2.2.1)
      have hs1 := hsD 1 hR.2.1.1
      have ht : xT F4 (mk9 a t) true (xQ ξ5 jo') (xA ξ5 js') fi 1 := hmk F4 a t _ _ fi 0 v (xT.start a (xT.mono (g2.1.trans j2.1) a _ _ _ _ _ k7)) w5 v5 j7
      have hl : l' < 65536 := by
        have := hc5.2.2.2.2.2.2.2.2.2.2.2.2.2.2.1
        omega
      obtain ⟨F', f1, f2, f3⟩ := X_chainDone H5 (xd.trans xd5) hc5 ni njo' njs' (Nat.le_refl 1) hl ht
      have hxI := (h5.down (xd.trans xd5) hTD hR).up f2 f1 XD.refl hTD fun j _ => sc.refl
      exact hQ (mk9 a t) p' N' (by rw [e1]; rfl) F' ξ5 σ5 r hxI ((pf2.trans ((g2.trans j2).less xd)).trans ⟨f1, fun q hq _ => hsD q hq, fun q _ => congrFun (hsD 0 hR.1.1).1 q, (hsD 0 hR.1.1).2.1⟩) ((congrFun hs1.1 4).trans j3) (((congrFun hs1.1 5).trans j4).trans (g4.trans ((congrFun s21.1 5).trans k4))) (by omega) c5 f3
    refine x_gi h2.1.1 h2.1.2.2.1.2.1 (by decide) ((congrFun s21.1 3).trans hv8) ⟨fun n256 => ?_, fun c256 => ?_⟩
    · rw [hv2 n256] at b56; exact b56
    · rw [hv1 c256] at b56; exact b56
  refine x_o k1.1.1 q1 (by decide) (X_isSign k1 (t := 260) (Or.inl ⟨by decide, rfl⟩) ?_)
  by_cases h60 : lxt T p1 = 260
  · rw [if_pos h60]
    rw [if_pos h60] at hex
    exact y1 (go 60 60 Term.elem (by decide) (by rw [h60]; decide) (k1.val (c := 60) (by decide) h60) (fun e => absurd e (by decide)) (fun _ => rfl) hex fun F a c o s fi j w q1 q2 q3 q4 => Or.inl ⟨rfl, j, w, rfl, q3, q2, q4, q1⟩)
  · rw [if_neg h60]
    rw [if_neg h60] at hex
    refine z1 (x_o k1.1.1 q1 (by decide) (X_isSign k1 (t := 201) (Or.inr ⟨rfl, rfl⟩) ?_))
    by_cases h201 : lxt T p1 = 201
    · rw [if_pos h201]
      rw [if_pos h201] at hex
      have hv : xI ξ1 1 3 = 256 := by
        rcases k1.2.2.1.2.2 with ⟨a, b⟩ | ⟨a, b, -⟩ | ⟨k, a, b, e, -⟩ | ⟨a, b, g⟩ | ⟨a, b, e⟩ | ⟨c', a, b, e, g⟩ | ⟨a, b⟩
        · exact absurd (a.symm.trans h201) (by decide)
        · exact absurd (a.symm.trans h201) (by decide)
        · have := (nI_eq (show 100 + k < 2 ^ 31 by omega) (show 201 < 2 ^ 31 by decide)).mp (b.symm.trans h201)
          omega
        · exact absurd (a.symm.trans h201) (by decide)
        · exact e
        · obtain ⟨k', g1, g2, g3⟩ := sg_c a
          rw [g3] at b
          have b' : lxt T p1 = nI (200 + k') := b.trans (nI_add 200 k')
          have := (nI_eq (show 200 + k' < 2 ^ 31 by omega) (show 201 < 2 ^ 31 by decide)).mp (b'.symm.trans h201)
          omega
        · exact absurd (a.symm.trans h201) (by decide)
      exact y1 (go 61 256 Term.rem (by decide) (by rw [h201]; decide) hv (fun _ => rfl) (fun e => absurd rfl e) hex fun F a c o s fi j w q1 q2 q3 q4 => Or.inl ⟨rfl, j, w, rfl, q3, q2, q4, q1⟩)
    · rw [if_neg h201]
      rw [if_neg h201] at hex
      exact z1 (hQ a p1 N1 hex F1 ξ1 σ1 fi k1 k2 k3 k4 k5 k6 k7)
end
