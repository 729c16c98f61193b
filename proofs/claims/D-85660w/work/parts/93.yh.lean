set_option maxRecDepth 100000
/-- a member that was read -/
def isMe (F : am_H) (m : Mem) (v : Nat) : Prop := ∃ f, F v = some (.inr (9, f)) ∧ f 0 = .int (nI m.1) ∧ m.1 < 3 ∧ f 1 = .int m.2.1 ∧ (¬ m.1 = 2 → f 2 = .int m.2.2.1) ∧ (m.1 = 2 → ∃ rb, f 3 = va_rf (some rb) ∧ isBk F rb (xL F m.2.2.2))
theorem isMe.mono {F F1 : am_H} {m : Mem} {v : Nat} (h : isMe F m v) (hF : FE F F1) : isMe F1 m v := by
  obtain ⟨f, h1, h2, h3, h4, h5, h6⟩ := h
  exact ⟨f, hF _ _ h1, h2, h3, h4, h5, fun e => by
    obtain ⟨rb, g1, g2⟩ := h6 e
    exact ⟨rb, g1, g2.mono hF fun o j k => xL.mono hF _ o j k⟩⟩
theorem getApp {α : Type} {l : List α} {x f : α} {q : Nat} (h : (l ++ [x])[q]? = some f) : (q < l.length ∧ l[q]? = some f) ∨ (q = l.length ∧ f = x) := by
  have hlt : q < (l ++ [x]).length := (List.getElem?_eq_some_iff.mp h).1
  rw [List.length_append, List.length_singleton] at hlt
  by_cases hq : q < l.length
  · rw [List.getElem?_append_left hq] at h
    exact Or.inl ⟨hq, h⟩
  · have : q = l.length := by omega
    subst this
    rw [List.getElem?_append_right (Nat.le_refl _), Nat.sub_self] at h
    cases h
    exact Or.inr ⟨rfl, rfl⟩
section
variable {G : am_G} {d : Nat} {F : am_H} {D : xs_D} {ξ : xs_X} {σ : am_S} {fm : Int32 × Int32 × Int32 → Int32} {a c : Nat} {ab : Int32} {kd : Kd}
theorem X_drAdd30 (H : XS F D ξ σ) (h : DR F D ξ fm a c ab kd) {n y : Int32} {t : Term} {v s0 rb : Nat} {o : Option Nat} {f : Nat → Value} (hv : F v = some (.inr (9, f))) (h1 : f 1 = .int n) (h3 : f 3 = va_rf (some rb)) (hb : isBk F rb (xL F t)) (ho : ixA kd n = o) (hy : y = oI o) (hs : s0 = o.getD (kX kd).length) (hr : o = none → ¬ (kX kd).length = 8) {Q : am_S → Prop} (hQ : ∀ ξ' σ', DR F D ξ' fm a c ab (kd.1, kF kd, kS kd, match o with
    | some i => (kX kd).set i (n, t)
    | none => kX kd ++ [(n, t)]) → XS F D ξ' σ' → (∀ q, ¬ drR a c q → sc ξ ξ' q) → xI ξ' (2000 + a) 2 = xI ξ (2000 + a) 2 → σ'.2 = σ.2 → Q σ') : B_X8_add_30 G (d + 1) a (some v) y (nI s0) σ Q := by
  obtain ⟨a0, a1, a2, a3, a4, ⟨b1, b2, b3⟩, ⟨c1, c2, c3⟩, d1, d2, d3⟩ := h
  subst hy
  have hs8 : s0 < 8 := by
    cases o with
    | none => have := hr rfl; simp at hs; omega
    | some i => have := ixf_lt ho; simp at hs; omega
  obtain ⟨g5, r5, n5⟩ := a2 5 (by decide)
  obtain ⟨g6, r6, n6⟩ := a2 6 (by decide)
  have hbk := hb
  obtain ⟨fb, ob, kb, lb, obb, hb1, -⟩ := hb
  refine B_X8_add_30_f (x_gr H a1 (by decide) g5 (z_gi H hv (by decide) h1 (x_si (τ := 0) H r5 (by decide) n5 rfl hs8 (by decide) fun σ1 H1 e1 => x_gr H1 a1 (by decide) (v := some (c + 6)) g6 (z_gr H1 hv (by decide) h3 (x_sr (τ := 10) (n := 8) H1 r6 (by decide) n6 rfl hs8 (by decide) (fun b hb9 => ?_) fun σ2 H2 e2 => x_gi H2 a1 (by decide) (v := nI (kX kd).length) d1 ?_)))))
  · cases hb9
    exact z_k H1 hb1 (by decide) trivial
  have hsc : ∀ (w : Int32) (q : Nat), ¬ drR a c q → sc ξ (xs_sI (xs_sQ (xs_sA ξ (2000 + (c + 5)) s0 (f_nar 0 n)) (2000 + (c + 6)) s0 (some rb)) (2000 + a) 12 w) q := fun w q hq => ((sA_sc fun e => hq (Or.inr ⟨by omega, by omega⟩)).trans (sQ_sc fun e => hq (Or.inr ⟨by omega, by omega⟩))).trans (sI_sc fun e => hq (Or.inl e))
  have hA5 : ∀ w, xA (xs_sI (xs_sQ (xs_sA ξ (2000 + (c + 5)) s0 (f_nar 0 n)) (2000 + (c + 6)) s0 (some rb)) (2000 + a) 12 w) (2000 + (c + 5)) s0 = n := fun w => sA_s
  have hA5o : ∀ w q, q ≠ s0 → xA (xs_sI (xs_sQ (xs_sA ξ (2000 + (c + 5)) s0 (f_nar 0 n)) (2000 + (c + 6)) s0 (some rb)) (2000 + a) 12 w) (2000 + (c + 5)) q = xA ξ (2000 + (c + 5)) q := fun w q hq => sA_o hq
  have hA : ∀ w j, j < 5 → xA (xs_sI (xs_sQ (xs_sA ξ (2000 + (c + 5)) s0 (f_nar 0 n)) (2000 + (c + 6)) s0 (some rb)) (2000 + a) 12 w) (2000 + (c + j)) = xA ξ (2000 + (c + j)) := fun w j hj => (sA_sc (show 2000 + (c + j) ≠ 2000 + (c + 5) by omega)).2.2.1
  have hQ6 : ∀ w, xQ (xs_sI (xs_sQ (xs_sA ξ (2000 + (c + 5)) s0 (f_nar 0 n)) (2000 + (c + 6)) s0 (some rb)) (2000 + a) 12 w) (2000 + (c + 6)) s0 = some rb := fun w => sQ_s
  have hQ6o : ∀ w q, q ≠ s0 → xQ (xs_sI (xs_sQ (xs_sA ξ (2000 + (c + 5)) s0 (f_nar 0 n)) (2000 + (c + 6)) s0 (some rb)) (2000 + a) 12 w) (2000 + (c + 6)) q = xQ ξ (2000 + (c + 6)) q := fun w q hq => sQ_o hq
  have hI : ∀ w k, k ≠ 12 → xI (xs_sI (xs_sQ (xs_sA ξ (2000 + (c + 5)) s0 (f_nar 0 n)) (2000 + (c + 6)) s0 (some rb)) (2000 + a) 12 w) (2000 + a) k = xI ξ (2000 + a) k := fun w k hk => sI_o hk
  have hI12 : ∀ w, xI (xs_sI (xs_sQ (xs_sA ξ (2000 + (c + 5)) s0 (f_nar 0 n)) (2000 + (c + 6)) s0 (some rb)) (2000 + a) 12 w) (2000 + a) 12 = w := fun w => sI_s
  have fin : ∀ (w : Int32) (xs : List (Int32 × Term)) (σ3 : am_S), w = nI xs.length → xs.length ≤ 8 → (∀ q f, xs[q]? = some f → (q = s0 ∧ f = (n, t)) ∨ (q ≠ s0 ∧ (kX kd)[q]? = some f)) → XS F D (xs_sI (xs_sQ (xs_sA ξ (2000 + (c + 5)) s0 (f_nar 0 n)) (2000 + (c + 6)) s0 (some rb)) (2000 + a) 12 w) σ3 → DR F D (xs_sI (xs_sQ (xs_sA ξ (2000 + (c + 5)) s0 (f_nar 0 n)) (2000 + (c + 6)) s0 (some rb)) (2000 + a) 12 w) fm a c ab (kd.1, kF kd, kS kd, xs) := fun w xs σ3 hw hx8 hxs H3 => by
    refine ⟨a0, a1, a2, (hI w 0 (by decide)).trans a3, (hI w 1 (by decide)).trans a4, ⟨(hI w 10 (by decide)).trans b1, b2, fun q f hq => ?_⟩, ⟨(hI w 11 (by decide)).trans c1, c2, fun q f hq => ?_⟩, (hI12 w).trans hw, hx8, fun q f hq => ?_⟩
    · rw [hA w 0 (by decide), hA w 1 (by decide), hA w 2 (by decide)]; exact b3 q f hq
    · rw [hA w 3 (by decide), hA w 4 (by decide)]; exact c3 q f hq
    · rcases hxs q f hq with ⟨e1, e2⟩ | ⟨e1, e2⟩
      · rw [e1, e2]
        exact ⟨hA5 w, rb, hQ6 w, hbk⟩
      · rw [hA5o w q e1, hQ6o w q e1]
        exact d3 q f e2
  cases o with
  | none =>
    have hs' : s0 = (kX kd).length := hs
    have h8 := hr rfl
    refine ⟨fun c9 => absurd rfl c9, fun _ => x_p H2 a1 (by decide) fun σ3 H3 e3 => ?_⟩
    refine hQ _ σ3 (fin _ (kX kd ++ [(n, t)]) σ3 ((nI_1 _).trans (by rw [List.length_append]; rfl)) (by rw [List.length_append, List.length_singleton]; omega) (fun q f hq => ?_) H3) H3 (hsc _) (hI _ 2 (by decide)) ((e3.trans e2).trans e1)
    rcases getApp hq with ⟨e1, e2⟩ | ⟨e1, e2⟩
    · exact Or.inr ⟨by omega, e2⟩
    · exact Or.inl ⟨by omega, e2⟩
  | some i =>
    have hs' : s0 = i := hs
    have hil := ixf_lt ho
    refine ⟨fun _ => x_p H2 a1 (by decide) fun σ3 H3 e3 => ?_, fun c9 => absurd c9 (nI_m1 (by omega))⟩
    refine hQ _ σ3 (fin _ ((kX kd).set i (n, t)) σ3 (by rw [List.length_set]; show nI _ + nI 0 = _; rw [nI_add]; rfl) (by rw [List.length_set]; exact d2) (fun q f hq => ?_) H3) H3 (hsc _) (hI _ 2 (by decide)) ((e3.trans e2).trans e1)
    subst hs'
    by_cases hqi : q = s0
    · subst hqi
      rw [List.getElem?_set_self hil] at hq
      cases hq
      exact Or.inl ⟨rfl, rfl⟩
    · rw [List.getElem?_set_ne (Ne.symm hqi)] at hq
      exact Or.inr ⟨hqi, hq⟩
/-- a member comes to a draft -/
theorem X_drAdd (H : XS F D ξ σ) (h : DR F D ξ fm a c ab kd) (hfm : ∀ n v, fm (n, v, -1) = -1) {m : Mem} {v : Nat} (hv : isMe F m v) (hr : fullM kd m.1 = false ∨ (m.1 = 2 ∧ ¬ ixA kd m.2.1 = none)) {Q : am_S → Prop} (hQ : ∀ ξ' σ', DR F D ξ' fm a c ab (addM kd m) → XS F D ξ' σ' → (∀ q, ¬ drR a c q → sc ξ ξ' q) → xI ξ' (2000 + a) 2 = xI ξ (2000 + a) 2 → σ'.2 = σ.2 → Q σ') : W_X8_add G (d + 2) a (some v) σ Q := by
  obtain ⟨f, v1, v2, v3, v4, v5, v6⟩ := hv
  obtain ⟨a0, a1, a2, a3, a4, ⟨b1, b2, b3⟩, ⟨c1, c2, c3⟩, d1, d2, d3⟩ := id h
  unfold addM at hQ
  refine W_X8_add_f (z_gi H v1 (by decide) v2 ⟨fun n2 => z_gi H v1 (by decide) v2 ⟨fun n1 => ?_, fun c1' => ?_⟩, fun c2' => ?_⟩)
  · have h2 : ¬ m.1 = 2 := fun e => n2 (by rw [e]; rfl)
    have h1 : ¬ m.1 = 1 := fun e => n1 (by rw [e]; rfl)
    rw [if_neg h2, if_neg h1] at hQ
    have h8 : (kF kd).length < 8 := by
      rcases hr with hr | hr
      · unfold fullM at hr
        rw [if_neg h2, if_neg h1] at hr
        have : ¬ (kF kd).length = 8 := by simpa using hr
        omega
      · exact absurd hr.1 h2
    obtain ⟨g0, r0, n0⟩ := a2 0 (by decide)
    obtain ⟨g1, r1, n1'⟩ := a2 1 (by decide)
    obtain ⟨g2, r2, n2'⟩ := a2 2 (by decide)
    refine x_gr H a1 (by decide) g0 (x_gi H a1 (by decide) b1 (z_gi H v1 (by decide) v4 (x_si (τ := 0) H r0 (by decide) n0 rfl h8 (by decide) fun σ1 H1 e1 => ?_)))
    refine x_gr H1 a1 (by decide) (v := some (c + 1)) g1 (x_gi H1 a1 (by decide) (v := nI (kF kd).length) b1 (z_gi H1 v1 (by decide) (v5 h2) (x_si (τ := 0) (n := 8) H1 r1 (by decide) n1' rfl h8 (by decide) fun σ2 H2 e2 => ?_)))
    refine x_gr H2 a1 (by decide) (v := some (c + 2)) g2 (x_gi H2 a1 (by decide) (v := nI (kF kd).length) b1 (x_si (τ := 0) (n := 8) H2 r2 (by decide) n2' rfl h8 (by decide) fun σ3 H3 e3 => ?_))
    refine x_gi H3 a1 (by decide) (v := nI (kF kd).length) b1 (x_p H3 a1 (by decide) fun σ4 H4 e4 => ?_)
    have key : ∀ Ξ, Ξ = xs_sI (xs_sA (xs_sA (xs_sA ξ (2000 + (c + 0)) (kF kd).length (f_nar 0 m.2.1)) (2000 + (c + 1)) (kF kd).length (f_nar 0 m.2.2.1)) (2000 + (c + 2)) (kF kd).length (f_nar 0 (-1))) (2000 + a) 10 (nI (kF kd).length + 1) → XS F D Ξ σ4 → Q σ4 := fun Ξ hΞ HΞ => by
      have hI : ∀ k, k ≠ 10 → xI Ξ (2000 + a) k = xI ξ (2000 + a) k := fun k hk => by rw [hΞ]; exact sI_o hk
      have hI10 : xI Ξ (2000 + a) 10 = nI ((kF kd).length + 1) := by rw [hΞ]; exact sI_s.trans (nI_1 _)
      have hA : ∀ j, 3 ≤ j → xA Ξ (2000 + (c + j)) = xA ξ (2000 + (c + j)) := fun j hj => by
        rw [hΞ]
        exact (sA_sc (show 2000 + (c + j) ≠ 2000 + (c + 2) by omega)).2.2.1.trans ((sA_sc (show 2000 + (c + j) ≠ 2000 + (c + 1) by omega)).2.2.1.trans (sA_sc (show 2000 + (c + j) ≠ 2000 + (c + 0) by omega)).2.2.1)
      have e0 : xA Ξ (2000 + (c + 0)) = xA (xs_sA ξ (2000 + (c + 0)) (kF kd).length (f_nar 0 m.2.1)) (2000 + (c + 0)) := by
        rw [hΞ]
        exact (sA_sc (show 2000 + (c + 0) ≠ 2000 + (c + 2) by omega)).2.2.1.trans (sA_sc (show 2000 + (c + 0) ≠ 2000 + (c + 1) by omega)).2.2.1
      have e1' : xA Ξ (2000 + (c + 1)) = xA (xs_sA (xs_sA ξ (2000 + (c + 0)) (kF kd).length (f_nar 0 m.2.1)) (2000 + (c + 1)) (kF kd).length (f_nar 0 m.2.2.1)) (2000 + (c + 1)) := by
        rw [hΞ]
        exact (sA_sc (show 2000 + (c + 1) ≠ 2000 + (c + 2) by omega)).2.2.1
      have e2' : xA Ξ (2000 + (c + 2)) = xA (xs_sA (xs_sA (xs_sA ξ (2000 + (c + 0)) (kF kd).length (f_nar 0 m.2.1)) (2000 + (c + 1)) (kF kd).length (f_nar 0 m.2.2.1)) (2000 + (c + 2)) (kF kd).length (f_nar 0 (-1))) (2000 + (c + 2)) := by
        rw [hΞ]; rfl
      refine hQ Ξ σ4 ⟨a0, a1, ?_, (hI 0 (by decide)).trans a3, (hI 1 (by decide)).trans a4, ⟨?_, ?_, fun q f hq => ?_⟩, ⟨(hI 11 (by decide)).trans c1, c2, fun q f hq => ?_⟩, (hI 12 (by decide)).trans d1, d2, fun q f hq => ?_⟩ HΞ (fun q hq => ?_) (hI 2 (by decide)) (((e4.trans e3).trans e2).trans e1)
      · rw [hΞ]; exact a2
      · rw [hI10]; show nI _ = nI (kF kd ++ [_]).length; rw [List.length_append]; rfl
      · show (kF kd ++ [_]).length ≤ 8
        rw [List.length_append, List.length_singleton]; omega
      · rw [e0, e1', e2']
        rcases getApp hq with ⟨e1, e2⟩ | ⟨e1, e2⟩
        · have h9 := b3 q f e2
          refine ⟨(sA_o (by omega)).trans h9.1, (sA_o (by omega)).trans ((congrFun (sA_sc (show 2000 + (c + 1) ≠ 2000 + (c + 0) by omega)).2.2.1 q).trans h9.2.1), (sA_o (by omega)).trans ((congrFun (sA_sc (show 2000 + (c + 2) ≠ 2000 + (c + 1) by omega)).2.2.1 q).trans ((congrFun (sA_sc (show 2000 + (c + 2) ≠ 2000 + (c + 0) by omega)).2.2.1 q).trans h9.2.2))⟩
        · rw [e1, e2]
          exact ⟨sA_s, sA_s, sA_s.trans (hfm _ _).symm⟩
      · rw [hA 3 (by decide), hA 4 (by decide)]
        exact c3 q f hq
      · rw [hA 5 (by decide), show xQ Ξ (2000 + (c + 6)) = xQ ξ (2000 + (c + 6)) by rw [hΞ]; rfl]
        exact d3 q f hq
      · rw [hΞ]
        exact (((sA_sc fun e => hq (Or.inr ⟨by omega, by omega⟩)).trans (sA_sc fun e => hq (Or.inr ⟨by omega, by omega⟩))).trans (sA_sc fun e => hq (Or.inr ⟨by omega, by omega⟩))).trans (sI_sc fun e => hq (Or.inl e))
    exact key _ rfl H4
  · have h1 : m.1 = 1 := (nI_eq (show m.1 < 2 ^ 31 by omega) (show 1 < 2 ^ 31 by decide)).mp c1'
    have h2 : ¬ m.1 = 2 := by omega
    rw [if_neg h2, if_pos h1] at hQ
    have h4 : (kS kd).length < 4 := by
      rcases hr with hr | hr
      · unfold fullM at hr
        rw [if_neg h2, if_pos h1] at hr
        have : ¬ (kS kd).length = 4 := by simpa using hr
        omega
      · exact absurd hr.1 h2
    obtain ⟨g0, r0, n0⟩ := a2 3 (by decide)
    obtain ⟨g1, r1, n1'⟩ := a2 4 (by decide)
    refine x_gr H a1 (by decide) g0 (x_gi H a1 (by decide) c1 (z_gi H v1 (by decide) v4 (x_si (τ := 0) H r0 (by decide) n0 rfl h4 (by decide) fun σ1 H1 e1 => ?_)))
    refine x_gr H1 a1 (by decide) (v := some (c + 4)) g1 (x_gi H1 a1 (by decide) (v := nI (kS kd).length) c1 (z_gi H1 v1 (by decide) (v5 h2) (x_si (τ := 0) (n := 4) H1 r1 (by decide) n1' rfl h4 (by decide) fun σ2 H2 e2 => ?_)))
    refine x_gi H2 a1 (by decide) (v := nI (kS kd).length) c1 (x_p H2 a1 (by decide) fun σ4 H4 e4 => ?_)
    have key : ∀ Ξ, Ξ = xs_sI (xs_sA (xs_sA ξ (2000 + (c + 3)) (kS kd).length (f_nar 0 m.2.1)) (2000 + (c + 4)) (kS kd).length (f_nar 0 m.2.2.1)) (2000 + a) 11 (nI (kS kd).length + 1) → XS F D Ξ σ4 → Q σ4 := fun Ξ hΞ HΞ => by
      have hI : ∀ k, k ≠ 11 → xI Ξ (2000 + a) k = xI ξ (2000 + a) k := fun k hk => by rw [hΞ]; exact sI_o hk
      have hI11 : xI Ξ (2000 + a) 11 = nI ((kS kd).length + 1) := by rw [hΞ]; exact sI_s.trans (nI_1 _)
      have hA : ∀ j, j ≠ 3 → j ≠ 4 → xA Ξ (2000 + (c + j)) = xA ξ (2000 + (c + j)) := fun j h3 h4 => by
        rw [hΞ]
        exact (sA_sc (show 2000 + (c + j) ≠ 2000 + (c + 4) by omega)).2.2.1.trans (sA_sc (show 2000 + (c + j) ≠ 2000 + (c + 3) by omega)).2.2.1
      have e0 : xA Ξ (2000 + (c + 3)) = xA (xs_sA ξ (2000 + (c + 3)) (kS kd).length (f_nar 0 m.2.1)) (2000 + (c + 3)) := by
        rw [hΞ]
        exact (sA_sc (show 2000 + (c + 3) ≠ 2000 + (c + 4) by omega)).2.2.1
      have e1' : xA Ξ (2000 + (c + 4)) = xA (xs_sA (xs_sA ξ (2000 + (c + 3)) (kS kd).length (f_nar 0 m.2.1)) (2000 + (c + 4)) (kS kd).length (f_nar 0 m.2.2.1)) (2000 + (c + 4)) := by
        rw [hΞ]; rfl
      refine hQ Ξ σ4 ⟨a0, a1, ?_, (hI 0 (by decide)).trans a3, (hI 1 (by decide)).trans a4, ⟨(hI 10 (by decide)).trans b1, b2, fun q f hq => ?_⟩, ⟨?_, ?_, fun q f hq => ?_⟩, (hI 12 (by decide)).trans d1, d2, fun q f hq => ?_⟩ HΞ (fun q hq => ?_) (hI 2 (by decide)) ((e4.trans e2).trans e1)
      · rw [hΞ]; exact a2
      · rw [hA 0 (by decide) (by decide), hA 1 (by decide) (by decide), hA 2 (by decide) (by decide)]
        exact b3 q f hq
      · rw [hI11]; show nI _ = nI (kS kd ++ [_]).length; rw [List.length_append]; rfl
      · show (kS kd ++ [_]).length ≤ 4
        rw [List.length_append, List.length_singleton]; omega
      · rw [e0, e1']
        rcases getApp hq with ⟨e1, e2⟩ | ⟨e1, e2⟩
        · have h9 := c3 q f e2
          exact ⟨(sA_o (by omega)).trans h9.1, (sA_o (by omega)).trans ((congrFun (sA_sc (show 2000 + (c + 4) ≠ 2000 + (c + 3) by omega)).2.2.1 q).trans h9.2)⟩
        · rw [e1, e2]
          exact ⟨sA_s, sA_s⟩
      · rw [hA 5 (by decide) (by decide), show xQ Ξ (2000 + (c + 6)) = xQ ξ (2000 + (c + 6)) by rw [hΞ]; rfl]
        exact d3 q f hq
      · rw [hΞ]
        exact ((sA_sc fun e => hq (Or.inr ⟨by omega, by omega⟩)).trans (sA_sc fun e => hq (Or.inr ⟨by omega, by omega⟩))).trans (sI_sc fun e => hq (Or.inl e))
    exact key _ rfl H4
  · have h2 : m.1 = 2 := (nI_eq (show m.1 < 2 ^ 31 by omega) (show 2 < 2 ^ 31 by decide)).mp c2'
    rw [if_pos h2] at hQ
    obtain ⟨rb, g1, g2⟩ := v6 h2
    have h8 : ixA kd m.2.1 = none → ¬ (kX kd).length = 8 := fun e => by
      rcases hr with hr | hr
      · unfold fullM at hr
        rw [if_pos h2] at hr
        simpa using hr
      · exact absurd e hr.2
    refine z_gi H v1 (by decide) v4 (x_o H a1 (by decide) (X_drAct (d := d) H h ?_))
    cases ho : ixA kd m.2.1 with
    | none =>
      rw [ho] at hQ h8
      refine ⟨fun c9 => absurd rfl c9, fun _ => x_gi H a1 (by decide) d1 ?_⟩
      exact X_drAdd30 (s0 := (kX kd).length) H h v1 v4 g1 g2 ho rfl rfl h8 hQ
    | some i =>
      rw [ho] at hQ h8
      refine ⟨fun _ => ?_, fun c9 => absurd c9 (nI_m1 (by have := ixf_lt ho; omega))⟩
      exact X_drAdd30 (s0 := i) H h v1 v4 g1 g2 ho rfl rfl h8 hQ
end
