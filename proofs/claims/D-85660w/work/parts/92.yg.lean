set_option maxRecDepth 100000
/-! ===== X: drafts made; members ===== -/
def PD (D : xs_D) (ξ : xs_X) (a c j0 : Nat) : Prop := ∀ j, j < j0 → xR ξ (2000 + a) (3 + j) = some (c + j) ∧ rl D (2000 + (c + j)) (c + j) (if j = 6 then 110 else 100) ∧ xN ξ (2000 + (c + j)) = if j = 3 ∨ j = 4 then 4 else 8
section
variable {G : am_G} {d m : Nat} {F : am_H} {D : xs_D} {ξ : xs_X} {σ : am_S} {a c j0 : Nat}
theorem PD.next {D1 : xs_D} {ξ1 : xs_X} (hP : PD D ξ a c j0) (hac : a < c) (hD : XD D D1) (hs : ∀ q, D.2.2 q → q ≠ 2000 + a → sc ξ ξ1 q) (hR : ∀ k, k ≠ 3 + j0 → xR ξ1 (2000 + a) k = xR ξ (2000 + a) k) (h1 : xR ξ1 (2000 + a) (3 + j0) = some (c + j0)) (h2 : rl D1 (2000 + (c + j0)) (c + j0) (if j0 = 6 then 110 else 100)) (h3 : xN ξ1 (2000 + (c + j0)) = if j0 = 3 ∨ j0 = 4 then 4 else 8) : PD D1 ξ1 a c (j0 + 1) := fun j hj => by
  by_cases hjj : j = j0
  · subst hjj; exact ⟨h1, h2, h3⟩
  · obtain ⟨e1, e2, e3⟩ := hP j (by omega)
    exact ⟨(hR _ (by omega)).trans e1, hD _ _ _ e2, (hs _ e2.1 (by omega)).2.2.2.2.trans e3⟩
theorem X_drStep (H : XS F D ξ σ) (hT : TD D) (ri : rl D (2000 + a) a 8) (hac : a < c) (hP : PD D ξ a c j0) (hc : σ.2.1 = c + j0) (h6 : ¬ j0 = 6) (hcr : cr G (m + 2) σ) {k n : Nat} (hk : k = 3 + j0) (hd : xs_rf 8 k = true) (hn : n = if j0 = 3 ∨ j0 = 4 then 4 else 8) {y : Int32} (hy : y = nI n) {K : am_S → Prop} (hK : ∀ D1 ξ1 σ1, XD D D1 → TD D1 → PD D1 ξ1 a c (j0 + 1) → XS F D1 ξ1 σ1 → (∀ q, D.2.2 q → q ≠ 2000 + a → sc ξ ξ1 q) → xI ξ1 (2000 + a) = xI ξ (2000 + a) → σ1.2.1 = c + (j0 + 1) → cr G m σ1 → K σ1) : f_na G σ 0 f_a0i y (fun n1 σ2 => f_p σ2 (some a) [8] k (va_rf (some n1)) (fun σ3 => K σ3)) := by
  have hn8 : n ≤ 8 := by rw [hn]; split <;> decide
  refine f_na_nx (x_nai (n := n) (j := 2) (m := m) H hT hy (by decide) hcr ⟨by omega, by omega, by omega⟩ fun D1 ξ1 σ1 i xd td ni r1 hi H1 s1 nn1 _ c1 hF1 nx => ?_)
  have ei := td.ro r1 hi
  subst ei
  have hia : 2000 + a ≠ 2000 + σ.2.1 := fun e => ni (e ▸ ri.1)
  refine x_pr H1 (xd _ _ _ ri) ⟨by decide, by decide, hd⟩ fun σ2 H2 e2 => ?_
  have hs : ∀ q, D.2.2 q → q ≠ 2000 + a → sc ξ (xs_sR ξ1 (2000 + a) k (some σ.2.1)) q := fun q hq hqa => (s1 q hq).trans (sR_sc hqa)
  refine hK D1 _ σ2 xd td (hP.next hac xd hs (fun q hq => ?_) ?_ ?_ ?_) H2 hs (s1 _ ri.1).1 (by rw [e2, nx, hc]; omega) (c1.eq e2)
  · rw [sR_o (by omega), (s1 _ ri.1).2.1]
  · rw [← hk, sR_s, hc]
  · rw [if_neg h6, ← hc]; exact r1
  · rw [← hc, ← hn]; exact nn1
/-- a new draft -/
theorem X_drInit (H : XS F D ξ σ) (hT : TD D) (ri : rl D (2000 + a) a 8) (hcr : cr G (m + 14) σ) {fm : Int32 × Int32 × Int32 → Int32} {nm ab : Int32} {h1 : Option Nat} {kg : Int32} {kc : Bool} {ko : Option Nat} (z10 : xI ξ (2000 + a) 10 = 0) (z11 : xI ξ (2000 + a) 11 = 0) (z12 : xI ξ (2000 + a) 12 = 0) {Q : am_S → Prop} (hQ : ∀ D1 ξ1 σ1 c, XD D D1 → TD D1 → c = σ.2.1 → (∀ j, j < 7 → ¬ D.2.2 (2000 + (c + j))) → DR F D1 ξ1 fm a c ab ((nm, h1, kg, kc, ko), [], [], []) → XS F D1 ξ1 σ1 → (∀ q, D.2.2 q → q ≠ 2000 + a → sc ξ ξ1 q) → (∀ k, ¬ k = 0 → ¬ k = 1 → xI ξ1 (2000 + a) k = xI ξ (2000 + a) k) → σ1.2.1 = σ.2.1 + 7 → cr G m σ1 → Q σ1) : W_X8_init_2 G (d + 1) a nm ab σ Q := by
  have hac : a < σ.2.1 := by
    have := (H.2.1 _ ri.1).1
    rw [ri.2.1] at this
    exact H.2.2.2 _ _ this
  have hfree : ∀ j, ¬ D.2.2 (2000 + (σ.2.1 + j)) := fun j hq => by
    have h9 := (H.2.1 _ hq).1
    rw [hT _ hq] at h9
    have := H.2.2.2 _ _ h9
    omega
  refine W_X8_init_2_f (X_drStep (m := m + 12) (j0 := 0) (c := σ.2.1) H hT ri hac (fun j hj => absurd hj (by omega)) rfl (by decide) hcr rfl (by decide) rfl rfl fun D1 ξ1 σ1 x1 t1 p1 H1 s1 i1 n1 c1 => ?_)
  refine X_drStep (m := m + 10) (j0 := 1) (c := σ.2.1) H1 t1 (x1 _ _ _ ri) hac p1 n1 (by decide) c1 rfl (by decide) rfl rfl fun D2 ξ2 σ2 x2 t2 p2 H2 s2 i2 n2 c2 => ?_
  refine X_drStep (m := m + 8) (j0 := 2) (c := σ.2.1) H2 t2 (x2 _ _ _ (x1 _ _ _ ri)) hac p2 n2 (by decide) c2 rfl (by decide) rfl rfl fun D3 ξ3 σ3 x3 t3 p3 H3 s3 i3 n3 c3 => ?_
  have r3 := x3 _ _ _ (x2 _ _ _ (x1 _ _ _ ri))
  refine X_drStep (m := m + 6) (j0 := 3) (c := σ.2.1) H3 t3 r3 hac p3 n3 (by decide) c3 rfl (by decide) rfl rfl fun D4 ξ4 σ4 x4 t4 p4 H4 s4 i4 n4 c4 => ?_
  refine X_drStep (m := m + 4) (j0 := 4) (c := σ.2.1) H4 t4 (x4 _ _ _ r3) hac p4 n4 (by decide) c4 rfl (by decide) rfl rfl fun D5 ξ5 σ5 x5 t5 p5 H5 s5 i5 n5 c5 => ?_
  have r5 := x5 _ _ _ (x4 _ _ _ r3)
  refine X_drStep (m := m + 2) (j0 := 5) (c := σ.2.1) H5 t5 r5 hac p5 n5 (by decide) c5 rfl (by decide) rfl rfl fun D6 ξ6 σ6 x6 t6 p6 H6 s6 i6 n6 c6 => ?_
  have r6 := x6 _ _ _ r5
  refine f_na_nx (x_nar (n := 8) (j := 2) (m := m) H6 t6 rfl (by decide) c6 ⟨by omega, by omega, by omega⟩ fun D7 ξ7 σ7 i xd td ni r7 hi H7 s7 nn7 _ c7 hF7 nx => ?_)
  have ei := td.ro r7 hi
  subst ei
  have hia : 2000 + a ≠ 2000 + σ6.2.1 := fun e => ni (e ▸ r6.1)
  refine x_pr H7 (xd _ _ _ r6) (by decide) fun σ8 H8 e8 => x_p H8 (xd _ _ _ r6) (by decide) fun σ9 H9 e9 => x_p H9 (xd _ _ _ r6) (by decide) fun σ10 H10 e10 => ?_
  have xa : XD D D7 := (((((x1.trans x2).trans x3).trans x4).trans x5).trans x6).trans xd
  have hw : ∀ q, q ≠ 2000 + a → sc ξ7 (xs_sI (xs_sI (xs_sR ξ7 (2000 + a) 9 (some σ6.2.1)) (2000 + a) 0 nm) (2000 + a) 1 ab) q := fun q hq => ((sR_sc hq).trans (sI_sc hq)).trans (sI_sc hq)
  have hs6 : ∀ q, D6.2.2 q → q ≠ 2000 + a → sc ξ6 (xs_sI (xs_sI (xs_sR ξ7 (2000 + a) 9 (some σ6.2.1)) (2000 + a) 0 nm) (2000 + a) 1 ab) q := fun q hq hqa => (s7 q hq).trans (hw q hqa)
  have hI6 : xI ξ6 (2000 + a) = xI ξ (2000 + a) := i6.trans (i5.trans (i4.trans (i3.trans (i2.trans i1))))
  have hI : ∀ k, ¬ k = 0 → ¬ k = 1 → xI (xs_sI (xs_sI (xs_sR ξ7 (2000 + a) 9 (some σ6.2.1)) (2000 + a) 0 nm) (2000 + a) 1 ab) (2000 + a) k = xI ξ (2000 + a) k := fun k h0 h1 => by
    rw [sI_o h1, sI_o h0]
    show xI ξ7 (2000 + a) k = _
    rw [(s7 _ r6.1).1, hI6]
  have hP : PD D7 (xs_sI (xs_sI (xs_sR ξ7 (2000 + a) 9 (some σ6.2.1)) (2000 + a) 0 nm) (2000 + a) 1 ab) a σ.2.1 7 := p6.next hac xd hs6 (fun q hq => by
    show xR (xs_sR ξ7 (2000 + a) 9 (some σ6.2.1)) (2000 + a) q = _
    rw [sR_o (by omega), (s7 _ r6.1).2.1]) (by
    show xR (xs_sR ξ7 (2000 + a) 9 (some σ6.2.1)) (2000 + a) 9 = _
    rw [sR_s, n6]) (by rw [if_pos rfl, ← n6]; exact r7) (by rw [← n6]; exact nn7)
  refine hQ D7 _ σ10 σ.2.1 xa td rfl (fun j _ => hfree j) ⟨hac, xa _ _ _ ri, hP, ?_, sI_s, ⟨?_, by show (0 : Nat) ≤ 8; decide, fun q f hq => absurd hq (by show ¬ ([] : List (Int32 × Int32 × Int32))[q]? = some f; simp)⟩, ⟨?_, by show (0 : Nat) ≤ 4; decide, fun q f hq => absurd hq (by show ¬ ([] : List (Int32 × Int32))[q]? = some f; simp)⟩, ?_, by show (0 : Nat) ≤ 8; decide, fun q f hq => absurd hq (by show ¬ ([] : List (Int32 × Term))[q]? = some f; simp)⟩ H10 (fun q hq hqa => ?_) hI ?_ (((c7.eq e8).eq e9).eq e10)
  · rw [sI_o (by decide), sI_s]
  · exact (hI 10 (by decide) (by decide)).trans z10
  · exact (hI 11 (by decide) (by decide)).trans z11
  · exact (hI 12 (by decide) (by decide)).trans z12
  · exact ((((((s1 q hq hqa).trans (s2 q (x1.has hq) hqa)).trans (s3 q (x2.has (x1.has hq)) hqa)).trans (s4 q (x3.has (x2.has (x1.has hq))) hqa)).trans (s5 q (x4.has (x3.has (x2.has (x1.has hq)))) hqa)).trans (s6 q (x5.has (x4.has (x3.has (x2.has (x1.has hq))))) hqa)).trans (hs6 q (x6.has (x5.has (x4.has (x3.has (x2.has (x1.has hq)))))) hqa)
  · rw [e10, e9, e8, nx, n6]
end
