set_option maxRecDepth 100000
/-! ===== X's reader: what must be at hand; names ===== -/
/-- what is asked of a reading that goes on at p' -/
def Xk (G : am_G) (A : Nat → Nat) (T : Nat → Int32) (n : Nat) (F : am_H) (D : xs_D) (ξ : xs_X) (p p' : Nat) (N' : ps_N) (x' : Nat) (Q : am_S → Prop) : Prop := ∀ F' ξ' σ', XI G A T n p' N' F' D ξ' σ' → pf D F ξ F' ξ' → xI ξ' 1 4 = xI ξ 1 4 → xI ξ' 1 5 = xI ξ 1 5 → p < p' → cr G (600 * (n + 1 - p') + x') σ' → Q σ'
section
variable {G : am_G} {A : Nat → Nat} {T : Nat → Int32} {n d x p : Nat} {N : ps_N} {F : am_H} {D : xs_D} {ξ : xs_X} {σ : am_S} {E : Nat → am_S → Prop}
/-- refused -/
theorem XI.ft (h : XI G A T n p N F D ξ σ) {k y : Int32} {q : Nat} (hE : XFt G A T n F D ξ x E k q N) (hy : y = nI q) (hc : cr G x σ) : W_X0_refused G d (A 0) k y σ (fun v σ' => f_o σ' v [3] (fun q => E q σ')) := by
  have hR := h.1.2.2.1
  refine X_refused h.1 fun σ' ξ' H' e' s' k6 k7 => x_o H' hR.2.2.1 (by decide) (hE F ξ' σ' (h.1.up H' FE.refl XD.refl h.1.2.1 (xk.of fun j hj => s' j fun e => by omega)) (h.2.1.up FE.refl (congrFun (s' 0 (by decide)).1 1) (s' 6 (by decide)).2.2.2.1) ⟨FE.refl, fun r hr h9 => s' r fun e => h9 (by rw [e]; decide), fun k _ => congrFun (s' 0 (by decide)).1 k, (s' 0 (by decide)).2.1⟩ k6 (k7.trans hy) (hc.eq e'))
theorem XI.bad (h : XI G A T n p N F D ξ σ) (hE : XFt G A T n F D ξ x E 1 (lxa T p) N) (hc : cr G x σ) : W_X4_bad G (d + 1) (A 1) σ (fun v σ' => f_o σ' v [3] (fun q => E q σ')) := by
  have hR := h.1.2.2.1
  exact W_X4_bad_f (x_gr h.1.1 hR.2.1 (by decide) h.1.2.2.2.1.2.2.2.1 (x_gi h.1.1 hR.2.1 (by decide) h.2.2.1.2.1 (x_o h.1.1 hR.1 (by decide) (h.ft hE rfl hc))))
theorem X_takes (h : XI G A T n p N F D ξ σ) (hG : GK G) {c t : Int32} (hc : (cSg c = true ∧ t = 200 + c) ∨ (c = 256 ∧ t = 201)) (hcr : cr G (600 * (n + 1 - p) + x) σ) {Q : Int32 → am_S → Prop} (hy : lxt T p = t → Xk G A T n F D ξ p (lxe T p) N (x + 590) (Q 1)) (hn : ¬ lxt T p = t → Q 0 σ) : W_X4_takes G (d + 9) (A 1) c σ Q := by
  have r1 := h.1.2.2.1.2.1
  have ht : ¬ t = 0 := fun e => by
    rcases hc with ⟨h1, h2⟩ | ⟨h1, h2⟩
    · obtain ⟨k, g1, g2, g3⟩ := sg_c h1
      rw [h2, g3, show (200 : Int32) = nI 200 from rfl, nI_add] at e
      have := (nI_eq (show 200 + k < 2 ^ 31 by omega) (show 0 < 2 ^ 31 by decide)).mp e
      omega
    · rw [h2] at e
      exact absurd e (by decide)
  refine W_X4_takes_f (x_o h.1.1 r1 (by decide) (X_isSign h hc ?_))
  by_cases h9 : lxt T p = t
  · rw [if_pos h9]
    refine y1 (x_o h.1.1 r1 (by decide) (h.next hG (by rw [h9]; exact ht) hcr fun F' ξ' σ' g1 g2 g3 g4 g5 g6 => hy h9 F' ξ' σ' g1 g2 g3 g4 g5 g6))
  · rw [if_neg h9]
    exact z1 (hn h9)
theorem X_needs (h : XI G A T n p N F D ξ σ) (hG : GK G) {c : Int32} (hc : cSg c = true) (hcr : cr G (600 * (n + 1 - p) + x) σ) {Q : am_S → Prop} (hy : ps_need T c p N = ps_ok () (lxe T p) N → Xk G A T n F D ξ p (lxe T p) N (x + 590) Q) (hn : XFn G A T n F D ξ x (ps_need T c p N) E) : W_X4_needs G (d + 10) (A 1) c σ Q E := by
  have r1 := h.1.2.2.1.2.1
  refine W_X4_needs_f (x_o h.1.1 r1 (by decide) (X_takes h hG (Or.inl ⟨hc, rfl⟩) hcr (fun h9 F' ξ' σ' g1 g2 g3 g4 g5 g6 => y1 (hy (by unfold ps_need; rw [if_pos h9]) F' ξ' σ' g1 g2 g3 g4 g5 g6)) fun h9 => z1 (x_o h.1.1 r1 (by decide) (h.bad (d := d + 8) (hn 1 _ N (by unfold ps_need; rw [if_neg h9])) (hcr.le (by omega))))))
theorem X_takesWord (h : XI G A T n p N F D ξ σ) (hG : GK G) {k : Nat} (hk : k < 22) (hcr : cr G (600 * (n + 1 - p) + x) σ) {Q : Int32 → am_S → Prop} (hy : lxt T p = nI (100 + k) → Xk G A T n F D ξ p (lxe T p) N (x + 590) (Q 1)) (hn : ¬ lxt T p = nI (100 + k) → Q 0 σ) : W_X4_takesWord G (d + 9) (A 1) (some (am_sk G (k + 1))) σ Q := by
  have r1 := h.1.2.2.1.2.1
  refine W_X4_takesWord_f (x_o h.1.1 r1 (by decide) (X_isWord (d := d + 6) h hG hk ?_))
  by_cases h9 : lxt T p = nI (100 + k)
  · rw [if_pos h9]
    refine y1 (x_o h.1.1 r1 (by decide) (h.next hG (fun e => tk_ne hk (Or.inl (show 0 < 100 by decide)) (by decide) (h9.symm.trans e)) hcr fun F' ξ' σ' g1 g2 g3 g4 g5 g6 => hy h9 F' ξ' σ' g1 g2 g3 g4 g5 g6))
  · rw [if_neg h9]
    exact z1 (hn h9)
/-- the number of a name -/
theorem X_number_l (H : XS F D ξ σ) (hG : GK G) (hR : RR A D) (hL : XL G A F ξ) (hN : XNm G F N ξ) {w : Nat} {c : Int64} (hw : sOf G F w c) {Q : Int32 → am_S → Prop} (hQ : ∀ k, ps_fn N c N.1 0 = k → k < N.1 → Q (nI k) σ) (hF : ps_fn N c N.1 0 = N.1 → N.1 = 40 → Q (-1) σ) (hA : ps_fn N c N.1 0 = N.1 → ¬ N.1 = 40 → ∀ ξ' σ', XS F D ξ' σ' → σ'.2 = σ.2 → (∀ r, r ∉ [0, 6] → sc ξ ξ' r) → (∀ k, k ≠ 1 → xI ξ' 0 k = xI ξ 0 k) → xR ξ' 0 = xR ξ 0 → xN ξ' 6 = xN ξ 6 → XNm G F (N.1 + 1, vp_updL N.2 N.1 c) ξ' → Q (nI N.1) σ') : ∀ (f k : Nat) {y : Int32}, k + f = N.1 → y = nI k → ps_fn N c N.1 0 = ps_fn N c f k → B_X0_number_2 G (d + 2) (A 0) (some w) y σ Q
  | 0, k, y, hk, hy, he => B_X0_number_2_f (by
      obtain ⟨n1, n2, n3⟩ := hN
      have hk : k = N.1 := by omega
      subst hy
      have he' : ps_fn N c N.1 0 = N.1 := he.trans hk
      rw [hk]
      refine x_gi H hR.1 (by decide) n1 ⟨fun _ => x_gi H hR.1 (by decide) n1 ⟨fun n40 => ?_, fun c40 => hF he' ((nI_eq (by omega) (by decide)).mp c40)⟩, fun c9 => absurd (nI_le (Nat.le_refl _) (by omega)) c9⟩
      have h40 : ¬ N.1 = 40 := fun e => n40 (by rw [e]; rfl)
      have hw2 := hw
      obtain ⟨m, L, w1, w2, ⟨f9, v9, g9, w3, -⟩, -⟩ := hw2
      refine x_gr H hR.1 (by decide) hL.1 (x_gi H hR.1 (by decide) n1 (x_sr H hR.2.2.2.1 (by decide) hL.2.2.2.2.1 rfl (show N.1 < 40 by omega) (by decide) (fun b hb => ?_) fun σ5 H5 e5 => ?_))
      · cases hb
        exact z_k H w3 (by decide) trivial
      · have n1' : xI (xs_sQ ξ 6 N.1 (some w)) 0 1 = nI N.1 := n1
        refine x_gi H5 hR.1 (by decide) n1' (x_p H5 hR.1 (by decide) fun σ7 H7 e7 => x_gi H7 hR.1 (by decide) sI_s ?_)
        rw [nI_1, show (1 : Int32) = nI 1 from rfl, pk_sub (by omega), Nat.add_sub_cancel]
        refine hA he' h40 _ σ7 H7 (e7.trans e5) (fun r hr => ?_) (fun q hq => sI_o hq) rfl rfl ⟨sI_s.trans (nI_1 _), by show N.1 + 1 ≤ 40; omega, fun i hi => ?_⟩
        · have h0 : r ≠ 0 := fun e => hr (by rw [e]; decide)
          have h6 : r ≠ 6 := fun e => hr (by rw [e]; decide)
          exact (sQ_sc h6).trans (sI_sc h0)
        · have hi : i < N.1 + 1 := hi
          have e6 : xQ (xs_sI (xs_sQ ξ 6 N.1 (some w)) 0 1 (nI N.1 + 1)) 6 = xQ (xs_sQ ξ 6 N.1 (some w)) 6 := rfl
          by_cases h9 : i = N.1
          · refine ⟨w, ?_, ?_⟩
            · rw [h9]; exact sQ_s
            · show sOf G F w (vp_updL N.2 N.1 c i)
              rw [h9, pk_uLs]
              exact hw
          · obtain ⟨a, a1, a2⟩ := n3 i (by omega)
            refine ⟨a, ?_, ?_⟩
            · exact (sQ_o h9).trans a1
            · show sOf G F a (vp_updL N.2 N.1 c i)
              rw [pk_uLn h9]
              exact a2)
  | f + 1, k, y, hk, hy, he => B_X0_number_2_f (by
      obtain ⟨n1, n2, n3⟩ := id hN
      subst hy
      obtain ⟨a, a1, a2⟩ := n3 k (by omega)
      have hst : stX G F a _ _ := Or.inl a2.choose_spec.choose_spec.2.2.1
      refine x_gi H hR.1 (by decide) n1 ⟨fun c9 => absurd c9 (nI_ge (by omega) (by omega)), fun _ => x_gr H hR.1 (by decide) hL.1 (x_ar H hR.2.2.2.1 (by decide) hL.2.2.2.2.1 rfl (show k < 40 by omega) (by decide) a1 (X_Go H hst (X_eqS (d := d) H hG a2 hw (fun e => y2 (hQ k ?_ (by omega))) fun e => z2 (X_number_l H hG hR hL hN hw hQ hF hA f (k + 1) (by omega) (nI_1 k) ?_))))⟩
      · rw [he]
        unfold ps_fn
        rw [if_pos e]
      · rw [he]
        show (if N.2 k = c then k else ps_fn N c f (k + 1)) = _
        rw [if_neg e])
/-- a name, which stays at hand -/
theorem X_name (h : XI G A T n p N F D ξ σ) (hG : GK G) (hcr : cr G x σ) {Q : Int32 → am_S → Prop} (hy : ∀ k p' N', ps_name T p N = ps_ok k p' N' → lxt T p = 2 → p' = lxe T p → k < 40 → ∀ F' ξ' σ', XI G A T n p N' F' D ξ' σ' → pf D F ξ F' ξ' → xI ξ' 1 4 = xI ξ 1 4 → xI ξ' 1 5 = xI ξ 1 5 → σ'.2 = σ.2 → Q (nI k) σ') (hn : XFn G A T n F D ξ x (ps_name T p N) E) : W_X4_name G (d + 4) (A 1) σ Q E := by
  obtain ⟨hB, hN, hK, hp⟩ := id h
  have hR := hB.2.2.1
  have hL := hB.2.2.2.1
  have no : ∀ v2 : Int32, xI ξ 1 2 = v2 → ¬ v2 = 2 → ¬ lxt T p = 2 → W_X4_name G (d + 4) (A 1) σ Q E := fun v2 e2 n2 nt => by
    refine W_X4_name_f (x_gi hB.1 hR.2.1 (by decide) e2 ⟨fun c => absurd c n2, fun _ => x_o hB.1 hR.2.1 (by decide) (h.bad (d := d + 2) (hn 1 _ N (by unfold ps_name; rw [if_neg nt])) hcr)⟩)
  rcases hK.2.2 with ⟨a, b⟩ | ⟨a, b, w, g1, g2⟩ | ⟨j, a, b, e, -⟩ | ⟨a, b, -⟩ | ⟨a, b, -⟩ | ⟨c', a, b, e, -⟩ | ⟨a, b⟩
  · exact no 0 b (by decide) (by rw [a]; decide)
  · have hle := ps_fn_le (N := N) (c := lxn T p) (f := N.1) (i := 0)
    have h40 := hN.2.1
    refine W_X4_name_f (x_gi hB.1 hR.2.1 (by decide) b ⟨fun _ => x_gr hB.1 hR.2.1 (by decide) hL.2.2.2.1 (x_gr hB.1 hR.2.1 (by decide) g1 (x_o hB.1 hR.1 (by decide) (W_X0_number_f (X_number_l (d := d + 1) hB.1 hG hR hL hN g2 (fun k hk hkN => ?_) (fun hk h4 => ?_) (fun hk h4 ξ' σ' H' e' s' i' r' q' N' => ?_) N.1 0 (by omega) rfl rfl)))), fun c => absurd rfl c⟩)
    · refine ⟨fun _ => ?_, fun c => absurd c (nI_m1 (by omega))⟩
      refine hy k (lxe T p) N ?_ a rfl (by omega) F ξ σ h pf.refl rfl rfl rfl
      unfold ps_name
      rw [if_pos a]
      dsimp only
      rw [hk, if_pos hkN]
    · refine ⟨fun c => absurd rfl c, fun _ => x_gr hB.1 hR.2.1 (by decide) hL.2.2.2.1 (x_gi hB.1 hR.2.1 (by decide) hK.2.1 (x_o hB.1 hR.1 (by decide) (h.ft (hn 3 (lxa T p) N ?_) rfl hcr)))⟩
      unfold ps_name
      rw [if_pos a]
      dsimp only
      rw [hk, if_neg (by omega), if_pos h4]
    · refine ⟨fun _ => ?_, fun c => absurd c (nI_m1 (by omega))⟩
      have s1 := s' 1 (by decide)
      have hx : xk ξ ξ' := ⟨i' 18 (by decide), r', congrFun s1.2.1 7, q', (s' 8 (by decide)).2.2.2.2, (s' 8 (by decide)).2.2.1⟩
      refine hy N.1 (lxe T p) (N.1 + 1, vp_updL N.2 N.1 (lxn T p)) ?_ a rfl (by omega) F ξ' σ' ⟨hB.up H' FE.refl XD.refl hB.2.1 hx, N', hK.up FE.refl (fun k _ => congrFun s1.1 k) (congrFun s1.2.1 6), hp⟩ ⟨FE.refl, fun r hr h9 => s' r fun h8 => h9 ((by decide : ∀ r ∈ [0, 6], r ∈ [0, 1, 4, 6]) r h8), i', r'⟩ (congrFun s1.1 4) (congrFun s1.1 5) e'
      unfold ps_name
      rw [if_pos a]
      dsimp only
      rw [hk, if_neg (by omega), if_neg h4]
  · exact no 3 e (by decide) (by rw [b]; exact fun e => tk_ne a (Or.inl (show 2 < 100 by decide)) (by decide) e)
  · exact no 4 b (by decide) (by rw [a]; decide)
  · exact no 5 b (by decide) (by rw [a]; decide)
  · obtain ⟨k', g1', g2', g3'⟩ := sg_c a
    exact no 5 e (by decide) (by
      rw [b, g3', show (200 : Int32) = nI 200 from rfl, nI_add]
      intro e
      have := (nI_eq (show 200 + k' < 2 ^ 31 by omega) (show 2 < 2 ^ 31 by decide)).mp e
      omega)
  · rcases b with b | ⟨b, -⟩
    · exact no 1 b (by decide) (by rw [a]; decide)
    · exact no 5 b (by decide) (by rw [a]; decide)
theorem X_takesName (h : XI G A T n p N F D ξ σ) (hG : GK G) (hcr : cr G (600 * (n + 1 - p) + x) σ) {Q : Int32 → am_S → Prop} (hy : ∀ k p' N', ps_name T p N = ps_ok k p' N' → k < 40 → Xk G A T n F D ξ p p' N' (x + 590) (Q (nI k))) (hn : XFn G A T n F D ξ x (ps_name T p N) E) : W_X4_takesName G (d + 9) (A 1) σ Q E := by
  have r1 := h.1.2.2.1.2.1
  refine W_X4_takesName_f (x_o h.1.1 r1 (by decide) (X_name (d := d + 4) (x := 600 * (n + 1 - p) + x) h hG hcr (fun k p' N' h1 h2 h3 h4 F1 ξ1 σ1 g1 g2 g3 g4 g5 => x_o g1.1.1 g1.1.2.2.1.2.1 (by decide) (g1.next hG (by rw [h2]; decide) (hcr.eq g5) fun F' ξ' σ' k1 k2 k3 k4 k5 k6 => ?_)) fun k q N' h1 => (hn k q N' h1).pre pf.refl XD.refl h.1.2.1 h.1.2.2.1 (by omega)))
  subst h3
  exact hy k _ N' h1 h4 F' ξ' σ' k1 (g2.trans k2) (k3.trans g3) (k4.trans g4) k5 k6
/-- one more is opened -/
theorem X_opens (h : XI G A T n p N F D ξ σ) (hG : GK G) {r : Nat} (hr : r ≤ 12) (h4 : xI ξ 1 4 = nI (12 - r)) (h0 : ¬ lxt T p = 0) (hcr : cr G (600 * (n + 1 - p) + x) σ) {Q : am_S → Prop} (hy : ∀ s, r = s + 1 → ∀ F' ξ' σ', XI G A T n (lxe T p) N F' D ξ' σ' → pf D F ξ F' ξ' → xI ξ' 1 4 = nI (12 - s) → xI ξ' 1 5 = xI ξ 1 5 → p < lxe T p → cr G (600 * (n + 1 - lxe T p) + (x + 590)) σ' → Q σ') (hn : r = 0 → XFt G A T n F D ξ x E 3 (lxa T p) N) : W_X4_opens G (d + 9) (A 1) σ Q E := by
  obtain ⟨hB, hN, hK, hp⟩ := id h
  have hR := hB.2.2.1
  refine W_X4_opens_f (x_gi hB.1 hR.2.1 (by decide) h4 ⟨fun n12 => x_gi hB.1 hR.2.1 (by decide) h4 (x_p hB.1 hR.2.1 (by decide) fun σ3 H3 e3 => ?_), fun c12 => ?_⟩)
  · have hr0 : ¬ r = 0 := fun e => n12 (by rw [e]; rfl)
    have h3 : XI G A T n p N F D (xs_sI ξ 1 4 (nI (12 - r) + 1)) σ3 := ⟨hB.sI1 H3, hN, hK.up FE.refl (fun k hk => sI_o (by omega)) rfl, hp⟩
    refine x_o H3 hR.2.1 (by decide) (h3.next hG h0 (hcr.eq e3) fun F' ξ' σ' g1 g2 g3 g4 g5 g6 => hy (r - 1) (by omega) F' ξ' σ' g1 ?_ ?_ (g4.trans (sI_o (by decide))) g5 g6)
    · refine pf.trans (F1 := F) (ξ1 := xs_sI ξ 1 4 (nI (12 - r) + 1)) ⟨FE.refl, fun r hr h9 => sI_sc fun e => h9 (by rw [e]; decide), fun k _ => congrFun (sI_sc (by decide)).1 k, (sI_sc (by decide)).2.1⟩ g2
    · rw [g3, sI_s, nI_1]
      congr 1
      omega
  · have hr0 : r = 0 := by
      have := (nI_eq (show 12 - r < 2 ^ 31 by omega) (show 12 < 2 ^ 31 by decide)).mp c12
      omega
    exact x_gr hB.1 hR.2.1 (by decide) hB.2.2.2.1.2.2.2.1 (x_gi hB.1 hR.2.1 (by decide) hK.2.1 (x_o hB.1 hR.1 (by decide) (h.ft (hn hr0) rfl (hcr.le (by omega)))))
end
