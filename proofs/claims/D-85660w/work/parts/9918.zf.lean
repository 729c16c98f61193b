set_option maxRecDepth 100000
/-- things that lie in Rows -/
def LsR {α : Type} (P : am_H → α → Nat → Prop) (F : am_H) (ws : List Nat) (as : List α) : Prop := ws.length = as.length ∧ ∀ (q : Nat) (a : α) (w : Nat), as[q]? = some a → ws[q]? = some w → P F a w
theorem LsR.mono {α : Type} {P : am_H → α → Nat → Prop} (hP : ∀ F F1 a w, FE F F1 → P F a w → P F1 a w) {F F1 : am_H} (hF : FE F F1) {ws : List Nat} {as : List α} (h : LsR P F ws as) : LsR P F1 ws as := ⟨h.1, fun q a w h1 h2 => hP _ _ _ _ hF (h.2 q a w h1 h2)⟩
theorem LsR.app {α : Type} {P : am_H → α → Nat → Prop} {F : am_H} {ws : List Nat} {as : List α} (h : LsR P F ws as) {a : α} {w : Nat} (hp : P F a w) : LsR P F (ws ++ [w]) (as ++ [a]) := ⟨by rw [List.length_append, List.length_append, h.1]; rfl, fun q x v h1 h2 => by
  rcases getApp h1 with ⟨b1, b2⟩ | ⟨b1, b2⟩
  · rcases getApp h2 with ⟨c1, c2⟩ | ⟨c1, c2⟩
    · exact h.2 q x v b2 c2
    · have := h.1; omega
  · rcases getApp h2 with ⟨c1, c2⟩ | ⟨c1, c2⟩
    · have := h.1; omega
    · rw [b2, c2]; exact hp⟩
section
variable {G : am_G} {A : Nat → Nat} {T : Nat → Int32} {n d x p : Nat} {N : ps_N} {F : am_H} {D : xs_D} {ξ : xs_X} {σ : am_S} {E : Nat → am_S → Prop}
/-- one comes to the Rows of a list -/
theorem X_lsAdd {α : Type} {P : am_H → α → Nat → Prop} (hok : ∀ F a v D, P F a v → OKW F D v) (hG : GK G) (h : XI G A T n p N F D ξ σ) {D0 : xs_D} (hD0 : XD D0 D) (hR0 : RR A D0) {b l cap m : Nat} {e : Option Nat} {ws : List Nat} {as : List α} (hR : RW G D ξ b l e cap ws) (hLs : LsR P F ws as) (hno : ∀ q, rwR b l e q → ¬ D0.2.2 q) (hlen : ws.length < 1100) {a : α} {w : Nat} (hP : P F a w) (hcr : cr G (m + (ws.length + 5)) σ) {Q : am_S → Prop} (hQ : ∀ D' ξ' σ' e' cap', XD D D' → XI G A T n p N F D' ξ' σ' → RW G D' ξ' b l e' cap' (ws ++ [w]) → LsR P F (ws ++ [w]) (as ++ [a]) → (∀ q, rwR b l e' q → ¬ D0.2.2 q) → (∀ q, D.2.2 q → ¬ rwR b l e q → sc ξ ξ' q) → cr G m σ' → Q σ') : W_X7_add G (d + 8) b (some w) σ Q := by
  refine X_rowsAdd (d := d) (m := m) h.1.1 hG h.1.2.1 hR hlen (hok _ _ _ _ hP) (fun v hv => ?_) hcr fun D4 ξ4 σ4 e' cap' x4 t4 he R4 H4 s4 c4 => ?_
  · obtain ⟨q, hq⟩ := List.getElem?_of_mem hv
    have hql := get_lt hq
    exact hok _ _ _ _ (hLs.2 q _ v (List.getElem?_eq_getElem (by rw [← hLs.1]; exact hql)) hq)
  · have s40 : ∀ q, D0.2.2 q → sc ξ ξ4 q := fun q hq => s4 q (hD0.has hq) fun hr => hno q hr hq
    refine hQ D4 ξ4 σ4 e' cap' x4 (h.up H4 FE.refl x4 t4 fun j hj => s40 j (by
      rcases hj with e | e | e | e
      · rw [e]; exact hR0.1.1
      · rw [e]; exact hR0.2.1.1
      · rw [e]; exact hR0.2.2.2.1.1
      · rw [e]; exact hR0.2.2.2.2.1)) R4 (hLs.app hP) (fun q hq h9 => ?_) s4 c4
    rcases he with e1 | ⟨t, e1, e2⟩
    · rw [e1] at hq; exact hno q hq h9
    · rcases hq with e3 | e3 | ⟨t', e3, e4⟩
      · exact hno q (Or.inl e3) h9
      · exact hno q (Or.inr (Or.inl e3)) h9
      · rw [e1] at e3
        cases e3
        rw [e4] at h9
        exact e2 (hD0.has h9)
theorem RW.ne {b l cap i v c : Nat} {e : Option Nat} {ws : List Nat} (hR : RW G D ξ b l e cap ws) (hi : rl D i v c) (hc : c ≠ 7 ∧ c ≠ 33 ∧ c ≠ 116) : ¬ rwR b l e i := fun h => by
  rcases h with h | h | ⟨a, h1, h⟩
  · have := hR.1.2.2
    rw [← h, hi.2.2] at this
    exact hc.1 this
  · have := hR.2.1.2.2
    rw [← h, hi.2.2] at this
    exact hc.2.1 this
  · subst h1
    have := hR.2.2.2.2.2.2.2.2.1.2.2
    rw [← h, hi.2.2] at this
    exact hc.2.2 this
/-- what is asked of a list in Rows that is read: the thing that holds it has the role i -/
def LiQ {α : Type} (G : am_G) (A : Nat → Nat) (T : Nat → Int32) (n : Nat) (F0 : am_H) (D0 : xs_D) (ξ0 : xs_X) (P : am_H → α → Nat → Prop) (i v c b l : Nat) (ξi : xs_X) (p x : Nat) (as : List α) (res : ps_R (List α)) (Q : Option Nat → am_S → Prop) : Prop := ∀ l' p' N', res = ps_ok l' p' N' → ∀ F' D' ξ' σ' e' cap' ws', XI G A T n p' N' F' D' ξ' σ' → XD D0 D' → rl D' i v c → sc ξi ξ' i → pf D0 F0 ξ0 F' ξ' → RW G D' ξ' b l e' cap' ws' → LsR P F' ws' (as ++ l') → (∀ q, rwR b l e' q → ¬ D0.2.2 q) → xI ξ' 1 4 = nI 0 → p < p' → cr G (600 * (n + 1 - p') + x) σ' → Q (some v) σ'
/-- members of a kind that comes -/
theorem X_comes_l (hG : GK G) (hd : 48 ≤ d) (he : ∀ p, 1000 ≤ p → T p = -1) {F0 : am_H} {D0 : xs_D} {ξ0 ξi : xs_X} (hT0 : TD D0) (hR0 : RR A D0) {i v b l p0 : Nat} (hi0 : ¬ D0.2.2 i) (hib : xR ξi i 3 = some b) (hx : 60 ≤ x) {Q : Option Nat → am_S → Prop} : ∀ (g p : Nat) (N : ps_N) (F : am_H) (D : xs_D) (ξ : xs_X) (σ : am_S) (e : Option Nat) (cap : Nat) (ws : List Nat) (ms : List Mem), 1001 ≤ p + g → 3 * ws.length + p0 ≤ p → XI G A T n p N F D ξ σ → XD D0 D → rl D i v 25 → sc ξi ξ i → xI ξ 1 4 = nI 0 → pf D0 F0 ξ0 F ξ → RW G D ξ b l e cap ws → LsR (fun F => isMe F) F ws ms → (∀ q, rwR b l e q → ¬ D0.2.2 q) → cr G (600 * (n + 1 - p) + x) σ → LiQ G A T n F0 D0 ξ0 (fun F => isMe F) i v 25 b l ξi p x ms (ps_list T (ps_mem T noC) g p N) Q → XFn G A T n F0 D0 ξ0 (x - 60) (ps_list T (ps_mem T noC) g p N) E → B_X4_comes_29 G (d + 19) (A 1) (some v) σ Q E
  | 0, p, N, F, D, ξ, σ, e, cap, ws, ms, hg, hp0, h, hD0, ri, hsi, h4, hpf, hR, hLs, hno, hcr, hQ, hE => by
    have hn : n ≤ 1000 := h.1.2.2.2.2.1
    have := h.2.2.2
    omega
  | g + 1, p, N, F, D, ξ, σ, e, cap, ws, ms, hg, hp0, h, hD0, ri, hsi, h4, hpf, hR, hLs, hno, hcr, hQ, hE => by
    have r1 := h.1.2.2.1.2.1
    have hn : n ≤ 1000 := h.1.2.2.2.2.1
    have hpn : p ≤ n := h.2.2.2
    have hN40 : N.1 ≤ 40 := h.2.1.2.1
    unfold ps_list at hQ hE
    refine B_X4_comes_29_f (x_o h.1.1 r1 (by decide) (X_isMember (d := d + 15) h hG (fun hm => y2 ?_) fun hm => z2 ?_))
    · have h325 : ¬ lxt T p = 325 := fun e => by rw [e] at hm; exact absurd hm (by decide)
      rw [if_neg h325] at hQ hE
      refine x_gr h.1.1 ri (by decide) ((congrFun hsi.2.1 3).trans hib) (x_o h.1.1 r1 (by decide) (X_member_n (d := d) (x := x) hG hd h h4 hcr hm (fun m p' N' e1 F1 ξ1 σ1 w g1 g2 g3 g4 g5 g6 => ?_) fun kd q N' e1 => (hE kd q N' (by show ps_b (ps_mem T noC p N) _ = _; rw [show ps_mem T noC p N = ps_f kd q N' from e1]; rfl)).pre hpf hD0 hT0 hR0 (by omega)))
      have e1' : ps_mem T noC p N = ps_ok m p' N' := e1
      obtain ⟨-, -, -, -, hp3, -⟩ := ps_mem_is he e1' (by omega) hN40
      rw [e1'] at hQ hE
      have hR1 : RW G D ξ1 b l e cap ws := hR.up XD.refl fun q hq => g2.2.1 q (hR.has hq).1 (by have := (hR.has hq).2; simp; omega)
      have hp1000 : p ≤ 1000 := by omega
      have hi9 : i ∉ [0, 1, 4, 6] := hR0.nin hi0
      refine x_o g1.1.1 hR1.1 (by decide) (X_lsAdd (d := d + 10) (m := 600 * (n + 1 - p') + x) (P := fun F => isMe F) (fun _ _ _ _ h => h.okw) hG g1 hD0 hR0 hR1 (hLs.mono (fun _ _ _ _ hF h => h.mono hF) g2.1) hno (by omega) g6 (g5.le (by omega)) fun D' ξ' σ' e' cap' xd k1 k2 k3 k4 k5 k6 => ?_)
      have hs0 : ∀ q, D0.2.2 q → sc ξ1 ξ' q := fun q hq => k5 q (hD0.has hq) fun hr => hno q hr hq
      refine X_comes_l hG hd he hT0 hR0 hi0 hib hx g p' N' F1 D' ξ' σ' e' cap' (ws ++ [w]) (ms ++ [m]) (by omega) (by rw [List.length_append]; show 3 * (ws.length + 1) + p0 ≤ p'; omega) k1 (hD0.trans xd) (xd _ _ _ ri) ((hsi.trans (g2.2.1 i ri.1 hi9)).trans (k5 i ri.1 (hR1.ne ri (by decide)))) ((congrFun (hs0 1 hR0.2.1.1).1 4).trans g3) ((hpf.trans (g2.less hD0)).trans (pf.own hR0 hs0)) k2 k3 k4 k6 (fun l' p2 N2 e2 F2 D2 ξ2 σ2 e2' cap2 ws2 m1 m2 m3 m4 m5 m6 m7 m8 m9 m10 m11 => ?_) fun kd q N2 e2 => hE kd q N2 (by show ps_b (ps_list T (ps_mem T noC) g p' N') _ = _; rw [e2]; rfl)
      exact hQ (m :: l') p2 N2 (by show ps_b (ps_list T (ps_mem T noC) g p' N') _ = _; rw [e2]; rfl) F2 D2 ξ2 σ2 e2' cap2 ws2 m1 m2 m3 m4 m5 m6 (by rw [List.append_assoc] at m7; exact m7) m8 m9 (by omega) m11
    · refine x_o h.1.1 r1 (by decide) (X_needs (d := d + 8) (x := x) h hG (c := 125) (by decide) hcr (fun e2 F1 ξ1 σ1 g1 g2 g3 g4 g5 g6 => ?_) fun kd q N3 e2 => ?_)
      · have h325 : lxt T p = 325 := by
          unfold ps_need at e2
          by_cases h9 : lxt T p = 200 + 125
          · exact h9
          · rw [if_neg h9] at e2; cases e2
        rw [if_pos h325] at hQ
        have hi9 : i ∉ [0, 1, 4, 6] := hR0.nin hi0
        exact hQ [] (lxe T p) N rfl F1 D ξ1 σ1 e cap ws g1 hD0 ri (hsi.trans (g2.2.1 i ri.1 hi9)) (hpf.trans (g2.less hD0)) (hR.up XD.refl fun q hq => g2.2.1 q (hR.has hq).1 (by have := (hR.has hq).2; simp; omega)) (by rw [List.append_nil]; exact hLs.mono (fun _ _ _ _ hF h => h.mono hF) g2.1) hno (g3.trans h4) g5 (g6.le (by omega))
      · have h325 : ¬ lxt T p = 325 := fun e => by
          unfold ps_need at e2
          rw [if_pos (show lxt T p = 200 + 125 from e)] at e2
          cases e2
        rw [if_neg h325] at hE
        have : ps_need T 125 p N = ps_f 1 (lxa T p) N := by unfold ps_need; rw [if_neg (show ¬ lxt T p = 200 + 125 from h325)]
        rw [this] at e2
        unfold ps_f at e2
        injection e2 with e3 e4
        injection e3 with e3
        injection e3 with e5 e6
        subst e5; subst e6; subst e4
        refine (hE 1 (lxa T p) N ?_).pre hpf hD0 hT0 hR0 (by omega)
        unfold ps_mem
        rw [if_pos hm]
        rfl
/-- edits of a kind -/
theorem X_changes_l (hG : GK G) (hd : 48 ≤ d) (he : ∀ p, 1000 ≤ p → T p = -1) {F0 : am_H} {D0 : xs_D} {ξ0 ξi : xs_X} (hT0 : TD D0) (hR0 : RR A D0) {i v b l p0 : Nat} (hi0 : ¬ D0.2.2 i) (hib : xR ξi i 2 = some b) (hx : 60 ≤ x) {Q : Option Nat → am_S → Prop} : ∀ (g p : Nat) (N : ps_N) (F : am_H) (D : xs_D) (ξ : xs_X) (σ : am_S) (e : Option Nat) (cap : Nat) (ws : List Nat) (ms : List Edt), 1001 ≤ p + g → 3 * ws.length + p0 ≤ p → XI G A T n p N F D ξ σ → XD D0 D → rl D i v 26 → sc ξi ξ i → xI ξ 1 4 = nI 0 → pf D0 F0 ξ0 F ξ → RW G D ξ b l e cap ws → LsR isEt F ws ms → (∀ q, rwR b l e q → ¬ D0.2.2 q) → cr G (600 * (n + 1 - p) + x) σ → LiQ G A T n F0 D0 ξ0 isEt i v 26 b l ξi p x ms (ps_list T (ps_edit T) g p N) Q → XFn G A T n F0 D0 ξ0 (x - 60) (ps_list T (ps_edit T) g p N) E → B_X4_changes_22 G (d + 19) (A 1) (some v) σ Q E
  | 0, p, N, F, D, ξ, σ, e, cap, ws, ms, hg, hp0, h, hD0, ri, hsi, h4, hpf, hR, hLs, hno, hcr, hQ, hE => by
    have hn : n ≤ 1000 := h.1.2.2.2.2.1
    have := h.2.2.2
    omega
  | g + 1, p, N, F, D, ξ, σ, e, cap, ws, ms, hg, hp0, h, hD0, ri, hsi, h4, hpf, hR, hLs, hno, hcr, hQ, hE => by
    have r1 := h.1.2.2.1.2.1
    have hn : n ≤ 1000 := h.1.2.2.2.2.1
    have hpn : p ≤ n := h.2.2.2
    have hN40 : N.1 ≤ 40 := h.2.1.2.1
    have hTD := h.1.2.1
    have hRR := h.1.2.2.1
    have hi9 : i ∉ [0, 1, 4, 6] := hR0.nin hi0
    have hp1000 : p ≤ 1000 := by omega
    unfold ps_list at hQ hE
    refine B_X4_changes_22_f (x_o h.1.1 r1 (by decide) (X_isSign h (t := 325) (Or.inl ⟨by decide, rfl⟩) ?_))
    by_cases h325 : lxt T p = 325
    · rw [if_pos h325]
      rw [if_pos h325] at hQ
      refine y1 (x_o h.1.1 r1 (by decide) (h.next (d := d + 10) hG (by rw [h325]; decide) hcr fun F1 ξ1 σ1 g1 g2 g3 g4 g5 g6 => ?_))
      exact hQ [] (lxe T p) N rfl F1 D ξ1 σ1 e cap ws g1 hD0 ri (hsi.trans (g2.2.1 i ri.1 hi9)) (hpf.trans (g2.less hD0)) (hR.up XD.refl fun q hq => g2.2.1 q (hR.has hq).1 (by have := (hR.has hq).2; simp; omega)) (by rw [List.append_nil]; exact hLs.mono (fun _ _ _ _ hF h => h.mono hF) g2.1) hno (g3.trans h4) g5 (g6.le (by omega))
    · rw [if_neg h325]
      rw [if_neg h325] at hQ hE
      -- one that was read comes
      have put : ∀ (a : Edt) (p' : Nat) (N' : ps_N), ps_edit T p N = ps_ok a p' N' → ∀ (F1 : am_H) (ξ1 : xs_X) (σ1 : am_S) (w : Nat), XI G A T n p' N' F1 D ξ1 σ1 → pf D F ξ F1 ξ1 → xI ξ1 1 4 = nI 0 → cr G (600 * (n + 1 - p') + (x + 520)) σ1 → isEt F1 a w → f_o σ1 (some b) [7] (fun b => W_X7_add G (d + 18) b (some w) σ1 (fun σ19 => B_X4_changes_22 G (d + 19) (A 1) (some v) σ19 Q E)) := fun a p' N' e1 F1 ξ1 σ1 w g1 g2 g3 g5 g6 => by
        obtain ⟨-, -, hp3, -⟩ := ps_edit_is he e1 (by omega) hN40
        rw [e1] at hQ hE
        have hR1 : RW G D ξ1 b l e cap ws := hR.up XD.refl fun q hq => g2.2.1 q (hR.has hq).1 (by have := (hR.has hq).2; simp; omega)
        refine x_o g1.1.1 hR1.1 (by decide) (X_lsAdd (d := d + 10) (m := 600 * (n + 1 - p') + x) (P := isEt) (fun _ _ _ _ h => h.okw) hG g1 hD0 hR0 hR1 (hLs.mono (fun _ _ _ _ hF h => h.mono hF) g2.1) hno (by omega) g6 (g5.le (by omega)) fun D' ξ' σ' e' cap' xd k1 k2 k3 k4 k5 k6 => ?_)
        have hs0 : ∀ q, D0.2.2 q → sc ξ1 ξ' q := fun q hq => k5 q (hD0.has hq) fun hr => hno q hr hq
        refine X_changes_l hG hd he hT0 hR0 hi0 hib hx g p' N' F1 D' ξ' σ' e' cap' (ws ++ [w]) (ms ++ [a]) (by omega) (by rw [List.length_append]; show 3 * (ws.length + 1) + p0 ≤ p'; omega) k1 (hD0.trans xd) (xd _ _ _ ri) ((hsi.trans (g2.2.1 i ri.1 hi9)).trans (k5 i ri.1 (hR1.ne ri (by decide)))) ((congrFun (hs0 1 hR0.2.1.1).1 4).trans g3) ((hpf.trans (g2.less hD0)).trans (pf.own hR0 hs0)) k2 k3 k4 k6 (fun l' p2 N2 e2 F2 D2 ξ2 σ2 e2' cap2 ws2 m1 m2 m3 m4 m5 m6 m7 m8 m9 m10 m11 => ?_) fun kd q N2 e2 => hE kd q N2 (by show ps_b (ps_list T (ps_edit T) g p' N') _ = _; rw [e2]; rfl)
        exact hQ (a :: l') p2 N2 (by show ps_b (ps_list T (ps_edit T) g p' N') _ = _; rw [e2]; rfl) F2 D2 ξ2 σ2 e2' cap2 ws2 m1 m2 m3 m4 m5 m6 (by rw [List.append_assoc] at m7; exact m7) m8 m9 (by omega) m11
      refine z1 (x_gr h.1.1 ri (by decide) ((congrFun hsi.2.1 2).trans hib) (x_o h.1.1 r1 (by decide) (X_isMember (d := d + 15) h hG (fun hm => y2 ?_) fun hm => z2 ?_)))
      · -- a member
        have hme : ps_edit T p N = ps_b (ps_mem T noC p N) fun m p1 N1 => ps_ok (.inl m) p1 N1 := by
          obtain ⟨k, k1, k2, k3⟩ := (i7 (t := lxt T p) (a := 102) (b := 105) (by decide) (by decide)).mp hm
          have ne : ∀ m : Nat, m < 2 ^ 31 → 105 < m → ¬ lxt T p = nI m := fun m hm9 hm8 h9 => by
            have := (nI_eq (by omega) hm9).mp (k3.symm.trans h9)
            omega
          unfold ps_edit
          rw [if_neg (show ¬ lxt T p = 117 from ne 117 (by decide) (by decide)), if_neg (show ¬ lxt T p = 119 from ne 119 (by decide) (by decide)), if_neg (show ¬ lxt T p = 120 from ne 120 (by decide) (by decide))]
        refine X_newO h (j := 1) (m := 600 * (n + 1 - p) + (x - 1)) ok_27 (by decide) (hcr.le (by omega)) ⟨by omega, by omega⟩ rfl fun D2 ξ2 σ2 i2 xd2 ni2 nn2 ri2 h2 p2 s2 e7 zz1 zz2 c2 => ?_
        have hq2 : ∀ q, D.2.2 q → q ≠ i2 := fun q hq e => ni2 (e ▸ hq)
        refine x_o h2.1.1 (xd2 _ _ _ r1) (by decide) (X_member_n (d := d) (x := x - 1) hG hd h2 ((congrFun (s2 1 hRR.2.1.1).1 4).trans h4) c2 hm (fun m p' N' e1 F1 ξ1 σ1 w g1 g2 g3 g4 g5 g6 => ?_) fun kd q N' e1 => (hE kd q N' (by rw [hme]; rw [show ps_mem T noC p N = ps_f kd q N' from e1]; rfl)).pre (hpf.trans (p2.less hD0)) (hD0.trans xd2) hT0 hR0 (by omega))
        have e1' : ps_mem T noC p N = ps_ok m p' N' := e1
        have e2' : ps_edit T p N = ps_ok (.inl m) p' N' := by rw [hme, e1']; rfl
        refine W_X30_init_f (d := d + 17) (x_pr g1.1.1 ri2 (by decide) fun σ3 H3 e3 => x_p H3 ri2 (by decide) fun σ4 H4 e4 => x_p H4 ri2 (by decide) fun σ5 H5 e5 => x_pr H5 ri2 (by decide) fun σ6 H6 e6 => ?_)
        obtain ⟨F', f1, f2, f3, f4, f5, f6⟩ := X_fin (g1.down xd2 hTD hRR) xd2 ni2 ri2 (fun q hq => (((sR_sc (hq2 q hq)).trans (sI_sc (hq2 q hq))).trans (sI_sc (hq2 q hq))).trans (sR_sc (hq2 q hq))) H6
        obtain ⟨f, q1, q2, q3⟩ := xE_f (c := 27) (i := i2) (ξ := xs_sR (xs_sI (xs_sI (xs_sR ξ1 i2 0 (some w)) i2 1 (-1)) i2 2 (-1)) i2 3 none) (by decide)
        refine put (.inl m) p' N' e2' F' _ σ6 _ f3 ((p2.trans (g2.less xd2)).trans f4) (f5.trans g3) ((((((g5.eq e3).eq e4).eq e5).eq e6)).le (by omega)) ⟨f, f2.trans (congrArg some q1), ⟨w, ?_, g6.mono f1⟩, ?_⟩
        · rw [q3 0 (by decide), xR_sR, if_neg (by decide)]
          show va_rf (xR (xs_sR ξ1 i2 0 (some w)) i2 0) = _
          rw [sR_s]
        · rw [q3 3 (by decide), sR_s]
      · exact x_o h.1.1 r1 (by decide) (X_edit (d := d + 1) (x := x) hG (by omega) h h4 hx hcr hm (fun a p' N' e1 F1 ξ1 σ1 w g1 g2 g3 g4 g5 g6 => put a p' N' e1 F1 ξ1 σ1 w g1 g2 g3 (g5.le (by omega)) g6) fun kd q N' e1 => (hE kd q N' (by rw [e1]; rfl)).pre hpf hD0 hT0 hR0 (by omega))
end
