set_option maxRecDepth 100000
/-! ===== X: patches' texts; Rows that are frozen ===== -/
/-- frozen Rows -/
def zRW (F : am_H) (b : Nat) (ws : List Nat) : Prop := ∃ l fb fl, F b = some (.inr (7, fb)) ∧ fb 0 = va_rf (some l) ∧ F l = some (.inr (33, fl)) ∧ fl 2 = .int (nI ws.length) ∧ ws.length ≤ 1100 ∧ (ws = [] ∨ ∃ e cap g, fl 1 = va_rf (some e) ∧ F e = some (.inl (16, cap, .inr (.inr (.inr (.inr g))))) ∧ ws.length ≤ cap ∧ cap ≤ 3000 ∧ ∀ q w : Nat, ws[q]? = some w → g q = some w)
theorem zRW.mono {F F1 : am_H} {b : Nat} {ws : List Nat} (h : zRW F b ws) (hF : FE F F1) : zRW F1 b ws := by
  obtain ⟨l, fb, fl, h1, h2, h3, h4, h5, h6⟩ := h
  refine ⟨l, fb, fl, hF _ _ h1, h2, hF _ _ h3, h4, h5, ?_⟩
  rcases h6 with h6 | ⟨e, cap, g, k1, k2, k3⟩
  · exact Or.inl h6
  · exact Or.inr ⟨e, cap, g, k1, hF _ _ k2, k3⟩
/-- frozen Rows of things -/
def zL {α : Type} (F : am_H) (P : α → Nat → Prop) (b : Nat) (as : List α) : Prop := ∃ ws, zRW F b ws ∧ ws.length = as.length ∧ ∀ (q : Nat) (a : α) (w : Nat), as[q]? = some a → ws[q]? = some w → P a w
theorem zL.mono {α : Type} {F F1 : am_H} {P P1 : α → Nat → Prop} {b : Nat} {as : List α} (h : zL F P b as) (hF : FE F F1) (hP : ∀ a w, P a w → P1 a w) : zL F1 P1 b as := by
  obtain ⟨ws, h1, h2, h3⟩ := h
  exact ⟨ws, h1.mono hF, h2, fun q a w k1 k2 => hP _ _ (h3 q a w k1 k2)⟩
section
variable {G : am_G} {d m : Nat} {F : am_H} {D : xs_D} {ξ : xs_X} {σ : am_S}
theorem X_zSize (H : XS F D ξ σ) {b : Nat} {ws : List Nat} (hR : zRW F b ws) {Q : Int32 → am_S → Prop} (h : Q (nI ws.length) σ) : W_X7_size G (d + 1) b σ Q := by
  obtain ⟨l, fb, fl, h1, h2, h3, h4, h5, h6⟩ := hR
  exact W_X7_size_f (z_gr H h1 (by decide) h2 (z_o H h3 (by decide) (W_J14_size_f (z_gi H h3 (by decide) h4 h))))
theorem X_zGet (H : XS F D ξ σ) {b q w : Nat} {ws : List Nat} (hR : zRW F b ws) {x : Int32} (hx : x = nI q) (hq : ws[q]? = some w) {Q : Option Nat → am_S → Prop} (h : Q (some w) σ) : W_X7_get G (d + 4) b x σ Q := by
  obtain ⟨l, fb, fl, h1, h2, h3, h4, h5, h6⟩ := hR
  have hq' : q < ws.length := (List.getElem?_eq_some_iff.mp hq).1
  subst hx
  rcases h6 with h6 | ⟨e, cap, g, k1, k2, k3, k4, k5⟩
  · rw [h6] at hq'; exact absurd hq' (by simp)
  · refine W_X7_get_f (z_gr H h1 (by decide) h2 (z_o H h3 (by decide) (W_J14_get_f (z_gi H h3 (by decide) h4 (W_J15_checkIndex_f (d := d + 1) (W_J10_checkIndex_f (d := d) ⟨fun c => absurd c (nI_pos (by omega)), fun _ => ⟨fun _ => ?_, fun c => absurd ((nI_ltI (show q < 2 ^ 31 by omega) (show ws.length < 2 ^ 31 by omega)).mpr hq') c⟩⟩))))))
    exact z_o H h3 (by decide) (W_J14_elementData_f (z_gr H h3 (by decide) k1 (z_ar H k2 rfl (show q < cap by omega) (by omega) (k5 q w hq) h)))
/-- Rows are frozen -/
theorem X_rwF (H : XS F D ξ σ) {D0 : xs_D} (hD : XD D0 D) {b l cap : Nat} {e : Option Nat} {ws : List Nat} (hR : RW G D ξ b l e cap ws) (hno : ∀ q, rwR b l e q → ¬ D0.2.2 q) : ∃ F', FE F F' ∧ XS F' D0 ξ σ ∧ zRW F' b ws := by
  obtain ⟨a1, a2, a3, a4, a5, a6, a7, a8⟩ := hR
  have hbl : 2000 + b ≠ 2000 + l := fun e9 => by
    have h1 := a1.2.2
    rw [e9, a2.2.2] at h1
    cases h1
  obtain ⟨H1, hF1⟩ := H.frz a1 (fun _ _ => tf_no (by decide))
  have b2 : rl (D.1, D.2.1, fun q => q ≠ 2000 + b ∧ D.2.2 q) (2000 + l) l 33 := ⟨⟨Ne.symm hbl, a2.1⟩, a2.2.1, a2.2.2⟩
  obtain ⟨H2, hF2⟩ := H1.frz b2 (fun _ _ => tf_no (by decide))
  obtain ⟨fb, p1, p2, p3⟩ := xE_f (c := 7) (i := 2000 + b) (ξ := ξ) (by decide)
  obtain ⟨fl, q1, q2, q3⟩ := xE_f (c := 33) (i := 2000 + l) (ξ := ξ) (by decide)
  have nlb : b ≠ l := fun e9 => hbl (by rw [e9])
  cases e with
  | none =>
    have hw : ws = [] := by
      have h0 := a8.1
      have : ws.length = 0 := by omega
      exact List.eq_nil_of_length_eq_zero this
    refine ⟨_, (fzF_FE hF1).trans (fzF_FE hF2), H2.cong ((hD.drop (hno _ (Or.inl rfl))).drop (hno _ (Or.inr (Or.inl rfl)))), l, fb, fl, ?_, ?_, fzF_s.trans (congrArg some q1), ?_, a6, Or.inl hw⟩
    · unfold fzF
      rw [if_neg nlb, if_pos rfl, p1]
    · rw [p3 0 (by decide), a3]
    · rw [q2 2 (by decide), a4]
  | some e =>
    obtain ⟨b1, b2', b3, b4, b5⟩ := a8
    have heb : 2000 + e ≠ 2000 + b := fun e9 => by
      have h1 := b2'.2.2
      rw [e9, a1.2.2] at h1
      cases h1
    have hel : 2000 + e ≠ 2000 + l := fun e9 => by
      have h1 := b2'.2.2
      rw [e9, a2.2.2] at h1
      cases h1
    have c2 : rl (D.1, D.2.1, fun q => q ≠ 2000 + l ∧ q ≠ 2000 + b ∧ D.2.2 q) (2000 + e) e 116 := ⟨⟨hel, heb, b2'.1⟩, b2'.2.1, b2'.2.2⟩
    obtain ⟨H3, hF3⟩ := H2.frz c2 (fun _ _ => tf_no (by decide))
    refine ⟨_, ((fzF_FE hF1).trans (fzF_FE hF2)).trans (fzF_FE hF3), H3.cong (((hD.drop (hno _ (Or.inl rfl))).drop (hno _ (Or.inr (Or.inl rfl)))).drop (hno _ (Or.inr (Or.inr ⟨e, rfl, rfl⟩)))), l, fb, fl, ?_, ?_, ?_, ?_, a6, Or.inr ⟨e, cap, xQ ξ (2000 + e), ?_, fzF_s.trans ?_, a5, by omega, b5⟩⟩
    · unfold fzF
      rw [if_neg (by omega), if_neg nlb, if_pos rfl, p1]
    · rw [p3 0 (by decide), a3]
    · unfold fzF
      rw [if_neg (by omega), if_pos rfl, q1]
    · rw [q2 2 (by decide), a4]
    · rw [q3 1 (by decide), b1]
    · unfold xs_E
      rw [if_neg (by decide), if_neg (by decide), if_neg (by decide), if_neg (by decide), b3]
end
/-! edits and changes, read -/
def isEt (F : am_H) (e : Edt) (v : Nat) : Prop := ∃ f, F v = some (.inr (27, f)) ∧ match e with
  | .inl m => (∃ vw, f 0 = va_rf (some vw) ∧ isMe F m vw) ∧ f 3 = va_rf none
  | .inr (.inl n) => f 0 = va_rf none ∧ f 1 = .int n ∧ f 2 = .int (-1) ∧ f 3 = va_rf none
  | .inr (.inr (.inl (a, b))) => f 0 = va_rf none ∧ f 1 = .int a ∧ f 2 = .int b ∧ f 3 = va_rf none
  | .inr (.inr (.inr (n, t))) => f 0 = va_rf none ∧ f 1 = .int n ∧ f 2 = .int (-1) ∧ ∃ r, f 3 = va_rf (some r) ∧ xE F t r
theorem isEt.mono {F F1 : am_H} (hF : FE F F1) {e : Edt} {v : Nat} (h : isEt F e v) : isEt F1 e v := by
  obtain ⟨f, h1, h2⟩ := h
  refine ⟨f, hF _ _ h1, ?_⟩
  match e, h2 with
  | .inl m, ⟨⟨vw, k1, k2⟩, k3⟩ => exact ⟨⟨vw, k1, k2.mono hF⟩, k3⟩
  | .inr (.inl n), h2 => exact h2
  | .inr (.inr (.inl (a, b))), h2 => exact h2
  | .inr (.inr (.inr (n, t))), ⟨k1, k2, k3, r, k4, k5⟩ => exact ⟨k1, k2, k3, r, k4, xT.mono hF t _ _ _ _ _ k5⟩
def isCg (F : am_H) (c : Chg) (v : Nat) : Prop := ∃ k f, F v = some (.inr (k, f)) ∧ match c with
  | .inl (n, ab, ms) => k = 25 ∧ f 0 = .int n ∧ f 2 = .int (oN ab) ∧ ∃ b, f 3 = va_rf (some b) ∧ zL F (isMe F) b ms
  | .inr (.inl (n, es)) => k = 26 ∧ f 0 = .int n ∧ ∃ b, f 2 = va_rf (some b) ∧ zL F (isEt F) b es
  | .inr (.inr (.inl n)) => k = 28 ∧ f 0 = .int n
  | .inr (.inr (.inr (.inl (n, ab)))) => k = 29 ∧ f 0 = .int n ∧ f 2 = .int (oN ab)
  | .inr (.inr (.inr (.inr (n, t)))) => k = 30 ∧ f 0 = .int n ∧ ∃ r, f 2 = va_rf (some r) ∧ xE F t r
theorem isCg.mono {F F1 : am_H} (hF : FE F F1) {c : Chg} {v : Nat} (h : isCg F c v) : isCg F1 c v := by
  obtain ⟨k, f, h1, h2⟩ := h
  refine ⟨k, f, hF _ _ h1, ?_⟩
  match c, h2 with
  | .inl (n, ab, ms), ⟨k1, k2, k3, b, k4, k5⟩ => exact ⟨k1, k2, k3, b, k4, k5.mono hF fun a w h => h.mono hF⟩
  | .inr (.inl (n, es)), ⟨k1, k2, b, k4, k5⟩ => exact ⟨k1, k2, b, k4, k5.mono hF fun a w h => h.mono hF⟩
  | .inr (.inr (.inl n)), h2 => exact h2
  | .inr (.inr (.inr (.inl (n, ab)))), h2 => exact h2
  | .inr (.inr (.inr (.inr (n, t)))), ⟨k1, k2, r, k3, k4⟩ => exact ⟨k1, k2, r, k3, xT.mono hF t _ _ _ _ _ k4⟩
theorem isCg.okw {F : am_H} {D : xs_D} {c : Chg} {v : Nat} (h : isCg F c v) : OKW F D v := by
  obtain ⟨k, f, h1, h2⟩ := h
  refine OKW.z h1 ?_
  match c, h2 with
  | .inl (n, ab, ms), h2 => rw [h2.1]; decide
  | .inr (.inl (n, es)), h2 => rw [h2.1]; decide
  | .inr (.inr (.inl n)), h2 => rw [h2.1]; decide
  | .inr (.inr (.inr (.inl (n, ab)))), h2 => rw [h2.1]; decide
  | .inr (.inr (.inr (.inr (n, t)))), h2 => rw [h2.1]; decide
theorem isEt.okw {F : am_H} {D : xs_D} {e : Edt} {v : Nat} (h : isEt F e v) : OKW F D v := by
  obtain ⟨f, h1, -⟩ := h
  exact OKW.z h1 (by decide)
theorem isMe.okw {F : am_H} {D : xs_D} {m : Mem} {v : Nat} (h : isMe F m v) : OKW F D v := by
  obtain ⟨f, h1, -⟩ := h
  exact OKW.z h1 (by decide)
/-! how long such texts are -/
section
variable {T : Nat → Int32}
theorem ps_under_lt (he : ∀ p, 1000 ≤ p → T p = -1) {p p' : Nat} {ab : Option Int32} {N N' : ps_N} (h : ps_under T p N = ps_ok ab p' N') (hp : p ≤ 1000) (hN : N.1 ≤ 40) : N'.1 ≤ 40 ∧ p ≤ p' ∧ p' ≤ 1000 ∧ ∀ a, ab = some a → ∃ k, k < 40 ∧ a = nI k := by
  unfold ps_under at h
  by_cases h1 : lxt T p = 101
  · rw [if_pos h1] at h
    obtain ⟨k, p1, N1, g1, g2⟩ := ps_b_ok h
    have hs := lx_step he (p := p) (by rw [h1]; decide) hp
    obtain ⟨k1, k2, k3, k4⟩ := ps_name_lt he g1 hs.2 hN
    obtain ⟨e1, e2, e3⟩ := ps_ok_inj g2
    subst e1; subst e2; subst e3
    exact ⟨k2, by omega, k4, fun a ha => by cases ha; exact ⟨k, k1, rfl⟩⟩
  · rw [if_neg h1] at h
    obtain ⟨e1, e2, e3⟩ := ps_ok_inj h
    subst e1; subst e2; subst e3
    exact ⟨hN, Nat.le_refl _, hp, fun a ha => (by cases ha)⟩
theorem ps_end_lt (he : ∀ p, 1000 ≤ p → T p = -1) {α : Type} {a b : α} {p p' : Nat} {N N' : ps_N} (h : ps_end T a p N = ps_ok b p' N') (hp : p ≤ 1000) : b = a ∧ N' = N ∧ p < p' ∧ p' ≤ 1000 := by
  unfold ps_end at h
  obtain ⟨u, p1, N1, g1, g2⟩ := ps_b_ok h
  obtain ⟨k1, k2, k3⟩ := ps_need_lt he (by decide) g1 hp
  obtain ⟨e1, e2, e3⟩ := ps_ok_inj g2
  subst e1; subst e2; subst e3
  exact ⟨rfl, k1, k2, k3⟩
/-- names of an edit, its numbers' depth -/
def okEt (e : Edt) : Prop := match e with
  | .inl m => (∃ n, n < 40 ∧ m.2.1 = nI n) ∧ m.1 < 3 ∧ okB m.2.2.2 12
  | .inr (.inl n) => ∃ k, k < 40 ∧ n = nI k
  | .inr (.inr (.inl (a, b))) => (∃ k, k < 40 ∧ a = nI k) ∧ ∃ k, k < 40 ∧ b = nI k
  | .inr (.inr (.inr (n, t))) => (∃ k, k < 40 ∧ n = nI k) ∧ hm t ≤ 520
theorem ps_edit_is (he : ∀ p, 1000 ≤ p → T p = -1) {p p' : Nat} {e : Edt} {N N' : ps_N} (h : ps_edit T p N = ps_ok e p' N') (hp : p ≤ 1000) (hN : N.1 ≤ 40) : okEt e ∧ N'.1 ≤ 40 ∧ p + 2 < p' ∧ p' ≤ 1000 := by
  unfold ps_edit at h
  by_cases h1 : lxt T p = 117
  · rw [if_pos h1] at h
    have hs := lx_step he (p := p) (by rw [h1]; decide) hp
    obtain ⟨k, p1, N1, g1, g2⟩ := ps_b_ok h
    obtain ⟨k1, k2, k3, k4⟩ := ps_name_lt he g1 hs.2 hN
    obtain ⟨e1, e2, e3, e4⟩ := ps_end_lt he g2 k4
    subst e1; subst e2
    exact ⟨⟨k, k1, rfl⟩, k2, by omega, e4⟩
  rw [if_neg h1] at h
  by_cases h2 : lxt T p = 119
  · rw [if_pos h2] at h
    have hs := lx_step he (p := p) (by rw [h2]; decide) hp
    obtain ⟨k, p1, N1, g1, g2⟩ := ps_b_ok h
    obtain ⟨k', p2, N2, g3, g4⟩ := ps_b_ok g2
    obtain ⟨k1, k2, k3, k4⟩ := ps_name_lt he g1 hs.2 hN
    obtain ⟨l1, l2, l3, l4⟩ := ps_name_lt he g3 k4 k2
    obtain ⟨e1, e2, e3, e4⟩ := ps_end_lt he g4 l4
    subst e1; subst e2
    exact ⟨⟨⟨k, k1, rfl⟩, k', l1, rfl⟩, l2, by omega, e4⟩
  rw [if_neg h2] at h
  by_cases h3 : lxt T p = 120
  · rw [if_pos h3] at h
    have hs := lx_step he (p := p) (by rw [h3]; decide) hp
    obtain ⟨k, p1, N1, g1, g2⟩ := ps_b_ok h
    obtain ⟨t, p2, N2, g3, g4⟩ := ps_b_ok g2
    obtain ⟨k1, k2, k3, k4⟩ := ps_name_lt he g1 hs.2 hN
    obtain ⟨l1, l2, l3, l4⟩ := ps_exp_hm he (by omega) g3 k4 k2
    obtain ⟨e1, e2, e3, e4⟩ := ps_end_lt he g4 l4
    subst e1; subst e2
    exact ⟨⟨⟨k, k1, rfl⟩, l1⟩, l2, by omega, e4⟩
  rw [if_neg h3] at h
  obtain ⟨m, p1, N1, g1, g2⟩ := ps_b_ok h
  obtain ⟨a1, a2, a3, a4, a5, a6⟩ := ps_mem_is he g1 hp hN
  obtain ⟨e1, e2, e3⟩ := ps_ok_inj g2
  subst e1; subst e2; subst e3
  exact ⟨⟨a1, a2, a3⟩, a4, a5, a6⟩
theorem ps_list_is (he : ∀ p, 1000 ≤ p → T p = -1) {α : Type} {it : Nat → ps_N → ps_R α} {P : α → Prop} (hit : ∀ p N a p' N', it p N = ps_ok a p' N' → p ≤ 1000 → N.1 ≤ 40 → P a ∧ N'.1 ≤ 40 ∧ p + 2 < p' ∧ p' ≤ 1000) : ∀ (g p : Nat) (N : ps_N) (l : List α) (p' : Nat) (N' : ps_N), ps_list T it g p N = ps_ok l p' N' → p ≤ 1000 → N.1 ≤ 40 → (∀ a, a ∈ l → P a) ∧ N'.1 ≤ 40 ∧ p < p' ∧ p' ≤ 1000
  | 0, p, N, l, p', N', h, hp, hN => by cases h
  | g + 1, p, N, l, p', N', h, hp, hN => by
    unfold ps_list at h
    by_cases h1 : lxt T p = 325
    · rw [if_pos h1] at h
      have hs := lx_step he (p := p) (by rw [h1]; decide) hp
      obtain ⟨e1, e2, e3⟩ := ps_ok_inj h
      subst e1; subst e2; subst e3
      exact ⟨fun a ha => (List.not_mem_nil ha).elim, hN, hs.1, hs.2⟩
    · rw [if_neg h1] at h
      obtain ⟨a, p1, N1, g1, g2⟩ := ps_b_ok h
      obtain ⟨l2, p2, N2, g3, g4⟩ := ps_b_ok g2
      obtain ⟨k1, k2, k3, k4⟩ := hit _ _ _ _ _ g1 hp hN
      obtain ⟨m1, m2, m3, m4⟩ := ps_list_is he hit g p1 N1 l2 p2 N2 g3 k4 k2
      obtain ⟨e1, e2, e3⟩ := ps_ok_inj g4
      subst e1; subst e2; subst e3
      refine ⟨fun b hb => ?_, m2, by omega, m4⟩
      rcases List.mem_cons.mp hb with hb | hb
      · rw [hb]; exact k1
      · exact m1 b hb
theorem ps_brace_is (he : ∀ p, 1000 ≤ p → T p = -1) {α : Type} {it : Nat → ps_N → ps_R α} {P : α → Prop} (hit : ∀ p N a p' N', it p N = ps_ok a p' N' → p ≤ 1000 → N.1 ≤ 40 → P a ∧ N'.1 ≤ 40 ∧ p + 2 < p' ∧ p' ≤ 1000) {p p' : Nat} {N N' : ps_N} {l : List α} (h : ps_brace T it p N = ps_ok l p' N') (hp : p ≤ 1000) (hN : N.1 ≤ 40) : (∀ a, a ∈ l → P a) ∧ N'.1 ≤ 40 ∧ p < p' ∧ p' ≤ 1000 := by
  unfold ps_brace at h
  obtain ⟨u, p1, N1, g1, g2⟩ := ps_b_ok h
  obtain ⟨k1, k2, k3⟩ := ps_need_lt he (by decide) g1 hp
  subst k1
  obtain ⟨m1, m2, m3, m4⟩ := ps_list_is he hit 1001 _ _ _ _ _ g2 k3 hN
  exact ⟨m1, m2, by omega, m4⟩
/-- names of a change, its numbers' depth -/
def okCg (c : Chg) : Prop := match c with
  | .inl (n, ab, ms) => (∃ k, k < 40 ∧ n = nI k) ∧ (∀ a, ab = some a → ∃ k, k < 40 ∧ a = nI k) ∧ ∀ m : Mem, m ∈ ms → (∃ n, n < 40 ∧ m.2.1 = nI n) ∧ m.1 < 3 ∧ okB m.2.2.2 12
  | .inr (.inl (n, es)) => (∃ k, k < 40 ∧ n = nI k) ∧ ∀ e, e ∈ es → okEt e
  | .inr (.inr (.inl n)) => ∃ k, k < 40 ∧ n = nI k
  | .inr (.inr (.inr (.inl (n, ab)))) => (∃ k, k < 40 ∧ n = nI k) ∧ ∀ a, ab = some a → ∃ k, k < 40 ∧ a = nI k
  | .inr (.inr (.inr (.inr (n, t)))) => (∃ k, k < 40 ∧ n = nI k) ∧ hm t ≤ 520
theorem ps_change_is (he : ∀ p, 1000 ≤ p → T p = -1) {p p' : Nat} {c : Chg} {N N' : ps_N} (h : ps_change T p N = ps_ok c p' N') (hp : p ≤ 1000) (hN : N.1 ≤ 40) : okCg c ∧ N'.1 ≤ 40 ∧ p + 2 < p' ∧ p' ≤ 1000 := by
  unfold ps_change at h
  by_cases h0 : ¬ (lxt T p = 100 ∨ (116 ≤ lxt T p ∧ lxt T p ≤ 118) ∨ lxt T p = 121)
  · rw [if_pos h0] at h; cases h
  rw [if_neg h0] at h
  have h0' := Classical.not_not.mp h0
  have hs := lx_step he (p := p) (fun e => by rw [e] at h0'; exact absurd h0' (by decide)) hp
  obtain ⟨k, p1, N1, g1, g2⟩ := ps_b_ok h
  obtain ⟨k1, k2, k3, k4⟩ := ps_name_lt he g1 hs.2 hN
  by_cases h1 : lxt T p = 100
  · rw [if_pos h1] at g2
    obtain ⟨ab, p2, N2, g3, g4⟩ := ps_b_ok g2
    obtain ⟨ms, p3, N3, g5, g6⟩ := ps_b_ok g4
    obtain ⟨l1, l2, l3, l4⟩ := ps_under_lt he g3 k4 k2
    obtain ⟨m1, m2, m3, m4⟩ := ps_brace_is he (P := fun m : Mem => (∃ n, n < 40 ∧ m.2.1 = nI n) ∧ m.1 < 3 ∧ okB m.2.2.2 12) (fun p N a p' N' h1 h2 h3 => by
      obtain ⟨a1, a2, a3, a4, a5, a6⟩ := ps_mem_is he h1 h2 h3
      exact ⟨⟨a1, a2, a3⟩, a4, a5, a6⟩) g5 l3 l1
    obtain ⟨e1, e2, e3⟩ := ps_ok_inj g6
    subst e1; subst e2; subst e3
    exact ⟨⟨⟨k, k1, rfl⟩, l4, m1⟩, m2, by omega, m4⟩
  rw [if_neg h1] at g2
  by_cases h2 : lxt T p = 116
  · rw [if_pos h2] at g2
    obtain ⟨es, p3, N3, g5, g6⟩ := ps_b_ok g2
    obtain ⟨m1, m2, m3, m4⟩ := ps_brace_is he (P := okEt) (fun p N a p' N' h1 h2 h3 => ps_edit_is he h1 h2 h3) g5 k4 k2
    obtain ⟨e1, e2, e3⟩ := ps_ok_inj g6
    subst e1; subst e2; subst e3
    exact ⟨⟨⟨k, k1, rfl⟩, m1⟩, m2, by omega, m4⟩
  rw [if_neg h2] at g2
  by_cases h3 : lxt T p = 121
  · rw [if_pos h3] at g2
    obtain ⟨t, p3, N3, g5, g6⟩ := ps_b_ok g2
    obtain ⟨m1, m2, m3, m4⟩ := ps_exp_hm he (by omega) g5 k4 k2
    obtain ⟨e1, e2, e3, e4⟩ := ps_end_lt he g6 m4
    subst e1; subst e2
    exact ⟨⟨⟨k, k1, rfl⟩, m1⟩, m2, by omega, e4⟩
  rw [if_neg h3] at g2
  by_cases h4 : lxt T p = 118
  · rw [if_pos h4] at g2
    obtain ⟨ab, p2, N2, g3, g4⟩ := ps_b_ok g2
    obtain ⟨l1, l2, l3, l4⟩ := ps_under_lt he g3 k4 k2
    obtain ⟨e1, e2, e3, e4⟩ := ps_end_lt he g4 l3
    subst e1; subst e2
    exact ⟨⟨⟨k, k1, rfl⟩, l4⟩, l1, by omega, e4⟩
  rw [if_neg h4] at g2
  obtain ⟨e1, e2, e3, e4⟩ := ps_end_lt he g2 k4
  subst e1; subst e2
  exact ⟨⟨k, k1, rfl⟩, k2, by omega, e4⟩
end
