set_option maxRecDepth 100000
/-! ===== X's reader: plain statements ===== -/
theorem ps_bb {α β γ : Type} (r : ps_R α) (f : α → Nat → ps_N → ps_R β) (g : β → Nat → ps_N → ps_R γ) : ps_b (ps_b r f) g = ps_b r fun a p N => ps_b (f a p N) g := by
  rcases r with ⟨e | ⟨a, p⟩, N⟩ <;> rfl
/-- a plain statement, without its semicolon -/
def ps_plain (T : Nat → Int32) (r p : Nat) (N : ps_N) : ps_R Term :=
  if lxt T p = 2 then ps_b (ps_name T p N) fun k p1 N1 => ps_b (ps_need T 61 p1 N1) fun _ p2 N2 => ps_b (ps_exp T (ps_unit T r) p2 N2) fun e p3 N3 => ps_ok (Term.elem (Term.index k) e) p3 N3
  else if lxt T p = 106 then ps_b (ps_exp T (ps_unit T r) (lxe T p) N) fun e p1 N1 => ps_ok (Term.length e) p1 N1
  else if lxt T p = 107 then ps_b (ps_exp T (ps_unit T r) (lxe T p) N) fun e p1 N1 => ps_ok (Term.sum e) p1 N1
  else if lxt T p = 109 then ps_b (ps_name T (lxe T p) N) fun a p1 N1 => ps_ok (Term.arg a) p1 N1
  else if lxt T p = 110 then ps_b (ps_name T (lxe T p) N) fun l p1 N1 => ps_b (ps_name T p1 N1) fun a p2 N2 => ps_ok (Term.mul (Term.index l) (Term.index a)) p2 N2
  else if lxt T p = 108 then ps_ok Term.null (lxe T p) N
  else ps_ok Term.result (lxe T p) N
theorem ps_plain_semi {T : Nat → Int32} {r p : Nat} {N : ps_N} {s : Nat} : (if lxt T p = 2 then ps_b (ps_name T p N) fun k p1 N1 => ps_b (ps_need T 61 p1 N1) fun _ p2 N2 => ps_b (ps_exp T (ps_unit T r) p2 N2) fun e p3 N3 => ps_semi T (Term.elem (Term.index k) e) s p3 N3
    else if lxt T p = 106 then ps_b (ps_exp T (ps_unit T r) (lxe T p) N) fun e p1 N1 => ps_semi T (Term.length e) s p1 N1
    else if lxt T p = 107 then ps_b (ps_exp T (ps_unit T r) (lxe T p) N) fun e p1 N1 => ps_semi T (Term.sum e) s p1 N1
    else if lxt T p = 109 then ps_b (ps_name T (lxe T p) N) fun a p1 N1 => ps_semi T (Term.arg a) s p1 N1
    else if lxt T p = 110 then ps_b (ps_name T (lxe T p) N) fun l p1 N1 => ps_b (ps_name T p1 N1) fun a p2 N2 => ps_semi T (Term.mul (Term.index l) (Term.index a)) s p2 N2
    else if lxt T p = 108 then ps_semi T Term.null s (lxe T p) N
    else ps_semi T Term.result s (lxe T p) N) = ps_b (ps_plain T r p N) fun t p1 N1 => ps_semi T t s p1 N1 := by
  unfold ps_plain
  by_cases h2 : lxt T p = 2
  · rw [if_pos h2, if_pos h2, ps_bb]
    congr 1
    funext k p1 N1
    rw [ps_bb]
    congr 1
    funext _ p2 N2
    rw [ps_bb]
    rfl
  rw [if_neg h2, if_neg h2]
  by_cases h3 : lxt T p = 106
  · rw [if_pos h3, if_pos h3, ps_bb]; rfl
  rw [if_neg h3, if_neg h3]
  by_cases h4 : lxt T p = 107
  · rw [if_pos h4, if_pos h4, ps_bb]; rfl
  rw [if_neg h4, if_neg h4]
  by_cases h5 : lxt T p = 109
  · rw [if_pos h5, if_pos h5, ps_bb]; rfl
  rw [if_neg h5, if_neg h5]
  by_cases h6 : lxt T p = 110
  · rw [if_pos h6, if_pos h6, ps_bb]
    congr 1
    funext k p1 N1
    rw [ps_bb]
    rfl
  rw [if_neg h6, if_neg h6]
  by_cases h7 : lxt T p = 108
  · rw [if_pos h7, if_pos h7]; rfl
  rw [if_neg h7, if_neg h7]
  rfl
section
variable {G : am_G} {A : Nat → Nat} {T : Nat → Int32} {n d p : Nat} {N : ps_N} {F : am_H} {D : xs_D} {ξ : xs_X} {σ : am_S}
/-- a new object while a text is read -/
theorem X_newO (h : XI G A T n p N F D ξ σ) {c N' j m : Nat} (hok : ∀ j, okT (xs_ty c j) = true) (hc : c < 50) (hcr : cr G (m + j) σ) (hN : 1 ≤ j ∧ N' ≤ 4 * j) {ty : Nat → FieldType} (hty : ty = xs_ty c) {K : Nat → am_S → Prop} (hK : ∀ D2 ξ2 σ2 i, XD D D2 → ¬ D.2.2 i → i ∉ [0, 1, 4, 6] → rl D2 i σ.2.1 c → XI G A T n p N F D2 ξ2 σ2 → pf D F ξ F ξ2 → (∀ q, D.2.2 q → sc ξ ξ2 q) → xR ξ2 1 7 = some (A 0) → xI ξ2 i = (fun _ => 0) → xR ξ2 i = (fun _ => none) → cr G m σ2 → K σ.2.1 σ2) : f_new G σ c N' ty K := by
  have hTD := h.1.2.1
  have hR := h.1.2.2.1
  refine x_new (j := j) (m := m) h.1.1 hTD hok hc hcr hN hty fun D2 ξ2 σ2 i xd td ni ri _ H2 s2 i2 rr2 c2 hF2 => ?_
  have b7 : xR ξ 1 7 = some (A 0) := h.1.2.2.2.1.2.2.2.1
  exact hK D2 ξ2 σ2 i xd ni (hR.nin ni) ri (h.up H2 FE.refl xd td (h.s0 s2)) ⟨FE.refl, fun q hq _ => s2 q hq, fun q _ => congrFun (s2 0 hR.1.1).1 q, (s2 0 hR.1.1).2.1⟩ s2 ((congrFun (s2 1 hR.2.1.1).2.1 7).trans b7) i2 rr2 c2
theorem X_isWord2 (h : XI G A T n p N F D ξ σ) (hG : GK G) {k : Nat} (hk : k < 22) {Q : Int32 → am_S → Prop} (hy : lxt T p = nI (100 + k) → Q 1 σ) (hn : ¬ lxt T p = nI (100 + k) → Q 0 σ) : W_X4_isWord G (d + 2) (A 1) (some (am_sk G (k + 1))) σ Q := by
  refine X_isWord h hG hk ?_
  by_cases h9 : lxt T p = nI (100 + k)
  · rw [if_pos h9]; exact hy h9
  · rw [if_neg h9]; exact hn h9
theorem i7 {t : Int32} {a b : Nat} (ha : a < 2 ^ 31) (hb : b < 2 ^ 31) : (nI a ≤ t ∧ t ≤ nI b) ↔ ∃ k, a ≤ k ∧ k ≤ b ∧ t = nI k := by
  constructor
  · intro ⟨h1, h2⟩
    have h0 : (0 : Int32) ≤ t := Int32.le_trans (Int32.not_lt.mp (nI_pos ha)) h1
    have ht : t = nI t.toInt.toNat := by
      have e0 := Int32.le_iff_toInt_le.mp h0
      have : (0 : Int32).toInt = 0 := rfl
      apply Int32.toInt_inj.mp
      rw [nI_toInt (by have := t.toInt_lt; omega)]
      omega
    rw [ht] at h1 h2
    have hlt : t.toInt.toNat < 2 ^ 31 := by have := t.toInt_lt; omega
    exact ⟨t.toInt.toNat, (nI_leI ha hlt).mp h1, (nI_leI hlt hb).mp h2, ht⟩
  · rintro ⟨k, h1, h2, h3⟩
    subst h3
    exact ⟨(nI_leI ha (by omega)).mpr h1, (nI_leI (by omega) hb).mpr h2⟩
/-- a statement is at hand, or not -/
theorem X_isStatement (h : XI G A T n p N F D ξ σ) (hG : GK G) {Q : Int32 → am_S → Prop} (hy : lxt T p = 2 ∨ (106 ≤ lxt T p ∧ lxt T p ≤ 112) → Q 1 σ) (hn : ¬ (lxt T p = 2 ∨ (106 ≤ lxt T p ∧ lxt T p ≤ 112)) → Q 0 σ) : W_X4_isStatement G (d + 3) (A 1) σ Q := by
  have r1 := h.1.2.2.1.2.1
  obtain ⟨t4, t2, t0, tv⟩ := h.tok
  have hi := i7 (t := lxt T p) (a := 106) (b := 112) (by decide) (by decide)
  have hyk : ∀ k, 106 ≤ k → k ≤ 112 → lxt T p = nI k → B_X4_isStatement_71 G (d + 3) (A 1) σ Q := fun k h1 h2 h3 => B_X4_isStatement_71_f (hy (Or.inr (hi.mpr ⟨k, h1, h2, h3⟩)))
  refine W_X4_isStatement_f (x_gi h.1.1 r1 (by decide) rfl ⟨fun c2 => B_X4_isStatement_71_f (hy (Or.inl (t2.mp c2))), fun n2 => ?_⟩)
  refine x_o h.1.1 r1 (by decide) (X_isWord2 (d := d) (k := 6) h hG (by decide) (fun e => y1 (hyk 106 (by decide) (by decide) e)) fun n6 => z1 ?_)
  refine x_o h.1.1 r1 (by decide) (X_isWord2 (d := d) (k := 7) h hG (by decide) (fun e => y1 (hyk 107 (by decide) (by decide) e)) fun n7 => z1 ?_)
  refine x_o h.1.1 r1 (by decide) (X_isWord2 (d := d) (k := 8) h hG (by decide) (fun e => y1 (hyk 108 (by decide) (by decide) e)) fun n8 => z1 ?_)
  refine x_o h.1.1 r1 (by decide) (X_isWord2 (d := d) (k := 9) h hG (by decide) (fun e => y1 (hyk 109 (by decide) (by decide) e)) fun n9 => z1 ?_)
  refine x_o h.1.1 r1 (by decide) (X_isWord2 (d := d) (k := 10) h hG (by decide) (fun e => y1 (hyk 110 (by decide) (by decide) e)) fun n10 => z1 ?_)
  refine x_o h.1.1 r1 (by decide) (X_isWord2 (d := d) (k := 11) h hG (by decide) (fun e => y1 (hyk 111 (by decide) (by decide) e)) fun n11 => z1 ?_)
  refine x_o h.1.1 r1 (by decide) (X_isWord2 (d := d) (k := 12) h hG (by decide) (fun e => y2 (hyk 112 (by decide) (by decide) e)) fun n12 => z2 (hn fun h9 => ?_))
  rcases h9 with h9 | h9
  · exact n2 (t2.mpr h9)
  · obtain ⟨k, a1, a2, a3⟩ := hi.mp h9
    obtain rfl | rfl | rfl | rfl | rfl | rfl | rfl : k = 106 ∨ k = 107 ∨ k = 108 ∨ k = 109 ∨ k = 110 ∨ k = 111 ∨ k = 112 := by omega
    · exact n6 a3
    · exact n7 a3
    · exact n8 a3
    · exact n9 a3
    · exact n10 a3
    · exact n11 a3
    · exact n12 a3
/-- what is asked of a statement's object -/
def PlQ (G : am_G) (A : Nat → Nat) (T : Nat → Int32) (n : Nat) (F : am_H) (D : xs_D) (ξ : xs_X) (p : Nat) (x : Nat) (P : am_H → Term → Nat → Prop) (res : ps_R Term) (Q : Option Nat → am_S → Prop) : Prop := ∀ t p' N', res = ps_ok t p' N' → ∀ F' ξ' σ' v, XI G A T n p' N' F' D ξ' σ' → pf D F ξ F' ξ' → xI ξ' 1 4 = xI ξ 1 4 → xI ξ' 1 5 = xI ξ 1 5 → p ≤ p' → cr G (600 * (n + 1 - p') + x) σ' → P F' t v → Q (some v) σ'
theorem PlQ.pre {F1 : am_H} {ξ1 : xs_X} {p1 x x1 : Nat} {P : am_H → Term → Nat → Prop} {res : ps_R Term} {Q : Option Nat → am_S → Prop} (h : PlQ G A T n F D ξ p x P res Q) (hp : pf D F ξ F1 ξ1) (h4 : xI ξ1 1 4 = xI ξ 1 4) (h5 : xI ξ1 1 5 = xI ξ 1 5) (hpp : p ≤ p1) (hx : x ≤ x1) : PlQ G A T n F1 D ξ1 p1 x1 P res Q := fun t p' N' h1 F' ξ' σ' v k1 k2 k3 k4 k5 k6 k7 => h t p' N' h1 F' ξ' σ' v k1 (hp.trans k2) (k3.trans h4) (k4.trans h5) (by omega) (k6.le (by omega)) k7
theorem XFn.pre {α : Type} {F1 : am_H} {D1 : xs_D} {ξ1 : xs_X} {x x1 : Nat} {res : ps_R α} {E : Nat → am_S → Prop} (h : XFn G A T n F D ξ x res E) (hp : pf D F ξ F1 ξ1) (hD : XD D D1) (hT : TD D) (hR : RR A D) (hx : x ≤ x1) : XFn G A T n F1 D1 ξ1 x1 res E := fun k q N' h1 => (h k q N' h1).pre hp hD hT hR hx
/-- give, fail -/
theorem X_giv (hG : GK G) {r x : Nat} (hr : r ≤ 12) (hd : 4 * r ≤ d) (h : XI G A T n p N F D ξ σ) (h4 : xI ξ 1 4 = nI (12 - r)) (hx : 30 ≤ x) (hcr : cr G (600 * (n + 1 - p) + x) σ) {y : Int32} {mk9 : Term → Term} (hy : y = 0 ∨ y = 1) (hmk : ∀ (F : am_H) (e : Term) (a r : Nat) (f : Nat → Value), F a = some (.inr (18, f)) → f 1 = va_rf (some r) → f 2 = .int y → xE F e r → isSt F (mk9 e) a) {Q : Option Nat → am_S → Prop} {E : Nat → am_S → Prop} (hQ : PlQ G A T n F D ξ p x isSt (ps_b (ps_exp T (ps_unit T r) p N) fun e p1 N1 => ps_ok (mk9 e) p1 N1) Q) (hE : XFn G A T n F D ξ (x - 21) (ps_b (ps_exp T (ps_unit T r) p N) fun e p1 N1 => ps_ok (mk9 e) p1 N1) E) : f_new G σ 18 4 tyX20 (fun n66 σ67 => f_gr σ67 (some (A 1)) [4] 7 (fun v68 => f_o σ67 (some (A 1)) [4] (fun b => W_X4_worth G (d + 14) b σ67 (fun v69 σ70 => W_X20_init G (d + 14) n66 v68 v69 y σ70 (fun σ74 => Q (some n66) σ74)) E))) := by
  have hTD := h.1.2.1
  have hR := h.1.2.2.1
  refine X_newO h (j := 1) (m := 600 * (n + 1 - p) + (x - 1)) ok_18 (by decide) (hcr.le (by omega)) ⟨by omega, by omega⟩ rfl fun D2 ξ2 σ2 i xd ni nn ri h2 p2 s2 e7 z1 z2 c2 => ?_
  have r2 := h2.1.2.2.1.2.1
  refine x_gr h2.1.1 r2 (by decide) e7 (x_o h2.1.1 r2 (by decide) (X_expr hG hr hd p N F D2 ξ2 σ2 (x - 1) _ E h2 ((congrFun (s2 1 hR.2.1.1).1 4).trans h4) (by omega) c2 (fun t p' N' e1 F3 ξ3 σ3 v k1 k2 k3 k4 k5 k6 k7 => ?_) fun kd q N' e1 => (hE kd q N' (by rw [e1]; rfl)).pre p2 xd hTD hR (by omega)))
  rw [e1] at hQ
  refine W_X20_init_f (d := d + 13) (x_pr k1.1.1 ri (by decide) fun σ4 H4 e4 => W_X11_init_f (d := d + 12) (x_pr H4 ri (by decide) fun σ5 H5 e5 => x_pr H5 ri (by decide) fun σ6 H6 e6 => ⟨hy, x_p H6 ri (by decide) fun σ7 H7 e7 => ?_⟩))
  obtain ⟨F', f1, f2, f3, f4, f5, f6⟩ := X_fin (k1.down xd hTD hR) xd ni ri (fun q hq => (((sR_sc (show q ≠ i from fun e => ni (e ▸ hq))).trans (sR_sc (show q ≠ i from fun e => ni (e ▸ hq)))).trans (sR_sc (show q ≠ i from fun e => ni (e ▸ hq)))).trans (sI_sc (show q ≠ i from fun e => ni (e ▸ hq)))) H7 (tf_of (by decide) fun k hk => by
    have hk3 : k = 3 := by simpa [tfs] using hk
    subst hk3
    exact (sR_o (by decide)).trans ((sR_o (by decide)).trans sR_s))
  refine hQ (mk9 t) p' N' rfl F' _ σ7 _ f3 ((p2.trans (k2.less xd)).trans f4) ((f5.trans k3).trans h4.symm) ((f6.trans k4).trans (congrFun (s2 1 hR.2.1.1).1 5)) (by omega) (((((k6.eq e4).eq e5).eq e6).eq e7).le (by omega)) ?_
  obtain ⟨f, q1, q2⟩ := xE_i (c := 18) (k := 2) (i := i) (ξ := xs_sI (xs_sR (xs_sR (xs_sR ξ3 i 3 (some (A 0))) i 0 (some (A 0))) i 1 (some v)) i 2 y) (by decide) (by decide) sI_s
  obtain ⟨f', q1', q2'⟩ := xE_r (c := 18) (k := 1) (i := i) (ξ := xs_sI (xs_sR (xs_sR (xs_sR ξ3 i 3 (some (A 0))) i 0 (some (A 0))) i 1 (some v)) i 2 y) (by decide) (by decide) sR_s
  have : f = f' := by
    have := q1.symm.trans q1'
    injection this with h
    injection h
  subst this
  exact hmk F' t _ v f (f2.trans (congrArg some q1)) q2' q2 (xT.mono f1 t _ _ _ _ _ k7)
end
