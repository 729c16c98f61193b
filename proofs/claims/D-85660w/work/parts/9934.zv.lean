set_option maxRecDepth 100000
theorem okB_tl : ∀ (st b : Term) (r : Nat), okB (.add st b) r → okB b r
  | .elem (.index _) e, b, r, h => h.2
  | .length e, b, r, h => h.2
  | .sum e, b, r, h => h.2
  | .null, b, r, h => h
  | .arg _, b, r, h => h
  | .mul (.index _) (.index _), b, r, h => h
  | .result, b, r, h => h
  | .sub e (.sub y z), b, r, h => h.2.2.2.2
theorem acts_eqS {L L' : List Kd} (h : eqS L L') {n : Int32} : ∀ (f : Nat) (o : Option Nat), acts L n f o = acts L' n f o
  | f, none => by rw [acts_none, acts_none]
  | 0, some _ => rfl
  | f + 1, some k => by
    cases hk : L[k]? with
    | none =>
      have hk' : L'[k]? = none := by
        rw [List.getElem?_eq_none_iff] at hk ⊢
        have := h.1
        omega
      show (match L[k]? with | none => [] | some kd => actK kd n ++ acts L n f (kA kd)) = (match L'[k]? with | none => [] | some kd => actK kd n ++ acts L' n f (kA kd))
      rw [hk, hk']
    | some kd =>
      have hl := get_lt hk
      have hk' : L'[k]? = some (L'[k]'(by rw [← h.1]; exact hl)) := List.getElem?_eq_getElem _
      obtain ⟨i1, i2, i3, i4, i5, i6⟩ := h.ix hk hk' n
      obtain ⟨j1, j2, j3, j4⟩ := h.2 k kd _ hk hk'
      rw [acts_some hk, acts_some hk', acts_eqS h f, i5]
      congr 1
      unfold actK
      rw [i3, i6, j4, show kG kd = kG (L'[k]'(by rw [← h.1]; exact hl)) from by unfold kG; rw [j1]]
/-- what is asked behind a statement -/
def PsQ (G : am_G) (d r : Nat) (fa : Nat) (lg : Bool) (j : Nat) (Q : Int32 → am_S → Prop) (E : Nat → am_S → Prop) (y : Int32) (σ2 : am_S) : Prop := (¬ y = 0 → (((if lg = true then (1 : Int32) else 0) = 0 → B_X10_does_3 G d r (some fa) (if lg = true then 1 else 0) (nI j + 1) σ2 Q E) ∧ (¬ (if lg = true then (1 : Int32) else 0) = 0 → f_gr σ2 (some r) [10] 0 (fun v14 => f_ar σ2 v14 7 (nI j) (fun v15 => f_is σ2 v15 [20] [11, 17, 18, 19] (fun v16 => ((v16 = 0 → B_X10_does_3 G d r (some fa) (if lg = true then 1 else 0) (nI j + 1) σ2 Q E) ∧ (¬ v16 = 0 → Q (nI j + 1) σ2)))))))) ∧ (y = 0 → Q (-1) σ2)
/-- a frame's number is written -/
theorem RXd.fr {A : Nat → Nat} {F : am_H} {D : xs_D} {C : Ctx} {p : RP} {ξ : xs_X} {s : RSt} (h : RXd D C p ξ s) (hS : RXs A F D C p ξ) {fi fa k : Nat} {y : Int32} (hf : rl D fi fa 1) : RXd D C p (xs_sI ξ fi k y) s := by
  obtain ⟨d1, d2, d4, d5, d6⟩ := h
  have no : ∀ {r a t : Nat}, rl D r a t → t ≠ 1 → r ≠ fi := fun hr ht e => by
    rw [e] at hr
    exact ht (hr.2.2.symm.trans hf.2.2)
  have i0 : xI (xs_sI ξ fi k y) 0 = xI ξ 0 := (sI_sc (no hS.1.1 (by decide))).1
  refine ⟨by rw [i0]; exact d1, ⟨⟨d2.1.1, fun q v r h1 h2 => ?_⟩, d2.2⟩, d4, d5, by rw [i0]; exact d6⟩
  obtain ⟨j1, j2⟩ := d2.1.2 q v r h1 h2
  refine ⟨j1, ?_⟩
  rw [(sI_sc (no j1 (by decide))).1]
  exact j2
section
variable {G : am_G} {A : Nat → Nat} {F : am_H} {D : xs_D} {C : Ctx} {p : RP} {g : Nat}
/-- a run of X: a step more -/
theorem X_go1 (ih : GrP G A F D C p g) {lg : Bool} {dp c : Nat} {n : Int32} {ab : List (Term × Int32 × Int32)} {v last : Int32} {b : Term} {s s2 : RSt} {ξ ξ2 : xs_X} {σ σ2 : am_S} {fi fa ba r oa K j l d rr : Nat} {f : Nat → Value} {o : Nat → Option Nat} {t0 : Term × Int32 × Int32} {Q : Int32 → am_S → Prop} {E : Nat → am_S → Prop} (hS : RXs A F D C p ξ) (hD : RXd D C p ξ s) (hc : c < cN C) (hl : cL C c = true) (hf : rl D fi fa 1) (hfi : ∀ i, dp < i → i ≤ 20 → fi ≠ 20 + i) (hfr : FRo ξ p fi c ba v last) (hB : BRo F ba n (t0 :: ab)) (hdp : dp ≤ 20) (hF : F r = some (.inr (10, f))) (m0 : f 0 = va_rf (some oa)) (m1 : f 1 = .int (nI K)) (mo : F oa = some (.inl (7, l, .inr (.inr (.inr (.inr o)))))) (hKl : K ≤ l) (hl6 : l < 65536) (hjk : j < K) {w : Nat} (hw : o j = some w) (hb : xL F b o (j + 1) K) (hok : okB b rr) (hrr : rr ≤ 12) (hd : 600 + (20 - dp) * 30 + 2 * rr ≤ d) {last2 : Int32} (H2 : XS F D ξ2 σ2) (hD2 : RXd D C p ξ2 s2) (hg2 : s2.1 ≤ g) (h2 : RXf D C p dp fi ξ ξ2) (h23 : xI ξ2 fi 3 = last2) (h24 : xI ξ2 fi 4 = 0) (h211 : xI ξ2 0 11 = nI dp) (e2 : σ2.2 = σ.2) (hQ : GrQ A F D C p dp fi ξ σ o K j Q E (go C g lg dp c n ab v last2 b s2)) (hcl : lg = true → ∃ ci f, F w = some (.inr (ci, f)) ∧ ci ∈ [11, 17, 18, 19]) {y : Int32} (hy : ¬ y = 0) : PsQ G d r fa lg j Q E y σ2 := by
  have hS2 := hS.up hD.2.1.1 hf h2
  have hfr2 : FRo ξ2 p fi c ba v last2 := ⟨by rw [h2.2.2.2.2.1]; exact hfr.1, by rw [h2.2.2.2.2.1]; exact hfr.2.1, (h2.2.2.2.2.2 2 (by decide) (by decide)).trans hfr.2.2.1, h23, h24⟩
  have main : B_X10_does_3 G d r (some fa) (if lg = true then 1 else 0) (nI j + 1) σ2 Q E := by
    rw [nI_1]
    exact ih lg dp c n ab v last2 b s2 ξ2 σ2 fi fa ba r oa K (j + 1) l d rr f o t0 Q E H2 hS2 hD2 hg2 hc hl hf hfi hfr2 hB h211 hdp hF m0 m1 mo hKl hl6 hb hok hrr hd (hQ.up h2 e2 (by omega))
  refine ⟨fun _ => ⟨fun _ => main, fun h9 => ?_⟩, fun h9 => absurd h9 hy⟩
  cases lg with
  | false => exact absurd rfl h9
  | true =>
    obtain ⟨ci, f9, k1, k2⟩ := hcl rfl
    refine z_gr H2 hF (by decide) m0 (z_ar H2 mo rfl (by omega) (by omega) hw ?_)
    unfold f_is
    refine z_c H2 k1 ⟨Or.inr k2, fun h8 => ?_, fun _ => ⟨fun _ => main, fun h7 => absurd rfl h7⟩⟩
    exfalso
    rw [List.mem_singleton.mp h8] at k2
    exact absurd k2 (by decide)
/-- a call within a run -/
theorem X_goC (ih : GrP G A F D C p g) {lg : Bool} {dp c : Nat} {n : Int32} {ab : List (Term × Int32 × Int32)} {v last : Int32} {b : Term} {s : RSt} {ξ : xs_X} {σ : am_S} {fi fa K j d : Nat} {o : Nat → Option Nat} {Q : Int32 → am_S → Prop} {E : Nat → am_S → Prop} (H : XS F D ξ σ) (hS : RXs A F D C p ξ) (hD : RXd D C p ξ s) (hg : s.1 ≤ g) (hf : rl D fi fa 1) (hf0 : fi ≠ 0) (hf3 : fi ≠ 3) (hfi : ∀ i, dp < i → i ≤ 20 → fi ≠ 20 + i) (h11 : xI ξ 0 11 = nI dp) (f4 : xI ξ fi 4 = 0) (hdp : dp ≤ 20) {P : Int32 → am_S → Prop} (step : ∀ (last2 : Int32) (s2 : RSt) (ξ2 : xs_X) (σ2 : am_S), XS F D ξ2 σ2 → RXd D C p ξ2 s2 → s2.1 ≤ g → RXf D C p dp fi ξ ξ2 → xI ξ2 fi 3 = last2 → xI ξ2 fi 4 = 0 → xI ξ2 0 11 = nI dp → σ2.2 = σ.2 → GrQ A F D C p dp fi ξ σ o K j Q E (go C g lg dp c n ab v last2 b s2) → P 1 σ2) {c' ba' : Nat} {n' v' : Int32} {t : Term × Int32 × Int32} {l : List (Term × Int32 × Int32)} (hc' : c' < cN C) (hl' : cL C c' = true) (hB : BRo F ba' n' (t :: l)) (hok : okB t.1 12) (hd0 : 1 ≤ d) (hd : ¬ dp = 20 → 600 + (19 - dp) * 30 + 24 + 2 ≤ d) (hQ : GrQ A F D C p dp fi ξ σ o K j Q E (goC C g lg dp c n ab v last b s c' n' v' (t :: l))) : W_X0_called G d (A 0) (some (pCr p c')) (some ba') v' σ (fun v4 σ5 => f_p σ5 (some fa) [1] 3 (.int v4) (fun σ8 => P 1 σ8)) E := by
  unfold goC at hQ
  dsimp only at hQ
  refine X_called ih H hS hD hg hc' hl' hB hok h11 hdp hd0 hd (fun e => ?_) fun hne => ?_
  · rw [if_pos e] at hQ
    exact hQ.fail hD hf3
  · rw [if_neg hne] at hQ
    have hfu := go_fuel (C := C) g false (dp + 1) c' n' l v' 0 t.1 (noteR C s c' n' t)
    rw [noteR_fuel] at hfu
    revert hQ hfu
    generalize go C g false (dp + 1) c' n' l v' 0 t.1 (noteR C s c' n' t) = R
    intro hQ hfu
    have fin : ∀ (x : Int32) (s' : RSt) (ξ' : xs_X) (σ' : am_S), s'.1 ≤ s.1 → GrQ A F D C p dp fi ξ σ o K j Q E (go C g lg dp c n ab v x b s') → XS F D ξ' σ' → RXd D C p ξ' s' → RXg D C p (20 + (dp + 1)) ξ ξ' → xI ξ' 0 11 = nI dp → σ'.2 = σ.2 → f_p σ' (some fa) [1] 3 (.int x) (fun σ8 => P 1 σ8) := fun x s' ξ' σ' hfu hQ a1 a2 a3 a5 a6 => by
      obtain ⟨w1, w2⟩ := a3.toF hS hD.2.1.1 hf hfi
      refine x_p a1 hf (by decide) fun σ9 H9 e9 => step x s' _ σ9 H9 (a2.fr (hS.up hD.2.1.1 hf w1) hf) (by omega) (w1.trans (RXf.sf (Or.inl rfl) hf0)) sI_s ((sI_o (by decide)).trans ((congrFun w2.1 4).trans f4)) ((congrFun (sI_sc (Ne.symm hf0)).1 _).trans a5) (e9.trans a6) hQ
    obtain ⟨⟨q, y, b'⟩, lx, s'⟩ := R
    match q, hQ with
    | 0, hQ => exact fun ξ' σ' a1 a2 a3 a5 a6 => fin 0 s' ξ' σ' hfu hQ a1 a2 a3 a5 a6
    | 1, hQ => exact fun ξ' σ' a1 a2 a3 a5 a6 => fin y s' ξ' σ' hfu hQ a1 a2 a3 a5 a6
    | 2, hQ => exact fun ξ' σ' a1 a2 a3 a4 a5 a6 => hQ ξ' σ' a1 a2 (a3.toF hS hD.2.1.1 hf hfi).1 a4 a5 a6
    | 3, hQ => exact fun ξ' σ' a1 a2 a3 a4 a5 => hQ ξ' σ' a1 a2 (a3.toF hS hD.2.1.1 hf hfi).1 a4 a5
    | _ + 4, _ => exact trivial
/-- an act is done by a creature -/
theorem X_goD (ih : GrP G A F D C p g) {lg : Bool} {dp c : Nat} {n : Int32} {ab : List (Term × Int32 × Int32)} {v last : Int32} {b : Term} {s : RSt} {ξ : xs_X} {σ : am_S} {fi fa K j d w m : Nat} {f' : Nat → Value} {o : Nat → Option Nat} {Q : Int32 → am_S → Prop} {E : Nat → am_S → Prop} (H : XS F D ξ σ) (hS : RXs A F D C p ξ) (hD : RXd D C p ξ s) (hg : s.1 ≤ g) (hf : rl D fi fa 1) (hf0 : fi ≠ 0) (hf3 : fi ≠ 3) (hfi : ∀ i, dp < i → i ≤ 20 → fi ≠ 20 + i) (h11 : xI ξ 0 11 = nI dp) (f4 : xI ξ fi 4 = 0) (hdp : dp ≤ 20) {P : Int32 → am_S → Prop} (step : ∀ (last2 : Int32) (s2 : RSt) (ξ2 : xs_X) (σ2 : am_S), XS F D ξ2 σ2 → RXd D C p ξ2 s2 → s2.1 ≤ g → RXf D C p dp fi ξ ξ2 → xI ξ2 fi 3 = last2 → xI ξ2 fi 4 = 0 → xI ξ2 0 11 = nI dp → σ2.2 = σ.2 → GrQ A F D C p dp fi ξ σ o K j Q E (go C g lg dp c n ab v last2 b s2) → P 1 σ2) {c' : Nat} (hc' : c' < cN C) (hl' : cL C c' = true) (h1 : F w = some (.inr (19, f'))) (h2 : f' 2 = .int (nI m)) (hd : 600 + (20 - dp) * 30 ≤ d + 14) (hQ : GrQ A F D C p dp fi ξ σ o K j Q E (goC C g lg dp c n ab v last b s c' (nI m) 0 (acts s.2.1 (nI m) 12 (some (cK C c'))))) : B_X21_does_120 G (d + 12 + 1) w (some fa) (some (pCr p c')) σ P E := by
  have hS' := hS
  obtain ⟨a1, a2, a3, a4, a5, ⟨hW, hWd⟩, a7, a8⟩ := hS
  obtain ⟨b1, b2, b3, b4, b5⟩ := a7 c' hc'
  obtain ⟨hk, hn⟩ := b5 hl'
  obtain ⟨ka, hka⟩ : ∃ ka, (pAs p)[cK C c']? = some ka := ⟨_, List.getElem?_eq_getElem (by rw [hW.1]; exact hk)⟩
  have hr1 : xR ξ (2000 + pCr p c') 1 = some ka := by rw [b1.2.2.2.2, if_pos hl']; exact hka
  have hwd := wdI_eqS hWd hD.2.1.2
  obtain ⟨kd, hkd⟩ : ∃ kd, (pLX p)[cK C c']? = some kd := ⟨_, List.getElem?_eq_getElem hk⟩
  obtain ⟨fv, c3, c4, c5, c6, c7, c8, g3, g4, g5, g6, g7, g8, k1, k2⟩ := hW.2 _ kd ka hkd hka
  rw [← acts_eqS hD.2.1.2] at hQ
  refine B_X21_does_120_f (x_gr H b1.2.1 (by decide) hr1 (z_gi H h1 (by decide) h2 (z_o H k1 (by decide) (X_bodyA (d := d) H hW hWd hka (fun ba t l e hB => ?_) fun e => ?_))))
  · rw [e] at hQ
    refine ⟨fun _ => z_gr H h1 (by decide) (H.tfx a1.1 h1 (by decide)) (x_o H a1.1 (by decide) ?_), fun h9 => (by cases h9)⟩
    exact X_goC ih H hS' hD hg hf hf0 hf3 hfi h11 f4 hdp step hc' hl' hB (acts_ok (fun k kd h => (hWd.2.2.2.1 k kd h).2.2) 12 _ t (by rw [e]; exact List.mem_cons_self)) (by omega) (fun hne => by omega) hQ
  · rw [e] at hQ
    refine ⟨fun h9 => absurd rfl h9, fun _ => z_gr H h1 (by decide) (H.tfx a1.1 h1 (by decide)) (x_o H a1.1 (by decide) (X_fails H a1.1 a1.2.1 a3.1 (GrQ.fail hQ hD hf3)))⟩
/-- a run of X follows the pure one: one statement -/
theorem X_goS (ihs : ∀ g', g' + 1 = g → GrP G A F D C p g') : GrP G A F D C p g := by
  intro lg dp c n ab v last b s ξ σ fi fa ba r oa K j l d rr f o t0 Q E H hS hD hg hc hl hf hfi hfr hB h11 hdp hF m0 m1 mo hKl hl6 hx hok hrr hd hQ
  have hf3 : fi ≠ 3 := fun e => by
    rw [e] at hf
    have := hf.2.2.symm.trans hS.1.2.1.2.2
    cases this
  have hf0 : fi ≠ 0 := fun e => by
    rw [e] at hf
    have := hf.2.2.symm.trans hS.1.1.2.2
    cases this
  obtain ⟨d', rfl⟩ : ∃ d', d = d' + 13 + 1 + 1 := ⟨d - 15, by omega⟩
  refine B_X10_does_3_f (z_gi H hF (by decide) m1 ?_)
  cases b with
  | thrown =>
    have hj : j = K := hx
    rw [go_end] at hQ
    exact ⟨fun _ => z_gi H hF (by decide) m1 (hQ ξ σ H hD RXf.refl hfr.2.2.2.1 hfr.2.2.2.2 h11 rfl), fun h9 => absurd (nI_le (show K ≤ j by omega) (by omega)) h9⟩
  | add st b =>
    obtain ⟨hjk, ⟨w, hw, hst⟩, hb⟩ := xL_inv st b o j K hx
    have hokb := okB_tl st b rr hok
    refine ⟨fun h9 => absurd h9 (nI_ge hjk (by omega)), fun _ => z_gr H hF (by decide) (H.tfx hS.1.1 hF (by decide)) (x_o H hS.1.1 (by decide) (X_spends H hS hD (fun h0 σ1 H1 e1 => ?_) fun h0 σ1 H1 e1 => ?_))⟩
    · obtain ⟨g', rfl⟩ : ∃ g', g = g' + 1 := ⟨g - 1, by omega⟩
      have ih := ihs g' rfl
      have hf1 : RXf D C p dp fi ξ (xs_sI ξ 0 10 (nI (s.1 - 1))) := RXf.s0 (Or.inl rfl) hf0
      have hS1 := hS.up hD.2.1.1 hf hf1
      have hD1 : RXd D C p (xs_sI ξ 0 10 (nI (s.1 - 1))) (pay s) := hD.cong (fun r hr => sI_sc (by omega)) (sI_o (by decide)) sI_s (by have := hD.1.2; omega)
      have i1 : xI (xs_sI ξ 0 10 (nI (s.1 - 1))) fi = xI ξ fi := (sI_sc hf0).1
      have hfr1 : FRo (xs_sI ξ 0 10 (nI (s.1 - 1))) p fi c ba v last := ⟨hfr.1, hfr.2.1, by rw [i1]; exact hfr.2.2.1, by rw [i1]; exact hfr.2.2.2.1, by rw [i1]; exact hfr.2.2.2.2⟩
      have h111 : xI (xs_sI ξ 0 10 (nI (s.1 - 1))) 0 11 = nI dp := (sI_o (by decide)).trans h11
      have hpg : (pay s).1 ≤ g' := by show s.1 - 1 ≤ g'; omega
      have hQ1 : GrQ A F D C p dp fi (xs_sI ξ 0 10 (nI (s.1 - 1))) σ1 o K j Q E (go C (g' + 1) lg dp c n ab v last (.add st b) s) := hQ.up hf1 e1 (Nat.le_refl _)
      clear hQ hf1
      revert H1 hS1 hD1 i1 hfr1 h111 hQ1
      generalize xs_sI ξ 0 10 (nI (s.1 - 1)) = ξ1
      intro H1 hS1 hD1 i1 hfr1 h111 hQ1
      have step : ∀ {last2 : Int32} {s2 : RSt} {ξ2 : xs_X} {σ2 : am_S}, XS F D ξ2 σ2 → RXd D C p ξ2 s2 → s2.1 ≤ g' → RXf D C p dp fi ξ1 ξ2 → xI ξ2 fi 3 = last2 → xI ξ2 fi 4 = 0 → xI ξ2 0 11 = nI dp → σ2.2 = σ1.2 → GrQ A F D C p dp fi ξ1 σ1 o K j Q E (go C g' lg dp c n ab v last2 b s2) → (lg = true → ∃ ci f, F w = some (.inr (ci, f)) ∧ ci ∈ [11, 17, 18, 19]) → PsQ G (d' + 13 + 1 + 1) r fa lg j Q E 1 σ2 := fun {last2 s2 ξ2 σ2} H2 hD2 hg2 h2 h23 h24 h211 e2 hQ hcl => X_go1 ih hS1 hD1 hc hl hf hfi hfr1 hB hdp hF m0 m1 mo hKl hl6 hjk hw hb hokb hrr hd H2 hD2 hg2 h2 h23 h24 h211 e2 hQ hcl (y := 1) (by decide)
      refine z_gr H1 hF (by decide) m0 (z_ar H1 mo rfl (by omega) (by omega) hw ?_)
      have hcr := (hS1.2.2.2.2.2.2.1 c hc).1.2.1
      show V_X11_does G (d' + 13 + 1) w (some fa) σ1 (PsQ G (d' + 13 + 1 + 1) r fa lg j Q E) E
      unfold V_X11_does
      match st, hst, hok, hQ1 with
      | .elem (.index m) e, ⟨f', re, h1, h2, h3, h4, h5⟩, hok, hQ1 =>
        have hoe : hm e ≤ 520 := hok.1
        rw [go_set h0] at hQ1
        refine z_c H1 h1 (Or.inr (Or.inl ⟨rfl, W_X19_does_f (z_gr H1 h1 (by decide) h4 ?_)⟩))
        refine (X_of H1 hS1 hD1 hf hc hl hfr1.1 hfr1.2.2.1 hfr1.2.2.2.1 e).1 re _ h5 (by omega) _ (fun x hx => ?_) fun q hq => ?_
        · rw [hx] at hQ1
          dsimp only at hQ1
          refine x_gr H1 hf (by decide) hfr1.1 (z_gi H1 h1 (by decide) h2 (x_o H1 hcr (by decide) (X_setV H1 hS1 hD1 hf (dd := dp) hc hl h3 rfl (fun s2 hs2 ξ2 σ2 H2 hD2 hf2 i2 i0 e2 => ?_) fun hno => ?_)))
          · rw [hs2] at hQ1
            exact step H2 hD2 (by rw [wrv_fuel hs2]; exact hpg) hf2 (by rw [i2]; exact hfr1.2.2.2.1) (by rw [i2]; exact hfr1.2.2.2.2) ((congrFun i0 11).trans h111) e2 hQ1 fun _ => ⟨17, f', h1, by decide⟩
          · rw [hno] at hQ1
            exact hQ1.fail hD1 hf3
        · rw [hq] at hQ1
          exact hQ1.fail hD1 hf3
      | .result, ⟨f', h1⟩, hok, hQ1 =>
        rw [go_rest h0] at hQ1
        refine z_c H1 h1 (Or.inr (Or.inr (Or.inr (Or.inr ⟨rfl, W_X22_does_f ?_⟩))))
        cases lg with
        | false => exact step H1 hD1 hpg RXf.refl hfr1.2.2.2.1 hfr1.2.2.2.2 h111 rfl hQ1 fun h => by cases h
        | true =>
          rw [if_pos rfl] at hQ1
          refine ⟨fun _ => ⟨fun h9 => absurd h9 (by decide), fun _ => ?_⟩, fun h9 => absurd h9 (by decide)⟩
          refine z_gr H1 hF (by decide) m0 (z_ar H1 mo rfl (by omega) (by omega) hw ?_)
          unfold f_is
          refine z_c H1 h1 ⟨Or.inl (by decide), fun _ => ⟨fun h8 => absurd h8 (by decide), fun _ => ?_⟩, fun h8 => absurd (by decide) h8⟩
          rw [nI_1]
          exact hQ1 ξ1 σ1 (j + 1) (by omega) (by omega) hb ⟨w, f', hw, h1⟩ H1 hD1 RXf.refl hfr1.2.2.2.1 hfr1.2.2.2.2 h111 rfl
      | .length e, ⟨f', re, h1, h2, h3, h4⟩, hok, hQ1 =>
        have hoe : hm e ≤ 520 := hok.1
        rw [go_give h0] at hQ1
        refine z_c H1 h1 (Or.inr (Or.inr (Or.inl ⟨rfl, W_X20_does_f (z_gr H1 h1 (by decide) h2 ?_)⟩)))
        refine (X_of H1 hS1 hD1 hf hc hl hfr1.1 hfr1.2.2.1 hfr1.2.2.2.1 e).1 re _ h4 (by omega) _ (fun x hx => ?_) fun q hq => ?_
        · rw [hx] at hQ1
          refine z_gi H1 h1 (by decide) h3 ⟨fun _ => x_p H1 hf (by decide) fun σ2 H2 e2 => ⟨fun h9 => absurd rfl h9, fun _ => ?_⟩, fun h9 => absurd rfl h9⟩
          exact hQ1 _ σ2 H2 (hD1.fr hS1 hf) (RXf.sf (Or.inr rfl) hf0) ((sI_o (by decide)).trans hfr1.2.2.2.1) sI_s ((congrFun (sI_sc (Ne.symm hf0)).1 _).trans h111) e2
        · rw [hq] at hQ1
          exact hQ1.fail hD1 hf3
      | .sum e, ⟨f', re, h1, h2, h3, h4⟩, hok, hQ1 =>
        have hoe : hm e ≤ 520 := hok.1
        rw [go_fail h0] at hQ1
        refine z_c H1 h1 (Or.inr (Or.inr (Or.inl ⟨rfl, W_X20_does_f (z_gr H1 h1 (by decide) h2 ?_)⟩)))
        refine (X_of H1 hS1 hD1 hf hc hl hfr1.1 hfr1.2.2.1 hfr1.2.2.2.1 e).1 re _ h4 (by omega) _ (fun x hx => ?_) fun q hq => ?_
        · rw [hx] at hQ1
          refine z_gi H1 h1 (by decide) h3 ⟨fun h9 => absurd h9 (by decide), fun _ => z_gr H1 h1 (by decide) (H1.tfx hS1.1.1 h1 (by decide)) (x_o H1 hS1.1.1 (by decide) (X_fails H1 hS1.1.1 hS1.1.2.1 hS1.2.2.1.1 (hQ1.fail hD1 hf3)))⟩
        · rw [hq] at hQ1
          exact hQ1.fail hD1 hf3
      | .null, ⟨f', h1, h2, h3⟩, hok, hQ1 =>
        have hB' := hB
        obtain ⟨as0, L0, k, kd, ka, i, x, b1, b2, b3, b4, b5, b6, b7, b8⟩ := hB'
        obtain ⟨fb, rb, k1, k2, k3, k4, k5⟩ := b7
        obtain ⟨fv, c3, c4, c5, c6, c7, c8, g3, g4, g5, g6, g7, g8, y1, y2, y3, y4, y5⟩ := b1.2 k kd ka b3 b4
        injection b8 with b8 b9
        have hxn : x.1 = n := by
          obtain ⟨y, y1, y2⟩ := ixf_some b5
          rw [b6] at y1
          cases y1
          exact y2
        rw [go_up h0] at hQ1
        refine z_c H1 h1 (Or.inr (Or.inr (Or.inr (Or.inl ⟨rfl, W_X21_does_f (z_gi H1 h1 (by decide) h3 ⟨fun h9 => absurd rfl h9, fun _ => x_gr H1 hf (by decide) hfr1.2.1 (z_gr H1 k1 (by decide) k2 (z_gr H1 y1 (by decide) y4 ?_))⟩)⟩))))
        have zero : ab = [] → B_X21_does_45 G (d' + 13 + 1) w (some fa) none σ1 (PsQ G (d' + 13 + 1 + 1) r fa lg j Q E) E := fun e => by
          rw [e] at hQ1
          refine B_X21_does_45_f ⟨fun h9 => absurd rfl h9, fun _ => x_p H1 hf (by decide) fun σ2 H2 e2 => ?_⟩
          exact step H2 (hD1.fr hS1 hf) hpg (RXf.sf (Or.inl rfl) hf0) sI_s ((sI_o (by decide)).trans hfr1.2.2.2.2) ((congrFun (sI_sc (Ne.symm hf0)).1 _).trans h111) e2 (by rw [e]; exact hQ1) fun _ => ⟨19, f', h1, by decide⟩
        cases hab : kA kd with
        | none =>
          rw [hab, acts_none] at b9
          have : abO (fun u => as0[u]?) kd = none := by unfold abO; rw [hab]; rfl
          rw [this]
          exact ⟨fun h9 => absurd rfl h9, fun _ => zero b9⟩
        | some u =>
          have hu := (b2.2.2.2.1 k kd b3).2.1 u hab
          obtain ⟨ua, hua⟩ : ∃ ua, as0[u]? = some ua := ⟨_, List.getElem?_eq_getElem (by rw [b1.1]; exact hu)⟩
          obtain ⟨ku, hku⟩ : ∃ ku, L0[u]? = some ku := ⟨_, List.getElem?_eq_getElem hu⟩
          obtain ⟨fu, u3, u4, u5, u6, u7, u8, j3, j4, j5, j6, j7, j8, z1, -⟩ := b1.2 u ku ua hku hua
          have ha : abO (fun u => as0[u]?) kd = some ua := by unfold abO; rw [hab]; exact hua
          rw [ha]
          rw [ha] at y4
          refine ⟨fun _ => x_gr H1 hf (by decide) hfr1.2.1 (z_gr H1 k1 (by decide) k2 (z_gr H1 y1 (by decide) y4 (x_gr H1 hf (by decide) hfr1.2.1 (z_gi H1 k1 (by decide) k3 (z_o H1 z1 (by decide) ?_))))), fun h9 => (by cases h9)⟩
          rw [hxn]
          refine X_bodyA (d := d' + 1) H1 b1 b2 hua (fun b' t l e hB2 => ?_) fun e => zero (by rw [b9, hab, e])
          rw [hab, e] at b9
          rw [b9] at hQ1
          refine B_X21_does_45_f ⟨fun _ => z_gr H1 h1 (by decide) (H1.tfx hS1.1.1 h1 (by decide)) (x_gr H1 hf (by decide) hfr1.1 (x_gi H1 hf (by decide) hfr1.2.2.1 (x_o H1 hS1.1.1 (by decide) ?_))), fun h9 => (by cases h9)⟩
          exact X_goC ih H1 hS1 hD1 hpg hf hf0 hf3 hfi h111 hfr1.2.2.2.2 hdp (fun last2 s2 ξ2 σ2 w1 w2 w3 w4 w5 w6 w7 w8 w9 => step w1 w2 w3 w4 w5 w6 w7 w8 (by rw [b9]; exact w9) fun _ => ⟨19, f', h1, by decide⟩) hc hl hB2 (acts_ok (fun k kd h => (b2.2.2.2.1 k kd h).2.2) 12 _ t (by rw [e]; exact List.mem_cons_self)) (by omega) (fun hne => by omega) hQ1
      | .arg a, ⟨f', h1, h2, h3, h4⟩, hok, hQ1 =>
        rw [go_do h0] at hQ1
        refine z_c H1 h1 (Or.inr (Or.inr (Or.inr (Or.inl ⟨rfl, W_X21_does_f (z_gi H1 h1 (by decide) h3 ⟨fun _ => x_gr H1 hf (by decide) hfr1.1 (z_gi H1 h1 (by decide) h2 ⟨fun _ => ?_, fun h9 => absurd rfl h9⟩), fun h9 => absurd h9 (nI_m1 (by omega))⟩)⟩))))
        exact X_goD (d := d' + 1) ih H1 hS1 hD1 hpg hf hf0 hf3 hfi h111 hfr1.2.2.2.2 hdp (fun last2 s2 ξ2 σ2 w1 w2 w3 w4 w5 w6 w7 w8 w9 => step w1 w2 w3 w4 w5 w6 w7 w8 w9 fun _ => ⟨19, f', h1, by decide⟩) hc hl h1 h3 (by omega) hQ1
      | .mul (.index l) (.index a), ⟨f', h1, h2, h3, h4, h5⟩, hok, hQ1 =>
        rw [go_send h0] at hQ1
        refine z_c H1 h1 (Or.inr (Or.inr (Or.inr (Or.inl ⟨rfl, W_X21_does_f (z_gi H1 h1 (by decide) h4 ⟨fun _ => x_gr H1 hf (by decide) hfr1.1 (z_gi H1 h1 (by decide) h2 ⟨fun h9 => absurd h9 (nI_m1 (by omega)), fun _ => z_gr H1 h1 (by decide) (H1.tfx hS1.1.1 h1 (by decide)) (z_gi H1 h1 (by decide) h2 (x_o H1 hcr (by decide) (X_getV (d := d') H1 hS1 hD1 hc hl h3 rfl (fun y hy => ?_) fun hno => ?_)))⟩), fun h9 => absurd h9 (nI_m1 (by omega))⟩)⟩))))
        · rw [hy] at hQ1
          dsimp only at hQ1
          refine x_o H1 hS1.1.1 (by decide) (X_living H1 hS1 (fun c' e1' e2' e3' e4' => ?_) fun hno => ?_)
          · rw [e1'] at hQ1
            refine ⟨fun _ => ?_, fun h9 => (by cases h9)⟩
            exact X_goD (d := d' + 1) ih H1 hS1 hD1 hpg hf hf0 hf3 hfi h111 hfr1.2.2.2.2 hdp (fun last2 s2 ξ2 σ2 w1 w2 w3 w4 w5 w6 w7 w8 w9 => step w1 w2 w3 w4 w5 w6 w7 w8 w9 fun _ => ⟨19, f', h1, by decide⟩) e2' e3' h1 h4 (by omega) hQ1
          · rw [hno] at hQ1
            exact ⟨fun h9 => absurd rfl h9, fun _ => z_gr H1 h1 (by decide) (H1.tfx hS1.1.1 h1 (by decide)) (x_o H1 hS1.1.1 (by decide) (X_fails H1 hS1.1.1 hS1.1.2.1 hS1.2.2.1.1 (hQ1.fail hD1 hf3)))⟩
        · rw [hno] at hQ1
          exact hQ1.fail hD1 hf3
      | .sub e (.sub y z), ⟨f', re, ry, h1, h2, h3, h4, h5, h6⟩, hok, hQ1 =>
        have hoe : hm e ≤ 520 := hok.1
        have hr1 : 1 ≤ rr := hok.2.1
        rw [go_if h0] at hQ1
        refine z_c H1 h1 (Or.inl ⟨rfl, W_X12_does_f (z_gr H1 h1 (by decide) h2 ?_)⟩)
        refine (X_of H1 hS1 hD1 hf hc hl hfr1.1 hfr1.2.2.1 hfr1.2.2.2.1 e).1 re _ h3 (by omega) _ (fun x hx => ?_) fun q hq => ?_
        · rw [hx] at hQ1
          dsimp only at hQ1
          -- a block of the if
          have blk : ∀ {t : Term} {rb : Nat}, isBk F rb (xL F t) → okB t (rr - 1) → GrQ A F D C p dp fi ξ1 σ1 o K j Q E (goI (fun l2 s2 => go C g' lg dp c n ab v l2 b s2) (go C g' false dp c n ab v last t (pay s))) → B_X12_does_22 G (d' + 13 + 1) w (some fa) (some rb) σ1 (PsQ G (d' + 13 + 1 + 1) r fa lg j Q E) E := fun {t rb} hbk hokt hQt => by
            obtain ⟨fb, ob, Kb, lb, ob', k1, k2, k3, k4, k5, k6, k7⟩ := hbk
            refine B_X12_does_22_f ⟨fun h9 => (by cases h9), fun _ => z_o H1 k1 (by decide) (W_X10_does_f ?_)⟩
            refine ih false dp c n ab v last t (pay s) ξ1 σ1 fi fa ba rb ob Kb 0 lb (d' + 12 + 1) (rr - 1) fb ob' t0 _ E H1 hS1 hD1 hpg hc hl hf hfi hfr1 hB h111 hdp k1 k2 k3 k4 k5 k6 k7 hokt (by omega) (by omega) ?_
            have hfu := go_fuel (C := C) g' false dp c n ab v last t (pay s)
            have h4 := go_no4 (C := C) g' dp c n ab v last t (pay s)
            revert hQt hfu h4
            generalize go C g' false dp c n ab v last t (pay s) = R
            intro hQt hfu h4
            obtain ⟨⟨q, y, b'⟩, lx, s'⟩ := R
            match q, hQt, h4 with
            | 0, hQt, _ => exact fun ξ' σ' a1 a2 a3 a4 a5 a6 a7 => ⟨fun h9 => absurd h9 (nI_pos (by omega)), fun _ => step a1 a2 (Nat.le_trans hfu hpg) a3 a4 a5 a6 a7 hQt fun _ => ⟨11, f', h1, by decide⟩⟩
            | 1, hQt, _ => exact fun ξ' σ' a1 a2 a3 a4 a5 a6 a7 => ⟨fun _ => ⟨fun h9 => absurd rfl h9, fun _ => hQt ξ' σ' a1 a2 a3 a4 a5 a6 a7⟩, fun h9 => absurd (by decide) h9⟩
            | 2, hQt, _ => exact hQt
            | 3, hQt, _ => exact hQt
            | 4, _, h4 => exact absurd rfl h4
            | _ + 5, _, _ => exact trivial
          refine ⟨fun he => ?_, fun hne => ?_⟩
          · rw [if_pos he] at hQ1
            rcases h6 with ⟨h6, hz⟩ | ⟨rn, h6, hz⟩
            · subst hz
              rw [go_end] at hQ1
              exact z_gr H1 h1 (by decide) h6 (B_X12_does_22_f ⟨fun _ => step H1 hD1 hpg RXf.refl hfr1.2.2.2.1 hfr1.2.2.2.2 h111 rfl hQ1 fun _ => ⟨11, f', h1, by decide⟩, fun h9 => absurd rfl h9⟩)
            · exact z_gr H1 h1 (by decide) h6 (blk hz hok.2.2.2.1 hQ1)
          · rw [if_neg hne] at hQ1
            exact z_gr H1 h1 (by decide) h4 (blk h5 hok.2.2.1 hQ1)
        · rw [hq] at hQ1
          exact hQ1.fail hD1 hf3
    · have hgo : go C g lg dp c n ab v last (.add st b) s = ((3, 0, .thrown), last, s) := by
        cases g with
        | zero => exact go_0
        | succ g => exact go_sp h0
      rw [hgo] at hQ
      exact hQ (xs_sI ξ 3 7 1) σ1 H1 (hD.same (fun r hr => sI_sc (by omega)) (congrFun (sI_sc (by decide)).1 _) (congrFun (sI_sc (by decide)).1 _)) (RXf.s3 hf3) sI_s e1
  | _ => exact hx.elim
/-- a run of X follows the pure one -/
theorem X_go : ∀ (g : Nat), GrP G A F D C p g
  | 0 => X_goS fun _ h => by cases h
  | g + 1 => X_goS fun g' h => by
    injection h with h
    rw [h]
    exact X_go g
end
