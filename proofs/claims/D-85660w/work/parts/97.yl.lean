set_option maxRecDepth 100000
section
variable {G : am_G} {A : Nat → Nat} {T : Nat → Int32} {n d x p : Nat} {N : ps_N} {F : am_H} {D : xs_D} {ξ : xs_X} {σ : am_S} {E : Nat → am_S → Prop}
/-- refused at the token at hand -/
theorem X_refuse (h : XI G A T n p N F D ξ σ) {k : Int32} (hE : XFt G A T n F D ξ x E k (lxa T p) N) (hcr : cr G x σ) : f_gr σ (some (A 1)) [4] 7 (fun v => f_gi σ (some (A 1)) [4] 1 (fun v40 => f_o σ v [0] (fun b => W_X0_refused G d b k v40 σ (fun v41 σ42 => f_o σ42 v41 [3] (fun q => E q σ42))))) :=
  x_gr h.1.1 h.1.2.2.1.2.1 (by decide) h.1.2.2.2.1.2.2.2.1 (x_gi h.1.1 h.1.2.2.1.2.1 (by decide) h.2.2.1.2.1 (x_o h.1.1 h.1.2.2.1.1 (by decide) (h.ft hE rfl hcr)))
/-- the check's outcome -/
theorem X_me102 (hG : GK G) (hd : 48 ≤ d) (h : XI G A T n p N F D ξ σ) (h2 : lxt T p = 2) (h4 : xI ξ 1 4 = nI 0) (hcr : cr G (600 * (n + 1 - p) + x) σ) {t : Int32} {nm a c : Nat} {ab : Int32} {kd : Kd} (hD : DR F D ξ fmP a c ab kd) {Q : Option Nat → am_S → Prop} {s0 x3 : Int32} {bad : Bool} (hs0 : s0 = if bad = true then 1 else 0) (hx3 : x3 = if t = 103 then 1 else 0) {res : ps_R Mem} (hres : res = if bad = true then ps_f 4 (lxa T p) N else if fullM kd (msort t) = true then ps_f 5 (lxa T p) N else ps_mrest T t nm (lxe T p) N) (hQ : MeQ G A T n F D ξ p (x + 580) res Q) (hE : XFn G A T n F D ξ x res E) : B_X4_member_102 G (d + 18) (A 1) (some a) x3 (nI (msort t)) (nI nm) s0 σ Q E := by
  subst hs0
  refine B_X4_member_102_f ?_
  cases bad with
  | true =>
    rw [if_pos rfl] at hres ⊢
    exact ⟨fun c => absurd c (by decide), fun _ => X_refuse (x := x) h (hE 4 _ N hres) (hcr.le (by omega))⟩
  | false =>
    rw [if_neg (by decide)] at hres ⊢
    have hm3 : msort t < 3 := by
      unfold msort
      split
      · decide
      · split <;> decide
    refine ⟨fun _ => x_o h.1.1 hD.2.1 (by decide) (X_drFull h.1.1 hD hm3 ?_), fun c => absurd rfl c⟩
    by_cases hf : fullM kd (msort t) = true
    · rw [if_pos hf]
      rw [if_pos hf] at hres
      exact y2 (X_refuse (x := x) h (hE 5 _ N hres) (hcr.le (by omega)))
    · rw [if_neg hf]
      rw [if_neg hf] at hres
      rw [hres] at hQ hE
      exact z2 (X_mrest hG hd h h2 h4 hcr hQ hE hx3)
/-- a member of the draft k of a pond -/
theorem X_member_p (hG : GK G) (hd : 48 ≤ d) (h : XI G A T n p N F D ξ σ) (h4 : xI ξ 1 4 = nI 0) (hcr : cr G (600 * (n + 1 - p) + x) σ) (hm : 102 ≤ lxt T p ∧ lxt T p ≤ 105) {b l cap k : Nat} {e : Option Nat} {ds : List (Nat × Nat)} {L : List Kd} {dd : Nat × Nat} {kd : Kd} (hW : PW G F D ξ b l e cap ds L) (hL : L.length ≤ 12) (hu : ∀ (i j : Nat) (ki kj : Kd), L[i]? = some ki → L[j]? = some kj → kN ki = kN kj → i = j) (hneg : ∀ (k : Nat) (kd : Kd), L[k]? = some kd → ¬ kN kd = -1) (hac : ac L 12 (kA kd)) (hk : L[k]? = some kd) (hdk : ds[k]? = some dd) {Q : Option Nat → am_S → Prop} (hQ : MeQ G A T n F D ξ (p + 1) (x + 580) (ps_mem T (chkP L k) p N) Q) (hE : XFn G A T n F D ξ x (ps_mem T (chkP L k) p N) E) : W_X4_member G (d + 18) (A 1) (some dd.1) (some b) σ Q E := by
  have hTD := h.1.2.1
  have hR := h.1.2.2.1
  have r1 := hR.2.1
  have hz : ¬ lxt T p = 0 := fun e => by rw [e] at hm; exact absurd hm (by decide)
  unfold ps_mem at hQ hE
  rw [if_neg (not_not_intro hm)] at hQ hE
  have b37 : B_X4_member_37 G (d + 18) (A 1) (some dd.1) (some b) (if lxt T p = 103 then 1 else 0) (nI (msort (lxt T p))) σ Q E := by
    refine B_X4_member_37_f (x_o h.1.1 r1 (by decide) (h.next (d := d + 9) hG hz hcr fun F1 ξ1 σ1 g1 g2 g3 g4 g5 g6 => x_o g1.1.1 g1.1.2.2.1.2.1 (by decide) (X_name (d := d + 13) (x := x) g1 hG (g6.le (by omega)) (fun nm p' N' e1 e2 e3 hnm F2 ξ2 σ2 j1 j2 j3 j4 j5 => ?_) fun kd q N' e1 => (hE kd q N' (by rw [e1]; rfl)).pre g2 XD.refl hTD hR (by omega))))
    subst e3
    rw [e1] at hQ hE
    have hW2 := hW.pf (g2.trans j2)
    have hD2 := hW2.2.2.1 k dd kd hdk hk
    have hQ2 := hQ.pre (g2.trans j2) g5 (show x + 580 ≤ (x + 590) + 580 by omega)
    have hE2 := hE.pre (g2.trans j2) XD.refl hTD hR (show x ≤ x + 590 by omega)
    refine ⟨fun c => absurd c (by simp), fun _ => ?_⟩
    have go : ∀ (bad : Bool) (s0 : Int32), s0 = (if bad = true then 1 else 0) → bad = (if msort (lxt T p) = 2 then (ixA kd (nI nm)).isSome else hasO (nI nm) kd || (upK L (hasO (nI nm)) 12 (kA kd)).isSome) → B_X4_member_102 G (d + 18) (A 1) (some dd.1) (if lxt T p = 103 then 1 else 0) (nI (msort (lxt T p))) (nI nm) s0 σ2 Q E := fun bad s0 hs hb => by
      refine X_me102 (x := x + 590) (bad := bad) hG hd j1 e2 (j3.trans (g3.trans h4)) (g6.eq j5) hD2 hs rfl ?_ hQ2 hE2
      show (match chkP L k (msort (lxt T p)) (nI nm) with
        | some kd => ps_f kd (lxa T (lxe T p)) N'
        | none => ps_mrest T (lxt T p) nm (lxe T (lxe T p)) N') = _
      unfold chkP
      rw [hk]
      dsimp only
      rw [← hb]
      cases bad with
      | true => rfl
      | false =>
        by_cases hf : fullM kd (msort (lxt T p)) = true
        · simp only [hf]; rfl
        · simp only [Bool.not_eq_true] at hf; simp only [hf]; rfl
    refine ⟨fun n2 => ?_, fun c2 => ?_⟩
    · have hm2 : ¬ msort (lxt T p) = 2 := fun e => n2 (by rw [e]; rfl)
      rw [if_neg hm2] at go
      refine x_o j1.1.1 hD2.2.1 (by decide) (X_drHolds (d := d + 15) j1.1.1 hD2 ?_)
      by_cases hh : hasO (nI nm) kd = true
      · rw [if_pos hh]
        exact y1 (go true 1 rfl (by rw [hh]; rfl))
      · rw [if_neg hh]
        refine z1 (x_o j1.1.1 j1.1.2.2.1.2.1 (by decide) (W_X4_isAbove_f (x_gi j1.1.1 hD2.2.1 (by decide) hD2.2.2.2.2.1 (X_isAbove_l (d := d + 11) j1.1.1 hW2 hL hu hneg 12 (kA kd) hac rfl ?_))))
        have hh' : hasO (nI nm) kd = false := by simpa using hh
        cases hup : (upK L (hasO (nI nm)) 12 (kA kd)).isSome with
        | true => exact y2 (go true 1 rfl (by rw [hup, hh']; rfl))
        | false => exact z2 (go false 0 rfl (by rw [hup, hh']; rfl))
    · have hm2 : msort (lxt T p) = 2 := by
        have hm3 : msort (lxt T p) < 3 := by
          unfold msort
          split
          · decide
          · split <;> decide
        exact (nI_eq (show msort (lxt T p) < 2 ^ 31 by omega) (show 2 < 2 ^ 31 by decide)).mp c2
      rw [if_pos hm2] at go
      refine x_o j1.1.1 hD2.2.1 (by decide) (X_drAct (d := d + 16) j1.1.1 hD2 ?_)
      cases ho : ixA kd (nI nm) with
      | none => exact ⟨fun _ => go false 0 rfl (by rw [ho]; rfl), fun c => absurd rfl c⟩
      | some i => exact ⟨fun c => absurd c (nI_m1 (by have := ixf_lt ho; have := hD2.2.2.2.2.2.2.2.2.1; omega)), fun _ => go true 1 rfl (by rw [ho]; rfl)⟩
  refine W_X4_member_f (x_o h.1.1 r1 (by decide) (X_isWord (d := d + 15) (k := 3) h hG (by decide) (x_o h.1.1 r1 (by decide) (X_isWord2 (d := d + 15) (k := 5) h hG (by decide) (fun e => y2 ?_) fun n5 => z2 (x_o h.1.1 r1 (by decide) (X_isWord2 (d := d + 15) (k := 4) h hG (by decide) (fun e => y2 ?_) fun n4 => z2 ?_))))))
  · rw [msort_2 (show lxt T p = 105 from e)] at b37; exact b37
  · rw [msort_1 (show lxt T p = 104 from e)] at b37; exact b37
  · rw [msort_0 n5 n4] at b37; exact b37
/-- a member of a patch -/
theorem X_member_n (hG : GK G) (hd : 48 ≤ d) (h : XI G A T n p N F D ξ σ) (h4 : xI ξ 1 4 = nI 0) (hcr : cr G (600 * (n + 1 - p) + x) σ) (hm : 102 ≤ lxt T p ∧ lxt T p ≤ 105) {o2 : Option Nat} {Q : Option Nat → am_S → Prop} (hQ : MeQ G A T n F D ξ (p + 1) (x + 580) (ps_mem T (fun _ _ => none) p N) Q) (hE : XFn G A T n F D ξ x (ps_mem T (fun _ _ => none) p N) E) : W_X4_member G (d + 18) (A 1) none o2 σ Q E := by
  have hTD := h.1.2.1
  have hR := h.1.2.2.1
  have r1 := hR.2.1
  have hz : ¬ lxt T p = 0 := fun e => by rw [e] at hm; exact absurd hm (by decide)
  unfold ps_mem at hQ hE
  rw [if_neg (not_not_intro hm)] at hQ hE
  have b37 : B_X4_member_37 G (d + 18) (A 1) none o2 (if lxt T p = 103 then 1 else 0) (nI (msort (lxt T p))) σ Q E := by
    refine B_X4_member_37_f (x_o h.1.1 r1 (by decide) (h.next (d := d + 9) hG hz hcr fun F1 ξ1 σ1 g1 g2 g3 g4 g5 g6 => x_o g1.1.1 g1.1.2.2.1.2.1 (by decide) (X_name (d := d + 13) (x := x) g1 hG (g6.le (by omega)) (fun nm p' N' e1 e2 e3 hnm F2 ξ2 σ2 j1 j2 j3 j4 j5 => ?_) fun kd q N' e1 => (hE kd q N' (by rw [e1]; rfl)).pre g2 XD.refl hTD hR (by omega))))
    subst e3
    rw [e1] at hQ hE
    refine ⟨fun _ => ?_, fun c => absurd rfl c⟩
    exact X_mrest (x := x + 590) hG hd j1 e2 (j3.trans (g3.trans h4)) (g6.eq j5) (hQ.pre (g2.trans j2) g5 (by omega)) (hE.pre (g2.trans j2) XD.refl hTD hR (by omega)) rfl
  refine W_X4_member_f (x_o h.1.1 r1 (by decide) (X_isWord (d := d + 15) (k := 3) h hG (by decide) (x_o h.1.1 r1 (by decide) (X_isWord2 (d := d + 15) (k := 5) h hG (by decide) (fun e => y2 ?_) fun n5 => z2 (x_o h.1.1 r1 (by decide) (X_isWord2 (d := d + 15) (k := 4) h hG (by decide) (fun e => y2 ?_) fun n4 => z2 ?_))))))
  · rw [msort_2 (show lxt T p = 105 from e)] at b37; exact b37
  · rw [msort_1 (show lxt T p = 104 from e)] at b37; exact b37
  · rw [msort_0 n5 n4] at b37; exact b37
end
