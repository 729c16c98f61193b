set_option maxRecDepth 100000
/-- a block's first statement, as the model has it -/
theorem isB_inv {nd : Nat → Int32} {B : Nat} : ∀ (st b : Term) (m : Nat) (y : Int32), isB nd B 0 (.add st b) m y → ∃ k, y = nI k ∧ k < m ∧ isT nd B 0 st k ∧ isB nd B 0 b m (nf nd B k 4)
  | .elem (.index n) e, b, m, y, ⟨k, h1, h2, h3, h4, h5, h6, h7, h8⟩ => ⟨k, h1, h3, ⟨h4, h5, h6, h7⟩, h8⟩
  | .length e, b, m, y, ⟨k, h1, h2, h3, h4, h5, h6⟩ => ⟨k, h1, h3, ⟨h4, h5⟩, h6⟩
  | .sum e, b, m, y, ⟨k, h1, h2, h3, h4, h5, h6⟩ => ⟨k, h1, h3, ⟨h4, h5⟩, h6⟩
  | .null, b, m, y, ⟨k, h1, h2, h3, h4, h5⟩ => ⟨k, h1, h3, h4, h5⟩
  | .arg a, b, m, y, ⟨k, h1, h2, h3, h4, h5, h6, h7⟩ => ⟨k, h1, h3, ⟨h4, h5, h6⟩, h7⟩
  | .mul (.index l) (.index a), b, m, y, ⟨k, h1, h2, h3, h4, h5, h6, h7, h8, h9⟩ => ⟨k, h1, h3, ⟨h4, h5, h6, h7, h8⟩, h9⟩
  | .result, b, m, y, ⟨k, h1, h2, h3, h4, h5⟩ => ⟨k, h1, h3, h4, h5⟩
  | .sub e (.sub yy n), b, m, y, ⟨k, h1, h2, h3, h4, h5, h6, h7, h8⟩ => ⟨k, h1, h3, ⟨h4, h5, h6, h7⟩, h8⟩
/-- what is asked of a run's outcome in the model -/
def GmQ (C : Ctx) (dp : Nat) (μ : mm_S) (nd : Nat → Int32) (txt : Nat) (Q : Int32 → mm_S → Prop) (R : RO) : Prop := match R with
  | ((0, _, _), l, s') => ∀ μ', MR C s' μ' → RMf dp μ μ' → mA μ' 45 dp = l → mI μ' 54 = 0 → mI μ' 42 = 0 → Q 0 μ'
  | ((1, x, _), l, s') => ∀ μ', MR C s' μ' → RMf dp μ μ' → mA μ' 45 dp = l → mI μ' 54 = 0 → mI μ' 42 = 0 → mI μ' 40 = x → Q 1 μ'
  | ((2, q, _), _, s') => ∀ μ', MR C s' μ' → RMf dp μ μ' → mI μ' 54 = 0 → mI μ' 42 = 0 → mI μ' 39 = q → Q 2 μ'
  | ((3, _, _), _, s') => ∀ μ', MR C s' μ' → RMf dp μ μ' → mI μ' 54 = 0 → mI μ' 42 = 1 → Q 2 μ'
  | ((4, _, b'), l, s') => ∀ μ' k, k < 1100 → nf nd (1200 * txt) k 0 = 26 → isB nd (1200 * txt) 0 b' 1001 (nf nd (1200 * txt) k 4) → mI μ' 55 = gI txt (nf nd (1200 * txt) k 4) → MR C s' μ' → RMf dp μ μ' → mA μ' 45 dp = l → mI μ' 54 = 0 → mI μ' 42 = 0 → Q 3 μ'
  | _ => True
theorem GmQ.up {C : Ctx} {dp : Nat} {μ μ1 : mm_S} {nd : Nat → Int32} {txt : Nat} {Q : Int32 → mm_S → Prop} {R : RO} (h : GmQ C dp μ nd txt Q R) (hf : RMf dp μ μ1) : GmQ C dp μ1 nd txt Q R := by
  obtain ⟨⟨q, x, b⟩, l, s⟩ := R
  match q, h with
  | 0, h => exact fun μ' a1 a2 => h μ' a1 (hf.trans a2)
  | 1, h => exact fun μ' a1 a2 => h μ' a1 (hf.trans a2)
  | 2, h => exact fun μ' a1 a2 => h μ' a1 (hf.trans a2)
  | 3, h => exact fun μ' a1 a2 => h μ' a1 (hf.trans a2)
  | 4, h => exact fun μ' k a1 a2 a3 a4 a5 a6 => h μ' k a1 a2 a3 a4 a5 (hf.trans a6)
  | _ + 5, _ => exact trivial
/-- a run of the model follows the pure one, with g to spend -/
def GmP (G : am_G) (ρ : mm_F) (C : Ctx) (g : Nat) : Prop := ∀ (lg : Bool) (dp c : Nat) (n : Int32) (ab : List (Term × Int32 × Int32)) (v last : Int32) (b : Term) (s : RSt) (μ : mm_S) (txt : Nat) (y : Int32) (l : List (Term × Int32 × Int32)) (at_ d rr : Nat) (t0 : Term × Int32 × Int32) (Q : Int32 → mm_S → Prop), MR C s μ → s.1 ≤ g → c < cN C → cL C c = true → FM μ dp c v last → FA μ dp n l → mA μ 47 dp = nI at_ → l[at_]? = some t0 → ab = l.drop (at_ + 1) → dp ≤ 20 → mI μ 54 = 0 → mI μ 42 = 0 → txt < 7 → isB (mA μ 15) (1200 * txt) 0 b 1001 y → okB b rr → rr ≤ 12 → 600 + (20 - dp) * 30 + 2 * rr ≤ d → GmQ C dp μ (mA μ 15) txt Q (go C g lg dp c n ab v last b s) → B_X6_goes_3 G ρ d (nI dp) (if lg = true then 1 else 0) (gI txt y) μ Q
/-- what is asked behind a body -/
def BmQ (C : Ctx) (dp : Nat) (μ : mm_S) (Q : Int32 → mm_S → Prop) (R : RO) : Prop := match R with
  | ((0, _, _), _, s') => ∀ μ', MR C s' μ' → RMf dp μ μ' → mA μ' 45 dp = 0 → mI μ' 54 = 0 → mI μ' 42 = 0 → Q 1 μ'
  | ((1, x, _), _, s') => ∀ μ', MR C s' μ' → RMf dp μ μ' → mA μ' 45 dp = x → mI μ' 54 = 0 → mI μ' 42 = 0 → Q 1 μ'
  | ((2, q, _), _, s') => ∀ μ', MR C s' μ' → RMf dp μ μ' → mI μ' 54 = 0 → mI μ' 42 = 0 → mI μ' 39 = q → Q 0 μ'
  | ((3, _, _), _, s') => ∀ μ', MR C s' μ' → RMf dp μ μ' → mI μ' 54 = 0 → mI μ' 42 = 1 → Q 0 μ'
  | _ => True
theorem RMf.less {dp : Nat} {μ μ1 : mm_S} (h : RMf (dp + 1) μ μ1) : RMf dp μ μ1 := ⟨h.1, h.2.1, fun i hi => h.2.2.1 i (by omega), fun i hi => h.2.2.2.1 i (by omega), fun q hq => h.2.2.2.2 q (by omega)⟩
theorem FM.rm {dp c : Nat} {v last last' : Int32} {μ μ1 : mm_S} (h : FM μ dp c v last) (hf : RMf dp μ μ1) (h45 : mA μ1 45 dp = last') : FM μ1 dp c v last' := by
  obtain ⟨a1, a2, a3, a4, a5⟩ := hf.2.2.1 dp (Nat.le_refl _)
  exact ⟨a1.trans h.1, a2.trans h.2.1, h45⟩
theorem FA.rm {dp : Nat} {n : Int32} {l : List (Term × Int32 × Int32)} {μ μ1 : mm_S} (h : FA μ dp n l) (hf : RMf dp μ μ1) : FA μ1 dp n l := by
  obtain ⟨a1, a2, a3, a4, a5⟩ := hf.2.2.1 dp (Nat.le_refl _)
  exact h.fr a3 a5 (hf.1.eA (by decide)) fun q h1 h2 => hf.2.2.2.2 q (by omega)
section
variable {G : am_G} {ρ : mm_F} {C : Ctx} {s : RSt} {d g : Nat} {μ : mm_S}
/-- a body is gone through in the frame of its depth -/
theorem M_body (ih : GmP G ρ C g) (H : MR C s μ) (hg : s.1 ≤ g) {dp c at_ : Nat} {n v : Int32} {l : List (Term × Int32 × Int32)} {t : Term × Int32 × Int32} (hc : c < cN C) (hl : cL C c = true) (hF : FM μ (dp + 1) c v 0) (hA : FA μ (dp + 1) n l) (h47 : mA μ 47 (dp + 1) = nI at_) (ht : l[at_]? = some t) (hdp : dp + 1 ≤ 20) (h54 : mI μ 54 = 0) (h42 : mI μ 42 = 0) (hd : 600 + (20 - (dp + 1)) * 30 + 24 ≤ d) {Q : Int32 → mm_S → Prop} (hQ : BmQ C dp μ Q (go C g false (dp + 1) c n (l.drop (at_ + 1)) v 0 t.1 (noteR C s c n t))) : W_X6_body G ρ (d + 1) (nI (dp + 1)) μ Q := by
  have hat := get_lt ht
  have hA' := hA
  obtain ⟨x1, x2, x3, x4⟩ := hA
  obtain ⟨c1, c2, c3, c4⟩ := x4 at_ t ht
  obtain ⟨d', rfl⟩ : ∃ d', d = d' + 1 := ⟨d - 1, by omega⟩
  refine W_X6_body_f (M_ran H hF hA' hdp h47 ht fun μ1 H1 f1 μ2 e2 => ?_)
  have f2 : fr [40, 62, 63, 64, 65, 66] μ μ2 := by rw [e2]; exact (f1.more (by decide)).sI (by decide)
  have H2 : MR C (noteR C s c n t) μ2 := by rw [e2]; exact H1.fr (fr.refl.sI (ks := [40]) (by decide)) (by decide)
  have r2 : ∀ k, RMf k μ μ2 := fun k => RMf.of f2 (by decide) (by decide)
  have e12 : 12 * nI (dp + 1) + nI at_ = nI (12 * (dp + 1) + at_) := by rw [show (12 : Int32) = nI 12 from rfl, pk_mul, nI_add]
  have e1 : nI (dp + 1) - 1 = nI dp := nI_pred dp
  rw [nI_clamp (show dp + 1 < 2 ^ 31 by omega), f2.eA (show (47 : Nat) ∉ [40, 62, 63, 64, 65, 66] by decide), f2.eA (show (49 : Nat) ∉ [40, 62, 63, 64, 65, 66] by decide), h47, e12, nI_clamp (show 12 * (dp + 1) + at_ < 2 ^ 31 by omega), e1, nI_clamp (show dp < 2 ^ 31 by omega)]
  refine ⟨vp_in_nI (by omega) (by decide), vp_in_nI (by omega) (by decide), ?_⟩
  obtain ⟨txt, m, y, b1, b2, b3, b4⟩ := c1
  rw [b4]
  refine W_X6_goes_f ?_
  have e15 : mA μ2 15 = mA μ 15 := f2.eA (by decide)
  have hvd : vp_in (nI dp) 21 := vp_in_nI (by omega) (by decide)
  refine ih false (dp + 1) c n _ v 0 t.1 (noteR C s c n t) μ2 txt y l at_ (d' + 1) 12 t _ H2 (by rw [noteR_fuel]; exact hg) hc hl (hF.rm (r2 _) (by rw [f2.eA (show (45 : Nat) ∉ [40, 62, 63, 64, 65, 66] by decide)]; exact hF.2.2)) (hA'.rm (r2 _)) (by rw [f2.eA (show (47 : Nat) ∉ [40, 62, 63, 64, 65, 66] by decide)]; exact h47) ht rfl hdp (by rw [f2.eI (show (54 : Nat) ∉ [40, 62, 63, 64, 65, 66] by decide)]; exact h54) (by rw [f2.eI (show (42 : Nat) ∉ [40, 62, 63, 64, 65, 66] by decide)]; exact h42) b1 (by rw [e15]; exact isB.up _ _ _ _ b2 b3) c4 (Nat.le_refl _) (by omega) ?_
  have h4 := go_no4 (C := C) g (dp + 1) c n (l.drop (at_ + 1)) v 0 t.1 (noteR C s c n t)
  revert hQ h4
  generalize go C g false (dp + 1) c n (l.drop (at_ + 1)) v 0 t.1 (noteR C s c n t) = R
  intro hQ h4
  obtain ⟨⟨q, x, b⟩, lx, s'⟩ := R
  have fin : ∀ (x : Int32) (μ' μ5 : mm_S), MR C s' μ' → RMf (dp + 1) μ2 μ' → mI μ' 54 = 0 → mI μ' 42 = 0 → μ5 = mm_sA μ' 45 dp x → MR C s' μ5 ∧ RMf dp μ μ5 ∧ mA μ5 45 dp = x ∧ mI μ5 54 = 0 ∧ mI μ5 42 = 0 := fun x μ' μ5 a1 a2 a3 a4 e => by
    subst e
    exact ⟨a1.fr (fr.refl.sA (ks := [45]) (by decide)) (by decide), ((r2 dp).trans a2.less).trans RMf.last, mA_s, a3, a4⟩
  match q, hQ, h4 with
  | 0, hQ, _ =>
    intro μ' a1 a2 a3 a4 a5
    refine ⟨fun _ => ⟨fun _ => ⟨hvd, fun μ5 e5 => ?_⟩, fun h9 => absurd h9 (by decide)⟩, fun h9 => absurd h9 (by decide)⟩
    obtain ⟨k1, k2, k3, k4, k5⟩ := fin 0 μ' μ5 a1 a2 a4 a5 e5
    exact hQ μ5 k1 k2 k3 k4 k5
  | 1, hQ, _ =>
    intro μ' a1 a2 a3 a4 a5 a6
    refine ⟨fun _ => ⟨fun h9 => absurd rfl h9, fun _ => ⟨hvd, fun μ5 e5 => ?_⟩⟩, fun h9 => absurd h9 (by decide)⟩
    rw [a6] at e5
    obtain ⟨k1, k2, k3, k4, k5⟩ := fin x μ' μ5 a1 a2 a4 a5 e5
    exact hQ μ5 k1 k2 k3 k4 k5
  | 2, hQ, _ => exact fun μ' a1 a2 a3 a4 a5 => ⟨fun h9 => absurd rfl h9, fun _ => hQ μ' a1 ((r2 dp).trans a2.less) a3 a4 a5⟩
  | 3, hQ, _ => exact fun μ' a1 a2 a3 a4 => ⟨fun h9 => absurd rfl h9, fun _ => hQ μ' a1 ((r2 dp).trans a2.less) a3 a4⟩
  | 4, _, h4 => exact absurd rfl h4
  | _ + 5, _, _ => exact trivial
end
