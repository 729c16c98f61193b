set_option maxRecDepth 100000
/-! ===== numbers worked out by the model ===== -/
/-- what a number's work changes -/
def EvF (P : Nat) (μ μ' : mm_S) : Prop := fr [39, 52, 53, 54] μ μ' ∧ ∀ q, q < P → mA μ' 53 q = mA μ 53 q
theorem EvF.refl {P : Nat} {μ : mm_S} : EvF P μ μ := ⟨fr.refl, fun _ _ => rfl⟩
theorem EvF.trans {P P1 : Nat} {μ μ1 μ2 : mm_S} (h1 : EvF P μ μ1) (h2 : EvF P1 μ1 μ2) (hP : P ≤ P1) : EvF P μ μ2 := ⟨h1.1.trans h2.1, fun q hq => (h2.2 q (by omega)).trans (h1.2 q hq)⟩
theorem EvF.sI {P k : Nat} {x : Int32} {μ μ1 : mm_S} (h : EvF P μ μ1) (hk : k ∈ [39, 52, 54]) : EvF P μ (mm_sI μ1 k x) := ⟨h.1.sI (by
  rcases List.mem_cons.mp hk with h | h
  · rw [h]; decide
  · rcases List.mem_cons.mp h with h | h
    · rw [h]; decide
    · rw [List.mem_singleton.mp h]; decide), h.2⟩
/-- a frame of the model -/
def FM (μ : mm_S) (dp c : Nat) (v last : Int32) : Prop := mA μ 43 dp = nI c ∧ mA μ 44 dp = v ∧ mA μ 45 dp = last
theorem MR.ev {C : Ctx} {s : RSt} {P : Nat} {μ μ' : mm_S} (h : MR C s μ) (g : EvF P μ μ') : MR C s μ' := h.fr g.1 (by decide)
theorem FM.ev {dp c P : Nat} {v last : Int32} {μ μ' : mm_S} (h : FM μ dp c v last) (g : EvF P μ μ') : FM μ' dp c v last := ⟨by rw [g.1.eA (by decide)]; exact h.1, by rw [g.1.eA (by decide)]; exact h.2.1, by rw [g.1.eA (by decide)]; exact h.2.2⟩
section
variable {G : am_G} {ρ : mm_F} {C : Ctx} {s : RSt} {c dp : Nat} {v last : Int32}
/-- a number worked out by the model: up to the chain's foot -/
def MV (G : am_G) (ρ : mm_F) (C : Ctx) (s : RSt) (c dp : Nat) (v last : Int32) (nd : Nat → Int32) (txt D k : Nat) (res : Int32 ⊕ Int32) : Prop := ∀ (P P0 : Nat) (μ : mm_S) (Q : Int32 → mm_S → Prop), mA μ 15 = nd → MR C s μ → FM μ dp c v last → mI μ 54 = nI P → P0 ≤ P → P + k ≤ 1100 → (∀ x μ', res = .inr x → EvF P μ μ' → mI μ' 54 = nI P → mI μ' 52 = x → B_X6_eval_62 G ρ D (nI dp) (nI P0) 1 μ' Q) → (∀ q μ', res = .inl q → EvF P μ μ' → mI μ' 54 = nI P0 → mI μ' 39 = q → Q 0 μ') → B_X6_eval_8 G ρ D (nI dp) (nI P0) (nI (1200 * txt + k)) μ Q
theorem M_ret {d P0 : Nat} {x : Int32} {μ : mm_S} {Q : Int32 → mm_S → Prop} (h0 : x = 0 ∨ (x = 1 ∧ mI μ 54 ≤ nI P0)) (h : Q x (mm_sI μ 54 (nI P0))) : B_X6_eval_62 G ρ (d + 1) (nI dp) (nI P0) x μ Q := by
  refine B_X6_eval_62_f ⟨fun h9 μ1 e1 => ⟨by rw [h9]; rfl, by rw [e1]; exact h⟩, fun h9 => ?_⟩
  rcases h0 with h0 | ⟨h0, h1⟩
  · exact absurd h0 h9
  · exact ⟨fun _ μ1 e1 => ⟨by rw [h0]; rfl, by rw [e1]; exact h⟩, fun h8 => absurd h1 h8⟩
/-- a number worked out by the model -/
theorem MV.eval {nd : Nat → Int32} {txt D k P : Nat} {res : Int32 ⊕ Int32} {μ : mm_S} {Q : Int32 → mm_S → Prop} (h : MV G ρ C s c dp v last nd txt (D + 1) k res) (hE : mA μ 15 = nd) (H : MR C s μ) (hF : FM μ dp c v last) (hP : mI μ 54 = nI P) (hk : P + k ≤ 1100) (hy : ∀ x μ', res = .inr x → EvF P μ μ' → mI μ' 54 = nI P → mI μ' 52 = x → Q 1 μ') (hn : ∀ q μ', res = .inl q → EvF P μ μ' → mI μ' 54 = nI P → mI μ' 39 = q → Q 0 μ') : W_X6_eval G ρ (D + 1) (nI (1200 * txt + k)) (nI dp) μ Q := by
  refine W_X6_eval_f ?_
  rw [hP]
  refine h P P μ Q hE H hF hP (Nat.le_refl _) hk (fun x μ' e g g1 g2 => M_ret (Or.inr ⟨rfl, by rw [g1]; exact Int32.le_refl _⟩) ?_) hn
  exact hy x _ e (g.sI (by decide)) mI_s ((mI_o (by decide)).trans g2)
/-- what has no chain -/
theorem MV_leaf {nd : Nat → Int32} {txt D k : Nat} {res : Int32 ⊕ Int32} {o : Int32} (hk : txt < 7) (hk2 : k < 1200) (ho : nf nd (1200 * txt) k 0 = o) (ho10 : o < 10) (hS : ∀ (P : Nat) (μ : mm_S) (Q : Int32 → mm_S → Prop), mA μ 15 = nd → MR C s μ → FM μ dp c v last → mI μ 54 = nI P → P + k ≤ 1100 → (∀ x μ', res = .inr x → EvF P μ μ' → mI μ' 54 = nI P → mI μ' 52 = x → Q 1 μ') → (∀ q μ', res = .inl q → EvF P μ μ' → mI μ' 54 = nI P → mI μ' 39 = q → Q 0 μ') → W_X6_single G ρ D (nI (1200 * txt + k)) (nI dp) μ Q) : MV G ρ C s c dp v last nd txt (D + 1) k res := fun P P0 μ Q hE H hF hP hP0 hPk hy hn => by
  refine B_X6_eval_8_f (M_of (f := 0) rfl rfl (by omega) ?_)
  have e0 : mA μ 15 (5 * (1200 * txt + k) + 0) = o := by rw [hE]; exact ho
  rw [e0]
  refine ⟨fun _ => hS P μ _ hE H hF hP hPk (fun x μ' e g g1 g2 => hy x μ' e g g1 g2) fun q μ' e g g1 g2 => ?_, fun h9 => absurd ho10 h9⟩
  exact M_ret (Or.inl rfl) (hn q _ e (g.sI (by decide)) mI_s ((mI_o (by decide)).trans g2))
/-- an operator of the model -/
def opM (o : Int32) (f9 : Int32 → Int32 → Int32 ⊕ Int32) : Prop := ¬ o < 10 ∧ (∀ {G : am_G} {ρ : mm_F} {d : Nat} {μ : mm_S} {x y z : Int32} {Q : Int32 → mm_S → Prop}, f9 x y = .inr z → Q z μ → W_X6_both G ρ d o x y μ Q) ∧ ((o = 13 ∧ ∀ x y, f9 x y = if y = 0 then .inl 1002 else .inr (x / y)) ∨ (¬ o = 13 ∧ ∀ x y, ∃ z, f9 x y = .inr z))
theorem opM_add : opM 10 fun x y => .inr (x + y) := ⟨by decide, fun e h => W_X6_both_f ⟨fun _ => by cases e; exact h, fun c => absurd c (by decide), fun c => absurd c (by decide), fun c => absurd c (by decide), fun c => absurd c (by decide), fun c => absurd c (by decide)⟩, Or.inr ⟨by decide, fun x y => ⟨_, rfl⟩⟩⟩
theorem opM_sub : opM 11 fun x y => .inr (x - y) := ⟨by decide, fun e h => W_X6_both_f ⟨fun c => absurd c (by decide), fun _ => by cases e; exact h, fun c => absurd c (by decide), fun c => absurd c (by decide), fun c => absurd c (by decide), fun c => absurd c (by decide)⟩, Or.inr ⟨by decide, fun x y => ⟨_, rfl⟩⟩⟩
theorem opM_mul : opM 12 fun x y => .inr (x * y) := ⟨by decide, fun e h => W_X6_both_f ⟨fun c => absurd c (by decide), fun c => absurd c (by decide), fun _ => by cases e; exact h, fun c => absurd c (by decide), fun c => absurd c (by decide), fun c => absurd c (by decide)⟩, Or.inr ⟨by decide, fun x y => ⟨_, rfl⟩⟩⟩
theorem opM_div : opM 13 fun x y => if y = 0 then .inl 1002 else .inr (x / y) := ⟨by decide, fun {_ _ _ _ x y z _} e h => W_X6_both_f ⟨fun c => absurd c (by decide), fun c => absurd c (by decide), fun c => absurd c (by decide), fun _ => by
  have e : (if y = 0 then (Sum.inl 1002 : Int32 ⊕ Int32) else .inr (x / y)) = .inr z := e
  by_cases h0 : y = 0
  · rw [if_pos h0] at e; cases e
  · rw [if_neg h0] at e
    cases e
    exact ⟨h0, h⟩, fun c => absurd c (by decide), fun c => absurd c (by decide)⟩, Or.inl ⟨rfl, fun _ _ => rfl⟩⟩
theorem opM_lt : opM 14 fun x y => .inr (if x < y then 1 else 0) := ⟨by decide, fun {_ _ _ _ x y z _} e h => W_X6_both_f ⟨fun c => absurd c (by decide), fun c => absurd c (by decide), fun c => absurd c (by decide), fun c => absurd c (by decide), fun _ => by
  cases e
  refine ⟨fun hle => ?_, fun hle => ?_⟩
  · rw [if_neg (Int32.not_lt.mpr hle)] at h; exact h
  · rw [if_pos (Int32.not_le.mp hle)] at h; exact h, fun c => absurd c (by decide)⟩, Or.inr ⟨by decide, fun x y => ⟨_, rfl⟩⟩⟩
theorem opM_eq : opM 15 fun x y => .inr (if x = y then 1 else 0) := ⟨by decide, fun {_ _ _ _ x y z _} e h => W_X6_both_f ⟨fun c => absurd c (by decide), fun c => absurd c (by decide), fun c => absurd c (by decide), fun c => absurd c (by decide), fun c => absurd c (by decide), fun _ => by
  cases e
  refine ⟨fun hne => ?_, fun he => ?_⟩
  · rw [if_neg hne] at h; exact h
  · rw [if_pos he] at h; exact h⟩, Or.inr ⟨by decide, fun x y => ⟨_, rfl⟩⟩⟩
/-- an operator's number -/
theorem MV_op {nd : Nat → Int32} {txt D k i j : Nat} {o : Int32} {f9 : Int32 → Int32 → Int32 ⊕ Int32} {ra rb : Int32 ⊕ Int32} (hop : opM o f9) (ht : txt < 7) (hkl : k < 1200) (hi : i < k) (hj : j < k) (n0 : nf nd (1200 * txt) k 0 = o) (n1 : nf nd (1200 * txt) k 1 = nI i) (n2 : nf nd (1200 * txt) k 2 = nI j) (iha : MV G ρ C s c dp v last nd txt (D + 2) i ra) (ihb : MV G ρ C s c dp v last nd txt (D + 1) j rb) : MV G ρ C s c dp v last nd txt (D + 2) k (ev2 ra rb f9) := fun P P0 μ Q hT H hF hP hP0 hPk hy hn => by
  refine B_X6_eval_8_f (M_of (f := 0) rfl rfl (by omega) ?_)
  rw [show mA μ 15 (5 * (1200 * txt + k) + 0) = o from by rw [hT]; exact n0]
  refine ⟨fun h9 => absurd h9 hop.1, fun _ => ?_⟩
  rw [hP, nI_clamp (by omega)]
  refine ⟨vp_in_nI (by omega) (by decide), fun μ5 e5 μ6 e6 => ?_⟩
  have g6 : EvF P μ μ6 := by
    rw [e6, e5]
    refine ⟨(fr.refl.sA (by decide)).sI (by decide), fun q hq => ?_⟩
    show mA (mm_sA μ 53 P _) 53 q = _
    exact mA_i (by omega)
  have h54 : mI μ6 54 = nI (P + 1) := by
    rw [e6, mI_s, e5]
    show mI μ 54 + 1 = _
    rw [hP, nI_1]
  have hch : mA μ6 53 P = nI (1200 * txt + k) := by rw [e6, e5]; exact mA_s
  have e15 : ∀ {μ' : mm_S}, EvF P μ μ' → mA μ' 15 = mA μ 15 := fun g => g.1.eA (by decide)
  have hT6 : mA μ6 15 = nd := by rw [e15 g6]; exact hT
  refine M_in rfl rfl hkl (by omega) (by decide) ?_
  rw [hT6, n1, gI_n (by omega)]
  -- when it fails
  have bad : ∀ (q : Int32) (μ' : mm_S), ev2 ra rb f9 = .inl q → EvF P μ μ' → mI μ' 39 = q → B_X6_eval_62 G ρ (D + 2) (nI dp) (nI P0) 0 μ' Q := fun q μ' e g g2 => M_ret (Or.inl rfl) (hn q _ e (g.sI (by decide)) mI_s ((mI_o (by decide)).trans g2))
  refine iha (P + 1) P0 μ6 Q hT6 (H.ev g6) (hF.ev g6) h54 (by omega) (by omega) (fun x μ7 ex g7 g71 g72 => ?_) fun q μ7 e g7 g71 g72 => hn q μ7 (by rw [e]; rfl) (g6.trans g7 (by omega)) g71 g72
  have g7' : EvF P μ μ7 := g6.trans g7 (by omega)
  have hch7 : mA μ7 53 P = nI (1200 * txt + k) := (g7.2 P (by omega)).trans hch
  have hT7 : mA μ7 15 = nd := by rw [e15 g7']; exact hT
  have e541 : mI μ7 54 - 1 = nI P := by rw [g71]; exact nI_pred P
  refine B_X6_eval_62_f ⟨fun h9 => absurd h9 (by decide), fun _ => ⟨fun h9 => absurd h9 (by rw [g71]; exact nI_ge (by omega) (by omega)), fun _ => ?_⟩⟩
  rw [e541, nI_clamp (by omega), hch7, g72]
  refine ⟨vp_in_nI (by omega) (by decide), M_in rfl rfl hkl (by omega) (by decide) ?_⟩
  rw [hT7, n2, gI_n (by omega)]
  refine ihb.eval hT7 (H.ev g7') (hF.ev g7') g71 (by omega) (fun y μ8 ey g8 g81 g82 => ?_) fun q μ8 e g8 g81 g82 => ?_
  · have g8' : EvF P μ μ8 := g7'.trans g8 (by omega)
    have n08 : nf (mA μ8 15) (1200 * txt) k 0 = o := by rw [e15 g8', hT]; exact n0
    refine ⟨fun h9 => absurd h9 (by decide), fun _ => M_of (f := 0) rfl rfl (by omega) ?_⟩
    rw [show mA μ8 15 (5 * (1200 * txt + k) + 0) = o from n08]
    have eR : ev2 ra rb f9 = f9 x y := by rw [ex, ey]; rfl
    have good : ∀ z, f9 x y = .inr z → B_X6_eval_141 G ρ (D + 2) (nI dp) (nI P0) 1 x (nI (1200 * txt + k)) μ8 Q := fun z hz => by
      refine B_X6_eval_141_f ⟨fun h9 => absurd h9 (by decide), fun _ => M_of (f := 0) rfl rfl (by omega) ?_⟩
      rw [show mA μ8 15 (5 * (1200 * txt + k) + 0) = o from n08, g82]
      refine hop.2.1 hz fun μ9 e9 μ10 e10 => ?_
      have g10 : EvF P μ μ10 := by rw [e10, e9]; exact (g8'.sI (by decide)).sI (by decide)
      refine hy z μ10 (by rw [eR]; exact hz) g10 ?_ ?_
      · rw [e10, mI_s, e9, mI_o (by decide), g81]; exact nI_pred P
      · rw [e10, mI_o (by decide), e9, mI_s]
    rcases hop.2.2 with ⟨h13, hdv⟩ | ⟨h13, hz⟩
    · refine ⟨fun h9 => absurd h13 h9, fun _ => ⟨fun hne => ?_, fun h0 => ?_⟩⟩
      · rw [g82] at hne
        exact good _ (by rw [hdv, if_neg hne])
      · rw [g82] at h0
        refine W_X6_fails_f fun μ9 e9 => B_X6_eval_141_f ⟨fun _ μ10 e10 => ?_, fun h9 => absurd rfl h9⟩
        refine bad 1002 μ10 (by rw [eR, hdv, if_pos h0]) (by rw [e10, e9]; exact (g8'.sI (by decide)).sI (by decide)) ?_
        rw [e10, mI_o (by decide), e9, mI_s]
    · obtain ⟨z, hz⟩ := hz x y
      exact ⟨fun _ => good z hz, fun h9 => absurd h9 h13⟩
  · have g8' : EvF P μ μ8 := g7'.trans g8 (by omega)
    refine ⟨fun _ => B_X6_eval_141_f ⟨fun _ μ10 e10 => ?_, fun h9 => absurd rfl h9⟩, fun h9 => absurd rfl h9⟩
    refine bad q μ10 (by rw [ex, e]; rfl) (by rw [e10]; exact g8'.sI (by decide)) ?_
    rw [e10, mI_o (by decide)]
    exact g82
end
