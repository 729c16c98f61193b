set_option maxRecDepth 100000
/-! ===== the model: a pond is read ===== -/
/-- a block of a text that is kept -/
def gI (txt : Nat) (y : Int32) : Int32 := if y = -1 then -1 else nI (1200 * txt) + y
def bG (μ : mm_S) (t : Term) (x : Int32) : Prop := ∃ txt m y, txt < 7 ∧ m ≤ 1001 ∧ isB (mA μ 15) (1200 * txt) 0 t m y ∧ x = gI txt y
section
variable {G : am_G} {ρ : mm_F} {d : Nat} {μ : mm_S}
/-- letters one behind the other -/
def mo (w : Int64) (c : Int32) : Int64 := if c = 0 then w else (w <<< ((6 : Int32).toInt64 &&& 63)) ||| Int32.toInt64 (c - 96)
theorem S_mor0 {w : Int64} {c : Int32} {Q : Int64 → mm_S → Prop} (h : Q (mo w c) μ) : W_X6_more G ρ d w c μ Q := by
  unfold mo at h
  refine W_X6_more_f ⟨fun n0 => ?_, fun c0 => ?_⟩
  · rw [if_neg n0] at h; exact h
  · rw [if_pos c0] at h; exact h
theorem S_word {k : Nat} {x a b c d' e f : Int32} {v : Int64} {Q : mm_S → Prop} (hx : x - 100 = nI k) (hk : k < 22) (hv : mo (mo (mo (mo (mo (mo 0 a) b) c) d') e) f = v) (h : ∀ μ', fr [8] μ μ' → mB μ' 8 k = v → (∀ j, ¬ j = k → mB μ' 8 j = mB μ 8 j) → Q μ') : W_X6_word G ρ (d + 1) x a b c d' e f μ Q := by
  refine W_X6_word_f (S_mor0 (S_mor0 (S_mor0 (S_mor0 (S_mor0 (S_mor0 ?_))))))
  rw [hx, nI_clamp (by omega), hv]
  exact ⟨vp_in_nI hk (by decide), fun μ13 e13 => h μ13 (by rw [e13]; exact fr.refl.sB (by decide)) (by rw [e13]; exact mB_s) fun j hj => by rw [e13]; exact mB_i hj⟩
theorem wcd_go : ∀ k, k < 22 → wcd (wds.getD k []) = mo (mo (mo (mo (mo (mo 0 ((wds.getD k []).getD 0 0)) ((wds.getD k []).getD 1 0)) ((wds.getD k []).getD 2 0)) ((wds.getD k []).getD 3 0)) ((wds.getD k []).getD 4 0)) ((wds.getD k []).getD 5 0) := by decide +kernel
/-- the words are known, or not yet -/
def kno (μ : mm_S) : Prop := mI μ 9 = 0 ∨ wok0 μ
theorem S_learn {Q : mm_S → Prop} (hk : kno μ) (h : ∀ μ', fr [8, 9] μ μ' → wok0 μ' → ¬ mI μ' 9 = 0 → Q μ') : W_X6_learn G ρ (d + 2) μ Q := by
  refine W_X6_learn_f ⟨fun c0 μ1 e1 => ?_, fun n0 => h μ fr.refl (hk.resolve_left n0) n0⟩
  have f1 : fr [8, 9] μ μ1 := by rw [e1]; exact fr.refl.sI (by decide)
  have k1 : ¬ mI μ1 9 = 0 := by rw [e1, mI_s]; decide
  have st : ∀ (k : Nat) (x a b c d' e f : Int32) (μ1 : mm_S) (Q : mm_S → Prop), k < 22 → x - 100 = nI k → a = (wds.getD k []).getD 0 0 → b = (wds.getD k []).getD 1 0 → c = (wds.getD k []).getD 2 0 → d' = (wds.getD k []).getD 3 0 → e = (wds.getD k []).getD 4 0 → f = (wds.getD k []).getD 5 0 → fr [8, 9] μ μ1 → ¬ mI μ1 9 = 0 → (∀ j, j < k → mB μ1 8 j = wcd (wds.getD j [])) → (∀ μ', fr [8, 9] μ μ' → ¬ mI μ' 9 = 0 → (∀ j, j < k + 1 → mB μ' 8 j = wcd (wds.getD j [])) → Q μ') → W_X6_word G ρ (d + 1) x a b c d' e f μ1 Q := fun k x a b c d' e f μ1 Q hk22 hx ha hb hc hd' he hf hfr hk9 hj hQ => by
    subst ha; subst hb; subst hc; subst hd'; subst he; subst hf
    refine S_word hx hk22 (wcd_go k hk22).symm fun μ' g1 g2 g3 => hQ μ' (hfr.trans (g1.more (by decide))) (by rw [g1.eI (by decide)]; exact hk9) fun j hj' => ?_
    by_cases h9 : j = k
    · rw [h9]; exact g2
    · rw [g3 j h9]; exact hj j (by omega)
  have fin : ∀ μ', fr [8, 9] μ μ' → ¬ mI μ' 9 = 0 → (∀ j, j < 21 + 1 → mB μ' 8 j = wcd (wds.getD j [])) → Q μ' := fun μ' a b c => h μ' a (fun j hj => c j hj) b
  refine st 0 _ _ _ _ _ _ _ _ _ (by decide) rfl rfl rfl rfl rfl rfl rfl f1 k1 (fun j hj => absurd hj (by omega)) fun μ1 f1 k1 j1 => ?_
  refine st 1 _ _ _ _ _ _ _ _ _ (by decide) rfl rfl rfl rfl rfl rfl rfl f1 k1 j1 fun μ1 f1 k1 j1 => ?_
  refine st 2 _ _ _ _ _ _ _ _ _ (by decide) rfl rfl rfl rfl rfl rfl rfl f1 k1 j1 fun μ1 f1 k1 j1 => ?_
  refine st 3 _ _ _ _ _ _ _ _ _ (by decide) rfl rfl rfl rfl rfl rfl rfl f1 k1 j1 fun μ1 f1 k1 j1 => ?_
  refine st 4 _ _ _ _ _ _ _ _ _ (by decide) rfl rfl rfl rfl rfl rfl rfl f1 k1 j1 fun μ1 f1 k1 j1 => ?_
  refine st 5 _ _ _ _ _ _ _ _ _ (by decide) rfl rfl rfl rfl rfl rfl rfl f1 k1 j1 fun μ1 f1 k1 j1 => ?_
  refine st 6 _ _ _ _ _ _ _ _ _ (by decide) rfl rfl rfl rfl rfl rfl rfl f1 k1 j1 fun μ1 f1 k1 j1 => ?_
  refine st 7 _ _ _ _ _ _ _ _ _ (by decide) rfl rfl rfl rfl rfl rfl rfl f1 k1 j1 fun μ1 f1 k1 j1 => ?_
  refine st 8 _ _ _ _ _ _ _ _ _ (by decide) rfl rfl rfl rfl rfl rfl rfl f1 k1 j1 fun μ1 f1 k1 j1 => ?_
  refine st 9 _ _ _ _ _ _ _ _ _ (by decide) rfl rfl rfl rfl rfl rfl rfl f1 k1 j1 fun μ1 f1 k1 j1 => ?_
  refine st 10 _ _ _ _ _ _ _ _ _ (by decide) rfl rfl rfl rfl rfl rfl rfl f1 k1 j1 fun μ1 f1 k1 j1 => ?_
  refine st 11 _ _ _ _ _ _ _ _ _ (by decide) rfl rfl rfl rfl rfl rfl rfl f1 k1 j1 fun μ1 f1 k1 j1 => ?_
  refine st 12 _ _ _ _ _ _ _ _ _ (by decide) rfl rfl rfl rfl rfl rfl rfl f1 k1 j1 fun μ1 f1 k1 j1 => ?_
  refine st 13 _ _ _ _ _ _ _ _ _ (by decide) rfl rfl rfl rfl rfl rfl rfl f1 k1 j1 fun μ1 f1 k1 j1 => ?_
  refine st 14 _ _ _ _ _ _ _ _ _ (by decide) rfl rfl rfl rfl rfl rfl rfl f1 k1 j1 fun μ1 f1 k1 j1 => ?_
  refine st 15 _ _ _ _ _ _ _ _ _ (by decide) rfl rfl rfl rfl rfl rfl rfl f1 k1 j1 fun μ1 f1 k1 j1 => ?_
  refine st 16 _ _ _ _ _ _ _ _ _ (by decide) rfl rfl rfl rfl rfl rfl rfl f1 k1 j1 fun μ1 f1 k1 j1 => ?_
  refine st 17 _ _ _ _ _ _ _ _ _ (by decide) rfl rfl rfl rfl rfl rfl rfl f1 k1 j1 fun μ1 f1 k1 j1 => ?_
  refine st 18 _ _ _ _ _ _ _ _ _ (by decide) rfl rfl rfl rfl rfl rfl rfl f1 k1 j1 fun μ1 f1 k1 j1 => ?_
  refine st 19 _ _ _ _ _ _ _ _ _ (by decide) rfl rfl rfl rfl rfl rfl rfl f1 k1 j1 fun μ1 f1 k1 j1 => ?_
  refine st 20 _ _ _ _ _ _ _ _ _ (by decide) rfl rfl rfl rfl rfl rfl rfl f1 k1 j1 fun μ1 f1 k1 j1 => ?_
  exact st 21 _ _ _ _ _ _ _ _ _ (by decide) rfl rfl rfl rfl rfl rfl rfl f1 k1 j1 fin
/-- names: so many, with these letters -/
def nmW (N : ps_N) (μ : mm_S) : Prop := mI μ 7 = nI N.1 ∧ N.1 ≤ 40 ∧ μ.2.2.2 6 = N.2
/-- the reading begins -/
theorem S_begin {N : ps_N} {Q : mm_S → Prop} (hk : kno μ) (ht : tok μ) (hN : nmW N μ) (h : ∀ μ', fr [2, 3, 4, 5, 8, 9, 10, 11, 12, 16, 18, 20] μ μ' → ¬ mI μ' 9 = 0 → PI (tx μ) 0 N 0 μ' → mI μ' 18 = nI 0 → mI μ' 20 = nI 0 → Q μ') : W_X6_begin G ρ (d + 4) μ Q := by
  refine W_X6_begin_f (S_learn (d := d + 1) hk fun μ1 f1 w1 k1 μ2 e2 μ3 e3 μ4 e4 μ5 e5 μ6 e6 μ7 e7 => ?_)
  have g7 : fr [2, 8, 9, 11, 12, 16, 18, 20] μ μ7 := by rw [e7, e6, e5, e4, e3, e2]; exact ((((((f1.more (by decide)).sI (by decide)).sI (by decide)).sI (by decide)).sI (by decide)).sI (by decide)).sI (by decide)
  have g17 : fr [2, 11, 12, 16, 18, 20] μ1 μ7 := by rw [e7, e6, e5, e4, e3, e2]; exact (((((fr.refl.sI (by decide)).sI (by decide)).sI (by decide)).sI (by decide)).sI (by decide)).sI (by decide)
  have hT : tx μ7 = tx μ := g7.txt (by decide) (by decide)
  have h2 : mI μ7 2 = nI 0 := by rw [e7, mI_o (by decide), e6, mI_o (by decide), e5, mI_o (by decide), e4, mI_s]; rfl
  refine S_look0 (d := d) (T := tx μ) 1001 0 hT (g7.tok (by decide) (by decide) ht) (g17.wok0 (by decide) w1) h2 (by omega) (by omega) fun μ' f8 t8 => ?_
  have e : ∀ k, k ∉ [2, 3, 4, 5, 10] → mI μ' k = mI μ7 k := fun k hk => f8.eI hk
  obtain ⟨n1, n2, n3⟩ := hN
  refine h μ' ((g7.more (by decide)).trans (f8.more (by decide))) ?_ ⟨(f8.txt (by decide) (by decide)).trans hT, f8.tok (by decide) (by decide) (g7.tok (by decide) (by decide) ht), f8.wok0 (by decide) (g17.wok0 (by decide) w1), t8, by omega, ?_, ?_, n2, ?_, ?_, by omega⟩ ?_ ?_
  · rw [e 9 (by decide), g17.eI (by decide)]; exact k1
  · rw [e 11 (by decide), e7, mI_o (by decide), e6, mI_o (by decide), e5, mI_o (by decide), e4, mI_o (by decide), e3, mI_o (by decide), e2, mI_s]
  · rw [e 7 (by decide), g7.eI (by decide)]; exact n1
  · rw [(f8 6 (by decide)).2.2.2, (g7 6 (by decide)).2.2.2]; exact n3
  · rw [e 16 (by decide), e7, mI_o (by decide), e6, mI_o (by decide), e5, mI_s]; rfl
  · rw [e 18 (by decide), e7, mI_o (by decide), e6, mI_s]; rfl
  · rw [e 20 (by decide), e7, mI_s]; rfl
/-- what is told of a text: the fault -/
theorem S_tells {Q : mm_S → Prop} (h : ∀ μ', fr [1, 13, 14] μ μ' → mI μ' 1 = 0 → mI μ' 13 = mI μ 11 → mI μ' 14 = (if mI μ 11 = 0 then -1 else mI μ 12) → Q μ') : W_X6_tells G ρ d μ Q := by
  refine W_X6_tells_f fun μ1 e1 => ?_
  have f1 : fr [1, 13, 14] μ μ1 := by rw [e1]; exact fr.refl.sI (by decide)
  rw [f1.eI (show 11 ∉ [1, 13, 14] by decide)]
  refine ⟨fun n0 μ2 e2 μ3 e3 => ?_, fun c0 μ2 e2 μ3 e3 => ?_⟩
  · refine h μ3 (by rw [e3, e2]; exact (f1.sI (by decide)).sI (by decide)) ?_ ?_ ?_
    · rw [e3, mI_s]
    · rw [e3, mI_o (by decide), e2, mI_o (by decide), e1, mI_s]
    · rw [if_neg n0, e3, mI_o (by decide), e2, mI_s]
      exact f1.eI (by decide)
  · refine h μ3 (by rw [e3, e2]; exact (f1.sI (by decide)).sI (by decide)) ?_ ?_ ?_
    · rw [e3, mI_s]
    · rw [e3, mI_o (by decide), e2, mI_o (by decide), e1, mI_s]
    · rw [if_pos c0, e3, mI_o (by decide), e2, mI_s]
/-- nodes that are kept -/
def kp (txt j : Nat) (μ μ' : mm_S) : Prop := fr [15] μ μ' ∧ (∀ q, q < j → mA μ' 15 (6000 * txt + q) = mA μ 15 (42000 + q)) ∧ ∀ q, ¬ (6000 * txt ≤ q ∧ q < 6000 * txt + j) → mA μ' 15 q = mA μ 15 q
theorem S_keep_l {txt c : Nat} {x1 : Int32} (hx1 : x1 = nI txt) (ht : txt < 7) (hc : c ≤ 1001) {μ0 : mm_S} (h16 : mI μ0 16 = nI c) {Q : mm_S → Prop} (h : ∀ μ', kp txt (5 * c) μ0 μ' → Q μ') : ∀ (f j : Nat) {x2 : Int32} {μ : mm_S}, j + f = 5 * c → x2 = nI j → kp txt j μ0 μ → B_X6_keep_2 G ρ d x1 x2 μ Q
  | f, j, x2, μ, hj, hx, hk => B_X6_keep_2_f (by
      have e16 : mI μ 16 = nI c := (hk.1.eI (by decide)).trans h16
      have e5 : 5 * mI μ 16 = nI (5 * c) := by rw [e16]; exact pk_mul 5 c
      rw [e5]
      subst hx
      cases f with
      | zero =>
        have hj : j = 5 * c := by omega
        subst hj
        exact ⟨fun _ => h μ hk, fun c9 => absurd (nI_le (Nat.le_refl _) (by omega)) c9⟩
      | succ f =>
        refine ⟨fun c9 => absurd c9 (nI_ge (by omega) (by omega)), fun _ => ?_⟩
        have i1 : 42000 + nI j = nI (42000 + j) := nI_add 42000 j
        have i2 : 6000 * x1 + nI j = nI (6000 * txt + j) := by
          rw [hx1]
          show nI 6000 * nI txt + nI j = _
          rw [pk_mul, nI_add]
        rw [i1, i2, nI_clamp (by omega), nI_clamp (by omega)]
        refine ⟨vp_in_nI (by omega) (by decide), vp_in_nI (by omega) (by decide), fun μ1 e1 => ?_⟩
        refine S_keep_l hx1 ht hc h16 h f (j + 1) (by omega) (nI_1 j) ?_
        obtain ⟨k1, k2, k3⟩ := hk
        rw [e1]
        refine ⟨k1.sA (by decide), fun q hq => ?_, fun q hq => ?_⟩
        · by_cases h9 : q = j
          · rw [h9, mA_s]
            exact k3 _ (by omega)
          · rw [mA_i (by omega)]
            exact k2 q (by omega)
        · rw [mA_i (by omega)]
          exact k3 q (by omega))
  termination_by f => f
theorem S_keep {txt c : Nat} {x1 : Int32} {Q : mm_S → Prop} (hx1 : x1 = nI txt) (ht : txt < 7) (hc : c ≤ 1001) (h16 : mI μ 16 = nI c) (h : ∀ μ', kp txt (5 * c) μ μ' → Q μ') : W_X6_keep G ρ d x1 μ Q :=
  W_X6_keep_f (S_keep_l hx1 ht hc h16 h (5 * c) 0 (by omega) rfl ⟨fr.refl, fun q hq => absurd hq (by omega), fun q hq => rfl⟩)
/-- a world's copy -/
def cpy (a b j : Nat) (μ μ' : mm_S) : Prop := fr [23] μ μ' ∧ (∀ q, q < j → mA μ' 23 (769 * b + q) = mA μ 23 (769 * a + q)) ∧ ∀ q, ¬ (769 * b ≤ q ∧ q < 769 * b + j) → mA μ' 23 q = mA μ 23 q
theorem S_copy_l {a b : Nat} {x1 x2 : Int32} (hx1 : x1 = nI a) (hx2 : x2 = nI b) (ha : a < 3) (hb : b < 3) (hab : a ≠ b) {μ0 : mm_S} {Q : mm_S → Prop} (h : ∀ μ', cpy a b 769 μ0 μ' → Q μ') : ∀ (f j : Nat) {x3 : Int32} {μ : mm_S}, j + f = 769 → x3 = nI j → cpy a b j μ0 μ → B_X6_copy_2 G ρ d x1 x2 x3 μ Q
  | 0, j, x3, μ, hj, hx, hk => B_X6_copy_2_f (by
      have hj : j = 769 := by omega
      subst hj
      subst hx
      exact ⟨fun _ => h μ hk, fun c9 => absurd (nI_le (Nat.le_refl 769) (by omega)) c9⟩)
  | f + 1, j, x3, μ, hj, hx, hk => B_X6_copy_2_f (by
      subst hx
      refine ⟨fun c9 => absurd c9 (nI_ge (a := j) (b := 769) (by omega) (by omega)), fun _ => ?_⟩
      have i1 : 769 * x1 + nI j = nI (769 * a + j) := by
        rw [hx1]
        show nI 769 * nI a + nI j = _
        rw [pk_mul, nI_add]
      have i2 : 769 * x2 + nI j = nI (769 * b + j) := by
        rw [hx2]
        show nI 769 * nI b + nI j = _
        rw [pk_mul, nI_add]
      rw [i1, i2, nI_clamp (by omega), nI_clamp (by omega)]
      refine ⟨vp_in_nI (by omega) (by decide), vp_in_nI (by omega) (by decide), fun μ1 e1 => ?_⟩
      refine S_copy_l hx1 hx2 ha hb hab h f (j + 1) (by omega) (nI_1 j) ?_
      obtain ⟨k1, k2, k3⟩ := hk
      rw [e1]
      refine ⟨k1.sA (by decide), fun q hq => ?_, fun q hq => ?_⟩
      · by_cases h9 : q = j
        · rw [h9, mA_s]
          exact k3 _ (by omega)
        · rw [mA_i (by omega)]
          exact k2 q (by omega)
      · rw [mA_i (by omega)]
        exact k3 q (by omega))
theorem S_copy {a b : Nat} {x1 x2 : Int32} {Q : mm_S → Prop} (hx1 : x1 = nI a) (hx2 : x2 = nI b) (ha : a < 3) (hb : b < 3) (hab : a ≠ b) (h : ∀ μ', cpy a b 769 μ μ' → Q μ') : W_X6_copy G ρ d x1 x2 μ Q :=
  W_X6_copy_f (S_copy_l hx1 hx2 ha hb hab h 769 0 (by omega) rfl ⟨fr.refl, fun q hq => absurd hq (by omega), fun q hq => rfl⟩)
theorem cpy.toW {bd bd' : Term → Int32 → Prop} {a b : Nat} {L : List Kd} {μ' : mm_S} (h : cpy a b 769 μ μ') (hW : isW bd μ a L) (hb : ∀ t x, bd t x → bd' t x) : isW bd' μ' b L := hW.ext (fun f hf => h.2.1 f hf) hb
theorem cpy.far {bd bd' : Term → Int32 → Prop} {a b w : Nat} {L : List Kd} {μ' : mm_S} (h : cpy a b 769 μ μ') (hw : w ≠ b) (hW : isW bd μ w L) (hb : ∀ t x, bd t x → bd' t x) : isW bd' μ' w L := hW.ext (fun f hf => h.2.2 _ (by omega)) hb
/-- trees among nodes that were copied -/
theorem isE.shift {nd nd' : Nat → Int32} {B B' c : Nat} (h : ∀ q, q < 5 * c → nd' (5 * B' + q) = nd (5 * B + q)) : ∀ {t : Term} {k : Nat}, k < c → isE nd B 0 t k → isE nd' B' 0 t k := by
  have hn : ∀ k f, k < c → f < 5 → nf nd' B' k f = nf nd B k f := fun k f hk hf => by
    show nd' (5 * (B' + k) + f) = nd (5 * (B + k) + f)
    have := h (5 * k + f) (by omega)
    rw [show 5 * (B' + k) + f = 5 * B' + (5 * k + f) by omega, show 5 * (B + k) + f = 5 * B + (5 * k + f) by omega]
    exact this
  intro t
  induction t with
  | int v => intro k hk hE; unfold isE at hE ⊢; rw [hn k 0 hk (by decide), hn k 1 hk (by decide)]; exact hE
  | index n => intro k hk hE; unfold isE at hE ⊢; rw [hn k 0 hk (by decide), hn k 1 hk (by decide)]; exact hE
  | null => intro k hk hE; unfold isE at hE ⊢; rw [hn k 0 hk (by decide)]; exact hE
  | result => intro k hk hE; unfold isE at hE ⊢; rw [hn k 0 hk (by decide)]; exact hE
  | old a ih =>
    intro k hk hE
    unfold isE at hE ⊢
    obtain ⟨hl, h0, i, hi, h1, h2⟩ := hE
    exact ⟨hl, by rw [hn k 0 hk (by decide)]; exact h0, i, hi, by rw [hn k 1 hk (by decide)]; exact h1, ih (by omega) h2⟩
  | add a b iha ihb | sub a b iha ihb | mul a b iha ihb | div a b iha ihb | elem a b iha ihb | rem a b iha ihb =>
    intro k hk hE
    unfold isE at hE ⊢
    obtain ⟨hl, h0, i, j, hi, hj, h1, h2, h3, h4⟩ := hE
    exact ⟨hl, by rw [hn k 0 hk (by decide)]; exact h0, i, j, hi, hj, by rw [hn k 1 hk (by decide)]; exact h1, by rw [hn k 2 hk (by decide)]; exact h2, iha (by omega) h3, ihb (by omega) h4⟩
  | _ => intro k hk hE; exact hE.elim
theorem nf_shift {nd nd' : Nat → Int32} {B B' c : Nat} (h : ∀ q, q < 5 * c → nd' (5 * B' + q) = nd (5 * B + q)) {k f : Nat} (hk : k < c) (hf : f < 5) : nf nd' B' k f = nf nd B k f := by
  show nd' (5 * (B' + k) + f) = nd (5 * (B + k) + f)
  have := h (5 * k + f) (by omega)
  rw [show 5 * (B' + k) + f = 5 * B' + (5 * k + f) by omega, show 5 * (B + k) + f = 5 * B + (5 * k + f) by omega]
  exact this
theorem isB.shift {nd nd' : Nat → Int32} {B B' c : Nat} (h : ∀ q, q < 5 * c → nd' (5 * B' + q) = nd (5 * B + q)) : ∀ (t : Term) (m : Nat) (x : Int32), m ≤ c → isB nd B 0 t m x → isB nd' B' 0 t m x
  | .thrown, m, x, hm, hB => hB
  | .add (.elem (.index n) e) b, m, x, hm, hB => by
    obtain ⟨k, e0, el, e1, e2, e3, e4, ⟨i, e5, e6, e7⟩, e8⟩ := hB
    refine ⟨k, e0, el, e1, ?_, ?_, e4, ⟨i, e5, ?_, isE.shift h (by omega) e7⟩, ?_⟩
    · rw [nf_shift h (by omega) (by decide)]; exact e2
    · rw [nf_shift h (by omega) (by decide)]; exact e3
    · rw [nf_shift h (by omega) (by decide)]; exact e6
    · rw [nf_shift h (by omega) (by decide)]; exact isB.shift h b m _ hm e8
  | .add (.length e) b, m, x, hm, hB => by
    obtain ⟨k, e0, el, e1, e2, ⟨i, e5, e6, e7⟩, e8⟩ := hB
    refine ⟨k, e0, el, e1, ?_, ⟨i, e5, ?_, isE.shift h (by omega) e7⟩, ?_⟩
    · rw [nf_shift h (by omega) (by decide)]; exact e2
    · rw [nf_shift h (by omega) (by decide)]; exact e6
    · rw [nf_shift h (by omega) (by decide)]; exact isB.shift h b m _ hm e8
  | .add (.sum e) b, m, x, hm, hB => by
    obtain ⟨k, e0, el, e1, e2, ⟨i, e5, e6, e7⟩, e8⟩ := hB
    refine ⟨k, e0, el, e1, ?_, ⟨i, e5, ?_, isE.shift h (by omega) e7⟩, ?_⟩
    · rw [nf_shift h (by omega) (by decide)]; exact e2
    · rw [nf_shift h (by omega) (by decide)]; exact e6
    · rw [nf_shift h (by omega) (by decide)]; exact isB.shift h b m _ hm e8
  | .add .null b, m, x, hm, hB => by
    obtain ⟨k, e0, el, e1, e2, e8⟩ := hB
    refine ⟨k, e0, el, e1, ?_, ?_⟩
    · rw [nf_shift h (by omega) (by decide)]; exact e2
    · rw [nf_shift h (by omega) (by decide)]; exact isB.shift h b m _ hm e8
  | .add (.arg a) b, m, x, hm, hB => by
    obtain ⟨k, e0, el, e1, e2, e3, e4, e8⟩ := hB
    refine ⟨k, e0, el, e1, ?_, ?_, e4, ?_⟩
    · rw [nf_shift h (by omega) (by decide)]; exact e2
    · rw [nf_shift h (by omega) (by decide)]; exact e3
    · rw [nf_shift h (by omega) (by decide)]; exact isB.shift h b m _ hm e8
  | .add (.mul (.index l) (.index a)) b, m, x, hm, hB => by
    obtain ⟨k, e0, el, e1, e2, e3, e4, e5, e6, e8⟩ := hB
    refine ⟨k, e0, el, e1, ?_, ?_, e4, ?_, e6, ?_⟩
    · rw [nf_shift h (by omega) (by decide)]; exact e2
    · rw [nf_shift h (by omega) (by decide)]; exact e3
    · rw [nf_shift h (by omega) (by decide)]; exact e5
    · rw [nf_shift h (by omega) (by decide)]; exact isB.shift h b m _ hm e8
  | .add .result b, m, x, hm, hB => by
    obtain ⟨k, e0, el, e1, e2, e8⟩ := hB
    refine ⟨k, e0, el, e1, ?_, ?_⟩
    · rw [nf_shift h (by omega) (by decide)]; exact e2
    · rw [nf_shift h (by omega) (by decide)]; exact isB.shift h b m _ hm e8
  | .add (.sub e (.sub y n)) b, m, x, hm, hB => by
    obtain ⟨k, e0, el, e1, e2, ⟨i, e5, e6, e7⟩, e9, e10, e8⟩ := hB
    refine ⟨k, e0, el, e1, ?_, ⟨i, e5, ?_, isE.shift h (by omega) e7⟩, ?_, ?_, ?_⟩
    · rw [nf_shift h (by omega) (by decide)]; exact e2
    · rw [nf_shift h (by omega) (by decide)]; exact e6
    · rw [nf_shift h (by omega) (by decide)]; exact isB.shift h y k _ (by omega) e9
    · rw [nf_shift h (by omega) (by decide)]; exact isB.shift h n k _ (by omega) e10
    · rw [nf_shift h (by omega) (by decide)]; exact isB.shift h b m _ hm e8
end
