set_option maxRecDepth 100000
section
variable {G : am_G} {ρ : mm_F} {d : Nat} {T : Nat → Int32} {p c : Nat} {N : ps_N} {μ : mm_S}
/-- the nodes of the text that is read, from the c-th on, may change -/
def fn (c : Nat) (μ μ' : mm_S) : Prop := ∀ q, q < 5 * (8400 + c) → mA μ' 15 q = mA μ 15 q
theorem fn.refl {c : Nat} {μ : mm_S} : fn c μ μ := fun _ _ => rfl
theorem fn.trans {c c' : Nat} {μ μ1 μ2 : mm_S} (h1 : fn c μ μ1) (h2 : fn c' μ1 μ2) (hc : c ≤ c') : fn c μ μ2 := fun q hq => (h2 q (by omega)).trans (h1 q hq)
theorem fr.fn {ks : List Nat} {μ μ' : mm_S} (h : fr ks μ μ') (hk : 15 ∉ ks) (c : Nat) : fn c μ μ' := fun q _ => congrFun (h 15 hk).2.2.1 q
/-- a node is made -/
theorem S_node {a1 a2 a3 a4 : Int32} {Q : Int32 → mm_S → Prop} (h : PI T p N c μ) (hc : c ≤ 1000) (hQ : ∀ μ', fr [15, 16] μ μ' → fn c μ μ' → PI T p N (c + 1) μ' → nf (mA μ' 15) 8400 c 0 = a1 → nf (mA μ' 15) 8400 c 1 = a2 → nf (mA μ' 15) 8400 c 2 = a3 → nf (mA μ' 15) 8400 c 3 = a4 → nf (mA μ' 15) 8400 c 4 = -1 → Q (nI c) μ') : W_X6_node G ρ d a1 a2 a3 a4 μ Q := by
  have e16 : mI μ 16 = nI c := h.2.2.2.2.2.2.2.2.2.1
  have i0 : 5 * (8400 + nI c) = nI (5 * (8400 + c)) := by
    show nI 5 * (nI 8400 + nI c) = _
    rw [nI_add, pk_mul]
  have ij : ∀ j : Nat, nI (5 * (8400 + c)) + nI j = nI (5 * (8400 + c) + j) := fun j => nI_add _ j
  refine W_X6_node_f fun μ1 e1 => ?_
  rw [e16, i0, show (1 : Int32) = nI 1 from rfl, show (2 : Int32) = nI 2 from rfl, show (3 : Int32) = nI 3 from rfl, show (4 : Int32) = nI 4 from rfl, ij 1, ij 2, ij 3, ij 4, nI_clamp (by omega), nI_clamp (by omega), nI_clamp (by omega), nI_clamp (by omega), nI_clamp (by omega)]
  refine ⟨vp_in_nI (by omega) (by decide), fun μ2 e2 => ⟨vp_in_nI (by omega) (by decide), fun μ3 e3 => ⟨vp_in_nI (by omega) (by decide), fun μ4 e4 => ⟨vp_in_nI (by omega) (by decide), fun μ5 e5 => ⟨vp_in_nI (by omega) (by decide), fun μ6 e6 => ?_⟩⟩⟩⟩⟩
  have g1 : fr [15, 16] μ μ1 := by rw [e1]; exact fr.refl.sI (by decide)
  have g6 : fr [15, 16] μ μ6 := by rw [e6, e5, e4, e3, e2]; exact ((((g1.sA (by decide)).sA (by decide)).sA (by decide)).sA (by decide)).sA (by decide)
  have e15 : ∀ q, mA μ1 15 q = mA μ 15 q := fun q => by rw [e1]; rfl
  refine hQ μ6 g6 (fun q hq => ?_) ?_ ?_ ?_ ?_ ?_ ?_
  · rw [e6, mA_i (by omega), e5, mA_i (by omega), e4, mA_i (by omega), e3, mA_i (by omega), e2, mA_i (by omega), e15]
  · obtain ⟨a1, a2, a3, a4, a5, a6, a7, a8, a9, a10, a11⟩ := h
    refine ⟨(g6.txt (by decide) (by decide)).trans a1, g6.tok (by decide) (by decide) a2, g6.wok0 (by decide) a3, ?_, a5, (g6 11 (by decide)).1.trans a6, (g6 7 (by decide)).1.trans a7, a8, ?_, ?_, by omega⟩
    · obtain ⟨b1, b2, b3, b4, b5⟩ := a4
      exact ⟨(g6 2 (by decide)).1.trans b1, (g6 3 (by decide)).1.trans b2, (g6 4 (by decide)).1.trans b3, fun q => (g6 5 (by decide)).1.trans (b4 q), fun q => (g6 10 (by decide)).2.1.trans (b5 q)⟩
    · rw [(g6 6 (by decide)).2.2.2]; exact a9
    · rw [e6, e5, e4, e3, e2]
      show mI μ1 16 = _
      rw [e1, mI_s, e16]; exact nI_1 c
  · unfold nf
    rw [e6, mA_i (by omega), e5, mA_i (by omega), e4, mA_i (by omega), e3, mA_i (by omega), e2, Nat.add_zero, mA_s]
  · unfold nf
    rw [e6, mA_i (by omega), e5, mA_i (by omega), e4, mA_i (by omega), e3, mA_s]
  · unfold nf
    rw [e6, mA_i (by omega), e5, mA_i (by omega), e4, mA_s]
  · unfold nf
    rw [e6, mA_i (by omega), e5, mA_s]
  · unfold nf
    rw [e6, mA_s]
    rfl
end
