set_option maxRecDepth 100000
/-! ===== the model: what its blocks do (printed by tools/gen.py) ===== -/
theorem B_X6_makes_194_f {G : am_G} {ρ : mm_F} {d : Nat} {x1 : Int32} {x3 : Int32} {μ : mm_S} {Q : Int32 → mm_S → Prop} (h : W_X6_many G ρ d 1 μ (fun v2 μ1 => ((v2 ≤ x3 → W_X6_carried G ρ d x1 μ1 (fun v4 μ3 => (narrow .boolean (.int v4) = .int v4 ∧ Q v4 μ3))) ∧ (¬ v2 ≤ x3 → W_X6_get G ρ d 1 x3 3 μ1 (fun v6 μ5 => ((¬ v6 = 1 → W_X6_get G ρ d 1 x3 4 μ5 (fun v8 μ7 => B_X6_makes_239 G ρ (d + 1) x1 x3 v8 0 μ7 Q)) ∧ (v6 = 1 → W_X6_set G ρ d 1 x3 2 ((mI μ5 27) + 1) μ5 (fun μ9 => W_X6_get G ρ d 1 x3 4 μ9 (fun v11 μ10 => B_X6_makes_239 G ρ (d + 1) x1 x3 v11 0 μ10 Q))))))))) : B_X6_makes_194 G ρ (d + 1) x1 x3 μ Q := by
  unfold B_X6_makes_194
  refine am_iload_n (x := x3) dX6_makes_194 rfl rfl ?_
  refine am_aloadr_n (x := some ρ.1) dX6_makes_195 rfl rfl ?_
  refine am_iconst (v := 1) dX6_makes_196 (by decide) ?_
  refine mm_callV (Mc := m_X6_many) (as := [.int 1]) rfl bm_X6_many q2662 q2664 qs87 (Nat.le_of_ble_eq_true rfl) dX6_makes_197 (mt_X6_many (mm_k2i h (fun v2 μ1 h => ?_)))
  refine am_icmp_ge (tgt := 319) dX6_makes_200 (by decide) (fun c => ?_) (fun c => ?_)
  · have h := h.1 c
    refine am_aloadr_n (x := some ρ.1) dX6_makes_319 rfl rfl ?_
    refine am_iload_n (x := x1) dX6_makes_320 rfl rfl ?_
    refine mm_callV (Mc := m_X6_carried) (as := [.int x1]) rfl bm_X6_carried q3002 q3004 qs151 (Nat.le_of_ble_eq_true rfl) dX6_makes_321 (mt_X6_carried (mm_k2i h (fun v4 μ3 h => ?_)))
    exact am_zret rfl h.1 dX6_makes_324 ⟨_, _, rfl, rfl, h.2⟩
  · have h := h.2 c
    refine am_aloadr_n (x := some ρ.1) dX6_makes_203 rfl rfl ?_
    refine am_iconst (v := 1) dX6_makes_204 (by decide) ?_
    refine am_iload_n (x := x3) dX6_makes_205 rfl rfl ?_
    refine am_iconst (v := 3) dX6_makes_206 (by decide) ?_
    refine mm_callV (Mc := m_X6_get) (as := [.int 1, .int x3, .int 3]) rfl bm_X6_get q2666 q2668 qs88 (Nat.le_of_ble_eq_true rfl) dX6_makes_207 (mt_X6_get (mm_k2i h (fun v6 μ5 h => ?_)))
    refine am_iconst (v := 1) dX6_makes_210 (by decide) ?_
    refine am_icmp_ne (tgt := 227) dX6_makes_211 (by decide) (fun c => ?_) (fun c => ?_)
    · have h := h.1 c
      refine am_aloadr_n (x := some ρ.1) dX6_makes_227 rfl rfl ?_
      refine am_iconst (v := 1) dX6_makes_228 (by decide) ?_
      refine am_iload_n (x := x3) dX6_makes_229 rfl rfl ?_
      refine am_iconst (v := 4) dX6_makes_230 (by decide) ?_
      refine mm_callV (Mc := m_X6_get) (as := [.int 1, .int x3, .int 4]) rfl bm_X6_get q2666 q2668 qs88 (Nat.le_of_ble_eq_true rfl) dX6_makes_231 (mt_X6_get (mm_k2i h (fun v8 μ7 h => ?_)))
      refine am_istore (L' := [(8, .int v8), (0, va_rf (some ρ.1)), (2, .int x1), (6, .int x3)]) dX6_makes_234 (Nat.le_of_ble_eq_true rfl) rfl ?_
      refine am_iconst (v := 0) dX6_makes_236 (by decide) ?_
      refine am_istore (L' := [(10, .int 0), (8, .int v8), (0, va_rf (some ρ.1)), (2, .int x1), (6, .int x3)]) dX6_makes_237 (Nat.le_of_ble_eq_true rfl) rfl ?_
      exact am_lss h rfl
    · have h := h.2 c
      refine am_aloadr_n (x := some ρ.1) dX6_makes_214 rfl rfl ?_
      refine am_iconst (v := 1) dX6_makes_215 (by decide) ?_
      refine am_iload_n (x := x3) dX6_makes_216 rfl rfl ?_
      refine am_iconst (v := 2) dX6_makes_217 (by decide) ?_
      refine am_aloadr_n (x := some ρ.1) dX6_makes_218 rfl rfl ?_
      refine mm_gI (k := 27) rfl (Or.inl rfl) (by decide) q2346 dX6_makes_219 ?_
      refine am_iconst (v := 1) dX6_makes_222 (by decide) ?_
      refine am_iadd dX6_makes_223 ?_
      refine mm_callV (Mc := m_X6_set) (as := [.int 1, .int x3, .int 2, .int ((mI μ5 27) + 1)]) rfl bm_X6_set q2674 q2676 qs90 (Nat.le_of_ble_eq_true rfl) dX6_makes_224 (mt_X6_set (mm_k2v h (fun μ9 h => ?_)))
      refine am_aloadr_n (x := some ρ.1) dX6_makes_227 rfl rfl ?_
      refine am_iconst (v := 1) dX6_makes_228 (by decide) ?_
      refine am_iload_n (x := x3) dX6_makes_229 rfl rfl ?_
      refine am_iconst (v := 4) dX6_makes_230 (by decide) ?_
      refine mm_callV (Mc := m_X6_get) (as := [.int 1, .int x3, .int 4]) rfl bm_X6_get q2666 q2668 qs88 (Nat.le_of_ble_eq_true rfl) dX6_makes_231 (mt_X6_get (mm_k2i h (fun v11 μ10 h => ?_)))
      refine am_istore (L' := [(8, .int v11), (0, va_rf (some ρ.1)), (2, .int x1), (6, .int x3)]) dX6_makes_234 (Nat.le_of_ble_eq_true rfl) rfl ?_
      refine am_iconst (v := 0) dX6_makes_236 (by decide) ?_
      refine am_istore (L' := [(10, .int 0), (8, .int v11), (0, va_rf (some ρ.1)), (2, .int x1), (6, .int x3)]) dX6_makes_237 (Nat.le_of_ble_eq_true rfl) rfl ?_
      exact am_lss h rfl
theorem B_X6_makes_239_f {G : am_G} {ρ : mm_F} {d : Nat} {x1 : Int32} {x3 : Int32} {x4 : Int32} {x5 : Int32} {μ : mm_S} {Q : Int32 → mm_S → Prop} (h : W_X6_get G ρ d 1 x3 30 μ (fun v2 μ1 => ((v2 ≤ x5 → B_X6_makes_194 G ρ (d + 1) x1 (x3 + 1) μ1 Q) ∧ (¬ v2 ≤ x5 → ((x4 = (-1) → B_X6_makes_194 G ρ (d + 1) x1 (x3 + 1) μ1 Q) ∧ (¬ x4 = (-1) → W_X6_get G ρ d 1 x3 (31 + x5) μ1 (fun v4 μ3 => W_X6_fixedOf G ρ d 0 x4 v4 μ3 (fun v6 μ5 => ((v6 = (-1) → B_X6_makes_239 G ρ (d + 1) x1 x3 x4 (x5 + 1) μ5 Q) ∧ (¬ v6 = (-1) → W_X6_get G ρ d 0 x4 (35 + v6) μ5 (fun v8 μ7 => W_X6_set G ρ d 1 x3 (35 + x5) v8 μ7 (fun μ9 => B_X6_makes_239 G ρ (d + 1) x1 x3 x4 (x5 + 1) μ9 Q)))))))))))) : B_X6_makes_239 G ρ (d + 1) x1 x3 x4 x5 μ Q := by
  unfold B_X6_makes_239
  refine am_iload (x := x5) dX6_makes_239 rfl ?_
  refine am_aloadr_n (x := some ρ.1) dX6_makes_241 rfl rfl ?_
  refine am_iconst (v := 1) dX6_makes_242 (by decide) ?_
  refine am_iload_n (x := x3) dX6_makes_243 rfl rfl ?_
  refine am_bipush (v := 30) dX6_makes_244 (by decide) ?_
  refine mm_callV (Mc := m_X6_get) (as := [.int 1, .int x3, .int 30]) rfl bm_X6_get q2666 q2668 qs88 (Nat.le_of_ble_eq_true rfl) dX6_makes_246 (mt_X6_get (mm_k2i h (fun v2 μ1 h => ?_)))
  refine am_icmp_ge (tgt := 313) dX6_makes_249 (by decide) (fun c => ?_) (fun c => ?_)
  · have h := h.1 c
    refine am_iinc (x := x3) (v := (x3 + 1)) (L' := [(6, .int (x3 + 1)), (0, va_rf (some ρ.1)), (2, .int x1), (8, .int x4), (10, .int x5)]) dX6_makes_313 rfl rfl (Nat.le_of_ble_eq_true rfl) rfl ?_
    refine am_goto (tgt := 194) dX6_makes_316 (by decide) ?_
    exact am_lss h rfl
  · have h := h.2 c
    refine am_iload (x := x4) dX6_makes_252 rfl ?_
    refine am_iconst (v := (-1)) dX6_makes_254 (by decide) ?_
    refine am_icmp_eq (tgt := 313) dX6_makes_255 (by decide) (fun c => ?_) (fun c => ?_)
    · have h := h.1 c
      refine am_iinc (x := x3) (v := (x3 + 1)) (L' := [(6, .int (x3 + 1)), (0, va_rf (some ρ.1)), (2, .int x1), (8, .int x4), (10, .int x5)]) dX6_makes_313 rfl rfl (Nat.le_of_ble_eq_true rfl) rfl ?_
      refine am_goto (tgt := 194) dX6_makes_316 (by decide) ?_
      exact am_lss h rfl
    · have h := h.2 c
      refine am_aloadr_n (x := some ρ.1) dX6_makes_258 rfl rfl ?_
      refine am_iconst (v := 0) dX6_makes_259 (by decide) ?_
      refine am_iload (x := x4) dX6_makes_260 rfl ?_
      refine am_aloadr_n (x := some ρ.1) dX6_makes_262 rfl rfl ?_
      refine am_iconst (v := 1) dX6_makes_263 (by decide) ?_
      refine am_iload_n (x := x3) dX6_makes_264 rfl rfl ?_
      refine am_bipush (v := 31) dX6_makes_265 (by decide) ?_
      refine am_iload (x := x5) dX6_makes_267 rfl ?_
      refine am_iadd dX6_makes_269 ?_
      refine mm_callV (Mc := m_X6_get) (as := [.int 1, .int x3, .int (31 + x5)]) rfl bm_X6_get q2666 q2668 qs88 (Nat.le_of_ble_eq_true rfl) dX6_makes_270 (mt_X6_get (mm_k2i h (fun v4 μ3 h => ?_)))
      refine mm_callV (Mc := m_X6_fixedOf) (as := [.int 0, .int x4, .int v4]) rfl bm_X6_fixedOf q2702 q2704 qs97 (Nat.le_of_ble_eq_true rfl) dX6_makes_273 (mt_X6_fixedOf (mm_k2i h (fun v6 μ5 h => ?_)))
      refine am_istore (L' := [(12, .int v6), (0, va_rf (some ρ.1)), (2, .int x1), (6, .int x3), (8, .int x4), (10, .int x5)]) dX6_makes_276 (Nat.le_of_ble_eq_true rfl) rfl ?_
      refine am_iload (x := v6) dX6_makes_278 rfl ?_
      refine am_iconst (v := (-1)) dX6_makes_280 (by decide) ?_
      refine am_icmp_eq (tgt := 307) dX6_makes_281 (by decide) (fun c => ?_) (fun c => ?_)
      · have h := h.1 c
        refine am_iinc (x := x5) (v := (x5 + 1)) (L' := [(10, .int (x5 + 1)), (12, .int v6), (0, va_rf (some ρ.1)), (2, .int x1), (6, .int x3), (8, .int x4)]) dX6_makes_307 rfl rfl (Nat.le_of_ble_eq_true rfl) rfl ?_
        refine am_goto (tgt := 239) dX6_makes_310 (by decide) ?_
        exact am_lss h rfl
      · have h := h.2 c
        refine am_aloadr_n (x := some ρ.1) dX6_makes_284 rfl rfl ?_
        refine am_iconst (v := 1) dX6_makes_285 (by decide) ?_
        refine am_iload_n (x := x3) dX6_makes_286 rfl rfl ?_
        refine am_bipush (v := 35) dX6_makes_287 (by decide) ?_
        refine am_iload (x := x5) dX6_makes_289 rfl ?_
        refine am_iadd dX6_makes_291 ?_
        refine am_aloadr_n (x := some ρ.1) dX6_makes_292 rfl rfl ?_
        refine am_iconst (v := 0) dX6_makes_293 (by decide) ?_
        refine am_iload (x := x4) dX6_makes_294 rfl ?_
        refine am_bipush (v := 35) dX6_makes_296 (by decide) ?_
        refine am_iload (x := v6) dX6_makes_298 rfl ?_
        refine am_iadd dX6_makes_300 ?_
        refine mm_callV (Mc := m_X6_get) (as := [.int 0, .int x4, .int (35 + v6)]) rfl bm_X6_get q2666 q2668 qs88 (Nat.le_of_ble_eq_true rfl) dX6_makes_301 (mt_X6_get (mm_k2i h (fun v8 μ7 h => ?_)))
        refine mm_callV (Mc := m_X6_set) (as := [.int 1, .int x3, .int (35 + x5), .int v8]) rfl bm_X6_set q2674 q2676 qs90 (Nat.le_of_ble_eq_true rfl) dX6_makes_304 (mt_X6_set (mm_k2v h (fun μ9 h => ?_)))
        refine am_iinc (x := x5) (v := (x5 + 1)) (L' := [(10, .int (x5 + 1)), (12, .int v6), (0, va_rf (some ρ.1)), (2, .int x1), (6, .int x3), (8, .int x4)]) dX6_makes_307 rfl rfl (Nat.le_of_ble_eq_true rfl) rfl ?_
        refine am_goto (tgt := 239) dX6_makes_310 (by decide) ?_
        exact am_lss h rfl
theorem W_X6_changes_f {G : am_G} {ρ : mm_F} {d : Nat} {a1 : Int32} {a2 : Int32} {μ : mm_S} {Q : Int32 → mm_S → Prop} (h : W_X6_of G ρ d a1 0 μ (fun v2 μ1 => W_X6_of G ρ d a1 1 μ1 (fun v4 μ3 => W_X6_find G ρ d 1 v4 μ3 (fun v6 μ5 => ((¬ v2 = 40 → ((¬ v6 = (-1) → ((¬ v2 = 44 → ((¬ v2 = 42 → W_X6_set G ρ d 1 v6 3 1 μ5 (fun μ7 => ((¬ v2 = 43 → W_X6_in G ρ d a1 3 μ7 (fun v9 μ8 => B_X6_changes_379 G ρ (d + 1) a2 v6 v9 μ8 Q)) ∧ (v2 = 43 → W_X6_of G ρ d a1 2 μ7 (fun v11 μ10 => ((¬ v11 = (-1) → W_X6_of G ρ d a1 2 μ10 (fun v13 μ12 => W_X6_find G ρ d 1 v13 μ12 (fun v15 μ14 => B_X6_changes_307 G ρ (d + 1) a1 a2 v6 v15 μ14 Q))) ∧ (v11 = (-1) → B_X6_changes_307 G ρ (d + 1) a1 a2 v6 (-1) μ10 Q))))))) ∧ (v2 = 42 → B_X6_changes_221 G ρ (d + 1) a2 v6 0 μ5 Q))) ∧ (v2 = 44 → Q 1 μ5))) ∧ (v6 = (-1) → W_X6_refuses G ρ d 1 a2 (-1) μ5 (fun v17 μ16 => (narrow .boolean (.int v17) = .int v17 ∧ Q v17 μ16))))) ∧ (v2 = 40 → ((v6 = (-1) → W_X6_many G ρ d 1 μ5 (fun v19 μ18 => ((¬ v19 = 12 → W_X6_of G ρ d a1 2 μ18 (fun v21 μ20 => ((¬ v21 = (-1) → W_X6_of G ρ d a1 2 μ20 (fun v23 μ22 => W_X6_find G ρ d 1 v23 μ22 (fun v25 μ24 => B_X6_changes_88 G ρ (d + 1) a1 a2 v4 v25 μ24 Q))) ∧ (v21 = (-1) → B_X6_changes_88 G ρ (d + 1) a1 a2 v4 (-1) μ20 Q)))) ∧ (v19 = 12 → W_X6_refuses G ρ d 7 a2 (-1) μ18 (fun v27 μ26 => (narrow .boolean (.int v27) = .int v27 ∧ Q v27 μ26)))))) ∧ (¬ v6 = (-1) → W_X6_refuses G ρ d 2 a2 (-1) μ5 (fun v29 μ28 => (narrow .boolean (.int v29) = .int v29 ∧ Q v29 μ28)))))))))) : W_X6_changes G ρ (d + 1) a1 a2 μ Q := by
  unfold W_X6_changes
  refine am_aloadr_n (x := some ρ.1) dX6_changes_0 rfl rfl ?_
  refine am_iload_n (x := a1) dX6_changes_1 rfl rfl ?_
  refine am_iconst (v := 0) dX6_changes_2 (by decide) ?_
  refine mm_callV (Mc := m_X6_of) (as := [.int a1, .int 0]) rfl bm_X6_of q2895 q2897 qs128 (Nat.le_of_ble_eq_true rfl) dX6_changes_3 (mt_X6_of (mm_k2i h (fun v2 μ1 h => ?_)))
  refine am_istore_n (L' := [(6, .int v2), (0, va_rf (some ρ.1)), (2, .int a1), (4, .int a2)]) dX6_changes_6 rfl (Nat.le_of_ble_eq_true rfl) rfl ?_
  refine am_aloadr_n (x := some ρ.1) dX6_changes_7 rfl rfl ?_
  refine am_iload_n (x := a1) dX6_changes_8 rfl rfl ?_
  refine am_iconst (v := 1) dX6_changes_9 (by decide) ?_
  refine mm_callV (Mc := m_X6_of) (as := [.int a1, .int 1]) rfl bm_X6_of q2895 q2897 qs128 (Nat.le_of_ble_eq_true rfl) dX6_changes_10 (mt_X6_of (mm_k2i h (fun v4 μ3 h => ?_)))
  refine am_istore (L' := [(8, .int v4), (6, .int v2), (0, va_rf (some ρ.1)), (2, .int a1), (4, .int a2)]) dX6_changes_13 (Nat.le_of_ble_eq_true rfl) rfl ?_
  refine am_aloadr_n (x := some ρ.1) dX6_changes_15 rfl rfl ?_
  refine am_iconst (v := 1) dX6_changes_16 (by decide) ?_
  refine am_iload (x := v4) dX6_changes_17 rfl ?_
  refine mm_callV (Mc := m_X6_find) (as := [.int 1, .int v4]) rfl bm_X6_find q2658 q2660 qs86 (Nat.le_of_ble_eq_true rfl) dX6_changes_19 (mt_X6_find (mm_k2i h (fun v6 μ5 h => ?_)))
  refine am_istore (L' := [(10, .int v6), (8, .int v4), (6, .int v2), (0, va_rf (some ρ.1)), (2, .int a1), (4, .int a2)]) dX6_changes_22 (Nat.le_of_ble_eq_true rfl) rfl ?_
  refine am_iload_n (x := v2) dX6_changes_24 rfl rfl ?_
  refine am_bipush (v := 40) dX6_changes_25 (by decide) ?_
  refine am_icmp_ne (tgt := 190) dX6_changes_27 (by decide) (fun c => ?_) (fun c => ?_)
  · have h := h.1 c
    refine am_iload (x := v6) dX6_changes_190 rfl ?_
    refine am_iconst (v := (-1)) dX6_changes_192 (by decide) ?_
    refine am_icmp_ne (tgt := 204) dX6_changes_193 (by decide) (fun c => ?_) (fun c => ?_)
    · have h := h.1 c
      refine am_iload_n (x := v2) dX6_changes_204 rfl rfl ?_
      refine am_bipush (v := 44) dX6_changes_205 (by decide) ?_
      refine am_icmp_ne (tgt := 212) dX6_changes_207 (by decide) (fun c => ?_) (fun c => ?_)
      · have h := h.1 c
        refine am_iload_n (x := v2) dX6_changes_212 rfl rfl ?_
        refine am_bipush (v := 42) dX6_changes_213 (by decide) ?_
        refine am_icmp_ne (tgt := 267) dX6_changes_215 (by decide) (fun c => ?_) (fun c => ?_)
        · have h := h.1 c
          refine am_aloadr_n (x := some ρ.1) dX6_changes_267 rfl rfl ?_
          refine am_iconst (v := 1) dX6_changes_268 (by decide) ?_
          refine am_iload (x := v6) dX6_changes_269 rfl ?_
          refine am_iconst (v := 3) dX6_changes_271 (by decide) ?_
          refine am_iconst (v := 1) dX6_changes_272 (by decide) ?_
          refine mm_callV (Mc := m_X6_set) (as := [.int 1, .int v6, .int 3, .int 1]) rfl bm_X6_set q2674 q2676 qs90 (Nat.le_of_ble_eq_true rfl) dX6_changes_273 (mt_X6_set (mm_k2v h (fun μ7 h => ?_)))
          refine am_iload_n (x := v2) dX6_changes_276 rfl rfl ?_
          refine am_bipush (v := 43) dX6_changes_277 (by decide) ?_
          refine am_icmp_ne (tgt := 371) dX6_changes_279 (by decide) (fun c => ?_) (fun c => ?_)
          · have h := h.1 c
            refine am_aloadr_n (x := some ρ.1) dX6_changes_371 rfl rfl ?_
            refine am_iload_n (x := a1) dX6_changes_372 rfl rfl ?_
            refine am_iconst (v := 3) dX6_changes_373 (by decide) ?_
            refine mm_callV (Mc := m_X6_in) (as := [.int a1, .int 3]) rfl bm_X6_in q2899 q2901 qs129 (Nat.le_of_ble_eq_true rfl) dX6_changes_374 (mt_X6_in (mm_k2i h (fun v9 μ8 h => ?_)))
            refine am_istore (L' := [(12, .int v9), (10, .int v6), (8, .int v4), (6, .int v2), (0, va_rf (some ρ.1)), (2, .int a1), (4, .int a2)]) dX6_changes_377 (Nat.le_of_ble_eq_true rfl) rfl ?_
            exact am_lss h rfl
          · have h := h.2 c
            refine am_aloadr_n (x := some ρ.1) dX6_changes_282 rfl rfl ?_
            refine am_iload_n (x := a1) dX6_changes_283 rfl rfl ?_
            refine am_iconst (v := 2) dX6_changes_284 (by decide) ?_
            refine mm_callV (Mc := m_X6_of) (as := [.int a1, .int 2]) rfl bm_X6_of q2895 q2897 qs128 (Nat.le_of_ble_eq_true rfl) dX6_changes_285 (mt_X6_of (mm_k2i h (fun v11 μ10 h => ?_)))
            refine am_iconst (v := (-1)) dX6_changes_288 (by decide) ?_
            refine am_icmp_ne (tgt := 296) dX6_changes_289 (by decide) (fun c => ?_) (fun c => ?_)
            · have h := h.1 c
              refine am_aloadr_n (x := some ρ.1) dX6_changes_296 rfl rfl ?_
              refine am_iconst (v := 1) dX6_changes_297 (by decide) ?_
              refine am_aloadr_n (x := some ρ.1) dX6_changes_298 rfl rfl ?_
              refine am_iload_n (x := a1) dX6_changes_299 rfl rfl ?_
              refine am_iconst (v := 2) dX6_changes_300 (by decide) ?_
              refine mm_callV (Mc := m_X6_of) (as := [.int a1, .int 2]) rfl bm_X6_of q2895 q2897 qs128 (Nat.le_of_ble_eq_true rfl) dX6_changes_301 (mt_X6_of (mm_k2i h (fun v13 μ12 h => ?_)))
              refine mm_callV (Mc := m_X6_find) (as := [.int 1, .int v13]) rfl bm_X6_find q2658 q2660 qs86 (Nat.le_of_ble_eq_true rfl) dX6_changes_304 (mt_X6_find (mm_k2i h (fun v15 μ14 h => ?_)))
              exact am_lss h rfl
            · have h := h.2 c
              refine am_iconst (v := (-1)) dX6_changes_292 (by decide) ?_
              refine am_goto (tgt := 307) dX6_changes_293 (by decide) ?_
              exact am_lss h rfl
        · have h := h.2 c
          refine am_iconst (v := 0) dX6_changes_218 (by decide) ?_
          refine am_istore (L' := [(12, .int 0), (10, .int v6), (8, .int v4), (6, .int v2), (0, va_rf (some ρ.1)), (2, .int a1), (4, .int a2)]) dX6_changes_219 (Nat.le_of_ble_eq_true rfl) rfl ?_
          exact am_lss h rfl
      · have h := h.2 c
        refine am_iconst (v := 1) dX6_changes_210 (by decide) ?_
        exact am_zret rfl rfl dX6_changes_211 ⟨_, _, rfl, rfl, h⟩
    · have h := h.2 c
      refine am_aloadr_n (x := some ρ.1) dX6_changes_196 rfl rfl ?_
      refine am_iconst (v := 1) dX6_changes_197 (by decide) ?_
      refine am_iload_n (x := a2) dX6_changes_198 rfl rfl ?_
      refine am_iconst (v := (-1)) dX6_changes_199 (by decide) ?_
      refine mm_callV (Mc := m_X6_refuses) (as := [.int 1, .int a2, .int (-1)]) rfl bm_X6_refuses q2974 q2976 qs144 (Nat.le_of_ble_eq_true rfl) dX6_changes_200 (mt_X6_refuses (mm_k2i h (fun v17 μ16 h => ?_)))
      exact am_zret rfl h.1 dX6_changes_203 ⟨_, _, rfl, rfl, h.2⟩
  · have h := h.2 c
    refine am_iload (x := v6) dX6_changes_30 rfl ?_
    refine am_iconst (v := (-1)) dX6_changes_32 (by decide) ?_
    refine am_icmp_eq (tgt := 44) dX6_changes_33 (by decide) (fun c => ?_) (fun c => ?_)
    · have h := h.1 c
      refine am_aloadr_n (x := some ρ.1) dX6_changes_44 rfl rfl ?_
      refine am_iconst (v := 1) dX6_changes_45 (by decide) ?_
      refine mm_callV (Mc := m_X6_many) (as := [.int 1]) rfl bm_X6_many q2662 q2664 qs87 (Nat.le_of_ble_eq_true rfl) dX6_changes_46 (mt_X6_many (mm_k2i h (fun v19 μ18 h => ?_)))
      refine am_bipush (v := 12) dX6_changes_49 (by decide) ?_
      refine am_icmp_ne (tgt := 63) dX6_changes_51 (by decide) (fun c => ?_) (fun c => ?_)
      · have h := h.1 c
        refine am_aloadr_n (x := some ρ.1) dX6_changes_63 rfl rfl ?_
        refine am_iload_n (x := a1) dX6_changes_64 rfl rfl ?_
        refine am_iconst (v := 2) dX6_changes_65 (by decide) ?_
        refine mm_callV (Mc := m_X6_of) (as := [.int a1, .int 2]) rfl bm_X6_of q2895 q2897 qs128 (Nat.le_of_ble_eq_true rfl) dX6_changes_66 (mt_X6_of (mm_k2i h (fun v21 μ20 h => ?_)))
        refine am_iconst (v := (-1)) dX6_changes_69 (by decide) ?_
        refine am_icmp_ne (tgt := 77) dX6_changes_70 (by decide) (fun c => ?_) (fun c => ?_)
        · have h := h.1 c
          refine am_aloadr_n (x := some ρ.1) dX6_changes_77 rfl rfl ?_
          refine am_iconst (v := 1) dX6_changes_78 (by decide) ?_
          refine am_aloadr_n (x := some ρ.1) dX6_changes_79 rfl rfl ?_
          refine am_iload_n (x := a1) dX6_changes_80 rfl rfl ?_
          refine am_iconst (v := 2) dX6_changes_81 (by decide) ?_
          refine mm_callV (Mc := m_X6_of) (as := [.int a1, .int 2]) rfl bm_X6_of q2895 q2897 qs128 (Nat.le_of_ble_eq_true rfl) dX6_changes_82 (mt_X6_of (mm_k2i h (fun v23 μ22 h => ?_)))
          refine mm_callV (Mc := m_X6_find) (as := [.int 1, .int v23]) rfl bm_X6_find q2658 q2660 qs86 (Nat.le_of_ble_eq_true rfl) dX6_changes_85 (mt_X6_find (mm_k2i h (fun v25 μ24 h => ?_)))
          exact am_lss h rfl
        · have h := h.2 c
          refine am_iconst (v := (-1)) dX6_changes_73 (by decide) ?_
          refine am_goto (tgt := 88) dX6_changes_74 (by decide) ?_
          exact am_lss h rfl
      · have h := h.2 c
        refine am_aloadr_n (x := some ρ.1) dX6_changes_54 rfl rfl ?_
        refine am_bipush (v := 7) dX6_changes_55 (by decide) ?_
        refine am_iload_n (x := a2) dX6_changes_57 rfl rfl ?_
        refine am_iconst (v := (-1)) dX6_changes_58 (by decide) ?_
        refine mm_callV (Mc := m_X6_refuses) (as := [.int 7, .int a2, .int (-1)]) rfl bm_X6_refuses q2974 q2976 qs144 (Nat.le_of_ble_eq_true rfl) dX6_changes_59 (mt_X6_refuses (mm_k2i h (fun v27 μ26 h => ?_)))
        exact am_zret rfl h.1 dX6_changes_62 ⟨_, _, rfl, rfl, h.2⟩
    · have h := h.2 c
      refine am_aloadr_n (x := some ρ.1) dX6_changes_36 rfl rfl ?_
      refine am_iconst (v := 2) dX6_changes_37 (by decide) ?_
      refine am_iload_n (x := a2) dX6_changes_38 rfl rfl ?_
      refine am_iconst (v := (-1)) dX6_changes_39 (by decide) ?_
      refine mm_callV (Mc := m_X6_refuses) (as := [.int 2, .int a2, .int (-1)]) rfl bm_X6_refuses q2974 q2976 qs144 (Nat.le_of_ble_eq_true rfl) dX6_changes_40 (mt_X6_refuses (mm_k2i h (fun v29 μ28 h => ?_)))
      exact am_zret rfl h.1 dX6_changes_43 ⟨_, _, rfl, rfl, h.2⟩
theorem B_X6_changes_88_f {G : am_G} {ρ : mm_F} {d : Nat} {x1 : Int32} {x2 : Int32} {x4 : Int32} {s0 : Int32} {μ : mm_S} {Q : Int32 → mm_S → Prop} (h : W_X6_of G ρ d x1 2 μ (fun v2 μ1 => ((v2 = (-1) → B_X6_changes_114 G ρ (d + 1) x1 x2 x4 s0 μ1 Q) ∧ (¬ v2 = (-1) → ((¬ s0 = (-1) → B_X6_changes_114 G ρ (d + 1) x1 x2 x4 s0 μ1 Q) ∧ (s0 = (-1) → W_X6_refuses G ρ d 1 x2 (-1) μ1 (fun v4 μ3 => (narrow .boolean (.int v4) = .int v4 ∧ Q v4 μ3)))))))) : B_X6_changes_88 G ρ (d + 1) x1 x2 x4 s0 μ Q := by
  unfold B_X6_changes_88
  refine am_istore (L' := [(12, .int s0), (0, va_rf (some ρ.1)), (2, .int x1), (4, .int x2), (8, .int x4)]) dX6_changes_88 (Nat.le_of_ble_eq_true rfl) rfl ?_
  refine am_aloadr_n (x := some ρ.1) dX6_changes_90 rfl rfl ?_
  refine am_iload_n (x := x1) dX6_changes_91 rfl rfl ?_
  refine am_iconst (v := 2) dX6_changes_92 (by decide) ?_
  refine mm_callV (Mc := m_X6_of) (as := [.int x1, .int 2]) rfl bm_X6_of q2895 q2897 qs128 (Nat.le_of_ble_eq_true rfl) dX6_changes_93 (mt_X6_of (mm_k2i h (fun v2 μ1 h => ?_)))
  refine am_iconst (v := (-1)) dX6_changes_96 (by decide) ?_
  refine am_icmp_eq (tgt := 114) dX6_changes_97 (by decide) (fun c => ?_) (fun c => ?_)
  · have h := h.1 c
    exact am_lss h rfl
  · have h := h.2 c
    refine am_iload (x := s0) dX6_changes_100 rfl ?_
    refine am_iconst (v := (-1)) dX6_changes_102 (by decide) ?_
    refine am_icmp_ne (tgt := 114) dX6_changes_103 (by decide) (fun c => ?_) (fun c => ?_)
    · have h := h.1 c
      exact am_lss h rfl
    · have h := h.2 c
      refine am_aloadr_n (x := some ρ.1) dX6_changes_106 rfl rfl ?_
      refine am_iconst (v := 1) dX6_changes_107 (by decide) ?_
      refine am_iload_n (x := x2) dX6_changes_108 rfl rfl ?_
      refine am_iconst (v := (-1)) dX6_changes_109 (by decide) ?_
      refine mm_callV (Mc := m_X6_refuses) (as := [.int 1, .int x2, .int (-1)]) rfl bm_X6_refuses q2974 q2976 qs144 (Nat.le_of_ble_eq_true rfl) dX6_changes_110 (mt_X6_refuses (mm_k2i h (fun v4 μ3 h => ?_)))
      exact am_zret rfl h.1 dX6_changes_113 ⟨_, _, rfl, rfl, h.2⟩
theorem B_X6_changes_114_f {G : am_G} {ρ : mm_F} {d : Nat} {x1 : Int32} {x2 : Int32} {x4 : Int32} {x6 : Int32} {μ : mm_S} {Q : Int32 → mm_S → Prop} (h : W_X6_newKind G ρ d 1 x4 μ (fun v2 μ1 => W_X6_set G ρ d 1 v2 1 x6 μ1 (fun μ3 => W_X6_find G ρ d 0 x4 μ3 (fun v5 μ4 => W_X6_set G ρ d 1 v2 4 v5 μ4 (fun μ6 => W_X6_in G ρ d x1 3 μ6 (fun v8 μ7 => B_X6_changes_156 G ρ (d + 1) x2 v2 v8 μ7 Q)))))) : B_X6_changes_114 G ρ (d + 1) x1 x2 x4 x6 μ Q := by
  unfold B_X6_changes_114
  refine am_aloadr_n (x := some ρ.1) dX6_changes_114 rfl rfl ?_
  refine am_iconst (v := 1) dX6_changes_115 (by decide) ?_
  refine am_iload (x := x4) dX6_changes_116 rfl ?_
  refine mm_callV (Mc := m_X6_newKind) (as := [.int 1, .int x4]) rfl bm_X6_newKind q2670 q2672 qs89 (Nat.le_of_ble_eq_true rfl) dX6_changes_118 (mt_X6_newKind (mm_k2i h (fun v2 μ1 h => ?_)))
  refine am_istore (L' := [(10, .int v2), (0, va_rf (some ρ.1)), (2, .int x1), (4, .int x2), (8, .int x4), (12, .int x6)]) dX6_changes_121 (Nat.le_of_ble_eq_true rfl) rfl ?_
  refine am_aloadr_n (x := some ρ.1) dX6_changes_123 rfl rfl ?_
  refine am_iconst (v := 1) dX6_changes_124 (by decide) ?_
  refine am_iload (x := v2) dX6_changes_125 rfl ?_
  refine am_iconst (v := 1) dX6_changes_127 (by decide) ?_
  refine am_iload (x := x6) dX6_changes_128 rfl ?_
  refine mm_callV (Mc := m_X6_set) (as := [.int 1, .int v2, .int 1, .int x6]) rfl bm_X6_set q2674 q2676 qs90 (Nat.le_of_ble_eq_true rfl) dX6_changes_130 (mt_X6_set (mm_k2v h (fun μ3 h => ?_)))
  refine am_aloadr_n (x := some ρ.1) dX6_changes_133 rfl rfl ?_
  refine am_iconst (v := 1) dX6_changes_134 (by decide) ?_
  refine am_iload (x := v2) dX6_changes_135 rfl ?_
  refine am_iconst (v := 4) dX6_changes_137 (by decide) ?_
  refine am_aloadr_n (x := some ρ.1) dX6_changes_138 rfl rfl ?_
  refine am_iconst (v := 0) dX6_changes_139 (by decide) ?_
  refine am_iload (x := x4) dX6_changes_140 rfl ?_
  refine mm_callV (Mc := m_X6_find) (as := [.int 0, .int x4]) rfl bm_X6_find q2658 q2660 qs86 (Nat.le_of_ble_eq_true rfl) dX6_changes_142 (mt_X6_find (mm_k2i h (fun v5 μ4 h => ?_)))
  refine mm_callV (Mc := m_X6_set) (as := [.int 1, .int v2, .int 4, .int v5]) rfl bm_X6_set q2674 q2676 qs90 (Nat.le_of_ble_eq_true rfl) dX6_changes_145 (mt_X6_set (mm_k2v h (fun μ6 h => ?_)))
  refine am_aloadr_n (x := some ρ.1) dX6_changes_148 rfl rfl ?_
  refine am_iload_n (x := x1) dX6_changes_149 rfl rfl ?_
  refine am_iconst (v := 3) dX6_changes_150 (by decide) ?_
  refine mm_callV (Mc := m_X6_in) (as := [.int x1, .int 3]) rfl bm_X6_in q2899 q2901 qs129 (Nat.le_of_ble_eq_true rfl) dX6_changes_151 (mt_X6_in (mm_k2i h (fun v8 μ7 h => ?_)))
  refine am_istore (L' := [(14, .int v8), (10, .int v2), (0, va_rf (some ρ.1)), (2, .int x1), (4, .int x2), (8, .int x4), (12, .int x6)]) dX6_changes_154 (Nat.le_of_ble_eq_true rfl) rfl ?_
  exact am_lss h rfl
theorem B_X6_changes_156_f {G : am_G} {ρ : mm_F} {d : Nat} {x2 : Int32} {x5 : Int32} {x7 : Int32} {μ : mm_S} {Q : Int32 → mm_S → Prop} (h : ((x7 = (-1) → Q 1 μ) ∧ (¬ x7 = (-1) → W_X6_comes G ρ d x7 x5 x2 μ (fun v2 μ1 => ((¬ v2 = 0 → W_X6_in G ρ d x7 4 μ1 (fun v4 μ3 => B_X6_changes_156 G ρ (d + 1) x2 x5 v4 μ3 Q)) ∧ (v2 = 0 → Q 0 μ1)))))) : B_X6_changes_156 G ρ (d + 1) x2 x5 x7 μ Q := by
  unfold B_X6_changes_156
  refine am_iload (x := x7) dX6_changes_156 rfl ?_
  refine am_iconst (v := (-1)) dX6_changes_158 (by decide) ?_
  refine am_icmp_eq (tgt := 188) dX6_changes_159 (by decide) (fun c => ?_) (fun c => ?_)
  · have h := h.1 c
    refine am_iconst (v := 1) dX6_changes_188 (by decide) ?_
    exact am_zret rfl rfl dX6_changes_189 ⟨_, _, rfl, rfl, h⟩
  · have h := h.2 c
    refine am_aloadr_n (x := some ρ.1) dX6_changes_162 rfl rfl ?_
    refine am_iload (x := x7) dX6_changes_163 rfl ?_
    refine am_iload (x := x5) dX6_changes_165 rfl ?_
    refine am_iload_n (x := x2) dX6_changes_167 rfl rfl ?_
    refine mm_callV (Mc := m_X6_comes) (as := [.int x7, .int x5, .int x2]) rfl bm_X6_comes q2978 q2980 qs145 (Nat.le_of_ble_eq_true rfl) dX6_changes_168 (mt_X6_comes (mm_k2i h (fun v2 μ1 h => ?_)))
    refine am_if_ne (tgt := 176) dX6_changes_171 (by decide) (fun c => ?_) (fun c => ?_)
    · have h := h.1 c
      refine am_aloadr_n (x := some ρ.1) dX6_changes_176 rfl rfl ?_
      refine am_iload (x := x7) dX6_changes_177 rfl ?_
      refine am_iconst (v := 4) dX6_changes_179 (by decide) ?_
      refine mm_callV (Mc := m_X6_in) (as := [.int x7, .int 4]) rfl bm_X6_in q2899 q2901 qs129 (Nat.le_of_ble_eq_true rfl) dX6_changes_180 (mt_X6_in (mm_k2i h (fun v4 μ3 h => ?_)))
      refine am_istore (L' := [(14, .int v4), (0, va_rf (some ρ.1)), (4, .int x2), (10, .int x5)]) dX6_changes_183 (Nat.le_of_ble_eq_true rfl) rfl ?_
      refine am_goto (tgt := 156) dX6_changes_185 (by decide) ?_
      exact am_lss h rfl
    · have h := h.2 c
      refine am_iconst (v := 0) dX6_changes_174 (by decide) ?_
      exact am_zret rfl rfl dX6_changes_175 ⟨_, _, rfl, rfl, h⟩
theorem B_X6_changes_221_f {G : am_G} {ρ : mm_F} {d : Nat} {x2 : Int32} {x5 : Int32} {x6 : Int32} {μ : mm_S} {Q : Int32 → mm_S → Prop} (h : W_X6_many G ρ d 1 μ (fun v2 μ1 => ((v2 ≤ x6 → W_X6_drops G ρ d x5 μ1 (fun μ3 => Q 1 μ3)) ∧ (¬ v2 ≤ x6 → W_X6_get G ρ d 1 x6 1 μ1 (fun v5 μ4 => ((¬ v5 = x5 → B_X6_changes_221 G ρ (d + 1) x2 x5 (x6 + 1) μ4 Q) ∧ (v5 = x5 → W_X6_refuses G ρ d 6 x2 (-1) μ4 (fun v7 μ6 => (narrow .boolean (.int v7) = .int v7 ∧ Q v7 μ6))))))))) : B_X6_changes_221 G ρ (d + 1) x2 x5 x6 μ Q := by
  unfold B_X6_changes_221
  refine am_iload (x := x6) dX6_changes_221 rfl ?_
  refine am_aloadr_n (x := some ρ.1) dX6_changes_223 rfl rfl ?_
  refine am_iconst (v := 1) dX6_changes_224 (by decide) ?_
  refine mm_callV (Mc := m_X6_many) (as := [.int 1]) rfl bm_X6_many q2662 q2664 qs87 (Nat.le_of_ble_eq_true rfl) dX6_changes_225 (mt_X6_many (mm_k2i h (fun v2 μ1 h => ?_)))
  refine am_icmp_ge (tgt := 259) dX6_changes_228 (by decide) (fun c => ?_) (fun c => ?_)
  · have h := h.1 c
    refine am_aloadr_n (x := some ρ.1) dX6_changes_259 rfl rfl ?_
    refine am_iload (x := x5) dX6_changes_260 rfl ?_
    refine mm_callV (Mc := m_X6_drops) (as := [.int x5]) rfl bm_X6_drops q2982 q2984 qs146 (Nat.le_of_ble_eq_true rfl) dX6_changes_262 (mt_X6_drops (mm_k2v h (fun μ3 h => ?_)))
    refine am_iconst (v := 1) dX6_changes_265 (by decide) ?_
    exact am_zret rfl rfl dX6_changes_266 ⟨_, _, rfl, rfl, h⟩
  · have h := h.2 c
    refine am_aloadr_n (x := some ρ.1) dX6_changes_231 rfl rfl ?_
    refine am_iconst (v := 1) dX6_changes_232 (by decide) ?_
    refine am_iload (x := x6) dX6_changes_233 rfl ?_
    refine am_iconst (v := 1) dX6_changes_235 (by decide) ?_
    refine mm_callV (Mc := m_X6_get) (as := [.int 1, .int x6, .int 1]) rfl bm_X6_get q2666 q2668 qs88 (Nat.le_of_ble_eq_true rfl) dX6_changes_236 (mt_X6_get (mm_k2i h (fun v5 μ4 h => ?_)))
    refine am_iload (x := x5) dX6_changes_239 rfl ?_
    refine am_icmp_ne (tgt := 253) dX6_changes_241 (by decide) (fun c => ?_) (fun c => ?_)
    · have h := h.1 c
      refine am_iinc (x := x6) (v := (x6 + 1)) (L' := [(12, .int (x6 + 1)), (0, va_rf (some ρ.1)), (4, .int x2), (10, .int x5)]) dX6_changes_253 rfl rfl (Nat.le_of_ble_eq_true rfl) rfl ?_
      refine am_goto (tgt := 221) dX6_changes_256 (by decide) ?_
      exact am_lss h rfl
    · have h := h.2 c
      refine am_aloadr_n (x := some ρ.1) dX6_changes_244 rfl rfl ?_
      refine am_bipush (v := 6) dX6_changes_245 (by decide) ?_
      refine am_iload_n (x := x2) dX6_changes_247 rfl rfl ?_
      refine am_iconst (v := (-1)) dX6_changes_248 (by decide) ?_
      refine mm_callV (Mc := m_X6_refuses) (as := [.int 6, .int x2, .int (-1)]) rfl bm_X6_refuses q2974 q2976 qs144 (Nat.le_of_ble_eq_true rfl) dX6_changes_249 (mt_X6_refuses (mm_k2i h (fun v7 μ6 h => ?_)))
      exact am_zret rfl h.1 dX6_changes_252 ⟨_, _, rfl, rfl, h.2⟩
theorem B_X6_changes_307_f {G : am_G} {ρ : mm_F} {d : Nat} {x1 : Int32} {x2 : Int32} {x5 : Int32} {s0 : Int32} {μ : mm_S} {Q : Int32 → mm_S → Prop} (h : W_X6_of G ρ d x1 2 μ (fun v2 μ1 => ((v2 = (-1) → B_X6_changes_333 G ρ (d + 1) x2 x5 s0 μ1 Q) ∧ (¬ v2 = (-1) → ((¬ s0 = (-1) → B_X6_changes_333 G ρ (d + 1) x2 x5 s0 μ1 Q) ∧ (s0 = (-1) → W_X6_refuses G ρ d 1 x2 (-1) μ1 (fun v4 μ3 => (narrow .boolean (.int v4) = .int v4 ∧ Q v4 μ3)))))))) : B_X6_changes_307 G ρ (d + 1) x1 x2 x5 s0 μ Q := by
  unfold B_X6_changes_307
  refine am_istore (L' := [(12, .int s0), (0, va_rf (some ρ.1)), (2, .int x1), (4, .int x2), (10, .int x5)]) dX6_changes_307 (Nat.le_of_ble_eq_true rfl) rfl ?_
  refine am_aloadr_n (x := some ρ.1) dX6_changes_309 rfl rfl ?_
  refine am_iload_n (x := x1) dX6_changes_310 rfl rfl ?_
  refine am_iconst (v := 2) dX6_changes_311 (by decide) ?_
  refine mm_callV (Mc := m_X6_of) (as := [.int x1, .int 2]) rfl bm_X6_of q2895 q2897 qs128 (Nat.le_of_ble_eq_true rfl) dX6_changes_312 (mt_X6_of (mm_k2i h (fun v2 μ1 h => ?_)))
  refine am_iconst (v := (-1)) dX6_changes_315 (by decide) ?_
  refine am_icmp_eq (tgt := 333) dX6_changes_316 (by decide) (fun c => ?_) (fun c => ?_)
  · have h := h.1 c
    exact am_lss h rfl
  · have h := h.2 c
    refine am_iload (x := s0) dX6_changes_319 rfl ?_
    refine am_iconst (v := (-1)) dX6_changes_321 (by decide) ?_
    refine am_icmp_ne (tgt := 333) dX6_changes_322 (by decide) (fun c => ?_) (fun c => ?_)
    · have h := h.1 c
      exact am_lss h rfl
    · have h := h.2 c
      refine am_aloadr_n (x := some ρ.1) dX6_changes_325 rfl rfl ?_
      refine am_iconst (v := 1) dX6_changes_326 (by decide) ?_
      refine am_iload_n (x := x2) dX6_changes_327 rfl rfl ?_
      refine am_iconst (v := (-1)) dX6_changes_328 (by decide) ?_
      refine mm_callV (Mc := m_X6_refuses) (as := [.int 1, .int x2, .int (-1)]) rfl bm_X6_refuses q2974 q2976 qs144 (Nat.le_of_ble_eq_true rfl) dX6_changes_329 (mt_X6_refuses (mm_k2i h (fun v4 μ3 h => ?_)))
      exact am_zret rfl h.1 dX6_changes_332 ⟨_, _, rfl, rfl, h.2⟩
theorem B_X6_changes_333_f {G : am_G} {ρ : mm_F} {d : Nat} {x2 : Int32} {x5 : Int32} {x6 : Int32} {μ : mm_S} {Q : Int32 → mm_S → Prop} (h : ((x6 = (-1) → W_X6_set G ρ d 1 x5 1 x6 μ (fun μ1 => Q 1 μ1)) ∧ (¬ x6 = (-1) → W_X6_isUnder G ρ d 1 x6 x5 μ (fun v3 μ2 => ((v3 = 0 → W_X6_set G ρ d 1 x5 1 x6 μ2 (fun μ4 => Q 1 μ4)) ∧ (¬ v3 = 0 → W_X6_refuses G ρ d 5 x2 (-1) μ2 (fun v6 μ5 => (narrow .boolean (.int v6) = .int v6 ∧ Q v6 μ5)))))))) : B_X6_changes_333 G ρ (d + 1) x2 x5 x6 μ Q := by
  unfold B_X6_changes_333
  refine am_iload (x := x6) dX6_changes_333 rfl ?_
  refine am_iconst (v := (-1)) dX6_changes_335 (by decide) ?_
  refine am_icmp_eq (tgt := 359) dX6_changes_336 (by decide) (fun c => ?_) (fun c => ?_)
  · have h := h.1 c
    refine am_aloadr_n (x := some ρ.1) dX6_changes_359 rfl rfl ?_
    refine am_iconst (v := 1) dX6_changes_360 (by decide) ?_
    refine am_iload (x := x5) dX6_changes_361 rfl ?_
    refine am_iconst (v := 1) dX6_changes_363 (by decide) ?_
    refine am_iload (x := x6) dX6_changes_364 rfl ?_
    refine mm_callV (Mc := m_X6_set) (as := [.int 1, .int x5, .int 1, .int x6]) rfl bm_X6_set q2674 q2676 qs90 (Nat.le_of_ble_eq_true rfl) dX6_changes_366 (mt_X6_set (mm_k2v h (fun μ1 h => ?_)))
    refine am_iconst (v := 1) dX6_changes_369 (by decide) ?_
    exact am_zret rfl rfl dX6_changes_370 ⟨_, _, rfl, rfl, h⟩
  · have h := h.2 c
    refine am_aloadr_n (x := some ρ.1) dX6_changes_339 rfl rfl ?_
    refine am_iconst (v := 1) dX6_changes_340 (by decide) ?_
    refine am_iload (x := x6) dX6_changes_341 rfl ?_
    refine am_iload (x := x5) dX6_changes_343 rfl ?_
    refine mm_callV (Mc := m_X6_isUnder) (as := [.int 1, .int x6, .int x5]) rfl bm_X6_isUnder q2986 q2988 qs147 (Nat.le_of_ble_eq_true rfl) dX6_changes_345 (mt_X6_isUnder (mm_k2i h (fun v3 μ2 h => ?_)))
    refine am_if_eq (tgt := 359) dX6_changes_348 (by decide) (fun c => ?_) (fun c => ?_)
    · have h := h.1 c
      refine am_aloadr_n (x := some ρ.1) dX6_changes_359 rfl rfl ?_
      refine am_iconst (v := 1) dX6_changes_360 (by decide) ?_
      refine am_iload (x := x5) dX6_changes_361 rfl ?_
      refine am_iconst (v := 1) dX6_changes_363 (by decide) ?_
      refine am_iload (x := x6) dX6_changes_364 rfl ?_
      refine mm_callV (Mc := m_X6_set) (as := [.int 1, .int x5, .int 1, .int x6]) rfl bm_X6_set q2674 q2676 qs90 (Nat.le_of_ble_eq_true rfl) dX6_changes_366 (mt_X6_set (mm_k2v h (fun μ4 h => ?_)))
      refine am_iconst (v := 1) dX6_changes_369 (by decide) ?_
      exact am_zret rfl rfl dX6_changes_370 ⟨_, _, rfl, rfl, h⟩
    · have h := h.2 c
      refine am_aloadr_n (x := some ρ.1) dX6_changes_351 rfl rfl ?_
      refine am_iconst (v := 5) dX6_changes_352 (by decide) ?_
      refine am_iload_n (x := x2) dX6_changes_353 rfl rfl ?_
      refine am_iconst (v := (-1)) dX6_changes_354 (by decide) ?_
      refine mm_callV (Mc := m_X6_refuses) (as := [.int 5, .int x2, .int (-1)]) rfl bm_X6_refuses q2974 q2976 qs144 (Nat.le_of_ble_eq_true rfl) dX6_changes_355 (mt_X6_refuses (mm_k2i h (fun v6 μ5 h => ?_)))
      exact am_zret rfl h.1 dX6_changes_358 ⟨_, _, rfl, rfl, h.2⟩
theorem B_X6_changes_379_f {G : am_G} {ρ : mm_F} {d : Nat} {x2 : Int32} {x5 : Int32} {x6 : Int32} {μ : mm_S} {Q : Int32 → mm_S → Prop} (h : ((x6 = (-1) → Q 1 μ) ∧ (¬ x6 = (-1) → W_X6_edit G ρ d x6 x5 x2 μ (fun v2 μ1 => ((¬ v2 = 0 → W_X6_in G ρ d x6 4 μ1 (fun v4 μ3 => B_X6_changes_379 G ρ (d + 1) x2 x5 v4 μ3 Q)) ∧ (v2 = 0 → Q 0 μ1)))))) : B_X6_changes_379 G ρ (d + 1) x2 x5 x6 μ Q := by
  unfold B_X6_changes_379
  refine am_iload (x := x6) dX6_changes_379 rfl ?_
  refine am_iconst (v := (-1)) dX6_changes_381 (by decide) ?_
  refine am_icmp_eq (tgt := 411) dX6_changes_382 (by decide) (fun c => ?_) (fun c => ?_)
  · have h := h.1 c
    refine am_iconst (v := 1) dX6_changes_411 (by decide) ?_
    exact am_zret rfl rfl dX6_changes_412 ⟨_, _, rfl, rfl, h⟩
  · have h := h.2 c
    refine am_aloadr_n (x := some ρ.1) dX6_changes_385 rfl rfl ?_
    refine am_iload (x := x6) dX6_changes_386 rfl ?_
    refine am_iload (x := x5) dX6_changes_388 rfl ?_
    refine am_iload_n (x := x2) dX6_changes_390 rfl rfl ?_
    refine mm_callV (Mc := m_X6_edit) (as := [.int x6, .int x5, .int x2]) rfl bm_X6_edit q2990 q2992 qs148 (Nat.le_of_ble_eq_true rfl) dX6_changes_391 (mt_X6_edit (mm_k2i h (fun v2 μ1 h => ?_)))
    refine am_if_ne (tgt := 399) dX6_changes_394 (by decide) (fun c => ?_) (fun c => ?_)
    · have h := h.1 c
      refine am_aloadr_n (x := some ρ.1) dX6_changes_399 rfl rfl ?_
      refine am_iload (x := x6) dX6_changes_400 rfl ?_
      refine am_iconst (v := 4) dX6_changes_402 (by decide) ?_
      refine mm_callV (Mc := m_X6_in) (as := [.int x6, .int 4]) rfl bm_X6_in q2899 q2901 qs129 (Nat.le_of_ble_eq_true rfl) dX6_changes_403 (mt_X6_in (mm_k2i h (fun v4 μ3 h => ?_)))
      refine am_istore (L' := [(12, .int v4), (0, va_rf (some ρ.1)), (4, .int x2), (10, .int x5)]) dX6_changes_406 (Nat.le_of_ble_eq_true rfl) rfl ?_
      refine am_goto (tgt := 379) dX6_changes_408 (by decide) ?_
      exact am_lss h rfl
    · have h := h.2 c
      refine am_iconst (v := 0) dX6_changes_397 (by decide) ?_
      exact am_zret rfl rfl dX6_changes_398 ⟨_, _, rfl, rfl, h⟩
theorem W_X6_refuses_f {G : am_G} {ρ : mm_F} {d : Nat} {a1 : Int32} {a2 : Int32} {a3 : Int32} {μ : mm_S} {Q : Int32 → mm_S → Prop} (h : (∀ μ1 : mm_S, μ1 = mm_sI μ 82 a1 → ((∀ μ2 : mm_S, μ2 = mm_sI μ1 83 a2 → ((∀ μ3 : mm_S, μ3 = mm_sI μ2 84 a3 → (Q 0 μ3))))))) : W_X6_refuses G ρ d a1 a2 a3 μ Q := by
  unfold W_X6_refuses
  refine am_aloadr_n (x := some ρ.1) dX6_refuses_0 rfl rfl ?_
  refine am_iload_n (x := a1) dX6_refuses_1 rfl rfl ?_
  refine mm_pI (k := 82) rfl rfl rfl (by decide) q2401 rfl dX6_refuses_2 ?_
  generalize eμ1 : mm_sI μ 82 a1 = μ1
  have h := h μ1 eμ1.symm
  refine am_aloadr_n (x := some ρ.1) dX6_refuses_5 rfl rfl ?_
  refine am_iload_n (x := a2) dX6_refuses_6 rfl rfl ?_
  refine mm_pI (k := 83) rfl rfl rfl (by decide) q2402 rfl dX6_refuses_7 ?_
  generalize eμ2 : mm_sI μ1 83 a2 = μ2
  have h := h μ2 eμ2.symm
  refine am_aloadr_n (x := some ρ.1) dX6_refuses_10 rfl rfl ?_
  refine am_iload_n (x := a3) dX6_refuses_11 rfl rfl ?_
  refine mm_pI (k := 84) rfl rfl rfl (by decide) q2403 rfl dX6_refuses_12 ?_
  generalize eμ3 : mm_sI μ2 84 a3 = μ3
  have h := h μ3 eμ3.symm
  refine am_iconst (v := 0) dX6_refuses_15 (by decide) ?_
  exact am_zret rfl rfl dX6_refuses_16 ⟨_, _, rfl, rfl, h⟩
theorem W_X6_comes_f {G : am_G} {ρ : mm_F} {d : Nat} {a1 : Int32} {a2 : Int32} {a3 : Int32} {μ : mm_S} {Q : Int32 → mm_S → Prop} (h : W_X6_of G ρ d a1 0 μ (fun v2 μ1 => W_X6_of G ρ d a1 1 μ1 (fun v4 μ3 => ((¬ v2 = 32 → W_X6_hasOwn G ρ d 1 a2 v4 μ3 (fun v6 μ5 => ((v6 = 0 → ((¬ v2 = 31 → W_X6_get G ρ d 1 a2 5 μ5 (fun v8 μ7 => ((¬ v8 = 8 → B_X6_comes_135 G ρ (d + 1) a1 a2 v2 v4 μ7 Q) ∧ (v8 = 8 → W_X6_refuses G ρ d 7 a3 (-1) μ7 (fun v10 μ9 => (narrow .boolean (.int v10) = .int v10 ∧ Q v10 μ9)))))) ∧ (v2 = 31 → W_X6_get G ρ d 1 a2 30 μ5 (fun v12 μ11 => ((¬ v12 = 4 → B_X6_comes_135 G ρ (d + 1) a1 a2 v2 v4 μ11 Q) ∧ (v12 = 4 → W_X6_refuses G ρ d 7 a3 (-1) μ11 (fun v14 μ13 => (narrow .boolean (.int v14) = .int v14 ∧ Q v14 μ13)))))))) ∧ (¬ v6 = 0 → W_X6_refuses G ρ d 3 a3 (-1) μ5 (fun v16 μ15 => (narrow .boolean (.int v16) = .int v16 ∧ Q v16 μ15)))))) ∧ (v2 = 32 → W_X6_actOf G ρ d 1 a2 v4 μ3 (fun v18 μ17 => ((¬ v18 = (-1) → B_X6_comes_57 G ρ (d + 1) a1 a2 v4 μ17 Q) ∧ (v18 = (-1) → W_X6_get G ρ d 1 a2 39 μ17 (fun v20 μ19 => ((¬ v20 = 8 → B_X6_comes_57 G ρ (d + 1) a1 a2 v4 μ19 Q) ∧ (v20 = 8 → W_X6_refuses G ρ d 7 a3 (-1) μ19 (fun v22 μ21 => (narrow .boolean (.int v22) = .int v22 ∧ Q v22 μ21))))))))))))) : W_X6_comes G ρ (d + 1) a1 a2 a3 μ Q := by
  unfold W_X6_comes
  refine am_aloadr_n (x := some ρ.1) dX6_comes_0 rfl rfl ?_
  refine am_iload_n (x := a1) dX6_comes_1 rfl rfl ?_
  refine am_iconst (v := 0) dX6_comes_2 (by decide) ?_
  refine mm_callV (Mc := m_X6_of) (as := [.int a1, .int 0]) rfl bm_X6_of q2895 q2897 qs128 (Nat.le_of_ble_eq_true rfl) dX6_comes_3 (mt_X6_of (mm_k2i h (fun v2 μ1 h => ?_)))
  refine am_istore (L' := [(8, .int v2), (0, va_rf (some ρ.1)), (2, .int a1), (4, .int a2), (6, .int a3)]) dX6_comes_6 (Nat.le_of_ble_eq_true rfl) rfl ?_
  refine am_aloadr_n (x := some ρ.1) dX6_comes_8 rfl rfl ?_
  refine am_iload_n (x := a1) dX6_comes_9 rfl rfl ?_
  refine am_iconst (v := 1) dX6_comes_10 (by decide) ?_
  refine mm_callV (Mc := m_X6_of) (as := [.int a1, .int 1]) rfl bm_X6_of q2895 q2897 qs128 (Nat.le_of_ble_eq_true rfl) dX6_comes_11 (mt_X6_of (mm_k2i h (fun v4 μ3 h => ?_)))
  refine am_istore (L' := [(10, .int v4), (8, .int v2), (0, va_rf (some ρ.1)), (2, .int a1), (4, .int a2), (6, .int a3)]) dX6_comes_14 (Nat.le_of_ble_eq_true rfl) rfl ?_
  refine am_iload (x := v2) dX6_comes_16 rfl ?_
  refine am_bipush (v := 32) dX6_comes_18 (by decide) ?_
  refine am_icmp_ne (tgt := 73) dX6_comes_20 (by decide) (fun c => ?_) (fun c => ?_)
  · have h := h.1 c
    refine am_aloadr_n (x := some ρ.1) dX6_comes_73 rfl rfl ?_
    refine am_iconst (v := 1) dX6_comes_74 (by decide) ?_
    refine am_iload_n (x := a2) dX6_comes_75 rfl rfl ?_
    refine am_iload (x := v4) dX6_comes_76 rfl ?_
    refine mm_callV (Mc := m_X6_hasOwn) (as := [.int 1, .int a2, .int v4]) rfl bm_X6_hasOwn q2694 q2696 qs95 (Nat.le_of_ble_eq_true rfl) dX6_comes_78 (mt_X6_hasOwn (mm_k2i h (fun v6 μ5 h => ?_)))
    refine am_if_eq (tgt := 92) dX6_comes_81 (by decide) (fun c => ?_) (fun c => ?_)
    · have h := h.1 c
      refine am_iload (x := v2) dX6_comes_92 rfl ?_
      refine am_bipush (v := 31) dX6_comes_94 (by decide) ?_
      refine am_icmp_ne (tgt := 114) dX6_comes_96 (by decide) (fun c => ?_) (fun c => ?_)
      · have h := h.1 c
        refine am_aloadr_n (x := some ρ.1) dX6_comes_114 rfl rfl ?_
        refine am_iconst (v := 1) dX6_comes_115 (by decide) ?_
        refine am_iload_n (x := a2) dX6_comes_116 rfl rfl ?_
        refine am_iconst (v := 5) dX6_comes_117 (by decide) ?_
        refine mm_callV (Mc := m_X6_get) (as := [.int 1, .int a2, .int 5]) rfl bm_X6_get q2666 q2668 qs88 (Nat.le_of_ble_eq_true rfl) dX6_comes_118 (mt_X6_get (mm_k2i h (fun v8 μ7 h => ?_)))
        refine am_bipush (v := 8) dX6_comes_121 (by decide) ?_
        refine am_icmp_ne (tgt := 135) dX6_comes_123 (by decide) (fun c => ?_) (fun c => ?_)
        · have h := h.1 c
          exact am_lss h rfl
        · have h := h.2 c
          refine am_aloadr_n (x := some ρ.1) dX6_comes_126 rfl rfl ?_
          refine am_bipush (v := 7) dX6_comes_127 (by decide) ?_
          refine am_iload_n (x := a3) dX6_comes_129 rfl rfl ?_
          refine am_iconst (v := (-1)) dX6_comes_130 (by decide) ?_
          refine mm_callV (Mc := m_X6_refuses) (as := [.int 7, .int a3, .int (-1)]) rfl bm_X6_refuses q2974 q2976 qs144 (Nat.le_of_ble_eq_true rfl) dX6_comes_131 (mt_X6_refuses (mm_k2i h (fun v10 μ9 h => ?_)))
          exact am_zret rfl h.1 dX6_comes_134 ⟨_, _, rfl, rfl, h.2⟩
      · have h := h.2 c
        refine am_aloadr_n (x := some ρ.1) dX6_comes_99 rfl rfl ?_
        refine am_iconst (v := 1) dX6_comes_100 (by decide) ?_
        refine am_iload_n (x := a2) dX6_comes_101 rfl rfl ?_
        refine am_bipush (v := 30) dX6_comes_102 (by decide) ?_
        refine mm_callV (Mc := m_X6_get) (as := [.int 1, .int a2, .int 30]) rfl bm_X6_get q2666 q2668 qs88 (Nat.le_of_ble_eq_true rfl) dX6_comes_104 (mt_X6_get (mm_k2i h (fun v12 μ11 h => ?_)))
        refine am_iconst (v := 4) dX6_comes_107 (by decide) ?_
        refine am_icmp_ne (tgt := 135) dX6_comes_108 (by decide) (fun c => ?_) (fun c => ?_)
        · have h := h.1 c
          exact am_lss h rfl
        · have h := h.2 c
          refine am_goto (tgt := 126) dX6_comes_111 (by decide) ?_
          refine am_aloadr_n (x := some ρ.1) dX6_comes_126 rfl rfl ?_
          refine am_bipush (v := 7) dX6_comes_127 (by decide) ?_
          refine am_iload_n (x := a3) dX6_comes_129 rfl rfl ?_
          refine am_iconst (v := (-1)) dX6_comes_130 (by decide) ?_
          refine mm_callV (Mc := m_X6_refuses) (as := [.int 7, .int a3, .int (-1)]) rfl bm_X6_refuses q2974 q2976 qs144 (Nat.le_of_ble_eq_true rfl) dX6_comes_131 (mt_X6_refuses (mm_k2i h (fun v14 μ13 h => ?_)))
          exact am_zret rfl h.1 dX6_comes_134 ⟨_, _, rfl, rfl, h.2⟩
    · have h := h.2 c
      refine am_aloadr_n (x := some ρ.1) dX6_comes_84 rfl rfl ?_
      refine am_iconst (v := 3) dX6_comes_85 (by decide) ?_
      refine am_iload_n (x := a3) dX6_comes_86 rfl rfl ?_
      refine am_iconst (v := (-1)) dX6_comes_87 (by decide) ?_
      refine mm_callV (Mc := m_X6_refuses) (as := [.int 3, .int a3, .int (-1)]) rfl bm_X6_refuses q2974 q2976 qs144 (Nat.le_of_ble_eq_true rfl) dX6_comes_88 (mt_X6_refuses (mm_k2i h (fun v16 μ15 h => ?_)))
      exact am_zret rfl h.1 dX6_comes_91 ⟨_, _, rfl, rfl, h.2⟩
  · have h := h.2 c
    refine am_aloadr_n (x := some ρ.1) dX6_comes_23 rfl rfl ?_
    refine am_iconst (v := 1) dX6_comes_24 (by decide) ?_
    refine am_iload_n (x := a2) dX6_comes_25 rfl rfl ?_
    refine am_iload (x := v4) dX6_comes_26 rfl ?_
    refine mm_callV (Mc := m_X6_actOf) (as := [.int 1, .int a2, .int v4]) rfl bm_X6_actOf q2690 q2692 qs94 (Nat.le_of_ble_eq_true rfl) dX6_comes_28 (mt_X6_actOf (mm_k2i h (fun v18 μ17 h => ?_)))
    refine am_iconst (v := (-1)) dX6_comes_31 (by decide) ?_
    refine am_icmp_ne (tgt := 57) dX6_comes_32 (by decide) (fun c => ?_) (fun c => ?_)
    · have h := h.1 c
      exact am_lss h rfl
    · have h := h.2 c
      refine am_aloadr_n (x := some ρ.1) dX6_comes_35 rfl rfl ?_
      refine am_iconst (v := 1) dX6_comes_36 (by decide) ?_
      refine am_iload_n (x := a2) dX6_comes_37 rfl rfl ?_
      refine am_bipush (v := 39) dX6_comes_38 (by decide) ?_
      refine mm_callV (Mc := m_X6_get) (as := [.int 1, .int a2, .int 39]) rfl bm_X6_get q2666 q2668 qs88 (Nat.le_of_ble_eq_true rfl) dX6_comes_40 (mt_X6_get (mm_k2i h (fun v20 μ19 h => ?_)))
      refine am_bipush (v := 8) dX6_comes_43 (by decide) ?_
      refine am_icmp_ne (tgt := 57) dX6_comes_45 (by decide) (fun c => ?_) (fun c => ?_)
      · have h := h.1 c
        exact am_lss h rfl
      · have h := h.2 c
        refine am_aloadr_n (x := some ρ.1) dX6_comes_48 rfl rfl ?_
        refine am_bipush (v := 7) dX6_comes_49 (by decide) ?_
        refine am_iload_n (x := a3) dX6_comes_51 rfl rfl ?_
        refine am_iconst (v := (-1)) dX6_comes_52 (by decide) ?_
        refine mm_callV (Mc := m_X6_refuses) (as := [.int 7, .int a3, .int (-1)]) rfl bm_X6_refuses q2974 q2976 qs144 (Nat.le_of_ble_eq_true rfl) dX6_comes_53 (mt_X6_refuses (mm_k2i h (fun v22 μ21 h => ?_)))
        exact am_zret rfl h.1 dX6_comes_56 ⟨_, _, rfl, rfl, h.2⟩
theorem B_X6_comes_57_f {G : am_G} {ρ : mm_F} {d : Nat} {x1 : Int32} {x2 : Int32} {x5 : Int32} {μ : mm_S} {Q : Int32 → mm_S → Prop} (h : W_X6_in G ρ d x1 2 μ (fun v2 μ1 => W_X6_addAct G ρ d 1 x2 x5 v2 μ1 (fun μ3 => Q 1 μ3))) : B_X6_comes_57 G ρ (d + 1) x1 x2 x5 μ Q := by
  unfold B_X6_comes_57
  refine am_aloadr_n (x := some ρ.1) dX6_comes_57 rfl rfl ?_
  refine am_iconst (v := 1) dX6_comes_58 (by decide) ?_
  refine am_iload_n (x := x2) dX6_comes_59 rfl rfl ?_
  refine am_iload (x := x5) dX6_comes_60 rfl ?_
  refine am_aloadr_n (x := some ρ.1) dX6_comes_62 rfl rfl ?_
  refine am_iload_n (x := x1) dX6_comes_63 rfl rfl ?_
  refine am_iconst (v := 2) dX6_comes_64 (by decide) ?_
  refine mm_callV (Mc := m_X6_in) (as := [.int x1, .int 2]) rfl bm_X6_in q2899 q2901 qs129 (Nat.le_of_ble_eq_true rfl) dX6_comes_65 (mt_X6_in (mm_k2i h (fun v2 μ1 h => ?_)))
  refine mm_callV (Mc := m_X6_addAct) (as := [.int 1, .int x2, .int x5, .int v2]) rfl bm_X6_addAct q2750 q2752 qs109 (Nat.le_of_ble_eq_true rfl) dX6_comes_68 (mt_X6_addAct (mm_k2v h (fun μ3 h => ?_)))
  refine am_iconst (v := 1) dX6_comes_71 (by decide) ?_
  exact am_zret rfl rfl dX6_comes_72 ⟨_, _, rfl, rfl, h⟩
theorem B_X6_comes_135_f {G : am_G} {ρ : mm_F} {d : Nat} {x1 : Int32} {x2 : Int32} {x4 : Int32} {x5 : Int32} {μ : mm_S} {Q : Int32 → mm_S → Prop} (h : ((¬ x4 = 31 → W_X6_of G ρ d x1 2 μ (fun v2 μ1 => W_X6_addField G ρ d 1 x2 x5 v2 μ1 (fun μ3 => Q 1 μ3))) ∧ (x4 = 31 → W_X6_of G ρ d x1 2 μ (fun v5 μ4 => W_X6_addFixed G ρ d 1 x2 x5 v5 μ4 (fun μ6 => Q 1 μ6))))) : B_X6_comes_135 G ρ (d + 1) x1 x2 x4 x5 μ Q := by
  unfold B_X6_comes_135
  refine am_iload (x := x4) dX6_comes_135 rfl ?_
  refine am_bipush (v := 31) dX6_comes_137 (by decide) ?_
  refine am_icmp_ne (tgt := 159) dX6_comes_139 (by decide) (fun c => ?_) (fun c => ?_)
  · have h := h.1 c
    refine am_aloadr_n (x := some ρ.1) dX6_comes_159 rfl rfl ?_
    refine am_iconst (v := 1) dX6_comes_160 (by decide) ?_
    refine am_iload_n (x := x2) dX6_comes_161 rfl rfl ?_
    refine am_iload (x := x5) dX6_comes_162 rfl ?_
    refine am_aloadr_n (x := some ρ.1) dX6_comes_164 rfl rfl ?_
    refine am_iload_n (x := x1) dX6_comes_165 rfl rfl ?_
    refine am_iconst (v := 2) dX6_comes_166 (by decide) ?_
    refine mm_callV (Mc := m_X6_of) (as := [.int x1, .int 2]) rfl bm_X6_of q2895 q2897 qs128 (Nat.le_of_ble_eq_true rfl) dX6_comes_167 (mt_X6_of (mm_k2i h (fun v2 μ1 h => ?_)))
    refine mm_callV (Mc := m_X6_addField) (as := [.int 1, .int x2, .int x5, .int v2]) rfl bm_X6_addField q2762 q2764 qs112 (Nat.le_of_ble_eq_true rfl) dX6_comes_170 (mt_X6_addField (mm_k2v h (fun μ3 h => ?_)))
    refine am_iconst (v := 1) dX6_comes_173 (by decide) ?_
    exact am_zret rfl rfl dX6_comes_174 ⟨_, _, rfl, rfl, h⟩
  · have h := h.2 c
    refine am_aloadr_n (x := some ρ.1) dX6_comes_142 rfl rfl ?_
    refine am_iconst (v := 1) dX6_comes_143 (by decide) ?_
    refine am_iload_n (x := x2) dX6_comes_144 rfl rfl ?_
    refine am_iload (x := x5) dX6_comes_145 rfl ?_
    refine am_aloadr_n (x := some ρ.1) dX6_comes_147 rfl rfl ?_
    refine am_iload_n (x := x1) dX6_comes_148 rfl rfl ?_
    refine am_iconst (v := 2) dX6_comes_149 (by decide) ?_
    refine mm_callV (Mc := m_X6_of) (as := [.int x1, .int 2]) rfl bm_X6_of q2895 q2897 qs128 (Nat.le_of_ble_eq_true rfl) dX6_comes_150 (mt_X6_of (mm_k2i h (fun v5 μ4 h => ?_)))
    refine mm_callV (Mc := m_X6_addFixed) (as := [.int 1, .int x2, .int x5, .int v5]) rfl bm_X6_addFixed q2758 q2760 qs111 (Nat.le_of_ble_eq_true rfl) dX6_comes_153 (mt_X6_addFixed (mm_k2v h (fun μ6 h => ?_)))
    refine am_goto (tgt := 173) dX6_comes_156 (by decide) ?_
    refine am_iconst (v := 1) dX6_comes_173 (by decide) ?_
    exact am_zret rfl rfl dX6_comes_174 ⟨_, _, rfl, rfl, h⟩
theorem W_X6_drops_f {G : am_G} {ρ : mm_F} {d : Nat} {a1 : Int32} {μ : mm_S} {Q : mm_S → Prop} (h : W_X6_many G ρ d 1 μ (fun v2 μ1 => B_X6_drops_8 G ρ (d + 1) a1 v2 a1 μ1 Q)) : W_X6_drops G ρ (d + 1) a1 μ Q := by
  unfold W_X6_drops
  refine am_aloadr_n (x := some ρ.1) dX6_drops_0 rfl rfl ?_
  refine am_iconst (v := 1) dX6_drops_1 (by decide) ?_
  refine mm_callV (Mc := m_X6_many) (as := [.int 1]) rfl bm_X6_many q2662 q2664 qs87 (Nat.le_of_ble_eq_true rfl) dX6_drops_2 (mt_X6_many (mm_k2i h (fun v2 μ1 h => ?_)))
  refine am_istore_n (L' := [(4, .int v2), (0, va_rf (some ρ.1)), (2, .int a1)]) dX6_drops_5 rfl (Nat.le_of_ble_eq_true rfl) rfl ?_
  refine am_iload_n (x := a1) dX6_drops_6 rfl rfl ?_
  refine am_istore_n (L' := [(6, .int a1), (4, .int v2), (0, va_rf (some ρ.1)), (2, .int a1)]) dX6_drops_7 rfl (Nat.le_of_ble_eq_true rfl) rfl ?_
  exact am_lss h rfl
theorem B_X6_drops_8_f {G : am_G} {ρ : mm_F} {d : Nat} {x1 : Int32} {x2 : Int32} {x3 : Int32} {μ : mm_S} {Q : mm_S → Prop} (h : ((x2 ≤ (x3 + 1) → (vp_in 769 2307 ∧ ∀ μ1 : mm_S, μ1 = mm_sA μ 23 (Int32.toNatClampNeg 769) (x2 - 1) → (B_X6_drops_68 G ρ (d + 1) x1 x2 0 μ1 Q))) ∧ (¬ x2 ≤ (x3 + 1) → B_X6_drops_18 G ρ (d + 1) x1 x2 x3 0 μ Q))) : B_X6_drops_8 G ρ (d + 1) x1 x2 x3 μ Q := by
  unfold B_X6_drops_8
  refine am_iload_n (x := x3) dX6_drops_8 rfl rfl ?_
  refine am_iconst (v := 1) dX6_drops_9 (by decide) ?_
  refine am_iadd dX6_drops_10 ?_
  refine am_iload_n (x := x2) dX6_drops_11 rfl rfl ?_
  refine am_icmp_ge (tgt := 55) dX6_drops_12 (by decide) (fun c => ?_) (fun c => ?_)
  · have h := h.1 c
    refine am_aloadr_n (x := some ρ.1) dX6_drops_55 rfl rfl ?_
    refine mm_gA (k := 23) rfl isA_23 q2342 dX6_drops_56 ?_
    refine am_sipush (v := 769) dX6_drops_59 (by decide) ?_
    refine am_iload_n (x := x2) dX6_drops_62 rfl rfl ?_
    refine am_iconst (v := 1) dX6_drops_63 (by decide) ?_
    refine am_isub dX6_drops_64 ?_
    refine mm_stA (k := 23) isA_23 rfl rfl dX6_drops_65 h.1 ?_
    have h := h.2
    generalize eμ1 : mm_sA μ 23 (Int32.toNatClampNeg 769) (x2 - 1) = μ1
    have h := h μ1 eμ1.symm
    refine am_iconst (v := 0) dX6_drops_66 (by decide) ?_
    refine am_istore_n (L' := [(6, .int 0), (0, va_rf (some ρ.1)), (2, .int x1), (4, .int x2)]) dX6_drops_67 rfl (Nat.le_of_ble_eq_true rfl) rfl ?_
    exact am_lss h rfl
  · have h := h.2 c
    refine am_iconst (v := 0) dX6_drops_15 (by decide) ?_
    refine am_istore (L' := [(8, .int 0), (0, va_rf (some ρ.1)), (2, .int x1), (4, .int x2), (6, .int x3)]) dX6_drops_16 (Nat.le_of_ble_eq_true rfl) rfl ?_
    exact am_lss h rfl
theorem B_X6_drops_18_f {G : am_G} {ρ : mm_F} {d : Nat} {x1 : Int32} {x2 : Int32} {x3 : Int32} {x4 : Int32} {μ : mm_S} {Q : mm_S → Prop} (h : ((64 ≤ x4 → B_X6_drops_8 G ρ (d + 1) x1 x2 (x3 + 1) μ Q) ∧ (¬ 64 ≤ x4 → W_X6_get G ρ d 1 (x3 + 1) x4 μ (fun v2 μ1 => W_X6_set G ρ d 1 x3 x4 v2 μ1 (fun μ3 => B_X6_drops_18 G ρ (d + 1) x1 x2 x3 (x4 + 1) μ3 Q))))) : B_X6_drops_18 G ρ (d + 1) x1 x2 x3 x4 μ Q := by
  unfold B_X6_drops_18
  refine am_iload (x := x4) dX6_drops_18 rfl ?_
  refine am_bipush (v := 64) dX6_drops_20 (by decide) ?_
  refine am_icmp_ge (tgt := 49) dX6_drops_22 (by decide) (fun c => ?_) (fun c => ?_)
  · have h := h.1 c
    refine am_iinc (x := x3) (v := (x3 + 1)) (L' := [(6, .int (x3 + 1)), (0, va_rf (some ρ.1)), (2, .int x1), (4, .int x2), (8, .int x4)]) dX6_drops_49 rfl rfl (Nat.le_of_ble_eq_true rfl) rfl ?_
    refine am_goto (tgt := 8) dX6_drops_52 (by decide) ?_
    exact am_lss h rfl
  · have h := h.2 c
    refine am_aloadr_n (x := some ρ.1) dX6_drops_25 rfl rfl ?_
    refine am_iconst (v := 1) dX6_drops_26 (by decide) ?_
    refine am_iload_n (x := x3) dX6_drops_27 rfl rfl ?_
    refine am_iload (x := x4) dX6_drops_28 rfl ?_
    refine am_aloadr_n (x := some ρ.1) dX6_drops_30 rfl rfl ?_
    refine am_iconst (v := 1) dX6_drops_31 (by decide) ?_
    refine am_iload_n (x := x3) dX6_drops_32 rfl rfl ?_
    refine am_iconst (v := 1) dX6_drops_33 (by decide) ?_
    refine am_iadd dX6_drops_34 ?_
    refine am_iload (x := x4) dX6_drops_35 rfl ?_
    refine mm_callV (Mc := m_X6_get) (as := [.int 1, .int (x3 + 1), .int x4]) rfl bm_X6_get q2666 q2668 qs88 (Nat.le_of_ble_eq_true rfl) dX6_drops_37 (mt_X6_get (mm_k2i h (fun v2 μ1 h => ?_)))
    refine mm_callV (Mc := m_X6_set) (as := [.int 1, .int x3, .int x4, .int v2]) rfl bm_X6_set q2674 q2676 qs90 (Nat.le_of_ble_eq_true rfl) dX6_drops_40 (mt_X6_set (mm_k2v h (fun μ3 h => ?_)))
    refine am_iinc (x := x4) (v := (x4 + 1)) (L' := [(8, .int (x4 + 1)), (0, va_rf (some ρ.1)), (2, .int x1), (4, .int x2), (6, .int x3)]) dX6_drops_43 rfl rfl (Nat.le_of_ble_eq_true rfl) rfl ?_
    refine am_goto (tgt := 18) dX6_drops_46 (by decide) ?_
    exact am_lss h rfl
theorem B_X6_drops_68_f {G : am_G} {ρ : mm_F} {d : Nat} {x1 : Int32} {x2 : Int32} {x3 : Int32} {μ : mm_S} {Q : mm_S → Prop} (h : (((x2 - 1) ≤ x3 → Q μ) ∧ (¬ (x2 - 1) ≤ x3 → W_X6_get G ρ d 1 x3 1 μ (fun v2 μ1 => ((v2 ≤ x1 → B_X6_drops_68 G ρ (d + 1) x1 x2 (x3 + 1) μ1 Q) ∧ (¬ v2 ≤ x1 → W_X6_get G ρ d 1 x3 1 μ1 (fun v4 μ3 => W_X6_set G ρ d 1 x3 1 (v4 - 1) μ3 (fun μ5 => B_X6_drops_68 G ρ (d + 1) x1 x2 (x3 + 1) μ5 Q)))))))) : B_X6_drops_68 G ρ (d + 1) x1 x2 x3 μ Q := by
  unfold B_X6_drops_68
  refine am_iload_n (x := x3) dX6_drops_68 rfl rfl ?_
  refine am_iload_n (x := x2) dX6_drops_69 rfl rfl ?_
  refine am_iconst (v := 1) dX6_drops_70 (by decide) ?_
  refine am_isub dX6_drops_71 ?_
  refine am_icmp_ge (tgt := 108) dX6_drops_72 (by decide) (fun c => ?_) (fun c => ?_)
  · have h := h.1 c
    exact am_vret rfl dX6_drops_108 ⟨_, rfl, rfl, h⟩
  · have h := h.2 c
    refine am_aloadr_n (x := some ρ.1) dX6_drops_75 rfl rfl ?_
    refine am_iconst (v := 1) dX6_drops_76 (by decide) ?_
    refine am_iload_n (x := x3) dX6_drops_77 rfl rfl ?_
    refine am_iconst (v := 1) dX6_drops_78 (by decide) ?_
    refine mm_callV (Mc := m_X6_get) (as := [.int 1, .int x3, .int 1]) rfl bm_X6_get q2666 q2668 qs88 (Nat.le_of_ble_eq_true rfl) dX6_drops_79 (mt_X6_get (mm_k2i h (fun v2 μ1 h => ?_)))
    refine am_iload_n (x := x1) dX6_drops_82 rfl rfl ?_
    refine am_icmp_le (tgt := 102) dX6_drops_83 (by decide) (fun c => ?_) (fun c => ?_)
    · have h := h.1 c
      refine am_iinc (x := x3) (v := (x3 + 1)) (L' := [(6, .int (x3 + 1)), (0, va_rf (some ρ.1)), (2, .int x1), (4, .int x2)]) dX6_drops_102 rfl rfl (Nat.le_of_ble_eq_true rfl) rfl ?_
      refine am_goto (tgt := 68) dX6_drops_105 (by decide) ?_
      exact am_lss h rfl
    · have h := h.2 c
      refine am_aloadr_n (x := some ρ.1) dX6_drops_86 rfl rfl ?_
      refine am_iconst (v := 1) dX6_drops_87 (by decide) ?_
      refine am_iload_n (x := x3) dX6_drops_88 rfl rfl ?_
      refine am_iconst (v := 1) dX6_drops_89 (by decide) ?_
      refine am_aloadr_n (x := some ρ.1) dX6_drops_90 rfl rfl ?_
      refine am_iconst (v := 1) dX6_drops_91 (by decide) ?_
      refine am_iload_n (x := x3) dX6_drops_92 rfl rfl ?_
      refine am_iconst (v := 1) dX6_drops_93 (by decide) ?_
      refine mm_callV (Mc := m_X6_get) (as := [.int 1, .int x3, .int 1]) rfl bm_X6_get q2666 q2668 qs88 (Nat.le_of_ble_eq_true rfl) dX6_drops_94 (mt_X6_get (mm_k2i h (fun v4 μ3 h => ?_)))
      refine am_iconst (v := 1) dX6_drops_97 (by decide) ?_
      refine am_isub dX6_drops_98 ?_
      refine mm_callV (Mc := m_X6_set) (as := [.int 1, .int x3, .int 1, .int (v4 - 1)]) rfl bm_X6_set q2674 q2676 qs90 (Nat.le_of_ble_eq_true rfl) dX6_drops_99 (mt_X6_set (mm_k2v h (fun μ5 h => ?_)))
      refine am_iinc (x := x3) (v := (x3 + 1)) (L' := [(6, .int (x3 + 1)), (0, va_rf (some ρ.1)), (2, .int x1), (4, .int x2)]) dX6_drops_102 rfl rfl (Nat.le_of_ble_eq_true rfl) rfl ?_
      refine am_goto (tgt := 68) dX6_drops_105 (by decide) ?_
      exact am_lss h rfl
theorem W_X6_isUnder_f {G : am_G} {ρ : mm_F} {d : Nat} {a1 : Int32} {a2 : Int32} {a3 : Int32} {μ : mm_S} {Q : Int32 → mm_S → Prop} (h : B_X6_isUnder_3 G ρ (d + 1) a1 a3 a2 μ Q) : W_X6_isUnder G ρ (d + 1) a1 a2 a3 μ Q := by
  unfold W_X6_isUnder
  refine am_iload_n (x := a2) dX6_isUnder_0 rfl rfl ?_
  refine am_istore (L' := [(8, .int a2), (0, va_rf (some ρ.1)), (2, .int a1), (4, .int a2), (6, .int a3)]) dX6_isUnder_1 (Nat.le_of_ble_eq_true rfl) rfl ?_
  exact am_lss h rfl
theorem B_X6_isUnder_3_f {G : am_G} {ρ : mm_F} {d : Nat} {x1 : Int32} {x3 : Int32} {x4 : Int32} {μ : mm_S} {Q : Int32 → mm_S → Prop} (h : ((x4 = (-1) → ((¬ x4 = x3 → Q 0 μ) ∧ (x4 = x3 → Q 1 μ))) ∧ (¬ x4 = (-1) → ((x4 = x3 → ((¬ x4 = x3 → Q 0 μ) ∧ (x4 = x3 → Q 1 μ))) ∧ (¬ x4 = x3 → W_X6_get G ρ d x1 x4 1 μ (fun v2 μ1 => B_X6_isUnder_3 G ρ (d + 1) x1 x3 v2 μ1 Q)))))) : B_X6_isUnder_3 G ρ (d + 1) x1 x3 x4 μ Q := by
  unfold B_X6_isUnder_3
  refine am_iload (x := x4) dX6_isUnder_3 rfl ?_
  refine am_iconst (v := (-1)) dX6_isUnder_5 (by decide) ?_
  refine am_icmp_eq (tgt := 28) dX6_isUnder_6 (by decide) (fun c => ?_) (fun c => ?_)
  · have h := h.1 c
    refine am_iload (x := x4) dX6_isUnder_28 rfl ?_
    refine am_iload_n (x := x3) dX6_isUnder_30 rfl rfl ?_
    refine am_icmp_ne (tgt := 38) dX6_isUnder_31 (by decide) (fun c => ?_) (fun c => ?_)
    · have h := h.1 c
      refine am_iconst (v := 0) dX6_isUnder_38 (by decide) ?_
      exact am_zret rfl rfl dX6_isUnder_39 ⟨_, _, rfl, rfl, h⟩
    · have h := h.2 c
      refine am_iconst (v := 1) dX6_isUnder_34 (by decide) ?_
      refine am_goto (tgt := 39) dX6_isUnder_35 (by decide) ?_
      exact am_zret rfl rfl dX6_isUnder_39 ⟨_, _, rfl, rfl, h⟩
  · have h := h.2 c
    refine am_iload (x := x4) dX6_isUnder_9 rfl ?_
    refine am_iload_n (x := x3) dX6_isUnder_11 rfl rfl ?_
    refine am_icmp_eq (tgt := 28) dX6_isUnder_12 (by decide) (fun c => ?_) (fun c => ?_)
    · have h := h.1 c
      refine am_iload (x := x4) dX6_isUnder_28 rfl ?_
      refine am_iload_n (x := x3) dX6_isUnder_30 rfl rfl ?_
      refine am_icmp_ne (tgt := 38) dX6_isUnder_31 (by decide) (fun c => ?_) (fun c => ?_)
      · have h := h.1 c
        refine am_iconst (v := 0) dX6_isUnder_38 (by decide) ?_
        exact am_zret rfl rfl dX6_isUnder_39 ⟨_, _, rfl, rfl, h⟩
      · have h := h.2 c
        refine am_iconst (v := 1) dX6_isUnder_34 (by decide) ?_
        refine am_goto (tgt := 39) dX6_isUnder_35 (by decide) ?_
        exact am_zret rfl rfl dX6_isUnder_39 ⟨_, _, rfl, rfl, h⟩
    · have h := h.2 c
      refine am_aloadr_n (x := some ρ.1) dX6_isUnder_15 rfl rfl ?_
      refine am_iload_n (x := x1) dX6_isUnder_16 rfl rfl ?_
      refine am_iload (x := x4) dX6_isUnder_17 rfl ?_
      refine am_iconst (v := 1) dX6_isUnder_19 (by decide) ?_
      refine mm_callV (Mc := m_X6_get) (as := [.int x1, .int x4, .int 1]) rfl bm_X6_get q2666 q2668 qs88 (Nat.le_of_ble_eq_true rfl) dX6_isUnder_20 (mt_X6_get (mm_k2i h (fun v2 μ1 h => ?_)))
      refine am_istore (L' := [(8, .int v2), (0, va_rf (some ρ.1)), (2, .int x1), (6, .int x3)]) dX6_isUnder_23 (Nat.le_of_ble_eq_true rfl) rfl ?_
      refine am_goto (tgt := 3) dX6_isUnder_25 (by decide) ?_
      exact am_lss h rfl
theorem W_X6_edit_f {G : am_G} {ρ : mm_F} {d : Nat} {a1 : Int32} {a2 : Int32} {a3 : Int32} {μ : mm_S} {Q : Int32 → mm_S → Prop} (h : W_X6_of G ρ d a1 0 μ (fun v2 μ1 => W_X6_of G ρ d a1 1 μ1 (fun v4 μ3 => ((¬ v2 = 35 → ((¬ v2 = 34 → ((v2 = 33 → W_X6_field G ρ d 1 a2 v4 μ3 (fun v6 μ5 => ((v6 = (-1) → W_X6_fixedOf G ρ d 1 a2 v4 μ5 (fun v8 μ7 => ((v8 = (-1) → W_X6_actOf G ρ d 1 a2 v4 μ7 (fun v10 μ9 => ((v10 = (-1) → W_X6_refuses G ρ d 4 a3 (-1) μ9 (fun v12 μ11 => (narrow .boolean (.int v12) = .int v12 ∧ Q v12 μ11))) ∧ (¬ v10 = (-1) → W_X6_actOf G ρ d 1 a2 v4 μ9 (fun v14 μ13 => W_X6_close G ρ d a2 40 v14 39 2 μ13 (fun μ15 => Q 1 μ15)))))) ∧ (¬ v8 = (-1) → W_X6_fixedOf G ρ d 1 a2 v4 μ7 (fun v17 μ16 => W_X6_close G ρ d a2 31 v17 30 2 μ16 (fun μ18 => Q 1 μ18)))))) ∧ (¬ v6 = (-1) → W_X6_field G ρ d 1 a2 v4 μ5 (fun v20 μ19 => W_X6_close G ρ d a2 6 v20 5 3 μ19 (fun μ21 => Q 1 μ21)))))) ∧ (¬ v2 = 33 → W_X6_comes G ρ d a1 a2 a3 μ3 (fun v23 μ22 => (narrow .boolean (.int v23) = .int v23 ∧ Q v23 μ22))))) ∧ (v2 = 34 → W_X6_field G ρ d 1 a2 v4 μ3 (fun v25 μ24 => ((¬ v25 = (-1) → W_X6_of G ρ d a1 2 μ24 (fun v27 μ26 => W_X6_hasOwn G ρ d 1 a2 v27 μ26 (fun v29 μ28 => ((v29 = 0 → W_X6_of G ρ d a1 2 μ28 (fun v31 μ30 => W_X6_set G ρ d 1 a2 (6 + v25) v31 μ30 (fun μ32 => Q 1 μ32))) ∧ (¬ v29 = 0 → W_X6_refuses G ρ d 3 a3 (-1) μ28 (fun v34 μ33 => (narrow .boolean (.int v34) = .int v34 ∧ Q v34 μ33))))))) ∧ (v25 = (-1) → W_X6_refuses G ρ d 4 a3 (-1) μ24 (fun v36 μ35 => (narrow .boolean (.int v36) = .int v36 ∧ Q v36 μ35)))))))) ∧ (v2 = 35 → Q 1 μ3))))) : W_X6_edit G ρ (d + 1) a1 a2 a3 μ Q := by
  unfold W_X6_edit
  refine am_aloadr_n (x := some ρ.1) dX6_edit_0 rfl rfl ?_
  refine am_iload_n (x := a1) dX6_edit_1 rfl rfl ?_
  refine am_iconst (v := 0) dX6_edit_2 (by decide) ?_
  refine mm_callV (Mc := m_X6_of) (as := [.int a1, .int 0]) rfl bm_X6_of q2895 q2897 qs128 (Nat.le_of_ble_eq_true rfl) dX6_edit_3 (mt_X6_of (mm_k2i h (fun v2 μ1 h => ?_)))
  refine am_istore (L' := [(8, .int v2), (0, va_rf (some ρ.1)), (2, .int a1), (4, .int a2), (6, .int a3)]) dX6_edit_6 (Nat.le_of_ble_eq_true rfl) rfl ?_
  refine am_aloadr_n (x := some ρ.1) dX6_edit_8 rfl rfl ?_
  refine am_iload_n (x := a1) dX6_edit_9 rfl rfl ?_
  refine am_iconst (v := 1) dX6_edit_10 (by decide) ?_
  refine mm_callV (Mc := m_X6_of) (as := [.int a1, .int 1]) rfl bm_X6_of q2895 q2897 qs128 (Nat.le_of_ble_eq_true rfl) dX6_edit_11 (mt_X6_of (mm_k2i h (fun v4 μ3 h => ?_)))
  refine am_istore (L' := [(10, .int v4), (8, .int v2), (0, va_rf (some ρ.1)), (2, .int a1), (4, .int a2), (6, .int a3)]) dX6_edit_14 (Nat.le_of_ble_eq_true rfl) rfl ?_
  refine am_iload (x := v2) dX6_edit_16 rfl ?_
  refine am_bipush (v := 35) dX6_edit_18 (by decide) ?_
  refine am_icmp_ne (tgt := 25) dX6_edit_20 (by decide) (fun c => ?_) (fun c => ?_)
  · have h := h.1 c
    refine am_iload (x := v2) dX6_edit_25 rfl ?_
    refine am_bipush (v := 34) dX6_edit_27 (by decide) ?_
    refine am_icmp_ne (tgt := 98) dX6_edit_29 (by decide) (fun c => ?_) (fun c => ?_)
    · have h := h.1 c
      refine am_iload (x := v2) dX6_edit_98 rfl ?_
      refine am_bipush (v := 33) dX6_edit_100 (by decide) ?_
      refine am_icmp_eq (tgt := 113) dX6_edit_102 (by decide) (fun c => ?_) (fun c => ?_)
      · have h := h.1 c
        refine am_aloadr_n (x := some ρ.1) dX6_edit_113 rfl rfl ?_
        refine am_iconst (v := 1) dX6_edit_114 (by decide) ?_
        refine am_iload_n (x := a2) dX6_edit_115 rfl rfl ?_
        refine am_iload (x := v4) dX6_edit_116 rfl ?_
        refine mm_callV (Mc := m_X6_field) (as := [.int 1, .int a2, .int v4]) rfl bm_X6_field q2698 q2700 qs96 (Nat.le_of_ble_eq_true rfl) dX6_edit_118 (mt_X6_field (mm_k2i h (fun v6 μ5 h => ?_)))
        refine am_iconst (v := (-1)) dX6_edit_121 (by decide) ?_
        refine am_icmp_eq (tgt := 145) dX6_edit_122 (by decide) (fun c => ?_) (fun c => ?_)
        · have h := h.1 c
          refine am_aloadr_n (x := some ρ.1) dX6_edit_145 rfl rfl ?_
          refine am_iconst (v := 1) dX6_edit_146 (by decide) ?_
          refine am_iload_n (x := a2) dX6_edit_147 rfl rfl ?_
          refine am_iload (x := v4) dX6_edit_148 rfl ?_
          refine mm_callV (Mc := m_X6_fixedOf) (as := [.int 1, .int a2, .int v4]) rfl bm_X6_fixedOf q2702 q2704 qs97 (Nat.le_of_ble_eq_true rfl) dX6_edit_150 (mt_X6_fixedOf (mm_k2i h (fun v8 μ7 h => ?_)))
          refine am_iconst (v := (-1)) dX6_edit_153 (by decide) ?_
          refine am_icmp_eq (tgt := 178) dX6_edit_154 (by decide) (fun c => ?_) (fun c => ?_)
          · have h := h.1 c
            refine am_aloadr_n (x := some ρ.1) dX6_edit_178 rfl rfl ?_
            refine am_iconst (v := 1) dX6_edit_179 (by decide) ?_
            refine am_iload_n (x := a2) dX6_edit_180 rfl rfl ?_
            refine am_iload (x := v4) dX6_edit_181 rfl ?_
            refine mm_callV (Mc := m_X6_actOf) (as := [.int 1, .int a2, .int v4]) rfl bm_X6_actOf q2690 q2692 qs94 (Nat.le_of_ble_eq_true rfl) dX6_edit_183 (mt_X6_actOf (mm_k2i h (fun v10 μ9 h => ?_)))
            refine am_iconst (v := (-1)) dX6_edit_186 (by decide) ?_
            refine am_icmp_eq (tgt := 211) dX6_edit_187 (by decide) (fun c => ?_) (fun c => ?_)
            · have h := h.1 c
              refine am_aloadr_n (x := some ρ.1) dX6_edit_211 rfl rfl ?_
              refine am_iconst (v := 4) dX6_edit_212 (by decide) ?_
              refine am_iload_n (x := a3) dX6_edit_213 rfl rfl ?_
              refine am_iconst (v := (-1)) dX6_edit_214 (by decide) ?_
              refine mm_callV (Mc := m_X6_refuses) (as := [.int 4, .int a3, .int (-1)]) rfl bm_X6_refuses q2974 q2976 qs144 (Nat.le_of_ble_eq_true rfl) dX6_edit_215 (mt_X6_refuses (mm_k2i h (fun v12 μ11 h => ?_)))
              exact am_zret rfl h.1 dX6_edit_218 ⟨_, _, rfl, rfl, h.2⟩
            · have h := h.2 c
              refine am_aloadr_n (x := some ρ.1) dX6_edit_190 rfl rfl ?_
              refine am_iload_n (x := a2) dX6_edit_191 rfl rfl ?_
              refine am_bipush (v := 40) dX6_edit_192 (by decide) ?_
              refine am_aloadr_n (x := some ρ.1) dX6_edit_194 rfl rfl ?_
              refine am_iconst (v := 1) dX6_edit_195 (by decide) ?_
              refine am_iload_n (x := a2) dX6_edit_196 rfl rfl ?_
              refine am_iload (x := v4) dX6_edit_197 rfl ?_
              refine mm_callV (Mc := m_X6_actOf) (as := [.int 1, .int a2, .int v4]) rfl bm_X6_actOf q2690 q2692 qs94 (Nat.le_of_ble_eq_true rfl) dX6_edit_199 (mt_X6_actOf (mm_k2i h (fun v14 μ13 h => ?_)))
              refine am_bipush (v := 39) dX6_edit_202 (by decide) ?_
              refine am_iconst (v := 2) dX6_edit_204 (by decide) ?_
              refine mm_callV (Mc := m_X6_close) (as := [.int a2, .int 40, .int v14, .int 39, .int 2]) rfl bm_X6_close q2994 q2996 qs149 (Nat.le_of_ble_eq_true rfl) dX6_edit_205 (mt_X6_close (mm_k2v h (fun μ15 h => ?_)))
              refine am_goto (tgt := 219) dX6_edit_208 (by decide) ?_
              refine am_iconst (v := 1) dX6_edit_219 (by decide) ?_
              exact am_zret rfl rfl dX6_edit_220 ⟨_, _, rfl, rfl, h⟩
          · have h := h.2 c
            refine am_aloadr_n (x := some ρ.1) dX6_edit_157 rfl rfl ?_
            refine am_iload_n (x := a2) dX6_edit_158 rfl rfl ?_
            refine am_bipush (v := 31) dX6_edit_159 (by decide) ?_
            refine am_aloadr_n (x := some ρ.1) dX6_edit_161 rfl rfl ?_
            refine am_iconst (v := 1) dX6_edit_162 (by decide) ?_
            refine am_iload_n (x := a2) dX6_edit_163 rfl rfl ?_
            refine am_iload (x := v4) dX6_edit_164 rfl ?_
            refine mm_callV (Mc := m_X6_fixedOf) (as := [.int 1, .int a2, .int v4]) rfl bm_X6_fixedOf q2702 q2704 qs97 (Nat.le_of_ble_eq_true rfl) dX6_edit_166 (mt_X6_fixedOf (mm_k2i h (fun v17 μ16 h => ?_)))
            refine am_bipush (v := 30) dX6_edit_169 (by decide) ?_
            refine am_iconst (v := 2) dX6_edit_171 (by decide) ?_
            refine mm_callV (Mc := m_X6_close) (as := [.int a2, .int 31, .int v17, .int 30, .int 2]) rfl bm_X6_close q2994 q2996 qs149 (Nat.le_of_ble_eq_true rfl) dX6_edit_172 (mt_X6_close (mm_k2v h (fun μ18 h => ?_)))
            refine am_goto (tgt := 219) dX6_edit_175 (by decide) ?_
            refine am_iconst (v := 1) dX6_edit_219 (by decide) ?_
            exact am_zret rfl rfl dX6_edit_220 ⟨_, _, rfl, rfl, h⟩
        · have h := h.2 c
          refine am_aloadr_n (x := some ρ.1) dX6_edit_125 rfl rfl ?_
          refine am_iload_n (x := a2) dX6_edit_126 rfl rfl ?_
          refine am_bipush (v := 6) dX6_edit_127 (by decide) ?_
          refine am_aloadr_n (x := some ρ.1) dX6_edit_129 rfl rfl ?_
          refine am_iconst (v := 1) dX6_edit_130 (by decide) ?_
          refine am_iload_n (x := a2) dX6_edit_131 rfl rfl ?_
          refine am_iload (x := v4) dX6_edit_132 rfl ?_
          refine mm_callV (Mc := m_X6_field) (as := [.int 1, .int a2, .int v4]) rfl bm_X6_field q2698 q2700 qs96 (Nat.le_of_ble_eq_true rfl) dX6_edit_134 (mt_X6_field (mm_k2i h (fun v20 μ19 h => ?_)))
          refine am_iconst (v := 5) dX6_edit_137 (by decide) ?_
          refine am_iconst (v := 3) dX6_edit_138 (by decide) ?_
          refine mm_callV (Mc := m_X6_close) (as := [.int a2, .int 6, .int v20, .int 5, .int 3]) rfl bm_X6_close q2994 q2996 qs149 (Nat.le_of_ble_eq_true rfl) dX6_edit_139 (mt_X6_close (mm_k2v h (fun μ21 h => ?_)))
          refine am_goto (tgt := 219) dX6_edit_142 (by decide) ?_
          refine am_iconst (v := 1) dX6_edit_219 (by decide) ?_
          exact am_zret rfl rfl dX6_edit_220 ⟨_, _, rfl, rfl, h⟩
      · have h := h.2 c
        refine am_aloadr_n (x := some ρ.1) dX6_edit_105 rfl rfl ?_
        refine am_iload_n (x := a1) dX6_edit_106 rfl rfl ?_
        refine am_iload_n (x := a2) dX6_edit_107 rfl rfl ?_
        refine am_iload_n (x := a3) dX6_edit_108 rfl rfl ?_
        refine mm_callV (Mc := m_X6_comes) (as := [.int a1, .int a2, .int a3]) rfl bm_X6_comes q2978 q2980 qs145 (Nat.le_of_ble_eq_true rfl) dX6_edit_109 (mt_X6_comes (mm_k2i h (fun v23 μ22 h => ?_)))
        exact am_zret rfl h.1 dX6_edit_112 ⟨_, _, rfl, rfl, h.2⟩
    · have h := h.2 c
      refine am_aloadr_n (x := some ρ.1) dX6_edit_32 rfl rfl ?_
      refine am_iconst (v := 1) dX6_edit_33 (by decide) ?_
      refine am_iload_n (x := a2) dX6_edit_34 rfl rfl ?_
      refine am_iload (x := v4) dX6_edit_35 rfl ?_
      refine mm_callV (Mc := m_X6_field) (as := [.int 1, .int a2, .int v4]) rfl bm_X6_field q2698 q2700 qs96 (Nat.le_of_ble_eq_true rfl) dX6_edit_37 (mt_X6_field (mm_k2i h (fun v25 μ24 h => ?_)))
      refine am_istore (L' := [(12, .int v25), (10, .int v4), (8, .int v2), (0, va_rf (some ρ.1)), (2, .int a1), (4, .int a2), (6, .int a3)]) dX6_edit_40 (Nat.le_of_ble_eq_true rfl) rfl ?_
      refine am_iload (x := v25) dX6_edit_42 rfl ?_
      refine am_iconst (v := (-1)) dX6_edit_44 (by decide) ?_
      refine am_icmp_ne (tgt := 56) dX6_edit_45 (by decide) (fun c => ?_) (fun c => ?_)
      · have h := h.1 c
        refine am_aloadr_n (x := some ρ.1) dX6_edit_56 rfl rfl ?_
        refine am_iconst (v := 1) dX6_edit_57 (by decide) ?_
        refine am_iload_n (x := a2) dX6_edit_58 rfl rfl ?_
        refine am_aloadr_n (x := some ρ.1) dX6_edit_59 rfl rfl ?_
        refine am_iload_n (x := a1) dX6_edit_60 rfl rfl ?_
        refine am_iconst (v := 2) dX6_edit_61 (by decide) ?_
        refine mm_callV (Mc := m_X6_of) (as := [.int a1, .int 2]) rfl bm_X6_of q2895 q2897 qs128 (Nat.le_of_ble_eq_true rfl) dX6_edit_62 (mt_X6_of (mm_k2i h (fun v27 μ26 h => ?_)))
        refine mm_callV (Mc := m_X6_hasOwn) (as := [.int 1, .int a2, .int v27]) rfl bm_X6_hasOwn q2694 q2696 qs95 (Nat.le_of_ble_eq_true rfl) dX6_edit_65 (mt_X6_hasOwn (mm_k2i h (fun v29 μ28 h => ?_)))
        refine am_if_eq (tgt := 79) dX6_edit_68 (by decide) (fun c => ?_) (fun c => ?_)
        · have h := h.1 c
          refine am_aloadr_n (x := some ρ.1) dX6_edit_79 rfl rfl ?_
          refine am_iconst (v := 1) dX6_edit_80 (by decide) ?_
          refine am_iload_n (x := a2) dX6_edit_81 rfl rfl ?_
          refine am_bipush (v := 6) dX6_edit_82 (by decide) ?_
          refine am_iload (x := v25) dX6_edit_84 rfl ?_
          refine am_iadd dX6_edit_86 ?_
          refine am_aloadr_n (x := some ρ.1) dX6_edit_87 rfl rfl ?_
          refine am_iload_n (x := a1) dX6_edit_88 rfl rfl ?_
          refine am_iconst (v := 2) dX6_edit_89 (by decide) ?_
          refine mm_callV (Mc := m_X6_of) (as := [.int a1, .int 2]) rfl bm_X6_of q2895 q2897 qs128 (Nat.le_of_ble_eq_true rfl) dX6_edit_90 (mt_X6_of (mm_k2i h (fun v31 μ30 h => ?_)))
          refine mm_callV (Mc := m_X6_set) (as := [.int 1, .int a2, .int (6 + v25), .int v31]) rfl bm_X6_set q2674 q2676 qs90 (Nat.le_of_ble_eq_true rfl) dX6_edit_93 (mt_X6_set (mm_k2v h (fun μ32 h => ?_)))
          refine am_iconst (v := 1) dX6_edit_96 (by decide) ?_
          exact am_zret rfl rfl dX6_edit_97 ⟨_, _, rfl, rfl, h⟩
        · have h := h.2 c
          refine am_aloadr_n (x := some ρ.1) dX6_edit_71 rfl rfl ?_
          refine am_iconst (v := 3) dX6_edit_72 (by decide) ?_
          refine am_iload_n (x := a3) dX6_edit_73 rfl rfl ?_
          refine am_iconst (v := (-1)) dX6_edit_74 (by decide) ?_
          refine mm_callV (Mc := m_X6_refuses) (as := [.int 3, .int a3, .int (-1)]) rfl bm_X6_refuses q2974 q2976 qs144 (Nat.le_of_ble_eq_true rfl) dX6_edit_75 (mt_X6_refuses (mm_k2i h (fun v34 μ33 h => ?_)))
          exact am_zret rfl h.1 dX6_edit_78 ⟨_, _, rfl, rfl, h.2⟩
      · have h := h.2 c
        refine am_aloadr_n (x := some ρ.1) dX6_edit_48 rfl rfl ?_
        refine am_iconst (v := 4) dX6_edit_49 (by decide) ?_
        refine am_iload_n (x := a3) dX6_edit_50 rfl rfl ?_
        refine am_iconst (v := (-1)) dX6_edit_51 (by decide) ?_
        refine mm_callV (Mc := m_X6_refuses) (as := [.int 4, .int a3, .int (-1)]) rfl bm_X6_refuses q2974 q2976 qs144 (Nat.le_of_ble_eq_true rfl) dX6_edit_52 (mt_X6_refuses (mm_k2i h (fun v36 μ35 h => ?_)))
        exact am_zret rfl h.1 dX6_edit_55 ⟨_, _, rfl, rfl, h.2⟩
  · have h := h.2 c
    refine am_iconst (v := 1) dX6_edit_23 (by decide) ?_
    exact am_zret rfl rfl dX6_edit_24 ⟨_, _, rfl, rfl, h⟩
theorem W_X6_close_f {G : am_G} {ρ : mm_F} {d : Nat} {a1 : Int32} {a2 : Int32} {a3 : Int32} {a4 : Int32} {a5 : Int32} {μ : mm_S} {Q : mm_S → Prop} (h : W_X6_get G ρ d 1 a1 a4 μ (fun v2 μ1 => B_X6_close_13 G ρ (d + 1) a1 a2 a3 a4 a5 v2 0 μ1 Q)) : W_X6_close G ρ (d + 1) a1 a2 a3 a4 a5 μ Q := by
  unfold W_X6_close
  refine am_aloadr_n (x := some ρ.1) dX6_close_0 rfl rfl ?_
  refine am_iconst (v := 1) dX6_close_1 (by decide) ?_
  refine am_iload_n (x := a1) dX6_close_2 rfl rfl ?_
  refine am_iload (x := a4) dX6_close_3 rfl ?_
  refine mm_callV (Mc := m_X6_get) (as := [.int 1, .int a1, .int a4]) rfl bm_X6_get q2666 q2668 qs88 (Nat.le_of_ble_eq_true rfl) dX6_close_5 (mt_X6_get (mm_k2i h (fun v2 μ1 h => ?_)))
  refine am_istore (L' := [(12, .int v2), (0, va_rf (some ρ.1)), (2, .int a1), (4, .int a2), (6, .int a3), (8, .int a4), (10, .int a5)]) dX6_close_8 (Nat.le_of_ble_eq_true rfl) rfl ?_
  refine am_iconst (v := 0) dX6_close_10 (by decide) ?_
  refine am_istore (L' := [(14, .int 0), (12, .int v2), (0, va_rf (some ρ.1)), (2, .int a1), (4, .int a2), (6, .int a3), (8, .int a4), (10, .int a5)]) dX6_close_11 (Nat.le_of_ble_eq_true rfl) rfl ?_
  exact am_lss h rfl
theorem B_X6_close_13_f {G : am_G} {ρ : mm_F} {d : Nat} {x1 : Int32} {x2 : Int32} {x3 : Int32} {x4 : Int32} {x5 : Int32} {x6 : Int32} {x7 : Int32} {μ : mm_S} {Q : mm_S → Prop} (h : ((x5 ≤ x7 → W_X6_set G ρ d 1 x1 x4 (x6 - 1) μ (fun μ1 => Q μ1)) ∧ (¬ x5 ≤ x7 → ((¬ x2 = 31 → B_X6_close_37 G ρ (d + 1) x1 x2 x3 x4 x5 x6 x7 8 x3 μ Q) ∧ (x2 = 31 → B_X6_close_37 G ρ (d + 1) x1 x2 x3 x4 x5 x6 x7 4 x3 μ Q))))) : B_X6_close_13 G ρ (d + 1) x1 x2 x3 x4 x5 x6 x7 μ Q := by
  unfold B_X6_close_13
  refine am_iload (x := x7) dX6_close_13 rfl ?_
  refine am_iload (x := x5) dX6_close_15 rfl ?_
  refine am_icmp_ge (tgt := 92) dX6_close_17 (by decide) (fun c => ?_) (fun c => ?_)
  · have h := h.1 c
    refine am_aloadr_n (x := some ρ.1) dX6_close_92 rfl rfl ?_
    refine am_iconst (v := 1) dX6_close_93 (by decide) ?_
    refine am_iload_n (x := x1) dX6_close_94 rfl rfl ?_
    refine am_iload (x := x4) dX6_close_95 rfl ?_
    refine am_iload (x := x6) dX6_close_97 rfl ?_
    refine am_iconst (v := 1) dX6_close_99 (by decide) ?_
    refine am_isub dX6_close_100 ?_
    refine mm_callV (Mc := m_X6_set) (as := [.int 1, .int x1, .int x4, .int (x6 - 1)]) rfl bm_X6_set q2674 q2676 qs90 (Nat.le_of_ble_eq_true rfl) dX6_close_101 (mt_X6_set (mm_k2v h (fun μ1 h => ?_)))
    exact am_vret rfl dX6_close_104 ⟨_, rfl, rfl, h⟩
  · have h := h.2 c
    refine am_iload_n (x := x2) dX6_close_20 rfl rfl ?_
    refine am_bipush (v := 31) dX6_close_21 (by decide) ?_
    refine am_icmp_ne (tgt := 30) dX6_close_23 (by decide) (fun c => ?_) (fun c => ?_)
    · have h := h.1 c
      refine am_bipush (v := 8) dX6_close_30 (by decide) ?_
      refine am_istore (L' := [(16, .int 8), (0, va_rf (some ρ.1)), (2, .int x1), (4, .int x2), (6, .int x3), (8, .int x4), (10, .int x5), (12, .int x6), (14, .int x7)]) dX6_close_32 (Nat.le_of_ble_eq_true rfl) rfl ?_
      refine am_iload_n (x := x3) dX6_close_34 rfl rfl ?_
      refine am_istore (L' := [(18, .int x3), (16, .int 8), (0, va_rf (some ρ.1)), (2, .int x1), (4, .int x2), (6, .int x3), (8, .int x4), (10, .int x5), (12, .int x6), (14, .int x7)]) dX6_close_35 (Nat.le_of_ble_eq_true rfl) rfl ?_
      exact am_lss h rfl
    · have h := h.2 c
      refine am_iconst (v := 4) dX6_close_26 (by decide) ?_
      refine am_goto (tgt := 32) dX6_close_27 (by decide) ?_
      refine am_istore (L' := [(16, .int 4), (0, va_rf (some ρ.1)), (2, .int x1), (4, .int x2), (6, .int x3), (8, .int x4), (10, .int x5), (12, .int x6), (14, .int x7)]) dX6_close_32 (Nat.le_of_ble_eq_true rfl) rfl ?_
      refine am_iload_n (x := x3) dX6_close_34 rfl rfl ?_
      refine am_istore (L' := [(18, .int x3), (16, .int 4), (0, va_rf (some ρ.1)), (2, .int x1), (4, .int x2), (6, .int x3), (8, .int x4), (10, .int x5), (12, .int x6), (14, .int x7)]) dX6_close_35 (Nat.le_of_ble_eq_true rfl) rfl ?_
      exact am_lss h rfl
theorem B_X6_close_37_f {G : am_G} {ρ : mm_F} {d : Nat} {x1 : Int32} {x2 : Int32} {x3 : Int32} {x4 : Int32} {x5 : Int32} {x6 : Int32} {x7 : Int32} {x8 : Int32} {x9 : Int32} {μ : mm_S} {Q : mm_S → Prop} (h : ((x6 ≤ (x9 + 1) → B_X6_close_13 G ρ (d + 1) x1 x2 x3 x4 x5 x6 (x7 + 1) μ Q) ∧ (¬ x6 ≤ (x9 + 1) → W_X6_get G ρ d 1 x1 (((x2 + (x8 * x7)) + x9) + 1) μ (fun v2 μ1 => W_X6_set G ρ d 1 x1 ((x2 + (x8 * x7)) + x9) v2 μ1 (fun μ3 => B_X6_close_37 G ρ (d + 1) x1 x2 x3 x4 x5 x6 x7 x8 (x9 + 1) μ3 Q))))) : B_X6_close_37 G ρ (d + 1) x1 x2 x3 x4 x5 x6 x7 x8 x9 μ Q := by
  unfold B_X6_close_37
  refine am_iload (x := x9) dX6_close_37 rfl ?_
  refine am_iconst (v := 1) dX6_close_39 (by decide) ?_
  refine am_iadd dX6_close_40 ?_
  refine am_iload (x := x6) dX6_close_41 rfl ?_
  refine am_icmp_ge (tgt := 86) dX6_close_43 (by decide) (fun c => ?_) (fun c => ?_)
  · have h := h.1 c
    refine am_iinc (x := x7) (v := (x7 + 1)) (L' := [(14, .int (x7 + 1)), (0, va_rf (some ρ.1)), (2, .int x1), (4, .int x2), (6, .int x3), (8, .int x4), (10, .int x5), (12, .int x6), (16, .int x8), (18, .int x9)]) dX6_close_86 rfl rfl (Nat.le_of_ble_eq_true rfl) rfl ?_
    refine am_goto (tgt := 13) dX6_close_89 (by decide) ?_
    exact am_lss h rfl
  · have h := h.2 c
    refine am_aloadr_n (x := some ρ.1) dX6_close_46 rfl rfl ?_
    refine am_iconst (v := 1) dX6_close_47 (by decide) ?_
    refine am_iload_n (x := x1) dX6_close_48 rfl rfl ?_
    refine am_iload_n (x := x2) dX6_close_49 rfl rfl ?_
    refine am_iload (x := x8) dX6_close_50 rfl ?_
    refine am_iload (x := x7) dX6_close_52 rfl ?_
    refine am_imul dX6_close_54 ?_
    refine am_iadd dX6_close_55 ?_
    refine am_iload (x := x9) dX6_close_56 rfl ?_
    refine am_iadd dX6_close_58 ?_
    refine am_aloadr_n (x := some ρ.1) dX6_close_59 rfl rfl ?_
    refine am_iconst (v := 1) dX6_close_60 (by decide) ?_
    refine am_iload_n (x := x1) dX6_close_61 rfl rfl ?_
    refine am_iload_n (x := x2) dX6_close_62 rfl rfl ?_
    refine am_iload (x := x8) dX6_close_63 rfl ?_
    refine am_iload (x := x7) dX6_close_65 rfl ?_
    refine am_imul dX6_close_67 ?_
    refine am_iadd dX6_close_68 ?_
    refine am_iload (x := x9) dX6_close_69 rfl ?_
    refine am_iadd dX6_close_71 ?_
    refine am_iconst (v := 1) dX6_close_72 (by decide) ?_
    refine am_iadd dX6_close_73 ?_
    refine mm_callV (Mc := m_X6_get) (as := [.int 1, .int x1, .int (((x2 + (x8 * x7)) + x9) + 1)]) rfl bm_X6_get q2666 q2668 qs88 (Nat.le_of_ble_eq_true rfl) dX6_close_74 (mt_X6_get (mm_k2i h (fun v2 μ1 h => ?_)))
    refine mm_callV (Mc := m_X6_set) (as := [.int 1, .int x1, .int ((x2 + (x8 * x7)) + x9), .int v2]) rfl bm_X6_set q2674 q2676 qs90 (Nat.le_of_ble_eq_true rfl) dX6_close_77 (mt_X6_set (mm_k2v h (fun μ3 h => ?_)))
    refine am_iinc (x := x9) (v := (x9 + 1)) (L' := [(18, .int (x9 + 1)), (0, va_rf (some ρ.1)), (2, .int x1), (4, .int x2), (6, .int x3), (8, .int x4), (10, .int x5), (12, .int x6), (14, .int x7), (16, .int x8)]) dX6_close_80 rfl rfl (Nat.le_of_ble_eq_true rfl) rfl ?_
    refine am_goto (tgt := 37) dX6_close_83 (by decide) ?_
    exact am_lss h rfl
theorem W_X6_isClear_f {G : am_G} {ρ : mm_F} {d : Nat}  {μ : mm_S} {Q : Int32 → mm_S → Prop} (h : B_X6_isClear_2 G ρ (d + 1) 0 μ Q) : W_X6_isClear G ρ (d + 1)  μ Q := by
  unfold W_X6_isClear
  refine am_iconst (v := 0) dX6_isClear_0 (by decide) ?_
  refine am_istore_n (L' := [(2, .int 0), (0, va_rf (some ρ.1))]) dX6_isClear_1 rfl (Nat.le_of_ble_eq_true rfl) rfl ?_
  exact am_lss h rfl
theorem B_X6_isClear_2_f {G : am_G} {ρ : mm_F} {d : Nat} {x1 : Int32} {μ : mm_S} {Q : Int32 → mm_S → Prop} (h : W_X6_many G ρ d 1 μ (fun v2 μ1 => ((v2 ≤ x1 → Q 1 μ1) ∧ (¬ v2 ≤ x1 → B_X6_isClear_13 G ρ (d + 1) x1 0 μ1 Q)))) : B_X6_isClear_2 G ρ (d + 1) x1 μ Q := by
  unfold B_X6_isClear_2
  refine am_iload_n (x := x1) dX6_isClear_2 rfl rfl ?_
  refine am_aloadr_n (x := some ρ.1) dX6_isClear_3 rfl rfl ?_
  refine am_iconst (v := 1) dX6_isClear_4 (by decide) ?_
  refine mm_callV (Mc := m_X6_many) (as := [.int 1]) rfl bm_X6_many q2662 q2664 qs87 (Nat.le_of_ble_eq_true rfl) dX6_isClear_5 (mt_X6_many (mm_k2i h (fun v2 μ1 h => ?_)))
  refine am_icmp_ge (tgt := 112) dX6_isClear_8 (by decide) (fun c => ?_) (fun c => ?_)
  · have h := h.1 c
    refine am_iconst (v := 1) dX6_isClear_112 (by decide) ?_
    exact am_zret rfl rfl dX6_isClear_113 ⟨_, _, rfl, rfl, h⟩
  · have h := h.2 c
    refine am_iconst (v := 0) dX6_isClear_11 (by decide) ?_
    refine am_istore_n (L' := [(4, .int 0), (0, va_rf (some ρ.1)), (2, .int x1)]) dX6_isClear_12 rfl (Nat.le_of_ble_eq_true rfl) rfl ?_
    exact am_lss h rfl
theorem B_X6_isClear_13_f {G : am_G} {ρ : mm_F} {d : Nat} {x1 : Int32} {x2 : Int32} {μ : mm_S} {Q : Int32 → mm_S → Prop} (h : W_X6_get G ρ d 1 x1 5 μ (fun v2 μ1 => ((v2 ≤ x2 → B_X6_isClear_60 G ρ (d + 1) x1 0 μ1 Q) ∧ (¬ v2 ≤ x2 → W_X6_get G ρ d 1 x1 (6 + x2) μ1 (fun v4 μ3 => W_X6_isAbove G ρ d 1 x1 v4 μ3 (fun v6 μ5 => ((v6 = 0 → B_X6_isClear_13 G ρ (d + 1) x1 (x2 + 1) μ5 Q) ∧ (¬ v6 = 0 → W_X6_refuses G ρ d 8 (-1) (-1) μ5 (fun v8 μ7 => (narrow .boolean (.int v8) = .int v8 ∧ Q v8 μ7)))))))))) : B_X6_isClear_13 G ρ (d + 1) x1 x2 μ Q := by
  unfold B_X6_isClear_13
  refine am_iload_n (x := x2) dX6_isClear_13 rfl rfl ?_
  refine am_aloadr_n (x := some ρ.1) dX6_isClear_14 rfl rfl ?_
  refine am_iconst (v := 1) dX6_isClear_15 (by decide) ?_
  refine am_iload_n (x := x1) dX6_isClear_16 rfl rfl ?_
  refine am_iconst (v := 5) dX6_isClear_17 (by decide) ?_
  refine mm_callV (Mc := m_X6_get) (as := [.int 1, .int x1, .int 5]) rfl bm_X6_get q2666 q2668 qs88 (Nat.le_of_ble_eq_true rfl) dX6_isClear_18 (mt_X6_get (mm_k2i h (fun v2 μ1 h => ?_)))
  refine am_icmp_ge (tgt := 58) dX6_isClear_21 (by decide) (fun c => ?_) (fun c => ?_)
  · have h := h.1 c
    refine am_iconst (v := 0) dX6_isClear_58 (by decide) ?_
    refine am_istore_n (L' := [(4, .int 0), (0, va_rf (some ρ.1)), (2, .int x1)]) dX6_isClear_59 rfl (Nat.le_of_ble_eq_true rfl) rfl ?_
    exact am_lss h rfl
  · have h := h.2 c
    refine am_aloadr_n (x := some ρ.1) dX6_isClear_24 rfl rfl ?_
    refine am_iconst (v := 1) dX6_isClear_25 (by decide) ?_
    refine am_iload_n (x := x1) dX6_isClear_26 rfl rfl ?_
    refine am_aloadr_n (x := some ρ.1) dX6_isClear_27 rfl rfl ?_
    refine am_iconst (v := 1) dX6_isClear_28 (by decide) ?_
    refine am_iload_n (x := x1) dX6_isClear_29 rfl rfl ?_
    refine am_bipush (v := 6) dX6_isClear_30 (by decide) ?_
    refine am_iload_n (x := x2) dX6_isClear_32 rfl rfl ?_
    refine am_iadd dX6_isClear_33 ?_
    refine mm_callV (Mc := m_X6_get) (as := [.int 1, .int x1, .int (6 + x2)]) rfl bm_X6_get q2666 q2668 qs88 (Nat.le_of_ble_eq_true rfl) dX6_isClear_34 (mt_X6_get (mm_k2i h (fun v4 μ3 h => ?_)))
    refine mm_callV (Mc := m_X6_isAbove) (as := [.int 1, .int x1, .int v4]) rfl bm_X6_isAbove q2706 q2708 qs98 (Nat.le_of_ble_eq_true rfl) dX6_isClear_37 (mt_X6_isAbove (mm_k2i h (fun v6 μ5 h => ?_)))
    refine am_if_eq (tgt := 52) dX6_isClear_40 (by decide) (fun c => ?_) (fun c => ?_)
    · have h := h.1 c
      refine am_iinc (x := x2) (v := (x2 + 1)) (L' := [(4, .int (x2 + 1)), (0, va_rf (some ρ.1)), (2, .int x1)]) dX6_isClear_52 rfl rfl (Nat.le_of_ble_eq_true rfl) rfl ?_
      refine am_goto (tgt := 13) dX6_isClear_55 (by decide) ?_
      exact am_lss h rfl
    · have h := h.2 c
      refine am_aloadr_n (x := some ρ.1) dX6_isClear_43 rfl rfl ?_
      refine am_bipush (v := 8) dX6_isClear_44 (by decide) ?_
      refine am_iconst (v := (-1)) dX6_isClear_46 (by decide) ?_
      refine am_iconst (v := (-1)) dX6_isClear_47 (by decide) ?_
      refine mm_callV (Mc := m_X6_refuses) (as := [.int 8, .int (-1), .int (-1)]) rfl bm_X6_refuses q2974 q2976 qs144 (Nat.le_of_ble_eq_true rfl) dX6_isClear_48 (mt_X6_refuses (mm_k2i h (fun v8 μ7 h => ?_)))
      exact am_zret rfl h.1 dX6_isClear_51 ⟨_, _, rfl, rfl, h.2⟩
theorem B_X6_isClear_60_f {G : am_G} {ρ : mm_F} {d : Nat} {x1 : Int32} {x2 : Int32} {μ : mm_S} {Q : Int32 → mm_S → Prop} (h : W_X6_get G ρ d 1 x1 30 μ (fun v2 μ1 => ((v2 ≤ x2 → B_X6_isClear_2 G ρ (d + 1) (x1 + 1) μ1 Q) ∧ (¬ v2 ≤ x2 → W_X6_get G ρ d 1 x1 (31 + x2) μ1 (fun v4 μ3 => W_X6_isAbove G ρ d 1 x1 v4 μ3 (fun v6 μ5 => ((v6 = 0 → B_X6_isClear_60 G ρ (d + 1) x1 (x2 + 1) μ5 Q) ∧ (¬ v6 = 0 → W_X6_refuses G ρ d 8 (-1) (-1) μ5 (fun v8 μ7 => (narrow .boolean (.int v8) = .int v8 ∧ Q v8 μ7)))))))))) : B_X6_isClear_60 G ρ (d + 1) x1 x2 μ Q := by
  unfold B_X6_isClear_60
  refine am_iload_n (x := x2) dX6_isClear_60 rfl rfl ?_
  refine am_aloadr_n (x := some ρ.1) dX6_isClear_61 rfl rfl ?_
  refine am_iconst (v := 1) dX6_isClear_62 (by decide) ?_
  refine am_iload_n (x := x1) dX6_isClear_63 rfl rfl ?_
  refine am_bipush (v := 30) dX6_isClear_64 (by decide) ?_
  refine mm_callV (Mc := m_X6_get) (as := [.int 1, .int x1, .int 30]) rfl bm_X6_get q2666 q2668 qs88 (Nat.le_of_ble_eq_true rfl) dX6_isClear_66 (mt_X6_get (mm_k2i h (fun v2 μ1 h => ?_)))
  refine am_icmp_ge (tgt := 106) dX6_isClear_69 (by decide) (fun c => ?_) (fun c => ?_)
  · have h := h.1 c
    refine am_iinc (x := x1) (v := (x1 + 1)) (L' := [(2, .int (x1 + 1)), (0, va_rf (some ρ.1)), (4, .int x2)]) dX6_isClear_106 rfl rfl (Nat.le_of_ble_eq_true rfl) rfl ?_
    refine am_goto (tgt := 2) dX6_isClear_109 (by decide) ?_
    exact am_lss h rfl
  · have h := h.2 c
    refine am_aloadr_n (x := some ρ.1) dX6_isClear_72 rfl rfl ?_
    refine am_iconst (v := 1) dX6_isClear_73 (by decide) ?_
    refine am_iload_n (x := x1) dX6_isClear_74 rfl rfl ?_
    refine am_aloadr_n (x := some ρ.1) dX6_isClear_75 rfl rfl ?_
    refine am_iconst (v := 1) dX6_isClear_76 (by decide) ?_
    refine am_iload_n (x := x1) dX6_isClear_77 rfl rfl ?_
    refine am_bipush (v := 31) dX6_isClear_78 (by decide) ?_
    refine am_iload_n (x := x2) dX6_isClear_80 rfl rfl ?_
    refine am_iadd dX6_isClear_81 ?_
    refine mm_callV (Mc := m_X6_get) (as := [.int 1, .int x1, .int (31 + x2)]) rfl bm_X6_get q2666 q2668 qs88 (Nat.le_of_ble_eq_true rfl) dX6_isClear_82 (mt_X6_get (mm_k2i h (fun v4 μ3 h => ?_)))
    refine mm_callV (Mc := m_X6_isAbove) (as := [.int 1, .int x1, .int v4]) rfl bm_X6_isAbove q2706 q2708 qs98 (Nat.le_of_ble_eq_true rfl) dX6_isClear_85 (mt_X6_isAbove (mm_k2i h (fun v6 μ5 h => ?_)))
    refine am_if_eq (tgt := 100) dX6_isClear_88 (by decide) (fun c => ?_) (fun c => ?_)
    · have h := h.1 c
      refine am_iinc (x := x2) (v := (x2 + 1)) (L' := [(4, .int (x2 + 1)), (0, va_rf (some ρ.1)), (2, .int x1)]) dX6_isClear_100 rfl rfl (Nat.le_of_ble_eq_true rfl) rfl ?_
      refine am_goto (tgt := 60) dX6_isClear_103 (by decide) ?_
      exact am_lss h rfl
    · have h := h.2 c
      refine am_aloadr_n (x := some ρ.1) dX6_isClear_91 rfl rfl ?_
      refine am_bipush (v := 8) dX6_isClear_92 (by decide) ?_
      refine am_iconst (v := (-1)) dX6_isClear_94 (by decide) ?_
      refine am_iconst (v := (-1)) dX6_isClear_95 (by decide) ?_
      refine mm_callV (Mc := m_X6_refuses) (as := [.int 8, .int (-1), .int (-1)]) rfl bm_X6_refuses q2974 q2976 qs144 (Nat.le_of_ble_eq_true rfl) dX6_isClear_96 (mt_X6_refuses (mm_k2i h (fun v8 μ7 h => ?_)))
      exact am_zret rfl h.1 dX6_isClear_99 ⟨_, _, rfl, rfl, h.2⟩
theorem W_X6_carried_f {G : am_G} {ρ : mm_F} {d : Nat} {a1 : Int32} {μ : mm_S} {Q : Int32 → mm_S → Prop} (h : B_X6_carried_2 G ρ (d + 1) a1 0 μ Q) : W_X6_carried G ρ (d + 1) a1 μ Q := by
  unfold W_X6_carried
  refine am_iconst (v := 0) dX6_carried_0 (by decide) ?_
  refine am_istore_n (L' := [(4, .int 0), (0, va_rf (some ρ.1)), (2, .int a1)]) dX6_carried_1 rfl (Nat.le_of_ble_eq_true rfl) rfl ?_
  exact am_lss h rfl
theorem B_X6_carried_2_f {G : am_G} {ρ : mm_F} {d : Nat} {x1 : Int32} {x2 : Int32} {μ : mm_S} {Q : Int32 → mm_S → Prop} (h : ((1600 ≤ x2 → (∀ μ1 : mm_S, μ1 = mm_sI μ 39 0 → (B_X6_carried_29 G ρ (d + 1) x1 0 μ1 Q))) ∧ (¬ 1600 ≤ x2 → (vp_in x2 1600 ∧ ∀ μ2 : mm_S, μ2 = mm_sA μ 89 (Int32.toNatClampNeg x2) 0 → (B_X6_carried_2 G ρ (d + 1) x1 (x2 + 1) μ2 Q))))) : B_X6_carried_2 G ρ (d + 1) x1 x2 μ Q := by
  unfold B_X6_carried_2
  refine am_iload_n (x := x2) dX6_carried_2 rfl rfl ?_
  refine am_sipush (v := 1600) dX6_carried_3 (by decide) ?_
  refine am_icmp_ge (tgt := 22) dX6_carried_6 (by decide) (fun c => ?_) (fun c => ?_)
  · have h := h.1 c
    refine am_aloadr_n (x := some ρ.1) dX6_carried_22 rfl rfl ?_
    refine am_iconst (v := 0) dX6_carried_23 (by decide) ?_
    refine mm_pI (k := 39) rfl rfl rfl (by decide) q2358 rfl dX6_carried_24 ?_
    generalize eμ1 : mm_sI μ 39 0 = μ1
    have h := h μ1 eμ1.symm
    refine am_iconst (v := 0) dX6_carried_27 (by decide) ?_
    refine am_istore_n (L' := [(4, .int 0), (0, va_rf (some ρ.1)), (2, .int x1)]) dX6_carried_28 rfl (Nat.le_of_ble_eq_true rfl) rfl ?_
    exact am_lss h rfl
  · have h := h.2 c
    refine am_aloadr_n (x := some ρ.1) dX6_carried_9 rfl rfl ?_
    refine mm_gA (k := 89) rfl isA_89 q2408 dX6_carried_10 ?_
    refine am_iload_n (x := x2) dX6_carried_13 rfl rfl ?_
    refine am_iconst (v := 0) dX6_carried_14 (by decide) ?_
    refine mm_stZ (k := 89) isA_89 rfl rfl (by decide) dX6_carried_15 h.1 ?_
    have h := h.2
    generalize eμ2 : mm_sA μ 89 (Int32.toNatClampNeg x2) 0 = μ2
    have h := h μ2 eμ2.symm
    refine am_iinc (x := x2) (v := (x2 + 1)) (L' := [(4, .int (x2 + 1)), (0, va_rf (some ρ.1)), (2, .int x1)]) dX6_carried_16 rfl rfl (Nat.le_of_ble_eq_true rfl) rfl ?_
    refine am_goto (tgt := 2) dX6_carried_19 (by decide) ?_
    exact am_lss h rfl
theorem B_X6_carried_29_f {G : am_G} {ρ : mm_F} {d : Nat} {x1 : Int32} {x2 : Int32} {μ : mm_S} {Q : Int32 → mm_S → Prop} (h : (((mI μ 33) ≤ x2 → B_X6_carried_112 G ρ (d + 1) x1 0 μ Q) ∧ (¬ (mI μ 33) ≤ x2 → (vp_in x2 40 ∧ (((mA μ 34 (Int32.toNatClampNeg x2)) = 0 → B_X6_carried_60 G ρ (d + 1) x1 x2 (-1) x2 μ Q) ∧ (¬ (mA μ 34 (Int32.toNatClampNeg x2)) = 0 → W_X6_behind G ρ d x2 μ (fun v2 μ1 => B_X6_carried_60 G ρ (d + 1) x1 x2 v2 x2 μ1 Q))))))) : B_X6_carried_29 G ρ (d + 1) x1 x2 μ Q := by
  unfold B_X6_carried_29
  refine am_iload_n (x := x2) dX6_carried_29 rfl rfl ?_
  refine am_aloadr_n (x := some ρ.1) dX6_carried_30 rfl rfl ?_
  refine mm_gI (k := 33) rfl (Or.inl rfl) (by decide) q2352 dX6_carried_31 ?_
  refine am_icmp_ge (tgt := 110) dX6_carried_34 (by decide) (fun c => ?_) (fun c => ?_)
  · have h := h.1 c
    refine am_iconst (v := 0) dX6_carried_110 (by decide) ?_
    refine am_istore_n (L' := [(4, .int 0), (0, va_rf (some ρ.1)), (2, .int x1)]) dX6_carried_111 rfl (Nat.le_of_ble_eq_true rfl) rfl ?_
    exact am_lss h rfl
  · have h := h.2 c
    refine am_aloadr_n (x := some ρ.1) dX6_carried_37 rfl rfl ?_
    refine mm_gA (k := 93) rfl isA_93 q2412 dX6_carried_38 ?_
    refine am_iload_n (x := x2) dX6_carried_41 rfl rfl ?_
    refine am_aloadr_n (x := some ρ.1) dX6_carried_42 rfl rfl ?_
    refine mm_gA (k := 34) rfl isA_34 q2353 dX6_carried_43 ?_
    refine am_iload_n (x := x2) dX6_carried_46 rfl rfl ?_
    refine mm_ldZ (k := 34) isA_34 rfl rfl dX6_carried_47 h.1 ?_
    have h := h.2
    refine am_if_eq (tgt := 59) dX6_carried_48 (by decide) (fun c => ?_) (fun c => ?_)
    · have h := h.1 c
      refine am_iconst (v := (-1)) dX6_carried_59 (by decide) ?_
      exact am_lss h rfl
    · have h := h.2 c
      refine am_aloadr_n (x := some ρ.1) dX6_carried_51 rfl rfl ?_
      refine am_iload_n (x := x2) dX6_carried_52 rfl rfl ?_
      refine mm_callV (Mc := m_X6_behind) (as := [.int x2]) rfl bm_X6_behind q3006 q3008 qs152 (Nat.le_of_ble_eq_true rfl) dX6_carried_53 (mt_X6_behind (mm_k2i h (fun v2 μ1 h => ?_)))
      refine am_goto (tgt := 60) dX6_carried_56 (by decide) ?_
      exact am_lss h rfl
theorem B_X6_carried_60_f {G : am_G} {ρ : mm_F} {d : Nat} {x1 : Int32} {x2 : Int32} {s0 : Int32} {s1 : Int32} {μ : mm_S} {Q : Int32 → mm_S → Prop} (h : (vp_in s1 40 ∧ ∀ μ1 : mm_S, μ1 = mm_sA μ 93 (Int32.toNatClampNeg s1) s0 → ((vp_in x2 40 ∧ (((mA μ1 93 (Int32.toNatClampNeg x2)) = (-1) → B_X6_carried_29 G ρ (d + 1) x1 (x2 + 1) μ1 Q) ∧ (¬ (mA μ1 93 (Int32.toNatClampNeg x2)) = (-1) → (vp_in x2 40 ∧ W_X6_get G ρ d 1 (mA μ1 93 (Int32.toNatClampNeg x2)) 3 μ1 (fun v3 μ2 => ((¬ v3 = 1 → B_X6_carried_29 G ρ (d + 1) x1 (x2 + 1) μ2 Q) ∧ (v3 = 1 → (vp_in x2 40 ∧ W_X6_carries G ρ d x1 x2 (mA μ2 93 (Int32.toNatClampNeg x2)) μ2 (fun v5 μ4 => ((¬ v5 = 0 → B_X6_carried_29 G ρ (d + 1) x1 (x2 + 1) μ4 Q) ∧ (v5 = 0 → Q 0 μ4)))))))))))))) : B_X6_carried_60 G ρ (d + 1) x1 x2 s0 s1 μ Q := by
  unfold B_X6_carried_60
  refine mm_stA (k := 93) isA_93 rfl rfl dX6_carried_60 h.1 ?_
  have h := h.2
  generalize eμ1 : mm_sA μ 93 (Int32.toNatClampNeg s1) s0 = μ1
  have h := h μ1 eμ1.symm
  refine am_aloadr_n (x := some ρ.1) dX6_carried_61 rfl rfl ?_
  refine mm_gA (k := 93) rfl isA_93 q2412 dX6_carried_62 ?_
  refine am_iload_n (x := x2) dX6_carried_65 rfl rfl ?_
  refine mm_ldA (k := 93) isA_93 rfl rfl dX6_carried_66 h.1 ?_
  have h := h.2
  refine am_iconst (v := (-1)) dX6_carried_67 (by decide) ?_
  refine am_icmp_eq (tgt := 104) dX6_carried_68 (by decide) (fun c => ?_) (fun c => ?_)
  · have h := h.1 c
    refine am_iinc (x := x2) (v := (x2 + 1)) (L' := [(4, .int (x2 + 1)), (0, va_rf (some ρ.1)), (2, .int x1)]) dX6_carried_104 rfl rfl (Nat.le_of_ble_eq_true rfl) rfl ?_
    refine am_goto (tgt := 29) dX6_carried_107 (by decide) ?_
    exact am_lss h rfl
  · have h := h.2 c
    refine am_aloadr_n (x := some ρ.1) dX6_carried_71 rfl rfl ?_
    refine am_iconst (v := 1) dX6_carried_72 (by decide) ?_
    refine am_aloadr_n (x := some ρ.1) dX6_carried_73 rfl rfl ?_
    refine mm_gA (k := 93) rfl isA_93 q2412 dX6_carried_74 ?_
    refine am_iload_n (x := x2) dX6_carried_77 rfl rfl ?_
    refine mm_ldA (k := 93) isA_93 rfl rfl dX6_carried_78 h.1 ?_
    have h := h.2
    refine am_iconst (v := 3) dX6_carried_79 (by decide) ?_
    refine mm_callV (Mc := m_X6_get) (as := [.int 1, .int (mA μ1 93 (Int32.toNatClampNeg x2)), .int 3]) rfl bm_X6_get q2666 q2668 qs88 (Nat.le_of_ble_eq_true rfl) dX6_carried_80 (mt_X6_get (mm_k2i h (fun v3 μ2 h => ?_)))
    refine am_iconst (v := 1) dX6_carried_83 (by decide) ?_
    refine am_icmp_ne (tgt := 104) dX6_carried_84 (by decide) (fun c => ?_) (fun c => ?_)
    · have h := h.1 c
      refine am_iinc (x := x2) (v := (x2 + 1)) (L' := [(4, .int (x2 + 1)), (0, va_rf (some ρ.1)), (2, .int x1)]) dX6_carried_104 rfl rfl (Nat.le_of_ble_eq_true rfl) rfl ?_
      refine am_goto (tgt := 29) dX6_carried_107 (by decide) ?_
      exact am_lss h rfl
    · have h := h.2 c
      refine am_aloadr_n (x := some ρ.1) dX6_carried_87 rfl rfl ?_
      refine am_iload_n (x := x1) dX6_carried_88 rfl rfl ?_
      refine am_iload_n (x := x2) dX6_carried_89 rfl rfl ?_
      refine am_aloadr_n (x := some ρ.1) dX6_carried_90 rfl rfl ?_
      refine mm_gA (k := 93) rfl isA_93 q2412 dX6_carried_91 ?_
      refine am_iload_n (x := x2) dX6_carried_94 rfl rfl ?_
      refine mm_ldA (k := 93) isA_93 rfl rfl dX6_carried_95 h.1 ?_
      have h := h.2
      refine mm_callV (Mc := m_X6_carries) (as := [.int x1, .int x2, .int (mA μ2 93 (Int32.toNatClampNeg x2))]) rfl bm_X6_carries q3010 q3012 qs153 (Nat.le_of_ble_eq_true rfl) dX6_carried_96 (mt_X6_carries (mm_k2i h (fun v5 μ4 h => ?_)))
      refine am_if_ne (tgt := 104) dX6_carried_99 (by decide) (fun c => ?_) (fun c => ?_)
      · have h := h.1 c
        refine am_iinc (x := x2) (v := (x2 + 1)) (L' := [(4, .int (x2 + 1)), (0, va_rf (some ρ.1)), (2, .int x1)]) dX6_carried_104 rfl rfl (Nat.le_of_ble_eq_true rfl) rfl ?_
        refine am_goto (tgt := 29) dX6_carried_107 (by decide) ?_
        exact am_lss h rfl
      · have h := h.2 c
        refine am_iconst (v := 0) dX6_carried_102 (by decide) ?_
        exact am_zret rfl rfl dX6_carried_103 ⟨_, _, rfl, rfl, h⟩
theorem B_X6_carried_112_f {G : am_G} {ρ : mm_F} {d : Nat} {x1 : Int32} {x2 : Int32} {μ : mm_S} {Q : Int32 → mm_S → Prop} (h : ((1600 ≤ x2 → B_X6_carried_163 G ρ (d + 1) x1 0 μ Q) ∧ (¬ 1600 ≤ x2 → (vp_in x2 1600 ∧ (vp_in x2 1600 ∧ ∀ μ1 : mm_S, μ1 = mm_sA μ 85 (Int32.toNatClampNeg x2) (mA μ 36 (Int32.toNatClampNeg x2)) → ((vp_in x2 1600 ∧ (vp_in x2 1600 ∧ ∀ μ2 : mm_S, μ2 = mm_sA μ1 86 (Int32.toNatClampNeg x2) (mA μ1 37 (Int32.toNatClampNeg x2)) → ((vp_in x2 1600 ∧ (vp_in x2 1600 ∧ ((mA μ2 38 (Int32.toNatClampNeg x2)) = 0 ∨ (mA μ2 38 (Int32.toNatClampNeg x2)) = 1) ∧ ∀ μ3 : mm_S, μ3 = mm_sA μ2 88 (Int32.toNatClampNeg x2) (mA μ2 38 (Int32.toNatClampNeg x2)) → (B_X6_carried_112 G ρ (d + 1) x1 (x2 + 1) μ3 Q)))))))))))) : B_X6_carried_112 G ρ (d + 1) x1 x2 μ Q := by
  unfold B_X6_carried_112
  refine am_iload_n (x := x2) dX6_carried_112 rfl rfl ?_
  refine am_sipush (v := 1600) dX6_carried_113 (by decide) ?_
  refine am_icmp_ge (tgt := 161) dX6_carried_116 (by decide) (fun c => ?_) (fun c => ?_)
  · have h := h.1 c
    refine am_iconst (v := 0) dX6_carried_161 (by decide) ?_
    refine am_istore_n (L' := [(4, .int 0), (0, va_rf (some ρ.1)), (2, .int x1)]) dX6_carried_162 rfl (Nat.le_of_ble_eq_true rfl) rfl ?_
    exact am_lss h rfl
  · have h := h.2 c
    refine am_aloadr_n (x := some ρ.1) dX6_carried_119 rfl rfl ?_
    refine mm_gA (k := 85) rfl isA_85 q2404 dX6_carried_120 ?_
    refine am_iload_n (x := x2) dX6_carried_123 rfl rfl ?_
    refine am_aloadr_n (x := some ρ.1) dX6_carried_124 rfl rfl ?_
    refine mm_gA (k := 36) rfl isA_36 q2355 dX6_carried_125 ?_
    refine am_iload_n (x := x2) dX6_carried_128 rfl rfl ?_
    refine mm_ldA (k := 36) isA_36 rfl rfl dX6_carried_129 h.1 ?_
    have h := h.2
    refine mm_stA (k := 85) isA_85 rfl rfl dX6_carried_130 h.1 ?_
    have h := h.2
    generalize eμ1 : mm_sA μ 85 (Int32.toNatClampNeg x2) (mA μ 36 (Int32.toNatClampNeg x2)) = μ1
    have h := h μ1 eμ1.symm
    refine am_aloadr_n (x := some ρ.1) dX6_carried_131 rfl rfl ?_
    refine mm_gA (k := 86) rfl isA_86 q2405 dX6_carried_132 ?_
    refine am_iload_n (x := x2) dX6_carried_135 rfl rfl ?_
    refine am_aloadr_n (x := some ρ.1) dX6_carried_136 rfl rfl ?_
    refine mm_gA (k := 37) rfl isA_37 q2356 dX6_carried_137 ?_
    refine am_iload_n (x := x2) dX6_carried_140 rfl rfl ?_
    refine mm_ldA (k := 37) isA_37 rfl rfl dX6_carried_141 h.1 ?_
    have h := h.2
    refine mm_stA (k := 86) isA_86 rfl rfl dX6_carried_142 h.1 ?_
    have h := h.2
    generalize eμ2 : mm_sA μ1 86 (Int32.toNatClampNeg x2) (mA μ1 37 (Int32.toNatClampNeg x2)) = μ2
    have h := h μ2 eμ2.symm
    refine am_aloadr_n (x := some ρ.1) dX6_carried_143 rfl rfl ?_
    refine mm_gA (k := 88) rfl isA_88 q2407 dX6_carried_144 ?_
    refine am_iload_n (x := x2) dX6_carried_147 rfl rfl ?_
    refine am_aloadr_n (x := some ρ.1) dX6_carried_148 rfl rfl ?_
    refine mm_gA (k := 38) rfl isA_38 q2357 dX6_carried_149 ?_
    refine am_iload_n (x := x2) dX6_carried_152 rfl rfl ?_
    refine mm_ldZ (k := 38) isA_38 rfl rfl dX6_carried_153 h.1 ?_
    have h := h.2
    refine mm_stZ (k := 88) isA_88 rfl rfl h.2.1 dX6_carried_154 h.1 ?_
    have h := h.2.2
    generalize eμ3 : mm_sA μ2 88 (Int32.toNatClampNeg x2) (mA μ2 38 (Int32.toNatClampNeg x2)) = μ3
    have h := h μ3 eμ3.symm
    refine am_iinc (x := x2) (v := (x2 + 1)) (L' := [(4, .int (x2 + 1)), (0, va_rf (some ρ.1)), (2, .int x1)]) dX6_carried_155 rfl rfl (Nat.le_of_ble_eq_true rfl) rfl ?_
    refine am_goto (tgt := 112) dX6_carried_158 (by decide) ?_
    exact am_lss h rfl
theorem B_X6_carried_163_f {G : am_G} {ρ : mm_F} {d : Nat} {x1 : Int32} {x2 : Int32} {μ : mm_S} {Q : Int32 → mm_S → Prop} (h : (((mI μ 33) ≤ x2 → B_X6_carried_281 G ρ (d + 1) x1 0 μ Q) ∧ (¬ (mI μ 33) ≤ x2 → (vp_in x2 40 ∧ (vp_in x2 40 ∧ ∀ μ1 : mm_S, μ1 = mm_sA μ 90 (Int32.toNatClampNeg x2) (mA μ 35 (Int32.toNatClampNeg x2)) → ((vp_in x2 40 ∧ ((¬ (mA μ1 93 (Int32.toNatClampNeg x2)) = (-1) → (vp_in x2 40 ∧ W_X6_get G ρ d 1 (mA μ1 93 (Int32.toNatClampNeg x2)) 3 μ1 (fun v3 μ2 => ((¬ v3 = 1 → B_X6_carried_163 G ρ (d + 1) x1 (x2 + 1) μ2 Q) ∧ (v3 = 1 → (vp_in x2 40 ∧ W_X6_loses G ρ d x2 (mA μ2 93 (Int32.toNatClampNeg x2)) μ2 (fun μ4 => B_X6_carried_225 G ρ (d + 1) x1 x2 0 μ4 Q))))))) ∧ ((mA μ1 93 (Int32.toNatClampNeg x2)) = (-1) → B_X6_carried_163 G ρ (d + 1) x1 (x2 + 1) μ1 Q))))))))) : B_X6_carried_163 G ρ (d + 1) x1 x2 μ Q := by
  unfold B_X6_carried_163
  refine am_iload_n (x := x2) dX6_carried_163 rfl rfl ?_
  refine am_aloadr_n (x := some ρ.1) dX6_carried_164 rfl rfl ?_
  refine mm_gI (k := 33) rfl (Or.inl rfl) (by decide) q2352 dX6_carried_165 ?_
  refine am_icmp_ge (tgt := 279) dX6_carried_168 (by decide) (fun c => ?_) (fun c => ?_)
  · have h := h.1 c
    refine am_iconst (v := 0) dX6_carried_279 (by decide) ?_
    refine am_istore_n (L' := [(4, .int 0), (0, va_rf (some ρ.1)), (2, .int x1)]) dX6_carried_280 rfl (Nat.le_of_ble_eq_true rfl) rfl ?_
    exact am_lss h rfl
  · have h := h.2 c
    refine am_aloadr_n (x := some ρ.1) dX6_carried_171 rfl rfl ?_
    refine mm_gA (k := 90) rfl isA_90 q2409 dX6_carried_172 ?_
    refine am_iload_n (x := x2) dX6_carried_175 rfl rfl ?_
    refine am_aloadr_n (x := some ρ.1) dX6_carried_176 rfl rfl ?_
    refine mm_gA (k := 35) rfl isA_35 q2354 dX6_carried_177 ?_
    refine am_iload_n (x := x2) dX6_carried_180 rfl rfl ?_
    refine mm_ldA (k := 35) isA_35 rfl rfl dX6_carried_181 h.1 ?_
    have h := h.2
    refine mm_stA (k := 90) isA_90 rfl rfl dX6_carried_182 h.1 ?_
    have h := h.2
    generalize eμ1 : mm_sA μ 90 (Int32.toNatClampNeg x2) (mA μ 35 (Int32.toNatClampNeg x2)) = μ1
    have h := h μ1 eμ1.symm
    refine am_aloadr_n (x := some ρ.1) dX6_carried_183 rfl rfl ?_
    refine mm_gA (k := 93) rfl isA_93 q2412 dX6_carried_184 ?_
    refine am_iload_n (x := x2) dX6_carried_187 rfl rfl ?_
    refine mm_ldA (k := 93) isA_93 rfl rfl dX6_carried_188 h.1 ?_
    have h := h.2
    refine am_iconst (v := (-1)) dX6_carried_189 (by decide) ?_
    refine am_icmp_ne (tgt := 196) dX6_carried_190 (by decide) (fun c => ?_) (fun c => ?_)
    · have h := h.1 c
      refine am_aloadr_n (x := some ρ.1) dX6_carried_196 rfl rfl ?_
      refine am_iconst (v := 1) dX6_carried_197 (by decide) ?_
      refine am_aloadr_n (x := some ρ.1) dX6_carried_198 rfl rfl ?_
      refine mm_gA (k := 93) rfl isA_93 q2412 dX6_carried_199 ?_
      refine am_iload_n (x := x2) dX6_carried_202 rfl rfl ?_
      refine mm_ldA (k := 93) isA_93 rfl rfl dX6_carried_203 h.1 ?_
      have h := h.2
      refine am_iconst (v := 3) dX6_carried_204 (by decide) ?_
      refine mm_callV (Mc := m_X6_get) (as := [.int 1, .int (mA μ1 93 (Int32.toNatClampNeg x2)), .int 3]) rfl bm_X6_get q2666 q2668 qs88 (Nat.le_of_ble_eq_true rfl) dX6_carried_205 (mt_X6_get (mm_k2i h (fun v3 μ2 h => ?_)))
      refine am_iconst (v := 1) dX6_carried_208 (by decide) ?_
      refine am_icmp_ne (tgt := 273) dX6_carried_209 (by decide) (fun c => ?_) (fun c => ?_)
      · have h := h.1 c
        refine am_iinc (x := x2) (v := (x2 + 1)) (L' := [(4, .int (x2 + 1)), (0, va_rf (some ρ.1)), (2, .int x1)]) dX6_carried_273 rfl rfl (Nat.le_of_ble_eq_true rfl) rfl ?_
        refine am_goto (tgt := 163) dX6_carried_276 (by decide) ?_
        exact am_lss h rfl
      · have h := h.2 c
        refine am_aloadr_n (x := some ρ.1) dX6_carried_212 rfl rfl ?_
        refine am_iload_n (x := x2) dX6_carried_213 rfl rfl ?_
        refine am_aloadr_n (x := some ρ.1) dX6_carried_214 rfl rfl ?_
        refine mm_gA (k := 93) rfl isA_93 q2412 dX6_carried_215 ?_
        refine am_iload_n (x := x2) dX6_carried_218 rfl rfl ?_
        refine mm_ldA (k := 93) isA_93 rfl rfl dX6_carried_219 h.1 ?_
        have h := h.2
        refine mm_callV (Mc := m_X6_loses) (as := [.int x2, .int (mA μ2 93 (Int32.toNatClampNeg x2))]) rfl bm_X6_loses q3022 q3024 qs156 (Nat.le_of_ble_eq_true rfl) dX6_carried_220 (mt_X6_loses (mm_k2v h (fun μ4 h => ?_)))
        refine am_iconst (v := 0) dX6_carried_223 (by decide) ?_
        refine am_istore_n (L' := [(6, .int 0), (0, va_rf (some ρ.1)), (2, .int x1), (4, .int x2)]) dX6_carried_224 rfl (Nat.le_of_ble_eq_true rfl) rfl ?_
        exact am_lss h rfl
    · have h := h.2 c
      refine am_goto (tgt := 273) dX6_carried_193 (by decide) ?_
      refine am_iinc (x := x2) (v := (x2 + 1)) (L' := [(4, .int (x2 + 1)), (0, va_rf (some ρ.1)), (2, .int x1)]) dX6_carried_273 rfl rfl (Nat.le_of_ble_eq_true rfl) rfl ?_
      refine am_goto (tgt := 163) dX6_carried_276 (by decide) ?_
      exact am_lss h rfl
theorem B_X6_carried_225_f {G : am_G} {ρ : mm_F} {d : Nat} {x1 : Int32} {x2 : Int32} {x3 : Int32} {μ : mm_S} {Q : Int32 → mm_S → Prop} (h : ((40 ≤ x3 → B_X6_carried_163 G ρ (d + 1) x1 (x2 + 1) μ Q) ∧ (¬ 40 ≤ x3 → (vp_in ((40 * x2) + x3) 1600 ∧ (((mA μ 89 (Int32.toNatClampNeg ((40 * x2) + x3))) = 0 → B_X6_carried_225 G ρ (d + 1) x1 x2 (x3 + 1) μ Q) ∧ (¬ (mA μ 89 (Int32.toNatClampNeg ((40 * x2) + x3))) = 0 → (vp_in ((40 * x2) + x3) 1600 ∧ (vp_in ((40 * x2) + x3) 1600 ∧ ∀ μ1 : mm_S, μ1 = mm_sA μ 36 (Int32.toNatClampNeg ((40 * x2) + x3)) (mA μ 87 (Int32.toNatClampNeg ((40 * x2) + x3))) → (B_X6_carried_225 G ρ (d + 1) x1 x2 (x3 + 1) μ1 Q))))))))) : B_X6_carried_225 G ρ (d + 1) x1 x2 x3 μ Q := by
  unfold B_X6_carried_225
  refine am_iload_n (x := x3) dX6_carried_225 rfl rfl ?_
  refine am_bipush (v := 40) dX6_carried_226 (by decide) ?_
  refine am_icmp_ge (tgt := 273) dX6_carried_228 (by decide) (fun c => ?_) (fun c => ?_)
  · have h := h.1 c
    refine am_iinc (x := x2) (v := (x2 + 1)) (L' := [(4, .int (x2 + 1)), (0, va_rf (some ρ.1)), (2, .int x1), (6, .int x3)]) dX6_carried_273 rfl rfl (Nat.le_of_ble_eq_true rfl) rfl ?_
    refine am_goto (tgt := 163) dX6_carried_276 (by decide) ?_
    exact am_lss h rfl
  · have h := h.2 c
    refine am_aloadr_n (x := some ρ.1) dX6_carried_231 rfl rfl ?_
    refine mm_gA (k := 89) rfl isA_89 q2408 dX6_carried_232 ?_
    refine am_bipush (v := 40) dX6_carried_235 (by decide) ?_
    refine am_iload_n (x := x2) dX6_carried_237 rfl rfl ?_
    refine am_imul dX6_carried_238 ?_
    refine am_iload_n (x := x3) dX6_carried_239 rfl rfl ?_
    refine am_iadd dX6_carried_240 ?_
    refine mm_ldZ (k := 89) isA_89 rfl rfl dX6_carried_241 h.1 ?_
    have h := h.2
    refine am_if_eq (tgt := 267) dX6_carried_242 (by decide) (fun c => ?_) (fun c => ?_)
    · have h := h.1 c
      refine am_iinc (x := x3) (v := (x3 + 1)) (L' := [(6, .int (x3 + 1)), (0, va_rf (some ρ.1)), (2, .int x1), (4, .int x2)]) dX6_carried_267 rfl rfl (Nat.le_of_ble_eq_true rfl) rfl ?_
      refine am_goto (tgt := 225) dX6_carried_270 (by decide) ?_
      exact am_lss h rfl
    · have h := h.2 c
      refine am_aloadr_n (x := some ρ.1) dX6_carried_245 rfl rfl ?_
      refine mm_gA (k := 36) rfl isA_36 q2355 dX6_carried_246 ?_
      refine am_bipush (v := 40) dX6_carried_249 (by decide) ?_
      refine am_iload_n (x := x2) dX6_carried_251 rfl rfl ?_
      refine am_imul dX6_carried_252 ?_
      refine am_iload_n (x := x3) dX6_carried_253 rfl rfl ?_
      refine am_iadd dX6_carried_254 ?_
      refine am_aloadr_n (x := some ρ.1) dX6_carried_255 rfl rfl ?_
      refine mm_gA (k := 87) rfl isA_87 q2406 dX6_carried_256 ?_
      refine am_bipush (v := 40) dX6_carried_259 (by decide) ?_
      refine am_iload_n (x := x2) dX6_carried_261 rfl rfl ?_
      refine am_imul dX6_carried_262 ?_
      refine am_iload_n (x := x3) dX6_carried_263 rfl rfl ?_
      refine am_iadd dX6_carried_264 ?_
      refine mm_ldA (k := 87) isA_87 rfl rfl dX6_carried_265 h.1 ?_
      have h := h.2
      refine mm_stA (k := 36) isA_36 rfl rfl dX6_carried_266 h.1 ?_
      have h := h.2
      generalize eμ1 : mm_sA μ 36 (Int32.toNatClampNeg ((40 * x2) + x3)) (mA μ 87 (Int32.toNatClampNeg ((40 * x2) + x3))) = μ1
      have h := h μ1 eμ1.symm
      refine am_iinc (x := x3) (v := (x3 + 1)) (L' := [(6, .int (x3 + 1)), (0, va_rf (some ρ.1)), (2, .int x1), (4, .int x2)]) dX6_carried_267 rfl rfl (Nat.le_of_ble_eq_true rfl) rfl ?_
      refine am_goto (tgt := 225) dX6_carried_270 (by decide) ?_
      exact am_lss h rfl
theorem B_X6_carried_281_f {G : am_G} {ρ : mm_F} {d : Nat} {x1 : Int32} {x2 : Int32} {μ : mm_S} {Q : Int32 → mm_S → Prop} (h : ((769 ≤ x2 → W_X6_copy G ρ d 1 0 μ (fun μ1 => B_X6_carried_336 G ρ (d + 1) x1 0 μ1 Q)) ∧ (¬ 769 ≤ x2 → (vp_in x2 2307 ∧ (vp_in (1538 + x2) 2307 ∧ (vp_in x2 769 ∧ ∀ μ2 : mm_S, μ2 = mm_sA μ 94 (Int32.toNatClampNeg x2) (mA μ 23 (Int32.toNatClampNeg (1538 + x2))) → ((vp_in (1538 + x2) 2307 ∧ ∀ μ3 : mm_S, μ3 = mm_sA μ2 23 (Int32.toNatClampNeg (1538 + x2)) (mA μ 23 (Int32.toNatClampNeg x2)) → (B_X6_carried_281 G ρ (d + 1) x1 (x2 + 1) μ3 Q))))))))) : B_X6_carried_281 G ρ (d + 1) x1 x2 μ Q := by
  unfold B_X6_carried_281
  refine am_iload_n (x := x2) dX6_carried_281 rfl rfl ?_
  refine am_sipush (v := 769) dX6_carried_282 (by decide) ?_
  refine am_icmp_ge (tgt := 328) dX6_carried_285 (by decide) (fun c => ?_) (fun c => ?_)
  · have h := h.1 c
    refine am_aloadr_n (x := some ρ.1) dX6_carried_328 rfl rfl ?_
    refine am_iconst (v := 1) dX6_carried_329 (by decide) ?_
    refine am_iconst (v := 0) dX6_carried_330 (by decide) ?_
    refine mm_callV (Mc := m_X6_copy) (as := [.int 1, .int 0]) rfl bm_X6_copy q2775 q2777 qs115 (Nat.le_of_ble_eq_true rfl) dX6_carried_331 (mt_X6_copy (mm_k2v h (fun μ1 h => ?_)))
    refine am_iconst (v := 0) dX6_carried_334 (by decide) ?_
    refine am_istore_n (L' := [(4, .int 0), (0, va_rf (some ρ.1)), (2, .int x1)]) dX6_carried_335 rfl (Nat.le_of_ble_eq_true rfl) rfl ?_
    exact am_lss h rfl
  · have h := h.2 c
    refine am_aloadr_n (x := some ρ.1) dX6_carried_288 rfl rfl ?_
    refine mm_gA (k := 23) rfl isA_23 q2342 dX6_carried_289 ?_
    refine am_iload_n (x := x2) dX6_carried_292 rfl rfl ?_
    refine mm_ldA (k := 23) isA_23 rfl rfl dX6_carried_293 h.1 ?_
    have h := h.2
    refine am_istore_n (L' := [(6, .int (mA μ 23 (Int32.toNatClampNeg x2))), (0, va_rf (some ρ.1)), (2, .int x1), (4, .int x2)]) dX6_carried_294 rfl (Nat.le_of_ble_eq_true rfl) rfl ?_
    refine am_aloadr_n (x := some ρ.1) dX6_carried_295 rfl rfl ?_
    refine mm_gA (k := 94) rfl isA_94 q2413 dX6_carried_296 ?_
    refine am_iload_n (x := x2) dX6_carried_299 rfl rfl ?_
    refine am_aloadr_n (x := some ρ.1) dX6_carried_300 rfl rfl ?_
    refine mm_gA (k := 23) rfl isA_23 q2342 dX6_carried_301 ?_
    refine am_sipush (v := 1538) dX6_carried_304 (by decide) ?_
    refine am_iload_n (x := x2) dX6_carried_307 rfl rfl ?_
    refine am_iadd dX6_carried_308 ?_
    refine mm_ldA (k := 23) isA_23 rfl rfl dX6_carried_309 h.1 ?_
    have h := h.2
    refine mm_stA (k := 94) isA_94 rfl rfl dX6_carried_310 h.1 ?_
    have h := h.2
    generalize eμ2 : mm_sA μ 94 (Int32.toNatClampNeg x2) (mA μ 23 (Int32.toNatClampNeg (1538 + x2))) = μ2
    have h := h μ2 eμ2.symm
    refine am_aloadr_n (x := some ρ.1) dX6_carried_311 rfl rfl ?_
    refine mm_gA (k := 23) rfl isA_23 q2342 dX6_carried_312 ?_
    refine am_sipush (v := 1538) dX6_carried_315 (by decide) ?_
    refine am_iload_n (x := x2) dX6_carried_318 rfl rfl ?_
    refine am_iadd dX6_carried_319 ?_
    refine am_iload_n (x := (mA μ 23 (Int32.toNatClampNeg x2))) dX6_carried_320 rfl rfl ?_
    refine mm_stA (k := 23) isA_23 rfl rfl dX6_carried_321 h.1 ?_
    have h := h.2
    generalize eμ3 : mm_sA μ2 23 (Int32.toNatClampNeg (1538 + x2)) (mA μ 23 (Int32.toNatClampNeg x2)) = μ3
    have h := h μ3 eμ3.symm
    refine am_iinc (x := x2) (v := (x2 + 1)) (L' := [(4, .int (x2 + 1)), (6, .int (mA μ 23 (Int32.toNatClampNeg x2))), (0, va_rf (some ρ.1)), (2, .int x1)]) dX6_carried_322 rfl rfl (Nat.le_of_ble_eq_true rfl) rfl ?_
    refine am_goto (tgt := 281) dX6_carried_325 (by decide) ?_
    exact am_lss h rfl
theorem B_X6_carried_336_f {G : am_G} {ρ : mm_F} {d : Nat} {x1 : Int32} {x2 : Int32} {μ : mm_S} {Q : Int32 → mm_S → Prop} (h : (((mI μ 33) ≤ x2 → W_X6_checked G ρ d x1 μ (fun v2 μ1 => ((¬ v2 = 0 → (∀ μ3 : mm_S, μ3 = mm_sI μ1 27 ((mI μ1 27) + 1) → ((∀ μ4 : mm_S, μ4 = mm_sI μ3 29 x1 → (B_X6_carried_515 G ρ (d + 1) 0 μ4 Q))))) ∧ (v2 = 0 → W_X6_copy G ρ d 2 0 μ1 (fun μ5 => B_X6_carried_388 G ρ (d + 1) 0 μ5 Q))))) ∧ (¬ (mI μ 33) ≤ x2 → (vp_in x2 40 ∧ (((mA μ 93 (Int32.toNatClampNeg x2)) = (-1) → B_X6_carried_336 G ρ (d + 1) x1 (x2 + 1) μ Q) ∧ (¬ (mA μ 93 (Int32.toNatClampNeg x2)) = (-1) → (vp_in x2 40 ∧ (vp_in x2 40 ∧ ∀ μ6 : mm_S, μ6 = mm_sA μ 35 (Int32.toNatClampNeg x2) (mA μ 93 (Int32.toNatClampNeg x2)) → (B_X6_carried_336 G ρ (d + 1) x1 (x2 + 1) μ6 Q))))))))) : B_X6_carried_336 G ρ (d + 1) x1 x2 μ Q := by
  unfold B_X6_carried_336
  refine am_iload_n (x := x2) dX6_carried_336 rfl rfl ?_
  refine am_aloadr_n (x := some ρ.1) dX6_carried_337 rfl rfl ?_
  refine mm_gI (k := 33) rfl (Or.inl rfl) (by decide) q2352 dX6_carried_338 ?_
  refine am_icmp_ge (tgt := 372) dX6_carried_341 (by decide) (fun c => ?_) (fun c => ?_)
  · have h := h.1 c
    refine am_aloadr_n (x := some ρ.1) dX6_carried_372 rfl rfl ?_
    refine am_iload_n (x := x1) dX6_carried_373 rfl rfl ?_
    refine mm_callV (Mc := m_X6_checked) (as := [.int x1]) rfl bm_X6_checked q3026 q3028 qs157 (Nat.le_of_ble_eq_true rfl) dX6_carried_374 (mt_X6_checked (mm_k2i h (fun v2 μ1 h => ?_)))
    refine am_if_ne (tgt := 498) dX6_carried_377 (by decide) (fun c => ?_) (fun c => ?_)
    · have h := h.1 c
      refine am_aloadr_n (x := some ρ.1) dX6_carried_498 rfl rfl ?_
      refine am_dup dX6_carried_499 (am_rf_cat _) ?_
      refine mm_gI (k := 27) rfl (Or.inl rfl) (by decide) q2346 dX6_carried_500 ?_
      refine am_iconst (v := 1) dX6_carried_503 (by decide) ?_
      refine am_iadd dX6_carried_504 ?_
      refine mm_pI (k := 27) rfl rfl rfl (by decide) q2346 rfl dX6_carried_505 ?_
      generalize eμ3 : mm_sI μ1 27 ((mI μ1 27) + 1) = μ3
      have h := h μ3 eμ3.symm
      refine am_aloadr_n (x := some ρ.1) dX6_carried_508 rfl rfl ?_
      refine am_iload_n (x := x1) dX6_carried_509 rfl rfl ?_
      refine mm_pI (k := 29) rfl rfl rfl (by decide) q2348 rfl dX6_carried_510 ?_
      generalize eμ4 : mm_sI μ3 29 x1 = μ4
      have h := h μ4 eμ4.symm
      refine am_iconst (v := 0) dX6_carried_513 (by decide) ?_
      refine am_istore_n (L' := [(4, .int 0), (0, va_rf (some ρ.1)), (2, .int x1)]) dX6_carried_514 rfl (Nat.le_of_ble_eq_true rfl) rfl ?_
      exact am_lss h rfl
    · have h := h.2 c
      refine am_aloadr_n (x := some ρ.1) dX6_carried_380 rfl rfl ?_
      refine am_iconst (v := 2) dX6_carried_381 (by decide) ?_
      refine am_iconst (v := 0) dX6_carried_382 (by decide) ?_
      refine mm_callV (Mc := m_X6_copy) (as := [.int 2, .int 0]) rfl bm_X6_copy q2775 q2777 qs115 (Nat.le_of_ble_eq_true rfl) dX6_carried_383 (mt_X6_copy (mm_k2v h (fun μ5 h => ?_)))
      refine am_iconst (v := 0) dX6_carried_386 (by decide) ?_
      refine am_istore_n (L' := [(4, .int 0), (0, va_rf (some ρ.1)), (2, .int x1)]) dX6_carried_387 rfl (Nat.le_of_ble_eq_true rfl) rfl ?_
      exact am_lss h rfl
  · have h := h.2 c
    refine am_aloadr_n (x := some ρ.1) dX6_carried_344 rfl rfl ?_
    refine mm_gA (k := 93) rfl isA_93 q2412 dX6_carried_345 ?_
    refine am_iload_n (x := x2) dX6_carried_348 rfl rfl ?_
    refine mm_ldA (k := 93) isA_93 rfl rfl dX6_carried_349 h.1 ?_
    have h := h.2
    refine am_iconst (v := (-1)) dX6_carried_350 (by decide) ?_
    refine am_icmp_eq (tgt := 366) dX6_carried_351 (by decide) (fun c => ?_) (fun c => ?_)
    · have h := h.1 c
      refine am_iinc (x := x2) (v := (x2 + 1)) (L' := [(4, .int (x2 + 1)), (0, va_rf (some ρ.1)), (2, .int x1)]) dX6_carried_366 rfl rfl (Nat.le_of_ble_eq_true rfl) rfl ?_
      refine am_goto (tgt := 336) dX6_carried_369 (by decide) ?_
      exact am_lss h rfl
    · have h := h.2 c
      refine am_aloadr_n (x := some ρ.1) dX6_carried_354 rfl rfl ?_
      refine mm_gA (k := 35) rfl isA_35 q2354 dX6_carried_355 ?_
      refine am_iload_n (x := x2) dX6_carried_358 rfl rfl ?_
      refine am_aloadr_n (x := some ρ.1) dX6_carried_359 rfl rfl ?_
      refine mm_gA (k := 93) rfl isA_93 q2412 dX6_carried_360 ?_
      refine am_iload_n (x := x2) dX6_carried_363 rfl rfl ?_
      refine mm_ldA (k := 93) isA_93 rfl rfl dX6_carried_364 h.1 ?_
      have h := h.2
      refine mm_stA (k := 35) isA_35 rfl rfl dX6_carried_365 h.1 ?_
      have h := h.2
      generalize eμ6 : mm_sA μ 35 (Int32.toNatClampNeg x2) (mA μ 93 (Int32.toNatClampNeg x2)) = μ6
      have h := h μ6 eμ6.symm
      refine am_iinc (x := x2) (v := (x2 + 1)) (L' := [(4, .int (x2 + 1)), (0, va_rf (some ρ.1)), (2, .int x1)]) dX6_carried_366 rfl rfl (Nat.le_of_ble_eq_true rfl) rfl ?_
      refine am_goto (tgt := 336) dX6_carried_369 (by decide) ?_
      exact am_lss h rfl
theorem B_X6_carried_388_f {G : am_G} {ρ : mm_F} {d : Nat} {x2 : Int32} {μ : mm_S} {Q : Int32 → mm_S → Prop} (h : ((769 ≤ x2 → B_X6_carried_419 G ρ (d + 1) 0 μ Q) ∧ (¬ 769 ≤ x2 → (vp_in x2 769 ∧ (vp_in (1538 + x2) 2307 ∧ ∀ μ1 : mm_S, μ1 = mm_sA μ 23 (Int32.toNatClampNeg (1538 + x2)) (mA μ 94 (Int32.toNatClampNeg x2)) → (B_X6_carried_388 G ρ (d + 1) (x2 + 1) μ1 Q)))))) : B_X6_carried_388 G ρ (d + 1) x2 μ Q := by
  unfold B_X6_carried_388
  refine am_iload_n (x := x2) dX6_carried_388 rfl rfl ?_
  refine am_sipush (v := 769) dX6_carried_389 (by decide) ?_
  refine am_icmp_ge (tgt := 417) dX6_carried_392 (by decide) (fun c => ?_) (fun c => ?_)
  · have h := h.1 c
    refine am_iconst (v := 0) dX6_carried_417 (by decide) ?_
    refine am_istore_n (L' := [(4, .int 0), (0, va_rf (some ρ.1))]) dX6_carried_418 rfl (Nat.le_of_ble_eq_true rfl) rfl ?_
    exact am_lss h rfl
  · have h := h.2 c
    refine am_aloadr_n (x := some ρ.1) dX6_carried_395 rfl rfl ?_
    refine mm_gA (k := 23) rfl isA_23 q2342 dX6_carried_396 ?_
    refine am_sipush (v := 1538) dX6_carried_399 (by decide) ?_
    refine am_iload_n (x := x2) dX6_carried_402 rfl rfl ?_
    refine am_iadd dX6_carried_403 ?_
    refine am_aloadr_n (x := some ρ.1) dX6_carried_404 rfl rfl ?_
    refine mm_gA (k := 94) rfl isA_94 q2413 dX6_carried_405 ?_
    refine am_iload_n (x := x2) dX6_carried_408 rfl rfl ?_
    refine mm_ldA (k := 94) isA_94 rfl rfl dX6_carried_409 h.1 ?_
    have h := h.2
    refine mm_stA (k := 23) isA_23 rfl rfl dX6_carried_410 h.1 ?_
    have h := h.2
    generalize eμ1 : mm_sA μ 23 (Int32.toNatClampNeg (1538 + x2)) (mA μ 94 (Int32.toNatClampNeg x2)) = μ1
    have h := h μ1 eμ1.symm
    refine am_iinc (x := x2) (v := (x2 + 1)) (L' := [(4, .int (x2 + 1)), (0, va_rf (some ρ.1))]) dX6_carried_411 rfl rfl (Nat.le_of_ble_eq_true rfl) rfl ?_
    refine am_goto (tgt := 388) dX6_carried_414 (by decide) ?_
    exact am_lss h rfl
theorem B_X6_carried_419_f {G : am_G} {ρ : mm_F} {d : Nat} {x2 : Int32} {μ : mm_S} {Q : Int32 → mm_S → Prop} (h : ((1600 ≤ x2 → B_X6_carried_470 G ρ (d + 1) 0 μ Q) ∧ (¬ 1600 ≤ x2 → (vp_in x2 1600 ∧ (vp_in x2 1600 ∧ ∀ μ1 : mm_S, μ1 = mm_sA μ 36 (Int32.toNatClampNeg x2) (mA μ 85 (Int32.toNatClampNeg x2)) → ((vp_in x2 1600 ∧ (vp_in x2 1600 ∧ ∀ μ2 : mm_S, μ2 = mm_sA μ1 37 (Int32.toNatClampNeg x2) (mA μ1 86 (Int32.toNatClampNeg x2)) → ((vp_in x2 1600 ∧ (vp_in x2 1600 ∧ ((mA μ2 88 (Int32.toNatClampNeg x2)) = 0 ∨ (mA μ2 88 (Int32.toNatClampNeg x2)) = 1) ∧ ∀ μ3 : mm_S, μ3 = mm_sA μ2 38 (Int32.toNatClampNeg x2) (mA μ2 88 (Int32.toNatClampNeg x2)) → (B_X6_carried_419 G ρ (d + 1) (x2 + 1) μ3 Q)))))))))))) : B_X6_carried_419 G ρ (d + 1) x2 μ Q := by
  unfold B_X6_carried_419
  refine am_iload_n (x := x2) dX6_carried_419 rfl rfl ?_
  refine am_sipush (v := 1600) dX6_carried_420 (by decide) ?_
  refine am_icmp_ge (tgt := 468) dX6_carried_423 (by decide) (fun c => ?_) (fun c => ?_)
  · have h := h.1 c
    refine am_iconst (v := 0) dX6_carried_468 (by decide) ?_
    refine am_istore_n (L' := [(4, .int 0), (0, va_rf (some ρ.1))]) dX6_carried_469 rfl (Nat.le_of_ble_eq_true rfl) rfl ?_
    exact am_lss h rfl
  · have h := h.2 c
    refine am_aloadr_n (x := some ρ.1) dX6_carried_426 rfl rfl ?_
    refine mm_gA (k := 36) rfl isA_36 q2355 dX6_carried_427 ?_
    refine am_iload_n (x := x2) dX6_carried_430 rfl rfl ?_
    refine am_aloadr_n (x := some ρ.1) dX6_carried_431 rfl rfl ?_
    refine mm_gA (k := 85) rfl isA_85 q2404 dX6_carried_432 ?_
    refine am_iload_n (x := x2) dX6_carried_435 rfl rfl ?_
    refine mm_ldA (k := 85) isA_85 rfl rfl dX6_carried_436 h.1 ?_
    have h := h.2
    refine mm_stA (k := 36) isA_36 rfl rfl dX6_carried_437 h.1 ?_
    have h := h.2
    generalize eμ1 : mm_sA μ 36 (Int32.toNatClampNeg x2) (mA μ 85 (Int32.toNatClampNeg x2)) = μ1
    have h := h μ1 eμ1.symm
    refine am_aloadr_n (x := some ρ.1) dX6_carried_438 rfl rfl ?_
    refine mm_gA (k := 37) rfl isA_37 q2356 dX6_carried_439 ?_
    refine am_iload_n (x := x2) dX6_carried_442 rfl rfl ?_
    refine am_aloadr_n (x := some ρ.1) dX6_carried_443 rfl rfl ?_
    refine mm_gA (k := 86) rfl isA_86 q2405 dX6_carried_444 ?_
    refine am_iload_n (x := x2) dX6_carried_447 rfl rfl ?_
    refine mm_ldA (k := 86) isA_86 rfl rfl dX6_carried_448 h.1 ?_
    have h := h.2
    refine mm_stA (k := 37) isA_37 rfl rfl dX6_carried_449 h.1 ?_
    have h := h.2
    generalize eμ2 : mm_sA μ1 37 (Int32.toNatClampNeg x2) (mA μ1 86 (Int32.toNatClampNeg x2)) = μ2
    have h := h μ2 eμ2.symm
    refine am_aloadr_n (x := some ρ.1) dX6_carried_450 rfl rfl ?_
    refine mm_gA (k := 38) rfl isA_38 q2357 dX6_carried_451 ?_
    refine am_iload_n (x := x2) dX6_carried_454 rfl rfl ?_
    refine am_aloadr_n (x := some ρ.1) dX6_carried_455 rfl rfl ?_
    refine mm_gA (k := 88) rfl isA_88 q2407 dX6_carried_456 ?_
    refine am_iload_n (x := x2) dX6_carried_459 rfl rfl ?_
    refine mm_ldZ (k := 88) isA_88 rfl rfl dX6_carried_460 h.1 ?_
    have h := h.2
    refine mm_stZ (k := 38) isA_38 rfl rfl h.2.1 dX6_carried_461 h.1 ?_
    have h := h.2.2
    generalize eμ3 : mm_sA μ2 38 (Int32.toNatClampNeg x2) (mA μ2 88 (Int32.toNatClampNeg x2)) = μ3
    have h := h μ3 eμ3.symm
    refine am_iinc (x := x2) (v := (x2 + 1)) (L' := [(4, .int (x2 + 1)), (0, va_rf (some ρ.1))]) dX6_carried_462 rfl rfl (Nat.le_of_ble_eq_true rfl) rfl ?_
    refine am_goto (tgt := 419) dX6_carried_465 (by decide) ?_
    exact am_lss h rfl
theorem B_X6_carried_470_f {G : am_G} {ρ : mm_F} {d : Nat} {x2 : Int32} {μ : mm_S} {Q : Int32 → mm_S → Prop} (h : (((mI μ 33) ≤ x2 → Q 0 μ) ∧ (¬ (mI μ 33) ≤ x2 → (vp_in x2 40 ∧ (vp_in x2 40 ∧ ∀ μ1 : mm_S, μ1 = mm_sA μ 35 (Int32.toNatClampNeg x2) (mA μ 90 (Int32.toNatClampNeg x2)) → (B_X6_carried_470 G ρ (d + 1) (x2 + 1) μ1 Q)))))) : B_X6_carried_470 G ρ (d + 1) x2 μ Q := by
  unfold B_X6_carried_470
  refine am_iload_n (x := x2) dX6_carried_470 rfl rfl ?_
  refine am_aloadr_n (x := some ρ.1) dX6_carried_471 rfl rfl ?_
  refine mm_gI (k := 33) rfl (Or.inl rfl) (by decide) q2352 dX6_carried_472 ?_
  refine am_icmp_ge (tgt := 496) dX6_carried_475 (by decide) (fun c => ?_) (fun c => ?_)
  · have h := h.1 c
    refine am_iconst (v := 0) dX6_carried_496 (by decide) ?_
    exact am_zret rfl rfl dX6_carried_497 ⟨_, _, rfl, rfl, h⟩
  · have h := h.2 c
    refine am_aloadr_n (x := some ρ.1) dX6_carried_478 rfl rfl ?_
    refine mm_gA (k := 35) rfl isA_35 q2354 dX6_carried_479 ?_
    refine am_iload_n (x := x2) dX6_carried_482 rfl rfl ?_
    refine am_aloadr_n (x := some ρ.1) dX6_carried_483 rfl rfl ?_
    refine mm_gA (k := 90) rfl isA_90 q2409 dX6_carried_484 ?_
    refine am_iload_n (x := x2) dX6_carried_487 rfl rfl ?_
    refine mm_ldA (k := 90) isA_90 rfl rfl dX6_carried_488 h.1 ?_
    have h := h.2
    refine mm_stA (k := 35) isA_35 rfl rfl dX6_carried_489 h.1 ?_
    have h := h.2
    generalize eμ1 : mm_sA μ 35 (Int32.toNatClampNeg x2) (mA μ 90 (Int32.toNatClampNeg x2)) = μ1
    have h := h μ1 eμ1.symm
    refine am_iinc (x := x2) (v := (x2 + 1)) (L' := [(4, .int (x2 + 1)), (0, va_rf (some ρ.1))]) dX6_carried_490 rfl rfl (Nat.le_of_ble_eq_true rfl) rfl ?_
    refine am_goto (tgt := 470) dX6_carried_493 (by decide) ?_
    exact am_lss h rfl
theorem B_X6_carried_515_f {G : am_G} {ρ : mm_F} {d : Nat} {x2 : Int32} {μ : mm_S} {Q : Int32 → mm_S → Prop} (h : (((mI μ 33) ≤ x2 → Q 1 μ) ∧ (¬ (mI μ 33) ≤ x2 → (vp_in x2 40 ∧ (((mA μ 34 (Int32.toNatClampNeg x2)) = 0 → B_X6_carried_515 G ρ (d + 1) (x2 + 1) μ Q) ∧ (¬ (mA μ 34 (Int32.toNatClampNeg x2)) = 0 → (vp_in x2 40 ∧ ((¬ (mA μ 93 (Int32.toNatClampNeg x2)) = (-1) → B_X6_carried_515 G ρ (d + 1) (x2 + 1) μ Q) ∧ ((mA μ 93 (Int32.toNatClampNeg x2)) = (-1) → W_X6_ends G ρ d x2 μ (fun μ1 => B_X6_carried_515 G ρ (d + 1) (x2 + 1) μ1 Q)))))))))) : B_X6_carried_515 G ρ (d + 1) x2 μ Q := by
  unfold B_X6_carried_515
  refine am_iload_n (x := x2) dX6_carried_515 rfl rfl ?_
  refine am_aloadr_n (x := some ρ.1) dX6_carried_516 rfl rfl ?_
  refine mm_gI (k := 33) rfl (Or.inl rfl) (by decide) q2352 dX6_carried_517 ?_
  refine am_icmp_ge (tgt := 553) dX6_carried_520 (by decide) (fun c => ?_) (fun c => ?_)
  · have h := h.1 c
    refine am_iconst (v := 1) dX6_carried_553 (by decide) ?_
    exact am_zret rfl rfl dX6_carried_554 ⟨_, _, rfl, rfl, h⟩
  · have h := h.2 c
    refine am_aloadr_n (x := some ρ.1) dX6_carried_523 rfl rfl ?_
    refine mm_gA (k := 34) rfl isA_34 q2353 dX6_carried_524 ?_
    refine am_iload_n (x := x2) dX6_carried_527 rfl rfl ?_
    refine mm_ldZ (k := 34) isA_34 rfl rfl dX6_carried_528 h.1 ?_
    have h := h.2
    refine am_if_eq (tgt := 547) dX6_carried_529 (by decide) (fun c => ?_) (fun c => ?_)
    · have h := h.1 c
      refine am_iinc (x := x2) (v := (x2 + 1)) (L' := [(4, .int (x2 + 1)), (0, va_rf (some ρ.1))]) dX6_carried_547 rfl rfl (Nat.le_of_ble_eq_true rfl) rfl ?_
      refine am_goto (tgt := 515) dX6_carried_550 (by decide) ?_
      exact am_lss h rfl
    · have h := h.2 c
      refine am_aloadr_n (x := some ρ.1) dX6_carried_532 rfl rfl ?_
      refine mm_gA (k := 93) rfl isA_93 q2412 dX6_carried_533 ?_
      refine am_iload_n (x := x2) dX6_carried_536 rfl rfl ?_
      refine mm_ldA (k := 93) isA_93 rfl rfl dX6_carried_537 h.1 ?_
      have h := h.2
      refine am_iconst (v := (-1)) dX6_carried_538 (by decide) ?_
      refine am_icmp_ne (tgt := 547) dX6_carried_539 (by decide) (fun c => ?_) (fun c => ?_)
      · have h := h.1 c
        refine am_iinc (x := x2) (v := (x2 + 1)) (L' := [(4, .int (x2 + 1)), (0, va_rf (some ρ.1))]) dX6_carried_547 rfl rfl (Nat.le_of_ble_eq_true rfl) rfl ?_
        refine am_goto (tgt := 515) dX6_carried_550 (by decide) ?_
        exact am_lss h rfl
      · have h := h.2 c
        refine am_aloadr_n (x := some ρ.1) dX6_carried_542 rfl rfl ?_
        refine am_iload_n (x := x2) dX6_carried_543 rfl rfl ?_
        refine mm_callV (Mc := m_X6_ends) (as := [.int x2]) rfl bm_X6_ends q3030 q3032 qs158 (Nat.le_of_ble_eq_true rfl) dX6_carried_544 (mt_X6_ends (mm_k2v h (fun μ1 h => ?_)))
        refine am_iinc (x := x2) (v := (x2 + 1)) (L' := [(4, .int (x2 + 1)), (0, va_rf (some ρ.1))]) dX6_carried_547 rfl rfl (Nat.le_of_ble_eq_true rfl) rfl ?_
        refine am_goto (tgt := 515) dX6_carried_550 (by decide) ?_
        exact am_lss h rfl
theorem W_X6_behind_f {G : am_G} {ρ : mm_F} {d : Nat} {a1 : Int32} {μ : mm_S} {Q : Int32 → mm_S → Prop} (h : B_X6_behind_2 G ρ (d + 1) a1 0 μ Q) : W_X6_behind G ρ (d + 1) a1 μ Q := by
  unfold W_X6_behind
  refine am_iconst (v := 0) dX6_behind_0 (by decide) ?_
  refine am_istore_n (L' := [(4, .int 0), (0, va_rf (some ρ.1)), (2, .int a1)]) dX6_behind_1 rfl (Nat.le_of_ble_eq_true rfl) rfl ?_
  exact am_lss h rfl
theorem B_X6_behind_2_f {G : am_G} {ρ : mm_F} {d : Nat} {x1 : Int32} {x2 : Int32} {μ : mm_S} {Q : Int32 → mm_S → Prop} (h : W_X6_many G ρ d 1 μ (fun v2 μ1 => ((v2 ≤ x2 → Q (-1) μ1) ∧ (¬ v2 ≤ x2 → W_X6_get G ρ d 1 x2 4 μ1 (fun v4 μ3 => (vp_in x1 40 ∧ ((¬ v4 = (mA μ3 35 (Int32.toNatClampNeg x1)) → B_X6_behind_2 G ρ (d + 1) x1 (x2 + 1) μ3 Q) ∧ (v4 = (mA μ3 35 (Int32.toNatClampNeg x1)) → Q x2 μ3)))))))) : B_X6_behind_2 G ρ (d + 1) x1 x2 μ Q := by
  unfold B_X6_behind_2
  refine am_iload_n (x := x2) dX6_behind_2 rfl rfl ?_
  refine am_aloadr_n (x := some ρ.1) dX6_behind_3 rfl rfl ?_
  refine am_iconst (v := 1) dX6_behind_4 (by decide) ?_
  refine mm_callV (Mc := m_X6_many) (as := [.int 1]) rfl bm_X6_many q2662 q2664 qs87 (Nat.le_of_ble_eq_true rfl) dX6_behind_5 (mt_X6_many (mm_k2i h (fun v2 μ1 h => ?_)))
  refine am_icmp_ge (tgt := 35) dX6_behind_8 (by decide) (fun c => ?_) (fun c => ?_)
  · have h := h.1 c
    refine am_iconst (v := (-1)) dX6_behind_35 (by decide) ?_
    exact am_iret rfl dX6_behind_36 ⟨_, _, rfl, rfl, h⟩
  · have h := h.2 c
    refine am_aloadr_n (x := some ρ.1) dX6_behind_11 rfl rfl ?_
    refine am_iconst (v := 1) dX6_behind_12 (by decide) ?_
    refine am_iload_n (x := x2) dX6_behind_13 rfl rfl ?_
    refine am_iconst (v := 4) dX6_behind_14 (by decide) ?_
    refine mm_callV (Mc := m_X6_get) (as := [.int 1, .int x2, .int 4]) rfl bm_X6_get q2666 q2668 qs88 (Nat.le_of_ble_eq_true rfl) dX6_behind_15 (mt_X6_get (mm_k2i h (fun v4 μ3 h => ?_)))
    refine am_aloadr_n (x := some ρ.1) dX6_behind_18 rfl rfl ?_
    refine mm_gA (k := 35) rfl isA_35 q2354 dX6_behind_19 ?_
    refine am_iload_n (x := x1) dX6_behind_22 rfl rfl ?_
    refine mm_ldA (k := 35) isA_35 rfl rfl dX6_behind_23 h.1 ?_
    have h := h.2
    refine am_icmp_ne (tgt := 29) dX6_behind_24 (by decide) (fun c => ?_) (fun c => ?_)
    · have h := h.1 c
      refine am_iinc (x := x2) (v := (x2 + 1)) (L' := [(4, .int (x2 + 1)), (0, va_rf (some ρ.1)), (2, .int x1)]) dX6_behind_29 rfl rfl (Nat.le_of_ble_eq_true rfl) rfl ?_
      refine am_goto (tgt := 2) dX6_behind_32 (by decide) ?_
      exact am_lss h rfl
    · have h := h.2 c
      refine am_iload_n (x := x2) dX6_behind_27 rfl rfl ?_
      exact am_iret rfl dX6_behind_28 ⟨_, _, rfl, rfl, h⟩
theorem W_X6_carries_f {G : am_G} {ρ : mm_F} {d : Nat} {a1 : Int32} {a2 : Int32} {a3 : Int32} {μ : mm_S} {Q : Int32 → mm_S → Prop} (h : W_X6_ruled G ρ d a1 a3 μ (fun μ1 => (vp_in 0 21 ∧ ∀ μ2 : mm_S, μ2 = mm_sA μ1 43 (Int32.toNatClampNeg 0) a2 → ((vp_in 0 21 ∧ ∀ μ3 : mm_S, μ3 = mm_sA μ2 44 (Int32.toNatClampNeg 0) 0 → ((vp_in 0 21 ∧ ∀ μ4 : mm_S, μ4 = mm_sA μ3 45 (Int32.toNatClampNeg 0) 0 → (B_X6_carries_33 G ρ (d + 1) a2 a3 0 a3 μ4 Q)))))))) : W_X6_carries G ρ (d + 1) a1 a2 a3 μ Q := by
  unfold W_X6_carries
  refine am_aloadr_n (x := some ρ.1) dX6_carries_0 rfl rfl ?_
  refine am_iload_n (x := a1) dX6_carries_1 rfl rfl ?_
  refine am_iload_n (x := a3) dX6_carries_2 rfl rfl ?_
  refine mm_callV (Mc := m_X6_ruled) (as := [.int a1, .int a3]) rfl bm_X6_ruled q3014 q3016 qs154 (Nat.le_of_ble_eq_true rfl) dX6_carries_3 (mt_X6_ruled (mm_k2v h (fun μ1 h => ?_)))
  refine am_aloadr_n (x := some ρ.1) dX6_carries_6 rfl rfl ?_
  refine mm_gA (k := 43) rfl isA_43 q2362 dX6_carries_7 ?_
  refine am_iconst (v := 0) dX6_carries_10 (by decide) ?_
  refine am_iload_n (x := a2) dX6_carries_11 rfl rfl ?_
  refine mm_stA (k := 43) isA_43 rfl rfl dX6_carries_12 h.1 ?_
  have h := h.2
  generalize eμ2 : mm_sA μ1 43 (Int32.toNatClampNeg 0) a2 = μ2
  have h := h μ2 eμ2.symm
  refine am_aloadr_n (x := some ρ.1) dX6_carries_13 rfl rfl ?_
  refine mm_gA (k := 44) rfl isA_44 q2363 dX6_carries_14 ?_
  refine am_iconst (v := 0) dX6_carries_17 (by decide) ?_
  refine am_iconst (v := 0) dX6_carries_18 (by decide) ?_
  refine mm_stA (k := 44) isA_44 rfl rfl dX6_carries_19 h.1 ?_
  have h := h.2
  generalize eμ3 : mm_sA μ2 44 (Int32.toNatClampNeg 0) 0 = μ3
  have h := h μ3 eμ3.symm
  refine am_aloadr_n (x := some ρ.1) dX6_carries_20 rfl rfl ?_
  refine mm_gA (k := 45) rfl isA_45 q2364 dX6_carries_21 ?_
  refine am_iconst (v := 0) dX6_carries_24 (by decide) ?_
  refine am_iconst (v := 0) dX6_carries_25 (by decide) ?_
  refine mm_stA (k := 45) isA_45 rfl rfl dX6_carries_26 h.1 ?_
  have h := h.2
  generalize eμ4 : mm_sA μ3 45 (Int32.toNatClampNeg 0) 0 = μ4
  have h := h μ4 eμ4.symm
  refine am_iconst (v := 0) dX6_carries_27 (by decide) ?_
  refine am_istore (L' := [(8, .int 0), (0, va_rf (some ρ.1)), (2, .int a1), (4, .int a2), (6, .int a3)]) dX6_carries_28 (Nat.le_of_ble_eq_true rfl) rfl ?_
  refine am_iload_n (x := a3) dX6_carries_30 rfl rfl ?_
  refine am_istore (L' := [(10, .int a3), (8, .int 0), (0, va_rf (some ρ.1)), (2, .int a1), (4, .int a2), (6, .int a3)]) dX6_carries_31 (Nat.le_of_ble_eq_true rfl) rfl ?_
  exact am_lss h rfl
theorem B_X6_carries_33_f {G : am_G} {ρ : mm_F} {d : Nat} {x2 : Int32} {x3 : Int32} {x4 : Int32} {x5 : Int32} {μ : mm_S} {Q : Int32 → mm_S → Prop} (h : ((x5 = (-1) → B_X6_carries_55 G ρ (d + 1) x2 x3 x4 μ Q) ∧ (¬ x5 = (-1) → W_X6_get G ρ d 1 x5 1 μ (fun v2 μ1 => B_X6_carries_33 G ρ (d + 1) x2 x3 (x4 + 1) v2 μ1 Q)))) : B_X6_carries_33 G ρ (d + 1) x2 x3 x4 x5 μ Q := by
  unfold B_X6_carries_33
  refine am_iload (x := x5) dX6_carries_33 rfl ?_
  refine am_iconst (v := (-1)) dX6_carries_35 (by decide) ?_
  refine am_icmp_eq (tgt := 55) dX6_carries_36 (by decide) (fun c => ?_) (fun c => ?_)
  · have h := h.1 c
    exact am_lss h rfl
  · have h := h.2 c
    refine am_iinc (x := x4) (v := (x4 + 1)) (L' := [(8, .int (x4 + 1)), (0, va_rf (some ρ.1)), (4, .int x2), (6, .int x3), (10, .int x5)]) dX6_carries_39 rfl rfl (Nat.le_of_ble_eq_true rfl) rfl ?_
    refine am_aloadr_n (x := some ρ.1) dX6_carries_42 rfl rfl ?_
    refine am_iconst (v := 1) dX6_carries_43 (by decide) ?_
    refine am_iload (x := x5) dX6_carries_44 rfl ?_
    refine am_iconst (v := 1) dX6_carries_46 (by decide) ?_
    refine mm_callV (Mc := m_X6_get) (as := [.int 1, .int x5, .int 1]) rfl bm_X6_get q2666 q2668 qs88 (Nat.le_of_ble_eq_true rfl) dX6_carries_47 (mt_X6_get (mm_k2i h (fun v2 μ1 h => ?_)))
    refine am_istore (L' := [(10, .int v2), (8, .int (x4 + 1)), (0, va_rf (some ρ.1)), (4, .int x2), (6, .int x3)]) dX6_carries_50 (Nat.le_of_ble_eq_true rfl) rfl ?_
    refine am_goto (tgt := 33) dX6_carries_52 (by decide) ?_
    exact am_lss h rfl
theorem B_X6_carries_55_f {G : am_G} {ρ : mm_F} {d : Nat} {x2 : Int32} {x3 : Int32} {x4 : Int32} {μ : mm_S} {Q : Int32 → mm_S → Prop} (h : ((x4 ≤ 0 → Q 1 μ) ∧ (¬ x4 ≤ 0 → B_X6_carries_66 G ρ (d + 1) x2 x3 x4 x3 1 μ Q))) : B_X6_carries_55 G ρ (d + 1) x2 x3 x4 μ Q := by
  unfold B_X6_carries_55
  refine am_iload (x := x4) dX6_carries_55 rfl ?_
  refine am_if_le (tgt := 266) dX6_carries_57 (by decide) (fun c => ?_) (fun c => ?_)
  · have h := h.1 c
    refine am_iconst (v := 1) dX6_carries_266 (by decide) ?_
    exact am_zret rfl rfl dX6_carries_267 ⟨_, _, rfl, rfl, h⟩
  · have h := h.2 c
    refine am_iload_n (x := x3) dX6_carries_60 rfl rfl ?_
    refine am_istore (L' := [(10, .int x3), (0, va_rf (some ρ.1)), (4, .int x2), (6, .int x3), (8, .int x4)]) dX6_carries_61 (Nat.le_of_ble_eq_true rfl) rfl ?_
    refine am_iconst (v := 1) dX6_carries_63 (by decide) ?_
    refine am_istore (L' := [(12, .int 1), (10, .int x3), (0, va_rf (some ρ.1)), (4, .int x2), (6, .int x3), (8, .int x4)]) dX6_carries_64 (Nat.le_of_ble_eq_true rfl) rfl ?_
    exact am_lss h rfl
theorem B_X6_carries_66_f {G : am_G} {ρ : mm_F} {d : Nat} {x2 : Int32} {x3 : Int32} {x4 : Int32} {x5 : Int32} {x6 : Int32} {μ : mm_S} {Q : Int32 → mm_S → Prop} (h : ((x4 ≤ x6 → B_X6_carries_92 G ρ (d + 1) x2 x3 x4 x5 0 μ Q) ∧ (¬ x4 ≤ x6 → W_X6_get G ρ d 1 x5 1 μ (fun v2 μ1 => B_X6_carries_66 G ρ (d + 1) x2 x3 x4 v2 (x6 + 1) μ1 Q)))) : B_X6_carries_66 G ρ (d + 1) x2 x3 x4 x5 x6 μ Q := by
  unfold B_X6_carries_66
  refine am_iload (x := x6) dX6_carries_66 rfl ?_
  refine am_iload (x := x4) dX6_carries_68 rfl ?_
  refine am_icmp_ge (tgt := 89) dX6_carries_70 (by decide) (fun c => ?_) (fun c => ?_)
  · have h := h.1 c
    refine am_iconst (v := 0) dX6_carries_89 (by decide) ?_
    refine am_istore (L' := [(12, .int 0), (0, va_rf (some ρ.1)), (4, .int x2), (6, .int x3), (8, .int x4), (10, .int x5)]) dX6_carries_90 (Nat.le_of_ble_eq_true rfl) rfl ?_
    exact am_lss h rfl
  · have h := h.2 c
    refine am_aloadr_n (x := some ρ.1) dX6_carries_73 rfl rfl ?_
    refine am_iconst (v := 1) dX6_carries_74 (by decide) ?_
    refine am_iload (x := x5) dX6_carries_75 rfl ?_
    refine am_iconst (v := 1) dX6_carries_77 (by decide) ?_
    refine mm_callV (Mc := m_X6_get) (as := [.int 1, .int x5, .int 1]) rfl bm_X6_get q2666 q2668 qs88 (Nat.le_of_ble_eq_true rfl) dX6_carries_78 (mt_X6_get (mm_k2i h (fun v2 μ1 h => ?_)))
    refine am_istore (L' := [(10, .int v2), (0, va_rf (some ρ.1)), (4, .int x2), (6, .int x3), (8, .int x4), (12, .int x6)]) dX6_carries_81 (Nat.le_of_ble_eq_true rfl) rfl ?_
    refine am_iinc (x := x6) (v := (x6 + 1)) (L' := [(12, .int (x6 + 1)), (10, .int v2), (0, va_rf (some ρ.1)), (4, .int x2), (6, .int x3), (8, .int x4)]) dX6_carries_83 rfl rfl (Nat.le_of_ble_eq_true rfl) rfl ?_
    refine am_goto (tgt := 66) dX6_carries_86 (by decide) ?_
    exact am_lss h rfl
theorem B_X6_carries_92_f {G : am_G} {ρ : mm_F} {d : Nat} {x2 : Int32} {x3 : Int32} {x4 : Int32} {x5 : Int32} {x6 : Int32} {μ : mm_S} {Q : Int32 → mm_S → Prop} (h : W_X6_get G ρ d 1 x5 5 μ (fun v2 μ1 => ((v2 ≤ x6 → B_X6_carries_55 G ρ (d + 1) x2 x3 (x4 + (-1)) μ1 Q) ∧ (¬ v2 ≤ x6 → W_X6_get G ρ d 1 x5 (6 + x6) μ1 (fun v4 μ3 => (vp_in ((40 * x2) + v4) 1600 ∧ ∀ μ5 : mm_S, μ5 = mm_sA μ3 89 (Int32.toNatClampNeg ((40 * x2) + v4)) 1 → ((vp_in v4 40 ∧ (((mA μ5 91 (Int32.toNatClampNeg v4)) = (-1) → (vp_in x2 40 ∧ W_X6_source G ρ d 0 (mA μ5 35 (Int32.toNatClampNeg x2)) 1 x3 v4 μ5 (fun v7 μ6 => ((¬ v7 = (-1) → (vp_in ((40 * x2) + v7) 1600 ∧ (vp_in ((40 * x2) + v4) 1600 ∧ ∀ μ8 : mm_S, μ8 = mm_sA μ6 87 (Int32.toNatClampNeg ((40 * x2) + v4)) (mA μ6 36 (Int32.toNatClampNeg ((40 * x2) + v7))) → (B_X6_carries_92 G ρ (d + 1) x2 x3 x4 x5 (x6 + 1) μ8 Q)))) ∧ (v7 = (-1) → W_X6_get G ρ d 1 x5 (14 + x6) μ6 (fun v10 μ9 => (vp_in ((40 * x2) + v4) 1600 ∧ ∀ μ11 : mm_S, μ11 = mm_sA μ9 87 (Int32.toNatClampNeg ((40 * x2) + v4)) v10 → (B_X6_carries_92 G ρ (d + 1) x2 x3 x4 x5 (x6 + 1) μ11 Q)))))))) ∧ (¬ (mA μ5 91 (Int32.toNatClampNeg v4)) = (-1) → (vp_in v4 40 ∧ W_X6_eval G ρ d (mA μ5 91 (Int32.toNatClampNeg v4)) 0 μ5 (fun v13 μ12 => ((¬ v13 = 0 → (vp_in ((40 * x2) + v4) 1600 ∧ ∀ μ14 : mm_S, μ14 = mm_sA μ12 87 (Int32.toNatClampNeg ((40 * x2) + v4)) (mI μ12 52) → (B_X6_carries_92 G ρ (d + 1) x2 x3 x4 x5 (x6 + 1) μ14 Q))) ∧ (v13 = 0 → (vp_in v4 40 ∧ W_X6_refuses G ρ d 9 (mA μ12 92 (Int32.toNatClampNeg v4)) x2 μ12 (fun v16 μ15 => (narrow .boolean (.int v16) = .int v16 ∧ Q v16 μ15))))))))))))))))) : B_X6_carries_92 G ρ (d + 1) x2 x3 x4 x5 x6 μ Q := by
  unfold B_X6_carries_92
  refine am_iload (x := x6) dX6_carries_92 rfl ?_
  refine am_aloadr_n (x := some ρ.1) dX6_carries_94 rfl rfl ?_
  refine am_iconst (v := 1) dX6_carries_95 (by decide) ?_
  refine am_iload (x := x5) dX6_carries_96 rfl ?_
  refine am_iconst (v := 5) dX6_carries_98 (by decide) ?_
  refine mm_callV (Mc := m_X6_get) (as := [.int 1, .int x5, .int 5]) rfl bm_X6_get q2666 q2668 qs88 (Nat.le_of_ble_eq_true rfl) dX6_carries_99 (mt_X6_get (mm_k2i h (fun v2 μ1 h => ?_)))
  refine am_icmp_ge (tgt := 260) dX6_carries_102 (by decide) (fun c => ?_) (fun c => ?_)
  · have h := h.1 c
    refine am_iinc (x := x4) (v := (x4 + (-1))) (L' := [(8, .int (x4 + (-1))), (0, va_rf (some ρ.1)), (4, .int x2), (6, .int x3), (10, .int x5), (12, .int x6)]) dX6_carries_260 rfl rfl (Nat.le_of_ble_eq_true rfl) rfl ?_
    refine am_goto (tgt := 55) dX6_carries_263 (by decide) ?_
    exact am_lss h rfl
  · have h := h.2 c
    refine am_aloadr_n (x := some ρ.1) dX6_carries_105 rfl rfl ?_
    refine am_iconst (v := 1) dX6_carries_106 (by decide) ?_
    refine am_iload (x := x5) dX6_carries_107 rfl ?_
    refine am_bipush (v := 6) dX6_carries_109 (by decide) ?_
    refine am_iload (x := x6) dX6_carries_111 rfl ?_
    refine am_iadd dX6_carries_113 ?_
    refine mm_callV (Mc := m_X6_get) (as := [.int 1, .int x5, .int (6 + x6)]) rfl bm_X6_get q2666 q2668 qs88 (Nat.le_of_ble_eq_true rfl) dX6_carries_114 (mt_X6_get (mm_k2i h (fun v4 μ3 h => ?_)))
    refine am_istore (L' := [(14, .int v4), (0, va_rf (some ρ.1)), (4, .int x2), (6, .int x3), (8, .int x4), (10, .int x5), (12, .int x6)]) dX6_carries_117 (Nat.le_of_ble_eq_true rfl) rfl ?_
    refine am_aloadr_n (x := some ρ.1) dX6_carries_119 rfl rfl ?_
    refine mm_gA (k := 89) rfl isA_89 q2408 dX6_carries_120 ?_
    refine am_bipush (v := 40) dX6_carries_123 (by decide) ?_
    refine am_iload_n (x := x2) dX6_carries_125 rfl rfl ?_
    refine am_imul dX6_carries_126 ?_
    refine am_iload (x := v4) dX6_carries_127 rfl ?_
    refine am_iadd dX6_carries_129 ?_
    refine am_iconst (v := 1) dX6_carries_130 (by decide) ?_
    refine mm_stZ (k := 89) isA_89 rfl rfl (by decide) dX6_carries_131 h.1 ?_
    have h := h.2
    generalize eμ5 : mm_sA μ3 89 (Int32.toNatClampNeg ((40 * x2) + v4)) 1 = μ5
    have h := h μ5 eμ5.symm
    refine am_aloadr_n (x := some ρ.1) dX6_carries_132 rfl rfl ?_
    refine mm_gA (k := 91) rfl isA_91 q2410 dX6_carries_133 ?_
    refine am_iload (x := v4) dX6_carries_136 rfl ?_
    refine mm_ldA (k := 91) isA_91 rfl rfl dX6_carries_138 h.1 ?_
    have h := h.2
    refine am_iconst (v := (-1)) dX6_carries_139 (by decide) ?_
    refine am_icmp_eq (tgt := 192) dX6_carries_140 (by decide) (fun c => ?_) (fun c => ?_)
    · have h := h.1 c
      refine am_aloadr_n (x := some ρ.1) dX6_carries_192 rfl rfl ?_
      refine am_iconst (v := 0) dX6_carries_193 (by decide) ?_
      refine am_aloadr_n (x := some ρ.1) dX6_carries_194 rfl rfl ?_
      refine mm_gA (k := 35) rfl isA_35 q2354 dX6_carries_195 ?_
      refine am_iload_n (x := x2) dX6_carries_198 rfl rfl ?_
      refine mm_ldA (k := 35) isA_35 rfl rfl dX6_carries_199 h.1 ?_
      have h := h.2
      refine am_iconst (v := 1) dX6_carries_200 (by decide) ?_
      refine am_iload_n (x := x3) dX6_carries_201 rfl rfl ?_
      refine am_iload (x := v4) dX6_carries_202 rfl ?_
      refine mm_callV (Mc := m_X6_source) (as := [.int 0, .int (mA μ5 35 (Int32.toNatClampNeg x2)), .int 1, .int x3, .int v4]) rfl bm_X6_source q3018 q3020 qs155 (Nat.le_of_ble_eq_true rfl) dX6_carries_204 (mt_X6_source (mm_k2i h (fun v7 μ6 h => ?_)))
      refine am_istore (L' := [(16, .int v7), (14, .int v4), (0, va_rf (some ρ.1)), (4, .int x2), (6, .int x3), (8, .int x4), (10, .int x5), (12, .int x6)]) dX6_carries_207 (Nat.le_of_ble_eq_true rfl) rfl ?_
      refine am_aloadr_n (x := some ρ.1) dX6_carries_209 rfl rfl ?_
      refine mm_gA (k := 87) rfl isA_87 q2406 dX6_carries_210 ?_
      refine am_bipush (v := 40) dX6_carries_213 (by decide) ?_
      refine am_iload_n (x := x2) dX6_carries_215 rfl rfl ?_
      refine am_imul dX6_carries_216 ?_
      refine am_iload (x := v4) dX6_carries_217 rfl ?_
      refine am_iadd dX6_carries_219 ?_
      refine am_iload (x := v7) dX6_carries_220 rfl ?_
      refine am_iconst (v := (-1)) dX6_carries_222 (by decide) ?_
      refine am_icmp_ne (tgt := 241) dX6_carries_223 (by decide) (fun c => ?_) (fun c => ?_)
      · have h := h.1 c
        refine am_aloadr_n (x := some ρ.1) dX6_carries_241 rfl rfl ?_
        refine mm_gA (k := 36) rfl isA_36 q2355 dX6_carries_242 ?_
        refine am_bipush (v := 40) dX6_carries_245 (by decide) ?_
        refine am_iload_n (x := x2) dX6_carries_247 rfl rfl ?_
        refine am_imul dX6_carries_248 ?_
        refine am_iload (x := v7) dX6_carries_249 rfl ?_
        refine am_iadd dX6_carries_251 ?_
        refine mm_ldA (k := 36) isA_36 rfl rfl dX6_carries_252 h.1 ?_
        have h := h.2
        refine mm_stA (k := 87) isA_87 rfl rfl dX6_carries_253 h.1 ?_
        have h := h.2
        generalize eμ8 : mm_sA μ6 87 (Int32.toNatClampNeg ((40 * x2) + v4)) (mA μ6 36 (Int32.toNatClampNeg ((40 * x2) + v7))) = μ8
        have h := h μ8 eμ8.symm
        refine am_iinc (x := x6) (v := (x6 + 1)) (L' := [(12, .int (x6 + 1)), (16, .int v7), (14, .int v4), (0, va_rf (some ρ.1)), (4, .int x2), (6, .int x3), (8, .int x4), (10, .int x5)]) dX6_carries_254 rfl rfl (Nat.le_of_ble_eq_true rfl) rfl ?_
        refine am_goto (tgt := 92) dX6_carries_257 (by decide) ?_
        exact am_lss h rfl
      · have h := h.2 c
        refine am_aloadr_n (x := some ρ.1) dX6_carries_226 rfl rfl ?_
        refine am_iconst (v := 1) dX6_carries_227 (by decide) ?_
        refine am_iload (x := x5) dX6_carries_228 rfl ?_
        refine am_bipush (v := 14) dX6_carries_230 (by decide) ?_
        refine am_iload (x := x6) dX6_carries_232 rfl ?_
        refine am_iadd dX6_carries_234 ?_
        refine mm_callV (Mc := m_X6_get) (as := [.int 1, .int x5, .int (14 + x6)]) rfl bm_X6_get q2666 q2668 qs88 (Nat.le_of_ble_eq_true rfl) dX6_carries_235 (mt_X6_get (mm_k2i h (fun v10 μ9 h => ?_)))
        refine am_goto (tgt := 253) dX6_carries_238 (by decide) ?_
        refine mm_stA (k := 87) isA_87 rfl rfl dX6_carries_253 h.1 ?_
        have h := h.2
        generalize eμ11 : mm_sA μ9 87 (Int32.toNatClampNeg ((40 * x2) + v4)) v10 = μ11
        have h := h μ11 eμ11.symm
        refine am_iinc (x := x6) (v := (x6 + 1)) (L' := [(12, .int (x6 + 1)), (16, .int v7), (14, .int v4), (0, va_rf (some ρ.1)), (4, .int x2), (6, .int x3), (8, .int x4), (10, .int x5)]) dX6_carries_254 rfl rfl (Nat.le_of_ble_eq_true rfl) rfl ?_
        refine am_goto (tgt := 92) dX6_carries_257 (by decide) ?_
        exact am_lss h rfl
    · have h := h.2 c
      refine am_aloadr_n (x := some ρ.1) dX6_carries_143 rfl rfl ?_
      refine am_aloadr_n (x := some ρ.1) dX6_carries_144 rfl rfl ?_
      refine mm_gA (k := 91) rfl isA_91 q2410 dX6_carries_145 ?_
      refine am_iload (x := v4) dX6_carries_148 rfl ?_
      refine mm_ldA (k := 91) isA_91 rfl rfl dX6_carries_150 h.1 ?_
      have h := h.2
      refine am_iconst (v := 0) dX6_carries_151 (by decide) ?_
      refine mm_callV (Mc := m_X6_eval) (as := [.int (mA μ5 91 (Int32.toNatClampNeg v4)), .int 0]) rfl bm_X6_eval q2903 q2905 qs130 (Nat.le_of_ble_eq_true rfl) dX6_carries_152 (mt_X6_eval (mm_k2i h (fun v13 μ12 h => ?_)))
      refine am_if_ne (tgt := 173) dX6_carries_155 (by decide) (fun c => ?_) (fun c => ?_)
      · have h := h.1 c
        refine am_aloadr_n (x := some ρ.1) dX6_carries_173 rfl rfl ?_
        refine mm_gA (k := 87) rfl isA_87 q2406 dX6_carries_174 ?_
        refine am_bipush (v := 40) dX6_carries_177 (by decide) ?_
        refine am_iload_n (x := x2) dX6_carries_179 rfl rfl ?_
        refine am_imul dX6_carries_180 ?_
        refine am_iload (x := v4) dX6_carries_181 rfl ?_
        refine am_iadd dX6_carries_183 ?_
        refine am_aloadr_n (x := some ρ.1) dX6_carries_184 rfl rfl ?_
        refine mm_gI (k := 52) rfl (Or.inl rfl) (by decide) q2371 dX6_carries_185 ?_
        refine mm_stA (k := 87) isA_87 rfl rfl dX6_carries_188 h.1 ?_
        have h := h.2
        generalize eμ14 : mm_sA μ12 87 (Int32.toNatClampNeg ((40 * x2) + v4)) (mI μ12 52) = μ14
        have h := h μ14 eμ14.symm
        refine am_goto (tgt := 254) dX6_carries_189 (by decide) ?_
        refine am_iinc (x := x6) (v := (x6 + 1)) (L' := [(12, .int (x6 + 1)), (14, .int v4), (0, va_rf (some ρ.1)), (4, .int x2), (6, .int x3), (8, .int x4), (10, .int x5)]) dX6_carries_254 rfl rfl (Nat.le_of_ble_eq_true rfl) rfl ?_
        refine am_goto (tgt := 92) dX6_carries_257 (by decide) ?_
        exact am_lss h rfl
      · have h := h.2 c
        refine am_aloadr_n (x := some ρ.1) dX6_carries_158 rfl rfl ?_
        refine am_bipush (v := 9) dX6_carries_159 (by decide) ?_
        refine am_aloadr_n (x := some ρ.1) dX6_carries_161 rfl rfl ?_
        refine mm_gA (k := 92) rfl isA_92 q2411 dX6_carries_162 ?_
        refine am_iload (x := v4) dX6_carries_165 rfl ?_
        refine mm_ldA (k := 92) isA_92 rfl rfl dX6_carries_167 h.1 ?_
        have h := h.2
        refine am_iload_n (x := x2) dX6_carries_168 rfl rfl ?_
        refine mm_callV (Mc := m_X6_refuses) (as := [.int 9, .int (mA μ12 92 (Int32.toNatClampNeg v4)), .int x2]) rfl bm_X6_refuses q2974 q2976 qs144 (Nat.le_of_ble_eq_true rfl) dX6_carries_169 (mt_X6_refuses (mm_k2i h (fun v16 μ15 h => ?_)))
        exact am_zret rfl h.1 dX6_carries_172 ⟨_, _, rfl, rfl, h.2⟩
theorem W_X6_ruled_f {G : am_G} {ρ : mm_F} {d : Nat} {a1 : Int32} {a2 : Int32} {μ : mm_S} {Q : mm_S → Prop} (h : B_X6_ruled_2 G ρ (d + 1) a1 a2 0 μ Q) : W_X6_ruled G ρ (d + 1) a1 a2 μ Q := by
  unfold W_X6_ruled
  refine am_iconst (v := 0) dX6_ruled_0 (by decide) ?_
  refine am_istore_n (L' := [(6, .int 0), (0, va_rf (some ρ.1)), (2, .int a1), (4, .int a2)]) dX6_ruled_1 rfl (Nat.le_of_ble_eq_true rfl) rfl ?_
  exact am_lss h rfl
theorem B_X6_ruled_2_f {G : am_G} {ρ : mm_F} {d : Nat} {x1 : Int32} {x2 : Int32} {x3 : Int32} {μ : mm_S} {Q : mm_S → Prop} (h : ((40 ≤ x3 → (vp_in x1 6 ∧ B_X6_ruled_31 G ρ (d + 1) x2 0 (mA μ 31 (Int32.toNatClampNeg x1)) μ Q)) ∧ (¬ 40 ≤ x3 → (vp_in x3 40 ∧ ∀ μ1 : mm_S, μ1 = mm_sA μ 91 (Int32.toNatClampNeg x3) (-1) → (B_X6_ruled_2 G ρ (d + 1) x1 x2 (x3 + 1) μ1 Q))))) : B_X6_ruled_2 G ρ (d + 1) x1 x2 x3 μ Q := by
  unfold B_X6_ruled_2
  refine am_iload_n (x := x3) dX6_ruled_2 rfl rfl ?_
  refine am_bipush (v := 40) dX6_ruled_3 (by decide) ?_
  refine am_icmp_ge (tgt := 21) dX6_ruled_5 (by decide) (fun c => ?_) (fun c => ?_)
  · have h := h.1 c
    refine am_iconst (v := 0) dX6_ruled_21 (by decide) ?_
    refine am_istore_n (L' := [(6, .int 0), (0, va_rf (some ρ.1)), (2, .int x1), (4, .int x2)]) dX6_ruled_22 rfl (Nat.le_of_ble_eq_true rfl) rfl ?_
    refine am_aloadr_n (x := some ρ.1) dX6_ruled_23 rfl rfl ?_
    refine mm_gA (k := 31) rfl isA_31 q2350 dX6_ruled_24 ?_
    refine am_iload_n (x := x1) dX6_ruled_27 rfl rfl ?_
    refine mm_ldA (k := 31) isA_31 rfl rfl dX6_ruled_28 h.1 ?_
    have h := h.2
    refine am_istore (L' := [(8, .int (mA μ 31 (Int32.toNatClampNeg x1))), (6, .int 0), (0, va_rf (some ρ.1)), (2, .int x1), (4, .int x2)]) dX6_ruled_29 (Nat.le_of_ble_eq_true rfl) rfl ?_
    exact am_lss h rfl
  · have h := h.2 c
    refine am_aloadr_n (x := some ρ.1) dX6_ruled_8 rfl rfl ?_
    refine mm_gA (k := 91) rfl isA_91 q2410 dX6_ruled_9 ?_
    refine am_iload_n (x := x3) dX6_ruled_12 rfl rfl ?_
    refine am_iconst (v := (-1)) dX6_ruled_13 (by decide) ?_
    refine mm_stA (k := 91) isA_91 rfl rfl dX6_ruled_14 h.1 ?_
    have h := h.2
    generalize eμ1 : mm_sA μ 91 (Int32.toNatClampNeg x3) (-1) = μ1
    have h := h μ1 eμ1.symm
    refine am_iinc (x := x3) (v := (x3 + 1)) (L' := [(6, .int (x3 + 1)), (0, va_rf (some ρ.1)), (2, .int x1), (4, .int x2)]) dX6_ruled_15 rfl rfl (Nat.le_of_ble_eq_true rfl) rfl ?_
    refine am_goto (tgt := 2) dX6_ruled_18 (by decide) ?_
    exact am_lss h rfl
theorem B_X6_ruled_31_f {G : am_G} {ρ : mm_F} {d : Nat} {x2 : Int32} {x3 : Int32} {x4 : Int32} {μ : mm_S} {Q : mm_S → Prop} (h : ((x4 = (-1) → Q μ) ∧ (¬ x4 = (-1) → W_X6_of G ρ d x4 0 μ (fun v2 μ1 => ((¬ v2 = 41 → B_X6_ruled_65 G ρ (d + 1) x2 x3 x4 (-1) μ1 Q) ∧ (v2 = 41 → W_X6_of G ρ d x4 1 μ1 (fun v4 μ3 => W_X6_find G ρ d 1 v4 μ3 (fun v6 μ5 => B_X6_ruled_65 G ρ (d + 1) x2 x3 x4 v6 μ5 Q)))))))) : B_X6_ruled_31 G ρ (d + 1) x2 x3 x4 μ Q := by
  unfold B_X6_ruled_31
  refine am_iload (x := x4) dX6_ruled_31 rfl ?_
  refine am_iconst (v := (-1)) dX6_ruled_33 (by decide) ?_
  refine am_icmp_eq (tgt := 177) dX6_ruled_34 (by decide) (fun c => ?_) (fun c => ?_)
  · have h := h.1 c
    exact am_vret rfl dX6_ruled_177 ⟨_, rfl, rfl, h⟩
  · have h := h.2 c
    refine am_aloadr_n (x := some ρ.1) dX6_ruled_37 rfl rfl ?_
    refine am_iload (x := x4) dX6_ruled_38 rfl ?_
    refine am_iconst (v := 0) dX6_ruled_40 (by decide) ?_
    refine mm_callV (Mc := m_X6_of) (as := [.int x4, .int 0]) rfl bm_X6_of q2895 q2897 qs128 (Nat.le_of_ble_eq_true rfl) dX6_ruled_41 (mt_X6_of (mm_k2i h (fun v2 μ1 h => ?_)))
    refine am_bipush (v := 41) dX6_ruled_44 (by decide) ?_
    refine am_icmp_ne (tgt := 64) dX6_ruled_46 (by decide) (fun c => ?_) (fun c => ?_)
    · have h := h.1 c
      refine am_iconst (v := (-1)) dX6_ruled_64 (by decide) ?_
      exact am_lss h rfl
    · have h := h.2 c
      refine am_aloadr_n (x := some ρ.1) dX6_ruled_49 rfl rfl ?_
      refine am_iconst (v := 1) dX6_ruled_50 (by decide) ?_
      refine am_aloadr_n (x := some ρ.1) dX6_ruled_51 rfl rfl ?_
      refine am_iload (x := x4) dX6_ruled_52 rfl ?_
      refine am_iconst (v := 1) dX6_ruled_54 (by decide) ?_
      refine mm_callV (Mc := m_X6_of) (as := [.int x4, .int 1]) rfl bm_X6_of q2895 q2897 qs128 (Nat.le_of_ble_eq_true rfl) dX6_ruled_55 (mt_X6_of (mm_k2i h (fun v4 μ3 h => ?_)))
      refine mm_callV (Mc := m_X6_find) (as := [.int 1, .int v4]) rfl bm_X6_find q2658 q2660 qs86 (Nat.le_of_ble_eq_true rfl) dX6_ruled_58 (mt_X6_find (mm_k2i h (fun v6 μ5 h => ?_)))
      refine am_goto (tgt := 65) dX6_ruled_61 (by decide) ?_
      exact am_lss h rfl
theorem B_X6_ruled_65_f {G : am_G} {ρ : mm_F} {d : Nat} {x2 : Int32} {x3 : Int32} {x4 : Int32} {s0 : Int32} {μ : mm_S} {Q : mm_S → Prop} (h : ((¬ s0 = (-1) → W_X6_in G ρ d x4 3 μ (fun v2 μ1 => B_X6_ruled_86 G ρ (d + 1) x2 x3 x4 s0 v2 μ1 Q)) ∧ (s0 = (-1) → B_X6_ruled_86 G ρ (d + 1) x2 x3 x4 s0 (-1) μ Q))) : B_X6_ruled_65 G ρ (d + 1) x2 x3 x4 s0 μ Q := by
  unfold B_X6_ruled_65
  refine am_istore (L' := [(10, .int s0), (0, va_rf (some ρ.1)), (4, .int x2), (6, .int x3), (8, .int x4)]) dX6_ruled_65 (Nat.le_of_ble_eq_true rfl) rfl ?_
  refine am_iload (x := s0) dX6_ruled_67 rfl ?_
  refine am_iconst (v := (-1)) dX6_ruled_69 (by decide) ?_
  refine am_icmp_ne (tgt := 77) dX6_ruled_70 (by decide) (fun c => ?_) (fun c => ?_)
  · have h := h.1 c
    refine am_aloadr_n (x := some ρ.1) dX6_ruled_77 rfl rfl ?_
    refine am_iload (x := x4) dX6_ruled_78 rfl ?_
    refine am_iconst (v := 3) dX6_ruled_80 (by decide) ?_
    refine mm_callV (Mc := m_X6_in) (as := [.int x4, .int 3]) rfl bm_X6_in q2899 q2901 qs129 (Nat.le_of_ble_eq_true rfl) dX6_ruled_81 (mt_X6_in (mm_k2i h (fun v2 μ1 h => ?_)))
    refine am_istore (L' := [(12, .int v2), (10, .int s0), (0, va_rf (some ρ.1)), (4, .int x2), (6, .int x3), (8, .int x4)]) dX6_ruled_84 (Nat.le_of_ble_eq_true rfl) rfl ?_
    exact am_lss h rfl
  · have h := h.2 c
    refine am_iconst (v := (-1)) dX6_ruled_73 (by decide) ?_
    refine am_goto (tgt := 84) dX6_ruled_74 (by decide) ?_
    refine am_istore (L' := [(12, .int (-1)), (10, .int s0), (0, va_rf (some ρ.1)), (4, .int x2), (6, .int x3), (8, .int x4)]) dX6_ruled_84 (Nat.le_of_ble_eq_true rfl) rfl ?_
    exact am_lss h rfl
theorem B_X6_ruled_86_f {G : am_G} {ρ : mm_F} {d : Nat} {x2 : Int32} {x3 : Int32} {x4 : Int32} {x5 : Int32} {x6 : Int32} {μ : mm_S} {Q : mm_S → Prop} (h : ((x6 = (-1) → W_X6_in G ρ d x4 4 μ (fun v2 μ1 => B_X6_ruled_31 G ρ (d + 1) x2 (x3 + 1) v2 μ1 Q)) ∧ (¬ x6 = (-1) → W_X6_of G ρ d x6 0 μ (fun v4 μ3 => ((¬ v4 = 35 → B_X6_ruled_150 G ρ (d + 1) x2 x3 x4 x5 x6 μ3 Q) ∧ (v4 = 35 → W_X6_isUnder G ρ d 1 x2 x5 μ3 (fun v6 μ5 => ((¬ v6 = 0 → W_X6_of G ρ d x6 1 μ5 (fun v8 μ7 => W_X6_in G ρ d x6 2 μ7 (fun v10 μ9 => (vp_in v8 40 ∧ ∀ μ11 : mm_S, μ11 = mm_sA μ9 91 (Int32.toNatClampNeg v8) v10 → (W_X6_of G ρ d x6 1 μ11 (fun v13 μ12 => (vp_in v13 40 ∧ ∀ μ14 : mm_S, μ14 = mm_sA μ12 92 (Int32.toNatClampNeg v13) x3 → (B_X6_ruled_150 G ρ (d + 1) x2 x3 x4 x5 x6 μ14 Q)))))))) ∧ (v6 = 0 → B_X6_ruled_150 G ρ (d + 1) x2 x3 x4 x5 x6 μ5 Q))))))))) : B_X6_ruled_86 G ρ (d + 1) x2 x3 x4 x5 x6 μ Q := by
  unfold B_X6_ruled_86
  refine am_iload (x := x6) dX6_ruled_86 rfl ?_
  refine am_iconst (v := (-1)) dX6_ruled_88 (by decide) ?_
  refine am_icmp_eq (tgt := 162) dX6_ruled_89 (by decide) (fun c => ?_) (fun c => ?_)
  · have h := h.1 c
    refine am_iinc (x := x3) (v := (x3 + 1)) (L' := [(6, .int (x3 + 1)), (0, va_rf (some ρ.1)), (4, .int x2), (8, .int x4), (10, .int x5), (12, .int x6)]) dX6_ruled_162 rfl rfl (Nat.le_of_ble_eq_true rfl) rfl ?_
    refine am_aloadr_n (x := some ρ.1) dX6_ruled_165 rfl rfl ?_
    refine am_iload (x := x4) dX6_ruled_166 rfl ?_
    refine am_iconst (v := 4) dX6_ruled_168 (by decide) ?_
    refine mm_callV (Mc := m_X6_in) (as := [.int x4, .int 4]) rfl bm_X6_in q2899 q2901 qs129 (Nat.le_of_ble_eq_true rfl) dX6_ruled_169 (mt_X6_in (mm_k2i h (fun v2 μ1 h => ?_)))
    refine am_istore (L' := [(8, .int v2), (6, .int (x3 + 1)), (0, va_rf (some ρ.1)), (4, .int x2), (10, .int x5), (12, .int x6)]) dX6_ruled_172 (Nat.le_of_ble_eq_true rfl) rfl ?_
    refine am_goto (tgt := 31) dX6_ruled_174 (by decide) ?_
    exact am_lss h rfl
  · have h := h.2 c
    refine am_aloadr_n (x := some ρ.1) dX6_ruled_92 rfl rfl ?_
    refine am_iload (x := x6) dX6_ruled_93 rfl ?_
    refine am_iconst (v := 0) dX6_ruled_95 (by decide) ?_
    refine mm_callV (Mc := m_X6_of) (as := [.int x6, .int 0]) rfl bm_X6_of q2895 q2897 qs128 (Nat.le_of_ble_eq_true rfl) dX6_ruled_96 (mt_X6_of (mm_k2i h (fun v4 μ3 h => ?_)))
    refine am_bipush (v := 35) dX6_ruled_99 (by decide) ?_
    refine am_icmp_ne (tgt := 150) dX6_ruled_101 (by decide) (fun c => ?_) (fun c => ?_)
    · have h := h.1 c
      exact am_lss h rfl
    · have h := h.2 c
      refine am_aloadr_n (x := some ρ.1) dX6_ruled_104 rfl rfl ?_
      refine am_iconst (v := 1) dX6_ruled_105 (by decide) ?_
      refine am_iload_n (x := x2) dX6_ruled_106 rfl rfl ?_
      refine am_iload (x := x5) dX6_ruled_107 rfl ?_
      refine mm_callV (Mc := m_X6_isUnder) (as := [.int 1, .int x2, .int x5]) rfl bm_X6_isUnder q2986 q2988 qs147 (Nat.le_of_ble_eq_true rfl) dX6_ruled_109 (mt_X6_isUnder (mm_k2i h (fun v6 μ5 h => ?_)))
      refine am_if_ne (tgt := 118) dX6_ruled_112 (by decide) (fun c => ?_) (fun c => ?_)
      · have h := h.1 c
        refine am_aloadr_n (x := some ρ.1) dX6_ruled_118 rfl rfl ?_
        refine mm_gA (k := 91) rfl isA_91 q2410 dX6_ruled_119 ?_
        refine am_aloadr_n (x := some ρ.1) dX6_ruled_122 rfl rfl ?_
        refine am_iload (x := x6) dX6_ruled_123 rfl ?_
        refine am_iconst (v := 1) dX6_ruled_125 (by decide) ?_
        refine mm_callV (Mc := m_X6_of) (as := [.int x6, .int 1]) rfl bm_X6_of q2895 q2897 qs128 (Nat.le_of_ble_eq_true rfl) dX6_ruled_126 (mt_X6_of (mm_k2i h (fun v8 μ7 h => ?_)))
        refine am_aloadr_n (x := some ρ.1) dX6_ruled_129 rfl rfl ?_
        refine am_iload (x := x6) dX6_ruled_130 rfl ?_
        refine am_iconst (v := 2) dX6_ruled_132 (by decide) ?_
        refine mm_callV (Mc := m_X6_in) (as := [.int x6, .int 2]) rfl bm_X6_in q2899 q2901 qs129 (Nat.le_of_ble_eq_true rfl) dX6_ruled_133 (mt_X6_in (mm_k2i h (fun v10 μ9 h => ?_)))
        refine mm_stA (k := 91) isA_91 rfl rfl dX6_ruled_136 h.1 ?_
        have h := h.2
        generalize eμ11 : mm_sA μ9 91 (Int32.toNatClampNeg v8) v10 = μ11
        have h := h μ11 eμ11.symm
        refine am_aloadr_n (x := some ρ.1) dX6_ruled_137 rfl rfl ?_
        refine mm_gA (k := 92) rfl isA_92 q2411 dX6_ruled_138 ?_
        refine am_aloadr_n (x := some ρ.1) dX6_ruled_141 rfl rfl ?_
        refine am_iload (x := x6) dX6_ruled_142 rfl ?_
        refine am_iconst (v := 1) dX6_ruled_144 (by decide) ?_
        refine mm_callV (Mc := m_X6_of) (as := [.int x6, .int 1]) rfl bm_X6_of q2895 q2897 qs128 (Nat.le_of_ble_eq_true rfl) dX6_ruled_145 (mt_X6_of (mm_k2i h (fun v13 μ12 h => ?_)))
        refine am_iload_n (x := x3) dX6_ruled_148 rfl rfl ?_
        refine mm_stA (k := 92) isA_92 rfl rfl dX6_ruled_149 h.1 ?_
        have h := h.2
        generalize eμ14 : mm_sA μ12 92 (Int32.toNatClampNeg v13) x3 = μ14
        have h := h μ14 eμ14.symm
        exact am_lss h rfl
      · have h := h.2 c
        refine am_goto (tgt := 150) dX6_ruled_115 (by decide) ?_
        exact am_lss h rfl
theorem B_X6_ruled_150_f {G : am_G} {ρ : mm_F} {d : Nat} {x2 : Int32} {x3 : Int32} {x4 : Int32} {x5 : Int32} {x6 : Int32} {μ : mm_S} {Q : mm_S → Prop} (h : W_X6_in G ρ d x6 4 μ (fun v2 μ1 => B_X6_ruled_86 G ρ (d + 1) x2 x3 x4 x5 v2 μ1 Q)) : B_X6_ruled_150 G ρ (d + 1) x2 x3 x4 x5 x6 μ Q := by
  unfold B_X6_ruled_150
  refine am_aloadr_n (x := some ρ.1) dX6_ruled_150 rfl rfl ?_
  refine am_iload (x := x6) dX6_ruled_151 rfl ?_
  refine am_iconst (v := 4) dX6_ruled_153 (by decide) ?_
  refine mm_callV (Mc := m_X6_in) (as := [.int x6, .int 4]) rfl bm_X6_in q2899 q2901 qs129 (Nat.le_of_ble_eq_true rfl) dX6_ruled_154 (mt_X6_in (mm_k2i h (fun v2 μ1 h => ?_)))
  refine am_istore (L' := [(12, .int v2), (0, va_rf (some ρ.1)), (4, .int x2), (6, .int x3), (8, .int x4), (10, .int x5)]) dX6_ruled_157 (Nat.le_of_ble_eq_true rfl) rfl ?_
  refine am_goto (tgt := 86) dX6_ruled_159 (by decide) ?_
  exact am_lss h rfl
theorem W_X6_source_f {G : am_G} {ρ : mm_F} {d : Nat} {a1 : Int32} {a2 : Int32} {a3 : Int32} {a4 : Int32} {a5 : Int32} {μ : mm_S} {Q : Int32 → mm_S → Prop} (h : W_X6_fieldAt G ρ d a3 a4 a5 μ (fun v2 μ1 => W_X6_get G ρ d a3 v2 4 μ1 (fun v4 μ3 => W_X6_field G ρ d a3 v2 a5 μ3 (fun v6 μ5 => W_X6_get G ρ d a3 v2 (22 + v6) μ5 (fun v8 μ7 => ((v8 = (-1) → B_X6_source_70 G ρ (d + 1) a1 a2 a3 a5 v4 μ7 Q) ∧ (¬ v8 = (-1) → ((v4 = (-1) → B_X6_source_70 G ρ (d + 1) a1 a2 a3 a5 v4 μ7 Q) ∧ (¬ v4 = (-1) → W_X6_fieldAt G ρ d a1 a2 v8 μ7 (fun v10 μ9 => ((¬ v10 = v4 → B_X6_source_70 G ρ (d + 1) a1 a2 a3 a5 v4 μ9 Q) ∧ (v10 = v4 → Q v8 μ9)))))))))))) : W_X6_source G ρ (d + 1) a1 a2 a3 a4 a5 μ Q := by
  unfold W_X6_source
  refine am_aloadr_n (x := some ρ.1) dX6_source_0 rfl rfl ?_
  refine am_iload_n (x := a3) dX6_source_1 rfl rfl ?_
  refine am_iload (x := a4) dX6_source_2 rfl ?_
  refine am_iload (x := a5) dX6_source_4 rfl ?_
  refine mm_callV (Mc := m_X6_fieldAt) (as := [.int a3, .int a4, .int a5]) rfl bm_X6_fieldAt q2819 q2821 qs120 (Nat.le_of_ble_eq_true rfl) dX6_source_6 (mt_X6_fieldAt (mm_k2i h (fun v2 μ1 h => ?_)))
  refine am_istore (L' := [(12, .int v2), (0, va_rf (some ρ.1)), (2, .int a1), (4, .int a2), (6, .int a3), (8, .int a4), (10, .int a5)]) dX6_source_9 (Nat.le_of_ble_eq_true rfl) rfl ?_
  refine am_aloadr_n (x := some ρ.1) dX6_source_11 rfl rfl ?_
  refine am_iload_n (x := a3) dX6_source_12 rfl rfl ?_
  refine am_iload (x := v2) dX6_source_13 rfl ?_
  refine am_iconst (v := 4) dX6_source_15 (by decide) ?_
  refine mm_callV (Mc := m_X6_get) (as := [.int a3, .int v2, .int 4]) rfl bm_X6_get q2666 q2668 qs88 (Nat.le_of_ble_eq_true rfl) dX6_source_16 (mt_X6_get (mm_k2i h (fun v4 μ3 h => ?_)))
  refine am_istore (L' := [(14, .int v4), (12, .int v2), (0, va_rf (some ρ.1)), (2, .int a1), (4, .int a2), (6, .int a3), (8, .int a4), (10, .int a5)]) dX6_source_19 (Nat.le_of_ble_eq_true rfl) rfl ?_
  refine am_aloadr_n (x := some ρ.1) dX6_source_21 rfl rfl ?_
  refine am_iload_n (x := a3) dX6_source_22 rfl rfl ?_
  refine am_iload (x := v2) dX6_source_23 rfl ?_
  refine am_bipush (v := 22) dX6_source_25 (by decide) ?_
  refine am_aloadr_n (x := some ρ.1) dX6_source_27 rfl rfl ?_
  refine am_iload_n (x := a3) dX6_source_28 rfl rfl ?_
  refine am_iload (x := v2) dX6_source_29 rfl ?_
  refine am_iload (x := a5) dX6_source_31 rfl ?_
  refine mm_callV (Mc := m_X6_field) (as := [.int a3, .int v2, .int a5]) rfl bm_X6_field q2698 q2700 qs96 (Nat.le_of_ble_eq_true rfl) dX6_source_33 (mt_X6_field (mm_k2i h (fun v6 μ5 h => ?_)))
  refine am_iadd dX6_source_36 ?_
  refine mm_callV (Mc := m_X6_get) (as := [.int a3, .int v2, .int (22 + v6)]) rfl bm_X6_get q2666 q2668 qs88 (Nat.le_of_ble_eq_true rfl) dX6_source_37 (mt_X6_get (mm_k2i h (fun v8 μ7 h => ?_)))
  refine am_istore (L' := [(16, .int v8), (14, .int v4), (12, .int v2), (0, va_rf (some ρ.1)), (2, .int a1), (4, .int a2), (6, .int a3), (8, .int a4), (10, .int a5)]) dX6_source_40 (Nat.le_of_ble_eq_true rfl) rfl ?_
  refine am_iload (x := v8) dX6_source_42 rfl ?_
  refine am_iconst (v := (-1)) dX6_source_44 (by decide) ?_
  refine am_icmp_eq (tgt := 70) dX6_source_45 (by decide) (fun c => ?_) (fun c => ?_)
  · have h := h.1 c
    exact am_lss h rfl
  · have h := h.2 c
    refine am_iload (x := v4) dX6_source_48 rfl ?_
    refine am_iconst (v := (-1)) dX6_source_50 (by decide) ?_
    refine am_icmp_eq (tgt := 70) dX6_source_51 (by decide) (fun c => ?_) (fun c => ?_)
    · have h := h.1 c
      exact am_lss h rfl
    · have h := h.2 c
      refine am_aloadr_n (x := some ρ.1) dX6_source_54 rfl rfl ?_
      refine am_iload_n (x := a1) dX6_source_55 rfl rfl ?_
      refine am_iload_n (x := a2) dX6_source_56 rfl rfl ?_
      refine am_iload (x := v8) dX6_source_57 rfl ?_
      refine mm_callV (Mc := m_X6_fieldAt) (as := [.int a1, .int a2, .int v8]) rfl bm_X6_fieldAt q2819 q2821 qs120 (Nat.le_of_ble_eq_true rfl) dX6_source_59 (mt_X6_fieldAt (mm_k2i h (fun v10 μ9 h => ?_)))
      refine am_iload (x := v4) dX6_source_62 rfl ?_
      refine am_icmp_ne (tgt := 70) dX6_source_64 (by decide) (fun c => ?_) (fun c => ?_)
      · have h := h.1 c
        exact am_lss h rfl
      · have h := h.2 c
        refine am_iload (x := v8) dX6_source_67 rfl ?_
        exact am_iret rfl dX6_source_69 ⟨_, _, rfl, rfl, h⟩
theorem B_X6_source_70_f {G : am_G} {ρ : mm_F} {d : Nat} {x1 : Int32} {x2 : Int32} {x3 : Int32} {x5 : Int32} {x7 : Int32} {μ : mm_S} {Q : Int32 → mm_S → Prop} (h : W_X6_fieldAt G ρ d x1 x2 x5 μ (fun v2 μ1 => ((v2 = (-1) → Q (-1) μ1) ∧ (¬ v2 = (-1) → ((¬ v2 = x7 → B_X6_source_98 G ρ (d + 1) x3 x5 v2 0 μ1 Q) ∧ (v2 = x7 → Q (-1) μ1)))))) : B_X6_source_70 G ρ (d + 1) x1 x2 x3 x5 x7 μ Q := by
  unfold B_X6_source_70
  refine am_aloadr_n (x := some ρ.1) dX6_source_70 rfl rfl ?_
  refine am_iload_n (x := x1) dX6_source_71 rfl rfl ?_
  refine am_iload_n (x := x2) dX6_source_72 rfl rfl ?_
  refine am_iload (x := x5) dX6_source_73 rfl ?_
  refine mm_callV (Mc := m_X6_fieldAt) (as := [.int x1, .int x2, .int x5]) rfl bm_X6_fieldAt q2819 q2821 qs120 (Nat.le_of_ble_eq_true rfl) dX6_source_75 (mt_X6_fieldAt (mm_k2i h (fun v2 μ1 h => ?_)))
  refine am_istore (L' := [(18, .int v2), (0, va_rf (some ρ.1)), (2, .int x1), (4, .int x2), (6, .int x3), (10, .int x5), (14, .int x7)]) dX6_source_78 (Nat.le_of_ble_eq_true rfl) rfl ?_
  refine am_iload (x := v2) dX6_source_80 rfl ?_
  refine am_iconst (v := (-1)) dX6_source_82 (by decide) ?_
  refine am_icmp_eq (tgt := 93) dX6_source_83 (by decide) (fun c => ?_) (fun c => ?_)
  · have h := h.1 c
    refine am_iconst (v := (-1)) dX6_source_93 (by decide) ?_
    exact am_iret rfl dX6_source_94 ⟨_, _, rfl, rfl, h⟩
  · have h := h.2 c
    refine am_iload (x := v2) dX6_source_86 rfl ?_
    refine am_iload (x := x7) dX6_source_88 rfl ?_
    refine am_icmp_ne (tgt := 95) dX6_source_90 (by decide) (fun c => ?_) (fun c => ?_)
    · have h := h.1 c
      refine am_iconst (v := 0) dX6_source_95 (by decide) ?_
      refine am_istore (L' := [(20, .int 0), (18, .int v2), (0, va_rf (some ρ.1)), (2, .int x1), (4, .int x2), (6, .int x3), (10, .int x5), (14, .int x7)]) dX6_source_96 (Nat.le_of_ble_eq_true rfl) rfl ?_
      exact am_lss h rfl
    · have h := h.2 c
      refine am_iconst (v := (-1)) dX6_source_93 (by decide) ?_
      exact am_iret rfl dX6_source_94 ⟨_, _, rfl, rfl, h⟩
theorem B_X6_source_98_f {G : am_G} {ρ : mm_F} {d : Nat} {x3 : Int32} {x5 : Int32} {x9 : Int32} {x10 : Int32} {μ : mm_S} {Q : Int32 → mm_S → Prop} (h : W_X6_many G ρ d x3 μ (fun v2 μ1 => ((v2 ≤ x10 → Q (-1) μ1) ∧ (¬ v2 ≤ x10 → W_X6_get G ρ d x3 x10 4 μ1 (fun v4 μ3 => ((¬ v4 = x9 → B_X6_source_134 G ρ (d + 1) x3 x5 x9 x10 (-1) μ3 Q) ∧ (v4 = x9 → W_X6_field G ρ d x3 x10 x5 μ3 (fun v6 μ5 => B_X6_source_134 G ρ (d + 1) x3 x5 x9 x10 v6 μ5 Q)))))))) : B_X6_source_98 G ρ (d + 1) x3 x5 x9 x10 μ Q := by
  unfold B_X6_source_98
  refine am_iload (x := x10) dX6_source_98 rfl ?_
  refine am_aloadr_n (x := some ρ.1) dX6_source_100 rfl rfl ?_
  refine am_iload_n (x := x3) dX6_source_101 rfl rfl ?_
  refine mm_callV (Mc := m_X6_many) (as := [.int x3]) rfl bm_X6_many q2662 q2664 qs87 (Nat.le_of_ble_eq_true rfl) dX6_source_102 (mt_X6_many (mm_k2i h (fun v2 μ1 h => ?_)))
  refine am_icmp_ge (tgt := 168) dX6_source_105 (by decide) (fun c => ?_) (fun c => ?_)
  · have h := h.1 c
    refine am_iconst (v := (-1)) dX6_source_168 (by decide) ?_
    exact am_iret rfl dX6_source_169 ⟨_, _, rfl, rfl, h⟩
  · have h := h.2 c
    refine am_aloadr_n (x := some ρ.1) dX6_source_108 rfl rfl ?_
    refine am_iload_n (x := x3) dX6_source_109 rfl rfl ?_
    refine am_iload (x := x10) dX6_source_110 rfl ?_
    refine am_iconst (v := 4) dX6_source_112 (by decide) ?_
    refine mm_callV (Mc := m_X6_get) (as := [.int x3, .int x10, .int 4]) rfl bm_X6_get q2666 q2668 qs88 (Nat.le_of_ble_eq_true rfl) dX6_source_113 (mt_X6_get (mm_k2i h (fun v4 μ3 h => ?_)))
    refine am_iload (x := x9) dX6_source_116 rfl ?_
    refine am_icmp_ne (tgt := 133) dX6_source_118 (by decide) (fun c => ?_) (fun c => ?_)
    · have h := h.1 c
      refine am_iconst (v := (-1)) dX6_source_133 (by decide) ?_
      exact am_lss h rfl
    · have h := h.2 c
      refine am_aloadr_n (x := some ρ.1) dX6_source_121 rfl rfl ?_
      refine am_iload_n (x := x3) dX6_source_122 rfl rfl ?_
      refine am_iload (x := x10) dX6_source_123 rfl ?_
      refine am_iload (x := x5) dX6_source_125 rfl ?_
      refine mm_callV (Mc := m_X6_field) (as := [.int x3, .int x10, .int x5]) rfl bm_X6_field q2698 q2700 qs96 (Nat.le_of_ble_eq_true rfl) dX6_source_127 (mt_X6_field (mm_k2i h (fun v6 μ5 h => ?_)))
      refine am_goto (tgt := 134) dX6_source_130 (by decide) ?_
      exact am_lss h rfl
theorem B_X6_source_134_f {G : am_G} {ρ : mm_F} {d : Nat} {x3 : Int32} {x5 : Int32} {x9 : Int32} {x10 : Int32} {s0 : Int32} {μ : mm_S} {Q : Int32 → mm_S → Prop} (h : ((s0 = (-1) → B_X6_source_98 G ρ (d + 1) x3 x5 x9 (x10 + 1) μ Q) ∧ (¬ s0 = (-1) → W_X6_get G ρ d x3 x10 (22 + s0) μ (fun v2 μ1 => ((¬ v2 = x5 → B_X6_source_98 G ρ (d + 1) x3 x5 x9 (x10 + 1) μ1 Q) ∧ (v2 = x5 → Q x5 μ1)))))) : B_X6_source_134 G ρ (d + 1) x3 x5 x9 x10 s0 μ Q := by
  unfold B_X6_source_134
  refine am_istore (L' := [(22, .int s0), (0, va_rf (some ρ.1)), (6, .int x3), (10, .int x5), (18, .int x9), (20, .int x10)]) dX6_source_134 (Nat.le_of_ble_eq_true rfl) rfl ?_
  refine am_iload (x := s0) dX6_source_136 rfl ?_
  refine am_iconst (v := (-1)) dX6_source_138 (by decide) ?_
  refine am_icmp_eq (tgt := 162) dX6_source_139 (by decide) (fun c => ?_) (fun c => ?_)
  · have h := h.1 c
    refine am_iinc (x := x10) (v := (x10 + 1)) (L' := [(20, .int (x10 + 1)), (22, .int s0), (0, va_rf (some ρ.1)), (6, .int x3), (10, .int x5), (18, .int x9)]) dX6_source_162 rfl rfl (Nat.le_of_ble_eq_true rfl) rfl ?_
    refine am_goto (tgt := 98) dX6_source_165 (by decide) ?_
    exact am_lss h rfl
  · have h := h.2 c
    refine am_aloadr_n (x := some ρ.1) dX6_source_142 rfl rfl ?_
    refine am_iload_n (x := x3) dX6_source_143 rfl rfl ?_
    refine am_iload (x := x10) dX6_source_144 rfl ?_
    refine am_bipush (v := 22) dX6_source_146 (by decide) ?_
    refine am_iload (x := s0) dX6_source_148 rfl ?_
    refine am_iadd dX6_source_150 ?_
    refine mm_callV (Mc := m_X6_get) (as := [.int x3, .int x10, .int (22 + s0)]) rfl bm_X6_get q2666 q2668 qs88 (Nat.le_of_ble_eq_true rfl) dX6_source_151 (mt_X6_get (mm_k2i h (fun v2 μ1 h => ?_)))
    refine am_iload (x := x5) dX6_source_154 rfl ?_
    refine am_icmp_ne (tgt := 162) dX6_source_156 (by decide) (fun c => ?_) (fun c => ?_)
    · have h := h.1 c
      refine am_iinc (x := x10) (v := (x10 + 1)) (L' := [(20, .int (x10 + 1)), (22, .int s0), (0, va_rf (some ρ.1)), (6, .int x3), (10, .int x5), (18, .int x9)]) dX6_source_162 rfl rfl (Nat.le_of_ble_eq_true rfl) rfl ?_
      refine am_goto (tgt := 98) dX6_source_165 (by decide) ?_
      exact am_lss h rfl
    · have h := h.2 c
      refine am_iload (x := x5) dX6_source_159 rfl ?_
      exact am_iret rfl dX6_source_161 ⟨_, _, rfl, rfl, h⟩
theorem W_X6_loses_f {G : am_G} {ρ : mm_F} {d : Nat} {a1 : Int32} {a2 : Int32} {μ : mm_S} {Q : mm_S → Prop} (h : B_X6_loses_2 G ρ (d + 1) a1 a2 0 μ Q) : W_X6_loses G ρ (d + 1) a1 a2 μ Q := by
  unfold W_X6_loses
  refine am_iconst (v := 0) dX6_loses_0 (by decide) ?_
  refine am_istore_n (L' := [(6, .int 0), (0, va_rf (some ρ.1)), (2, .int a1), (4, .int a2)]) dX6_loses_1 rfl (Nat.le_of_ble_eq_true rfl) rfl ?_
  exact am_lss h rfl
theorem B_X6_loses_2_f {G : am_G} {ρ : mm_F} {d : Nat} {x1 : Int32} {x2 : Int32} {x3 : Int32} {μ : mm_S} {Q : mm_S → Prop} (h : ((40 ≤ x3 → Q μ) ∧ (¬ 40 ≤ x3 → (vp_in x1 40 ∧ W_X6_fieldAt G ρ d 0 (mA μ 35 (Int32.toNatClampNeg x1)) x3 μ (fun v2 μ1 => ((¬ v2 = (-1) → B_X6_loses_33 G ρ (d + 1) x1 x2 x3 0 0 μ1 Q) ∧ (v2 = (-1) → B_X6_loses_2 G ρ (d + 1) x1 x2 (x3 + 1) μ1 Q))))))) : B_X6_loses_2 G ρ (d + 1) x1 x2 x3 μ Q := by
  unfold B_X6_loses_2
  refine am_iload_n (x := x3) dX6_loses_2 rfl rfl ?_
  refine am_bipush (v := 40) dX6_loses_3 (by decide) ?_
  refine am_icmp_ge (tgt := 137) dX6_loses_5 (by decide) (fun c => ?_) (fun c => ?_)
  · have h := h.1 c
    exact am_vret rfl dX6_loses_137 ⟨_, rfl, rfl, h⟩
  · have h := h.2 c
    refine am_aloadr_n (x := some ρ.1) dX6_loses_8 rfl rfl ?_
    refine am_iconst (v := 0) dX6_loses_9 (by decide) ?_
    refine am_aloadr_n (x := some ρ.1) dX6_loses_10 rfl rfl ?_
    refine mm_gA (k := 35) rfl isA_35 q2354 dX6_loses_11 ?_
    refine am_iload_n (x := x1) dX6_loses_14 rfl rfl ?_
    refine mm_ldA (k := 35) isA_35 rfl rfl dX6_loses_15 h.1 ?_
    have h := h.2
    refine am_iload_n (x := x3) dX6_loses_16 rfl rfl ?_
    refine mm_callV (Mc := m_X6_fieldAt) (as := [.int 0, .int (mA μ 35 (Int32.toNatClampNeg x1)), .int x3]) rfl bm_X6_fieldAt q2819 q2821 qs120 (Nat.le_of_ble_eq_true rfl) dX6_loses_17 (mt_X6_fieldAt (mm_k2i h (fun v2 μ1 h => ?_)))
    refine am_iconst (v := (-1)) dX6_loses_20 (by decide) ?_
    refine am_icmp_ne (tgt := 27) dX6_loses_21 (by decide) (fun c => ?_) (fun c => ?_)
    · have h := h.1 c
      refine am_iconst (v := 0) dX6_loses_27 (by decide) ?_
      refine am_istore (L' := [(8, .int 0), (0, va_rf (some ρ.1)), (2, .int x1), (4, .int x2), (6, .int x3)]) dX6_loses_28 (Nat.le_of_ble_eq_true rfl) rfl ?_
      refine am_iconst (v := 0) dX6_loses_30 (by decide) ?_
      refine am_istore (L' := [(10, .int 0), (8, .int 0), (0, va_rf (some ρ.1)), (2, .int x1), (4, .int x2), (6, .int x3)]) dX6_loses_31 (Nat.le_of_ble_eq_true rfl) rfl ?_
      exact am_lss h rfl
    · have h := h.2 c
      refine am_goto (tgt := 131) dX6_loses_24 (by decide) ?_
      refine am_iinc (x := x3) (v := (x3 + 1)) (L' := [(6, .int (x3 + 1)), (0, va_rf (some ρ.1)), (2, .int x1), (4, .int x2)]) dX6_loses_131 rfl rfl (Nat.le_of_ble_eq_true rfl) rfl ?_
      refine am_goto (tgt := 2) dX6_loses_134 (by decide) ?_
      exact am_lss h rfl
theorem B_X6_loses_33_f {G : am_G} {ρ : mm_F} {d : Nat} {x1 : Int32} {x2 : Int32} {x3 : Int32} {x4 : Int32} {x5 : Int32} {μ : mm_S} {Q : mm_S → Prop} (h : ((40 ≤ x5 → ((x4 = 0 → (vp_in ((40 * x1) + x3) 1600 ∧ ∀ μ1 : mm_S, μ1 = mm_sA μ 38 (Int32.toNatClampNeg ((40 * x1) + x3)) 1 → ((vp_in ((40 * x1) + x3) 1600 ∧ (vp_in ((40 * x1) + x3) 1600 ∧ ∀ μ2 : mm_S, μ2 = mm_sA μ1 37 (Int32.toNatClampNeg ((40 * x1) + x3)) (mA μ1 36 (Int32.toNatClampNeg ((40 * x1) + x3))) → (B_X6_loses_2 G ρ (d + 1) x1 x2 (x3 + 1) μ2 Q)))))) ∧ (¬ x4 = 0 → B_X6_loses_2 G ρ (d + 1) x1 x2 (x3 + 1) μ Q))) ∧ (¬ 40 ≤ x5 → ((¬ x4 = 0 → B_X6_loses_33 G ρ (d + 1) x1 x2 x3 1 (x5 + 1) μ Q) ∧ (x4 = 0 → W_X6_fieldAt G ρ d 1 x2 x5 μ (fun v4 μ3 => ((v4 = (-1) → B_X6_loses_33 G ρ (d + 1) x1 x2 x3 0 (x5 + 1) μ3 Q) ∧ (¬ v4 = (-1) → (vp_in x1 40 ∧ W_X6_source G ρ d 0 (mA μ3 35 (Int32.toNatClampNeg x1)) 1 x2 x5 μ3 (fun v6 μ5 => ((¬ v6 = x3 → B_X6_loses_33 G ρ (d + 1) x1 x2 x3 0 (x5 + 1) μ5 Q) ∧ (v6 = x3 → B_X6_loses_33 G ρ (d + 1) x1 x2 x3 1 (x5 + 1) μ5 Q)))))))))))) : B_X6_loses_33 G ρ (d + 1) x1 x2 x3 x4 x5 μ Q := by
  unfold B_X6_loses_33
  refine am_iload (x := x5) dX6_loses_33 rfl ?_
  refine am_bipush (v := 40) dX6_loses_35 (by decide) ?_
  refine am_icmp_ge (tgt := 89) dX6_loses_37 (by decide) (fun c => ?_) (fun c => ?_)
  · have h := h.1 c
    refine am_iload (x := x4) dX6_loses_89 rfl ?_
    refine am_if_eq (tgt := 97) dX6_loses_91 (by decide) (fun c => ?_) (fun c => ?_)
    · have h := h.1 c
      refine am_aloadr_n (x := some ρ.1) dX6_loses_97 rfl rfl ?_
      refine mm_gA (k := 38) rfl isA_38 q2357 dX6_loses_98 ?_
      refine am_bipush (v := 40) dX6_loses_101 (by decide) ?_
      refine am_iload_n (x := x1) dX6_loses_103 rfl rfl ?_
      refine am_imul dX6_loses_104 ?_
      refine am_iload_n (x := x3) dX6_loses_105 rfl rfl ?_
      refine am_iadd dX6_loses_106 ?_
      refine am_iconst (v := 1) dX6_loses_107 (by decide) ?_
      refine mm_stZ (k := 38) isA_38 rfl rfl (by decide) dX6_loses_108 h.1 ?_
      have h := h.2
      generalize eμ1 : mm_sA μ 38 (Int32.toNatClampNeg ((40 * x1) + x3)) 1 = μ1
      have h := h μ1 eμ1.symm
      refine am_aloadr_n (x := some ρ.1) dX6_loses_109 rfl rfl ?_
      refine mm_gA (k := 37) rfl isA_37 q2356 dX6_loses_110 ?_
      refine am_bipush (v := 40) dX6_loses_113 (by decide) ?_
      refine am_iload_n (x := x1) dX6_loses_115 rfl rfl ?_
      refine am_imul dX6_loses_116 ?_
      refine am_iload_n (x := x3) dX6_loses_117 rfl rfl ?_
      refine am_iadd dX6_loses_118 ?_
      refine am_aloadr_n (x := some ρ.1) dX6_loses_119 rfl rfl ?_
      refine mm_gA (k := 36) rfl isA_36 q2355 dX6_loses_120 ?_
      refine am_bipush (v := 40) dX6_loses_123 (by decide) ?_
      refine am_iload_n (x := x1) dX6_loses_125 rfl rfl ?_
      refine am_imul dX6_loses_126 ?_
      refine am_iload_n (x := x3) dX6_loses_127 rfl rfl ?_
      refine am_iadd dX6_loses_128 ?_
      refine mm_ldA (k := 36) isA_36 rfl rfl dX6_loses_129 h.1 ?_
      have h := h.2
      refine mm_stA (k := 37) isA_37 rfl rfl dX6_loses_130 h.1 ?_
      have h := h.2
      generalize eμ2 : mm_sA μ1 37 (Int32.toNatClampNeg ((40 * x1) + x3)) (mA μ1 36 (Int32.toNatClampNeg ((40 * x1) + x3))) = μ2
      have h := h μ2 eμ2.symm
      refine am_iinc (x := x3) (v := (x3 + 1)) (L' := [(6, .int (x3 + 1)), (0, va_rf (some ρ.1)), (2, .int x1), (4, .int x2), (8, .int x4), (10, .int x5)]) dX6_loses_131 rfl rfl (Nat.le_of_ble_eq_true rfl) rfl ?_
      refine am_goto (tgt := 2) dX6_loses_134 (by decide) ?_
      exact am_lss h rfl
    · have h := h.2 c
      refine am_goto (tgt := 131) dX6_loses_94 (by decide) ?_
      refine am_iinc (x := x3) (v := (x3 + 1)) (L' := [(6, .int (x3 + 1)), (0, va_rf (some ρ.1)), (2, .int x1), (4, .int x2), (8, .int x4), (10, .int x5)]) dX6_loses_131 rfl rfl (Nat.le_of_ble_eq_true rfl) rfl ?_
      refine am_goto (tgt := 2) dX6_loses_134 (by decide) ?_
      exact am_lss h rfl
  · have h := h.2 c
    refine am_iload (x := x4) dX6_loses_40 rfl ?_
    refine am_if_ne (tgt := 76) dX6_loses_42 (by decide) (fun c => ?_) (fun c => ?_)
    · have h := h.1 c
      refine am_iconst (v := 1) dX6_loses_76 (by decide) ?_
      refine am_goto (tgt := 81) dX6_loses_77 (by decide) ?_
      refine am_istore (L' := [(8, .int 1), (0, va_rf (some ρ.1)), (2, .int x1), (4, .int x2), (6, .int x3), (10, .int x5)]) dX6_loses_81 (Nat.le_of_ble_eq_true rfl) rfl ?_
      refine am_iinc (x := x5) (v := (x5 + 1)) (L' := [(10, .int (x5 + 1)), (8, .int 1), (0, va_rf (some ρ.1)), (2, .int x1), (4, .int x2), (6, .int x3)]) dX6_loses_83 rfl rfl (Nat.le_of_ble_eq_true rfl) rfl ?_
      refine am_goto (tgt := 33) dX6_loses_86 (by decide) ?_
      exact am_lss h rfl
    · have h := h.2 c
      refine am_aloadr_n (x := some ρ.1) dX6_loses_45 rfl rfl ?_
      refine am_iconst (v := 1) dX6_loses_46 (by decide) ?_
      refine am_iload_n (x := x2) dX6_loses_47 rfl rfl ?_
      refine am_iload (x := x5) dX6_loses_48 rfl ?_
      refine mm_callV (Mc := m_X6_fieldAt) (as := [.int 1, .int x2, .int x5]) rfl bm_X6_fieldAt q2819 q2821 qs120 (Nat.le_of_ble_eq_true rfl) dX6_loses_50 (mt_X6_fieldAt (mm_k2i h (fun v4 μ3 h => ?_)))
      refine am_iconst (v := (-1)) dX6_loses_53 (by decide) ?_
      refine am_icmp_eq (tgt := 80) dX6_loses_54 (by decide) (fun c => ?_) (fun c => ?_)
      · have h := h.1 c
        refine am_iconst (v := 0) dX6_loses_80 (by decide) ?_
        refine am_istore (L' := [(8, .int 0), (0, va_rf (some ρ.1)), (2, .int x1), (4, .int x2), (6, .int x3), (10, .int x5)]) dX6_loses_81 (Nat.le_of_ble_eq_true rfl) rfl ?_
        refine am_iinc (x := x5) (v := (x5 + 1)) (L' := [(10, .int (x5 + 1)), (8, .int 0), (0, va_rf (some ρ.1)), (2, .int x1), (4, .int x2), (6, .int x3)]) dX6_loses_83 rfl rfl (Nat.le_of_ble_eq_true rfl) rfl ?_
        refine am_goto (tgt := 33) dX6_loses_86 (by decide) ?_
        exact am_lss h rfl
      · have h := h.2 c
        refine am_aloadr_n (x := some ρ.1) dX6_loses_57 rfl rfl ?_
        refine am_iconst (v := 0) dX6_loses_58 (by decide) ?_
        refine am_aloadr_n (x := some ρ.1) dX6_loses_59 rfl rfl ?_
        refine mm_gA (k := 35) rfl isA_35 q2354 dX6_loses_60 ?_
        refine am_iload_n (x := x1) dX6_loses_63 rfl rfl ?_
        refine mm_ldA (k := 35) isA_35 rfl rfl dX6_loses_64 h.1 ?_
        have h := h.2
        refine am_iconst (v := 1) dX6_loses_65 (by decide) ?_
        refine am_iload_n (x := x2) dX6_loses_66 rfl rfl ?_
        refine am_iload (x := x5) dX6_loses_67 rfl ?_
        refine mm_callV (Mc := m_X6_source) (as := [.int 0, .int (mA μ3 35 (Int32.toNatClampNeg x1)), .int 1, .int x2, .int x5]) rfl bm_X6_source q3018 q3020 qs155 (Nat.le_of_ble_eq_true rfl) dX6_loses_69 (mt_X6_source (mm_k2i h (fun v6 μ5 h => ?_)))
        refine am_iload_n (x := x3) dX6_loses_72 rfl rfl ?_
        refine am_icmp_ne (tgt := 80) dX6_loses_73 (by decide) (fun c => ?_) (fun c => ?_)
        · have h := h.1 c
          refine am_iconst (v := 0) dX6_loses_80 (by decide) ?_
          refine am_istore (L' := [(8, .int 0), (0, va_rf (some ρ.1)), (2, .int x1), (4, .int x2), (6, .int x3), (10, .int x5)]) dX6_loses_81 (Nat.le_of_ble_eq_true rfl) rfl ?_
          refine am_iinc (x := x5) (v := (x5 + 1)) (L' := [(10, .int (x5 + 1)), (8, .int 0), (0, va_rf (some ρ.1)), (2, .int x1), (4, .int x2), (6, .int x3)]) dX6_loses_83 rfl rfl (Nat.le_of_ble_eq_true rfl) rfl ?_
          refine am_goto (tgt := 33) dX6_loses_86 (by decide) ?_
          exact am_lss h rfl
        · have h := h.2 c
          refine am_iconst (v := 1) dX6_loses_76 (by decide) ?_
          refine am_goto (tgt := 81) dX6_loses_77 (by decide) ?_
          refine am_istore (L' := [(8, .int 1), (0, va_rf (some ρ.1)), (2, .int x1), (4, .int x2), (6, .int x3), (10, .int x5)]) dX6_loses_81 (Nat.le_of_ble_eq_true rfl) rfl ?_
          refine am_iinc (x := x5) (v := (x5 + 1)) (L' := [(10, .int (x5 + 1)), (8, .int 1), (0, va_rf (some ρ.1)), (2, .int x1), (4, .int x2), (6, .int x3)]) dX6_loses_83 rfl rfl (Nat.le_of_ble_eq_true rfl) rfl ?_
          refine am_goto (tgt := 33) dX6_loses_86 (by decide) ?_
          exact am_lss h rfl
theorem W_X6_checked_f {G : am_G} {ρ : mm_F} {d : Nat} {a1 : Int32} {μ : mm_S} {Q : Int32 → mm_S → Prop} (h : (vp_in a1 6 ∧ B_X6_checked_9 G ρ (d + 1) 0 (mA μ 31 (Int32.toNatClampNeg a1)) μ Q)) : W_X6_checked G ρ (d + 1) a1 μ Q := by
  unfold W_X6_checked
  refine am_iconst (v := 0) dX6_checked_0 (by decide) ?_
  refine am_istore_n (L' := [(4, .int 0), (0, va_rf (some ρ.1)), (2, .int a1)]) dX6_checked_1 rfl (Nat.le_of_ble_eq_true rfl) rfl ?_
  refine am_aloadr_n (x := some ρ.1) dX6_checked_2 rfl rfl ?_
  refine mm_gA (k := 31) rfl isA_31 q2350 dX6_checked_3 ?_
  refine am_iload_n (x := a1) dX6_checked_6 rfl rfl ?_
  refine mm_ldA (k := 31) isA_31 rfl rfl dX6_checked_7 h.1 ?_
  have h := h.2
  refine am_istore_n (L' := [(6, .int (mA μ 31 (Int32.toNatClampNeg a1))), (4, .int 0), (0, va_rf (some ρ.1)), (2, .int a1)]) dX6_checked_8 rfl (Nat.le_of_ble_eq_true rfl) rfl ?_
  exact am_lss h rfl
theorem B_X6_checked_9_f {G : am_G} {ρ : mm_F} {d : Nat} {x2 : Int32} {x3 : Int32} {μ : mm_S} {Q : Int32 → mm_S → Prop} (h : ((x3 = (-1) → Q 1 μ) ∧ (¬ x3 = (-1) → W_X6_of G ρ d x3 0 μ (fun v2 μ1 => ((¬ v2 = 44 → B_X6_checked_45 G ρ (d + 1) x2 x3 (-1) 0 μ1 Q) ∧ (v2 = 44 → W_X6_of G ρ d x3 1 μ1 (fun v4 μ3 => W_X6_find G ρ d 0 v4 μ3 (fun v6 μ5 => B_X6_checked_45 G ρ (d + 1) x2 x3 v6 0 μ5 Q)))))))) : B_X6_checked_9 G ρ (d + 1) x2 x3 μ Q := by
  unfold B_X6_checked_9
  refine am_iload_n (x := x3) dX6_checked_9 rfl rfl ?_
  refine am_iconst (v := (-1)) dX6_checked_10 (by decide) ?_
  refine am_icmp_eq (tgt := 173) dX6_checked_11 (by decide) (fun c => ?_) (fun c => ?_)
  · have h := h.1 c
    refine am_iconst (v := 1) dX6_checked_173 (by decide) ?_
    exact am_zret rfl rfl dX6_checked_174 ⟨_, _, rfl, rfl, h⟩
  · have h := h.2 c
    refine am_aloadr_n (x := some ρ.1) dX6_checked_14 rfl rfl ?_
    refine am_iload_n (x := x3) dX6_checked_15 rfl rfl ?_
    refine am_iconst (v := 0) dX6_checked_16 (by decide) ?_
    refine mm_callV (Mc := m_X6_of) (as := [.int x3, .int 0]) rfl bm_X6_of q2895 q2897 qs128 (Nat.le_of_ble_eq_true rfl) dX6_checked_17 (mt_X6_of (mm_k2i h (fun v2 μ1 h => ?_)))
    refine am_bipush (v := 44) dX6_checked_20 (by decide) ?_
    refine am_icmp_ne (tgt := 39) dX6_checked_22 (by decide) (fun c => ?_) (fun c => ?_)
    · have h := h.1 c
      refine am_iconst (v := (-1)) dX6_checked_39 (by decide) ?_
      refine am_istore (L' := [(8, .int (-1)), (0, va_rf (some ρ.1)), (4, .int x2), (6, .int x3)]) dX6_checked_40 (Nat.le_of_ble_eq_true rfl) rfl ?_
      refine am_iconst (v := 0) dX6_checked_42 (by decide) ?_
      refine am_istore (L' := [(10, .int 0), (8, .int (-1)), (0, va_rf (some ρ.1)), (4, .int x2), (6, .int x3)]) dX6_checked_43 (Nat.le_of_ble_eq_true rfl) rfl ?_
      exact am_lss h rfl
    · have h := h.2 c
      refine am_aloadr_n (x := some ρ.1) dX6_checked_25 rfl rfl ?_
      refine am_iconst (v := 0) dX6_checked_26 (by decide) ?_
      refine am_aloadr_n (x := some ρ.1) dX6_checked_27 rfl rfl ?_
      refine am_iload_n (x := x3) dX6_checked_28 rfl rfl ?_
      refine am_iconst (v := 1) dX6_checked_29 (by decide) ?_
      refine mm_callV (Mc := m_X6_of) (as := [.int x3, .int 1]) rfl bm_X6_of q2895 q2897 qs128 (Nat.le_of_ble_eq_true rfl) dX6_checked_30 (mt_X6_of (mm_k2i h (fun v4 μ3 h => ?_)))
      refine mm_callV (Mc := m_X6_find) (as := [.int 0, .int v4]) rfl bm_X6_find q2658 q2660 qs86 (Nat.le_of_ble_eq_true rfl) dX6_checked_33 (mt_X6_find (mm_k2i h (fun v6 μ5 h => ?_)))
      refine am_goto (tgt := 40) dX6_checked_36 (by decide) ?_
      refine am_istore (L' := [(8, .int v6), (0, va_rf (some ρ.1)), (4, .int x2), (6, .int x3)]) dX6_checked_40 (Nat.le_of_ble_eq_true rfl) rfl ?_
      refine am_iconst (v := 0) dX6_checked_42 (by decide) ?_
      refine am_istore (L' := [(10, .int 0), (8, .int v6), (0, va_rf (some ρ.1)), (4, .int x2), (6, .int x3)]) dX6_checked_43 (Nat.le_of_ble_eq_true rfl) rfl ?_
      exact am_lss h rfl
theorem B_X6_checked_45_f {G : am_G} {ρ : mm_F} {d : Nat} {x2 : Int32} {x3 : Int32} {x4 : Int32} {x5 : Int32} {μ : mm_S} {Q : Int32 → mm_S → Prop} (h : (((mI μ 33) ≤ x5 → W_X6_in G ρ d x3 4 μ (fun v2 μ1 => B_X6_checked_9 G ρ (d + 1) (x2 + 1) v2 μ1 Q)) ∧ (¬ (mI μ 33) ≤ x5 → ((x4 = (-1) → W_X6_in G ρ d x3 4 μ (fun v4 μ3 => B_X6_checked_9 G ρ (d + 1) (x2 + 1) v4 μ3 Q)) ∧ (¬ x4 = (-1) → (vp_in x5 40 ∧ (((mA μ 34 (Int32.toNatClampNeg x5)) = 0 → B_X6_checked_45 G ρ (d + 1) x2 x3 x4 (x5 + 1) μ Q) ∧ (¬ (mA μ 34 (Int32.toNatClampNeg x5)) = 0 → (vp_in x5 40 ∧ (((mA μ 93 (Int32.toNatClampNeg x5)) = (-1) → B_X6_checked_45 G ρ (d + 1) x2 x3 x4 (x5 + 1) μ Q) ∧ (¬ (mA μ 93 (Int32.toNatClampNeg x5)) = (-1) → (vp_in x5 40 ∧ W_X6_isUnder G ρ d 0 (mA μ 35 (Int32.toNatClampNeg x5)) x4 μ (fun v6 μ5 => ((¬ v6 = 0 → (vp_in 0 21 ∧ ∀ μ7 : mm_S, μ7 = mm_sA μ5 43 (Int32.toNatClampNeg 0) x5 → ((vp_in 0 21 ∧ ∀ μ8 : mm_S, μ8 = mm_sA μ7 44 (Int32.toNatClampNeg 0) 0 → ((vp_in 0 21 ∧ ∀ μ9 : mm_S, μ9 = mm_sA μ8 45 (Int32.toNatClampNeg 0) 0 → (W_X6_in G ρ d x3 2 μ9 (fun v11 μ10 => W_X6_eval G ρ d v11 0 μ10 (fun v13 μ12 => ((v13 = 0 → W_X6_refuses G ρ d 10 x2 x5 μ12 (fun v15 μ14 => (narrow .boolean (.int v15) = .int v15 ∧ Q v15 μ14))) ∧ (¬ v13 = 0 → ((¬ (mI μ12 52) = 0 → B_X6_checked_45 G ρ (d + 1) x2 x3 x4 (x5 + 1) μ12 Q) ∧ ((mI μ12 52) = 0 → W_X6_refuses G ρ d 10 x2 x5 μ12 (fun v17 μ16 => (narrow .boolean (.int v17) = .int v17 ∧ Q v17 μ16))))))))))))))) ∧ (v6 = 0 → B_X6_checked_45 G ρ (d + 1) x2 x3 x4 (x5 + 1) μ5 Q))))))))))))))) : B_X6_checked_45 G ρ (d + 1) x2 x3 x4 x5 μ Q := by
  unfold B_X6_checked_45
  refine am_iload (x := x5) dX6_checked_45 rfl ?_
  refine am_aloadr_n (x := some ρ.1) dX6_checked_47 rfl rfl ?_
  refine mm_gI (k := 33) rfl (Or.inl rfl) (by decide) q2352 dX6_checked_48 ?_
  refine am_icmp_ge (tgt := 160) dX6_checked_51 (by decide) (fun c => ?_) (fun c => ?_)
  · have h := h.1 c
    refine am_iinc (x := x2) (v := (x2 + 1)) (L' := [(4, .int (x2 + 1)), (0, va_rf (some ρ.1)), (6, .int x3), (8, .int x4), (10, .int x5)]) dX6_checked_160 rfl rfl (Nat.le_of_ble_eq_true rfl) rfl ?_
    refine am_aloadr_n (x := some ρ.1) dX6_checked_163 rfl rfl ?_
    refine am_iload_n (x := x3) dX6_checked_164 rfl rfl ?_
    refine am_iconst (v := 4) dX6_checked_165 (by decide) ?_
    refine mm_callV (Mc := m_X6_in) (as := [.int x3, .int 4]) rfl bm_X6_in q2899 q2901 qs129 (Nat.le_of_ble_eq_true rfl) dX6_checked_166 (mt_X6_in (mm_k2i h (fun v2 μ1 h => ?_)))
    refine am_istore_n (L' := [(6, .int v2), (4, .int (x2 + 1)), (0, va_rf (some ρ.1)), (8, .int x4), (10, .int x5)]) dX6_checked_169 rfl (Nat.le_of_ble_eq_true rfl) rfl ?_
    refine am_goto (tgt := 9) dX6_checked_170 (by decide) ?_
    exact am_lss h rfl
  · have h := h.2 c
    refine am_iload (x := x4) dX6_checked_54 rfl ?_
    refine am_iconst (v := (-1)) dX6_checked_56 (by decide) ?_
    refine am_icmp_eq (tgt := 160) dX6_checked_57 (by decide) (fun c => ?_) (fun c => ?_)
    · have h := h.1 c
      refine am_iinc (x := x2) (v := (x2 + 1)) (L' := [(4, .int (x2 + 1)), (0, va_rf (some ρ.1)), (6, .int x3), (8, .int x4), (10, .int x5)]) dX6_checked_160 rfl rfl (Nat.le_of_ble_eq_true rfl) rfl ?_
      refine am_aloadr_n (x := some ρ.1) dX6_checked_163 rfl rfl ?_
      refine am_iload_n (x := x3) dX6_checked_164 rfl rfl ?_
      refine am_iconst (v := 4) dX6_checked_165 (by decide) ?_
      refine mm_callV (Mc := m_X6_in) (as := [.int x3, .int 4]) rfl bm_X6_in q2899 q2901 qs129 (Nat.le_of_ble_eq_true rfl) dX6_checked_166 (mt_X6_in (mm_k2i h (fun v4 μ3 h => ?_)))
      refine am_istore_n (L' := [(6, .int v4), (4, .int (x2 + 1)), (0, va_rf (some ρ.1)), (8, .int x4), (10, .int x5)]) dX6_checked_169 rfl (Nat.le_of_ble_eq_true rfl) rfl ?_
      refine am_goto (tgt := 9) dX6_checked_170 (by decide) ?_
      exact am_lss h rfl
    · have h := h.2 c
      refine am_aloadr_n (x := some ρ.1) dX6_checked_60 rfl rfl ?_
      refine mm_gA (k := 34) rfl isA_34 q2353 dX6_checked_61 ?_
      refine am_iload (x := x5) dX6_checked_64 rfl ?_
      refine mm_ldZ (k := 34) isA_34 rfl rfl dX6_checked_66 h.1 ?_
      have h := h.2
      refine am_if_eq (tgt := 154) dX6_checked_67 (by decide) (fun c => ?_) (fun c => ?_)
      · have h := h.1 c
        refine am_iinc (x := x5) (v := (x5 + 1)) (L' := [(10, .int (x5 + 1)), (0, va_rf (some ρ.1)), (4, .int x2), (6, .int x3), (8, .int x4)]) dX6_checked_154 rfl rfl (Nat.le_of_ble_eq_true rfl) rfl ?_
        refine am_goto (tgt := 45) dX6_checked_157 (by decide) ?_
        exact am_lss h rfl
      · have h := h.2 c
        refine am_aloadr_n (x := some ρ.1) dX6_checked_70 rfl rfl ?_
        refine mm_gA (k := 93) rfl isA_93 q2412 dX6_checked_71 ?_
        refine am_iload (x := x5) dX6_checked_74 rfl ?_
        refine mm_ldA (k := 93) isA_93 rfl rfl dX6_checked_76 h.1 ?_
        have h := h.2
        refine am_iconst (v := (-1)) dX6_checked_77 (by decide) ?_
        refine am_icmp_eq (tgt := 154) dX6_checked_78 (by decide) (fun c => ?_) (fun c => ?_)
        · have h := h.1 c
          refine am_iinc (x := x5) (v := (x5 + 1)) (L' := [(10, .int (x5 + 1)), (0, va_rf (some ρ.1)), (4, .int x2), (6, .int x3), (8, .int x4)]) dX6_checked_154 rfl rfl (Nat.le_of_ble_eq_true rfl) rfl ?_
          refine am_goto (tgt := 45) dX6_checked_157 (by decide) ?_
          exact am_lss h rfl
        · have h := h.2 c
          refine am_aloadr_n (x := some ρ.1) dX6_checked_81 rfl rfl ?_
          refine am_iconst (v := 0) dX6_checked_82 (by decide) ?_
          refine am_aloadr_n (x := some ρ.1) dX6_checked_83 rfl rfl ?_
          refine mm_gA (k := 35) rfl isA_35 q2354 dX6_checked_84 ?_
          refine am_iload (x := x5) dX6_checked_87 rfl ?_
          refine mm_ldA (k := 35) isA_35 rfl rfl dX6_checked_89 h.1 ?_
          have h := h.2
          refine am_iload (x := x4) dX6_checked_90 rfl ?_
          refine mm_callV (Mc := m_X6_isUnder) (as := [.int 0, .int (mA μ 35 (Int32.toNatClampNeg x5)), .int x4]) rfl bm_X6_isUnder q2986 q2988 qs147 (Nat.le_of_ble_eq_true rfl) dX6_checked_92 (mt_X6_isUnder (mm_k2i h (fun v6 μ5 h => ?_)))
          refine am_if_ne (tgt := 101) dX6_checked_95 (by decide) (fun c => ?_) (fun c => ?_)
          · have h := h.1 c
            refine am_aloadr_n (x := some ρ.1) dX6_checked_101 rfl rfl ?_
            refine mm_gA (k := 43) rfl isA_43 q2362 dX6_checked_102 ?_
            refine am_iconst (v := 0) dX6_checked_105 (by decide) ?_
            refine am_iload (x := x5) dX6_checked_106 rfl ?_
            refine mm_stA (k := 43) isA_43 rfl rfl dX6_checked_108 h.1 ?_
            have h := h.2
            generalize eμ7 : mm_sA μ5 43 (Int32.toNatClampNeg 0) x5 = μ7
            have h := h μ7 eμ7.symm
            refine am_aloadr_n (x := some ρ.1) dX6_checked_109 rfl rfl ?_
            refine mm_gA (k := 44) rfl isA_44 q2363 dX6_checked_110 ?_
            refine am_iconst (v := 0) dX6_checked_113 (by decide) ?_
            refine am_iconst (v := 0) dX6_checked_114 (by decide) ?_
            refine mm_stA (k := 44) isA_44 rfl rfl dX6_checked_115 h.1 ?_
            have h := h.2
            generalize eμ8 : mm_sA μ7 44 (Int32.toNatClampNeg 0) 0 = μ8
            have h := h μ8 eμ8.symm
            refine am_aloadr_n (x := some ρ.1) dX6_checked_116 rfl rfl ?_
            refine mm_gA (k := 45) rfl isA_45 q2364 dX6_checked_117 ?_
            refine am_iconst (v := 0) dX6_checked_120 (by decide) ?_
            refine am_iconst (v := 0) dX6_checked_121 (by decide) ?_
            refine mm_stA (k := 45) isA_45 rfl rfl dX6_checked_122 h.1 ?_
            have h := h.2
            generalize eμ9 : mm_sA μ8 45 (Int32.toNatClampNeg 0) 0 = μ9
            have h := h μ9 eμ9.symm
            refine am_aloadr_n (x := some ρ.1) dX6_checked_123 rfl rfl ?_
            refine am_aloadr_n (x := some ρ.1) dX6_checked_124 rfl rfl ?_
            refine am_iload_n (x := x3) dX6_checked_125 rfl rfl ?_
            refine am_iconst (v := 2) dX6_checked_126 (by decide) ?_
            refine mm_callV (Mc := m_X6_in) (as := [.int x3, .int 2]) rfl bm_X6_in q2899 q2901 qs129 (Nat.le_of_ble_eq_true rfl) dX6_checked_127 (mt_X6_in (mm_k2i h (fun v11 μ10 h => ?_)))
            refine am_iconst (v := 0) dX6_checked_130 (by decide) ?_
            refine mm_callV (Mc := m_X6_eval) (as := [.int v11, .int 0]) rfl bm_X6_eval q2903 q2905 qs130 (Nat.le_of_ble_eq_true rfl) dX6_checked_131 (mt_X6_eval (mm_k2i h (fun v13 μ12 h => ?_)))
            refine am_if_eq (tgt := 144) dX6_checked_134 (by decide) (fun c => ?_) (fun c => ?_)
            · have h := h.1 c
              refine am_aloadr_n (x := some ρ.1) dX6_checked_144 rfl rfl ?_
              refine am_bipush (v := 10) dX6_checked_145 (by decide) ?_
              refine am_iload_n (x := x2) dX6_checked_147 rfl rfl ?_
              refine am_iload (x := x5) dX6_checked_148 rfl ?_
              refine mm_callV (Mc := m_X6_refuses) (as := [.int 10, .int x2, .int x5]) rfl bm_X6_refuses q2974 q2976 qs144 (Nat.le_of_ble_eq_true rfl) dX6_checked_150 (mt_X6_refuses (mm_k2i h (fun v15 μ14 h => ?_)))
              exact am_zret rfl h.1 dX6_checked_153 ⟨_, _, rfl, rfl, h.2⟩
            · have h := h.2 c
              refine am_aloadr_n (x := some ρ.1) dX6_checked_137 rfl rfl ?_
              refine mm_gI (k := 52) rfl (Or.inl rfl) (by decide) q2371 dX6_checked_138 ?_
              refine am_if_ne (tgt := 154) dX6_checked_141 (by decide) (fun c => ?_) (fun c => ?_)
              · have h := h.1 c
                refine am_iinc (x := x5) (v := (x5 + 1)) (L' := [(10, .int (x5 + 1)), (0, va_rf (some ρ.1)), (4, .int x2), (6, .int x3), (8, .int x4)]) dX6_checked_154 rfl rfl (Nat.le_of_ble_eq_true rfl) rfl ?_
                refine am_goto (tgt := 45) dX6_checked_157 (by decide) ?_
                exact am_lss h rfl
              · have h := h.2 c
                refine am_aloadr_n (x := some ρ.1) dX6_checked_144 rfl rfl ?_
                refine am_bipush (v := 10) dX6_checked_145 (by decide) ?_
                refine am_iload_n (x := x2) dX6_checked_147 rfl rfl ?_
                refine am_iload (x := x5) dX6_checked_148 rfl ?_
                refine mm_callV (Mc := m_X6_refuses) (as := [.int 10, .int x2, .int x5]) rfl bm_X6_refuses q2974 q2976 qs144 (Nat.le_of_ble_eq_true rfl) dX6_checked_150 (mt_X6_refuses (mm_k2i h (fun v17 μ16 h => ?_)))
                exact am_zret rfl h.1 dX6_checked_153 ⟨_, _, rfl, rfl, h.2⟩
          · have h := h.2 c
            refine am_goto (tgt := 154) dX6_checked_98 (by decide) ?_
            refine am_iinc (x := x5) (v := (x5 + 1)) (L' := [(10, .int (x5 + 1)), (0, va_rf (some ρ.1)), (4, .int x2), (6, .int x3), (8, .int x4)]) dX6_checked_154 rfl rfl (Nat.le_of_ble_eq_true rfl) rfl ?_
            refine am_goto (tgt := 45) dX6_checked_157 (by decide) ?_
            exact am_lss h rfl
theorem W_X6_ends_f {G : am_G} {ρ : mm_F} {d : Nat} {a1 : Int32} {μ : mm_S} {Q : mm_S → Prop} (h : (vp_in a1 40 ∧ ∀ μ1 : mm_S, μ1 = mm_sA μ 34 (Int32.toNatClampNeg a1) 0 → (B_X6_ends_9 G ρ d a1 0 μ1 Q))) : W_X6_ends G ρ d a1 μ Q := by
  unfold W_X6_ends
  refine am_aloadr_n (x := some ρ.1) dX6_ends_0 rfl rfl ?_
  refine mm_gA (k := 34) rfl isA_34 q2353 dX6_ends_1 ?_
  refine am_iload_n (x := a1) dX6_ends_4 rfl rfl ?_
  refine am_iconst (v := 0) dX6_ends_5 (by decide) ?_
  refine mm_stZ (k := 34) isA_34 rfl rfl (by decide) dX6_ends_6 h.1 ?_
  have h := h.2
  generalize eμ1 : mm_sA μ 34 (Int32.toNatClampNeg a1) 0 = μ1
  have h := h μ1 eμ1.symm
  refine am_iconst (v := 0) dX6_ends_7 (by decide) ?_
  refine am_istore_n (L' := [(4, .int 0), (0, va_rf (some ρ.1)), (2, .int a1)]) dX6_ends_8 rfl (Nat.le_of_ble_eq_true rfl) rfl ?_
  exact am_lss h rfl
theorem B_X6_ends_9_f {G : am_G} {ρ : mm_F} {d : Nat} {x1 : Int32} {x2 : Int32} {μ : mm_S} {Q : mm_S → Prop} (h : ((10 ≤ x2 → Q μ) ∧ (¬ 10 ≤ x2 → (vp_in x2 10 ∧ (((mA μ 67 (Int32.toNatClampNeg x2)) = 0 → B_X6_ends_9 G ρ d x1 (x2 + 1) μ Q) ∧ (¬ (mA μ 67 (Int32.toNatClampNeg x2)) = 0 → (vp_in x2 10 ∧ (((mA μ 70 (Int32.toNatClampNeg x2)) = x1 → (vp_in x2 10 ∧ ∀ μ1 : mm_S, μ1 = mm_sA μ 67 (Int32.toNatClampNeg x2) 0 → ((vp_in x2 10 ∧ ∀ μ2 : mm_S, μ2 = mm_sA μ1 75 (Int32.toNatClampNeg x2) 3 → (B_X6_ends_9 G ρ d x1 (x2 + 1) μ2 Q))))) ∧ (¬ (mA μ 70 (Int32.toNatClampNeg x2)) = x1 → B_X6_ends_9 G ρ d x1 (x2 + 1) μ Q))))))))) : B_X6_ends_9 G ρ d x1 x2 μ Q := by
  unfold B_X6_ends_9
  refine am_iload_n (x := x2) dX6_ends_9 rfl rfl ?_
  refine am_bipush (v := 10) dX6_ends_10 (by decide) ?_
  refine am_icmp_ge (tgt := 57) dX6_ends_12 (by decide) (fun c => ?_) (fun c => ?_)
  · have h := h.1 c
    exact am_vret rfl dX6_ends_57 ⟨_, rfl, rfl, h⟩
  · have h := h.2 c
    refine am_aloadr_n (x := some ρ.1) dX6_ends_15 rfl rfl ?_
    refine mm_gA (k := 67) rfl isA_67 q2386 dX6_ends_16 ?_
    refine am_iload_n (x := x2) dX6_ends_19 rfl rfl ?_
    refine mm_ldZ (k := 67) isA_67 rfl rfl dX6_ends_20 h.1 ?_
    have h := h.2
    refine am_if_eq (tgt := 51) dX6_ends_21 (by decide) (fun c => ?_) (fun c => ?_)
    · have h := h.1 c
      refine am_iinc (x := x2) (v := (x2 + 1)) (L' := [(4, .int (x2 + 1)), (0, va_rf (some ρ.1)), (2, .int x1)]) dX6_ends_51 rfl rfl (Nat.le_of_ble_eq_true rfl) rfl ?_
      refine am_goto (tgt := 9) dX6_ends_54 (by decide) ?_
      exact am_lss h rfl
    · have h := h.2 c
      refine am_aloadr_n (x := some ρ.1) dX6_ends_24 rfl rfl ?_
      refine mm_gA (k := 70) rfl isA_70 q2389 dX6_ends_25 ?_
      refine am_iload_n (x := x2) dX6_ends_28 rfl rfl ?_
      refine mm_ldA (k := 70) isA_70 rfl rfl dX6_ends_29 h.1 ?_
      have h := h.2
      refine am_iload_n (x := x1) dX6_ends_30 rfl rfl ?_
      refine am_icmp_eq (tgt := 37) dX6_ends_31 (by decide) (fun c => ?_) (fun c => ?_)
      · have h := h.1 c
        refine am_aloadr_n (x := some ρ.1) dX6_ends_37 rfl rfl ?_
        refine mm_gA (k := 67) rfl isA_67 q2386 dX6_ends_38 ?_
        refine am_iload_n (x := x2) dX6_ends_41 rfl rfl ?_
        refine am_iconst (v := 0) dX6_ends_42 (by decide) ?_
        refine mm_stZ (k := 67) isA_67 rfl rfl (by decide) dX6_ends_43 h.1 ?_
        have h := h.2
        generalize eμ1 : mm_sA μ 67 (Int32.toNatClampNeg x2) 0 = μ1
        have h := h μ1 eμ1.symm
        refine am_aloadr_n (x := some ρ.1) dX6_ends_44 rfl rfl ?_
        refine mm_gA (k := 75) rfl isA_75 q2394 dX6_ends_45 ?_
        refine am_iload_n (x := x2) dX6_ends_48 rfl rfl ?_
        refine am_iconst (v := 3) dX6_ends_49 (by decide) ?_
        refine mm_stA (k := 75) isA_75 rfl rfl dX6_ends_50 h.1 ?_
        have h := h.2
        generalize eμ2 : mm_sA μ1 75 (Int32.toNatClampNeg x2) 3 = μ2
        have h := h μ2 eμ2.symm
        refine am_iinc (x := x2) (v := (x2 + 1)) (L' := [(4, .int (x2 + 1)), (0, va_rf (some ρ.1)), (2, .int x1)]) dX6_ends_51 rfl rfl (Nat.le_of_ble_eq_true rfl) rfl ?_
        refine am_goto (tgt := 9) dX6_ends_54 (by decide) ?_
        exact am_lss h rfl
      · have h := h.2 c
        refine am_goto (tgt := 51) dX6_ends_34 (by decide) ?_
        refine am_iinc (x := x2) (v := (x2 + 1)) (L' := [(4, .int (x2 + 1)), (0, va_rf (some ρ.1)), (2, .int x1)]) dX6_ends_51 rfl rfl (Nat.le_of_ble_eq_true rfl) rfl ?_
        refine am_goto (tgt := 9) dX6_ends_54 (by decide) ?_
        exact am_lss h rfl
theorem W_X6_outcome_f {G : am_G} {ρ : mm_F} {d : Nat} {a1 : Int32} {μ : mm_S} {Q : Int32 → mm_S → Prop} (h : (((mI μ 59) = 0 → Q (-1) μ) ∧ (¬ (mI μ 59) = 0 → W_X6_isIn G ρ d a1 0 ((mI μ 33) - 1) μ (fun v2 μ1 => ((¬ v2 = 0 → (vp_in a1 40 ∧ Q (mA μ1 61 (Int32.toNatClampNeg a1)) μ1)) ∧ (v2 = 0 → Q (-1) μ1)))))) : W_X6_outcome G ρ (d + 1) a1 μ Q := by
  unfold W_X6_outcome
  refine am_aloadr_n (x := some ρ.1) dX6_outcome_0 rfl rfl ?_
  refine mm_gI (k := 59) rfl (Or.inl rfl) (by decide) q2378 dX6_outcome_1 ?_
  refine am_if_eq (tgt := 21) dX6_outcome_4 (by decide) (fun c => ?_) (fun c => ?_)
  · have h := h.1 c
    refine am_iconst (v := (-1)) dX6_outcome_21 (by decide) ?_
    refine am_goto (tgt := 31) dX6_outcome_22 (by decide) ?_
    exact am_iret rfl dX6_outcome_31 ⟨_, _, rfl, rfl, h⟩
  · have h := h.2 c
    refine am_iload_n (x := a1) dX6_outcome_7 rfl rfl ?_
    refine am_iconst (v := 0) dX6_outcome_8 (by decide) ?_
    refine am_aloadr_n (x := some ρ.1) dX6_outcome_9 rfl rfl ?_
    refine mm_gI (k := 33) rfl (Or.inl rfl) (by decide) q2352 dX6_outcome_10 ?_
    refine am_iconst (v := 1) dX6_outcome_13 (by decide) ?_
    refine am_isub dX6_outcome_14 ?_
    refine mm_callS (Mc := m_X6_isIn) (as := [.int a1, .int 0, .int ((mI μ 33) - 1)]) rfl bm_X6_isIn q2636 q2637 (Nat.le_of_ble_eq_true rfl) dX6_outcome_15 (mt_X6_isIn (mm_k2i h (fun v2 μ1 h => ?_)))
    refine am_if_ne (tgt := 25) dX6_outcome_18 (by decide) (fun c => ?_) (fun c => ?_)
    · have h := h.1 c
      refine am_aloadr_n (x := some ρ.1) dX6_outcome_25 rfl rfl ?_
      refine mm_gA (k := 61) rfl isA_61 q2380 dX6_outcome_26 ?_
      refine am_iload_n (x := a1) dX6_outcome_29 rfl rfl ?_
      refine mm_ldA (k := 61) isA_61 rfl rfl dX6_outcome_30 h.1 ?_
      have h := h.2
      exact am_iret rfl dX6_outcome_31 ⟨_, _, rfl, rfl, h⟩
    · have h := h.2 c
      refine am_iconst (v := (-1)) dX6_outcome_21 (by decide) ?_
      refine am_goto (tgt := 31) dX6_outcome_22 (by decide) ?_
      exact am_iret rfl dX6_outcome_31 ⟨_, _, rfl, rfl, h⟩
theorem W_X6_ran_2_f {G : am_G} {ρ : mm_F} {d : Nat} {a1 : Int32} {a2 : Int32} {μ : mm_S} {Q : Int32 → mm_S → Prop} (h : W_X6_isIn G ρ d a1 0 ((mI μ 66) - 1) μ (fun v2 μ1 => ((¬ v2 = 0 → ((¬ a2 = 0 → ((¬ a2 = 1 → ((¬ a2 = 2 → ((¬ a2 = 3 → Q (-1) μ1) ∧ (a2 = 3 → (vp_in a1 50 ∧ Q (mA μ1 65 (Int32.toNatClampNeg a1)) μ1)))) ∧ (a2 = 2 → (vp_in a1 50 ∧ Q (mA μ1 64 (Int32.toNatClampNeg a1)) μ1)))) ∧ (a2 = 1 → (vp_in a1 50 ∧ Q (mA μ1 63 (Int32.toNatClampNeg a1)) μ1)))) ∧ (a2 = 0 → (vp_in a1 50 ∧ Q (mA μ1 62 (Int32.toNatClampNeg a1)) μ1)))) ∧ (v2 = 0 → Q (-1) μ1)))) : W_X6_ran_2 G ρ (d + 1) a1 a2 μ Q := by
  unfold W_X6_ran_2
  refine am_iload_n (x := a1) dX6_ran_2_0 rfl rfl ?_
  refine am_iconst (v := 0) dX6_ran_2_1 (by decide) ?_
  refine am_aloadr_n (x := some ρ.1) dX6_ran_2_2 rfl rfl ?_
  refine mm_gI (k := 66) rfl (Or.inl rfl) (by decide) q2385 dX6_ran_2_3 ?_
  refine am_iconst (v := 1) dX6_ran_2_6 (by decide) ?_
  refine am_isub dX6_ran_2_7 ?_
  refine mm_callS (Mc := m_X6_isIn) (as := [.int a1, .int 0, .int ((mI μ 66) - 1)]) rfl bm_X6_isIn q2636 q2637 (Nat.le_of_ble_eq_true rfl) dX6_ran_2_8 (mt_X6_isIn (mm_k2i h (fun v2 μ1 h => ?_)))
  refine am_if_ne (tgt := 16) dX6_ran_2_11 (by decide) (fun c => ?_) (fun c => ?_)
  · have h := h.1 c
    refine am_iload_n (x := a2) dX6_ran_2_16 rfl rfl ?_
    refine am_if_ne (tgt := 29) dX6_ran_2_17 (by decide) (fun c => ?_) (fun c => ?_)
    · have h := h.1 c
      refine am_iload_n (x := a2) dX6_ran_2_29 rfl rfl ?_
      refine am_iconst (v := 1) dX6_ran_2_30 (by decide) ?_
      refine am_icmp_ne (tgt := 43) dX6_ran_2_31 (by decide) (fun c => ?_) (fun c => ?_)
      · have h := h.1 c
        refine am_iload_n (x := a2) dX6_ran_2_43 rfl rfl ?_
        refine am_iconst (v := 2) dX6_ran_2_44 (by decide) ?_
        refine am_icmp_ne (tgt := 57) dX6_ran_2_45 (by decide) (fun c => ?_) (fun c => ?_)
        · have h := h.1 c
          refine am_iload_n (x := a2) dX6_ran_2_57 rfl rfl ?_
          refine am_iconst (v := 3) dX6_ran_2_58 (by decide) ?_
          refine am_icmp_ne (tgt := 71) dX6_ran_2_59 (by decide) (fun c => ?_) (fun c => ?_)
          · have h := h.1 c
            refine am_iconst (v := (-1)) dX6_ran_2_71 (by decide) ?_
            exact am_iret rfl dX6_ran_2_72 ⟨_, _, rfl, rfl, h⟩
          · have h := h.2 c
            refine am_aloadr_n (x := some ρ.1) dX6_ran_2_62 rfl rfl ?_
            refine mm_gA (k := 65) rfl isA_65 q2384 dX6_ran_2_63 ?_
            refine am_iload_n (x := a1) dX6_ran_2_66 rfl rfl ?_
            refine mm_ldA (k := 65) isA_65 rfl rfl dX6_ran_2_67 h.1 ?_
            have h := h.2
            refine am_goto (tgt := 72) dX6_ran_2_68 (by decide) ?_
            exact am_iret rfl dX6_ran_2_72 ⟨_, _, rfl, rfl, h⟩
        · have h := h.2 c
          refine am_aloadr_n (x := some ρ.1) dX6_ran_2_48 rfl rfl ?_
          refine mm_gA (k := 64) rfl isA_64 q2383 dX6_ran_2_49 ?_
          refine am_iload_n (x := a1) dX6_ran_2_52 rfl rfl ?_
          refine mm_ldA (k := 64) isA_64 rfl rfl dX6_ran_2_53 h.1 ?_
          have h := h.2
          refine am_goto (tgt := 72) dX6_ran_2_54 (by decide) ?_
          exact am_iret rfl dX6_ran_2_72 ⟨_, _, rfl, rfl, h⟩
      · have h := h.2 c
        refine am_aloadr_n (x := some ρ.1) dX6_ran_2_34 rfl rfl ?_
        refine mm_gA (k := 63) rfl isA_63 q2382 dX6_ran_2_35 ?_
        refine am_iload_n (x := a1) dX6_ran_2_38 rfl rfl ?_
        refine mm_ldA (k := 63) isA_63 rfl rfl dX6_ran_2_39 h.1 ?_
        have h := h.2
        refine am_goto (tgt := 72) dX6_ran_2_40 (by decide) ?_
        exact am_iret rfl dX6_ran_2_72 ⟨_, _, rfl, rfl, h⟩
    · have h := h.2 c
      refine am_aloadr_n (x := some ρ.1) dX6_ran_2_20 rfl rfl ?_
      refine mm_gA (k := 62) rfl isA_62 q2381 dX6_ran_2_21 ?_
      refine am_iload_n (x := a1) dX6_ran_2_24 rfl rfl ?_
      refine mm_ldA (k := 62) isA_62 rfl rfl dX6_ran_2_25 h.1 ?_
      have h := h.2
      refine am_goto (tgt := 72) dX6_ran_2_26 (by decide) ?_
      exact am_iret rfl dX6_ran_2_72 ⟨_, _, rfl, rfl, h⟩
  · have h := h.2 c
    refine am_iconst (v := (-1)) dX6_ran_2_14 (by decide) ?_
    exact am_iret rfl dX6_ran_2_15 ⟨_, _, rfl, rfl, h⟩
theorem W_X6_begin_2_f {G : am_G} {ρ : mm_F} {d : Nat} {a1 : Int32} {a2 : Int32} {a3 : Int32} {μ : mm_S} {Q : Int32 → mm_S → Prop} (h : B_X6_begin_2_3 G ρ (d + 1) a1 a2 a3 0 μ Q) : W_X6_begin_2 G ρ (d + 1) a1 a2 a3 μ Q := by
  unfold W_X6_begin_2
  refine am_iconst (v := 0) dX6_begin_2_0 (by decide) ?_
  refine am_istore (L' := [(8, .int 0), (0, va_rf (some ρ.1)), (2, .int a1), (4, .int a2), (6, .int a3)]) dX6_begin_2_1 (Nat.le_of_ble_eq_true rfl) rfl ?_
  exact am_lss h rfl
theorem B_X6_begin_2_3_f {G : am_G} {ρ : mm_F} {d : Nat} {x1 : Int32} {x2 : Int32} {x3 : Int32} {x4 : Int32} {μ : mm_S} {Q : Int32 → mm_S → Prop} (h : ((10 ≤ x4 → B_X6_begin_2_26 G ρ (d + 1) x1 x2 x3 x4 μ Q) ∧ (¬ 10 ≤ x4 → (vp_in x4 10 ∧ (((mA μ 67 (Int32.toNatClampNeg x4)) = 0 → B_X6_begin_2_26 G ρ (d + 1) x1 x2 x3 x4 μ Q) ∧ (¬ (mA μ 67 (Int32.toNatClampNeg x4)) = 0 → B_X6_begin_2_3 G ρ (d + 1) x1 x2 x3 (x4 + 1) μ Q)))))) : B_X6_begin_2_3 G ρ (d + 1) x1 x2 x3 x4 μ Q := by
  unfold B_X6_begin_2_3
  refine am_iload (x := x4) dX6_begin_2_3 rfl ?_
  refine am_bipush (v := 10) dX6_begin_2_5 (by decide) ?_
  refine am_icmp_ge (tgt := 26) dX6_begin_2_7 (by decide) (fun c => ?_) (fun c => ?_)
  · have h := h.1 c
    exact am_lss h rfl
  · have h := h.2 c
    refine am_aloadr_n (x := some ρ.1) dX6_begin_2_10 rfl rfl ?_
    refine mm_gA (k := 67) rfl isA_67 q2386 dX6_begin_2_11 ?_
    refine am_iload (x := x4) dX6_begin_2_14 rfl ?_
    refine mm_ldZ (k := 67) isA_67 rfl rfl dX6_begin_2_16 h.1 ?_
    have h := h.2
    refine am_if_eq (tgt := 26) dX6_begin_2_17 (by decide) (fun c => ?_) (fun c => ?_)
    · have h := h.1 c
      exact am_lss h rfl
    · have h := h.2 c
      refine am_iinc (x := x4) (v := (x4 + 1)) (L' := [(8, .int (x4 + 1)), (0, va_rf (some ρ.1)), (2, .int x1), (4, .int x2), (6, .int x3)]) dX6_begin_2_20 rfl rfl (Nat.le_of_ble_eq_true rfl) rfl ?_
      refine am_goto (tgt := 3) dX6_begin_2_23 (by decide) ?_
      exact am_lss h rfl
theorem B_X6_begin_2_26_f {G : am_G} {ρ : mm_F} {d : Nat} {x1 : Int32} {x2 : Int32} {x3 : Int32} {x4 : Int32} {μ : mm_S} {Q : Int32 → mm_S → Prop} (h : ((x4 = 10 → Q (-1) μ) ∧ (¬ x4 = 10 → W_X6_isLiving G ρ d x1 μ (fun v2 μ1 => ((v2 = 0 → Q (-1) μ1) ∧ (¬ v2 = 0 → W_X6_opens_2 G ρ d 0 x1 x2 x3 μ1 (fun v4 μ3 => ((¬ v4 = 0 → (vp_in x4 10 ∧ ∀ μ5 : mm_S, μ5 = mm_sA μ3 67 (Int32.toNatClampNeg x4) 1 → ((vp_in x4 10 ∧ ∀ μ6 : mm_S, μ6 = mm_sA μ5 68 (Int32.toNatClampNeg x4) 1 → ((vp_in x4 10 ∧ ∀ μ7 : mm_S, μ7 = mm_sA μ6 69 (Int32.toNatClampNeg x4) 0 → ((vp_in x4 10 ∧ ∀ μ8 : mm_S, μ8 = mm_sA μ7 70 (Int32.toNatClampNeg x4) x1 → ((vp_in x4 10 ∧ ∀ μ9 : mm_S, μ9 = mm_sA μ8 71 (Int32.toNatClampNeg x4) x3 → ((vp_in x4 10 ∧ ∀ μ10 : mm_S, μ10 = mm_sA μ9 72 (Int32.toNatClampNeg x4) 0 → ((vp_in 0 252 ∧ (vp_in x4 10 ∧ ∀ μ11 : mm_S, μ11 = mm_sA μ10 73 (Int32.toNatClampNeg x4) (mA μ10 49 (Int32.toNatClampNeg 0)) → ((vp_in x4 10 ∧ ∀ μ12 : mm_S, μ12 = mm_sA μ11 74 (Int32.toNatClampNeg x4) 0 → ((vp_in x4 10 ∧ ∀ μ13 : mm_S, μ13 = mm_sA μ12 75 (Int32.toNatClampNeg x4) 0 → ((vp_in x4 10 ∧ ∀ μ14 : mm_S, μ14 = mm_sA μ13 76 (Int32.toNatClampNeg x4) 0 → ((vp_in 0 21 ∧ (vp_in x4 10 ∧ ∀ μ15 : mm_S, μ15 = mm_sA μ14 77 (Int32.toNatClampNeg x4) (mA μ14 46 (Int32.toNatClampNeg 0)) → ((vp_in x4 10 ∧ ∀ μ16 : mm_S, μ16 = mm_sA μ15 78 (Int32.toNatClampNeg x4) x2 → (B_X6_begin_2_163 G ρ (d + 1) x4 0 μ16 Q))))))))))))))))))))))))))) ∧ (v4 = 0 → Q (-1) μ3))))))))) : B_X6_begin_2_26 G ρ (d + 1) x1 x2 x3 x4 μ Q := by
  unfold B_X6_begin_2_26
  refine am_iload (x := x4) dX6_begin_2_26 rfl ?_
  refine am_bipush (v := 10) dX6_begin_2_28 (by decide) ?_
  refine am_icmp_eq (tgt := 52) dX6_begin_2_30 (by decide) (fun c => ?_) (fun c => ?_)
  · have h := h.1 c
    refine am_iconst (v := (-1)) dX6_begin_2_52 (by decide) ?_
    exact am_iret rfl dX6_begin_2_53 ⟨_, _, rfl, rfl, h⟩
  · have h := h.2 c
    refine am_aloadr_n (x := some ρ.1) dX6_begin_2_33 rfl rfl ?_
    refine am_iload_n (x := x1) dX6_begin_2_34 rfl rfl ?_
    refine mm_callV (Mc := m_X6_isLiving) (as := [.int x1]) rfl bm_X6_isLiving q2835 q2837 qs121 (Nat.le_of_ble_eq_true rfl) dX6_begin_2_35 (mt_X6_isLiving (mm_k2i h (fun v2 μ1 h => ?_)))
    refine am_if_eq (tgt := 52) dX6_begin_2_38 (by decide) (fun c => ?_) (fun c => ?_)
    · have h := h.1 c
      refine am_iconst (v := (-1)) dX6_begin_2_52 (by decide) ?_
      exact am_iret rfl dX6_begin_2_53 ⟨_, _, rfl, rfl, h⟩
    · have h := h.2 c
      refine am_aloadr_n (x := some ρ.1) dX6_begin_2_41 rfl rfl ?_
      refine am_iconst (v := 0) dX6_begin_2_42 (by decide) ?_
      refine am_iload_n (x := x1) dX6_begin_2_43 rfl rfl ?_
      refine am_iload_n (x := x2) dX6_begin_2_44 rfl rfl ?_
      refine am_iload_n (x := x3) dX6_begin_2_45 rfl rfl ?_
      refine mm_callV (Mc := m_X6_opens_2) (as := [.int 0, .int x1, .int x2, .int x3]) rfl bm_X6_opens_2 q2879 q2881 qs124 (Nat.le_of_ble_eq_true rfl) dX6_begin_2_46 (mt_X6_opens_2 (mm_k2i h (fun v4 μ3 h => ?_)))
      refine am_if_ne (tgt := 54) dX6_begin_2_49 (by decide) (fun c => ?_) (fun c => ?_)
      · have h := h.1 c
        refine am_aloadr_n (x := some ρ.1) dX6_begin_2_54 rfl rfl ?_
        refine mm_gA (k := 67) rfl isA_67 q2386 dX6_begin_2_55 ?_
        refine am_iload (x := x4) dX6_begin_2_58 rfl ?_
        refine am_iconst (v := 1) dX6_begin_2_60 (by decide) ?_
        refine mm_stZ (k := 67) isA_67 rfl rfl (by decide) dX6_begin_2_61 h.1 ?_
        have h := h.2
        generalize eμ5 : mm_sA μ3 67 (Int32.toNatClampNeg x4) 1 = μ5
        have h := h μ5 eμ5.symm
        refine am_aloadr_n (x := some ρ.1) dX6_begin_2_62 rfl rfl ?_
        refine mm_gA (k := 68) rfl isA_68 q2387 dX6_begin_2_63 ?_
        refine am_iload (x := x4) dX6_begin_2_66 rfl ?_
        refine am_iconst (v := 1) dX6_begin_2_68 (by decide) ?_
        refine mm_stZ (k := 68) isA_68 rfl rfl (by decide) dX6_begin_2_69 h.1 ?_
        have h := h.2
        generalize eμ6 : mm_sA μ5 68 (Int32.toNatClampNeg x4) 1 = μ6
        have h := h μ6 eμ6.symm
        refine am_aloadr_n (x := some ρ.1) dX6_begin_2_70 rfl rfl ?_
        refine mm_gA (k := 69) rfl isA_69 q2388 dX6_begin_2_71 ?_
        refine am_iload (x := x4) dX6_begin_2_74 rfl ?_
        refine am_iconst (v := 0) dX6_begin_2_76 (by decide) ?_
        refine mm_stZ (k := 69) isA_69 rfl rfl (by decide) dX6_begin_2_77 h.1 ?_
        have h := h.2
        generalize eμ7 : mm_sA μ6 69 (Int32.toNatClampNeg x4) 0 = μ7
        have h := h μ7 eμ7.symm
        refine am_aloadr_n (x := some ρ.1) dX6_begin_2_78 rfl rfl ?_
        refine mm_gA (k := 70) rfl isA_70 q2389 dX6_begin_2_79 ?_
        refine am_iload (x := x4) dX6_begin_2_82 rfl ?_
        refine am_iload_n (x := x1) dX6_begin_2_84 rfl rfl ?_
        refine mm_stA (k := 70) isA_70 rfl rfl dX6_begin_2_85 h.1 ?_
        have h := h.2
        generalize eμ8 : mm_sA μ7 70 (Int32.toNatClampNeg x4) x1 = μ8
        have h := h μ8 eμ8.symm
        refine am_aloadr_n (x := some ρ.1) dX6_begin_2_86 rfl rfl ?_
        refine mm_gA (k := 71) rfl isA_71 q2390 dX6_begin_2_87 ?_
        refine am_iload (x := x4) dX6_begin_2_90 rfl ?_
        refine am_iload_n (x := x3) dX6_begin_2_92 rfl rfl ?_
        refine mm_stA (k := 71) isA_71 rfl rfl dX6_begin_2_93 h.1 ?_
        have h := h.2
        generalize eμ9 : mm_sA μ8 71 (Int32.toNatClampNeg x4) x3 = μ9
        have h := h μ9 eμ9.symm
        refine am_aloadr_n (x := some ρ.1) dX6_begin_2_94 rfl rfl ?_
        refine mm_gA (k := 72) rfl isA_72 q2391 dX6_begin_2_95 ?_
        refine am_iload (x := x4) dX6_begin_2_98 rfl ?_
        refine am_iconst (v := 0) dX6_begin_2_100 (by decide) ?_
        refine mm_stA (k := 72) isA_72 rfl rfl dX6_begin_2_101 h.1 ?_
        have h := h.2
        generalize eμ10 : mm_sA μ9 72 (Int32.toNatClampNeg x4) 0 = μ10
        have h := h μ10 eμ10.symm
        refine am_aloadr_n (x := some ρ.1) dX6_begin_2_102 rfl rfl ?_
        refine mm_gA (k := 73) rfl isA_73 q2392 dX6_begin_2_103 ?_
        refine am_iload (x := x4) dX6_begin_2_106 rfl ?_
        refine am_aloadr_n (x := some ρ.1) dX6_begin_2_108 rfl rfl ?_
        refine mm_gA (k := 49) rfl isA_49 q2368 dX6_begin_2_109 ?_
        refine am_iconst (v := 0) dX6_begin_2_112 (by decide) ?_
        refine mm_ldA (k := 49) isA_49 rfl rfl dX6_begin_2_113 h.1 ?_
        have h := h.2
        refine mm_stA (k := 73) isA_73 rfl rfl dX6_begin_2_114 h.1 ?_
        have h := h.2
        generalize eμ11 : mm_sA μ10 73 (Int32.toNatClampNeg x4) (mA μ10 49 (Int32.toNatClampNeg 0)) = μ11
        have h := h μ11 eμ11.symm
        refine am_aloadr_n (x := some ρ.1) dX6_begin_2_115 rfl rfl ?_
        refine mm_gA (k := 74) rfl isA_74 q2393 dX6_begin_2_116 ?_
        refine am_iload (x := x4) dX6_begin_2_119 rfl ?_
        refine am_iconst (v := 0) dX6_begin_2_121 (by decide) ?_
        refine mm_stA (k := 74) isA_74 rfl rfl dX6_begin_2_122 h.1 ?_
        have h := h.2
        generalize eμ12 : mm_sA μ11 74 (Int32.toNatClampNeg x4) 0 = μ12
        have h := h μ12 eμ12.symm
        refine am_aloadr_n (x := some ρ.1) dX6_begin_2_123 rfl rfl ?_
        refine mm_gA (k := 75) rfl isA_75 q2394 dX6_begin_2_124 ?_
        refine am_iload (x := x4) dX6_begin_2_127 rfl ?_
        refine am_iconst (v := 0) dX6_begin_2_129 (by decide) ?_
        refine mm_stA (k := 75) isA_75 rfl rfl dX6_begin_2_130 h.1 ?_
        have h := h.2
        generalize eμ13 : mm_sA μ12 75 (Int32.toNatClampNeg x4) 0 = μ13
        have h := h μ13 eμ13.symm
        refine am_aloadr_n (x := some ρ.1) dX6_begin_2_131 rfl rfl ?_
        refine mm_gA (k := 76) rfl isA_76 q2395 dX6_begin_2_132 ?_
        refine am_iload (x := x4) dX6_begin_2_135 rfl ?_
        refine am_iconst (v := 0) dX6_begin_2_137 (by decide) ?_
        refine mm_stA (k := 76) isA_76 rfl rfl dX6_begin_2_138 h.1 ?_
        have h := h.2
        generalize eμ14 : mm_sA μ13 76 (Int32.toNatClampNeg x4) 0 = μ14
        have h := h μ14 eμ14.symm
        refine am_aloadr_n (x := some ρ.1) dX6_begin_2_139 rfl rfl ?_
        refine mm_gA (k := 77) rfl isA_77 q2396 dX6_begin_2_140 ?_
        refine am_iload (x := x4) dX6_begin_2_143 rfl ?_
        refine am_aloadr_n (x := some ρ.1) dX6_begin_2_145 rfl rfl ?_
        refine mm_gA (k := 46) rfl isA_46 q2365 dX6_begin_2_146 ?_
        refine am_iconst (v := 0) dX6_begin_2_149 (by decide) ?_
        refine mm_ldA (k := 46) isA_46 rfl rfl dX6_begin_2_150 h.1 ?_
        have h := h.2
        refine mm_stA (k := 77) isA_77 rfl rfl dX6_begin_2_151 h.1 ?_
        have h := h.2
        generalize eμ15 : mm_sA μ14 77 (Int32.toNatClampNeg x4) (mA μ14 46 (Int32.toNatClampNeg 0)) = μ15
        have h := h μ15 eμ15.symm
        refine am_aloadr_n (x := some ρ.1) dX6_begin_2_152 rfl rfl ?_
        refine mm_gA (k := 78) rfl isA_78 q2397 dX6_begin_2_153 ?_
        refine am_iload (x := x4) dX6_begin_2_156 rfl ?_
        refine am_iload_n (x := x2) dX6_begin_2_158 rfl rfl ?_
        refine mm_stA (k := 78) isA_78 rfl rfl dX6_begin_2_159 h.1 ?_
        have h := h.2
        generalize eμ16 : mm_sA μ15 78 (Int32.toNatClampNeg x4) x2 = μ16
        have h := h μ16 eμ16.symm
        refine am_iconst (v := 0) dX6_begin_2_160 (by decide) ?_
        refine am_istore (L' := [(10, .int 0), (0, va_rf (some ρ.1)), (2, .int x1), (4, .int x2), (6, .int x3), (8, .int x4)]) dX6_begin_2_161 (Nat.le_of_ble_eq_true rfl) rfl ?_
        exact am_lss h rfl
      · have h := h.2 c
        refine am_iconst (v := (-1)) dX6_begin_2_52 (by decide) ?_
        exact am_iret rfl dX6_begin_2_53 ⟨_, _, rfl, rfl, h⟩
theorem B_X6_begin_2_163_f {G : am_G} {ρ : mm_F} {d : Nat} {x4 : Int32} {x5 : Int32} {μ : mm_S} {Q : Int32 → mm_S → Prop} (h : ((12 ≤ x5 → Q x4 μ) ∧ (¬ 12 ≤ x5 → (vp_in x5 252 ∧ (vp_in ((12 * x4) + x5) 120 ∧ ∀ μ1 : mm_S, μ1 = mm_sA μ 79 (Int32.toNatClampNeg ((12 * x4) + x5)) (mA μ 49 (Int32.toNatClampNeg x5)) → ((vp_in x5 252 ∧ (vp_in ((12 * x4) + x5) 120 ∧ ∀ μ2 : mm_S, μ2 = mm_sA μ1 80 (Int32.toNatClampNeg ((12 * x4) + x5)) (mA μ1 50 (Int32.toNatClampNeg x5)) → ((vp_in x5 252 ∧ (vp_in ((12 * x4) + x5) 120 ∧ ∀ μ3 : mm_S, μ3 = mm_sA μ2 81 (Int32.toNatClampNeg ((12 * x4) + x5)) (mA μ2 51 (Int32.toNatClampNeg x5)) → (B_X6_begin_2_163 G ρ (d + 1) x4 (x5 + 1) μ3 Q)))))))))))) : B_X6_begin_2_163 G ρ (d + 1) x4 x5 μ Q := by
  unfold B_X6_begin_2_163
  refine am_iload (x := x5) dX6_begin_2_163 rfl ?_
  refine am_bipush (v := 12) dX6_begin_2_165 (by decide) ?_
  refine am_icmp_ge (tgt := 236) dX6_begin_2_167 (by decide) (fun c => ?_) (fun c => ?_)
  · have h := h.1 c
    refine am_iload (x := x4) dX6_begin_2_236 rfl ?_
    exact am_iret rfl dX6_begin_2_238 ⟨_, _, rfl, rfl, h⟩
  · have h := h.2 c
    refine am_aloadr_n (x := some ρ.1) dX6_begin_2_170 rfl rfl ?_
    refine mm_gA (k := 79) rfl isA_79 q2398 dX6_begin_2_171 ?_
    refine am_bipush (v := 12) dX6_begin_2_174 (by decide) ?_
    refine am_iload (x := x4) dX6_begin_2_176 rfl ?_
    refine am_imul dX6_begin_2_178 ?_
    refine am_iload (x := x5) dX6_begin_2_179 rfl ?_
    refine am_iadd dX6_begin_2_181 ?_
    refine am_aloadr_n (x := some ρ.1) dX6_begin_2_182 rfl rfl ?_
    refine mm_gA (k := 49) rfl isA_49 q2368 dX6_begin_2_183 ?_
    refine am_iload (x := x5) dX6_begin_2_186 rfl ?_
    refine mm_ldA (k := 49) isA_49 rfl rfl dX6_begin_2_188 h.1 ?_
    have h := h.2
    refine mm_stA (k := 79) isA_79 rfl rfl dX6_begin_2_189 h.1 ?_
    have h := h.2
    generalize eμ1 : mm_sA μ 79 (Int32.toNatClampNeg ((12 * x4) + x5)) (mA μ 49 (Int32.toNatClampNeg x5)) = μ1
    have h := h μ1 eμ1.symm
    refine am_aloadr_n (x := some ρ.1) dX6_begin_2_190 rfl rfl ?_
    refine mm_gA (k := 80) rfl isA_80 q2399 dX6_begin_2_191 ?_
    refine am_bipush (v := 12) dX6_begin_2_194 (by decide) ?_
    refine am_iload (x := x4) dX6_begin_2_196 rfl ?_
    refine am_imul dX6_begin_2_198 ?_
    refine am_iload (x := x5) dX6_begin_2_199 rfl ?_
    refine am_iadd dX6_begin_2_201 ?_
    refine am_aloadr_n (x := some ρ.1) dX6_begin_2_202 rfl rfl ?_
    refine mm_gA (k := 50) rfl isA_50 q2369 dX6_begin_2_203 ?_
    refine am_iload (x := x5) dX6_begin_2_206 rfl ?_
    refine mm_ldA (k := 50) isA_50 rfl rfl dX6_begin_2_208 h.1 ?_
    have h := h.2
    refine mm_stA (k := 80) isA_80 rfl rfl dX6_begin_2_209 h.1 ?_
    have h := h.2
    generalize eμ2 : mm_sA μ1 80 (Int32.toNatClampNeg ((12 * x4) + x5)) (mA μ1 50 (Int32.toNatClampNeg x5)) = μ2
    have h := h μ2 eμ2.symm
    refine am_aloadr_n (x := some ρ.1) dX6_begin_2_210 rfl rfl ?_
    refine mm_gA (k := 81) rfl isA_81 q2400 dX6_begin_2_211 ?_
    refine am_bipush (v := 12) dX6_begin_2_214 (by decide) ?_
    refine am_iload (x := x4) dX6_begin_2_216 rfl ?_
    refine am_imul dX6_begin_2_218 ?_
    refine am_iload (x := x5) dX6_begin_2_219 rfl ?_
    refine am_iadd dX6_begin_2_221 ?_
    refine am_aloadr_n (x := some ρ.1) dX6_begin_2_222 rfl rfl ?_
    refine mm_gA (k := 51) rfl isA_51 q2370 dX6_begin_2_223 ?_
    refine am_iload (x := x5) dX6_begin_2_226 rfl ?_
    refine mm_ldA (k := 51) isA_51 rfl rfl dX6_begin_2_228 h.1 ?_
    have h := h.2
    refine mm_stA (k := 81) isA_81 rfl rfl dX6_begin_2_229 h.1 ?_
    have h := h.2
    generalize eμ3 : mm_sA μ2 81 (Int32.toNatClampNeg ((12 * x4) + x5)) (mA μ2 51 (Int32.toNatClampNeg x5)) = μ3
    have h := h μ3 eμ3.symm
    refine am_iinc (x := x5) (v := (x5 + 1)) (L' := [(10, .int (x5 + 1)), (0, va_rf (some ρ.1)), (8, .int x4)]) dX6_begin_2_230 rfl rfl (Nat.le_of_ble_eq_true rfl) rfl ?_
    refine am_goto (tgt := 163) dX6_begin_2_233 (by decide) ?_
    exact am_lss h rfl
theorem W_X6_under_f {G : am_G} {ρ : mm_F} {d : Nat} {a1 : Int32} {a2 : Int32} {μ : mm_S} {Q : Int32 → mm_S → Prop} (h : W_X6_isIn G ρ d a1 0 9 μ (fun v2 μ1 => ((v2 = 0 → Q (-1) μ1) ∧ (¬ v2 = 0 → (vp_in a1 10 ∧ ((¬ (mA μ1 68 (Int32.toNatClampNeg a1)) = 0 → ((a2 = 0 → (vp_in a1 10 ∧ (((mA μ1 67 (Int32.toNatClampNeg a1)) = 0 → Q 0 μ1) ∧ (¬ (mA μ1 67 (Int32.toNatClampNeg a1)) = 0 → Q 1 μ1)))) ∧ (a2 = 1 → (vp_in a1 10 ∧ Q (mA μ1 74 (Int32.toNatClampNeg a1)) μ1)) ∧ (a2 = 2 → (vp_in a1 10 ∧ (((mA μ1 67 (Int32.toNatClampNeg a1)) = 0 → (vp_in a1 10 ∧ Q (mA μ1 75 (Int32.toNatClampNeg a1)) μ1)) ∧ (¬ (mA μ1 67 (Int32.toNatClampNeg a1)) = 0 → Q 0 μ1)))) ∧ (a2 = 3 → (vp_in (12 * a1) 120 ∧ Q (mA μ1 81 (Int32.toNatClampNeg (12 * a1))) μ1)) ∧ (a2 = 4 → (vp_in a1 10 ∧ (((mA μ1 69 (Int32.toNatClampNeg a1)) = 0 → Q 0 μ1) ∧ (¬ (mA μ1 69 (Int32.toNatClampNeg a1)) = 0 → Q 1 μ1)))) ∧ (a2 = 5 → (vp_in a1 10 ∧ Q (mA μ1 76 (Int32.toNatClampNeg a1)) μ1)) ∧ (((a2 : Int32).toInt < 0 ∨ 5 < (a2 : Int32).toInt) → Q (-1) μ1))) ∧ ((mA μ1 68 (Int32.toNatClampNeg a1)) = 0 → Q (-1) μ1))))))) : W_X6_under G ρ (d + 1) a1 a2 μ Q := by
  unfold W_X6_under
  refine am_iload_n (x := a1) dX6_under_0 rfl rfl ?_
  refine am_iconst (v := 0) dX6_under_1 (by decide) ?_
  refine am_bipush (v := 9) dX6_under_2 (by decide) ?_
  refine mm_callS (Mc := m_X6_isIn) (as := [.int a1, .int 0, .int 9]) rfl bm_X6_isIn q2636 q2637 (Nat.le_of_ble_eq_true rfl) dX6_under_4 (mt_X6_isIn (mm_k2i h (fun v2 μ1 h => ?_)))
  refine am_if_eq (tgt := 19) dX6_under_7 (by decide) (fun c => ?_) (fun c => ?_)
  · have h := h.1 c
    refine am_iconst (v := (-1)) dX6_under_19 (by decide) ?_
    exact am_iret rfl dX6_under_20 ⟨_, _, rfl, rfl, h⟩
  · have h := h.2 c
    refine am_aloadr_n (x := some ρ.1) dX6_under_10 rfl rfl ?_
    refine mm_gA (k := 68) rfl isA_68 q2387 dX6_under_11 ?_
    refine am_iload_n (x := a1) dX6_under_14 rfl rfl ?_
    refine mm_ldZ (k := 68) isA_68 rfl rfl dX6_under_15 h.1 ?_
    have h := h.2
    refine am_if_ne (tgt := 21) dX6_under_16 (by decide) (fun c => ?_) (fun c => ?_)
    · have h := h.1 c
      refine am_iload_n (x := a2) dX6_under_21 rfl rfl ?_
      by_cases c : (a2 : Int32).toInt < 0 ∨ 5 < (a2 : Int32).toInt
      · have h := h.2.2.2.2.2.2 c
        refine am_tableOut (tgt := 134) dX6_under_22 c (by decide) ?_
        refine am_iconst (v := (-1)) dX6_under_134 (by decide) ?_
        exact am_iret rfl dX6_under_135 ⟨_, _, rfl, rfl, h⟩
      · obtain ⟨j, hj, e⟩ := am_tab (lo := 0) (n := 6) c
        match j, hj, e with
        | 0, hj, e =>
          have c : (a2 : Int32) = 0 := Int32.toInt_inj.mp (e.trans (by decide))
          have h := h.1 c
          refine am_tableIn (tgt := 60) dX6_under_22 (by rw [c]; decide) (by rw [c]; decide) (by rw [c]; rfl) (by decide) ?_
          refine am_aloadr_n (x := some ρ.1) dX6_under_60 rfl rfl ?_
          refine mm_gA (k := 67) rfl isA_67 q2386 dX6_under_61 ?_
          refine am_iload_n (x := a1) dX6_under_64 rfl rfl ?_
          refine mm_ldZ (k := 67) isA_67 rfl rfl dX6_under_65 h.1 ?_
          have h := h.2
          refine am_if_eq (tgt := 73) dX6_under_66 (by decide) (fun c => ?_) (fun c => ?_)
          · have h := h.1 c
            refine am_iconst (v := 0) dX6_under_73 (by decide) ?_
            exact am_iret rfl dX6_under_74 ⟨_, _, rfl, rfl, h⟩
          · have h := h.2 c
            refine am_iconst (v := 1) dX6_under_69 (by decide) ?_
            refine am_goto (tgt := 74) dX6_under_70 (by decide) ?_
            exact am_iret rfl dX6_under_74 ⟨_, _, rfl, rfl, h⟩
        | 1, hj, e =>
          have c : (a2 : Int32) = 1 := Int32.toInt_inj.mp (e.trans (by decide))
          have h := h.2.1 c
          refine am_tableIn (tgt := 75) dX6_under_22 (by rw [c]; decide) (by rw [c]; decide) (by rw [c]; rfl) (by decide) ?_
          refine am_aloadr_n (x := some ρ.1) dX6_under_75 rfl rfl ?_
          refine mm_gA (k := 74) rfl isA_74 q2393 dX6_under_76 ?_
          refine am_iload_n (x := a1) dX6_under_79 rfl rfl ?_
          refine mm_ldA (k := 74) isA_74 rfl rfl dX6_under_80 h.1 ?_
          have h := h.2
          exact am_iret rfl dX6_under_81 ⟨_, _, rfl, rfl, h⟩
        | 2, hj, e =>
          have c : (a2 : Int32) = 2 := Int32.toInt_inj.mp (e.trans (by decide))
          have h := h.2.2.1 c
          refine am_tableIn (tgt := 82) dX6_under_22 (by rw [c]; decide) (by rw [c]; decide) (by rw [c]; rfl) (by decide) ?_
          refine am_aloadr_n (x := some ρ.1) dX6_under_82 rfl rfl ?_
          refine mm_gA (k := 67) rfl isA_67 q2386 dX6_under_83 ?_
          refine am_iload_n (x := a1) dX6_under_86 rfl rfl ?_
          refine mm_ldZ (k := 67) isA_67 rfl rfl dX6_under_87 h.1 ?_
          have h := h.2
          refine am_if_eq (tgt := 95) dX6_under_88 (by decide) (fun c => ?_) (fun c => ?_)
          · have h := h.1 c
            refine am_aloadr_n (x := some ρ.1) dX6_under_95 rfl rfl ?_
            refine mm_gA (k := 75) rfl isA_75 q2394 dX6_under_96 ?_
            refine am_iload_n (x := a1) dX6_under_99 rfl rfl ?_
            refine mm_ldA (k := 75) isA_75 rfl rfl dX6_under_100 h.1 ?_
            have h := h.2
            exact am_iret rfl dX6_under_101 ⟨_, _, rfl, rfl, h⟩
          · have h := h.2 c
            refine am_iconst (v := 0) dX6_under_91 (by decide) ?_
            refine am_goto (tgt := 101) dX6_under_92 (by decide) ?_
            exact am_iret rfl dX6_under_101 ⟨_, _, rfl, rfl, h⟩
        | 3, hj, e =>
          have c : (a2 : Int32) = 3 := Int32.toInt_inj.mp (e.trans (by decide))
          have h := h.2.2.2.1 c
          refine am_tableIn (tgt := 102) dX6_under_22 (by rw [c]; decide) (by rw [c]; decide) (by rw [c]; rfl) (by decide) ?_
          refine am_aloadr_n (x := some ρ.1) dX6_under_102 rfl rfl ?_
          refine mm_gA (k := 81) rfl isA_81 q2400 dX6_under_103 ?_
          refine am_bipush (v := 12) dX6_under_106 (by decide) ?_
          refine am_iload_n (x := a1) dX6_under_108 rfl rfl ?_
          refine am_imul dX6_under_109 ?_
          refine mm_ldA (k := 81) isA_81 rfl rfl dX6_under_110 h.1 ?_
          have h := h.2
          exact am_iret rfl dX6_under_111 ⟨_, _, rfl, rfl, h⟩
        | 4, hj, e =>
          have c : (a2 : Int32) = 4 := Int32.toInt_inj.mp (e.trans (by decide))
          have h := h.2.2.2.2.1 c
          refine am_tableIn (tgt := 112) dX6_under_22 (by rw [c]; decide) (by rw [c]; decide) (by rw [c]; rfl) (by decide) ?_
          refine am_aloadr_n (x := some ρ.1) dX6_under_112 rfl rfl ?_
          refine mm_gA (k := 69) rfl isA_69 q2388 dX6_under_113 ?_
          refine am_iload_n (x := a1) dX6_under_116 rfl rfl ?_
          refine mm_ldZ (k := 69) isA_69 rfl rfl dX6_under_117 h.1 ?_
          have h := h.2
          refine am_if_eq (tgt := 125) dX6_under_118 (by decide) (fun c => ?_) (fun c => ?_)
          · have h := h.1 c
            refine am_iconst (v := 0) dX6_under_125 (by decide) ?_
            exact am_iret rfl dX6_under_126 ⟨_, _, rfl, rfl, h⟩
          · have h := h.2 c
            refine am_iconst (v := 1) dX6_under_121 (by decide) ?_
            refine am_goto (tgt := 126) dX6_under_122 (by decide) ?_
            exact am_iret rfl dX6_under_126 ⟨_, _, rfl, rfl, h⟩
        | 5, hj, e =>
          have c : (a2 : Int32) = 5 := Int32.toInt_inj.mp (e.trans (by decide))
          have h := h.2.2.2.2.2.1 c
          refine am_tableIn (tgt := 127) dX6_under_22 (by rw [c]; decide) (by rw [c]; decide) (by rw [c]; rfl) (by decide) ?_
          refine am_aloadr_n (x := some ρ.1) dX6_under_127 rfl rfl ?_
          refine mm_gA (k := 76) rfl isA_76 q2395 dX6_under_128 ?_
          refine am_iload_n (x := a1) dX6_under_131 rfl rfl ?_
          refine mm_ldA (k := 76) isA_76 rfl rfl dX6_under_132 h.1 ?_
          have h := h.2
          exact am_iret rfl dX6_under_133 ⟨_, _, rfl, rfl, h⟩
        | j + 6, hj, e => exact absurd hj (by omega)
    · have h := h.2 c
      refine am_iconst (v := (-1)) dX6_under_19 (by decide) ?_
      exact am_iret rfl dX6_under_20 ⟨_, _, rfl, rfl, h⟩
theorem W_X6_forbid_f {G : am_G} {ρ : mm_F} {d : Nat} {a1 : Int32} {a2 : Int32} {μ : mm_S} {Q : Int32 → mm_S → Prop} (h : W_X6_isIn G ρ d a1 0 9 μ (fun v2 μ1 => ((v2 = 0 → Q 0 μ1) ∧ (¬ v2 = 0 → (vp_in a1 10 ∧ ((¬ (mA μ1 67 (Int32.toNatClampNeg a1)) = 0 → (vp_in a1 10 ∧ (a2 = 0 ∨ a2 = 1) ∧ ∀ μ3 : mm_S, μ3 = mm_sA μ1 69 (Int32.toNatClampNeg a1) a2 → (Q 1 μ3))) ∧ ((mA μ1 67 (Int32.toNatClampNeg a1)) = 0 → Q 0 μ1))))))) : W_X6_forbid G ρ (d + 1) a1 a2 μ Q := by
  unfold W_X6_forbid
  refine am_iload_n (x := a1) dX6_forbid_0 rfl rfl ?_
  refine am_iconst (v := 0) dX6_forbid_1 (by decide) ?_
  refine am_bipush (v := 9) dX6_forbid_2 (by decide) ?_
  refine mm_callS (Mc := m_X6_isIn) (as := [.int a1, .int 0, .int 9]) rfl bm_X6_isIn q2636 q2637 (Nat.le_of_ble_eq_true rfl) dX6_forbid_4 (mt_X6_isIn (mm_k2i h (fun v2 μ1 h => ?_)))
  refine am_if_eq (tgt := 19) dX6_forbid_7 (by decide) (fun c => ?_) (fun c => ?_)
  · have h := h.1 c
    refine am_iconst (v := 0) dX6_forbid_19 (by decide) ?_
    exact am_zret rfl rfl dX6_forbid_20 ⟨_, _, rfl, rfl, h⟩
  · have h := h.2 c
    refine am_aloadr_n (x := some ρ.1) dX6_forbid_10 rfl rfl ?_
    refine mm_gA (k := 67) rfl isA_67 q2386 dX6_forbid_11 ?_
    refine am_iload_n (x := a1) dX6_forbid_14 rfl rfl ?_
    refine mm_ldZ (k := 67) isA_67 rfl rfl dX6_forbid_15 h.1 ?_
    have h := h.2
    refine am_if_ne (tgt := 21) dX6_forbid_16 (by decide) (fun c => ?_) (fun c => ?_)
    · have h := h.1 c
      refine am_aloadr_n (x := some ρ.1) dX6_forbid_21 rfl rfl ?_
      refine mm_gA (k := 69) rfl isA_69 q2388 dX6_forbid_22 ?_
      refine am_iload_n (x := a1) dX6_forbid_25 rfl rfl ?_
      refine am_iload_n (x := a2) dX6_forbid_26 rfl rfl ?_
      refine mm_stZ (k := 69) isA_69 rfl rfl h.2.1 dX6_forbid_27 h.1 ?_
      have h := h.2.2
      generalize eμ3 : mm_sA μ1 69 (Int32.toNatClampNeg a1) a2 = μ3
      have h := h μ3 eμ3.symm
      refine am_iconst (v := 1) dX6_forbid_28 (by decide) ?_
      exact am_zret rfl rfl dX6_forbid_29 ⟨_, _, rfl, rfl, h⟩
    · have h := h.2 c
      refine am_iconst (v := 0) dX6_forbid_19 (by decide) ?_
      exact am_zret rfl rfl dX6_forbid_20 ⟨_, _, rfl, rfl, h⟩
theorem W_X6_apply_f {G : am_G} {ρ : mm_F} {d : Nat} {a1 : Int32} {μ : mm_S} {Q : Int32 → mm_S → Prop} (h : W_X6_isIn G ρ d a1 0 ((mI μ 25) - 1) μ (fun v2 μ1 => ((v2 = 0 → Q 0 μ1) ∧ (¬ v2 = 0 → (((mI μ1 28) = (-1) → (∀ μ3 : mm_S, μ3 = mm_sI μ1 28 a1 → ((∀ μ4 : mm_S, μ4 = mm_sI μ3 26 0 → ((vp_in a1 6 ∧ ∀ μ5 : mm_S, μ5 = mm_sA μ4 32 (Int32.toNatClampNeg a1) 1 → (Q 1 μ5))))))) ∧ (¬ (mI μ1 28) = (-1) → Q 0 μ1)))))) : W_X6_apply G ρ (d + 1) a1 μ Q := by
  unfold W_X6_apply
  refine am_iload_n (x := a1) dX6_apply_0 rfl rfl ?_
  refine am_iconst (v := 0) dX6_apply_1 (by decide) ?_
  refine am_aloadr_n (x := some ρ.1) dX6_apply_2 rfl rfl ?_
  refine mm_gI (k := 25) rfl (Or.inl rfl) (by decide) q2344 dX6_apply_3 ?_
  refine am_iconst (v := 1) dX6_apply_6 (by decide) ?_
  refine am_isub dX6_apply_7 ?_
  refine mm_callS (Mc := m_X6_isIn) (as := [.int a1, .int 0, .int ((mI μ 25) - 1)]) rfl bm_X6_isIn q2636 q2637 (Nat.le_of_ble_eq_true rfl) dX6_apply_8 (mt_X6_isIn (mm_k2i h (fun v2 μ1 h => ?_)))
  refine am_if_eq (tgt := 22) dX6_apply_11 (by decide) (fun c => ?_) (fun c => ?_)
  · have h := h.1 c
    refine am_iconst (v := 0) dX6_apply_22 (by decide) ?_
    exact am_zret rfl rfl dX6_apply_23 ⟨_, _, rfl, rfl, h⟩
  · have h := h.2 c
    refine am_aloadr_n (x := some ρ.1) dX6_apply_14 rfl rfl ?_
    refine mm_gI (k := 28) rfl (Or.inl rfl) (by decide) q2347 dX6_apply_15 ?_
    refine am_iconst (v := (-1)) dX6_apply_18 (by decide) ?_
    refine am_icmp_eq (tgt := 24) dX6_apply_19 (by decide) (fun c => ?_) (fun c => ?_)
    · have h := h.1 c
      refine am_aloadr_n (x := some ρ.1) dX6_apply_24 rfl rfl ?_
      refine am_iload_n (x := a1) dX6_apply_25 rfl rfl ?_
      refine mm_pI (k := 28) rfl rfl rfl (by decide) q2347 rfl dX6_apply_26 ?_
      generalize eμ3 : mm_sI μ1 28 a1 = μ3
      have h := h μ3 eμ3.symm
      refine am_aloadr_n (x := some ρ.1) dX6_apply_29 rfl rfl ?_
      refine am_iconst (v := 0) dX6_apply_30 (by decide) ?_
      refine mm_pI (k := 26) rfl rfl rfl (by decide) q2345 rfl dX6_apply_31 ?_
      generalize eμ4 : mm_sI μ3 26 0 = μ4
      have h := h μ4 eμ4.symm
      refine am_aloadr_n (x := some ρ.1) dX6_apply_34 rfl rfl ?_
      refine mm_gA (k := 32) rfl isA_32 q2351 dX6_apply_35 ?_
      refine am_iload_n (x := a1) dX6_apply_38 rfl rfl ?_
      refine am_iconst (v := 1) dX6_apply_39 (by decide) ?_
      refine mm_stA (k := 32) isA_32 rfl rfl dX6_apply_40 h.1 ?_
      have h := h.2
      generalize eμ5 : mm_sA μ4 32 (Int32.toNatClampNeg a1) 1 = μ5
      have h := h μ5 eμ5.symm
      refine am_iconst (v := 1) dX6_apply_41 (by decide) ?_
      exact am_zret rfl rfl dX6_apply_42 ⟨_, _, rfl, rfl, h⟩
    · have h := h.2 c
      refine am_iconst (v := 0) dX6_apply_22 (by decide) ?_
      exact am_zret rfl rfl dX6_apply_23 ⟨_, _, rfl, rfl, h⟩
theorem W_X6_applied_f {G : am_G} {ρ : mm_F} {d : Nat} {a1 : Int32} {μ : mm_S} {Q : Int32 → mm_S → Prop} (h : W_X6_isIn G ρ d a1 0 ((mI μ 25) - 1) μ (fun v2 μ1 => ((v2 = 0 → Q (-1) μ1) ∧ (¬ v2 = 0 → (vp_in a1 6 ∧ Q (mA μ1 32 (Int32.toNatClampNeg a1)) μ1))))) : W_X6_applied G ρ (d + 1) a1 μ Q := by
  unfold W_X6_applied
  refine am_iload_n (x := a1) dX6_applied_0 rfl rfl ?_
  refine am_iconst (v := 0) dX6_applied_1 (by decide) ?_
  refine am_aloadr_n (x := some ρ.1) dX6_applied_2 rfl rfl ?_
  refine mm_gI (k := 25) rfl (Or.inl rfl) (by decide) q2344 dX6_applied_3 ?_
  refine am_iconst (v := 1) dX6_applied_6 (by decide) ?_
  refine am_isub dX6_applied_7 ?_
  refine mm_callS (Mc := m_X6_isIn) (as := [.int a1, .int 0, .int ((mI μ 25) - 1)]) rfl bm_X6_isIn q2636 q2637 (Nat.le_of_ble_eq_true rfl) dX6_applied_8 (mt_X6_isIn (mm_k2i h (fun v2 μ1 h => ?_)))
  refine am_if_eq (tgt := 23) dX6_applied_11 (by decide) (fun c => ?_) (fun c => ?_)
  · have h := h.1 c
    refine am_iconst (v := (-1)) dX6_applied_23 (by decide) ?_
    exact am_iret rfl dX6_applied_24 ⟨_, _, rfl, rfl, h⟩
  · have h := h.2 c
    refine am_aloadr_n (x := some ρ.1) dX6_applied_14 rfl rfl ?_
    refine mm_gA (k := 32) rfl isA_32 q2351 dX6_applied_15 ?_
    refine am_iload_n (x := a1) dX6_applied_18 rfl rfl ?_
    refine mm_ldA (k := 32) isA_32 rfl rfl dX6_applied_19 h.1 ?_
    have h := h.2
    refine am_goto (tgt := 24) dX6_applied_20 (by decide) ?_
    exact am_iret rfl dX6_applied_24 ⟨_, _, rfl, rfl, h⟩
theorem W_X6_refusal_f {G : am_G} {ρ : mm_F} {d : Nat} {a1 : Int32} {μ : mm_S} {Q : Int32 → mm_S → Prop} (h : ((¬ a1 = 0 → ((¬ a1 = 1 → ((¬ a1 = 2 → Q (-1) μ) ∧ (a1 = 2 → Q (mI μ 84) μ))) ∧ (a1 = 1 → Q (mI μ 83) μ))) ∧ (a1 = 0 → Q (mI μ 82) μ))) : W_X6_refusal G ρ d a1 μ Q := by
  unfold W_X6_refusal
  refine am_iload_n (x := a1) dX6_refusal_0 rfl rfl ?_
  refine am_if_ne (tgt := 11) dX6_refusal_1 (by decide) (fun c => ?_) (fun c => ?_)
  · have h := h.1 c
    refine am_iload_n (x := a1) dX6_refusal_11 rfl rfl ?_
    refine am_iconst (v := 1) dX6_refusal_12 (by decide) ?_
    refine am_icmp_ne (tgt := 23) dX6_refusal_13 (by decide) (fun c => ?_) (fun c => ?_)
    · have h := h.1 c
      refine am_iload_n (x := a1) dX6_refusal_23 rfl rfl ?_
      refine am_iconst (v := 2) dX6_refusal_24 (by decide) ?_
      refine am_icmp_ne (tgt := 35) dX6_refusal_25 (by decide) (fun c => ?_) (fun c => ?_)
      · have h := h.1 c
        refine am_iconst (v := (-1)) dX6_refusal_35 (by decide) ?_
        exact am_iret rfl dX6_refusal_36 ⟨_, _, rfl, rfl, h⟩
      · have h := h.2 c
        refine am_aloadr_n (x := some ρ.1) dX6_refusal_28 rfl rfl ?_
        refine mm_gI (k := 84) rfl (Or.inl rfl) (by decide) q2403 dX6_refusal_29 ?_
        refine am_goto (tgt := 36) dX6_refusal_32 (by decide) ?_
        exact am_iret rfl dX6_refusal_36 ⟨_, _, rfl, rfl, h⟩
    · have h := h.2 c
      refine am_aloadr_n (x := some ρ.1) dX6_refusal_16 rfl rfl ?_
      refine mm_gI (k := 83) rfl (Or.inl rfl) (by decide) q2402 dX6_refusal_17 ?_
      refine am_goto (tgt := 36) dX6_refusal_20 (by decide) ?_
      exact am_iret rfl dX6_refusal_36 ⟨_, _, rfl, rfl, h⟩
  · have h := h.2 c
    refine am_aloadr_n (x := some ρ.1) dX6_refusal_4 rfl rfl ?_
    refine mm_gI (k := 82) rfl (Or.inl rfl) (by decide) q2401 dX6_refusal_5 ?_
    refine am_goto (tgt := 36) dX6_refusal_8 (by decide) ?_
    exact am_iret rfl dX6_refusal_36 ⟨_, _, rfl, rfl, h⟩
theorem W_X6_back_f {G : am_G} {ρ : mm_F} {d : Nat}  {μ : mm_S} {Q : Int32 → mm_S → Prop} (h : (((mI μ 29) = (-1) → Q 0 μ) ∧ (¬ (mI μ 29) = (-1) → (((mI μ 28) = (-1) → W_X6_copy G ρ d 2 1 μ (fun μ1 => B_X6_back_26 G ρ (d + 1) 0 μ1 Q)) ∧ (¬ (mI μ 28) = (-1) → Q 0 μ))))) : W_X6_back G ρ (d + 1)  μ Q := by
  unfold W_X6_back
  refine am_aloadr_n (x := some ρ.1) dX6_back_0 rfl rfl ?_
  refine mm_gI (k := 29) rfl (Or.inl rfl) (by decide) q2348 dX6_back_1 ?_
  refine am_iconst (v := (-1)) dX6_back_4 (by decide) ?_
  refine am_icmp_eq (tgt := 16) dX6_back_5 (by decide) (fun c => ?_) (fun c => ?_)
  · have h := h.1 c
    refine am_iconst (v := 0) dX6_back_16 (by decide) ?_
    exact am_zret rfl rfl dX6_back_17 ⟨_, _, rfl, rfl, h⟩
  · have h := h.2 c
    refine am_aloadr_n (x := some ρ.1) dX6_back_8 rfl rfl ?_
    refine mm_gI (k := 28) rfl (Or.inl rfl) (by decide) q2347 dX6_back_9 ?_
    refine am_iconst (v := (-1)) dX6_back_12 (by decide) ?_
    refine am_icmp_eq (tgt := 18) dX6_back_13 (by decide) (fun c => ?_) (fun c => ?_)
    · have h := h.1 c
      refine am_aloadr_n (x := some ρ.1) dX6_back_18 rfl rfl ?_
      refine am_iconst (v := 2) dX6_back_19 (by decide) ?_
      refine am_iconst (v := 1) dX6_back_20 (by decide) ?_
      refine mm_callV (Mc := m_X6_copy) (as := [.int 2, .int 1]) rfl bm_X6_copy q2775 q2777 qs115 (Nat.le_of_ble_eq_true rfl) dX6_back_21 (mt_X6_copy (mm_k2v h (fun μ1 h => ?_)))
      refine am_iconst (v := 0) dX6_back_24 (by decide) ?_
      refine am_istore_n (L' := [(2, .int 0), (0, va_rf (some ρ.1))]) dX6_back_25 rfl (Nat.le_of_ble_eq_true rfl) rfl ?_
      exact am_lss h rfl
    · have h := h.2 c
      refine am_iconst (v := 0) dX6_back_16 (by decide) ?_
      exact am_zret rfl rfl dX6_back_17 ⟨_, _, rfl, rfl, h⟩
theorem B_X6_back_26_f {G : am_G} {ρ : mm_F} {d : Nat} {x1 : Int32} {μ : mm_S} {Q : Int32 → mm_S → Prop} (h : W_X6_many G ρ d 1 μ (fun v2 μ1 => ((v2 ≤ x1 → B_X6_back_126 G ρ (d + 1) 0 μ1 Q) ∧ (¬ v2 ≤ x1 → W_X6_get G ρ d 1 x1 0 μ1 (fun v4 μ3 => W_X6_find G ρ d 0 v4 μ3 (fun v6 μ5 => B_X6_back_50 G ρ (d + 1) x1 v6 0 μ5 Q)))))) : B_X6_back_26 G ρ (d + 1) x1 μ Q := by
  unfold B_X6_back_26
  refine am_iload_n (x := x1) dX6_back_26 rfl rfl ?_
  refine am_aloadr_n (x := some ρ.1) dX6_back_27 rfl rfl ?_
  refine am_iconst (v := 1) dX6_back_28 (by decide) ?_
  refine mm_callV (Mc := m_X6_many) (as := [.int 1]) rfl bm_X6_many q2662 q2664 qs87 (Nat.le_of_ble_eq_true rfl) dX6_back_29 (mt_X6_many (mm_k2i h (fun v2 μ1 h => ?_)))
  refine am_icmp_ge (tgt := 124) dX6_back_32 (by decide) (fun c => ?_) (fun c => ?_)
  · have h := h.1 c
    refine am_iconst (v := 0) dX6_back_124 (by decide) ?_
    refine am_istore_n (L' := [(2, .int 0), (0, va_rf (some ρ.1))]) dX6_back_125 rfl (Nat.le_of_ble_eq_true rfl) rfl ?_
    exact am_lss h rfl
  · have h := h.2 c
    refine am_aloadr_n (x := some ρ.1) dX6_back_35 rfl rfl ?_
    refine am_iconst (v := 0) dX6_back_36 (by decide) ?_
    refine am_aloadr_n (x := some ρ.1) dX6_back_37 rfl rfl ?_
    refine am_iconst (v := 1) dX6_back_38 (by decide) ?_
    refine am_iload_n (x := x1) dX6_back_39 rfl rfl ?_
    refine am_iconst (v := 0) dX6_back_40 (by decide) ?_
    refine mm_callV (Mc := m_X6_get) (as := [.int 1, .int x1, .int 0]) rfl bm_X6_get q2666 q2668 qs88 (Nat.le_of_ble_eq_true rfl) dX6_back_41 (mt_X6_get (mm_k2i h (fun v4 μ3 h => ?_)))
    refine mm_callV (Mc := m_X6_find) (as := [.int 0, .int v4]) rfl bm_X6_find q2658 q2660 qs86 (Nat.le_of_ble_eq_true rfl) dX6_back_44 (mt_X6_find (mm_k2i h (fun v6 μ5 h => ?_)))
    refine am_istore_n (L' := [(4, .int v6), (0, va_rf (some ρ.1)), (2, .int x1)]) dX6_back_47 rfl (Nat.le_of_ble_eq_true rfl) rfl ?_
    refine am_iconst (v := 0) dX6_back_48 (by decide) ?_
    refine am_istore_n (L' := [(6, .int 0), (4, .int v6), (0, va_rf (some ρ.1)), (2, .int x1)]) dX6_back_49 rfl (Nat.le_of_ble_eq_true rfl) rfl ?_
    exact am_lss h rfl
theorem B_X6_back_50_f {G : am_G} {ρ : mm_F} {d : Nat} {x1 : Int32} {x2 : Int32} {x3 : Int32} {μ : mm_S} {Q : Int32 → mm_S → Prop} (h : W_X6_get G ρ d 1 x1 30 μ (fun v2 μ1 => ((v2 ≤ x3 → B_X6_back_26 G ρ (d + 1) (x1 + 1) μ1 Q) ∧ (¬ v2 ≤ x3 → ((x2 = (-1) → B_X6_back_26 G ρ (d + 1) (x1 + 1) μ1 Q) ∧ (¬ x2 = (-1) → W_X6_get G ρ d 1 x1 (31 + x3) μ1 (fun v4 μ3 => W_X6_fixedOf G ρ d 0 x2 v4 μ3 (fun v6 μ5 => ((v6 = (-1) → B_X6_back_50 G ρ (d + 1) x1 x2 (x3 + 1) μ5 Q) ∧ (¬ v6 = (-1) → W_X6_get G ρ d 0 x2 (35 + v6) μ5 (fun v8 μ7 => W_X6_set G ρ d 1 x1 (35 + x3) v8 μ7 (fun μ9 => B_X6_back_50 G ρ (d + 1) x1 x2 (x3 + 1) μ9 Q)))))))))))) : B_X6_back_50 G ρ (d + 1) x1 x2 x3 μ Q := by
  unfold B_X6_back_50
  refine am_iload_n (x := x3) dX6_back_50 rfl rfl ?_
  refine am_aloadr_n (x := some ρ.1) dX6_back_51 rfl rfl ?_
  refine am_iconst (v := 1) dX6_back_52 (by decide) ?_
  refine am_iload_n (x := x1) dX6_back_53 rfl rfl ?_
  refine am_bipush (v := 30) dX6_back_54 (by decide) ?_
  refine mm_callV (Mc := m_X6_get) (as := [.int 1, .int x1, .int 30]) rfl bm_X6_get q2666 q2668 qs88 (Nat.le_of_ble_eq_true rfl) dX6_back_56 (mt_X6_get (mm_k2i h (fun v2 μ1 h => ?_)))
  refine am_icmp_ge (tgt := 118) dX6_back_59 (by decide) (fun c => ?_) (fun c => ?_)
  · have h := h.1 c
    refine am_iinc (x := x1) (v := (x1 + 1)) (L' := [(2, .int (x1 + 1)), (0, va_rf (some ρ.1)), (4, .int x2), (6, .int x3)]) dX6_back_118 rfl rfl (Nat.le_of_ble_eq_true rfl) rfl ?_
    refine am_goto (tgt := 26) dX6_back_121 (by decide) ?_
    exact am_lss h rfl
  · have h := h.2 c
    refine am_iload_n (x := x2) dX6_back_62 rfl rfl ?_
    refine am_iconst (v := (-1)) dX6_back_63 (by decide) ?_
    refine am_icmp_eq (tgt := 118) dX6_back_64 (by decide) (fun c => ?_) (fun c => ?_)
    · have h := h.1 c
      refine am_iinc (x := x1) (v := (x1 + 1)) (L' := [(2, .int (x1 + 1)), (0, va_rf (some ρ.1)), (4, .int x2), (6, .int x3)]) dX6_back_118 rfl rfl (Nat.le_of_ble_eq_true rfl) rfl ?_
      refine am_goto (tgt := 26) dX6_back_121 (by decide) ?_
      exact am_lss h rfl
    · have h := h.2 c
      refine am_aloadr_n (x := some ρ.1) dX6_back_67 rfl rfl ?_
      refine am_iconst (v := 0) dX6_back_68 (by decide) ?_
      refine am_iload_n (x := x2) dX6_back_69 rfl rfl ?_
      refine am_aloadr_n (x := some ρ.1) dX6_back_70 rfl rfl ?_
      refine am_iconst (v := 1) dX6_back_71 (by decide) ?_
      refine am_iload_n (x := x1) dX6_back_72 rfl rfl ?_
      refine am_bipush (v := 31) dX6_back_73 (by decide) ?_
      refine am_iload_n (x := x3) dX6_back_75 rfl rfl ?_
      refine am_iadd dX6_back_76 ?_
      refine mm_callV (Mc := m_X6_get) (as := [.int 1, .int x1, .int (31 + x3)]) rfl bm_X6_get q2666 q2668 qs88 (Nat.le_of_ble_eq_true rfl) dX6_back_77 (mt_X6_get (mm_k2i h (fun v4 μ3 h => ?_)))
      refine mm_callV (Mc := m_X6_fixedOf) (as := [.int 0, .int x2, .int v4]) rfl bm_X6_fixedOf q2702 q2704 qs97 (Nat.le_of_ble_eq_true rfl) dX6_back_80 (mt_X6_fixedOf (mm_k2i h (fun v6 μ5 h => ?_)))
      refine am_istore (L' := [(8, .int v6), (0, va_rf (some ρ.1)), (2, .int x1), (4, .int x2), (6, .int x3)]) dX6_back_83 (Nat.le_of_ble_eq_true rfl) rfl ?_
      refine am_iload (x := v6) dX6_back_85 rfl ?_
      refine am_iconst (v := (-1)) dX6_back_87 (by decide) ?_
      refine am_icmp_eq (tgt := 112) dX6_back_88 (by decide) (fun c => ?_) (fun c => ?_)
      · have h := h.1 c
        refine am_iinc (x := x3) (v := (x3 + 1)) (L' := [(6, .int (x3 + 1)), (8, .int v6), (0, va_rf (some ρ.1)), (2, .int x1), (4, .int x2)]) dX6_back_112 rfl rfl (Nat.le_of_ble_eq_true rfl) rfl ?_
        refine am_goto (tgt := 50) dX6_back_115 (by decide) ?_
        exact am_lss h rfl
      · have h := h.2 c
        refine am_aloadr_n (x := some ρ.1) dX6_back_91 rfl rfl ?_
        refine am_iconst (v := 1) dX6_back_92 (by decide) ?_
        refine am_iload_n (x := x1) dX6_back_93 rfl rfl ?_
        refine am_bipush (v := 35) dX6_back_94 (by decide) ?_
        refine am_iload_n (x := x3) dX6_back_96 rfl rfl ?_
        refine am_iadd dX6_back_97 ?_
        refine am_aloadr_n (x := some ρ.1) dX6_back_98 rfl rfl ?_
        refine am_iconst (v := 0) dX6_back_99 (by decide) ?_
        refine am_iload_n (x := x2) dX6_back_100 rfl rfl ?_
        refine am_bipush (v := 35) dX6_back_101 (by decide) ?_
        refine am_iload (x := v6) dX6_back_103 rfl ?_
        refine am_iadd dX6_back_105 ?_
        refine mm_callV (Mc := m_X6_get) (as := [.int 0, .int x2, .int (35 + v6)]) rfl bm_X6_get q2666 q2668 qs88 (Nat.le_of_ble_eq_true rfl) dX6_back_106 (mt_X6_get (mm_k2i h (fun v8 μ7 h => ?_)))
        refine mm_callV (Mc := m_X6_set) (as := [.int 1, .int x1, .int (35 + x3), .int v8]) rfl bm_X6_set q2674 q2676 qs90 (Nat.le_of_ble_eq_true rfl) dX6_back_109 (mt_X6_set (mm_k2v h (fun μ9 h => ?_)))
        refine am_iinc (x := x3) (v := (x3 + 1)) (L' := [(6, .int (x3 + 1)), (8, .int v6), (0, va_rf (some ρ.1)), (2, .int x1), (4, .int x2)]) dX6_back_112 rfl rfl (Nat.le_of_ble_eq_true rfl) rfl ?_
        refine am_goto (tgt := 50) dX6_back_115 (by decide) ?_
        exact am_lss h rfl
theorem B_X6_back_126_f {G : am_G} {ρ : mm_F} {d : Nat} {x1 : Int32} {μ : mm_S} {Q : Int32 → mm_S → Prop} (h : (((mI μ 33) ≤ x1 → W_X6_copy G ρ d 1 0 μ (fun μ1 => (vp_in (mI μ1 29) 6 ∧ ∀ μ2 : mm_S, μ2 = mm_sA μ1 32 (Int32.toNatClampNeg (mI μ1 29)) 5 → ((∀ μ3 : mm_S, μ3 = mm_sI μ2 29 (-1) → (Q 1 μ3)))))) ∧ (¬ (mI μ 33) ≤ x1 → (vp_in x1 40 ∧ ((¬ (mA μ 34 (Int32.toNatClampNeg x1)) = 0 → (vp_in x1 40 ∧ W_X6_get G ρ d 0 (mA μ 35 (Int32.toNatClampNeg x1)) 4 μ (fun v5 μ4 => ((¬ v5 = (-1) → W_X6_get G ρ d 0 (mA μ 35 (Int32.toNatClampNeg x1)) 3 μ4 (fun v7 μ6 => ((¬ v7 = 1 → (vp_in x1 40 ∧ ∀ μ8 : mm_S, μ8 = mm_sA μ6 35 (Int32.toNatClampNeg x1) v5 → (B_X6_back_126 G ρ (d + 1) (x1 + 1) μ8 Q))) ∧ (v7 = 1 → W_X6_returns G ρ d x1 (mA μ 35 (Int32.toNatClampNeg x1)) v5 μ6 (fun μ9 => (vp_in x1 40 ∧ ∀ μ10 : mm_S, μ10 = mm_sA μ9 35 (Int32.toNatClampNeg x1) v5 → (B_X6_back_126 G ρ (d + 1) (x1 + 1) μ10 Q))))))) ∧ (v5 = (-1) → W_X6_ends G ρ d x1 μ4 (fun μ11 => B_X6_back_126 G ρ (d + 1) (x1 + 1) μ11 Q)))))) ∧ ((mA μ 34 (Int32.toNatClampNeg x1)) = 0 → B_X6_back_126 G ρ (d + 1) (x1 + 1) μ Q)))))) : B_X6_back_126 G ρ (d + 1) x1 μ Q := by
  unfold B_X6_back_126
  refine am_iload_n (x := x1) dX6_back_126 rfl rfl ?_
  refine am_aloadr_n (x := some ρ.1) dX6_back_127 rfl rfl ?_
  refine mm_gI (k := 33) rfl (Or.inl rfl) (by decide) q2352 dX6_back_128 ?_
  refine am_icmp_ge (tgt := 205) dX6_back_131 (by decide) (fun c => ?_) (fun c => ?_)
  · have h := h.1 c
    refine am_aloadr_n (x := some ρ.1) dX6_back_205 rfl rfl ?_
    refine am_iconst (v := 1) dX6_back_206 (by decide) ?_
    refine am_iconst (v := 0) dX6_back_207 (by decide) ?_
    refine mm_callV (Mc := m_X6_copy) (as := [.int 1, .int 0]) rfl bm_X6_copy q2775 q2777 qs115 (Nat.le_of_ble_eq_true rfl) dX6_back_208 (mt_X6_copy (mm_k2v h (fun μ1 h => ?_)))
    refine am_aloadr_n (x := some ρ.1) dX6_back_211 rfl rfl ?_
    refine mm_gA (k := 32) rfl isA_32 q2351 dX6_back_212 ?_
    refine am_aloadr_n (x := some ρ.1) dX6_back_215 rfl rfl ?_
    refine mm_gI (k := 29) rfl (Or.inl rfl) (by decide) q2348 dX6_back_216 ?_
    refine am_iconst (v := 5) dX6_back_219 (by decide) ?_
    refine mm_stA (k := 32) isA_32 rfl rfl dX6_back_220 h.1 ?_
    have h := h.2
    generalize eμ2 : mm_sA μ1 32 (Int32.toNatClampNeg (mI μ1 29)) 5 = μ2
    have h := h μ2 eμ2.symm
    refine am_aloadr_n (x := some ρ.1) dX6_back_221 rfl rfl ?_
    refine am_iconst (v := (-1)) dX6_back_222 (by decide) ?_
    refine mm_pI (k := 29) rfl rfl rfl (by decide) q2348 rfl dX6_back_223 ?_
    generalize eμ3 : mm_sI μ2 29 (-1) = μ3
    have h := h μ3 eμ3.symm
    refine am_iconst (v := 1) dX6_back_226 (by decide) ?_
    exact am_zret rfl rfl dX6_back_227 ⟨_, _, rfl, rfl, h⟩
  · have h := h.2 c
    refine am_aloadr_n (x := some ρ.1) dX6_back_134 rfl rfl ?_
    refine mm_gA (k := 34) rfl isA_34 q2353 dX6_back_135 ?_
    refine am_iload_n (x := x1) dX6_back_138 rfl rfl ?_
    refine mm_ldZ (k := 34) isA_34 rfl rfl dX6_back_139 h.1 ?_
    have h := h.2
    refine am_if_ne (tgt := 146) dX6_back_140 (by decide) (fun c => ?_) (fun c => ?_)
    · have h := h.1 c
      refine am_aloadr_n (x := some ρ.1) dX6_back_146 rfl rfl ?_
      refine mm_gA (k := 35) rfl isA_35 q2354 dX6_back_147 ?_
      refine am_iload_n (x := x1) dX6_back_150 rfl rfl ?_
      refine mm_ldA (k := 35) isA_35 rfl rfl dX6_back_151 h.1 ?_
      have h := h.2
      refine am_istore_n (L' := [(4, .int (mA μ 35 (Int32.toNatClampNeg x1))), (0, va_rf (some ρ.1)), (2, .int x1)]) dX6_back_152 rfl (Nat.le_of_ble_eq_true rfl) rfl ?_
      refine am_aloadr_n (x := some ρ.1) dX6_back_153 rfl rfl ?_
      refine am_iconst (v := 0) dX6_back_154 (by decide) ?_
      refine am_iload_n (x := (mA μ 35 (Int32.toNatClampNeg x1))) dX6_back_155 rfl rfl ?_
      refine am_iconst (v := 4) dX6_back_156 (by decide) ?_
      refine mm_callV (Mc := m_X6_get) (as := [.int 0, .int (mA μ 35 (Int32.toNatClampNeg x1)), .int 4]) rfl bm_X6_get q2666 q2668 qs88 (Nat.le_of_ble_eq_true rfl) dX6_back_157 (mt_X6_get (mm_k2i h (fun v5 μ4 h => ?_)))
      refine am_istore_n (L' := [(6, .int v5), (4, .int (mA μ 35 (Int32.toNatClampNeg x1))), (0, va_rf (some ρ.1)), (2, .int x1)]) dX6_back_160 rfl (Nat.le_of_ble_eq_true rfl) rfl ?_
      refine am_iload_n (x := v5) dX6_back_161 rfl rfl ?_
      refine am_iconst (v := (-1)) dX6_back_162 (by decide) ?_
      refine am_icmp_ne (tgt := 174) dX6_back_163 (by decide) (fun c => ?_) (fun c => ?_)
      · have h := h.1 c
        refine am_aloadr_n (x := some ρ.1) dX6_back_174 rfl rfl ?_
        refine am_iconst (v := 0) dX6_back_175 (by decide) ?_
        refine am_iload_n (x := (mA μ 35 (Int32.toNatClampNeg x1))) dX6_back_176 rfl rfl ?_
        refine am_iconst (v := 3) dX6_back_177 (by decide) ?_
        refine mm_callV (Mc := m_X6_get) (as := [.int 0, .int (mA μ 35 (Int32.toNatClampNeg x1)), .int 3]) rfl bm_X6_get q2666 q2668 qs88 (Nat.le_of_ble_eq_true rfl) dX6_back_178 (mt_X6_get (mm_k2i h (fun v7 μ6 h => ?_)))
        refine am_iconst (v := 1) dX6_back_181 (by decide) ?_
        refine am_icmp_ne (tgt := 192) dX6_back_182 (by decide) (fun c => ?_) (fun c => ?_)
        · have h := h.1 c
          refine am_aloadr_n (x := some ρ.1) dX6_back_192 rfl rfl ?_
          refine mm_gA (k := 35) rfl isA_35 q2354 dX6_back_193 ?_
          refine am_iload_n (x := x1) dX6_back_196 rfl rfl ?_
          refine am_iload_n (x := v5) dX6_back_197 rfl rfl ?_
          refine mm_stA (k := 35) isA_35 rfl rfl dX6_back_198 h.1 ?_
          have h := h.2
          generalize eμ8 : mm_sA μ6 35 (Int32.toNatClampNeg x1) v5 = μ8
          have h := h μ8 eμ8.symm
          refine am_iinc (x := x1) (v := (x1 + 1)) (L' := [(2, .int (x1 + 1)), (6, .int v5), (4, .int (mA μ 35 (Int32.toNatClampNeg x1))), (0, va_rf (some ρ.1))]) dX6_back_199 rfl rfl (Nat.le_of_ble_eq_true rfl) rfl ?_
          refine am_goto (tgt := 126) dX6_back_202 (by decide) ?_
          exact am_lss h rfl
        · have h := h.2 c
          refine am_aloadr_n (x := some ρ.1) dX6_back_185 rfl rfl ?_
          refine am_iload_n (x := x1) dX6_back_186 rfl rfl ?_
          refine am_iload_n (x := (mA μ 35 (Int32.toNatClampNeg x1))) dX6_back_187 rfl rfl ?_
          refine am_iload_n (x := v5) dX6_back_188 rfl rfl ?_
          refine mm_callV (Mc := m_X6_returns) (as := [.int x1, .int (mA μ 35 (Int32.toNatClampNeg x1)), .int v5]) rfl bm_X6_returns q3070 q3072 qs159 (Nat.le_of_ble_eq_true rfl) dX6_back_189 (mt_X6_returns (mm_k2v h (fun μ9 h => ?_)))
          refine am_aloadr_n (x := some ρ.1) dX6_back_192 rfl rfl ?_
          refine mm_gA (k := 35) rfl isA_35 q2354 dX6_back_193 ?_
          refine am_iload_n (x := x1) dX6_back_196 rfl rfl ?_
          refine am_iload_n (x := v5) dX6_back_197 rfl rfl ?_
          refine mm_stA (k := 35) isA_35 rfl rfl dX6_back_198 h.1 ?_
          have h := h.2
          generalize eμ10 : mm_sA μ9 35 (Int32.toNatClampNeg x1) v5 = μ10
          have h := h μ10 eμ10.symm
          refine am_iinc (x := x1) (v := (x1 + 1)) (L' := [(2, .int (x1 + 1)), (6, .int v5), (4, .int (mA μ 35 (Int32.toNatClampNeg x1))), (0, va_rf (some ρ.1))]) dX6_back_199 rfl rfl (Nat.le_of_ble_eq_true rfl) rfl ?_
          refine am_goto (tgt := 126) dX6_back_202 (by decide) ?_
          exact am_lss h rfl
      · have h := h.2 c
        refine am_aloadr_n (x := some ρ.1) dX6_back_166 rfl rfl ?_
        refine am_iload_n (x := x1) dX6_back_167 rfl rfl ?_
        refine mm_callV (Mc := m_X6_ends) (as := [.int x1]) rfl bm_X6_ends q3030 q3032 qs158 (Nat.le_of_ble_eq_true rfl) dX6_back_168 (mt_X6_ends (mm_k2v h (fun μ11 h => ?_)))
        refine am_goto (tgt := 199) dX6_back_171 (by decide) ?_
        refine am_iinc (x := x1) (v := (x1 + 1)) (L' := [(2, .int (x1 + 1)), (6, .int v5), (4, .int (mA μ 35 (Int32.toNatClampNeg x1))), (0, va_rf (some ρ.1))]) dX6_back_199 rfl rfl (Nat.le_of_ble_eq_true rfl) rfl ?_
        refine am_goto (tgt := 126) dX6_back_202 (by decide) ?_
        exact am_lss h rfl
    · have h := h.2 c
      refine am_goto (tgt := 199) dX6_back_143 (by decide) ?_
      refine am_iinc (x := x1) (v := (x1 + 1)) (L' := [(2, .int (x1 + 1)), (0, va_rf (some ρ.1))]) dX6_back_199 rfl rfl (Nat.le_of_ble_eq_true rfl) rfl ?_
      refine am_goto (tgt := 126) dX6_back_202 (by decide) ?_
      exact am_lss h rfl
theorem W_X6_returns_f {G : am_G} {ρ : mm_F} {d : Nat} {a1 : Int32} {a2 : Int32} {a3 : Int32} {μ : mm_S} {Q : mm_S → Prop} (h : B_X6_returns_3 G ρ (d + 1) a1 a2 a3 0 μ Q) : W_X6_returns G ρ (d + 1) a1 a2 a3 μ Q := by
  unfold W_X6_returns
  refine am_iconst (v := 0) dX6_returns_0 (by decide) ?_
  refine am_istore (L' := [(8, .int 0), (0, va_rf (some ρ.1)), (2, .int a1), (4, .int a2), (6, .int a3)]) dX6_returns_1 (Nat.le_of_ble_eq_true rfl) rfl ?_
  exact am_lss h rfl
theorem B_X6_returns_3_f {G : am_G} {ρ : mm_F} {d : Nat} {x1 : Int32} {x2 : Int32} {x3 : Int32} {x4 : Int32} {μ : mm_S} {Q : mm_S → Prop} (h : ((40 ≤ x4 → B_X6_returns_193 G ρ (d + 1) x1 0 μ Q) ∧ (¬ 40 ≤ x4 → W_X6_fieldAt G ρ d 2 x3 x4 μ (fun v2 μ1 => ((v2 = (-1) → B_X6_returns_33 G ρ (d + 1) x1 x2 x3 x4 0 x4 μ1 Q) ∧ (¬ v2 = (-1) → B_X6_returns_33 G ρ (d + 1) x1 x2 x3 x4 1 x4 μ1 Q)))))) : B_X6_returns_3 G ρ (d + 1) x1 x2 x3 x4 μ Q := by
  unfold B_X6_returns_3
  refine am_iload (x := x4) dX6_returns_3 rfl ?_
  refine am_bipush (v := 40) dX6_returns_5 (by decide) ?_
  refine am_icmp_ge (tgt := 190) dX6_returns_7 (by decide) (fun c => ?_) (fun c => ?_)
  · have h := h.1 c
    refine am_iconst (v := 0) dX6_returns_190 (by decide) ?_
    refine am_istore (L' := [(8, .int 0), (0, va_rf (some ρ.1)), (2, .int x1), (4, .int x2), (6, .int x3)]) dX6_returns_191 (Nat.le_of_ble_eq_true rfl) rfl ?_
    exact am_lss h rfl
  · have h := h.2 c
    refine am_aloadr_n (x := some ρ.1) dX6_returns_10 rfl rfl ?_
    refine mm_gA (k := 89) rfl isA_89 q2408 dX6_returns_11 ?_
    refine am_iload (x := x4) dX6_returns_14 rfl ?_
    refine am_aloadr_n (x := some ρ.1) dX6_returns_16 rfl rfl ?_
    refine am_iconst (v := 2) dX6_returns_17 (by decide) ?_
    refine am_iload_n (x := x3) dX6_returns_18 rfl rfl ?_
    refine am_iload (x := x4) dX6_returns_19 rfl ?_
    refine mm_callV (Mc := m_X6_fieldAt) (as := [.int 2, .int x3, .int x4]) rfl bm_X6_fieldAt q2819 q2821 qs120 (Nat.le_of_ble_eq_true rfl) dX6_returns_21 (mt_X6_fieldAt (mm_k2i h (fun v2 μ1 h => ?_)))
    refine am_iconst (v := (-1)) dX6_returns_24 (by decide) ?_
    refine am_icmp_eq (tgt := 32) dX6_returns_25 (by decide) (fun c => ?_) (fun c => ?_)
    · have h := h.1 c
      refine am_iconst (v := 0) dX6_returns_32 (by decide) ?_
      exact am_lss h rfl
    · have h := h.2 c
      refine am_iconst (v := 1) dX6_returns_28 (by decide) ?_
      refine am_goto (tgt := 33) dX6_returns_29 (by decide) ?_
      exact am_lss h rfl
theorem B_X6_returns_33_f {G : am_G} {ρ : mm_F} {d : Nat} {x1 : Int32} {x2 : Int32} {x3 : Int32} {x4 : Int32} {s0 : Int32} {s1 : Int32} {μ : mm_S} {Q : mm_S → Prop} (h : (vp_in s1 1600 ∧ (s0 = 0 ∨ s0 = 1) ∧ ∀ μ1 : mm_S, μ1 = mm_sA μ 89 (Int32.toNatClampNeg s1) s0 → ((vp_in x4 1600 ∧ ((¬ (mA μ1 89 (Int32.toNatClampNeg x4)) = 0 → B_X6_returns_53 G ρ (d + 1) x1 x2 x3 x4 (-1) 0 μ1 Q) ∧ ((mA μ1 89 (Int32.toNatClampNeg x4)) = 0 → B_X6_returns_3 G ρ (d + 1) x1 x2 x3 (x4 + 1) μ1 Q)))))) : B_X6_returns_33 G ρ (d + 1) x1 x2 x3 x4 s0 s1 μ Q := by
  unfold B_X6_returns_33
  refine mm_stZ (k := 89) isA_89 rfl rfl h.2.1 dX6_returns_33 h.1 ?_
  have h := h.2.2
  generalize eμ1 : mm_sA μ 89 (Int32.toNatClampNeg s1) s0 = μ1
  have h := h μ1 eμ1.symm
  refine am_aloadr_n (x := some ρ.1) dX6_returns_34 rfl rfl ?_
  refine mm_gA (k := 89) rfl isA_89 q2408 dX6_returns_35 ?_
  refine am_iload (x := x4) dX6_returns_38 rfl ?_
  refine mm_ldZ (k := 89) isA_89 rfl rfl dX6_returns_40 h.1 ?_
  have h := h.2
  refine am_if_ne (tgt := 47) dX6_returns_41 (by decide) (fun c => ?_) (fun c => ?_)
  · have h := h.1 c
    refine am_iconst (v := (-1)) dX6_returns_47 (by decide) ?_
    refine am_istore (L' := [(10, .int (-1)), (0, va_rf (some ρ.1)), (2, .int x1), (4, .int x2), (6, .int x3), (8, .int x4)]) dX6_returns_48 (Nat.le_of_ble_eq_true rfl) rfl ?_
    refine am_iconst (v := 0) dX6_returns_50 (by decide) ?_
    refine am_istore (L' := [(12, .int 0), (10, .int (-1)), (0, va_rf (some ρ.1)), (2, .int x1), (4, .int x2), (6, .int x3), (8, .int x4)]) dX6_returns_51 (Nat.le_of_ble_eq_true rfl) rfl ?_
    exact am_lss h rfl
  · have h := h.2 c
    refine am_goto (tgt := 184) dX6_returns_44 (by decide) ?_
    refine am_iinc (x := x4) (v := (x4 + 1)) (L' := [(8, .int (x4 + 1)), (0, va_rf (some ρ.1)), (2, .int x1), (4, .int x2), (6, .int x3)]) dX6_returns_184 rfl rfl (Nat.le_of_ble_eq_true rfl) rfl ?_
    refine am_goto (tgt := 3) dX6_returns_187 (by decide) ?_
    exact am_lss h rfl
