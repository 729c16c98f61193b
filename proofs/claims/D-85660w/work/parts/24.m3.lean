set_option maxRecDepth 100000
/-! ===== the model: what its blocks do (printed by tools/gen.py) ===== -/
theorem B_X6_returns_53_f {G : am_G} {ρ : mm_F} {d : Nat} {x1 : Int32} {x2 : Int32} {x3 : Int32} {x4 : Int32} {x5 : Int32} {x6 : Int32} {μ : mm_S} {Q : mm_S → Prop} (h : ((40 ≤ x6 → W_X6_fieldAt G ρ d 2 x3 x4 μ (fun v2 μ1 => ((x5 = (-1) → (vp_in ((40 * x1) + x4) 1600 ∧ (((mA μ1 38 (Int32.toNatClampNeg ((40 * x1) + x4))) = 0 → W_X6_field G ρ d 2 v2 x4 μ1 (fun v4 μ3 => W_X6_get G ρ d 2 v2 (14 + v4) μ3 (fun v6 μ5 => (vp_in x4 1600 ∧ ∀ μ7 : mm_S, μ7 = mm_sA μ5 87 (Int32.toNatClampNeg x4) v6 → (B_X6_returns_3 G ρ (d + 1) x1 x2 x3 (x4 + 1) μ7 Q))))) ∧ (¬ (mA μ1 38 (Int32.toNatClampNeg ((40 * x1) + x4))) = 0 → (vp_in ((40 * x1) + x4) 1600 ∧ (vp_in x4 1600 ∧ ∀ μ8 : mm_S, μ8 = mm_sA μ1 87 (Int32.toNatClampNeg x4) (mA μ1 37 (Int32.toNatClampNeg ((40 * x1) + x4))) → (B_X6_returns_3 G ρ (d + 1) x1 x2 x3 (x4 + 1) μ8 Q))))))) ∧ (¬ x5 = (-1) → (vp_in ((40 * x1) + x5) 1600 ∧ (vp_in x4 1600 ∧ ∀ μ9 : mm_S, μ9 = mm_sA μ1 87 (Int32.toNatClampNeg x4) (mA μ1 36 (Int32.toNatClampNeg ((40 * x1) + x5))) → (B_X6_returns_3 G ρ (d + 1) x1 x2 x3 (x4 + 1) μ9 Q))))))) ∧ (¬ 40 ≤ x6 → W_X6_fieldAt G ρ d 0 x2 x6 μ (fun v11 μ10 => ((v11 = (-1) → B_X6_returns_53 G ρ (d + 1) x1 x2 x3 x4 x5 (x6 + 1) μ10 Q) ∧ (¬ v11 = (-1) → W_X6_source G ρ d 2 x3 0 x2 x6 μ10 (fun v13 μ12 => ((¬ v13 = x4 → B_X6_returns_53 G ρ (d + 1) x1 x2 x3 x4 x5 (x6 + 1) μ12 Q) ∧ (v13 = x4 → B_X6_returns_53 G ρ (d + 1) x1 x2 x3 x4 x6 (x6 + 1) μ12 Q))))))))) : B_X6_returns_53 G ρ (d + 1) x1 x2 x3 x4 x5 x6 μ Q := by
  unfold B_X6_returns_53
  refine am_iload (x := x6) dX6_returns_53 rfl ?_
  refine am_bipush (v := 40) dX6_returns_55 (by decide) ?_
  refine am_icmp_ge (tgt := 97) dX6_returns_57 (by decide) (fun c => ?_) (fun c => ?_)
  · have h := h.1 c
    refine am_aloadr_n (x := some ρ.1) dX6_returns_97 rfl rfl ?_
    refine am_iconst (v := 2) dX6_returns_98 (by decide) ?_
    refine am_iload_n (x := x3) dX6_returns_99 rfl rfl ?_
    refine am_iload (x := x4) dX6_returns_100 rfl ?_
    refine mm_callV (Mc := m_X6_fieldAt) (as := [.int 2, .int x3, .int x4]) rfl bm_X6_fieldAt q2819 q2821 qs120 (Nat.le_of_ble_eq_true rfl) dX6_returns_102 (mt_X6_fieldAt (mm_k2i h (fun v2 μ1 h => ?_)))
    refine am_istore (L' := [(12, .int v2), (0, va_rf (some ρ.1)), (2, .int x1), (4, .int x2), (6, .int x3), (8, .int x4), (10, .int x5)]) dX6_returns_105 (Nat.le_of_ble_eq_true rfl) rfl ?_
    refine am_aloadr_n (x := some ρ.1) dX6_returns_107 rfl rfl ?_
    refine mm_gA (k := 87) rfl isA_87 q2406 dX6_returns_108 ?_
    refine am_iload (x := x4) dX6_returns_111 rfl ?_
    refine am_iload (x := x5) dX6_returns_113 rfl ?_
    refine am_iconst (v := (-1)) dX6_returns_115 (by decide) ?_
    refine am_icmp_eq (tgt := 134) dX6_returns_116 (by decide) (fun c => ?_) (fun c => ?_)
    · have h := h.1 c
      refine am_aloadr_n (x := some ρ.1) dX6_returns_134 rfl rfl ?_
      refine mm_gA (k := 38) rfl isA_38 q2357 dX6_returns_135 ?_
      refine am_bipush (v := 40) dX6_returns_138 (by decide) ?_
      refine am_iload_n (x := x1) dX6_returns_140 rfl rfl ?_
      refine am_imul dX6_returns_141 ?_
      refine am_iload (x := x4) dX6_returns_142 rfl ?_
      refine am_iadd dX6_returns_144 ?_
      refine mm_ldZ (k := 38) isA_38 rfl rfl dX6_returns_145 h.1 ?_
      have h := h.2
      refine am_if_eq (tgt := 164) dX6_returns_146 (by decide) (fun c => ?_) (fun c => ?_)
      · have h := h.1 c
        refine am_aloadr_n (x := some ρ.1) dX6_returns_164 rfl rfl ?_
        refine am_iconst (v := 2) dX6_returns_165 (by decide) ?_
        refine am_iload (x := v2) dX6_returns_166 rfl ?_
        refine am_bipush (v := 14) dX6_returns_168 (by decide) ?_
        refine am_aloadr_n (x := some ρ.1) dX6_returns_170 rfl rfl ?_
        refine am_iconst (v := 2) dX6_returns_171 (by decide) ?_
        refine am_iload (x := v2) dX6_returns_172 rfl ?_
        refine am_iload (x := x4) dX6_returns_174 rfl ?_
        refine mm_callV (Mc := m_X6_field) (as := [.int 2, .int v2, .int x4]) rfl bm_X6_field q2698 q2700 qs96 (Nat.le_of_ble_eq_true rfl) dX6_returns_176 (mt_X6_field (mm_k2i h (fun v4 μ3 h => ?_)))
        refine am_iadd dX6_returns_179 ?_
        refine mm_callV (Mc := m_X6_get) (as := [.int 2, .int v2, .int (14 + v4)]) rfl bm_X6_get q2666 q2668 qs88 (Nat.le_of_ble_eq_true rfl) dX6_returns_180 (mt_X6_get (mm_k2i h (fun v6 μ5 h => ?_)))
        refine mm_stA (k := 87) isA_87 rfl rfl dX6_returns_183 h.1 ?_
        have h := h.2
        generalize eμ7 : mm_sA μ5 87 (Int32.toNatClampNeg x4) v6 = μ7
        have h := h μ7 eμ7.symm
        refine am_iinc (x := x4) (v := (x4 + 1)) (L' := [(8, .int (x4 + 1)), (12, .int v2), (0, va_rf (some ρ.1)), (2, .int x1), (4, .int x2), (6, .int x3), (10, .int x5)]) dX6_returns_184 rfl rfl (Nat.le_of_ble_eq_true rfl) rfl ?_
        refine am_goto (tgt := 3) dX6_returns_187 (by decide) ?_
        exact am_lss h rfl
      · have h := h.2 c
        refine am_aloadr_n (x := some ρ.1) dX6_returns_149 rfl rfl ?_
        refine mm_gA (k := 37) rfl isA_37 q2356 dX6_returns_150 ?_
        refine am_bipush (v := 40) dX6_returns_153 (by decide) ?_
        refine am_iload_n (x := x1) dX6_returns_155 rfl rfl ?_
        refine am_imul dX6_returns_156 ?_
        refine am_iload (x := x4) dX6_returns_157 rfl ?_
        refine am_iadd dX6_returns_159 ?_
        refine mm_ldA (k := 37) isA_37 rfl rfl dX6_returns_160 h.1 ?_
        have h := h.2
        refine am_goto (tgt := 183) dX6_returns_161 (by decide) ?_
        refine mm_stA (k := 87) isA_87 rfl rfl dX6_returns_183 h.1 ?_
        have h := h.2
        generalize eμ8 : mm_sA μ1 87 (Int32.toNatClampNeg x4) (mA μ1 37 (Int32.toNatClampNeg ((40 * x1) + x4))) = μ8
        have h := h μ8 eμ8.symm
        refine am_iinc (x := x4) (v := (x4 + 1)) (L' := [(8, .int (x4 + 1)), (12, .int v2), (0, va_rf (some ρ.1)), (2, .int x1), (4, .int x2), (6, .int x3), (10, .int x5)]) dX6_returns_184 rfl rfl (Nat.le_of_ble_eq_true rfl) rfl ?_
        refine am_goto (tgt := 3) dX6_returns_187 (by decide) ?_
        exact am_lss h rfl
    · have h := h.2 c
      refine am_aloadr_n (x := some ρ.1) dX6_returns_119 rfl rfl ?_
      refine mm_gA (k := 36) rfl isA_36 q2355 dX6_returns_120 ?_
      refine am_bipush (v := 40) dX6_returns_123 (by decide) ?_
      refine am_iload_n (x := x1) dX6_returns_125 rfl rfl ?_
      refine am_imul dX6_returns_126 ?_
      refine am_iload (x := x5) dX6_returns_127 rfl ?_
      refine am_iadd dX6_returns_129 ?_
      refine mm_ldA (k := 36) isA_36 rfl rfl dX6_returns_130 h.1 ?_
      have h := h.2
      refine am_goto (tgt := 183) dX6_returns_131 (by decide) ?_
      refine mm_stA (k := 87) isA_87 rfl rfl dX6_returns_183 h.1 ?_
      have h := h.2
      generalize eμ9 : mm_sA μ1 87 (Int32.toNatClampNeg x4) (mA μ1 36 (Int32.toNatClampNeg ((40 * x1) + x5))) = μ9
      have h := h μ9 eμ9.symm
      refine am_iinc (x := x4) (v := (x4 + 1)) (L' := [(8, .int (x4 + 1)), (12, .int v2), (0, va_rf (some ρ.1)), (2, .int x1), (4, .int x2), (6, .int x3), (10, .int x5)]) dX6_returns_184 rfl rfl (Nat.le_of_ble_eq_true rfl) rfl ?_
      refine am_goto (tgt := 3) dX6_returns_187 (by decide) ?_
      exact am_lss h rfl
  · have h := h.2 c
    refine am_aloadr_n (x := some ρ.1) dX6_returns_60 rfl rfl ?_
    refine am_iconst (v := 0) dX6_returns_61 (by decide) ?_
    refine am_iload_n (x := x2) dX6_returns_62 rfl rfl ?_
    refine am_iload (x := x6) dX6_returns_63 rfl ?_
    refine mm_callV (Mc := m_X6_fieldAt) (as := [.int 0, .int x2, .int x6]) rfl bm_X6_fieldAt q2819 q2821 qs120 (Nat.le_of_ble_eq_true rfl) dX6_returns_65 (mt_X6_fieldAt (mm_k2i h (fun v11 μ10 h => ?_)))
    refine am_iconst (v := (-1)) dX6_returns_68 (by decide) ?_
    refine am_icmp_eq (tgt := 91) dX6_returns_69 (by decide) (fun c => ?_) (fun c => ?_)
    · have h := h.1 c
      refine am_iinc (x := x6) (v := (x6 + 1)) (L' := [(12, .int (x6 + 1)), (0, va_rf (some ρ.1)), (2, .int x1), (4, .int x2), (6, .int x3), (8, .int x4), (10, .int x5)]) dX6_returns_91 rfl rfl (Nat.le_of_ble_eq_true rfl) rfl ?_
      refine am_goto (tgt := 53) dX6_returns_94 (by decide) ?_
      exact am_lss h rfl
    · have h := h.2 c
      refine am_aloadr_n (x := some ρ.1) dX6_returns_72 rfl rfl ?_
      refine am_iconst (v := 2) dX6_returns_73 (by decide) ?_
      refine am_iload_n (x := x3) dX6_returns_74 rfl rfl ?_
      refine am_iconst (v := 0) dX6_returns_75 (by decide) ?_
      refine am_iload_n (x := x2) dX6_returns_76 rfl rfl ?_
      refine am_iload (x := x6) dX6_returns_77 rfl ?_
      refine mm_callV (Mc := m_X6_source) (as := [.int 2, .int x3, .int 0, .int x2, .int x6]) rfl bm_X6_source q3018 q3020 qs155 (Nat.le_of_ble_eq_true rfl) dX6_returns_79 (mt_X6_source (mm_k2i h (fun v13 μ12 h => ?_)))
      refine am_iload (x := x4) dX6_returns_82 rfl ?_
      refine am_icmp_ne (tgt := 91) dX6_returns_84 (by decide) (fun c => ?_) (fun c => ?_)
      · have h := h.1 c
        refine am_iinc (x := x6) (v := (x6 + 1)) (L' := [(12, .int (x6 + 1)), (0, va_rf (some ρ.1)), (2, .int x1), (4, .int x2), (6, .int x3), (8, .int x4), (10, .int x5)]) dX6_returns_91 rfl rfl (Nat.le_of_ble_eq_true rfl) rfl ?_
        refine am_goto (tgt := 53) dX6_returns_94 (by decide) ?_
        exact am_lss h rfl
      · have h := h.2 c
        refine am_iload (x := x6) dX6_returns_87 rfl ?_
        refine am_istore (L' := [(10, .int x6), (0, va_rf (some ρ.1)), (2, .int x1), (4, .int x2), (6, .int x3), (8, .int x4), (12, .int x6)]) dX6_returns_89 (Nat.le_of_ble_eq_true rfl) rfl ?_
        refine am_iinc (x := x6) (v := (x6 + 1)) (L' := [(12, .int (x6 + 1)), (10, .int x6), (0, va_rf (some ρ.1)), (2, .int x1), (4, .int x2), (6, .int x3), (8, .int x4)]) dX6_returns_91 rfl rfl (Nat.le_of_ble_eq_true rfl) rfl ?_
        refine am_goto (tgt := 53) dX6_returns_94 (by decide) ?_
        exact am_lss h rfl
theorem B_X6_returns_193_f {G : am_G} {ρ : mm_F} {d : Nat} {x1 : Int32} {x4 : Int32} {μ : mm_S} {Q : mm_S → Prop} (h : ((40 ≤ x4 → Q μ) ∧ (¬ 40 ≤ x4 → (vp_in x4 1600 ∧ (((mA μ 89 (Int32.toNatClampNeg x4)) = 0 → B_X6_returns_193 G ρ (d + 1) x1 (x4 + 1) μ Q) ∧ (¬ (mA μ 89 (Int32.toNatClampNeg x4)) = 0 → (vp_in x4 1600 ∧ (vp_in ((40 * x1) + x4) 1600 ∧ ∀ μ1 : mm_S, μ1 = mm_sA μ 36 (Int32.toNatClampNeg ((40 * x1) + x4)) (mA μ 87 (Int32.toNatClampNeg x4)) → (B_X6_returns_193 G ρ (d + 1) x1 (x4 + 1) μ1 Q))))))))) : B_X6_returns_193 G ρ (d + 1) x1 x4 μ Q := by
  unfold B_X6_returns_193
  refine am_iload (x := x4) dX6_returns_193 rfl ?_
  refine am_bipush (v := 40) dX6_returns_195 (by decide) ?_
  refine am_icmp_ge (tgt := 235) dX6_returns_197 (by decide) (fun c => ?_) (fun c => ?_)
  · have h := h.1 c
    exact am_vret rfl dX6_returns_235 ⟨_, rfl, rfl, h⟩
  · have h := h.2 c
    refine am_aloadr_n (x := some ρ.1) dX6_returns_200 rfl rfl ?_
    refine mm_gA (k := 89) rfl isA_89 q2408 dX6_returns_201 ?_
    refine am_iload (x := x4) dX6_returns_204 rfl ?_
    refine mm_ldZ (k := 89) isA_89 rfl rfl dX6_returns_206 h.1 ?_
    have h := h.2
    refine am_if_eq (tgt := 229) dX6_returns_207 (by decide) (fun c => ?_) (fun c => ?_)
    · have h := h.1 c
      refine am_iinc (x := x4) (v := (x4 + 1)) (L' := [(8, .int (x4 + 1)), (0, va_rf (some ρ.1)), (2, .int x1)]) dX6_returns_229 rfl rfl (Nat.le_of_ble_eq_true rfl) rfl ?_
      refine am_goto (tgt := 193) dX6_returns_232 (by decide) ?_
      exact am_lss h rfl
    · have h := h.2 c
      refine am_aloadr_n (x := some ρ.1) dX6_returns_210 rfl rfl ?_
      refine mm_gA (k := 36) rfl isA_36 q2355 dX6_returns_211 ?_
      refine am_bipush (v := 40) dX6_returns_214 (by decide) ?_
      refine am_iload_n (x := x1) dX6_returns_216 rfl rfl ?_
      refine am_imul dX6_returns_217 ?_
      refine am_iload (x := x4) dX6_returns_218 rfl ?_
      refine am_iadd dX6_returns_220 ?_
      refine am_aloadr_n (x := some ρ.1) dX6_returns_221 rfl rfl ?_
      refine mm_gA (k := 87) rfl isA_87 q2406 dX6_returns_222 ?_
      refine am_iload (x := x4) dX6_returns_225 rfl ?_
      refine mm_ldA (k := 87) isA_87 rfl rfl dX6_returns_227 h.1 ?_
      have h := h.2
      refine mm_stA (k := 36) isA_36 rfl rfl dX6_returns_228 h.1 ?_
      have h := h.2
      generalize eμ1 : mm_sA μ 36 (Int32.toNatClampNeg ((40 * x1) + x4)) (mA μ 87 (Int32.toNatClampNeg x4)) = μ1
      have h := h μ1 eμ1.symm
      refine am_iinc (x := x4) (v := (x4 + 1)) (L' := [(8, .int (x4 + 1)), (0, va_rf (some ρ.1)), (2, .int x1)]) dX6_returns_229 rfl rfl (Nat.le_of_ble_eq_true rfl) rfl ?_
      refine am_goto (tgt := 193) dX6_returns_232 (by decide) ?_
      exact am_lss h rfl
