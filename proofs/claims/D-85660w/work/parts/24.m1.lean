set_option maxRecDepth 100000
/-! ===== the model: what its blocks do (printed by tools/gen.py) ===== -/
theorem B_X6_several_48_f {G : am_G} {ρ : mm_F} {d : Nat} {x1 : Int32} {x2 : Int32} {x3 : Int32} {μ : mm_S} {Q : Int32 → mm_S → Prop} (h : ((¬ x2 = (-1) → W_X6_link G ρ d x3 (mI μ 22) μ (fun μ1 => B_X6_several_15 G ρ (d + 1) x1 x2 (mI μ1 22) μ1 Q)) ∧ (x2 = (-1) → B_X6_several_15 G ρ (d + 1) x1 (mI μ 22) (mI μ 22) μ Q))) : B_X6_several_48 G ρ (d + 1) x1 x2 x3 μ Q := by
  unfold B_X6_several_48
  refine am_iload_n (x := x2) dX6_several_48 rfl rfl ?_
  refine am_iconst (v := (-1)) dX6_several_49 (by decide) ?_
  refine am_icmp_ne (tgt := 61) dX6_several_50 (by decide) (fun c => ?_) (fun c => ?_)
  · have h := h.1 c
    refine am_aloadr_n (x := some ρ.1) dX6_several_61 rfl rfl ?_
    refine am_iload_n (x := x3) dX6_several_62 rfl rfl ?_
    refine am_aloadr_n (x := some ρ.1) dX6_several_63 rfl rfl ?_
    refine mm_gI (k := 22) rfl (Or.inl rfl) (by decide) q2341 dX6_several_64 ?_
    refine mm_callV (Mc := m_X6_link) (as := [.int x3, .int (mI μ 22)]) rfl bm_X6_link q2746 q2748 qs108 (Nat.le_of_ble_eq_true rfl) dX6_several_67 (mt_X6_link (mm_k2v h (fun μ1 h => ?_)))
    refine am_aloadr_n (x := some ρ.1) dX6_several_70 rfl rfl ?_
    refine mm_gI (k := 22) rfl (Or.inl rfl) (by decide) q2341 dX6_several_71 ?_
    refine am_istore_n (L' := [(6, .int (mI μ1 22)), (0, va_rf (some ρ.1)), (2, .int x1), (4, .int x2)]) dX6_several_74 rfl (Nat.le_of_ble_eq_true rfl) rfl ?_
    refine am_goto (tgt := 15) dX6_several_75 (by decide) ?_
    exact am_lss h rfl
  · have h := h.2 c
    refine am_aloadr_n (x := some ρ.1) dX6_several_53 rfl rfl ?_
    refine mm_gI (k := 22) rfl (Or.inl rfl) (by decide) q2341 dX6_several_54 ?_
    refine am_istore_n (L' := [(4, .int (mI μ 22)), (0, va_rf (some ρ.1)), (2, .int x1), (6, .int x3)]) dX6_several_57 rfl (Nat.le_of_ble_eq_true rfl) rfl ?_
    refine am_goto (tgt := 70) dX6_several_58 (by decide) ?_
    refine am_aloadr_n (x := some ρ.1) dX6_several_70 rfl rfl ?_
    refine mm_gI (k := 22) rfl (Or.inl rfl) (by decide) q2341 dX6_several_71 ?_
    refine am_istore_n (L' := [(6, .int (mI μ 22)), (4, .int (mI μ 22)), (0, va_rf (some ρ.1)), (2, .int x1)]) dX6_several_74 rfl (Nat.le_of_ble_eq_true rfl) rfl ?_
    refine am_goto (tgt := 15) dX6_several_75 (by decide) ?_
    exact am_lss h rfl
theorem W_X6_editOf_f {G : am_G} {ρ : mm_F} {d : Nat}  {μ : mm_S} {Q : Int32 → mm_S → Prop} (h : ((¬ (mI μ 3) = 117 → ((¬ (mI μ 3) = 119 → (((mI μ 3) = 120 → W_X6_look0 G ρ d μ (fun μ1 => W_X6_named G ρ d μ1 (fun v3 μ2 => ((¬ v3 = 0 → (∀ μ4 : mm_S, μ4 = mm_sI μ2 18 0 → (W_X6_expression G ρ d μ4 (fun v6 μ5 => ((¬ v6 = 0 → W_X6_node G ρ d 35 (mI μ2 17) (mI μ5 19) 0 μ5 (fun v8 μ7 => (∀ μ9 : mm_S, μ9 = mm_sI μ7 22 v8 → (W_X6_need G ρ d 59 μ9 (fun v11 μ10 => (narrow .boolean (.int v11) = .int v11 ∧ Q v11 μ10)))))) ∧ (v6 = 0 → Q 0 μ5)))))) ∧ (v3 = 0 → Q 0 μ2))))) ∧ (¬ (mI μ 3) = 120 → W_X6_member G ρ d (-1) μ (fun v13 μ12 => (narrow .boolean (.int v13) = .int v13 ∧ Q v13 μ12))))) ∧ ((mI μ 3) = 119 → W_X6_look0 G ρ d μ (fun μ14 => W_X6_named G ρ d μ14 (fun v16 μ15 => ((¬ v16 = 0 → W_X6_named G ρ d μ15 (fun v18 μ17 => ((¬ v18 = 0 → W_X6_node G ρ d 34 (mI μ15 17) (mI μ17 17) 0 μ17 (fun v20 μ19 => (∀ μ21 : mm_S, μ21 = mm_sI μ19 22 v20 → (W_X6_need G ρ d 59 μ21 (fun v23 μ22 => (narrow .boolean (.int v23) = .int v23 ∧ Q v23 μ22)))))) ∧ (v18 = 0 → Q 0 μ17)))) ∧ (v16 = 0 → Q 0 μ15))))))) ∧ ((mI μ 3) = 117 → W_X6_look0 G ρ d μ (fun μ24 => W_X6_named G ρ d μ24 (fun v26 μ25 => ((¬ v26 = 0 → W_X6_node G ρ d 33 (mI μ25 17) 0 0 μ25 (fun v28 μ27 => (∀ μ29 : mm_S, μ29 = mm_sI μ27 22 v28 → (W_X6_need G ρ d 59 μ29 (fun v31 μ30 => (narrow .boolean (.int v31) = .int v31 ∧ Q v31 μ30)))))) ∧ (v26 = 0 → Q 0 μ25))))))) : W_X6_editOf G ρ (d + 1)  μ Q := by
  unfold W_X6_editOf
  refine am_aloadr_n (x := some ρ.1) dX6_editOf_0 rfl rfl ?_
  refine mm_gI (k := 3) rfl (Or.inl rfl) (by decide) q2322 dX6_editOf_1 ?_
  refine am_bipush (v := 117) dX6_editOf_4 (by decide) ?_
  refine am_icmp_ne (tgt := 45) dX6_editOf_6 (by decide) (fun c => ?_) (fun c => ?_)
  · have h := h.1 c
    refine am_aloadr_n (x := some ρ.1) dX6_editOf_45 rfl rfl ?_
    refine mm_gI (k := 3) rfl (Or.inl rfl) (by decide) q2322 dX6_editOf_46 ?_
    refine am_bipush (v := 119) dX6_editOf_49 (by decide) ?_
    refine am_icmp_ne (tgt := 104) dX6_editOf_51 (by decide) (fun c => ?_) (fun c => ?_)
    · have h := h.1 c
      refine am_aloadr_n (x := some ρ.1) dX6_editOf_104 rfl rfl ?_
      refine mm_gI (k := 3) rfl (Or.inl rfl) (by decide) q2322 dX6_editOf_105 ?_
      refine am_bipush (v := 120) dX6_editOf_108 (by decide) ?_
      refine am_icmp_eq (tgt := 119) dX6_editOf_110 (by decide) (fun c => ?_) (fun c => ?_)
      · have h := h.1 c
        refine am_aloadr_n (x := some ρ.1) dX6_editOf_119 rfl rfl ?_
        refine mm_callV (Mc := m_X6_look0) (as := []) rfl bm_X6_look0 q2625 q2627 qs80 (Nat.le_of_ble_eq_true rfl) dX6_editOf_120 (mt_X6_look0 (mm_k2v h (fun μ1 h => ?_)))
        refine am_aloadr_n (x := some ρ.1) dX6_editOf_123 rfl rfl ?_
        refine mm_callV (Mc := m_X6_named) (as := []) rfl bm_X6_named q2654 q2656 qs85 (Nat.le_of_ble_eq_true rfl) dX6_editOf_124 (mt_X6_named (mm_k2i h (fun v3 μ2 h => ?_)))
        refine am_if_ne (tgt := 132) dX6_editOf_127 (by decide) (fun c => ?_) (fun c => ?_)
        · have h := h.1 c
          refine am_aloadr_n (x := some ρ.1) dX6_editOf_132 rfl rfl ?_
          refine mm_gI (k := 17) rfl (Or.inl rfl) (by decide) q2336 dX6_editOf_133 ?_
          refine am_istore_n (L' := [(2, .int (mI μ2 17)), (0, va_rf (some ρ.1))]) dX6_editOf_136 rfl (Nat.le_of_ble_eq_true rfl) rfl ?_
          refine am_aloadr_n (x := some ρ.1) dX6_editOf_137 rfl rfl ?_
          refine am_iconst (v := 0) dX6_editOf_138 (by decide) ?_
          refine mm_pI (k := 18) rfl rfl rfl (by decide) q2337 rfl dX6_editOf_139 ?_
          generalize eμ4 : mm_sI μ2 18 0 = μ4
          have h := h μ4 eμ4.symm
          refine am_aloadr_n (x := some ρ.1) dX6_editOf_142 rfl rfl ?_
          refine mm_callV (Mc := m_X6_expression) (as := []) rfl bm_X6_expression q2726 q2728 qs103 (Nat.le_of_ble_eq_true rfl) dX6_editOf_143 (mt_X6_expression (mm_k2i h (fun v6 μ5 h => ?_)))
          refine am_if_ne (tgt := 151) dX6_editOf_146 (by decide) (fun c => ?_) (fun c => ?_)
          · have h := h.1 c
            refine am_aloadr_n (x := some ρ.1) dX6_editOf_151 rfl rfl ?_
            refine am_aloadr_n (x := some ρ.1) dX6_editOf_152 rfl rfl ?_
            refine am_bipush (v := 35) dX6_editOf_153 (by decide) ?_
            refine am_iload_n (x := (mI μ2 17)) dX6_editOf_155 rfl rfl ?_
            refine am_aloadr_n (x := some ρ.1) dX6_editOf_156 rfl rfl ?_
            refine mm_gI (k := 19) rfl (Or.inl rfl) (by decide) q2338 dX6_editOf_157 ?_
            refine am_iconst (v := 0) dX6_editOf_160 (by decide) ?_
            refine mm_callV (Mc := m_X6_node) (as := [.int 35, .int (mI μ2 17), .int (mI μ5 19), .int 0]) rfl bm_X6_node q2742 q2744 qs107 (Nat.le_of_ble_eq_true rfl) dX6_editOf_161 (mt_X6_node (mm_k2i h (fun v8 μ7 h => ?_)))
            refine mm_pI (k := 22) rfl rfl rfl (by decide) q2341 rfl dX6_editOf_164 ?_
            generalize eμ9 : mm_sI μ7 22 v8 = μ9
            have h := h μ9 eμ9.symm
            refine am_aloadr_n (x := some ρ.1) dX6_editOf_167 rfl rfl ?_
            refine am_bipush (v := 59) dX6_editOf_168 (by decide) ?_
            refine mm_callV (Mc := m_X6_need) (as := [.int 59]) rfl bm_X6_need q2678 q2680 qs91 (Nat.le_of_ble_eq_true rfl) dX6_editOf_170 (mt_X6_need (mm_k2i h (fun v11 μ10 h => ?_)))
            exact am_zret rfl h.1 dX6_editOf_173 ⟨_, _, rfl, rfl, h.2⟩
          · have h := h.2 c
            refine am_iconst (v := 0) dX6_editOf_149 (by decide) ?_
            exact am_zret rfl rfl dX6_editOf_150 ⟨_, _, rfl, rfl, h⟩
        · have h := h.2 c
          refine am_iconst (v := 0) dX6_editOf_130 (by decide) ?_
          exact am_zret rfl rfl dX6_editOf_131 ⟨_, _, rfl, rfl, h⟩
      · have h := h.2 c
        refine am_aloadr_n (x := some ρ.1) dX6_editOf_113 rfl rfl ?_
        refine am_iconst (v := (-1)) dX6_editOf_114 (by decide) ?_
        refine mm_callV (Mc := m_X6_member) (as := [.int (-1)]) rfl bm_X6_member q2686 q2688 qs93 (Nat.le_of_ble_eq_true rfl) dX6_editOf_115 (mt_X6_member (mm_k2i h (fun v13 μ12 h => ?_)))
        exact am_zret rfl h.1 dX6_editOf_118 ⟨_, _, rfl, rfl, h.2⟩
    · have h := h.2 c
      refine am_aloadr_n (x := some ρ.1) dX6_editOf_54 rfl rfl ?_
      refine mm_callV (Mc := m_X6_look0) (as := []) rfl bm_X6_look0 q2625 q2627 qs80 (Nat.le_of_ble_eq_true rfl) dX6_editOf_55 (mt_X6_look0 (mm_k2v h (fun μ14 h => ?_)))
      refine am_aloadr_n (x := some ρ.1) dX6_editOf_58 rfl rfl ?_
      refine mm_callV (Mc := m_X6_named) (as := []) rfl bm_X6_named q2654 q2656 qs85 (Nat.le_of_ble_eq_true rfl) dX6_editOf_59 (mt_X6_named (mm_k2i h (fun v16 μ15 h => ?_)))
      refine am_if_ne (tgt := 67) dX6_editOf_62 (by decide) (fun c => ?_) (fun c => ?_)
      · have h := h.1 c
        refine am_aloadr_n (x := some ρ.1) dX6_editOf_67 rfl rfl ?_
        refine mm_gI (k := 17) rfl (Or.inl rfl) (by decide) q2336 dX6_editOf_68 ?_
        refine am_istore_n (L' := [(2, .int (mI μ15 17)), (0, va_rf (some ρ.1))]) dX6_editOf_71 rfl (Nat.le_of_ble_eq_true rfl) rfl ?_
        refine am_aloadr_n (x := some ρ.1) dX6_editOf_72 rfl rfl ?_
        refine mm_callV (Mc := m_X6_named) (as := []) rfl bm_X6_named q2654 q2656 qs85 (Nat.le_of_ble_eq_true rfl) dX6_editOf_73 (mt_X6_named (mm_k2i h (fun v18 μ17 h => ?_)))
        refine am_if_ne (tgt := 81) dX6_editOf_76 (by decide) (fun c => ?_) (fun c => ?_)
        · have h := h.1 c
          refine am_aloadr_n (x := some ρ.1) dX6_editOf_81 rfl rfl ?_
          refine am_aloadr_n (x := some ρ.1) dX6_editOf_82 rfl rfl ?_
          refine am_bipush (v := 34) dX6_editOf_83 (by decide) ?_
          refine am_iload_n (x := (mI μ15 17)) dX6_editOf_85 rfl rfl ?_
          refine am_aloadr_n (x := some ρ.1) dX6_editOf_86 rfl rfl ?_
          refine mm_gI (k := 17) rfl (Or.inl rfl) (by decide) q2336 dX6_editOf_87 ?_
          refine am_iconst (v := 0) dX6_editOf_90 (by decide) ?_
          refine mm_callV (Mc := m_X6_node) (as := [.int 34, .int (mI μ15 17), .int (mI μ17 17), .int 0]) rfl bm_X6_node q2742 q2744 qs107 (Nat.le_of_ble_eq_true rfl) dX6_editOf_91 (mt_X6_node (mm_k2i h (fun v20 μ19 h => ?_)))
          refine mm_pI (k := 22) rfl rfl rfl (by decide) q2341 rfl dX6_editOf_94 ?_
          generalize eμ21 : mm_sI μ19 22 v20 = μ21
          have h := h μ21 eμ21.symm
          refine am_aloadr_n (x := some ρ.1) dX6_editOf_97 rfl rfl ?_
          refine am_bipush (v := 59) dX6_editOf_98 (by decide) ?_
          refine mm_callV (Mc := m_X6_need) (as := [.int 59]) rfl bm_X6_need q2678 q2680 qs91 (Nat.le_of_ble_eq_true rfl) dX6_editOf_100 (mt_X6_need (mm_k2i h (fun v23 μ22 h => ?_)))
          exact am_zret rfl h.1 dX6_editOf_103 ⟨_, _, rfl, rfl, h.2⟩
        · have h := h.2 c
          refine am_iconst (v := 0) dX6_editOf_79 (by decide) ?_
          exact am_zret rfl rfl dX6_editOf_80 ⟨_, _, rfl, rfl, h⟩
      · have h := h.2 c
        refine am_iconst (v := 0) dX6_editOf_65 (by decide) ?_
        exact am_zret rfl rfl dX6_editOf_66 ⟨_, _, rfl, rfl, h⟩
  · have h := h.2 c
    refine am_aloadr_n (x := some ρ.1) dX6_editOf_9 rfl rfl ?_
    refine mm_callV (Mc := m_X6_look0) (as := []) rfl bm_X6_look0 q2625 q2627 qs80 (Nat.le_of_ble_eq_true rfl) dX6_editOf_10 (mt_X6_look0 (mm_k2v h (fun μ24 h => ?_)))
    refine am_aloadr_n (x := some ρ.1) dX6_editOf_13 rfl rfl ?_
    refine mm_callV (Mc := m_X6_named) (as := []) rfl bm_X6_named q2654 q2656 qs85 (Nat.le_of_ble_eq_true rfl) dX6_editOf_14 (mt_X6_named (mm_k2i h (fun v26 μ25 h => ?_)))
    refine am_if_ne (tgt := 22) dX6_editOf_17 (by decide) (fun c => ?_) (fun c => ?_)
    · have h := h.1 c
      refine am_aloadr_n (x := some ρ.1) dX6_editOf_22 rfl rfl ?_
      refine am_aloadr_n (x := some ρ.1) dX6_editOf_23 rfl rfl ?_
      refine am_bipush (v := 33) dX6_editOf_24 (by decide) ?_
      refine am_aloadr_n (x := some ρ.1) dX6_editOf_26 rfl rfl ?_
      refine mm_gI (k := 17) rfl (Or.inl rfl) (by decide) q2336 dX6_editOf_27 ?_
      refine am_iconst (v := 0) dX6_editOf_30 (by decide) ?_
      refine am_iconst (v := 0) dX6_editOf_31 (by decide) ?_
      refine mm_callV (Mc := m_X6_node) (as := [.int 33, .int (mI μ25 17), .int 0, .int 0]) rfl bm_X6_node q2742 q2744 qs107 (Nat.le_of_ble_eq_true rfl) dX6_editOf_32 (mt_X6_node (mm_k2i h (fun v28 μ27 h => ?_)))
      refine mm_pI (k := 22) rfl rfl rfl (by decide) q2341 rfl dX6_editOf_35 ?_
      generalize eμ29 : mm_sI μ27 22 v28 = μ29
      have h := h μ29 eμ29.symm
      refine am_aloadr_n (x := some ρ.1) dX6_editOf_38 rfl rfl ?_
      refine am_bipush (v := 59) dX6_editOf_39 (by decide) ?_
      refine mm_callV (Mc := m_X6_need) (as := [.int 59]) rfl bm_X6_need q2678 q2680 qs91 (Nat.le_of_ble_eq_true rfl) dX6_editOf_41 (mt_X6_need (mm_k2i h (fun v31 μ30 h => ?_)))
      exact am_zret rfl h.1 dX6_editOf_44 ⟨_, _, rfl, rfl, h.2⟩
    · have h := h.2 c
      refine am_iconst (v := 0) dX6_editOf_20 (by decide) ?_
      exact am_zret rfl rfl dX6_editOf_21 ⟨_, _, rfl, rfl, h⟩
theorem W_X6_fault_f {G : am_G} {ρ : mm_F} {d : Nat} {a1 : Int32} {μ : mm_S} {Q : Int32 → mm_S → Prop} (h : ((¬ a1 = 0 → ((¬ a1 = 1 → Q (-1) μ) ∧ (a1 = 1 → Q (mI μ 14) μ))) ∧ (a1 = 0 → Q (mI μ 13) μ))) : W_X6_fault G ρ d a1 μ Q := by
  unfold W_X6_fault
  refine am_iload_n (x := a1) dX6_fault_0 rfl rfl ?_
  refine am_if_ne (tgt := 11) dX6_fault_1 (by decide) (fun c => ?_) (fun c => ?_)
  · have h := h.1 c
    refine am_iload_n (x := a1) dX6_fault_11 rfl rfl ?_
    refine am_iconst (v := 1) dX6_fault_12 (by decide) ?_
    refine am_icmp_ne (tgt := 23) dX6_fault_13 (by decide) (fun c => ?_) (fun c => ?_)
    · have h := h.1 c
      refine am_iconst (v := (-1)) dX6_fault_23 (by decide) ?_
      exact am_iret rfl dX6_fault_24 ⟨_, _, rfl, rfl, h⟩
    · have h := h.2 c
      refine am_aloadr_n (x := some ρ.1) dX6_fault_16 rfl rfl ?_
      refine mm_gI (k := 14) rfl (Or.inl rfl) (by decide) q2333 dX6_fault_17 ?_
      refine am_goto (tgt := 24) dX6_fault_20 (by decide) ?_
      exact am_iret rfl dX6_fault_24 ⟨_, _, rfl, rfl, h⟩
  · have h := h.2 c
    refine am_aloadr_n (x := some ρ.1) dX6_fault_4 rfl rfl ?_
    refine mm_gI (k := 13) rfl (Or.inl rfl) (by decide) q2332 dX6_fault_5 ?_
    refine am_goto (tgt := 24) dX6_fault_8 (by decide) ?_
    exact am_iret rfl dX6_fault_24 ⟨_, _, rfl, rfl, h⟩
theorem W_X6_feed_f {G : am_G} {ρ : mm_F} {d : Nat} {a1 : Int32} {a2 : Int32} {a3 : Int32} {a4 : Int32} {a5 : Int32} {μ : mm_S} {Q : Int32 → mm_S → Prop} (h : ((((mI μ 1) + 20) ≤ 1000 → B_X6_feed_18 G ρ d a1 a2 a3 a4 a5 0 μ Q) ∧ (¬ ((mI μ 1) + 20) ≤ 1000 → Q (-1) μ))) : W_X6_feed G ρ d a1 a2 a3 a4 a5 μ Q := by
  unfold W_X6_feed
  refine am_aloadr_n (x := some ρ.1) dX6_feed_0 rfl rfl ?_
  refine mm_gI (k := 1) rfl (Or.inl rfl) (by decide) q2320 dX6_feed_1 ?_
  refine am_bipush (v := 20) dX6_feed_4 (by decide) ?_
  refine am_iadd dX6_feed_6 ?_
  refine am_sipush (v := 1000) dX6_feed_7 (by decide) ?_
  refine am_icmp_le (tgt := 15) dX6_feed_10 (by decide) (fun c => ?_) (fun c => ?_)
  · have h := h.1 c
    refine am_iconst (v := 0) dX6_feed_15 (by decide) ?_
    refine am_istore (L' := [(12, .int 0), (0, va_rf (some ρ.1)), (2, .int a1), (4, .int a2), (6, .int a3), (8, .int a4), (10, .int a5)]) dX6_feed_16 (Nat.le_of_ble_eq_true rfl) rfl ?_
    exact am_lss h rfl
  · have h := h.2 c
    refine am_iconst (v := (-1)) dX6_feed_13 (by decide) ?_
    exact am_iret rfl dX6_feed_14 ⟨_, _, rfl, rfl, h⟩
theorem B_X6_feed_18_f {G : am_G} {ρ : mm_F} {d : Nat} {x1 : Int32} {x2 : Int32} {x3 : Int32} {x4 : Int32} {x5 : Int32} {x6 : Int32} {μ : mm_S} {Q : Int32 → mm_S → Prop} (h : ((20 ≤ x6 → Q (mI μ 1) μ) ∧ (¬ 20 ≤ x6 → ((4 ≤ x6 → ((8 ≤ x6 → ((12 ≤ x6 → ((16 ≤ x6 → B_X6_feed_71 G ρ d x1 x2 x3 x4 x5 x6 x5 μ Q) ∧ (¬ 16 ≤ x6 → B_X6_feed_71 G ρ d x1 x2 x3 x4 x5 x6 x4 μ Q))) ∧ (¬ 12 ≤ x6 → B_X6_feed_71 G ρ d x1 x2 x3 x4 x5 x6 x3 μ Q))) ∧ (¬ 8 ≤ x6 → B_X6_feed_71 G ρ d x1 x2 x3 x4 x5 x6 x2 μ Q))) ∧ (¬ 4 ≤ x6 → B_X6_feed_71 G ρ d x1 x2 x3 x4 x5 x6 x1 μ Q))))) : B_X6_feed_18 G ρ d x1 x2 x3 x4 x5 x6 μ Q := by
  unfold B_X6_feed_18
  refine am_iload (x := x6) dX6_feed_18 rfl ?_
  refine am_bipush (v := 20) dX6_feed_20 (by decide) ?_
  refine am_icmp_ge (tgt := 115) dX6_feed_22 (by decide) (fun c => ?_) (fun c => ?_)
  · have h := h.1 c
    refine am_aloadr_n (x := some ρ.1) dX6_feed_115 rfl rfl ?_
    refine mm_gI (k := 1) rfl (Or.inl rfl) (by decide) q2320 dX6_feed_116 ?_
    exact am_iret rfl dX6_feed_119 ⟨_, _, rfl, rfl, h⟩
  · have h := h.2 c
    refine am_iload (x := x6) dX6_feed_25 rfl ?_
    refine am_iconst (v := 4) dX6_feed_27 (by decide) ?_
    refine am_icmp_ge (tgt := 35) dX6_feed_28 (by decide) (fun c => ?_) (fun c => ?_)
    · have h := h.1 c
      refine am_iload (x := x6) dX6_feed_35 rfl ?_
      refine am_bipush (v := 8) dX6_feed_37 (by decide) ?_
      refine am_icmp_ge (tgt := 46) dX6_feed_39 (by decide) (fun c => ?_) (fun c => ?_)
      · have h := h.1 c
        refine am_iload (x := x6) dX6_feed_46 rfl ?_
        refine am_bipush (v := 12) dX6_feed_48 (by decide) ?_
        refine am_icmp_ge (tgt := 57) dX6_feed_50 (by decide) (fun c => ?_) (fun c => ?_)
        · have h := h.1 c
          refine am_iload (x := x6) dX6_feed_57 rfl ?_
          refine am_bipush (v := 16) dX6_feed_59 (by decide) ?_
          refine am_icmp_ge (tgt := 69) dX6_feed_61 (by decide) (fun c => ?_) (fun c => ?_)
          · have h := h.1 c
            refine am_iload (x := x5) dX6_feed_69 rfl ?_
            exact am_lss h rfl
          · have h := h.2 c
            refine am_iload (x := x4) dX6_feed_64 rfl ?_
            refine am_goto (tgt := 71) dX6_feed_66 (by decide) ?_
            exact am_lss h rfl
        · have h := h.2 c
          refine am_iload_n (x := x3) dX6_feed_53 rfl rfl ?_
          refine am_goto (tgt := 71) dX6_feed_54 (by decide) ?_
          exact am_lss h rfl
      · have h := h.2 c
        refine am_iload_n (x := x2) dX6_feed_42 rfl rfl ?_
        refine am_goto (tgt := 71) dX6_feed_43 (by decide) ?_
        exact am_lss h rfl
    · have h := h.2 c
      refine am_iload_n (x := x1) dX6_feed_31 rfl rfl ?_
      refine am_goto (tgt := 71) dX6_feed_32 (by decide) ?_
      exact am_lss h rfl
theorem B_X6_feed_71_f {G : am_G} {ρ : mm_F} {d : Nat} {x1 : Int32} {x2 : Int32} {x3 : Int32} {x4 : Int32} {x5 : Int32} {x6 : Int32} {s0 : Int32} {μ : mm_S} {Q : Int32 → mm_S → Prop} (h : (vp_in (mI μ 1) 1000 ∧ ∀ μ1 : mm_S, μ1 = mm_sA μ 0 (Int32.toNatClampNeg (mI μ 1)) ((s0 >>> ((24 - (8 * (x6 - x6 / 4 * 4))) &&& 31)) &&& 255) → ((∀ μ2 : mm_S, μ2 = mm_sI μ1 1 ((mI μ1 1) + 1) → (B_X6_feed_18 G ρ d x1 x2 x3 x4 x5 (x6 + 1) μ2 Q))))) : B_X6_feed_71 G ρ d x1 x2 x3 x4 x5 x6 s0 μ Q := by
  unfold B_X6_feed_71
  refine am_istore (L' := [(14, .int s0), (0, va_rf (some ρ.1)), (2, .int x1), (4, .int x2), (6, .int x3), (8, .int x4), (10, .int x5), (12, .int x6)]) dX6_feed_71 (Nat.le_of_ble_eq_true rfl) rfl ?_
  refine am_aloadr_n (x := some ρ.1) dX6_feed_73 rfl rfl ?_
  refine mm_gA (k := 0) rfl isA_0 q2319 dX6_feed_74 ?_
  refine am_aloadr_n (x := some ρ.1) dX6_feed_77 rfl rfl ?_
  refine mm_gI (k := 1) rfl (Or.inl rfl) (by decide) q2320 dX6_feed_78 ?_
  refine am_iload (x := s0) dX6_feed_81 rfl ?_
  refine am_bipush (v := 24) dX6_feed_83 (by decide) ?_
  refine am_bipush (v := 8) dX6_feed_85 (by decide) ?_
  refine am_iload (x := x6) dX6_feed_87 rfl ?_
  refine am_iconst (v := 4) dX6_feed_89 (by decide) ?_
  refine am_irem dX6_feed_90 (by decide) ?_
  refine am_imul dX6_feed_91 ?_
  refine am_isub dX6_feed_92 ?_
  refine am_ishr dX6_feed_93 ?_
  refine am_sipush (v := 255) dX6_feed_94 (by decide) ?_
  refine am_iand dX6_feed_97 ?_
  refine mm_stA (k := 0) isA_0 rfl rfl dX6_feed_98 h.1 ?_
  have h := h.2
  generalize eμ1 : mm_sA μ 0 (Int32.toNatClampNeg (mI μ 1)) ((s0 >>> ((24 - (8 * (x6 - x6 / 4 * 4))) &&& 31)) &&& 255) = μ1
  have h := h μ1 eμ1.symm
  refine am_aloadr_n (x := some ρ.1) dX6_feed_99 rfl rfl ?_
  refine am_dup dX6_feed_100 (am_rf_cat _) ?_
  refine mm_gI (k := 1) rfl (Or.inl rfl) (by decide) q2320 dX6_feed_101 ?_
  refine am_iconst (v := 1) dX6_feed_104 (by decide) ?_
  refine am_iadd dX6_feed_105 ?_
  refine mm_pI (k := 1) rfl rfl rfl (by decide) q2320 rfl dX6_feed_106 ?_
  generalize eμ2 : mm_sI μ1 1 ((mI μ1 1) + 1) = μ2
  have h := h μ2 eμ2.symm
  refine am_iinc (x := x6) (v := (x6 + 1)) (L' := [(12, .int (x6 + 1)), (14, .int s0), (0, va_rf (some ρ.1)), (2, .int x1), (4, .int x2), (6, .int x3), (8, .int x4), (10, .int x5)]) dX6_feed_109 rfl rfl (Nat.le_of_ble_eq_true rfl) rfl ?_
  refine am_goto (tgt := 18) dX6_feed_112 (by decide) ?_
  exact am_lss h rfl
theorem W_X6_end_f {G : am_G} {ρ : mm_F} {d : Nat} {a1 : Int32} {μ : mm_S} {Q : Int32 → mm_S → Prop} (h : W_X6_isIn G ρ d a1 0 (mI μ 1) μ (fun v2 μ1 => ((¬ v2 = 0 → (∀ μ3 : mm_S, μ3 = mm_sI μ1 1 a1 → (Q 1 μ3))) ∧ (v2 = 0 → Q 0 μ1)))) : W_X6_end G ρ (d + 1) a1 μ Q := by
  unfold W_X6_end
  refine am_iload_n (x := a1) dX6_end_0 rfl rfl ?_
  refine am_iconst (v := 0) dX6_end_1 (by decide) ?_
  refine am_aloadr_n (x := some ρ.1) dX6_end_2 rfl rfl ?_
  refine mm_gI (k := 1) rfl (Or.inl rfl) (by decide) q2320 dX6_end_3 ?_
  refine mm_callS (Mc := m_X6_isIn) (as := [.int a1, .int 0, .int (mI μ 1)]) rfl bm_X6_isIn q2636 q2637 (Nat.le_of_ble_eq_true rfl) dX6_end_6 (mt_X6_isIn (mm_k2i h (fun v2 μ1 h => ?_)))
  refine am_if_ne (tgt := 14) dX6_end_9 (by decide) (fun c => ?_) (fun c => ?_)
  · have h := h.1 c
    refine am_aloadr_n (x := some ρ.1) dX6_end_14 rfl rfl ?_
    refine am_iload_n (x := a1) dX6_end_15 rfl rfl ?_
    refine mm_pI (k := 1) rfl rfl rfl (by decide) q2320 rfl dX6_end_16 ?_
    generalize eμ3 : mm_sI μ1 1 a1 = μ3
    have h := h μ3 eμ3.symm
    refine am_iconst (v := 1) dX6_end_19 (by decide) ?_
    exact am_zret rfl rfl dX6_end_20 ⟨_, _, rfl, rfl, h⟩
  · have h := h.2 c
    refine am_iconst (v := 0) dX6_end_12 (by decide) ?_
    exact am_zret rfl rfl dX6_end_13 ⟨_, _, rfl, rfl, h⟩
theorem W_X6_word_2_f {G : am_G} {ρ : mm_F} {d : Nat}  {μ : mm_S} {Q : Int32 → mm_S → Prop} (h : W_X6_begin G ρ d μ (fun μ1 => ((¬ (mI μ1 3) = 2 → B_X6_word_2_41 G ρ (d + 1) (mI μ 13) (mI μ 14) 0 μ1 Q) ∧ ((mI μ1 3) = 2 → W_X6_named G ρ d μ1 (fun v3 μ2 => ((v3 = 0 → B_X6_word_2_41 G ρ (d + 1) (mI μ 13) (mI μ 14) 0 μ2 Q) ∧ (¬ v3 = 0 → ((¬ (mI μ2 3) = 0 → B_X6_word_2_41 G ρ (d + 1) (mI μ 13) (mI μ 14) 0 μ2 Q) ∧ ((mI μ2 3) = 0 → B_X6_word_2_41 G ρ (d + 1) (mI μ 13) (mI μ 14) 1 μ2 Q))))))))) : W_X6_word_2 G ρ (d + 1)  μ Q := by
  unfold W_X6_word_2
  refine am_aloadr_n (x := some ρ.1) dX6_word_2_0 rfl rfl ?_
  refine mm_gI (k := 13) rfl (Or.inl rfl) (by decide) q2332 dX6_word_2_1 ?_
  refine am_istore_n (L' := [(2, .int (mI μ 13)), (0, va_rf (some ρ.1))]) dX6_word_2_4 rfl (Nat.le_of_ble_eq_true rfl) rfl ?_
  refine am_aloadr_n (x := some ρ.1) dX6_word_2_5 rfl rfl ?_
  refine mm_gI (k := 14) rfl (Or.inl rfl) (by decide) q2333 dX6_word_2_6 ?_
  refine am_istore_n (L' := [(4, .int (mI μ 14)), (2, .int (mI μ 13)), (0, va_rf (some ρ.1))]) dX6_word_2_9 rfl (Nat.le_of_ble_eq_true rfl) rfl ?_
  refine am_aloadr_n (x := some ρ.1) dX6_word_2_10 rfl rfl ?_
  refine mm_callV (Mc := m_X6_begin) (as := []) rfl bm_X6_begin q2610 q2612 qs77 (Nat.le_of_ble_eq_true rfl) dX6_word_2_11 (mt_X6_begin (mm_k2v h (fun μ1 h => ?_)))
  refine am_aloadr_n (x := some ρ.1) dX6_word_2_14 rfl rfl ?_
  refine mm_gI (k := 3) rfl (Or.inl rfl) (by decide) q2322 dX6_word_2_15 ?_
  refine am_iconst (v := 2) dX6_word_2_18 (by decide) ?_
  refine am_icmp_ne (tgt := 40) dX6_word_2_19 (by decide) (fun c => ?_) (fun c => ?_)
  · have h := h.1 c
    refine am_iconst (v := 0) dX6_word_2_40 (by decide) ?_
    exact am_lss h rfl
  · have h := h.2 c
    refine am_aloadr_n (x := some ρ.1) dX6_word_2_22 rfl rfl ?_
    refine mm_callV (Mc := m_X6_named) (as := []) rfl bm_X6_named q2654 q2656 qs85 (Nat.le_of_ble_eq_true rfl) dX6_word_2_23 (mt_X6_named (mm_k2i h (fun v3 μ2 h => ?_)))
    refine am_if_eq (tgt := 40) dX6_word_2_26 (by decide) (fun c => ?_) (fun c => ?_)
    · have h := h.1 c
      refine am_iconst (v := 0) dX6_word_2_40 (by decide) ?_
      exact am_lss h rfl
    · have h := h.2 c
      refine am_aloadr_n (x := some ρ.1) dX6_word_2_29 rfl rfl ?_
      refine mm_gI (k := 3) rfl (Or.inl rfl) (by decide) q2322 dX6_word_2_30 ?_
      refine am_if_ne (tgt := 40) dX6_word_2_33 (by decide) (fun c => ?_) (fun c => ?_)
      · have h := h.1 c
        refine am_iconst (v := 0) dX6_word_2_40 (by decide) ?_
        exact am_lss h rfl
      · have h := h.2 c
        refine am_iconst (v := 1) dX6_word_2_36 (by decide) ?_
        refine am_goto (tgt := 41) dX6_word_2_37 (by decide) ?_
        exact am_lss h rfl
theorem B_X6_word_2_41_f {G : am_G} {ρ : mm_F} {d : Nat} {x1 : Int32} {x2 : Int32} {s0 : Int32} {μ : mm_S} {Q : Int32 → mm_S → Prop} (h : (∀ μ1 : mm_S, μ1 = mm_sI μ 11 0 → ((∀ μ2 : mm_S, μ2 = mm_sI μ1 1 0 → ((∀ μ3 : mm_S, μ3 = mm_sI μ2 13 x1 → ((∀ μ4 : mm_S, μ4 = mm_sI μ3 14 x2 → (((s0 = 0 → Q (-1) μ4) ∧ (¬ s0 = 0 → Q (mI μ4 17) μ4))))))))))) : B_X6_word_2_41 G ρ (d + 1) x1 x2 s0 μ Q := by
  unfold B_X6_word_2_41
  refine am_istore_n (L' := [(6, .int s0), (0, va_rf (some ρ.1)), (2, .int x1), (4, .int x2)]) dX6_word_2_41 rfl (Nat.le_of_ble_eq_true rfl) rfl ?_
  refine am_aloadr_n (x := some ρ.1) dX6_word_2_42 rfl rfl ?_
  refine am_iconst (v := 0) dX6_word_2_43 (by decide) ?_
  refine mm_pI (k := 11) rfl rfl rfl (by decide) q2330 rfl dX6_word_2_44 ?_
  generalize eμ1 : mm_sI μ 11 0 = μ1
  have h := h μ1 eμ1.symm
  refine am_aloadr_n (x := some ρ.1) dX6_word_2_47 rfl rfl ?_
  refine am_iconst (v := 0) dX6_word_2_48 (by decide) ?_
  refine mm_pI (k := 1) rfl rfl rfl (by decide) q2320 rfl dX6_word_2_49 ?_
  generalize eμ2 : mm_sI μ1 1 0 = μ2
  have h := h μ2 eμ2.symm
  refine am_aloadr_n (x := some ρ.1) dX6_word_2_52 rfl rfl ?_
  refine am_iload_n (x := x1) dX6_word_2_53 rfl rfl ?_
  refine mm_pI (k := 13) rfl rfl rfl (by decide) q2332 rfl dX6_word_2_54 ?_
  generalize eμ3 : mm_sI μ2 13 x1 = μ3
  have h := h μ3 eμ3.symm
  refine am_aloadr_n (x := some ρ.1) dX6_word_2_57 rfl rfl ?_
  refine am_iload_n (x := x2) dX6_word_2_58 rfl rfl ?_
  refine mm_pI (k := 14) rfl rfl rfl (by decide) q2333 rfl dX6_word_2_59 ?_
  generalize eμ4 : mm_sI μ3 14 x2 = μ4
  have h := h μ4 eμ4.symm
  refine am_iload_n (x := s0) dX6_word_2_62 rfl rfl ?_
  refine am_if_eq (tgt := 73) dX6_word_2_63 (by decide) (fun c => ?_) (fun c => ?_)
  · have h := h.1 c
    refine am_iconst (v := (-1)) dX6_word_2_73 (by decide) ?_
    exact am_iret rfl dX6_word_2_74 ⟨_, _, rfl, rfl, h⟩
  · have h := h.2 c
    refine am_aloadr_n (x := some ρ.1) dX6_word_2_66 rfl rfl ?_
    refine mm_gI (k := 17) rfl (Or.inl rfl) (by decide) q2336 dX6_word_2_67 ?_
    refine am_goto (tgt := 74) dX6_word_2_70 (by decide) ?_
    exact am_iret rfl dX6_word_2_74 ⟨_, _, rfl, rfl, h⟩
theorem W_X6_create_f {G : am_G} {ρ : mm_F} {d : Nat} {a1 : Int32} {μ : mm_S} {Q : Int32 → mm_S → Prop} (h : W_X6_find G ρ d 0 a1 μ (fun v2 μ1 => ((v2 = (-1) → Q (-1) μ1) ∧ (¬ v2 = (-1) → ((¬ (mI μ1 33) = 40 → (∀ μ3 : mm_S, μ3 = mm_sI μ1 33 ((mI μ1 33) + 1) → ((vp_in (mI μ1 33) 40 ∧ ∀ μ4 : mm_S, μ4 = mm_sA μ3 34 (Int32.toNatClampNeg (mI μ1 33)) 1 → ((vp_in (mI μ1 33) 40 ∧ ∀ μ5 : mm_S, μ5 = mm_sA μ4 35 (Int32.toNatClampNeg (mI μ1 33)) v2 → (B_X6_create_55 G ρ (d + 1) v2 (mI μ1 33) 0 μ5 Q))))))) ∧ ((mI μ1 33) = 40 → Q (-1) μ1)))))) : W_X6_create G ρ (d + 1) a1 μ Q := by
  unfold W_X6_create
  refine am_aloadr_n (x := some ρ.1) dX6_create_0 rfl rfl ?_
  refine am_iconst (v := 0) dX6_create_1 (by decide) ?_
  refine am_iload_n (x := a1) dX6_create_2 rfl rfl ?_
  refine mm_callV (Mc := m_X6_find) (as := [.int 0, .int a1]) rfl bm_X6_find q2658 q2660 qs86 (Nat.le_of_ble_eq_true rfl) dX6_create_3 (mt_X6_find (mm_k2i h (fun v2 μ1 h => ?_)))
  refine am_istore_n (L' := [(4, .int v2), (0, va_rf (some ρ.1)), (2, .int a1)]) dX6_create_6 rfl (Nat.le_of_ble_eq_true rfl) rfl ?_
  refine am_iload_n (x := v2) dX6_create_7 rfl rfl ?_
  refine am_iconst (v := (-1)) dX6_create_8 (by decide) ?_
  refine am_icmp_eq (tgt := 21) dX6_create_9 (by decide) (fun c => ?_) (fun c => ?_)
  · have h := h.1 c
    refine am_iconst (v := (-1)) dX6_create_21 (by decide) ?_
    exact am_iret rfl dX6_create_22 ⟨_, _, rfl, rfl, h⟩
  · have h := h.2 c
    refine am_aloadr_n (x := some ρ.1) dX6_create_12 rfl rfl ?_
    refine mm_gI (k := 33) rfl (Or.inl rfl) (by decide) q2352 dX6_create_13 ?_
    refine am_bipush (v := 40) dX6_create_16 (by decide) ?_
    refine am_icmp_ne (tgt := 23) dX6_create_18 (by decide) (fun c => ?_) (fun c => ?_)
    · have h := h.1 c
      refine am_aloadr_n (x := some ρ.1) dX6_create_23 rfl rfl ?_
      refine mm_gI (k := 33) rfl (Or.inl rfl) (by decide) q2352 dX6_create_24 ?_
      refine am_istore_n (L' := [(6, .int (mI μ1 33)), (4, .int v2), (0, va_rf (some ρ.1)), (2, .int a1)]) dX6_create_27 rfl (Nat.le_of_ble_eq_true rfl) rfl ?_
      refine am_aloadr_n (x := some ρ.1) dX6_create_28 rfl rfl ?_
      refine am_dup dX6_create_29 (am_rf_cat _) ?_
      refine mm_gI (k := 33) rfl (Or.inl rfl) (by decide) q2352 dX6_create_30 ?_
      refine am_iconst (v := 1) dX6_create_33 (by decide) ?_
      refine am_iadd dX6_create_34 ?_
      refine mm_pI (k := 33) rfl rfl rfl (by decide) q2352 rfl dX6_create_35 ?_
      generalize eμ3 : mm_sI μ1 33 ((mI μ1 33) + 1) = μ3
      have h := h μ3 eμ3.symm
      refine am_aloadr_n (x := some ρ.1) dX6_create_38 rfl rfl ?_
      refine mm_gA (k := 34) rfl isA_34 q2353 dX6_create_39 ?_
      refine am_iload_n (x := (mI μ1 33)) dX6_create_42 rfl rfl ?_
      refine am_iconst (v := 1) dX6_create_43 (by decide) ?_
      refine mm_stZ (k := 34) isA_34 rfl rfl (by decide) dX6_create_44 h.1 ?_
      have h := h.2
      generalize eμ4 : mm_sA μ3 34 (Int32.toNatClampNeg (mI μ1 33)) 1 = μ4
      have h := h μ4 eμ4.symm
      refine am_aloadr_n (x := some ρ.1) dX6_create_45 rfl rfl ?_
      refine mm_gA (k := 35) rfl isA_35 q2354 dX6_create_46 ?_
      refine am_iload_n (x := (mI μ1 33)) dX6_create_49 rfl rfl ?_
      refine am_iload_n (x := v2) dX6_create_50 rfl rfl ?_
      refine mm_stA (k := 35) isA_35 rfl rfl dX6_create_51 h.1 ?_
      have h := h.2
      generalize eμ5 : mm_sA μ4 35 (Int32.toNatClampNeg (mI μ1 33)) v2 = μ5
      have h := h μ5 eμ5.symm
      refine am_iconst (v := 0) dX6_create_52 (by decide) ?_
      refine am_istore (L' := [(8, .int 0), (6, .int (mI μ1 33)), (4, .int v2), (0, va_rf (some ρ.1)), (2, .int a1)]) dX6_create_53 (Nat.le_of_ble_eq_true rfl) rfl ?_
      exact am_lss h rfl
    · have h := h.2 c
      refine am_iconst (v := (-1)) dX6_create_21 (by decide) ?_
      exact am_iret rfl dX6_create_22 ⟨_, _, rfl, rfl, h⟩
theorem B_X6_create_55_f {G : am_G} {ρ : mm_F} {d : Nat} {x2 : Int32} {x3 : Int32} {x4 : Int32} {μ : mm_S} {Q : Int32 → mm_S → Prop} (h : ((40 ≤ x4 → (vp_in x3 40 ∧ ∀ μ1 : mm_S, μ1 = mm_sA μ 61 (Int32.toNatClampNeg x3) 3 → (Q x3 μ1))) ∧ (¬ 40 ≤ x4 → W_X6_fieldAt G ρ d 0 x2 x4 μ (fun v3 μ2 => ((¬ v3 = (-1) → W_X6_field G ρ d 0 v3 x4 μ2 (fun v5 μ4 => W_X6_get G ρ d 0 v3 (14 + v5) μ4 (fun v7 μ6 => (vp_in ((40 * x3) + x4) 1600 ∧ ∀ μ8 : mm_S, μ8 = mm_sA μ6 36 (Int32.toNatClampNeg ((40 * x3) + x4)) v7 → ((vp_in ((40 * x3) + x4) 1600 ∧ ∀ μ9 : mm_S, μ9 = mm_sA μ8 38 (Int32.toNatClampNeg ((40 * x3) + x4)) 0 → (B_X6_create_55 G ρ (d + 1) x2 x3 (x4 + 1) μ9 Q))))))) ∧ (v3 = (-1) → (vp_in ((40 * x3) + x4) 1600 ∧ ∀ μ10 : mm_S, μ10 = mm_sA μ2 36 (Int32.toNatClampNeg ((40 * x3) + x4)) 0 → ((vp_in ((40 * x3) + x4) 1600 ∧ ∀ μ11 : mm_S, μ11 = mm_sA μ10 38 (Int32.toNatClampNeg ((40 * x3) + x4)) 0 → (B_X6_create_55 G ρ (d + 1) x2 x3 (x4 + 1) μ11 Q)))))))))) : B_X6_create_55 G ρ (d + 1) x2 x3 x4 μ Q := by
  unfold B_X6_create_55
  refine am_iload (x := x4) dX6_create_55 rfl ?_
  refine am_bipush (v := 40) dX6_create_57 (by decide) ?_
  refine am_icmp_ge (tgt := 132) dX6_create_59 (by decide) (fun c => ?_) (fun c => ?_)
  · have h := h.1 c
    refine am_aloadr_n (x := some ρ.1) dX6_create_132 rfl rfl ?_
    refine mm_gA (k := 61) rfl isA_61 q2380 dX6_create_133 ?_
    refine am_iload_n (x := x3) dX6_create_136 rfl rfl ?_
    refine am_iconst (v := 3) dX6_create_137 (by decide) ?_
    refine mm_stA (k := 61) isA_61 rfl rfl dX6_create_138 h.1 ?_
    have h := h.2
    generalize eμ1 : mm_sA μ 61 (Int32.toNatClampNeg x3) 3 = μ1
    have h := h μ1 eμ1.symm
    refine am_iload_n (x := x3) dX6_create_139 rfl rfl ?_
    exact am_iret rfl dX6_create_140 ⟨_, _, rfl, rfl, h⟩
  · have h := h.2 c
    refine am_aloadr_n (x := some ρ.1) dX6_create_62 rfl rfl ?_
    refine am_iconst (v := 0) dX6_create_63 (by decide) ?_
    refine am_iload_n (x := x2) dX6_create_64 rfl rfl ?_
    refine am_iload (x := x4) dX6_create_65 rfl ?_
    refine mm_callV (Mc := m_X6_fieldAt) (as := [.int 0, .int x2, .int x4]) rfl bm_X6_fieldAt q2819 q2821 qs120 (Nat.le_of_ble_eq_true rfl) dX6_create_67 (mt_X6_fieldAt (mm_k2i h (fun v3 μ2 h => ?_)))
    refine am_istore (L' := [(10, .int v3), (0, va_rf (some ρ.1)), (4, .int x2), (6, .int x3), (8, .int x4)]) dX6_create_70 (Nat.le_of_ble_eq_true rfl) rfl ?_
    refine am_aloadr_n (x := some ρ.1) dX6_create_72 rfl rfl ?_
    refine mm_gA (k := 36) rfl isA_36 q2355 dX6_create_73 ?_
    refine am_bipush (v := 40) dX6_create_76 (by decide) ?_
    refine am_iload_n (x := x3) dX6_create_78 rfl rfl ?_
    refine am_imul dX6_create_79 ?_
    refine am_iload (x := x4) dX6_create_80 rfl ?_
    refine am_iadd dX6_create_82 ?_
    refine am_iload (x := v3) dX6_create_83 rfl ?_
    refine am_iconst (v := (-1)) dX6_create_85 (by decide) ?_
    refine am_icmp_ne (tgt := 93) dX6_create_86 (by decide) (fun c => ?_) (fun c => ?_)
    · have h := h.1 c
      refine am_aloadr_n (x := some ρ.1) dX6_create_93 rfl rfl ?_
      refine am_iconst (v := 0) dX6_create_94 (by decide) ?_
      refine am_iload (x := v3) dX6_create_95 rfl ?_
      refine am_bipush (v := 14) dX6_create_97 (by decide) ?_
      refine am_aloadr_n (x := some ρ.1) dX6_create_99 rfl rfl ?_
      refine am_iconst (v := 0) dX6_create_100 (by decide) ?_
      refine am_iload (x := v3) dX6_create_101 rfl ?_
      refine am_iload (x := x4) dX6_create_103 rfl ?_
      refine mm_callV (Mc := m_X6_field) (as := [.int 0, .int v3, .int x4]) rfl bm_X6_field q2698 q2700 qs96 (Nat.le_of_ble_eq_true rfl) dX6_create_105 (mt_X6_field (mm_k2i h (fun v5 μ4 h => ?_)))
      refine am_iadd dX6_create_108 ?_
      refine mm_callV (Mc := m_X6_get) (as := [.int 0, .int v3, .int (14 + v5)]) rfl bm_X6_get q2666 q2668 qs88 (Nat.le_of_ble_eq_true rfl) dX6_create_109 (mt_X6_get (mm_k2i h (fun v7 μ6 h => ?_)))
      refine mm_stA (k := 36) isA_36 rfl rfl dX6_create_112 h.1 ?_
      have h := h.2
      generalize eμ8 : mm_sA μ6 36 (Int32.toNatClampNeg ((40 * x3) + x4)) v7 = μ8
      have h := h μ8 eμ8.symm
      refine am_aloadr_n (x := some ρ.1) dX6_create_113 rfl rfl ?_
      refine mm_gA (k := 38) rfl isA_38 q2357 dX6_create_114 ?_
      refine am_bipush (v := 40) dX6_create_117 (by decide) ?_
      refine am_iload_n (x := x3) dX6_create_119 rfl rfl ?_
      refine am_imul dX6_create_120 ?_
      refine am_iload (x := x4) dX6_create_121 rfl ?_
      refine am_iadd dX6_create_123 ?_
      refine am_iconst (v := 0) dX6_create_124 (by decide) ?_
      refine mm_stZ (k := 38) isA_38 rfl rfl (by decide) dX6_create_125 h.1 ?_
      have h := h.2
      generalize eμ9 : mm_sA μ8 38 (Int32.toNatClampNeg ((40 * x3) + x4)) 0 = μ9
      have h := h μ9 eμ9.symm
      refine am_iinc (x := x4) (v := (x4 + 1)) (L' := [(8, .int (x4 + 1)), (10, .int v3), (0, va_rf (some ρ.1)), (4, .int x2), (6, .int x3)]) dX6_create_126 rfl rfl (Nat.le_of_ble_eq_true rfl) rfl ?_
      refine am_goto (tgt := 55) dX6_create_129 (by decide) ?_
      exact am_lss h rfl
    · have h := h.2 c
      refine am_iconst (v := 0) dX6_create_89 (by decide) ?_
      refine am_goto (tgt := 112) dX6_create_90 (by decide) ?_
      refine mm_stA (k := 36) isA_36 rfl rfl dX6_create_112 h.1 ?_
      have h := h.2
      generalize eμ10 : mm_sA μ2 36 (Int32.toNatClampNeg ((40 * x3) + x4)) 0 = μ10
      have h := h μ10 eμ10.symm
      refine am_aloadr_n (x := some ρ.1) dX6_create_113 rfl rfl ?_
      refine mm_gA (k := 38) rfl isA_38 q2357 dX6_create_114 ?_
      refine am_bipush (v := 40) dX6_create_117 (by decide) ?_
      refine am_iload_n (x := x3) dX6_create_119 rfl rfl ?_
      refine am_imul dX6_create_120 ?_
      refine am_iload (x := x4) dX6_create_121 rfl ?_
      refine am_iadd dX6_create_123 ?_
      refine am_iconst (v := 0) dX6_create_124 (by decide) ?_
      refine mm_stZ (k := 38) isA_38 rfl rfl (by decide) dX6_create_125 h.1 ?_
      have h := h.2
      generalize eμ11 : mm_sA μ10 38 (Int32.toNatClampNeg ((40 * x3) + x4)) 0 = μ11
      have h := h μ11 eμ11.symm
      refine am_iinc (x := x4) (v := (x4 + 1)) (L' := [(8, .int (x4 + 1)), (10, .int v3), (0, va_rf (some ρ.1)), (4, .int x2), (6, .int x3)]) dX6_create_126 rfl rfl (Nat.le_of_ble_eq_true rfl) rfl ?_
      refine am_goto (tgt := 55) dX6_create_129 (by decide) ?_
      exact am_lss h rfl
theorem W_X6_fieldAt_f {G : am_G} {ρ : mm_F} {d : Nat} {a1 : Int32} {a2 : Int32} {a3 : Int32} {μ : mm_S} {Q : Int32 → mm_S → Prop} (h : B_X6_fieldAt_3 G ρ (d + 1) a1 a3 a2 μ Q) : W_X6_fieldAt G ρ (d + 1) a1 a2 a3 μ Q := by
  unfold W_X6_fieldAt
  refine am_iload_n (x := a2) dX6_fieldAt_0 rfl rfl ?_
  refine am_istore (L' := [(8, .int a2), (0, va_rf (some ρ.1)), (2, .int a1), (4, .int a2), (6, .int a3)]) dX6_fieldAt_1 (Nat.le_of_ble_eq_true rfl) rfl ?_
  exact am_lss h rfl
theorem B_X6_fieldAt_3_f {G : am_G} {ρ : mm_F} {d : Nat} {x1 : Int32} {x3 : Int32} {x4 : Int32} {μ : mm_S} {Q : Int32 → mm_S → Prop} (h : ((x4 = (-1) → Q x4 μ) ∧ (¬ x4 = (-1) → W_X6_field G ρ d x1 x4 x3 μ (fun v2 μ1 => ((¬ v2 = (-1) → Q x4 μ1) ∧ (v2 = (-1) → W_X6_get G ρ d x1 x4 1 μ1 (fun v4 μ3 => B_X6_fieldAt_3 G ρ (d + 1) x1 x3 v4 μ3 Q))))))) : B_X6_fieldAt_3 G ρ (d + 1) x1 x3 x4 μ Q := by
  unfold B_X6_fieldAt_3
  refine am_iload (x := x4) dX6_fieldAt_3 rfl ?_
  refine am_iconst (v := (-1)) dX6_fieldAt_5 (by decide) ?_
  refine am_icmp_eq (tgt := 34) dX6_fieldAt_6 (by decide) (fun c => ?_) (fun c => ?_)
  · have h := h.1 c
    refine am_iload (x := x4) dX6_fieldAt_34 rfl ?_
    exact am_iret rfl dX6_fieldAt_36 ⟨_, _, rfl, rfl, h⟩
  · have h := h.2 c
    refine am_aloadr_n (x := some ρ.1) dX6_fieldAt_9 rfl rfl ?_
    refine am_iload_n (x := x1) dX6_fieldAt_10 rfl rfl ?_
    refine am_iload (x := x4) dX6_fieldAt_11 rfl ?_
    refine am_iload_n (x := x3) dX6_fieldAt_13 rfl rfl ?_
    refine mm_callV (Mc := m_X6_field) (as := [.int x1, .int x4, .int x3]) rfl bm_X6_field q2698 q2700 qs96 (Nat.le_of_ble_eq_true rfl) dX6_fieldAt_14 (mt_X6_field (mm_k2i h (fun v2 μ1 h => ?_)))
    refine am_iconst (v := (-1)) dX6_fieldAt_17 (by decide) ?_
    refine am_icmp_ne (tgt := 34) dX6_fieldAt_18 (by decide) (fun c => ?_) (fun c => ?_)
    · have h := h.1 c
      refine am_iload (x := x4) dX6_fieldAt_34 rfl ?_
      exact am_iret rfl dX6_fieldAt_36 ⟨_, _, rfl, rfl, h⟩
    · have h := h.2 c
      refine am_aloadr_n (x := some ρ.1) dX6_fieldAt_21 rfl rfl ?_
      refine am_iload_n (x := x1) dX6_fieldAt_22 rfl rfl ?_
      refine am_iload (x := x4) dX6_fieldAt_23 rfl ?_
      refine am_iconst (v := 1) dX6_fieldAt_25 (by decide) ?_
      refine mm_callV (Mc := m_X6_get) (as := [.int x1, .int x4, .int 1]) rfl bm_X6_get q2666 q2668 qs88 (Nat.le_of_ble_eq_true rfl) dX6_fieldAt_26 (mt_X6_get (mm_k2i h (fun v4 μ3 h => ?_)))
      refine am_istore (L' := [(8, .int v4), (0, va_rf (some ρ.1)), (2, .int x1), (6, .int x3)]) dX6_fieldAt_29 (Nat.le_of_ble_eq_true rfl) rfl ?_
      refine am_goto (tgt := 3) dX6_fieldAt_31 (by decide) ?_
      exact am_lss h rfl
theorem W_X6_kinds_f {G : am_G} {ρ : mm_F} {d : Nat}  {μ : mm_S} {Q : Int32 → mm_S → Prop} (h : W_X6_many G ρ d 0 μ (fun v2 μ1 => Q v2 μ1)) : W_X6_kinds G ρ (d + 1)  μ Q := by
  unfold W_X6_kinds
  refine am_aloadr_n (x := some ρ.1) dX6_kinds_0 rfl rfl ?_
  refine am_iconst (v := 0) dX6_kinds_1 (by decide) ?_
  refine mm_callV (Mc := m_X6_many) (as := [.int 0]) rfl bm_X6_many q2662 q2664 qs87 (Nat.le_of_ble_eq_true rfl) dX6_kinds_2 (mt_X6_many (mm_k2i h (fun v2 μ1 h => ?_)))
  exact am_iret rfl dX6_kinds_5 ⟨_, _, rfl, rfl, h⟩
theorem W_X6_kind_f {G : am_G} {ρ : mm_F} {d : Nat} {a1 : Int32} {a2 : Int32} {μ : mm_S} {Q : Int32 → mm_S → Prop} (h : W_X6_many G ρ d 0 μ (fun v2 μ1 => W_X6_isIn G ρ d a1 0 (v2 - 1) μ1 (fun v4 μ3 => ((¬ v4 = 0 → ((a2 = 0 → W_X6_get G ρ d 0 a1 0 μ3 (fun v6 μ5 => Q v6 μ5)) ∧ (a2 = 1 → W_X6_get G ρ d 0 a1 1 μ3 (fun v8 μ7 => ((¬ v8 = (-1) → W_X6_get G ρ d 0 a1 1 μ7 (fun v10 μ9 => W_X6_get G ρ d 0 v10 0 μ9 (fun v12 μ11 => Q v12 μ11))) ∧ (v8 = (-1) → Q (-1) μ7)))) ∧ (a2 = 2 → W_X6_get G ρ d 0 a1 2 μ3 (fun v14 μ13 => Q v14 μ13)) ∧ (a2 = 3 → W_X6_get G ρ d 0 a1 5 μ3 (fun v16 μ15 => Q v16 μ15)) ∧ (a2 = 4 → W_X6_get G ρ d 0 a1 30 μ3 (fun v18 μ17 => Q v18 μ17)) ∧ (a2 = 5 → W_X6_get G ρ d 0 a1 39 μ3 (fun v20 μ19 => Q v20 μ19)) ∧ (((a2 : Int32).toInt < 0 ∨ 5 < (a2 : Int32).toInt) → Q (-1) μ3))) ∧ (v4 = 0 → Q (-1) μ3))))) : W_X6_kind G ρ (d + 1) a1 a2 μ Q := by
  unfold W_X6_kind
  refine am_iload_n (x := a1) dX6_kind_0 rfl rfl ?_
  refine am_iconst (v := 0) dX6_kind_1 (by decide) ?_
  refine am_aloadr_n (x := some ρ.1) dX6_kind_2 rfl rfl ?_
  refine am_iconst (v := 0) dX6_kind_3 (by decide) ?_
  refine mm_callV (Mc := m_X6_many) (as := [.int 0]) rfl bm_X6_many q2662 q2664 qs87 (Nat.le_of_ble_eq_true rfl) dX6_kind_4 (mt_X6_many (mm_k2i h (fun v2 μ1 h => ?_)))
  refine am_iconst (v := 1) dX6_kind_7 (by decide) ?_
  refine am_isub dX6_kind_8 ?_
  refine mm_callS (Mc := m_X6_isIn) (as := [.int a1, .int 0, .int (v2 - 1)]) rfl bm_X6_isIn q2636 q2637 (Nat.le_of_ble_eq_true rfl) dX6_kind_9 (mt_X6_isIn (mm_k2i h (fun v4 μ3 h => ?_)))
  refine am_if_ne (tgt := 17) dX6_kind_12 (by decide) (fun c => ?_) (fun c => ?_)
  · have h := h.1 c
    refine am_iload_n (x := a2) dX6_kind_17 rfl rfl ?_
    by_cases c : (a2 : Int32).toInt < 0 ∨ 5 < (a2 : Int32).toInt
    · have h := h.2.2.2.2.2.2 c
      refine am_tableOut (tgt := 127) dX6_kind_18 c (by decide) ?_
      refine am_iconst (v := (-1)) dX6_kind_127 (by decide) ?_
      exact am_iret rfl dX6_kind_128 ⟨_, _, rfl, rfl, h⟩
    · obtain ⟨j, hj, e⟩ := am_tab (lo := 0) (n := 6) c
      match j, hj, e with
      | 0, hj, e =>
        have c : (a2 : Int32) = 0 := Int32.toInt_inj.mp (e.trans (by decide))
        have h := h.1 c
        refine am_tableIn (tgt := 56) dX6_kind_18 (by rw [c]; decide) (by rw [c]; decide) (by rw [c]; rfl) (by decide) ?_
        refine am_aloadr_n (x := some ρ.1) dX6_kind_56 rfl rfl ?_
        refine am_iconst (v := 0) dX6_kind_57 (by decide) ?_
        refine am_iload_n (x := a1) dX6_kind_58 rfl rfl ?_
        refine am_iconst (v := 0) dX6_kind_59 (by decide) ?_
        refine mm_callV (Mc := m_X6_get) (as := [.int 0, .int a1, .int 0]) rfl bm_X6_get q2666 q2668 qs88 (Nat.le_of_ble_eq_true rfl) dX6_kind_60 (mt_X6_get (mm_k2i h (fun v6 μ5 h => ?_)))
        exact am_iret rfl dX6_kind_63 ⟨_, _, rfl, rfl, h⟩
      | 1, hj, e =>
        have c : (a2 : Int32) = 1 := Int32.toInt_inj.mp (e.trans (by decide))
        have h := h.2.1 c
        refine am_tableIn (tgt := 64) dX6_kind_18 (by rw [c]; decide) (by rw [c]; decide) (by rw [c]; rfl) (by decide) ?_
        refine am_aloadr_n (x := some ρ.1) dX6_kind_64 rfl rfl ?_
        refine am_iconst (v := 0) dX6_kind_65 (by decide) ?_
        refine am_iload_n (x := a1) dX6_kind_66 rfl rfl ?_
        refine am_iconst (v := 1) dX6_kind_67 (by decide) ?_
        refine mm_callV (Mc := m_X6_get) (as := [.int 0, .int a1, .int 1]) rfl bm_X6_get q2666 q2668 qs88 (Nat.le_of_ble_eq_true rfl) dX6_kind_68 (mt_X6_get (mm_k2i h (fun v8 μ7 h => ?_)))
        refine am_iconst (v := (-1)) dX6_kind_71 (by decide) ?_
        refine am_icmp_ne (tgt := 79) dX6_kind_72 (by decide) (fun c => ?_) (fun c => ?_)
        · have h := h.1 c
          refine am_aloadr_n (x := some ρ.1) dX6_kind_79 rfl rfl ?_
          refine am_iconst (v := 0) dX6_kind_80 (by decide) ?_
          refine am_aloadr_n (x := some ρ.1) dX6_kind_81 rfl rfl ?_
          refine am_iconst (v := 0) dX6_kind_82 (by decide) ?_
          refine am_iload_n (x := a1) dX6_kind_83 rfl rfl ?_
          refine am_iconst (v := 1) dX6_kind_84 (by decide) ?_
          refine mm_callV (Mc := m_X6_get) (as := [.int 0, .int a1, .int 1]) rfl bm_X6_get q2666 q2668 qs88 (Nat.le_of_ble_eq_true rfl) dX6_kind_85 (mt_X6_get (mm_k2i h (fun v10 μ9 h => ?_)))
          refine am_iconst (v := 0) dX6_kind_88 (by decide) ?_
          refine mm_callV (Mc := m_X6_get) (as := [.int 0, .int v10, .int 0]) rfl bm_X6_get q2666 q2668 qs88 (Nat.le_of_ble_eq_true rfl) dX6_kind_89 (mt_X6_get (mm_k2i h (fun v12 μ11 h => ?_)))
          exact am_iret rfl dX6_kind_92 ⟨_, _, rfl, rfl, h⟩
        · have h := h.2 c
          refine am_iconst (v := (-1)) dX6_kind_75 (by decide) ?_
          refine am_goto (tgt := 92) dX6_kind_76 (by decide) ?_
          exact am_iret rfl dX6_kind_92 ⟨_, _, rfl, rfl, h⟩
      | 2, hj, e =>
        have c : (a2 : Int32) = 2 := Int32.toInt_inj.mp (e.trans (by decide))
        have h := h.2.2.1 c
        refine am_tableIn (tgt := 93) dX6_kind_18 (by rw [c]; decide) (by rw [c]; decide) (by rw [c]; rfl) (by decide) ?_
        refine am_aloadr_n (x := some ρ.1) dX6_kind_93 rfl rfl ?_
        refine am_iconst (v := 0) dX6_kind_94 (by decide) ?_
        refine am_iload_n (x := a1) dX6_kind_95 rfl rfl ?_
        refine am_iconst (v := 2) dX6_kind_96 (by decide) ?_
        refine mm_callV (Mc := m_X6_get) (as := [.int 0, .int a1, .int 2]) rfl bm_X6_get q2666 q2668 qs88 (Nat.le_of_ble_eq_true rfl) dX6_kind_97 (mt_X6_get (mm_k2i h (fun v14 μ13 h => ?_)))
        exact am_iret rfl dX6_kind_100 ⟨_, _, rfl, rfl, h⟩
      | 3, hj, e =>
        have c : (a2 : Int32) = 3 := Int32.toInt_inj.mp (e.trans (by decide))
        have h := h.2.2.2.1 c
        refine am_tableIn (tgt := 101) dX6_kind_18 (by rw [c]; decide) (by rw [c]; decide) (by rw [c]; rfl) (by decide) ?_
        refine am_aloadr_n (x := some ρ.1) dX6_kind_101 rfl rfl ?_
        refine am_iconst (v := 0) dX6_kind_102 (by decide) ?_
        refine am_iload_n (x := a1) dX6_kind_103 rfl rfl ?_
        refine am_iconst (v := 5) dX6_kind_104 (by decide) ?_
        refine mm_callV (Mc := m_X6_get) (as := [.int 0, .int a1, .int 5]) rfl bm_X6_get q2666 q2668 qs88 (Nat.le_of_ble_eq_true rfl) dX6_kind_105 (mt_X6_get (mm_k2i h (fun v16 μ15 h => ?_)))
        exact am_iret rfl dX6_kind_108 ⟨_, _, rfl, rfl, h⟩
      | 4, hj, e =>
        have c : (a2 : Int32) = 4 := Int32.toInt_inj.mp (e.trans (by decide))
        have h := h.2.2.2.2.1 c
        refine am_tableIn (tgt := 109) dX6_kind_18 (by rw [c]; decide) (by rw [c]; decide) (by rw [c]; rfl) (by decide) ?_
        refine am_aloadr_n (x := some ρ.1) dX6_kind_109 rfl rfl ?_
        refine am_iconst (v := 0) dX6_kind_110 (by decide) ?_
        refine am_iload_n (x := a1) dX6_kind_111 rfl rfl ?_
        refine am_bipush (v := 30) dX6_kind_112 (by decide) ?_
        refine mm_callV (Mc := m_X6_get) (as := [.int 0, .int a1, .int 30]) rfl bm_X6_get q2666 q2668 qs88 (Nat.le_of_ble_eq_true rfl) dX6_kind_114 (mt_X6_get (mm_k2i h (fun v18 μ17 h => ?_)))
        exact am_iret rfl dX6_kind_117 ⟨_, _, rfl, rfl, h⟩
      | 5, hj, e =>
        have c : (a2 : Int32) = 5 := Int32.toInt_inj.mp (e.trans (by decide))
        have h := h.2.2.2.2.2.1 c
        refine am_tableIn (tgt := 118) dX6_kind_18 (by rw [c]; decide) (by rw [c]; decide) (by rw [c]; rfl) (by decide) ?_
        refine am_aloadr_n (x := some ρ.1) dX6_kind_118 rfl rfl ?_
        refine am_iconst (v := 0) dX6_kind_119 (by decide) ?_
        refine am_iload_n (x := a1) dX6_kind_120 rfl rfl ?_
        refine am_bipush (v := 39) dX6_kind_121 (by decide) ?_
        refine mm_callV (Mc := m_X6_get) (as := [.int 0, .int a1, .int 39]) rfl bm_X6_get q2666 q2668 qs88 (Nat.le_of_ble_eq_true rfl) dX6_kind_123 (mt_X6_get (mm_k2i h (fun v20 μ19 h => ?_)))
        exact am_iret rfl dX6_kind_126 ⟨_, _, rfl, rfl, h⟩
      | j + 6, hj, e => exact absurd hj (by omega)
  · have h := h.2 c
    refine am_iconst (v := (-1)) dX6_kind_15 (by decide) ?_
    exact am_iret rfl dX6_kind_16 ⟨_, _, rfl, rfl, h⟩
theorem W_X6_kindOf_f {G : am_G} {ρ : mm_F} {d : Nat} {a1 : Int32} {μ : mm_S} {Q : Int32 → mm_S → Prop} (h : W_X6_isLiving G ρ d a1 μ (fun v2 μ1 => ((v2 = 0 → Q (-1) μ1) ∧ (¬ v2 = 0 → (vp_in a1 40 ∧ W_X6_get G ρ d 0 (mA μ1 35 (Int32.toNatClampNeg a1)) 0 μ1 (fun v4 μ3 => Q v4 μ3)))))) : W_X6_kindOf G ρ (d + 1) a1 μ Q := by
  unfold W_X6_kindOf
  refine am_aloadr_n (x := some ρ.1) dX6_kindOf_0 rfl rfl ?_
  refine am_iload_n (x := a1) dX6_kindOf_1 rfl rfl ?_
  refine mm_callV (Mc := m_X6_isLiving) (as := [.int a1]) rfl bm_X6_isLiving q2835 q2837 qs121 (Nat.le_of_ble_eq_true rfl) dX6_kindOf_2 (mt_X6_isLiving (mm_k2i h (fun v2 μ1 h => ?_)))
  refine am_if_eq (tgt := 23) dX6_kindOf_5 (by decide) (fun c => ?_) (fun c => ?_)
  · have h := h.1 c
    refine am_iconst (v := (-1)) dX6_kindOf_23 (by decide) ?_
    exact am_iret rfl dX6_kindOf_24 ⟨_, _, rfl, rfl, h⟩
  · have h := h.2 c
    refine am_aloadr_n (x := some ρ.1) dX6_kindOf_8 rfl rfl ?_
    refine am_iconst (v := 0) dX6_kindOf_9 (by decide) ?_
    refine am_aloadr_n (x := some ρ.1) dX6_kindOf_10 rfl rfl ?_
    refine mm_gA (k := 35) rfl isA_35 q2354 dX6_kindOf_11 ?_
    refine am_iload_n (x := a1) dX6_kindOf_14 rfl rfl ?_
    refine mm_ldA (k := 35) isA_35 rfl rfl dX6_kindOf_15 h.1 ?_
    have h := h.2
    refine am_iconst (v := 0) dX6_kindOf_16 (by decide) ?_
    refine mm_callV (Mc := m_X6_get) (as := [.int 0, .int (mA μ1 35 (Int32.toNatClampNeg a1)), .int 0]) rfl bm_X6_get q2666 q2668 qs88 (Nat.le_of_ble_eq_true rfl) dX6_kindOf_17 (mt_X6_get (mm_k2i h (fun v4 μ3 h => ?_)))
    refine am_goto (tgt := 24) dX6_kindOf_20 (by decide) ?_
    exact am_iret rfl dX6_kindOf_24 ⟨_, _, rfl, rfl, h⟩
theorem W_X6_isLiving_f {G : am_G} {ρ : mm_F} {d : Nat} {a1 : Int32} {μ : mm_S} {Q : Int32 → mm_S → Prop} (h : W_X6_isIn G ρ d a1 0 ((mI μ 33) - 1) μ (fun v2 μ1 => ((v2 = 0 → Q 0 μ1) ∧ (¬ v2 = 0 → (vp_in a1 40 ∧ (((mA μ1 34 (Int32.toNatClampNeg a1)) = 0 → Q 0 μ1) ∧ (¬ (mA μ1 34 (Int32.toNatClampNeg a1)) = 0 → Q 1 μ1))))))) : W_X6_isLiving G ρ (d + 1) a1 μ Q := by
  unfold W_X6_isLiving
  refine am_iload_n (x := a1) dX6_isLiving_0 rfl rfl ?_
  refine am_iconst (v := 0) dX6_isLiving_1 (by decide) ?_
  refine am_aloadr_n (x := some ρ.1) dX6_isLiving_2 rfl rfl ?_
  refine mm_gI (k := 33) rfl (Or.inl rfl) (by decide) q2352 dX6_isLiving_3 ?_
  refine am_iconst (v := 1) dX6_isLiving_6 (by decide) ?_
  refine am_isub dX6_isLiving_7 ?_
  refine mm_callS (Mc := m_X6_isIn) (as := [.int a1, .int 0, .int ((mI μ 33) - 1)]) rfl bm_X6_isIn q2636 q2637 (Nat.le_of_ble_eq_true rfl) dX6_isLiving_8 (mt_X6_isIn (mm_k2i h (fun v2 μ1 h => ?_)))
  refine am_if_eq (tgt := 27) dX6_isLiving_11 (by decide) (fun c => ?_) (fun c => ?_)
  · have h := h.1 c
    refine am_iconst (v := 0) dX6_isLiving_27 (by decide) ?_
    exact am_zret rfl rfl dX6_isLiving_28 ⟨_, _, rfl, rfl, h⟩
  · have h := h.2 c
    refine am_aloadr_n (x := some ρ.1) dX6_isLiving_14 rfl rfl ?_
    refine mm_gA (k := 34) rfl isA_34 q2353 dX6_isLiving_15 ?_
    refine am_iload_n (x := a1) dX6_isLiving_18 rfl rfl ?_
    refine mm_ldZ (k := 34) isA_34 rfl rfl dX6_isLiving_19 h.1 ?_
    have h := h.2
    refine am_if_eq (tgt := 27) dX6_isLiving_20 (by decide) (fun c => ?_) (fun c => ?_)
    · have h := h.1 c
      refine am_iconst (v := 0) dX6_isLiving_27 (by decide) ?_
      exact am_zret rfl rfl dX6_isLiving_28 ⟨_, _, rfl, rfl, h⟩
    · have h := h.2 c
      refine am_iconst (v := 1) dX6_isLiving_23 (by decide) ?_
      refine am_goto (tgt := 28) dX6_isLiving_24 (by decide) ?_
      exact am_zret rfl rfl dX6_isLiving_28 ⟨_, _, rfl, rfl, h⟩
theorem W_X6_generation_f {G : am_G} {ρ : mm_F} {d : Nat} {a1 : Int32} {μ : mm_S} {Q : Int32 → mm_S → Prop} (h : W_X6_isLiving G ρ d a1 μ (fun v2 μ1 => ((v2 = 0 → Q (-1) μ1) ∧ (¬ v2 = 0 → (vp_in a1 40 ∧ W_X6_get G ρ d 0 (mA μ1 35 (Int32.toNatClampNeg a1)) 2 μ1 (fun v4 μ3 => Q v4 μ3)))))) : W_X6_generation G ρ (d + 1) a1 μ Q := by
  unfold W_X6_generation
  refine am_aloadr_n (x := some ρ.1) dX6_generation_0 rfl rfl ?_
  refine am_iload_n (x := a1) dX6_generation_1 rfl rfl ?_
  refine mm_callV (Mc := m_X6_isLiving) (as := [.int a1]) rfl bm_X6_isLiving q2835 q2837 qs121 (Nat.le_of_ble_eq_true rfl) dX6_generation_2 (mt_X6_isLiving (mm_k2i h (fun v2 μ1 h => ?_)))
  refine am_if_eq (tgt := 23) dX6_generation_5 (by decide) (fun c => ?_) (fun c => ?_)
  · have h := h.1 c
    refine am_iconst (v := (-1)) dX6_generation_23 (by decide) ?_
    exact am_iret rfl dX6_generation_24 ⟨_, _, rfl, rfl, h⟩
  · have h := h.2 c
    refine am_aloadr_n (x := some ρ.1) dX6_generation_8 rfl rfl ?_
    refine am_iconst (v := 0) dX6_generation_9 (by decide) ?_
    refine am_aloadr_n (x := some ρ.1) dX6_generation_10 rfl rfl ?_
    refine mm_gA (k := 35) rfl isA_35 q2354 dX6_generation_11 ?_
    refine am_iload_n (x := a1) dX6_generation_14 rfl rfl ?_
    refine mm_ldA (k := 35) isA_35 rfl rfl dX6_generation_15 h.1 ?_
    have h := h.2
    refine am_iconst (v := 2) dX6_generation_16 (by decide) ?_
    refine mm_callV (Mc := m_X6_get) (as := [.int 0, .int (mA μ1 35 (Int32.toNatClampNeg a1)), .int 2]) rfl bm_X6_get q2666 q2668 qs88 (Nat.le_of_ble_eq_true rfl) dX6_generation_17 (mt_X6_get (mm_k2i h (fun v4 μ3 h => ?_)))
    refine am_goto (tgt := 24) dX6_generation_20 (by decide) ?_
    exact am_iret rfl dX6_generation_24 ⟨_, _, rfl, rfl, h⟩
theorem W_X6_has_f {G : am_G} {ρ : mm_F} {d : Nat} {a1 : Int32} {a2 : Int32} {μ : mm_S} {Q : Int32 → mm_S → Prop} (h : W_X6_isLiving G ρ d a1 μ (fun v2 μ1 => ((v2 = 0 → Q 0 μ1) ∧ (¬ v2 = 0 → W_X6_isName G ρ d a2 μ1 (fun v4 μ3 => ((v4 = 0 → Q 0 μ3) ∧ (¬ v4 = 0 → (vp_in a1 40 ∧ W_X6_fieldAt G ρ d 0 (mA μ3 35 (Int32.toNatClampNeg a1)) a2 μ3 (fun v6 μ5 => ((v6 = (-1) → Q 0 μ5) ∧ (¬ v6 = (-1) → Q 1 μ5))))))))))) : W_X6_has G ρ (d + 1) a1 a2 μ Q := by
  unfold W_X6_has
  refine am_aloadr_n (x := some ρ.1) dX6_has_0 rfl rfl ?_
  refine am_iload_n (x := a1) dX6_has_1 rfl rfl ?_
  refine mm_callV (Mc := m_X6_isLiving) (as := [.int a1]) rfl bm_X6_isLiving q2835 q2837 qs121 (Nat.le_of_ble_eq_true rfl) dX6_has_2 (mt_X6_isLiving (mm_k2i h (fun v2 μ1 h => ?_)))
  refine am_if_eq (tgt := 35) dX6_has_5 (by decide) (fun c => ?_) (fun c => ?_)
  · have h := h.1 c
    refine am_iconst (v := 0) dX6_has_35 (by decide) ?_
    exact am_zret rfl rfl dX6_has_36 ⟨_, _, rfl, rfl, h⟩
  · have h := h.2 c
    refine am_iload_n (x := a2) dX6_has_8 rfl rfl ?_
    refine mm_callS (Mc := m_X6_isName) (as := [.int a2]) rfl bm_X6_isName q2847 q2848 (Nat.le_of_ble_eq_true rfl) dX6_has_9 (mt_X6_isName (mm_k2i h (fun v4 μ3 h => ?_)))
    refine am_if_eq (tgt := 35) dX6_has_12 (by decide) (fun c => ?_) (fun c => ?_)
    · have h := h.1 c
      refine am_iconst (v := 0) dX6_has_35 (by decide) ?_
      exact am_zret rfl rfl dX6_has_36 ⟨_, _, rfl, rfl, h⟩
    · have h := h.2 c
      refine am_aloadr_n (x := some ρ.1) dX6_has_15 rfl rfl ?_
      refine am_iconst (v := 0) dX6_has_16 (by decide) ?_
      refine am_aloadr_n (x := some ρ.1) dX6_has_17 rfl rfl ?_
      refine mm_gA (k := 35) rfl isA_35 q2354 dX6_has_18 ?_
      refine am_iload_n (x := a1) dX6_has_21 rfl rfl ?_
      refine mm_ldA (k := 35) isA_35 rfl rfl dX6_has_22 h.1 ?_
      have h := h.2
      refine am_iload_n (x := a2) dX6_has_23 rfl rfl ?_
      refine mm_callV (Mc := m_X6_fieldAt) (as := [.int 0, .int (mA μ3 35 (Int32.toNatClampNeg a1)), .int a2]) rfl bm_X6_fieldAt q2819 q2821 qs120 (Nat.le_of_ble_eq_true rfl) dX6_has_24 (mt_X6_fieldAt (mm_k2i h (fun v6 μ5 h => ?_)))
      refine am_iconst (v := (-1)) dX6_has_27 (by decide) ?_
      refine am_icmp_eq (tgt := 35) dX6_has_28 (by decide) (fun c => ?_) (fun c => ?_)
      · have h := h.1 c
        refine am_iconst (v := 0) dX6_has_35 (by decide) ?_
        exact am_zret rfl rfl dX6_has_36 ⟨_, _, rfl, rfl, h⟩
      · have h := h.2 c
        refine am_iconst (v := 1) dX6_has_31 (by decide) ?_
        refine am_goto (tgt := 36) dX6_has_32 (by decide) ?_
        exact am_zret rfl rfl dX6_has_36 ⟨_, _, rfl, rfl, h⟩
theorem W_X6_isName_f {G : am_G} {ρ : mm_F} {d : Nat} {a1 : Int32} {μ : mm_S} {Q : Int32 → mm_S → Prop} (h : W_X6_isIn G ρ d a1 0 39 μ (fun v2 μ1 => (narrow .boolean (.int v2) = .int v2 ∧ Q v2 μ1))) : W_X6_isName G ρ (d + 1) a1 μ Q := by
  unfold W_X6_isName
  refine am_iload_n (x := a1) dX6_isName_0 rfl rfl ?_
  refine am_iconst (v := 0) dX6_isName_1 (by decide) ?_
  refine am_bipush (v := 39) dX6_isName_2 (by decide) ?_
  refine mm_callS (Mc := m_X6_isIn) (as := [.int a1, .int 0, .int 39]) rfl bm_X6_isIn q2636 q2637 (Nat.le_of_ble_eq_true rfl) dX6_isName_4 (mt_X6_isIn (mm_k2i h (fun v2 μ1 h => ?_)))
  exact am_zret rfl h.1 dX6_isName_7 ⟨_, _, rfl, rfl, h.2⟩
theorem W_X6_value_f {G : am_G} {ρ : mm_F} {d : Nat} {a1 : Int32} {a2 : Int32} {μ : mm_S} {Q : Int32 → mm_S → Prop} (h : W_X6_has G ρ d a1 a2 μ (fun v2 μ1 => ((v2 = 0 → W_X6_isLiving G ρ d a1 μ1 (fun v4 μ3 => ((v4 = 0 → Q 0 μ3) ∧ (¬ v4 = 0 → W_X6_isName G ρ d a2 μ3 (fun v6 μ5 => ((v6 = 0 → Q 0 μ5) ∧ (¬ v6 = 0 → (vp_in ((40 * a1) + a2) 1600 ∧ (((mA μ5 38 (Int32.toNatClampNeg ((40 * a1) + a2))) = 0 → Q 0 μ5) ∧ (¬ (mA μ5 38 (Int32.toNatClampNeg ((40 * a1) + a2))) = 0 → (vp_in ((40 * a1) + a2) 1600 ∧ Q (mA μ5 37 (Int32.toNatClampNeg ((40 * a1) + a2))) μ5))))))))))) ∧ (¬ v2 = 0 → (vp_in ((40 * a1) + a2) 1600 ∧ Q (mA μ1 36 (Int32.toNatClampNeg ((40 * a1) + a2))) μ1))))) : W_X6_value G ρ (d + 1) a1 a2 μ Q := by
  unfold W_X6_value
  refine am_aloadr_n (x := some ρ.1) dX6_value_0 rfl rfl ?_
  refine am_iload_n (x := a1) dX6_value_1 rfl rfl ?_
  refine am_iload_n (x := a2) dX6_value_2 rfl rfl ?_
  refine mm_callV (Mc := m_X6_has) (as := [.int a1, .int a2]) rfl bm_X6_has q2854 q2844 q2845 (Nat.le_of_ble_eq_true rfl) dX6_value_3 (mt_X6_has (mm_k2i h (fun v2 μ1 h => ?_)))
  refine am_if_eq (tgt := 21) dX6_value_6 (by decide) (fun c => ?_) (fun c => ?_)
  · have h := h.1 c
    refine am_aloadr_n (x := some ρ.1) dX6_value_21 rfl rfl ?_
    refine am_iload_n (x := a1) dX6_value_22 rfl rfl ?_
    refine mm_callV (Mc := m_X6_isLiving) (as := [.int a1]) rfl bm_X6_isLiving q2835 q2837 qs121 (Nat.le_of_ble_eq_true rfl) dX6_value_23 (mt_X6_isLiving (mm_k2i h (fun v4 μ3 h => ?_)))
    refine am_if_eq (tgt := 64) dX6_value_26 (by decide) (fun c => ?_) (fun c => ?_)
    · have h := h.1 c
      refine am_iconst (v := 0) dX6_value_64 (by decide) ?_
      exact am_iret rfl dX6_value_65 ⟨_, _, rfl, rfl, h⟩
    · have h := h.2 c
      refine am_iload_n (x := a2) dX6_value_29 rfl rfl ?_
      refine mm_callS (Mc := m_X6_isName) (as := [.int a2]) rfl bm_X6_isName q2847 q2848 (Nat.le_of_ble_eq_true rfl) dX6_value_30 (mt_X6_isName (mm_k2i h (fun v6 μ5 h => ?_)))
      refine am_if_eq (tgt := 64) dX6_value_33 (by decide) (fun c => ?_) (fun c => ?_)
      · have h := h.1 c
        refine am_iconst (v := 0) dX6_value_64 (by decide) ?_
        exact am_iret rfl dX6_value_65 ⟨_, _, rfl, rfl, h⟩
      · have h := h.2 c
        refine am_aloadr_n (x := some ρ.1) dX6_value_36 rfl rfl ?_
        refine mm_gA (k := 38) rfl isA_38 q2357 dX6_value_37 ?_
        refine am_bipush (v := 40) dX6_value_40 (by decide) ?_
        refine am_iload_n (x := a1) dX6_value_42 rfl rfl ?_
        refine am_imul dX6_value_43 ?_
        refine am_iload_n (x := a2) dX6_value_44 rfl rfl ?_
        refine am_iadd dX6_value_45 ?_
        refine mm_ldZ (k := 38) isA_38 rfl rfl dX6_value_46 h.1 ?_
        have h := h.2
        refine am_if_eq (tgt := 64) dX6_value_47 (by decide) (fun c => ?_) (fun c => ?_)
        · have h := h.1 c
          refine am_iconst (v := 0) dX6_value_64 (by decide) ?_
          exact am_iret rfl dX6_value_65 ⟨_, _, rfl, rfl, h⟩
        · have h := h.2 c
          refine am_aloadr_n (x := some ρ.1) dX6_value_50 rfl rfl ?_
          refine mm_gA (k := 37) rfl isA_37 q2356 dX6_value_51 ?_
          refine am_bipush (v := 40) dX6_value_54 (by decide) ?_
          refine am_iload_n (x := a1) dX6_value_56 rfl rfl ?_
          refine am_imul dX6_value_57 ?_
          refine am_iload_n (x := a2) dX6_value_58 rfl rfl ?_
          refine am_iadd dX6_value_59 ?_
          refine mm_ldA (k := 37) isA_37 rfl rfl dX6_value_60 h.1 ?_
          have h := h.2
          refine am_goto (tgt := 65) dX6_value_61 (by decide) ?_
          exact am_iret rfl dX6_value_65 ⟨_, _, rfl, rfl, h⟩
  · have h := h.2 c
    refine am_aloadr_n (x := some ρ.1) dX6_value_9 rfl rfl ?_
    refine mm_gA (k := 36) rfl isA_36 q2355 dX6_value_10 ?_
    refine am_bipush (v := 40) dX6_value_13 (by decide) ?_
    refine am_iload_n (x := a1) dX6_value_15 rfl rfl ?_
    refine am_imul dX6_value_16 ?_
    refine am_iload_n (x := a2) dX6_value_17 rfl rfl ?_
    refine am_iadd dX6_value_18 ?_
    refine mm_ldA (k := 36) isA_36 rfl rfl dX6_value_19 h.1 ?_
    have h := h.2
    exact am_iret rfl dX6_value_20 ⟨_, _, rfl, rfl, h⟩
theorem W_X6_put_f {G : am_G} {ρ : mm_F} {d : Nat} {a1 : Int32} {a2 : Int32} {a3 : Int32} {μ : mm_S} {Q : Int32 → mm_S → Prop} (h : W_X6_has G ρ d a1 a2 μ (fun v2 μ1 => ((¬ v2 = 0 → (vp_in ((40 * a1) + a2) 1600 ∧ ∀ μ3 : mm_S, μ3 = mm_sA μ1 36 (Int32.toNatClampNeg ((40 * a1) + a2)) a3 → (Q 1 μ3))) ∧ (v2 = 0 → Q 0 μ1)))) : W_X6_put G ρ (d + 1) a1 a2 a3 μ Q := by
  unfold W_X6_put
  refine am_aloadr_n (x := some ρ.1) dX6_put_0 rfl rfl ?_
  refine am_iload_n (x := a1) dX6_put_1 rfl rfl ?_
  refine am_iload_n (x := a2) dX6_put_2 rfl rfl ?_
  refine mm_callV (Mc := m_X6_has) (as := [.int a1, .int a2]) rfl bm_X6_has q2854 q2844 q2845 (Nat.le_of_ble_eq_true rfl) dX6_put_3 (mt_X6_has (mm_k2i h (fun v2 μ1 h => ?_)))
  refine am_if_ne (tgt := 11) dX6_put_6 (by decide) (fun c => ?_) (fun c => ?_)
  · have h := h.1 c
    refine am_aloadr_n (x := some ρ.1) dX6_put_11 rfl rfl ?_
    refine mm_gA (k := 36) rfl isA_36 q2355 dX6_put_12 ?_
    refine am_bipush (v := 40) dX6_put_15 (by decide) ?_
    refine am_iload_n (x := a1) dX6_put_17 rfl rfl ?_
    refine am_imul dX6_put_18 ?_
    refine am_iload_n (x := a2) dX6_put_19 rfl rfl ?_
    refine am_iadd dX6_put_20 ?_
    refine am_iload_n (x := a3) dX6_put_21 rfl rfl ?_
    refine mm_stA (k := 36) isA_36 rfl rfl dX6_put_22 h.1 ?_
    have h := h.2
    generalize eμ3 : mm_sA μ1 36 (Int32.toNatClampNeg ((40 * a1) + a2)) a3 = μ3
    have h := h μ3 eμ3.symm
    refine am_iconst (v := 1) dX6_put_23 (by decide) ?_
    exact am_zret rfl rfl dX6_put_24 ⟨_, _, rfl, rfl, h⟩
  · have h := h.2 c
    refine am_iconst (v := 0) dX6_put_9 (by decide) ?_
    exact am_zret rfl rfl dX6_put_10 ⟨_, _, rfl, rfl, h⟩
theorem W_X6_fixed_f {G : am_G} {ρ : mm_F} {d : Nat} {a1 : Int32} {a2 : Int32} {μ : mm_S} {Q : Int32 → mm_S → Prop} (h : W_X6_find G ρ d 0 a1 μ (fun v2 μ1 => ((v2 = (-1) → B_X6_fixed_30 G ρ (d + 1) a2 (-1) μ1 Q) ∧ (¬ v2 = (-1) → W_X6_isName G ρ d a2 μ1 (fun v4 μ3 => ((¬ v4 = 0 → W_X6_fixedAt G ρ d 0 v2 a2 μ3 (fun v6 μ5 => B_X6_fixed_30 G ρ (d + 1) a2 v6 μ5 Q)) ∧ (v4 = 0 → B_X6_fixed_30 G ρ (d + 1) a2 (-1) μ3 Q))))))) : W_X6_fixed G ρ (d + 1) a1 a2 μ Q := by
  unfold W_X6_fixed
  refine am_aloadr_n (x := some ρ.1) dX6_fixed_0 rfl rfl ?_
  refine am_iconst (v := 0) dX6_fixed_1 (by decide) ?_
  refine am_iload_n (x := a1) dX6_fixed_2 rfl rfl ?_
  refine mm_callV (Mc := m_X6_find) (as := [.int 0, .int a1]) rfl bm_X6_find q2658 q2660 qs86 (Nat.le_of_ble_eq_true rfl) dX6_fixed_3 (mt_X6_find (mm_k2i h (fun v2 μ1 h => ?_)))
  refine am_istore_n (L' := [(6, .int v2), (0, va_rf (some ρ.1)), (2, .int a1), (4, .int a2)]) dX6_fixed_6 rfl (Nat.le_of_ble_eq_true rfl) rfl ?_
  refine am_iload_n (x := v2) dX6_fixed_7 rfl rfl ?_
  refine am_iconst (v := (-1)) dX6_fixed_8 (by decide) ?_
  refine am_icmp_eq (tgt := 19) dX6_fixed_9 (by decide) (fun c => ?_) (fun c => ?_)
  · have h := h.1 c
    refine am_iconst (v := (-1)) dX6_fixed_19 (by decide) ?_
    refine am_goto (tgt := 30) dX6_fixed_20 (by decide) ?_
    exact am_lss h rfl
  · have h := h.2 c
    refine am_iload_n (x := a2) dX6_fixed_12 rfl rfl ?_
    refine mm_callS (Mc := m_X6_isName) (as := [.int a2]) rfl bm_X6_isName q2847 q2848 (Nat.le_of_ble_eq_true rfl) dX6_fixed_13 (mt_X6_isName (mm_k2i h (fun v4 μ3 h => ?_)))
    refine am_if_ne (tgt := 23) dX6_fixed_16 (by decide) (fun c => ?_) (fun c => ?_)
    · have h := h.1 c
      refine am_aloadr_n (x := some ρ.1) dX6_fixed_23 rfl rfl ?_
      refine am_iconst (v := 0) dX6_fixed_24 (by decide) ?_
      refine am_iload_n (x := v2) dX6_fixed_25 rfl rfl ?_
      refine am_iload_n (x := a2) dX6_fixed_26 rfl rfl ?_
      refine mm_callV (Mc := m_X6_fixedAt) (as := [.int 0, .int v2, .int a2]) rfl bm_X6_fixedAt q2863 q2865 qs122 (Nat.le_of_ble_eq_true rfl) dX6_fixed_27 (mt_X6_fixedAt (mm_k2i h (fun v6 μ5 h => ?_)))
      exact am_lss h rfl
    · have h := h.2 c
      refine am_iconst (v := (-1)) dX6_fixed_19 (by decide) ?_
      refine am_goto (tgt := 30) dX6_fixed_20 (by decide) ?_
      exact am_lss h rfl
theorem B_X6_fixed_30_f {G : am_G} {ρ : mm_F} {d : Nat} {x2 : Int32} {s0 : Int32} {μ : mm_S} {Q : Int32 → mm_S → Prop} (h : ((¬ s0 = (-1) → W_X6_fixedOf G ρ d 0 s0 x2 μ (fun v2 μ1 => W_X6_get G ρ d 0 s0 (35 + v2) μ1 (fun v4 μ3 => Q v4 μ3))) ∧ (s0 = (-1) → Q 0 μ))) : B_X6_fixed_30 G ρ (d + 1) x2 s0 μ Q := by
  unfold B_X6_fixed_30
  refine am_istore (L' := [(8, .int s0), (0, va_rf (some ρ.1)), (4, .int x2)]) dX6_fixed_30 (Nat.le_of_ble_eq_true rfl) rfl ?_
  refine am_iload (x := s0) dX6_fixed_32 rfl ?_
  refine am_iconst (v := (-1)) dX6_fixed_34 (by decide) ?_
  refine am_icmp_ne (tgt := 42) dX6_fixed_35 (by decide) (fun c => ?_) (fun c => ?_)
  · have h := h.1 c
    refine am_aloadr_n (x := some ρ.1) dX6_fixed_42 rfl rfl ?_
    refine am_iconst (v := 0) dX6_fixed_43 (by decide) ?_
    refine am_iload (x := s0) dX6_fixed_44 rfl ?_
    refine am_bipush (v := 35) dX6_fixed_46 (by decide) ?_
    refine am_aloadr_n (x := some ρ.1) dX6_fixed_48 rfl rfl ?_
    refine am_iconst (v := 0) dX6_fixed_49 (by decide) ?_
    refine am_iload (x := s0) dX6_fixed_50 rfl ?_
    refine am_iload_n (x := x2) dX6_fixed_52 rfl rfl ?_
    refine mm_callV (Mc := m_X6_fixedOf) (as := [.int 0, .int s0, .int x2]) rfl bm_X6_fixedOf q2702 q2704 qs97 (Nat.le_of_ble_eq_true rfl) dX6_fixed_53 (mt_X6_fixedOf (mm_k2i h (fun v2 μ1 h => ?_)))
    refine am_iadd dX6_fixed_56 ?_
    refine mm_callV (Mc := m_X6_get) (as := [.int 0, .int s0, .int (35 + v2)]) rfl bm_X6_get q2666 q2668 qs88 (Nat.le_of_ble_eq_true rfl) dX6_fixed_57 (mt_X6_get (mm_k2i h (fun v4 μ3 h => ?_)))
    exact am_iret rfl dX6_fixed_60 ⟨_, _, rfl, rfl, h⟩
  · have h := h.2 c
    refine am_iconst (v := 0) dX6_fixed_38 (by decide) ?_
    refine am_goto (tgt := 60) dX6_fixed_39 (by decide) ?_
    exact am_iret rfl dX6_fixed_60 ⟨_, _, rfl, rfl, h⟩
theorem W_X6_fixedAt_f {G : am_G} {ρ : mm_F} {d : Nat} {a1 : Int32} {a2 : Int32} {a3 : Int32} {μ : mm_S} {Q : Int32 → mm_S → Prop} (h : B_X6_fixedAt_3 G ρ (d + 1) a1 a3 a2 μ Q) : W_X6_fixedAt G ρ (d + 1) a1 a2 a3 μ Q := by
  unfold W_X6_fixedAt
  refine am_iload_n (x := a2) dX6_fixedAt_0 rfl rfl ?_
  refine am_istore (L' := [(8, .int a2), (0, va_rf (some ρ.1)), (2, .int a1), (4, .int a2), (6, .int a3)]) dX6_fixedAt_1 (Nat.le_of_ble_eq_true rfl) rfl ?_
  exact am_lss h rfl
theorem B_X6_fixedAt_3_f {G : am_G} {ρ : mm_F} {d : Nat} {x1 : Int32} {x3 : Int32} {x4 : Int32} {μ : mm_S} {Q : Int32 → mm_S → Prop} (h : ((x4 = (-1) → Q x4 μ) ∧ (¬ x4 = (-1) → W_X6_fixedOf G ρ d x1 x4 x3 μ (fun v2 μ1 => ((¬ v2 = (-1) → Q x4 μ1) ∧ (v2 = (-1) → W_X6_get G ρ d x1 x4 1 μ1 (fun v4 μ3 => B_X6_fixedAt_3 G ρ (d + 1) x1 x3 v4 μ3 Q))))))) : B_X6_fixedAt_3 G ρ (d + 1) x1 x3 x4 μ Q := by
  unfold B_X6_fixedAt_3
  refine am_iload (x := x4) dX6_fixedAt_3 rfl ?_
  refine am_iconst (v := (-1)) dX6_fixedAt_5 (by decide) ?_
  refine am_icmp_eq (tgt := 34) dX6_fixedAt_6 (by decide) (fun c => ?_) (fun c => ?_)
  · have h := h.1 c
    refine am_iload (x := x4) dX6_fixedAt_34 rfl ?_
    exact am_iret rfl dX6_fixedAt_36 ⟨_, _, rfl, rfl, h⟩
  · have h := h.2 c
    refine am_aloadr_n (x := some ρ.1) dX6_fixedAt_9 rfl rfl ?_
    refine am_iload_n (x := x1) dX6_fixedAt_10 rfl rfl ?_
    refine am_iload (x := x4) dX6_fixedAt_11 rfl ?_
    refine am_iload_n (x := x3) dX6_fixedAt_13 rfl rfl ?_
    refine mm_callV (Mc := m_X6_fixedOf) (as := [.int x1, .int x4, .int x3]) rfl bm_X6_fixedOf q2702 q2704 qs97 (Nat.le_of_ble_eq_true rfl) dX6_fixedAt_14 (mt_X6_fixedOf (mm_k2i h (fun v2 μ1 h => ?_)))
    refine am_iconst (v := (-1)) dX6_fixedAt_17 (by decide) ?_
    refine am_icmp_ne (tgt := 34) dX6_fixedAt_18 (by decide) (fun c => ?_) (fun c => ?_)
    · have h := h.1 c
      refine am_iload (x := x4) dX6_fixedAt_34 rfl ?_
      exact am_iret rfl dX6_fixedAt_36 ⟨_, _, rfl, rfl, h⟩
    · have h := h.2 c
      refine am_aloadr_n (x := some ρ.1) dX6_fixedAt_21 rfl rfl ?_
      refine am_iload_n (x := x1) dX6_fixedAt_22 rfl rfl ?_
      refine am_iload (x := x4) dX6_fixedAt_23 rfl ?_
      refine am_iconst (v := 1) dX6_fixedAt_25 (by decide) ?_
      refine mm_callV (Mc := m_X6_get) (as := [.int x1, .int x4, .int 1]) rfl bm_X6_get q2666 q2668 qs88 (Nat.le_of_ble_eq_true rfl) dX6_fixedAt_26 (mt_X6_get (mm_k2i h (fun v4 μ3 h => ?_)))
      refine am_istore (L' := [(8, .int v4), (0, va_rf (some ρ.1)), (2, .int x1), (6, .int x3)]) dX6_fixedAt_29 (Nat.le_of_ble_eq_true rfl) rfl ?_
      refine am_goto (tgt := 3) dX6_fixedAt_31 (by decide) ?_
      exact am_lss h rfl
theorem W_X6_sum_2_f {G : am_G} {ρ : mm_F} {d : Nat} {a1 : Int32} {μ : mm_S} {Q : Int64 → mm_S → Prop} (h : B_X6_sum_2_5 G ρ (d + 1) a1 0 0 μ Q) : W_X6_sum_2 G ρ (d + 1) a1 μ Q := by
  unfold W_X6_sum_2
  refine am_lconst (v := 0) dX6_sum_2_0 (by decide) ?_
  refine am_lstore_n (L' := [(5, .long 0), (0, va_rf (some ρ.1)), (2, .int a1)]) dX6_sum_2_1 rfl (Nat.le_of_ble_eq_true rfl) rfl ?_
  refine am_iconst (v := 0) dX6_sum_2_2 (by decide) ?_
  refine am_istore (L' := [(8, .int 0), (5, .long 0), (0, va_rf (some ρ.1)), (2, .int a1)]) dX6_sum_2_3 (Nat.le_of_ble_eq_true rfl) rfl ?_
  exact am_lss h rfl
theorem B_X6_sum_2_5_f {G : am_G} {ρ : mm_F} {d : Nat} {x1 : Int32} {x2 : Int64} {x4 : Int32} {μ : mm_S} {Q : Int64 → mm_S → Prop} (h : (((mI μ 33) ≤ x4 → Q x2 μ) ∧ (¬ (mI μ 33) ≤ x4 → W_X6_has G ρ d x4 x1 μ (fun v2 μ1 => ((v2 = 0 → B_X6_sum_2_5 G ρ (d + 1) x1 (x2 + 0) (x4 + 1) μ1 Q) ∧ (¬ v2 = 0 → (vp_in ((40 * x4) + x1) 1600 ∧ B_X6_sum_2_5 G ρ (d + 1) x1 (x2 + (Int32.toInt64 (mA μ1 36 (Int32.toNatClampNeg ((40 * x4) + x1))))) (x4 + 1) μ1 Q))))))) : B_X6_sum_2_5 G ρ (d + 1) x1 x2 x4 μ Q := by
  unfold B_X6_sum_2_5
  refine am_iload (x := x4) dX6_sum_2_5 rfl ?_
  refine am_aloadr_n (x := some ρ.1) dX6_sum_2_7 rfl rfl ?_
  refine mm_gI (k := 33) rfl (Or.inl rfl) (by decide) q2352 dX6_sum_2_8 ?_
  refine am_icmp_ge (tgt := 50) dX6_sum_2_11 (by decide) (fun c => ?_) (fun c => ?_)
  · have h := h.1 c
    refine am_lload_n (x := x2) dX6_sum_2_50 rfl rfl ?_
    exact am_lret rfl dX6_sum_2_51 ⟨_, _, rfl, rfl, h⟩
  · have h := h.2 c
    refine am_lload_n (x := x2) dX6_sum_2_14 rfl rfl ?_
    refine am_aloadr_n (x := some ρ.1) dX6_sum_2_15 rfl rfl ?_
    refine am_iload (x := x4) dX6_sum_2_16 rfl ?_
    refine am_iload_n (x := x1) dX6_sum_2_18 rfl rfl ?_
    refine mm_callV (Mc := m_X6_has) (as := [.int x4, .int x1]) rfl bm_X6_has q2854 q2844 q2845 (Nat.le_of_ble_eq_true rfl) dX6_sum_2_19 (mt_X6_has (mm_k2i h (fun v2 μ1 h => ?_)))
    refine am_if_eq (tgt := 41) dX6_sum_2_22 (by decide) (fun c => ?_) (fun c => ?_)
    · have h := h.1 c
      refine am_lconst (v := 0) dX6_sum_2_41 (by decide) ?_
      refine am_ladd dX6_sum_2_42 ?_
      refine am_lstore_n (L' := [(5, .long (x2 + 0)), (0, va_rf (some ρ.1)), (2, .int x1), (8, .int x4)]) dX6_sum_2_43 rfl (Nat.le_of_ble_eq_true rfl) rfl ?_
      refine am_iinc (x := x4) (v := (x4 + 1)) (L' := [(8, .int (x4 + 1)), (5, .long (x2 + 0)), (0, va_rf (some ρ.1)), (2, .int x1)]) dX6_sum_2_44 rfl rfl (Nat.le_of_ble_eq_true rfl) rfl ?_
      refine am_goto (tgt := 5) dX6_sum_2_47 (by decide) ?_
      exact am_lss h rfl
    · have h := h.2 c
      refine am_aloadr_n (x := some ρ.1) dX6_sum_2_25 rfl rfl ?_
      refine mm_gA (k := 36) rfl isA_36 q2355 dX6_sum_2_26 ?_
      refine am_bipush (v := 40) dX6_sum_2_29 (by decide) ?_
      refine am_iload (x := x4) dX6_sum_2_31 rfl ?_
      refine am_imul dX6_sum_2_33 ?_
      refine am_iload_n (x := x1) dX6_sum_2_34 rfl rfl ?_
      refine am_iadd dX6_sum_2_35 ?_
      refine mm_ldA (k := 36) isA_36 rfl rfl dX6_sum_2_36 h.1 ?_
      have h := h.2
      refine am_i2l dX6_sum_2_37 rfl ?_
      refine am_goto (tgt := 42) dX6_sum_2_38 (by decide) ?_
      refine am_ladd dX6_sum_2_42 ?_
      refine am_lstore_n (L' := [(5, .long (x2 + (Int32.toInt64 (mA μ1 36 (Int32.toNatClampNeg ((40 * x4) + x1)))))), (0, va_rf (some ρ.1)), (2, .int x1), (8, .int x4)]) dX6_sum_2_43 rfl (Nat.le_of_ble_eq_true rfl) rfl ?_
      refine am_iinc (x := x4) (v := (x4 + 1)) (L' := [(8, .int (x4 + 1)), (5, .long (x2 + (Int32.toInt64 (mA μ1 36 (Int32.toNatClampNeg ((40 * x4) + x1)))))), (0, va_rf (some ρ.1)), (2, .int x1)]) dX6_sum_2_44 rfl rfl (Nat.le_of_ble_eq_true rfl) rfl ?_
      refine am_goto (tgt := 5) dX6_sum_2_47 (by decide) ?_
      exact am_lss h rfl
theorem W_X6_act_f {G : am_G} {ρ : mm_F} {d : Nat} {a1 : Int32} {a2 : Int32} {a3 : Int32} {μ : mm_S} {Q : Int32 → mm_S → Prop} (h : W_X6_clear G ρ d μ (fun μ1 => W_X6_isLiving G ρ d a1 μ1 (fun v3 μ2 => ((v3 = 0 → B_X6_act_47 G ρ (d + 1) 3 μ2 Q) ∧ (¬ v3 = 0 → W_X6_opens_2 G ρ d 0 a1 a2 a3 μ2 (fun v5 μ4 => ((v5 = 0 → B_X6_act_47 G ρ (d + 1) 2 μ4 Q) ∧ (¬ v5 = 0 → (vp_in 0 252 ∧ W_X6_goes G ρ d (mA μ4 49 (Int32.toNatClampNeg 0)) 0 0 μ4 (fun v7 μ6 => W_X6_came G ρ d v7 μ6 (fun v9 μ8 => B_X6_act_47 G ρ (d + 1) v9 μ8 Q))))))))))) : W_X6_act G ρ (d + 1) a1 a2 a3 μ Q := by
  unfold W_X6_act
  refine am_aloadr_n (x := some ρ.1) dX6_act_0 rfl rfl ?_
  refine mm_callV (Mc := m_X6_clear) (as := []) rfl bm_X6_clear q2875 q2877 qs123 (Nat.le_of_ble_eq_true rfl) dX6_act_1 (mt_X6_clear (mm_k2v h (fun μ1 h => ?_)))
  refine am_iconst (v := 3) dX6_act_4 (by decide) ?_
  refine am_istore (L' := [(8, .int 3), (0, va_rf (some ρ.1)), (2, .int a1), (4, .int a2), (6, .int a3)]) dX6_act_5 (Nat.le_of_ble_eq_true rfl) rfl ?_
  refine am_aloadr_n (x := some ρ.1) dX6_act_7 rfl rfl ?_
  refine am_iload_n (x := a1) dX6_act_8 rfl rfl ?_
  refine mm_callV (Mc := m_X6_isLiving) (as := [.int a1]) rfl bm_X6_isLiving q2835 q2837 qs121 (Nat.le_of_ble_eq_true rfl) dX6_act_9 (mt_X6_isLiving (mm_k2i h (fun v3 μ2 h => ?_)))
  refine am_if_eq (tgt := 47) dX6_act_12 (by decide) (fun c => ?_) (fun c => ?_)
  · have h := h.1 c
    exact am_lss h rfl
  · have h := h.2 c
    refine am_iconst (v := 2) dX6_act_15 (by decide) ?_
    refine am_istore (L' := [(8, .int 2), (0, va_rf (some ρ.1)), (2, .int a1), (4, .int a2), (6, .int a3)]) dX6_act_16 (Nat.le_of_ble_eq_true rfl) rfl ?_
    refine am_aloadr_n (x := some ρ.1) dX6_act_18 rfl rfl ?_
    refine am_iconst (v := 0) dX6_act_19 (by decide) ?_
    refine am_iload_n (x := a1) dX6_act_20 rfl rfl ?_
    refine am_iload_n (x := a2) dX6_act_21 rfl rfl ?_
    refine am_iload_n (x := a3) dX6_act_22 rfl rfl ?_
    refine mm_callV (Mc := m_X6_opens_2) (as := [.int 0, .int a1, .int a2, .int a3]) rfl bm_X6_opens_2 q2879 q2881 qs124 (Nat.le_of_ble_eq_true rfl) dX6_act_23 (mt_X6_opens_2 (mm_k2i h (fun v5 μ4 h => ?_)))
    refine am_if_eq (tgt := 47) dX6_act_26 (by decide) (fun c => ?_) (fun c => ?_)
    · have h := h.1 c
      exact am_lss h rfl
    · have h := h.2 c
      refine am_aloadr_n (x := some ρ.1) dX6_act_29 rfl rfl ?_
      refine am_aloadr_n (x := some ρ.1) dX6_act_30 rfl rfl ?_
      refine am_aloadr_n (x := some ρ.1) dX6_act_31 rfl rfl ?_
      refine mm_gA (k := 49) rfl isA_49 q2368 dX6_act_32 ?_
      refine am_iconst (v := 0) dX6_act_35 (by decide) ?_
      refine mm_ldA (k := 49) isA_49 rfl rfl dX6_act_36 h.1 ?_
      have h := h.2
      refine am_iconst (v := 0) dX6_act_37 (by decide) ?_
      refine am_iconst (v := 0) dX6_act_38 (by decide) ?_
      refine mm_callV (Mc := m_X6_goes) (as := [.int (mA μ4 49 (Int32.toNatClampNeg 0)), .int 0, .int 0]) rfl bm_X6_goes q2887 q2889 qs126 (Nat.le_of_ble_eq_true rfl) dX6_act_39 (mt_X6_goes (mm_k2i h (fun v7 μ6 h => ?_)))
      refine mm_callV (Mc := m_X6_came) (as := [.int v7]) rfl bm_X6_came q2942 q2944 qs139 (Nat.le_of_ble_eq_true rfl) dX6_act_42 (mt_X6_came (mm_k2i h (fun v9 μ8 h => ?_)))
      refine am_istore (L' := [(8, .int v9), (0, va_rf (some ρ.1)), (2, .int a1), (4, .int a2), (6, .int a3)]) dX6_act_45 (Nat.le_of_ble_eq_true rfl) rfl ?_
      exact am_lss h rfl
theorem B_X6_act_47_f {G : am_G} {ρ : mm_F} {d : Nat} {x4 : Int32} {μ : mm_S} {Q : Int32 → mm_S → Prop} (h : ((¬ x4 = 0 → B_X6_act_61 G ρ (d + 1) x4 0 μ Q) ∧ (x4 = 0 → B_X6_act_61 G ρ (d + 1) x4 (mI μ 40) μ Q))) : B_X6_act_47 G ρ (d + 1) x4 μ Q := by
  unfold B_X6_act_47
  refine am_aloadr_n (x := some ρ.1) dX6_act_47 rfl rfl ?_
  refine am_iload (x := x4) dX6_act_48 rfl ?_
  refine am_if_ne (tgt := 60) dX6_act_50 (by decide) (fun c => ?_) (fun c => ?_)
  · have h := h.1 c
    refine am_iconst (v := 0) dX6_act_60 (by decide) ?_
    exact am_lss h rfl
  · have h := h.2 c
    refine am_aloadr_n (x := some ρ.1) dX6_act_53 rfl rfl ?_
    refine mm_gI (k := 40) rfl (Or.inl rfl) (by decide) q2359 dX6_act_54 ?_
    refine am_goto (tgt := 61) dX6_act_57 (by decide) ?_
    exact am_lss h rfl
theorem B_X6_act_61_f {G : am_G} {ρ : mm_F} {d : Nat} {x4 : Int32} {s0 : Int32} {μ : mm_S} {Q : Int32 → mm_S → Prop} (h : (∀ μ1 : mm_S, μ1 = mm_sI μ 56 s0 → (((¬ x4 = 1 → (∀ μ2 : mm_S, μ2 = mm_sI μ1 57 0 → ((∀ μ3 : mm_S, μ3 = mm_sI μ2 58 (mI μ2 41) → (Q x4 μ3))))) ∧ (x4 = 1 → (∀ μ4 : mm_S, μ4 = mm_sI μ1 57 (mI μ1 39) → ((∀ μ5 : mm_S, μ5 = mm_sI μ4 58 (mI μ4 41) → (Q x4 μ5))))))))) : B_X6_act_61 G ρ (d + 1) x4 s0 μ Q := by
  unfold B_X6_act_61
  refine mm_pI (k := 56) rfl rfl rfl (by decide) q2375 rfl dX6_act_61 ?_
  generalize eμ1 : mm_sI μ 56 s0 = μ1
  have h := h μ1 eμ1.symm
  refine am_aloadr_n (x := some ρ.1) dX6_act_64 rfl rfl ?_
  refine am_iload (x := x4) dX6_act_65 rfl ?_
  refine am_iconst (v := 1) dX6_act_67 (by decide) ?_
  refine am_icmp_ne (tgt := 78) dX6_act_68 (by decide) (fun c => ?_) (fun c => ?_)
  · have h := h.1 c
    refine am_iconst (v := 0) dX6_act_78 (by decide) ?_
    refine mm_pI (k := 57) rfl rfl rfl (by decide) q2376 rfl dX6_act_79 ?_
    generalize eμ2 : mm_sI μ1 57 0 = μ2
    have h := h μ2 eμ2.symm
    refine am_aloadr_n (x := some ρ.1) dX6_act_82 rfl rfl ?_
    refine am_aloadr_n (x := some ρ.1) dX6_act_83 rfl rfl ?_
    refine mm_gI (k := 41) rfl (Or.inl rfl) (by decide) q2360 dX6_act_84 ?_
    refine mm_pI (k := 58) rfl rfl rfl (by decide) q2377 rfl dX6_act_87 ?_
    generalize eμ3 : mm_sI μ2 58 (mI μ2 41) = μ3
    have h := h μ3 eμ3.symm
    refine am_iload (x := x4) dX6_act_90 rfl ?_
    exact am_iret rfl dX6_act_92 ⟨_, _, rfl, rfl, h⟩
  · have h := h.2 c
    refine am_aloadr_n (x := some ρ.1) dX6_act_71 rfl rfl ?_
    refine mm_gI (k := 39) rfl (Or.inl rfl) (by decide) q2358 dX6_act_72 ?_
    refine am_goto (tgt := 79) dX6_act_75 (by decide) ?_
    refine mm_pI (k := 57) rfl rfl rfl (by decide) q2376 rfl dX6_act_79 ?_
    generalize eμ4 : mm_sI μ1 57 (mI μ1 39) = μ4
    have h := h μ4 eμ4.symm
    refine am_aloadr_n (x := some ρ.1) dX6_act_82 rfl rfl ?_
    refine am_aloadr_n (x := some ρ.1) dX6_act_83 rfl rfl ?_
    refine mm_gI (k := 41) rfl (Or.inl rfl) (by decide) q2360 dX6_act_84 ?_
    refine mm_pI (k := 58) rfl rfl rfl (by decide) q2377 rfl dX6_act_87 ?_
    generalize eμ5 : mm_sI μ4 58 (mI μ4 41) = μ5
    have h := h μ5 eμ5.symm
    refine am_iload (x := x4) dX6_act_90 rfl ?_
    exact am_iret rfl dX6_act_92 ⟨_, _, rfl, rfl, h⟩
theorem W_X6_clear_f {G : am_G} {ρ : mm_F} {d : Nat}  {μ : mm_S} {Q : mm_S → Prop} (h : (∀ μ1 : mm_S, μ1 = mm_sI μ 41 0 → ((∀ μ2 : mm_S, μ2 = mm_sI μ1 39 0 → ((∀ μ3 : mm_S, μ3 = mm_sI μ2 40 0 → ((∀ μ4 : mm_S, μ4 = mm_sI μ3 42 0 → (Q μ4))))))))) : W_X6_clear G ρ d  μ Q := by
  unfold W_X6_clear
  refine am_aloadr_n (x := some ρ.1) dX6_clear_0 rfl rfl ?_
  refine am_iconst (v := 0) dX6_clear_1 (by decide) ?_
  refine mm_pI (k := 41) rfl rfl rfl (by decide) q2360 rfl dX6_clear_2 ?_
  generalize eμ1 : mm_sI μ 41 0 = μ1
  have h := h μ1 eμ1.symm
  refine am_aloadr_n (x := some ρ.1) dX6_clear_5 rfl rfl ?_
  refine am_iconst (v := 0) dX6_clear_6 (by decide) ?_
  refine mm_pI (k := 39) rfl rfl rfl (by decide) q2358 rfl dX6_clear_7 ?_
  generalize eμ2 : mm_sI μ1 39 0 = μ2
  have h := h μ2 eμ2.symm
  refine am_aloadr_n (x := some ρ.1) dX6_clear_10 rfl rfl ?_
  refine am_iconst (v := 0) dX6_clear_11 (by decide) ?_
  refine mm_pI (k := 40) rfl rfl rfl (by decide) q2359 rfl dX6_clear_12 ?_
  generalize eμ3 : mm_sI μ2 40 0 = μ3
  have h := h μ3 eμ3.symm
  refine am_aloadr_n (x := some ρ.1) dX6_clear_15 rfl rfl ?_
  refine am_iconst (v := 0) dX6_clear_16 (by decide) ?_
  refine mm_pZ (k := 42) rfl rfl rfl (by decide) q2361 rfl (by decide) dX6_clear_17 ?_
  generalize eμ4 : mm_sI μ3 42 0 = μ4
  have h := h μ4 eμ4.symm
  exact am_vret rfl dX6_clear_20 ⟨_, rfl, rfl, h⟩
theorem W_X6_opens_2_f {G : am_G} {ρ : mm_F} {d : Nat} {a1 : Int32} {a2 : Int32} {a3 : Int32} {a4 : Int32} {μ : mm_S} {Q : Int32 → mm_S → Prop} (h : (vp_in a2 40 ∧ W_X6_acts G ρ d a1 (mA μ 35 (Int32.toNatClampNeg a2)) a3 μ (fun v2 μ1 => (vp_in a1 21 ∧ ∀ μ3 : mm_S, μ3 = mm_sA μ1 46 (Int32.toNatClampNeg a1) v2 → ((vp_in a1 21 ∧ ∀ μ4 : mm_S, μ4 = mm_sA μ3 47 (Int32.toNatClampNeg a1) 0 → ((vp_in a1 21 ∧ ∀ μ5 : mm_S, μ5 = mm_sA μ4 43 (Int32.toNatClampNeg a1) a2 → ((vp_in a1 21 ∧ ∀ μ6 : mm_S, μ6 = mm_sA μ5 44 (Int32.toNatClampNeg a1) a4 → ((vp_in a1 21 ∧ ∀ μ7 : mm_S, μ7 = mm_sA μ6 45 (Int32.toNatClampNeg a1) 0 → ((vp_in a1 21 ∧ ∀ μ8 : mm_S, μ8 = mm_sA μ7 48 (Int32.toNatClampNeg a1) a3 → ((vp_in a1 21 ∧ (((mA μ8 46 (Int32.toNatClampNeg a1)) ≤ 0 → Q 0 μ8) ∧ (¬ (mA μ8 46 (Int32.toNatClampNeg a1)) ≤ 0 → Q 1 μ8)))))))))))))))))) : W_X6_opens_2 G ρ (d + 1) a1 a2 a3 a4 μ Q := by
  unfold W_X6_opens_2
  refine am_aloadr_n (x := some ρ.1) dX6_opens_2_0 rfl rfl ?_
  refine mm_gA (k := 46) rfl isA_46 q2365 dX6_opens_2_1 ?_
  refine am_iload_n (x := a1) dX6_opens_2_4 rfl rfl ?_
  refine am_aloadr_n (x := some ρ.1) dX6_opens_2_5 rfl rfl ?_
  refine am_iload_n (x := a1) dX6_opens_2_6 rfl rfl ?_
  refine am_aloadr_n (x := some ρ.1) dX6_opens_2_7 rfl rfl ?_
  refine mm_gA (k := 35) rfl isA_35 q2354 dX6_opens_2_8 ?_
  refine am_iload_n (x := a2) dX6_opens_2_11 rfl rfl ?_
  refine mm_ldA (k := 35) isA_35 rfl rfl dX6_opens_2_12 h.1 ?_
  have h := h.2
  refine am_iload_n (x := a3) dX6_opens_2_13 rfl rfl ?_
  refine mm_callV (Mc := m_X6_acts) (as := [.int a1, .int (mA μ 35 (Int32.toNatClampNeg a2)), .int a3]) rfl bm_X6_acts q2883 q2885 qs125 (Nat.le_of_ble_eq_true rfl) dX6_opens_2_14 (mt_X6_acts (mm_k2i h (fun v2 μ1 h => ?_)))
  refine mm_stA (k := 46) isA_46 rfl rfl dX6_opens_2_17 h.1 ?_
  have h := h.2
  generalize eμ3 : mm_sA μ1 46 (Int32.toNatClampNeg a1) v2 = μ3
  have h := h μ3 eμ3.symm
  refine am_aloadr_n (x := some ρ.1) dX6_opens_2_18 rfl rfl ?_
  refine mm_gA (k := 47) rfl isA_47 q2366 dX6_opens_2_19 ?_
  refine am_iload_n (x := a1) dX6_opens_2_22 rfl rfl ?_
  refine am_iconst (v := 0) dX6_opens_2_23 (by decide) ?_
  refine mm_stA (k := 47) isA_47 rfl rfl dX6_opens_2_24 h.1 ?_
  have h := h.2
  generalize eμ4 : mm_sA μ3 47 (Int32.toNatClampNeg a1) 0 = μ4
  have h := h μ4 eμ4.symm
  refine am_aloadr_n (x := some ρ.1) dX6_opens_2_25 rfl rfl ?_
  refine mm_gA (k := 43) rfl isA_43 q2362 dX6_opens_2_26 ?_
  refine am_iload_n (x := a1) dX6_opens_2_29 rfl rfl ?_
  refine am_iload_n (x := a2) dX6_opens_2_30 rfl rfl ?_
  refine mm_stA (k := 43) isA_43 rfl rfl dX6_opens_2_31 h.1 ?_
  have h := h.2
  generalize eμ5 : mm_sA μ4 43 (Int32.toNatClampNeg a1) a2 = μ5
  have h := h μ5 eμ5.symm
  refine am_aloadr_n (x := some ρ.1) dX6_opens_2_32 rfl rfl ?_
  refine mm_gA (k := 44) rfl isA_44 q2363 dX6_opens_2_33 ?_
  refine am_iload_n (x := a1) dX6_opens_2_36 rfl rfl ?_
  refine am_iload (x := a4) dX6_opens_2_37 rfl ?_
  refine mm_stA (k := 44) isA_44 rfl rfl dX6_opens_2_39 h.1 ?_
  have h := h.2
  generalize eμ6 : mm_sA μ5 44 (Int32.toNatClampNeg a1) a4 = μ6
  have h := h μ6 eμ6.symm
  refine am_aloadr_n (x := some ρ.1) dX6_opens_2_40 rfl rfl ?_
  refine mm_gA (k := 45) rfl isA_45 q2364 dX6_opens_2_41 ?_
  refine am_iload_n (x := a1) dX6_opens_2_44 rfl rfl ?_
  refine am_iconst (v := 0) dX6_opens_2_45 (by decide) ?_
  refine mm_stA (k := 45) isA_45 rfl rfl dX6_opens_2_46 h.1 ?_
  have h := h.2
  generalize eμ7 : mm_sA μ6 45 (Int32.toNatClampNeg a1) 0 = μ7
  have h := h μ7 eμ7.symm
  refine am_aloadr_n (x := some ρ.1) dX6_opens_2_47 rfl rfl ?_
  refine mm_gA (k := 48) rfl isA_48 q2367 dX6_opens_2_48 ?_
  refine am_iload_n (x := a1) dX6_opens_2_51 rfl rfl ?_
  refine am_iload_n (x := a3) dX6_opens_2_52 rfl rfl ?_
  refine mm_stA (k := 48) isA_48 rfl rfl dX6_opens_2_53 h.1 ?_
  have h := h.2
  generalize eμ8 : mm_sA μ7 48 (Int32.toNatClampNeg a1) a3 = μ8
  have h := h μ8 eμ8.symm
  refine am_aloadr_n (x := some ρ.1) dX6_opens_2_54 rfl rfl ?_
  refine mm_gA (k := 46) rfl isA_46 q2365 dX6_opens_2_55 ?_
  refine am_iload_n (x := a1) dX6_opens_2_58 rfl rfl ?_
  refine mm_ldA (k := 46) isA_46 rfl rfl dX6_opens_2_59 h.1 ?_
  have h := h.2
  refine am_if_le (tgt := 67) dX6_opens_2_60 (by decide) (fun c => ?_) (fun c => ?_)
  · have h := h.1 c
    refine am_iconst (v := 0) dX6_opens_2_67 (by decide) ?_
    exact am_zret rfl rfl dX6_opens_2_68 ⟨_, _, rfl, rfl, h⟩
  · have h := h.2 c
    refine am_iconst (v := 1) dX6_opens_2_63 (by decide) ?_
    refine am_goto (tgt := 68) dX6_opens_2_64 (by decide) ?_
    exact am_zret rfl rfl dX6_opens_2_68 ⟨_, _, rfl, rfl, h⟩
theorem W_X6_acts_f {G : am_G} {ρ : mm_F} {d : Nat} {a1 : Int32} {a2 : Int32} {a3 : Int32} {μ : mm_S} {Q : Int32 → mm_S → Prop} (h : B_X6_acts_6 G ρ (d + 1) a1 a3 0 a2 μ Q) : W_X6_acts G ρ (d + 1) a1 a2 a3 μ Q := by
  unfold W_X6_acts
  refine am_iconst (v := 0) dX6_acts_0 (by decide) ?_
  refine am_istore (L' := [(8, .int 0), (0, va_rf (some ρ.1)), (2, .int a1), (4, .int a2), (6, .int a3)]) dX6_acts_1 (Nat.le_of_ble_eq_true rfl) rfl ?_
  refine am_iload_n (x := a2) dX6_acts_3 rfl rfl ?_
  refine am_istore (L' := [(10, .int a2), (8, .int 0), (0, va_rf (some ρ.1)), (2, .int a1), (4, .int a2), (6, .int a3)]) dX6_acts_4 (Nat.le_of_ble_eq_true rfl) rfl ?_
  exact am_lss h rfl
theorem B_X6_acts_6_f {G : am_G} {ρ : mm_F} {d : Nat} {x1 : Int32} {x3 : Int32} {x4 : Int32} {x5 : Int32} {μ : mm_S} {Q : Int32 → mm_S → Prop} (h : ((x5 = (-1) → Q x4 μ) ∧ (¬ x5 = (-1) → W_X6_actOf G ρ d 0 x5 x3 μ (fun v2 μ1 => ((¬ v2 = (-1) → W_X6_get G ρ d 0 x5 (48 + v2) μ1 (fun v4 μ3 => (vp_in ((12 * x1) + x4) 252 ∧ ∀ μ5 : mm_S, μ5 = mm_sA μ3 49 (Int32.toNatClampNeg ((12 * x1) + x4)) v4 → (W_X6_get G ρ d 0 x5 0 μ5 (fun v7 μ6 => (vp_in ((12 * x1) + x4) 252 ∧ ∀ μ8 : mm_S, μ8 = mm_sA μ6 50 (Int32.toNatClampNeg ((12 * x1) + x4)) v7 → (W_X6_get G ρ d 0 x5 2 μ8 (fun v10 μ9 => (vp_in ((12 * x1) + x4) 252 ∧ ∀ μ11 : mm_S, μ11 = mm_sA μ9 51 (Int32.toNatClampNeg ((12 * x1) + x4)) v10 → (W_X6_get G ρ d 0 x5 1 μ11 (fun v13 μ12 => B_X6_acts_6 G ρ (d + 1) x1 x3 (x4 + 1) v13 μ12 Q))))))))))) ∧ (v2 = (-1) → W_X6_get G ρ d 0 x5 1 μ1 (fun v15 μ14 => B_X6_acts_6 G ρ (d + 1) x1 x3 x4 v15 μ14 Q))))))) : B_X6_acts_6 G ρ (d + 1) x1 x3 x4 x5 μ Q := by
  unfold B_X6_acts_6
  refine am_iload (x := x5) dX6_acts_6 rfl ?_
  refine am_iconst (v := (-1)) dX6_acts_8 (by decide) ?_
  refine am_icmp_eq (tgt := 111) dX6_acts_9 (by decide) (fun c => ?_) (fun c => ?_)
  · have h := h.1 c
    refine am_iload (x := x4) dX6_acts_111 rfl ?_
    exact am_iret rfl dX6_acts_113 ⟨_, _, rfl, rfl, h⟩
  · have h := h.2 c
    refine am_aloadr_n (x := some ρ.1) dX6_acts_12 rfl rfl ?_
    refine am_iconst (v := 0) dX6_acts_13 (by decide) ?_
    refine am_iload (x := x5) dX6_acts_14 rfl ?_
    refine am_iload_n (x := x3) dX6_acts_16 rfl rfl ?_
    refine mm_callV (Mc := m_X6_actOf) (as := [.int 0, .int x5, .int x3]) rfl bm_X6_actOf q2690 q2692 qs94 (Nat.le_of_ble_eq_true rfl) dX6_acts_17 (mt_X6_actOf (mm_k2i h (fun v2 μ1 h => ?_)))
    refine am_istore (L' := [(12, .int v2), (0, va_rf (some ρ.1)), (2, .int x1), (6, .int x3), (8, .int x4), (10, .int x5)]) dX6_acts_20 (Nat.le_of_ble_eq_true rfl) rfl ?_
    refine am_iload (x := v2) dX6_acts_22 rfl ?_
    refine am_iconst (v := (-1)) dX6_acts_24 (by decide) ?_
    refine am_icmp_ne (tgt := 31) dX6_acts_25 (by decide) (fun c => ?_) (fun c => ?_)
    · have h := h.1 c
      refine am_aloadr_n (x := some ρ.1) dX6_acts_31 rfl rfl ?_
      refine mm_gA (k := 49) rfl isA_49 q2368 dX6_acts_32 ?_
      refine am_bipush (v := 12) dX6_acts_35 (by decide) ?_
      refine am_iload_n (x := x1) dX6_acts_37 rfl rfl ?_
      refine am_imul dX6_acts_38 ?_
      refine am_iload (x := x4) dX6_acts_39 rfl ?_
      refine am_iadd dX6_acts_41 ?_
      refine am_aloadr_n (x := some ρ.1) dX6_acts_42 rfl rfl ?_
      refine am_iconst (v := 0) dX6_acts_43 (by decide) ?_
      refine am_iload (x := x5) dX6_acts_44 rfl ?_
      refine am_bipush (v := 48) dX6_acts_46 (by decide) ?_
      refine am_iload (x := v2) dX6_acts_48 rfl ?_
      refine am_iadd dX6_acts_50 ?_
      refine mm_callV (Mc := m_X6_get) (as := [.int 0, .int x5, .int (48 + v2)]) rfl bm_X6_get q2666 q2668 qs88 (Nat.le_of_ble_eq_true rfl) dX6_acts_51 (mt_X6_get (mm_k2i h (fun v4 μ3 h => ?_)))
      refine mm_stA (k := 49) isA_49 rfl rfl dX6_acts_54 h.1 ?_
      have h := h.2
      generalize eμ5 : mm_sA μ3 49 (Int32.toNatClampNeg ((12 * x1) + x4)) v4 = μ5
      have h := h μ5 eμ5.symm
      refine am_aloadr_n (x := some ρ.1) dX6_acts_55 rfl rfl ?_
      refine mm_gA (k := 50) rfl isA_50 q2369 dX6_acts_56 ?_
      refine am_bipush (v := 12) dX6_acts_59 (by decide) ?_
      refine am_iload_n (x := x1) dX6_acts_61 rfl rfl ?_
      refine am_imul dX6_acts_62 ?_
      refine am_iload (x := x4) dX6_acts_63 rfl ?_
      refine am_iadd dX6_acts_65 ?_
      refine am_aloadr_n (x := some ρ.1) dX6_acts_66 rfl rfl ?_
      refine am_iconst (v := 0) dX6_acts_67 (by decide) ?_
      refine am_iload (x := x5) dX6_acts_68 rfl ?_
      refine am_iconst (v := 0) dX6_acts_70 (by decide) ?_
      refine mm_callV (Mc := m_X6_get) (as := [.int 0, .int x5, .int 0]) rfl bm_X6_get q2666 q2668 qs88 (Nat.le_of_ble_eq_true rfl) dX6_acts_71 (mt_X6_get (mm_k2i h (fun v7 μ6 h => ?_)))
      refine mm_stA (k := 50) isA_50 rfl rfl dX6_acts_74 h.1 ?_
      have h := h.2
      generalize eμ8 : mm_sA μ6 50 (Int32.toNatClampNeg ((12 * x1) + x4)) v7 = μ8
      have h := h μ8 eμ8.symm
      refine am_aloadr_n (x := some ρ.1) dX6_acts_75 rfl rfl ?_
      refine mm_gA (k := 51) rfl isA_51 q2370 dX6_acts_76 ?_
      refine am_bipush (v := 12) dX6_acts_79 (by decide) ?_
      refine am_iload_n (x := x1) dX6_acts_81 rfl rfl ?_
      refine am_imul dX6_acts_82 ?_
      refine am_iload (x := x4) dX6_acts_83 rfl ?_
      refine am_iadd dX6_acts_85 ?_
      refine am_aloadr_n (x := some ρ.1) dX6_acts_86 rfl rfl ?_
      refine am_iconst (v := 0) dX6_acts_87 (by decide) ?_
      refine am_iload (x := x5) dX6_acts_88 rfl ?_
      refine am_iconst (v := 2) dX6_acts_90 (by decide) ?_
      refine mm_callV (Mc := m_X6_get) (as := [.int 0, .int x5, .int 2]) rfl bm_X6_get q2666 q2668 qs88 (Nat.le_of_ble_eq_true rfl) dX6_acts_91 (mt_X6_get (mm_k2i h (fun v10 μ9 h => ?_)))
      refine mm_stA (k := 51) isA_51 rfl rfl dX6_acts_94 h.1 ?_
      have h := h.2
      generalize eμ11 : mm_sA μ9 51 (Int32.toNatClampNeg ((12 * x1) + x4)) v10 = μ11
      have h := h μ11 eμ11.symm
      refine am_iinc (x := x4) (v := (x4 + 1)) (L' := [(8, .int (x4 + 1)), (12, .int v2), (0, va_rf (some ρ.1)), (2, .int x1), (6, .int x3), (10, .int x5)]) dX6_acts_95 rfl rfl (Nat.le_of_ble_eq_true rfl) rfl ?_
      refine am_aloadr_n (x := some ρ.1) dX6_acts_98 rfl rfl ?_
      refine am_iconst (v := 0) dX6_acts_99 (by decide) ?_
      refine am_iload (x := x5) dX6_acts_100 rfl ?_
      refine am_iconst (v := 1) dX6_acts_102 (by decide) ?_
      refine mm_callV (Mc := m_X6_get) (as := [.int 0, .int x5, .int 1]) rfl bm_X6_get q2666 q2668 qs88 (Nat.le_of_ble_eq_true rfl) dX6_acts_103 (mt_X6_get (mm_k2i h (fun v13 μ12 h => ?_)))
      refine am_istore (L' := [(10, .int v13), (8, .int (x4 + 1)), (12, .int v2), (0, va_rf (some ρ.1)), (2, .int x1), (6, .int x3)]) dX6_acts_106 (Nat.le_of_ble_eq_true rfl) rfl ?_
      refine am_goto (tgt := 6) dX6_acts_108 (by decide) ?_
      exact am_lss h rfl
    · have h := h.2 c
      refine am_goto (tgt := 98) dX6_acts_28 (by decide) ?_
      refine am_aloadr_n (x := some ρ.1) dX6_acts_98 rfl rfl ?_
      refine am_iconst (v := 0) dX6_acts_99 (by decide) ?_
      refine am_iload (x := x5) dX6_acts_100 rfl ?_
      refine am_iconst (v := 1) dX6_acts_102 (by decide) ?_
      refine mm_callV (Mc := m_X6_get) (as := [.int 0, .int x5, .int 1]) rfl bm_X6_get q2666 q2668 qs88 (Nat.le_of_ble_eq_true rfl) dX6_acts_103 (mt_X6_get (mm_k2i h (fun v15 μ14 h => ?_)))
      refine am_istore (L' := [(10, .int v15), (12, .int v2), (0, va_rf (some ρ.1)), (2, .int x1), (6, .int x3), (8, .int x4)]) dX6_acts_106 (Nat.le_of_ble_eq_true rfl) rfl ?_
      refine am_goto (tgt := 6) dX6_acts_108 (by decide) ?_
      exact am_lss h rfl
theorem W_X6_goes_f {G : am_G} {ρ : mm_F} {d : Nat} {a1 : Int32} {a2 : Int32} {a3 : Int32} {μ : mm_S} {Q : Int32 → mm_S → Prop} (h : B_X6_goes_3 G ρ (d + 1) a2 a3 a1 μ Q) : W_X6_goes G ρ (d + 1) a1 a2 a3 μ Q := by
  unfold W_X6_goes
  refine am_iload_n (x := a1) dX6_goes_0 rfl rfl ?_
  refine am_istore (L' := [(8, .int a1), (0, va_rf (some ρ.1)), (2, .int a1), (4, .int a2), (6, .int a3)]) dX6_goes_1 (Nat.le_of_ble_eq_true rfl) rfl ?_
  exact am_lss h rfl
theorem B_X6_goes_3_f {G : am_G} {ρ : mm_F} {d : Nat} {x2 : Int32} {x3 : Int32} {x4 : Int32} {μ : mm_S} {Q : Int32 → mm_S → Prop} (h : ((x4 = (-1) → Q 0 μ) ∧ (¬ x4 = (-1) → ((¬ (mI μ 41) = 500 → (∀ μ1 : mm_S, μ1 = mm_sI μ 41 ((mI μ 41) + 1) → (W_X6_does G ρ d x4 x2 x3 μ1 (fun v3 μ2 => ((¬ v3 = 3 → ((v3 = 0 → W_X6_in G ρ d x4 4 μ2 (fun v5 μ4 => B_X6_goes_3 G ρ (d + 1) x2 x3 v5 μ4 Q)) ∧ (¬ v3 = 0 → Q v3 μ2))) ∧ (v3 = 3 → W_X6_in G ρ d x4 4 μ2 (fun v7 μ6 => (∀ μ8 : mm_S, μ8 = mm_sI μ6 55 v7 → (((v3 = 0 → W_X6_in G ρ d x4 4 μ8 (fun v10 μ9 => B_X6_goes_3 G ρ (d + 1) x2 x3 v10 μ9 Q)) ∧ (¬ v3 = 0 → Q v3 μ8))))))))))) ∧ ((mI μ 41) = 500 → (∀ μ11 : mm_S, μ11 = mm_sI μ 42 1 → (Q 2 μ11))))))) : B_X6_goes_3 G ρ (d + 1) x2 x3 x4 μ Q := by
  unfold B_X6_goes_3
  refine am_iload (x := x4) dX6_goes_3 rfl ?_
  refine am_iconst (v := (-1)) dX6_goes_5 (by decide) ?_
  refine am_icmp_eq (tgt := 83) dX6_goes_6 (by decide) (fun c => ?_) (fun c => ?_)
  · have h := h.1 c
    refine am_iconst (v := 0) dX6_goes_83 (by decide) ?_
    exact am_iret rfl dX6_goes_84 ⟨_, _, rfl, rfl, h⟩
  · have h := h.2 c
    refine am_aloadr_n (x := some ρ.1) dX6_goes_9 rfl rfl ?_
    refine mm_gI (k := 41) rfl (Or.inl rfl) (by decide) q2360 dX6_goes_10 ?_
    refine am_sipush (v := 500) dX6_goes_13 (by decide) ?_
    refine am_icmp_ne (tgt := 26) dX6_goes_16 (by decide) (fun c => ?_) (fun c => ?_)
    · have h := h.1 c
      refine am_aloadr_n (x := some ρ.1) dX6_goes_26 rfl rfl ?_
      refine am_dup dX6_goes_27 (am_rf_cat _) ?_
      refine mm_gI (k := 41) rfl (Or.inl rfl) (by decide) q2360 dX6_goes_28 ?_
      refine am_iconst (v := 1) dX6_goes_31 (by decide) ?_
      refine am_iadd dX6_goes_32 ?_
      refine mm_pI (k := 41) rfl rfl rfl (by decide) q2360 rfl dX6_goes_33 ?_
      generalize eμ1 : mm_sI μ 41 ((mI μ 41) + 1) = μ1
      have h := h μ1 eμ1.symm
      refine am_aloadr_n (x := some ρ.1) dX6_goes_36 rfl rfl ?_
      refine am_iload (x := x4) dX6_goes_37 rfl ?_
      refine am_iload_n (x := x2) dX6_goes_39 rfl rfl ?_
      refine am_iload_n (x := x3) dX6_goes_40 rfl rfl ?_
      refine mm_callV (Mc := m_X6_does) (as := [.int x4, .int x2, .int x3]) rfl bm_X6_does q2891 q2893 qs127 (Nat.le_of_ble_eq_true rfl) dX6_goes_41 (mt_X6_does (mm_k2i h (fun v3 μ2 h => ?_)))
      refine am_istore (L' := [(10, .int v3), (0, va_rf (some ρ.1)), (4, .int x2), (6, .int x3), (8, .int x4)]) dX6_goes_44 (Nat.le_of_ble_eq_true rfl) rfl ?_
      refine am_iload (x := v3) dX6_goes_46 rfl ?_
      refine am_iconst (v := 3) dX6_goes_48 (by decide) ?_
      refine am_icmp_ne (tgt := 63) dX6_goes_49 (by decide) (fun c => ?_) (fun c => ?_)
      · have h := h.1 c
        refine am_iload (x := v3) dX6_goes_63 rfl ?_
        refine am_if_eq (tgt := 71) dX6_goes_65 (by decide) (fun c => ?_) (fun c => ?_)
        · have h := h.1 c
          refine am_aloadr_n (x := some ρ.1) dX6_goes_71 rfl rfl ?_
          refine am_iload (x := x4) dX6_goes_72 rfl ?_
          refine am_iconst (v := 4) dX6_goes_74 (by decide) ?_
          refine mm_callV (Mc := m_X6_in) (as := [.int x4, .int 4]) rfl bm_X6_in q2899 q2901 qs129 (Nat.le_of_ble_eq_true rfl) dX6_goes_75 (mt_X6_in (mm_k2i h (fun v5 μ4 h => ?_)))
          refine am_istore (L' := [(8, .int v5), (10, .int v3), (0, va_rf (some ρ.1)), (4, .int x2), (6, .int x3)]) dX6_goes_78 (Nat.le_of_ble_eq_true rfl) rfl ?_
          refine am_goto (tgt := 3) dX6_goes_80 (by decide) ?_
          exact am_lss h rfl
        · have h := h.2 c
          refine am_iload (x := v3) dX6_goes_68 rfl ?_
          exact am_iret rfl dX6_goes_70 ⟨_, _, rfl, rfl, h⟩
      · have h := h.2 c
        refine am_aloadr_n (x := some ρ.1) dX6_goes_52 rfl rfl ?_
        refine am_aloadr_n (x := some ρ.1) dX6_goes_53 rfl rfl ?_
        refine am_iload (x := x4) dX6_goes_54 rfl ?_
        refine am_iconst (v := 4) dX6_goes_56 (by decide) ?_
        refine mm_callV (Mc := m_X6_in) (as := [.int x4, .int 4]) rfl bm_X6_in q2899 q2901 qs129 (Nat.le_of_ble_eq_true rfl) dX6_goes_57 (mt_X6_in (mm_k2i h (fun v7 μ6 h => ?_)))
        refine mm_pI (k := 55) rfl rfl rfl (by decide) q2374 rfl dX6_goes_60 ?_
        generalize eμ8 : mm_sI μ6 55 v7 = μ8
        have h := h μ8 eμ8.symm
        refine am_iload (x := v3) dX6_goes_63 rfl ?_
        refine am_if_eq (tgt := 71) dX6_goes_65 (by decide) (fun c => ?_) (fun c => ?_)
        · have h := h.1 c
          refine am_aloadr_n (x := some ρ.1) dX6_goes_71 rfl rfl ?_
          refine am_iload (x := x4) dX6_goes_72 rfl ?_
          refine am_iconst (v := 4) dX6_goes_74 (by decide) ?_
          refine mm_callV (Mc := m_X6_in) (as := [.int x4, .int 4]) rfl bm_X6_in q2899 q2901 qs129 (Nat.le_of_ble_eq_true rfl) dX6_goes_75 (mt_X6_in (mm_k2i h (fun v10 μ9 h => ?_)))
          refine am_istore (L' := [(8, .int v10), (10, .int v3), (0, va_rf (some ρ.1)), (4, .int x2), (6, .int x3)]) dX6_goes_78 (Nat.le_of_ble_eq_true rfl) rfl ?_
          refine am_goto (tgt := 3) dX6_goes_80 (by decide) ?_
          exact am_lss h rfl
        · have h := h.2 c
          refine am_iload (x := v3) dX6_goes_68 rfl ?_
          exact am_iret rfl dX6_goes_70 ⟨_, _, rfl, rfl, h⟩
    · have h := h.2 c
      refine am_aloadr_n (x := some ρ.1) dX6_goes_19 rfl rfl ?_
      refine am_iconst (v := 1) dX6_goes_20 (by decide) ?_
      refine mm_pZ (k := 42) rfl rfl rfl (by decide) q2361 rfl (by decide) dX6_goes_21 ?_
      generalize eμ11 : mm_sI μ 42 1 = μ11
      have h := h μ11 eμ11.symm
      refine am_iconst (v := 2) dX6_goes_24 (by decide) ?_
      exact am_iret rfl dX6_goes_25 ⟨_, _, rfl, rfl, h⟩
theorem W_X6_does_f {G : am_G} {ρ : mm_F} {d : Nat} {a1 : Int32} {a2 : Int32} {a3 : Int32} {μ : mm_S} {Q : Int32 → mm_S → Prop} (h : W_X6_of G ρ d a1 0 μ (fun v2 μ1 => ((v2 = 20 → W_X6_in G ρ d a1 2 μ1 (fun v4 μ3 => W_X6_eval G ρ d v4 a2 μ3 (fun v6 μ5 => ((v6 = 0 → Q 2 μ5) ∧ (¬ v6 = 0 → (vp_in a2 21 ∧ W_X6_of G ρ d a1 1 μ5 (fun v8 μ7 => W_X6_sets G ρ d (mA μ5 43 (Int32.toNatClampNeg a2)) v8 μ7 (fun v10 μ9 => ((v10 = 0 → Q 2 μ9) ∧ (¬ v10 = 0 → Q 0 μ9)))))))))) ∧ (v2 = 21 → W_X6_in G ρ d a1 1 μ1 (fun v12 μ11 => W_X6_eval G ρ d v12 a2 μ11 (fun v14 μ13 => ((¬ v14 = 0 → ((¬ v2 = 22 → (∀ μ15 : mm_S, μ15 = mm_sI μ13 40 (mI μ13 52) → (((¬ v2 = 21 → Q 2 μ15) ∧ (v2 = 21 → Q 1 μ15))))) ∧ (v2 = 22 → (∀ μ16 : mm_S, μ16 = mm_sI μ13 39 (mI μ13 52) → ((∀ μ17 : mm_S, μ17 = mm_sI μ16 40 (mI μ16 52) → (((¬ v2 = 21 → Q 2 μ17) ∧ (v2 = 21 → Q 1 μ17))))))))) ∧ (v14 = 0 → Q 2 μ13))))) ∧ (v2 = 22 → W_X6_in G ρ d a1 1 μ1 (fun v19 μ18 => W_X6_eval G ρ d v19 a2 μ18 (fun v21 μ20 => ((¬ v21 = 0 → ((¬ v2 = 22 → (∀ μ22 : mm_S, μ22 = mm_sI μ20 40 (mI μ20 52) → (((¬ v2 = 21 → Q 2 μ22) ∧ (v2 = 21 → Q 1 μ22))))) ∧ (v2 = 22 → (∀ μ23 : mm_S, μ23 = mm_sI μ20 39 (mI μ20 52) → ((∀ μ24 : mm_S, μ24 = mm_sI μ23 40 (mI μ23 52) → (((¬ v2 = 21 → Q 2 μ24) ∧ (v2 = 21 → Q 1 μ24))))))))) ∧ (v21 = 0 → Q 2 μ20))))) ∧ (v2 = 23 → W_X6_up G ρ d a2 μ1 (fun v26 μ25 => ((v26 = 0 → Q 2 μ25) ∧ (¬ v26 = 0 → Q 0 μ25)))) ∧ (v2 = 24 → W_X6_calls G ρ d a1 a2 μ1 (fun v28 μ27 => ((v28 = 0 → Q 2 μ27) ∧ (¬ v28 = 0 → Q 0 μ27)))) ∧ (v2 = 25 → W_X6_calls G ρ d a1 a2 μ1 (fun v30 μ29 => ((v30 = 0 → Q 2 μ29) ∧ (¬ v30 = 0 → Q 0 μ29)))) ∧ (v2 = 26 → ((a3 = 0 → Q 0 μ1) ∧ (¬ a3 = 0 → Q 3 μ1))) ∧ (((v2 : Int32).toInt < 20 ∨ 26 < (v2 : Int32).toInt) → W_X6_in G ρ d a1 1 μ1 (fun v32 μ31 => W_X6_eval G ρ d v32 a2 μ31 (fun v34 μ33 => ((¬ v34 = 0 → (((mI μ33 52) = 0 → W_X6_in G ρ d a1 3 μ33 (fun v36 μ35 => W_X6_goes G ρ d v36 a2 0 μ35 (fun v38 μ37 => Q v38 μ37))) ∧ (¬ (mI μ33 52) = 0 → W_X6_in G ρ d a1 2 μ33 (fun v40 μ39 => W_X6_goes G ρ d v40 a2 0 μ39 (fun v42 μ41 => Q v42 μ41))))) ∧ (v34 = 0 → Q 2 μ33)))))))) : W_X6_does G ρ (d + 1) a1 a2 a3 μ Q := by
  unfold W_X6_does
  refine am_aloadr_n (x := some ρ.1) dX6_does_0 rfl rfl ?_
  refine am_iload_n (x := a1) dX6_does_1 rfl rfl ?_
  refine am_iconst (v := 0) dX6_does_2 (by decide) ?_
  refine mm_callV (Mc := m_X6_of) (as := [.int a1, .int 0]) rfl bm_X6_of q2895 q2897 qs128 (Nat.le_of_ble_eq_true rfl) dX6_does_3 (mt_X6_of (mm_k2i h (fun v2 μ1 h => ?_)))
  refine am_istore (L' := [(8, .int v2), (0, va_rf (some ρ.1)), (2, .int a1), (4, .int a2), (6, .int a3)]) dX6_does_6 (Nat.le_of_ble_eq_true rfl) rfl ?_
  refine am_iload (x := v2) dX6_does_8 rfl ?_
  by_cases c : (v2 : Int32).toInt < 20 ∨ 26 < (v2 : Int32).toInt
  · have h := h.2.2.2.2.2.2.2 c
    refine am_tableOut (tgt := 182) dX6_does_10 c (by decide) ?_
    refine am_aloadr_n (x := some ρ.1) dX6_does_182 rfl rfl ?_
    refine am_aloadr_n (x := some ρ.1) dX6_does_183 rfl rfl ?_
    refine am_iload_n (x := a1) dX6_does_184 rfl rfl ?_
    refine am_iconst (v := 1) dX6_does_185 (by decide) ?_
    refine mm_callV (Mc := m_X6_in) (as := [.int a1, .int 1]) rfl bm_X6_in q2899 q2901 qs129 (Nat.le_of_ble_eq_true rfl) dX6_does_186 (mt_X6_in (mm_k2i h (fun v32 μ31 h => ?_)))
    refine am_iload_n (x := a2) dX6_does_189 rfl rfl ?_
    refine mm_callV (Mc := m_X6_eval) (as := [.int v32, .int a2]) rfl bm_X6_eval q2903 q2905 qs130 (Nat.le_of_ble_eq_true rfl) dX6_does_190 (mt_X6_eval (mm_k2i h (fun v34 μ33 h => ?_)))
    refine am_if_ne (tgt := 198) dX6_does_193 (by decide) (fun c => ?_) (fun c => ?_)
    · have h := h.1 c
      refine am_aloadr_n (x := some ρ.1) dX6_does_198 rfl rfl ?_
      refine am_aloadr_n (x := some ρ.1) dX6_does_199 rfl rfl ?_
      refine mm_gI (k := 52) rfl (Or.inl rfl) (by decide) q2371 dX6_does_200 ?_
      refine am_if_eq (tgt := 215) dX6_does_203 (by decide) (fun c => ?_) (fun c => ?_)
      · have h := h.1 c
        refine am_aloadr_n (x := some ρ.1) dX6_does_215 rfl rfl ?_
        refine am_iload_n (x := a1) dX6_does_216 rfl rfl ?_
        refine am_iconst (v := 3) dX6_does_217 (by decide) ?_
        refine mm_callV (Mc := m_X6_in) (as := [.int a1, .int 3]) rfl bm_X6_in q2899 q2901 qs129 (Nat.le_of_ble_eq_true rfl) dX6_does_218 (mt_X6_in (mm_k2i h (fun v36 μ35 h => ?_)))
        refine am_iload_n (x := a2) dX6_does_221 rfl rfl ?_
        refine am_iconst (v := 0) dX6_does_222 (by decide) ?_
        refine mm_callV (Mc := m_X6_goes) (as := [.int v36, .int a2, .int 0]) rfl bm_X6_goes q2887 q2889 qs126 (Nat.le_of_ble_eq_true rfl) dX6_does_223 (mt_X6_goes (mm_k2i h (fun v38 μ37 h => ?_)))
        exact am_iret rfl dX6_does_226 ⟨_, _, rfl, rfl, h⟩
      · have h := h.2 c
        refine am_aloadr_n (x := some ρ.1) dX6_does_206 rfl rfl ?_
        refine am_iload_n (x := a1) dX6_does_207 rfl rfl ?_
        refine am_iconst (v := 2) dX6_does_208 (by decide) ?_
        refine mm_callV (Mc := m_X6_in) (as := [.int a1, .int 2]) rfl bm_X6_in q2899 q2901 qs129 (Nat.le_of_ble_eq_true rfl) dX6_does_209 (mt_X6_in (mm_k2i h (fun v40 μ39 h => ?_)))
        refine am_goto (tgt := 221) dX6_does_212 (by decide) ?_
        refine am_iload_n (x := a2) dX6_does_221 rfl rfl ?_
        refine am_iconst (v := 0) dX6_does_222 (by decide) ?_
        refine mm_callV (Mc := m_X6_goes) (as := [.int v40, .int a2, .int 0]) rfl bm_X6_goes q2887 q2889 qs126 (Nat.le_of_ble_eq_true rfl) dX6_does_223 (mt_X6_goes (mm_k2i h (fun v42 μ41 h => ?_)))
        exact am_iret rfl dX6_does_226 ⟨_, _, rfl, rfl, h⟩
    · have h := h.2 c
      refine am_iconst (v := 2) dX6_does_196 (by decide) ?_
      exact am_iret rfl dX6_does_197 ⟨_, _, rfl, rfl, h⟩
  · obtain ⟨j, hj, e⟩ := am_tab (lo := 20) (n := 7) c
    match j, hj, e with
    | 0, hj, e =>
      have c : (v2 : Int32) = 20 := Int32.toInt_inj.mp (e.trans (by decide))
      have h := h.1 c
      refine am_tableIn (tgt := 52) dX6_does_10 (by rw [c]; decide) (by rw [c]; decide) (by rw [c]; rfl) (by decide) ?_
      refine am_aloadr_n (x := some ρ.1) dX6_does_52 rfl rfl ?_
      refine am_aloadr_n (x := some ρ.1) dX6_does_53 rfl rfl ?_
      refine am_iload_n (x := a1) dX6_does_54 rfl rfl ?_
      refine am_iconst (v := 2) dX6_does_55 (by decide) ?_
      refine mm_callV (Mc := m_X6_in) (as := [.int a1, .int 2]) rfl bm_X6_in q2899 q2901 qs129 (Nat.le_of_ble_eq_true rfl) dX6_does_56 (mt_X6_in (mm_k2i h (fun v4 μ3 h => ?_)))
      refine am_iload_n (x := a2) dX6_does_59 rfl rfl ?_
      refine mm_callV (Mc := m_X6_eval) (as := [.int v4, .int a2]) rfl bm_X6_eval q2903 q2905 qs130 (Nat.le_of_ble_eq_true rfl) dX6_does_60 (mt_X6_eval (mm_k2i h (fun v6 μ5 h => ?_)))
      refine am_if_eq (tgt := 89) dX6_does_63 (by decide) (fun c => ?_) (fun c => ?_)
      · have h := h.1 c
        refine am_iconst (v := 2) dX6_does_89 (by decide) ?_
        exact am_iret rfl dX6_does_90 ⟨_, _, rfl, rfl, h⟩
      · have h := h.2 c
        refine am_aloadr_n (x := some ρ.1) dX6_does_66 rfl rfl ?_
        refine am_aloadr_n (x := some ρ.1) dX6_does_67 rfl rfl ?_
        refine mm_gA (k := 43) rfl isA_43 q2362 dX6_does_68 ?_
        refine am_iload_n (x := a2) dX6_does_71 rfl rfl ?_
        refine mm_ldA (k := 43) isA_43 rfl rfl dX6_does_72 h.1 ?_
        have h := h.2
        refine am_aloadr_n (x := some ρ.1) dX6_does_73 rfl rfl ?_
        refine am_iload_n (x := a1) dX6_does_74 rfl rfl ?_
        refine am_iconst (v := 1) dX6_does_75 (by decide) ?_
        refine mm_callV (Mc := m_X6_of) (as := [.int a1, .int 1]) rfl bm_X6_of q2895 q2897 qs128 (Nat.le_of_ble_eq_true rfl) dX6_does_76 (mt_X6_of (mm_k2i h (fun v8 μ7 h => ?_)))
        refine mm_callV (Mc := m_X6_sets) (as := [.int (mA μ5 43 (Int32.toNatClampNeg a2)), .int v8]) rfl bm_X6_sets q2922 q2924 qs134 (Nat.le_of_ble_eq_true rfl) dX6_does_79 (mt_X6_sets (mm_k2i h (fun v10 μ9 h => ?_)))
        refine am_if_eq (tgt := 89) dX6_does_82 (by decide) (fun c => ?_) (fun c => ?_)
        · have h := h.1 c
          refine am_iconst (v := 2) dX6_does_89 (by decide) ?_
          exact am_iret rfl dX6_does_90 ⟨_, _, rfl, rfl, h⟩
        · have h := h.2 c
          refine am_iconst (v := 0) dX6_does_85 (by decide) ?_
          refine am_goto (tgt := 90) dX6_does_86 (by decide) ?_
          exact am_iret rfl dX6_does_90 ⟨_, _, rfl, rfl, h⟩
    | 1, hj, e =>
      have c : (v2 : Int32) = 21 := Int32.toInt_inj.mp (e.trans (by decide))
      have h := h.2.1 c
      refine am_tableIn (tgt := 91) dX6_does_10 (by rw [c]; decide) (by rw [c]; decide) (by rw [c]; rfl) (by decide) ?_
      refine am_aloadr_n (x := some ρ.1) dX6_does_91 rfl rfl ?_
      refine am_aloadr_n (x := some ρ.1) dX6_does_92 rfl rfl ?_
      refine am_iload_n (x := a1) dX6_does_93 rfl rfl ?_
      refine am_iconst (v := 1) dX6_does_94 (by decide) ?_
      refine mm_callV (Mc := m_X6_in) (as := [.int a1, .int 1]) rfl bm_X6_in q2899 q2901 qs129 (Nat.le_of_ble_eq_true rfl) dX6_does_95 (mt_X6_in (mm_k2i h (fun v12 μ11 h => ?_)))
      refine am_iload_n (x := a2) dX6_does_98 rfl rfl ?_
      refine mm_callV (Mc := m_X6_eval) (as := [.int v12, .int a2]) rfl bm_X6_eval q2903 q2905 qs130 (Nat.le_of_ble_eq_true rfl) dX6_does_99 (mt_X6_eval (mm_k2i h (fun v14 μ13 h => ?_)))
      refine am_if_ne (tgt := 107) dX6_does_102 (by decide) (fun c => ?_) (fun c => ?_)
      · have h := h.1 c
        refine am_iload (x := v2) dX6_does_107 rfl ?_
        refine am_bipush (v := 22) dX6_does_109 (by decide) ?_
        refine am_icmp_ne (tgt := 122) dX6_does_111 (by decide) (fun c => ?_) (fun c => ?_)
        · have h := h.1 c
          refine am_aloadr_n (x := some ρ.1) dX6_does_122 rfl rfl ?_
          refine am_aloadr_n (x := some ρ.1) dX6_does_123 rfl rfl ?_
          refine mm_gI (k := 52) rfl (Or.inl rfl) (by decide) q2371 dX6_does_124 ?_
          refine mm_pI (k := 40) rfl rfl rfl (by decide) q2359 rfl dX6_does_127 ?_
          generalize eμ15 : mm_sI μ13 40 (mI μ13 52) = μ15
          have h := h μ15 eμ15.symm
          refine am_iload (x := v2) dX6_does_130 rfl ?_
          refine am_bipush (v := 21) dX6_does_132 (by decide) ?_
          refine am_icmp_ne (tgt := 141) dX6_does_134 (by decide) (fun c => ?_) (fun c => ?_)
          · have h := h.1 c
            refine am_iconst (v := 2) dX6_does_141 (by decide) ?_
            exact am_iret rfl dX6_does_142 ⟨_, _, rfl, rfl, h⟩
          · have h := h.2 c
            refine am_iconst (v := 1) dX6_does_137 (by decide) ?_
            refine am_goto (tgt := 142) dX6_does_138 (by decide) ?_
            exact am_iret rfl dX6_does_142 ⟨_, _, rfl, rfl, h⟩
        · have h := h.2 c
          refine am_aloadr_n (x := some ρ.1) dX6_does_114 rfl rfl ?_
          refine am_aloadr_n (x := some ρ.1) dX6_does_115 rfl rfl ?_
          refine mm_gI (k := 52) rfl (Or.inl rfl) (by decide) q2371 dX6_does_116 ?_
          refine mm_pI (k := 39) rfl rfl rfl (by decide) q2358 rfl dX6_does_119 ?_
          generalize eμ16 : mm_sI μ13 39 (mI μ13 52) = μ16
          have h := h μ16 eμ16.symm
          refine am_aloadr_n (x := some ρ.1) dX6_does_122 rfl rfl ?_
          refine am_aloadr_n (x := some ρ.1) dX6_does_123 rfl rfl ?_
          refine mm_gI (k := 52) rfl (Or.inl rfl) (by decide) q2371 dX6_does_124 ?_
          refine mm_pI (k := 40) rfl rfl rfl (by decide) q2359 rfl dX6_does_127 ?_
          generalize eμ17 : mm_sI μ16 40 (mI μ16 52) = μ17
          have h := h μ17 eμ17.symm
          refine am_iload (x := v2) dX6_does_130 rfl ?_
          refine am_bipush (v := 21) dX6_does_132 (by decide) ?_
          refine am_icmp_ne (tgt := 141) dX6_does_134 (by decide) (fun c => ?_) (fun c => ?_)
          · have h := h.1 c
            refine am_iconst (v := 2) dX6_does_141 (by decide) ?_
            exact am_iret rfl dX6_does_142 ⟨_, _, rfl, rfl, h⟩
          · have h := h.2 c
            refine am_iconst (v := 1) dX6_does_137 (by decide) ?_
            refine am_goto (tgt := 142) dX6_does_138 (by decide) ?_
            exact am_iret rfl dX6_does_142 ⟨_, _, rfl, rfl, h⟩
      · have h := h.2 c
        refine am_iconst (v := 2) dX6_does_105 (by decide) ?_
        exact am_iret rfl dX6_does_106 ⟨_, _, rfl, rfl, h⟩
    | 2, hj, e =>
      have c : (v2 : Int32) = 22 := Int32.toInt_inj.mp (e.trans (by decide))
      have h := h.2.2.1 c
      refine am_tableIn (tgt := 91) dX6_does_10 (by rw [c]; decide) (by rw [c]; decide) (by rw [c]; rfl) (by decide) ?_
      refine am_aloadr_n (x := some ρ.1) dX6_does_91 rfl rfl ?_
      refine am_aloadr_n (x := some ρ.1) dX6_does_92 rfl rfl ?_
      refine am_iload_n (x := a1) dX6_does_93 rfl rfl ?_
      refine am_iconst (v := 1) dX6_does_94 (by decide) ?_
      refine mm_callV (Mc := m_X6_in) (as := [.int a1, .int 1]) rfl bm_X6_in q2899 q2901 qs129 (Nat.le_of_ble_eq_true rfl) dX6_does_95 (mt_X6_in (mm_k2i h (fun v19 μ18 h => ?_)))
      refine am_iload_n (x := a2) dX6_does_98 rfl rfl ?_
      refine mm_callV (Mc := m_X6_eval) (as := [.int v19, .int a2]) rfl bm_X6_eval q2903 q2905 qs130 (Nat.le_of_ble_eq_true rfl) dX6_does_99 (mt_X6_eval (mm_k2i h (fun v21 μ20 h => ?_)))
      refine am_if_ne (tgt := 107) dX6_does_102 (by decide) (fun c => ?_) (fun c => ?_)
      · have h := h.1 c
        refine am_iload (x := v2) dX6_does_107 rfl ?_
        refine am_bipush (v := 22) dX6_does_109 (by decide) ?_
        refine am_icmp_ne (tgt := 122) dX6_does_111 (by decide) (fun c => ?_) (fun c => ?_)
        · have h := h.1 c
          refine am_aloadr_n (x := some ρ.1) dX6_does_122 rfl rfl ?_
          refine am_aloadr_n (x := some ρ.1) dX6_does_123 rfl rfl ?_
          refine mm_gI (k := 52) rfl (Or.inl rfl) (by decide) q2371 dX6_does_124 ?_
          refine mm_pI (k := 40) rfl rfl rfl (by decide) q2359 rfl dX6_does_127 ?_
          generalize eμ22 : mm_sI μ20 40 (mI μ20 52) = μ22
          have h := h μ22 eμ22.symm
          refine am_iload (x := v2) dX6_does_130 rfl ?_
          refine am_bipush (v := 21) dX6_does_132 (by decide) ?_
          refine am_icmp_ne (tgt := 141) dX6_does_134 (by decide) (fun c => ?_) (fun c => ?_)
          · have h := h.1 c
            refine am_iconst (v := 2) dX6_does_141 (by decide) ?_
            exact am_iret rfl dX6_does_142 ⟨_, _, rfl, rfl, h⟩
          · have h := h.2 c
            refine am_iconst (v := 1) dX6_does_137 (by decide) ?_
            refine am_goto (tgt := 142) dX6_does_138 (by decide) ?_
            exact am_iret rfl dX6_does_142 ⟨_, _, rfl, rfl, h⟩
        · have h := h.2 c
          refine am_aloadr_n (x := some ρ.1) dX6_does_114 rfl rfl ?_
          refine am_aloadr_n (x := some ρ.1) dX6_does_115 rfl rfl ?_
          refine mm_gI (k := 52) rfl (Or.inl rfl) (by decide) q2371 dX6_does_116 ?_
          refine mm_pI (k := 39) rfl rfl rfl (by decide) q2358 rfl dX6_does_119 ?_
          generalize eμ23 : mm_sI μ20 39 (mI μ20 52) = μ23
          have h := h μ23 eμ23.symm
          refine am_aloadr_n (x := some ρ.1) dX6_does_122 rfl rfl ?_
          refine am_aloadr_n (x := some ρ.1) dX6_does_123 rfl rfl ?_
          refine mm_gI (k := 52) rfl (Or.inl rfl) (by decide) q2371 dX6_does_124 ?_
          refine mm_pI (k := 40) rfl rfl rfl (by decide) q2359 rfl dX6_does_127 ?_
          generalize eμ24 : mm_sI μ23 40 (mI μ23 52) = μ24
          have h := h μ24 eμ24.symm
          refine am_iload (x := v2) dX6_does_130 rfl ?_
          refine am_bipush (v := 21) dX6_does_132 (by decide) ?_
          refine am_icmp_ne (tgt := 141) dX6_does_134 (by decide) (fun c => ?_) (fun c => ?_)
          · have h := h.1 c
            refine am_iconst (v := 2) dX6_does_141 (by decide) ?_
            exact am_iret rfl dX6_does_142 ⟨_, _, rfl, rfl, h⟩
          · have h := h.2 c
            refine am_iconst (v := 1) dX6_does_137 (by decide) ?_
            refine am_goto (tgt := 142) dX6_does_138 (by decide) ?_
            exact am_iret rfl dX6_does_142 ⟨_, _, rfl, rfl, h⟩
      · have h := h.2 c
        refine am_iconst (v := 2) dX6_does_105 (by decide) ?_
        exact am_iret rfl dX6_does_106 ⟨_, _, rfl, rfl, h⟩
    | 3, hj, e =>
      have c : (v2 : Int32) = 23 := Int32.toInt_inj.mp (e.trans (by decide))
      have h := h.2.2.2.1 c
      refine am_tableIn (tgt := 143) dX6_does_10 (by rw [c]; decide) (by rw [c]; decide) (by rw [c]; rfl) (by decide) ?_
      refine am_aloadr_n (x := some ρ.1) dX6_does_143 rfl rfl ?_
      refine am_iload_n (x := a2) dX6_does_144 rfl rfl ?_
      refine mm_callV (Mc := m_X6_up) (as := [.int a2]) rfl bm_X6_up q2926 q2928 qs135 (Nat.le_of_ble_eq_true rfl) dX6_does_145 (mt_X6_up (mm_k2i h (fun v26 μ25 h => ?_)))
      refine am_if_eq (tgt := 155) dX6_does_148 (by decide) (fun c => ?_) (fun c => ?_)
      · have h := h.1 c
        refine am_iconst (v := 2) dX6_does_155 (by decide) ?_
        exact am_iret rfl dX6_does_156 ⟨_, _, rfl, rfl, h⟩
      · have h := h.2 c
        refine am_iconst (v := 0) dX6_does_151 (by decide) ?_
        refine am_goto (tgt := 156) dX6_does_152 (by decide) ?_
        exact am_iret rfl dX6_does_156 ⟨_, _, rfl, rfl, h⟩
    | 4, hj, e =>
      have c : (v2 : Int32) = 24 := Int32.toInt_inj.mp (e.trans (by decide))
      have h := h.2.2.2.2.1 c
      refine am_tableIn (tgt := 157) dX6_does_10 (by rw [c]; decide) (by rw [c]; decide) (by rw [c]; rfl) (by decide) ?_
      refine am_aloadr_n (x := some ρ.1) dX6_does_157 rfl rfl ?_
      refine am_iload_n (x := a1) dX6_does_158 rfl rfl ?_
      refine am_iload_n (x := a2) dX6_does_159 rfl rfl ?_
      refine mm_callV (Mc := m_X6_calls) (as := [.int a1, .int a2]) rfl bm_X6_calls q2938 q2940 qs138 (Nat.le_of_ble_eq_true rfl) dX6_does_160 (mt_X6_calls (mm_k2i h (fun v28 μ27 h => ?_)))
      refine am_if_eq (tgt := 170) dX6_does_163 (by decide) (fun c => ?_) (fun c => ?_)
      · have h := h.1 c
        refine am_iconst (v := 2) dX6_does_170 (by decide) ?_
        exact am_iret rfl dX6_does_171 ⟨_, _, rfl, rfl, h⟩
      · have h := h.2 c
        refine am_iconst (v := 0) dX6_does_166 (by decide) ?_
        refine am_goto (tgt := 171) dX6_does_167 (by decide) ?_
        exact am_iret rfl dX6_does_171 ⟨_, _, rfl, rfl, h⟩
    | 5, hj, e =>
      have c : (v2 : Int32) = 25 := Int32.toInt_inj.mp (e.trans (by decide))
      have h := h.2.2.2.2.2.1 c
      refine am_tableIn (tgt := 157) dX6_does_10 (by rw [c]; decide) (by rw [c]; decide) (by rw [c]; rfl) (by decide) ?_
      refine am_aloadr_n (x := some ρ.1) dX6_does_157 rfl rfl ?_
      refine am_iload_n (x := a1) dX6_does_158 rfl rfl ?_
      refine am_iload_n (x := a2) dX6_does_159 rfl rfl ?_
      refine mm_callV (Mc := m_X6_calls) (as := [.int a1, .int a2]) rfl bm_X6_calls q2938 q2940 qs138 (Nat.le_of_ble_eq_true rfl) dX6_does_160 (mt_X6_calls (mm_k2i h (fun v30 μ29 h => ?_)))
      refine am_if_eq (tgt := 170) dX6_does_163 (by decide) (fun c => ?_) (fun c => ?_)
      · have h := h.1 c
        refine am_iconst (v := 2) dX6_does_170 (by decide) ?_
        exact am_iret rfl dX6_does_171 ⟨_, _, rfl, rfl, h⟩
      · have h := h.2 c
        refine am_iconst (v := 0) dX6_does_166 (by decide) ?_
        refine am_goto (tgt := 171) dX6_does_167 (by decide) ?_
        exact am_iret rfl dX6_does_171 ⟨_, _, rfl, rfl, h⟩
    | 6, hj, e =>
      have c : (v2 : Int32) = 26 := Int32.toInt_inj.mp (e.trans (by decide))
      have h := h.2.2.2.2.2.2.1 c
      refine am_tableIn (tgt := 172) dX6_does_10 (by rw [c]; decide) (by rw [c]; decide) (by rw [c]; rfl) (by decide) ?_
      refine am_iload_n (x := a3) dX6_does_172 rfl rfl ?_
      refine am_if_eq (tgt := 180) dX6_does_173 (by decide) (fun c => ?_) (fun c => ?_)
      · have h := h.1 c
        refine am_iconst (v := 0) dX6_does_180 (by decide) ?_
        exact am_iret rfl dX6_does_181 ⟨_, _, rfl, rfl, h⟩
      · have h := h.2 c
        refine am_iconst (v := 3) dX6_does_176 (by decide) ?_
        refine am_goto (tgt := 181) dX6_does_177 (by decide) ?_
        exact am_iret rfl dX6_does_181 ⟨_, _, rfl, rfl, h⟩
    | j + 7, hj, e => exact absurd hj (by omega)
theorem W_X6_of_f {G : am_G} {ρ : mm_F} {d : Nat} {a1 : Int32} {a2 : Int32} {μ : mm_S} {Q : Int32 → mm_S → Prop} (h : (vp_in ((5 * a1) + a2) 48000 ∧ Q (mA μ 15 (Int32.toNatClampNeg ((5 * a1) + a2))) μ)) : W_X6_of G ρ d a1 a2 μ Q := by
  unfold W_X6_of
  refine am_aloadr_n (x := some ρ.1) dX6_of_0 rfl rfl ?_
  refine mm_gA (k := 15) rfl isA_15 q2334 dX6_of_1 ?_
  refine am_iconst (v := 5) dX6_of_4 (by decide) ?_
  refine am_iload_n (x := a1) dX6_of_5 rfl rfl ?_
  refine am_imul dX6_of_6 ?_
  refine am_iload_n (x := a2) dX6_of_7 rfl rfl ?_
  refine am_iadd dX6_of_8 ?_
  refine mm_ldA (k := 15) isA_15 rfl rfl dX6_of_9 h.1 ?_
  have h := h.2
  exact am_iret rfl dX6_of_10 ⟨_, _, rfl, rfl, h⟩
theorem W_X6_in_f {G : am_G} {ρ : mm_F} {d : Nat} {a1 : Int32} {a2 : Int32} {μ : mm_S} {Q : Int32 → mm_S → Prop} (h : W_X6_of G ρ d a1 a2 μ (fun v2 μ1 => ((¬ v2 = (-1) → Q (((a1 / 1200) * 1200) + v2) μ1) ∧ (v2 = (-1) → Q (-1) μ1)))) : W_X6_in G ρ (d + 1) a1 a2 μ Q := by
  unfold W_X6_in
  refine am_aloadr_n (x := some ρ.1) dX6_in_0 rfl rfl ?_
  refine am_iload_n (x := a1) dX6_in_1 rfl rfl ?_
  refine am_iload_n (x := a2) dX6_in_2 rfl rfl ?_
  refine mm_callV (Mc := m_X6_of) (as := [.int a1, .int a2]) rfl bm_X6_of q2895 q2897 qs128 (Nat.le_of_ble_eq_true rfl) dX6_in_3 (mt_X6_of (mm_k2i h (fun v2 μ1 h => ?_)))
  refine am_istore_n (L' := [(6, .int v2), (0, va_rf (some ρ.1)), (2, .int a1), (4, .int a2)]) dX6_in_6 rfl (Nat.le_of_ble_eq_true rfl) rfl ?_
  refine am_iload_n (x := v2) dX6_in_7 rfl rfl ?_
  refine am_iconst (v := (-1)) dX6_in_8 (by decide) ?_
  refine am_icmp_ne (tgt := 16) dX6_in_9 (by decide) (fun c => ?_) (fun c => ?_)
  · have h := h.1 c
    refine am_iload_n (x := a1) dX6_in_16 rfl rfl ?_
    refine am_sipush (v := 1200) dX6_in_17 (by decide) ?_
    refine am_idiv dX6_in_20 (by decide) ?_
    refine am_sipush (v := 1200) dX6_in_21 (by decide) ?_
    refine am_imul dX6_in_24 ?_
    refine am_iload_n (x := v2) dX6_in_25 rfl rfl ?_
    refine am_iadd dX6_in_26 ?_
    exact am_iret rfl dX6_in_27 ⟨_, _, rfl, rfl, h⟩
  · have h := h.2 c
    refine am_iconst (v := (-1)) dX6_in_12 (by decide) ?_
    refine am_goto (tgt := 27) dX6_in_13 (by decide) ?_
    exact am_iret rfl dX6_in_27 ⟨_, _, rfl, rfl, h⟩
theorem W_X6_eval_f {G : am_G} {ρ : mm_F} {d : Nat} {a1 : Int32} {a2 : Int32} {μ : mm_S} {Q : Int32 → mm_S → Prop} (h : B_X6_eval_8 G ρ (d + 1) a2 (mI μ 54) a1 μ Q) : W_X6_eval G ρ (d + 1) a1 a2 μ Q := by
  unfold W_X6_eval
  refine am_aloadr_n (x := some ρ.1) dX6_eval_0 rfl rfl ?_
  refine mm_gI (k := 54) rfl (Or.inl rfl) (by decide) q2373 dX6_eval_1 ?_
  refine am_istore_n (L' := [(6, .int (mI μ 54)), (0, va_rf (some ρ.1)), (2, .int a1), (4, .int a2)]) dX6_eval_4 rfl (Nat.le_of_ble_eq_true rfl) rfl ?_
  refine am_iload_n (x := a1) dX6_eval_5 rfl rfl ?_
  refine am_istore (L' := [(8, .int a1), (6, .int (mI μ 54)), (0, va_rf (some ρ.1)), (2, .int a1), (4, .int a2)]) dX6_eval_6 (Nat.le_of_ble_eq_true rfl) rfl ?_
  exact am_lss h rfl
theorem B_X6_eval_8_f {G : am_G} {ρ : mm_F} {d : Nat} {x2 : Int32} {x3 : Int32} {x4 : Int32} {μ : mm_S} {Q : Int32 → mm_S → Prop} (h : W_X6_of G ρ d x4 0 μ (fun v2 μ1 => ((v2 < 10 → W_X6_single G ρ d x4 x2 μ1 (fun v4 μ3 => B_X6_eval_62 G ρ (d + 1) x2 x3 v4 μ3 Q)) ∧ (¬ v2 < 10 → (vp_in (mI μ1 54) 1200 ∧ ∀ μ5 : mm_S, μ5 = mm_sA μ1 53 (Int32.toNatClampNeg (mI μ1 54)) x4 → ((∀ μ6 : mm_S, μ6 = mm_sI μ5 54 ((mI μ5 54) + 1) → (W_X6_in G ρ d x4 1 μ6 (fun v8 μ7 => B_X6_eval_8 G ρ (d + 1) x2 x3 v8 μ7 Q))))))))) : B_X6_eval_8 G ρ (d + 1) x2 x3 x4 μ Q := by
  unfold B_X6_eval_8
  refine am_aloadr_n (x := some ρ.1) dX6_eval_8 rfl rfl ?_
  refine am_iload (x := x4) dX6_eval_9 rfl ?_
  refine am_iconst (v := 0) dX6_eval_11 (by decide) ?_
  refine mm_callV (Mc := m_X6_of) (as := [.int x4, .int 0]) rfl bm_X6_of q2895 q2897 qs128 (Nat.le_of_ble_eq_true rfl) dX6_eval_12 (mt_X6_of (mm_k2i h (fun v2 μ1 h => ?_)))
  refine am_bipush (v := 10) dX6_eval_15 (by decide) ?_
  refine am_icmp_lt (tgt := 53) dX6_eval_17 (by decide) (fun c => ?_) (fun c => ?_)
  · have h := h.1 c
    refine am_aloadr_n (x := some ρ.1) dX6_eval_53 rfl rfl ?_
    refine am_iload (x := x4) dX6_eval_54 rfl ?_
    refine am_iload_n (x := x2) dX6_eval_56 rfl rfl ?_
    refine mm_callV (Mc := m_X6_single) (as := [.int x4, .int x2]) rfl bm_X6_single q2907 q2909 qs131 (Nat.le_of_ble_eq_true rfl) dX6_eval_57 (mt_X6_single (mm_k2i h (fun v4 μ3 h => ?_)))
    refine am_istore (L' := [(10, .int v4), (0, va_rf (some ρ.1)), (4, .int x2), (6, .int x3), (8, .int x4)]) dX6_eval_60 (Nat.le_of_ble_eq_true rfl) rfl ?_
    exact am_lss h rfl
  · have h := h.2 c
    refine am_aloadr_n (x := some ρ.1) dX6_eval_20 rfl rfl ?_
    refine mm_gA (k := 53) rfl isA_53 q2372 dX6_eval_21 ?_
    refine am_aloadr_n (x := some ρ.1) dX6_eval_24 rfl rfl ?_
    refine mm_gI (k := 54) rfl (Or.inl rfl) (by decide) q2373 dX6_eval_25 ?_
    refine am_iload (x := x4) dX6_eval_28 rfl ?_
    refine mm_stA (k := 53) isA_53 rfl rfl dX6_eval_30 h.1 ?_
    have h := h.2
    generalize eμ5 : mm_sA μ1 53 (Int32.toNatClampNeg (mI μ1 54)) x4 = μ5
    have h := h μ5 eμ5.symm
    refine am_aloadr_n (x := some ρ.1) dX6_eval_31 rfl rfl ?_
    refine am_dup dX6_eval_32 (am_rf_cat _) ?_
    refine mm_gI (k := 54) rfl (Or.inl rfl) (by decide) q2373 dX6_eval_33 ?_
    refine am_iconst (v := 1) dX6_eval_36 (by decide) ?_
    refine am_iadd dX6_eval_37 ?_
    refine mm_pI (k := 54) rfl rfl rfl (by decide) q2373 rfl dX6_eval_38 ?_
    generalize eμ6 : mm_sI μ5 54 ((mI μ5 54) + 1) = μ6
    have h := h μ6 eμ6.symm
    refine am_aloadr_n (x := some ρ.1) dX6_eval_41 rfl rfl ?_
    refine am_iload (x := x4) dX6_eval_42 rfl ?_
    refine am_iconst (v := 1) dX6_eval_44 (by decide) ?_
    refine mm_callV (Mc := m_X6_in) (as := [.int x4, .int 1]) rfl bm_X6_in q2899 q2901 qs129 (Nat.le_of_ble_eq_true rfl) dX6_eval_45 (mt_X6_in (mm_k2i h (fun v8 μ7 h => ?_)))
    refine am_istore (L' := [(8, .int v8), (0, va_rf (some ρ.1)), (4, .int x2), (6, .int x3)]) dX6_eval_48 (Nat.le_of_ble_eq_true rfl) rfl ?_
    refine am_goto (tgt := 8) dX6_eval_50 (by decide) ?_
    exact am_lss h rfl
theorem B_X6_eval_62_f {G : am_G} {ρ : mm_F} {d : Nat} {x2 : Int32} {x3 : Int32} {x5 : Int32} {μ : mm_S} {Q : Int32 → mm_S → Prop} (h : ((x5 = 0 → (∀ μ1 : mm_S, μ1 = mm_sI μ 54 x3 → ((narrow .boolean (.int x5) = .int x5 ∧ Q x5 μ1)))) ∧ (¬ x5 = 0 → (((mI μ 54) ≤ x3 → (∀ μ2 : mm_S, μ2 = mm_sI μ 54 x3 → ((narrow .boolean (.int x5) = .int x5 ∧ Q x5 μ2)))) ∧ (¬ (mI μ 54) ≤ x3 → (vp_in ((mI μ 54) - 1) 1200 ∧ W_X6_in G ρ d (mA μ 53 (Int32.toNatClampNeg ((mI μ 54) - 1))) 2 μ (fun v4 μ3 => W_X6_eval G ρ d v4 x2 μ3 (fun v6 μ5 => ((v6 = 0 → B_X6_eval_141 G ρ (d + 1) x2 x3 v6 (mI μ 52) (mA μ 53 (Int32.toNatClampNeg ((mI μ 54) - 1))) μ5 Q) ∧ (¬ v6 = 0 → W_X6_of G ρ d (mA μ 53 (Int32.toNatClampNeg ((mI μ 54) - 1))) 0 μ5 (fun v8 μ7 => ((¬ v8 = 13 → B_X6_eval_141 G ρ (d + 1) x2 x3 v6 (mI μ 52) (mA μ 53 (Int32.toNatClampNeg ((mI μ 54) - 1))) μ7 Q) ∧ (v8 = 13 → ((¬ (mI μ7 52) = 0 → B_X6_eval_141 G ρ (d + 1) x2 x3 v6 (mI μ 52) (mA μ 53 (Int32.toNatClampNeg ((mI μ 54) - 1))) μ7 Q) ∧ ((mI μ7 52) = 0 → W_X6_fails G ρ d 1002 μ7 (fun v10 μ9 => B_X6_eval_141 G ρ (d + 1) x2 x3 v10 (mI μ 52) (mA μ 53 (Int32.toNatClampNeg ((mI μ 54) - 1))) μ9 Q)))))))))))))))) : B_X6_eval_62 G ρ (d + 1) x2 x3 x5 μ Q := by
  unfold B_X6_eval_62
  refine am_iload (x := x5) dX6_eval_62 rfl ?_
  refine am_if_eq (tgt := 179) dX6_eval_64 (by decide) (fun c => ?_) (fun c => ?_)
  · have h := h.1 c
    refine am_aloadr_n (x := some ρ.1) dX6_eval_179 rfl rfl ?_
    refine am_iload_n (x := x3) dX6_eval_180 rfl rfl ?_
    refine mm_pI (k := 54) rfl rfl rfl (by decide) q2373 rfl dX6_eval_181 ?_
    generalize eμ1 : mm_sI μ 54 x3 = μ1
    have h := h μ1 eμ1.symm
    refine am_iload (x := x5) dX6_eval_184 rfl ?_
    exact am_zret rfl h.1 dX6_eval_186 ⟨_, _, rfl, rfl, h.2⟩
  · have h := h.2 c
    refine am_aloadr_n (x := some ρ.1) dX6_eval_67 rfl rfl ?_
    refine mm_gI (k := 54) rfl (Or.inl rfl) (by decide) q2373 dX6_eval_68 ?_
    refine am_iload_n (x := x3) dX6_eval_71 rfl rfl ?_
    refine am_icmp_le (tgt := 179) dX6_eval_72 (by decide) (fun c => ?_) (fun c => ?_)
    · have h := h.1 c
      refine am_aloadr_n (x := some ρ.1) dX6_eval_179 rfl rfl ?_
      refine am_iload_n (x := x3) dX6_eval_180 rfl rfl ?_
      refine mm_pI (k := 54) rfl rfl rfl (by decide) q2373 rfl dX6_eval_181 ?_
      generalize eμ2 : mm_sI μ 54 x3 = μ2
      have h := h μ2 eμ2.symm
      refine am_iload (x := x5) dX6_eval_184 rfl ?_
      exact am_zret rfl h.1 dX6_eval_186 ⟨_, _, rfl, rfl, h.2⟩
    · have h := h.2 c
      refine am_aloadr_n (x := some ρ.1) dX6_eval_75 rfl rfl ?_
      refine mm_gI (k := 52) rfl (Or.inl rfl) (by decide) q2371 dX6_eval_76 ?_
      refine am_istore (L' := [(12, .int (mI μ 52)), (0, va_rf (some ρ.1)), (4, .int x2), (6, .int x3), (10, .int x5)]) dX6_eval_79 (Nat.le_of_ble_eq_true rfl) rfl ?_
      refine am_aloadr_n (x := some ρ.1) dX6_eval_81 rfl rfl ?_
      refine mm_gA (k := 53) rfl isA_53 q2372 dX6_eval_82 ?_
      refine am_aloadr_n (x := some ρ.1) dX6_eval_85 rfl rfl ?_
      refine mm_gI (k := 54) rfl (Or.inl rfl) (by decide) q2373 dX6_eval_86 ?_
      refine am_iconst (v := 1) dX6_eval_89 (by decide) ?_
      refine am_isub dX6_eval_90 ?_
      refine mm_ldA (k := 53) isA_53 rfl rfl dX6_eval_91 h.1 ?_
      have h := h.2
      refine am_istore (L' := [(14, .int (mA μ 53 (Int32.toNatClampNeg ((mI μ 54) - 1)))), (12, .int (mI μ 52)), (0, va_rf (some ρ.1)), (4, .int x2), (6, .int x3), (10, .int x5)]) dX6_eval_92 (Nat.le_of_ble_eq_true rfl) rfl ?_
      refine am_aloadr_n (x := some ρ.1) dX6_eval_94 rfl rfl ?_
      refine am_aloadr_n (x := some ρ.1) dX6_eval_95 rfl rfl ?_
      refine am_iload (x := (mA μ 53 (Int32.toNatClampNeg ((mI μ 54) - 1)))) dX6_eval_96 rfl ?_
      refine am_iconst (v := 2) dX6_eval_98 (by decide) ?_
      refine mm_callV (Mc := m_X6_in) (as := [.int (mA μ 53 (Int32.toNatClampNeg ((mI μ 54) - 1))), .int 2]) rfl bm_X6_in q2899 q2901 qs129 (Nat.le_of_ble_eq_true rfl) dX6_eval_99 (mt_X6_in (mm_k2i h (fun v4 μ3 h => ?_)))
      refine am_iload_n (x := x2) dX6_eval_102 rfl rfl ?_
      refine mm_callV (Mc := m_X6_eval) (as := [.int v4, .int x2]) rfl bm_X6_eval q2903 q2905 qs130 (Nat.le_of_ble_eq_true rfl) dX6_eval_103 (mt_X6_eval (mm_k2i h (fun v6 μ5 h => ?_)))
      refine am_istore (L' := [(10, .int v6), (14, .int (mA μ 53 (Int32.toNatClampNeg ((mI μ 54) - 1)))), (12, .int (mI μ 52)), (0, va_rf (some ρ.1)), (4, .int x2), (6, .int x3)]) dX6_eval_106 (Nat.le_of_ble_eq_true rfl) rfl ?_
      refine am_iload (x := v6) dX6_eval_108 rfl ?_
      refine am_if_eq (tgt := 141) dX6_eval_110 (by decide) (fun c => ?_) (fun c => ?_)
      · have h := h.1 c
        exact am_lss h rfl
      · have h := h.2 c
        refine am_aloadr_n (x := some ρ.1) dX6_eval_113 rfl rfl ?_
        refine am_iload (x := (mA μ 53 (Int32.toNatClampNeg ((mI μ 54) - 1)))) dX6_eval_114 rfl ?_
        refine am_iconst (v := 0) dX6_eval_116 (by decide) ?_
        refine mm_callV (Mc := m_X6_of) (as := [.int (mA μ 53 (Int32.toNatClampNeg ((mI μ 54) - 1))), .int 0]) rfl bm_X6_of q2895 q2897 qs128 (Nat.le_of_ble_eq_true rfl) dX6_eval_117 (mt_X6_of (mm_k2i h (fun v8 μ7 h => ?_)))
        refine am_bipush (v := 13) dX6_eval_120 (by decide) ?_
        refine am_icmp_ne (tgt := 141) dX6_eval_122 (by decide) (fun c => ?_) (fun c => ?_)
        · have h := h.1 c
          exact am_lss h rfl
        · have h := h.2 c
          refine am_aloadr_n (x := some ρ.1) dX6_eval_125 rfl rfl ?_
          refine mm_gI (k := 52) rfl (Or.inl rfl) (by decide) q2371 dX6_eval_126 ?_
          refine am_if_ne (tgt := 141) dX6_eval_129 (by decide) (fun c => ?_) (fun c => ?_)
          · have h := h.1 c
            exact am_lss h rfl
          · have h := h.2 c
            refine am_aloadr_n (x := some ρ.1) dX6_eval_132 rfl rfl ?_
            refine am_sipush (v := 1002) dX6_eval_133 (by decide) ?_
            refine mm_callV (Mc := m_X6_fails) (as := [.int 1002]) rfl bm_X6_fails q2915 q2917 qs133 (Nat.le_of_ble_eq_true rfl) dX6_eval_136 (mt_X6_fails (mm_k2i h (fun v10 μ9 h => ?_)))
            refine am_istore (L' := [(10, .int v10), (14, .int (mA μ 53 (Int32.toNatClampNeg ((mI μ 54) - 1)))), (12, .int (mI μ 52)), (0, va_rf (some ρ.1)), (4, .int x2), (6, .int x3)]) dX6_eval_139 (Nat.le_of_ble_eq_true rfl) rfl ?_
            exact am_lss h rfl
theorem B_X6_eval_141_f {G : am_G} {ρ : mm_F} {d : Nat} {x2 : Int32} {x3 : Int32} {x5 : Int32} {x6 : Int32} {x7 : Int32} {μ : mm_S} {Q : Int32 → mm_S → Prop} (h : ((x5 = 0 → (∀ μ1 : mm_S, μ1 = mm_sI μ 54 ((mI μ 54) - 1) → (B_X6_eval_62 G ρ (d + 1) x2 x3 x5 μ1 Q))) ∧ (¬ x5 = 0 → W_X6_of G ρ d x7 0 μ (fun v3 μ2 => W_X6_both G ρ d v3 x6 (mI μ2 52) μ2 (fun v5 μ4 => (∀ μ6 : mm_S, μ6 = mm_sI μ4 52 v5 → ((∀ μ7 : mm_S, μ7 = mm_sI μ6 54 ((mI μ6 54) - 1) → (B_X6_eval_62 G ρ (d + 1) x2 x3 x5 μ7 Q))))))))) : B_X6_eval_141 G ρ (d + 1) x2 x3 x5 x6 x7 μ Q := by
  unfold B_X6_eval_141
  refine am_iload (x := x5) dX6_eval_141 rfl ?_
  refine am_if_eq (tgt := 166) dX6_eval_143 (by decide) (fun c => ?_) (fun c => ?_)
  · have h := h.1 c
    refine am_aloadr_n (x := some ρ.1) dX6_eval_166 rfl rfl ?_
    refine am_dup dX6_eval_167 (am_rf_cat _) ?_
    refine mm_gI (k := 54) rfl (Or.inl rfl) (by decide) q2373 dX6_eval_168 ?_
    refine am_iconst (v := 1) dX6_eval_171 (by decide) ?_
    refine am_isub dX6_eval_172 ?_
    refine mm_pI (k := 54) rfl rfl rfl (by decide) q2373 rfl dX6_eval_173 ?_
    generalize eμ1 : mm_sI μ 54 ((mI μ 54) - 1) = μ1
    have h := h μ1 eμ1.symm
    refine am_goto (tgt := 62) dX6_eval_176 (by decide) ?_
    exact am_lss h rfl
  · have h := h.2 c
    refine am_aloadr_n (x := some ρ.1) dX6_eval_146 rfl rfl ?_
    refine am_aloadr_n (x := some ρ.1) dX6_eval_147 rfl rfl ?_
    refine am_iload (x := x7) dX6_eval_148 rfl ?_
    refine am_iconst (v := 0) dX6_eval_150 (by decide) ?_
    refine mm_callV (Mc := m_X6_of) (as := [.int x7, .int 0]) rfl bm_X6_of q2895 q2897 qs128 (Nat.le_of_ble_eq_true rfl) dX6_eval_151 (mt_X6_of (mm_k2i h (fun v3 μ2 h => ?_)))
    refine am_iload (x := x6) dX6_eval_154 rfl ?_
    refine am_aloadr_n (x := some ρ.1) dX6_eval_156 rfl rfl ?_
    refine mm_gI (k := 52) rfl (Or.inl rfl) (by decide) q2371 dX6_eval_157 ?_
    refine mm_callS (Mc := m_X6_both) (as := [.int v3, .int x6, .int (mI μ2 52)]) rfl bm_X6_both q2919 q2920 (Nat.le_of_ble_eq_true rfl) dX6_eval_160 (mt_X6_both (mm_k2i h (fun v5 μ4 h => ?_)))
    refine mm_pI (k := 52) rfl rfl rfl (by decide) q2371 rfl dX6_eval_163 ?_
    generalize eμ6 : mm_sI μ4 52 v5 = μ6
    have h := h μ6 eμ6.symm
    refine am_aloadr_n (x := some ρ.1) dX6_eval_166 rfl rfl ?_
    refine am_dup dX6_eval_167 (am_rf_cat _) ?_
    refine mm_gI (k := 54) rfl (Or.inl rfl) (by decide) q2373 dX6_eval_168 ?_
    refine am_iconst (v := 1) dX6_eval_171 (by decide) ?_
    refine am_isub dX6_eval_172 ?_
    refine mm_pI (k := 54) rfl rfl rfl (by decide) q2373 rfl dX6_eval_173 ?_
    generalize eμ7 : mm_sI μ6 54 ((mI μ6 54) - 1) = μ7
    have h := h μ7 eμ7.symm
    refine am_goto (tgt := 62) dX6_eval_176 (by decide) ?_
    exact am_lss h rfl
theorem W_X6_single_f {G : am_G} {ρ : mm_F} {d : Nat} {a1 : Int32} {a2 : Int32} {μ : mm_S} {Q : Int32 → mm_S → Prop} (h : W_X6_of G ρ d a1 0 μ (fun v2 μ1 => (vp_in a2 21 ∧ ((¬ v2 = 1 → ((v2 = 3 → B_X6_single_42 G ρ (d + 1) a2 v2 μ1 Q) ∧ (¬ v2 = 3 → ((¬ v2 = 4 → ((¬ v2 = 2 → W_X6_in G ρ d a1 1 μ1 (fun v4 μ3 => W_X6_eval G ρ d v4 a2 μ3 (fun v6 μ5 => ((¬ v6 = 0 → (∀ μ7 : mm_S, μ7 = mm_sI μ5 52 (-(mI μ5 52)) → (Q 1 μ7))) ∧ (v6 = 0 → Q 0 μ5))))) ∧ (v2 = 2 → W_X6_of G ρ d a1 1 μ1 (fun v9 μ8 => W_X6_sort G ρ d (mA μ1 43 (Int32.toNatClampNeg a2)) v9 μ8 (fun v11 μ10 => ((¬ v11 = (-1) → ((¬ v11 = 0 → ((¬ v11 = 2 → (vp_in (mA μ1 43 (Int32.toNatClampNeg a2)) 40 ∧ W_X6_fixedAt G ρ d 0 (mA μ10 35 (Int32.toNatClampNeg (mA μ1 43 (Int32.toNatClampNeg a2)))) v9 μ10 (fun v13 μ12 => (vp_in (mA μ1 43 (Int32.toNatClampNeg a2)) 40 ∧ W_X6_fixedAt G ρ d 0 (mA μ12 35 (Int32.toNatClampNeg (mA μ1 43 (Int32.toNatClampNeg a2)))) v9 μ12 (fun v15 μ14 => W_X6_fixedOf G ρ d 0 v15 v9 μ14 (fun v17 μ16 => W_X6_get G ρ d 0 v13 (35 + v17) μ16 (fun v19 μ18 => (∀ μ20 : mm_S, μ20 = mm_sI μ18 52 v19 → (Q 1 μ20))))))))) ∧ (v11 = 2 → (vp_in ((40 * (mA μ1 43 (Int32.toNatClampNeg a2))) + v9) 1600 ∧ (∀ μ21 : mm_S, μ21 = mm_sI μ10 52 (mA μ10 37 (Int32.toNatClampNeg ((40 * (mA μ1 43 (Int32.toNatClampNeg a2))) + v9))) → (Q 1 μ21)))))) ∧ (v11 = 0 → (vp_in ((40 * (mA μ1 43 (Int32.toNatClampNeg a2))) + v9) 1600 ∧ (∀ μ22 : mm_S, μ22 = mm_sI μ10 52 (mA μ10 36 (Int32.toNatClampNeg ((40 * (mA μ1 43 (Int32.toNatClampNeg a2))) + v9))) → (Q 1 μ22)))))) ∧ (v11 = (-1) → W_X6_fails G ρ d 1001 μ10 (fun v24 μ23 => (narrow .boolean (.int v24) = .int v24 ∧ Q v24 μ23))))))))) ∧ (v2 = 4 → B_X6_single_42 G ρ (d + 1) a2 v2 μ1 Q))))) ∧ (v2 = 1 → W_X6_of G ρ d a1 1 μ1 (fun v26 μ25 => (∀ μ27 : mm_S, μ27 = mm_sI μ25 52 v26 → (Q 1 μ27)))))))) : W_X6_single G ρ (d + 1) a1 a2 μ Q := by
  unfold W_X6_single
  refine am_aloadr_n (x := some ρ.1) dX6_single_0 rfl rfl ?_
  refine am_iload_n (x := a1) dX6_single_1 rfl rfl ?_
  refine am_iconst (v := 0) dX6_single_2 (by decide) ?_
  refine mm_callV (Mc := m_X6_of) (as := [.int a1, .int 0]) rfl bm_X6_of q2895 q2897 qs128 (Nat.le_of_ble_eq_true rfl) dX6_single_3 (mt_X6_of (mm_k2i h (fun v2 μ1 h => ?_)))
  refine am_istore_n (L' := [(6, .int v2), (0, va_rf (some ρ.1)), (2, .int a1), (4, .int a2)]) dX6_single_6 rfl (Nat.le_of_ble_eq_true rfl) rfl ?_
  refine am_aloadr_n (x := some ρ.1) dX6_single_7 rfl rfl ?_
  refine mm_gA (k := 43) rfl isA_43 q2362 dX6_single_8 ?_
  refine am_iload_n (x := a2) dX6_single_11 rfl rfl ?_
  refine mm_ldA (k := 43) isA_43 rfl rfl dX6_single_12 h.1 ?_
  have h := h.2
  refine am_istore (L' := [(8, .int (mA μ1 43 (Int32.toNatClampNeg a2))), (6, .int v2), (0, va_rf (some ρ.1)), (2, .int a1), (4, .int a2)]) dX6_single_13 (Nat.le_of_ble_eq_true rfl) rfl ?_
  refine am_iload_n (x := v2) dX6_single_15 rfl rfl ?_
  refine am_iconst (v := 1) dX6_single_16 (by decide) ?_
  refine am_icmp_ne (tgt := 32) dX6_single_17 (by decide) (fun c => ?_) (fun c => ?_)
  · have h := h.1 c
    refine am_iload_n (x := v2) dX6_single_32 rfl rfl ?_
    refine am_iconst (v := 3) dX6_single_33 (by decide) ?_
    refine am_icmp_eq (tgt := 42) dX6_single_34 (by decide) (fun c => ?_) (fun c => ?_)
    · have h := h.1 c
      exact am_lss h rfl
    · have h := h.2 c
      refine am_iload_n (x := v2) dX6_single_37 rfl rfl ?_
      refine am_iconst (v := 4) dX6_single_38 (by decide) ?_
      refine am_icmp_ne (tgt := 68) dX6_single_39 (by decide) (fun c => ?_) (fun c => ?_)
      · have h := h.1 c
        refine am_iload_n (x := v2) dX6_single_68 rfl rfl ?_
        refine am_iconst (v := 2) dX6_single_69 (by decide) ?_
        refine am_icmp_ne (tgt := 197) dX6_single_70 (by decide) (fun c => ?_) (fun c => ?_)
        · have h := h.1 c
          refine am_aloadr_n (x := some ρ.1) dX6_single_197 rfl rfl ?_
          refine am_aloadr_n (x := some ρ.1) dX6_single_198 rfl rfl ?_
          refine am_iload_n (x := a1) dX6_single_199 rfl rfl ?_
          refine am_iconst (v := 1) dX6_single_200 (by decide) ?_
          refine mm_callV (Mc := m_X6_in) (as := [.int a1, .int 1]) rfl bm_X6_in q2899 q2901 qs129 (Nat.le_of_ble_eq_true rfl) dX6_single_201 (mt_X6_in (mm_k2i h (fun v4 μ3 h => ?_)))
          refine am_iload_n (x := a2) dX6_single_204 rfl rfl ?_
          refine mm_callV (Mc := m_X6_eval) (as := [.int v4, .int a2]) rfl bm_X6_eval q2903 q2905 qs130 (Nat.le_of_ble_eq_true rfl) dX6_single_205 (mt_X6_eval (mm_k2i h (fun v6 μ5 h => ?_)))
          refine am_if_ne (tgt := 213) dX6_single_208 (by decide) (fun c => ?_) (fun c => ?_)
          · have h := h.1 c
            refine am_aloadr_n (x := some ρ.1) dX6_single_213 rfl rfl ?_
            refine am_aloadr_n (x := some ρ.1) dX6_single_214 rfl rfl ?_
            refine mm_gI (k := 52) rfl (Or.inl rfl) (by decide) q2371 dX6_single_215 ?_
            refine am_ineg dX6_single_218 ?_
            refine mm_pI (k := 52) rfl rfl rfl (by decide) q2371 rfl dX6_single_219 ?_
            generalize eμ7 : mm_sI μ5 52 (-(mI μ5 52)) = μ7
            have h := h μ7 eμ7.symm
            refine am_iconst (v := 1) dX6_single_222 (by decide) ?_
            exact am_zret rfl rfl dX6_single_223 ⟨_, _, rfl, rfl, h⟩
          · have h := h.2 c
            refine am_iconst (v := 0) dX6_single_211 (by decide) ?_
            exact am_zret rfl rfl dX6_single_212 ⟨_, _, rfl, rfl, h⟩
        · have h := h.2 c
          refine am_aloadr_n (x := some ρ.1) dX6_single_73 rfl rfl ?_
          refine am_iload_n (x := a1) dX6_single_74 rfl rfl ?_
          refine am_iconst (v := 1) dX6_single_75 (by decide) ?_
          refine mm_callV (Mc := m_X6_of) (as := [.int a1, .int 1]) rfl bm_X6_of q2895 q2897 qs128 (Nat.le_of_ble_eq_true rfl) dX6_single_76 (mt_X6_of (mm_k2i h (fun v9 μ8 h => ?_)))
          refine am_istore (L' := [(10, .int v9), (8, .int (mA μ1 43 (Int32.toNatClampNeg a2))), (6, .int v2), (0, va_rf (some ρ.1)), (2, .int a1), (4, .int a2)]) dX6_single_79 (Nat.le_of_ble_eq_true rfl) rfl ?_
          refine am_aloadr_n (x := some ρ.1) dX6_single_81 rfl rfl ?_
          refine am_iload (x := (mA μ1 43 (Int32.toNatClampNeg a2))) dX6_single_82 rfl ?_
          refine am_iload (x := v9) dX6_single_84 rfl ?_
          refine mm_callV (Mc := m_X6_sort) (as := [.int (mA μ1 43 (Int32.toNatClampNeg a2)), .int v9]) rfl bm_X6_sort q2911 q2913 qs132 (Nat.le_of_ble_eq_true rfl) dX6_single_86 (mt_X6_sort (mm_k2i h (fun v11 μ10 h => ?_)))
          refine am_istore (L' := [(12, .int v11), (10, .int v9), (8, .int (mA μ1 43 (Int32.toNatClampNeg a2))), (6, .int v2), (0, va_rf (some ρ.1)), (2, .int a1), (4, .int a2)]) dX6_single_89 (Nat.le_of_ble_eq_true rfl) rfl ?_
          refine am_iload (x := v11) dX6_single_91 rfl ?_
          refine am_iconst (v := (-1)) dX6_single_93 (by decide) ?_
          refine am_icmp_ne (tgt := 105) dX6_single_94 (by decide) (fun c => ?_) (fun c => ?_)
          · have h := h.1 c
            refine am_aloadr_n (x := some ρ.1) dX6_single_105 rfl rfl ?_
            refine am_iload (x := v11) dX6_single_106 rfl ?_
            refine am_if_ne (tgt := 127) dX6_single_108 (by decide) (fun c => ?_) (fun c => ?_)
            · have h := h.1 c
              refine am_iload (x := v11) dX6_single_127 rfl ?_
              refine am_iconst (v := 2) dX6_single_129 (by decide) ?_
              refine am_icmp_ne (tgt := 149) dX6_single_130 (by decide) (fun c => ?_) (fun c => ?_)
              · have h := h.1 c
                refine am_aloadr_n (x := some ρ.1) dX6_single_149 rfl rfl ?_
                refine am_iconst (v := 0) dX6_single_150 (by decide) ?_
                refine am_aloadr_n (x := some ρ.1) dX6_single_151 rfl rfl ?_
                refine am_iconst (v := 0) dX6_single_152 (by decide) ?_
                refine am_aloadr_n (x := some ρ.1) dX6_single_153 rfl rfl ?_
                refine mm_gA (k := 35) rfl isA_35 q2354 dX6_single_154 ?_
                refine am_iload (x := (mA μ1 43 (Int32.toNatClampNeg a2))) dX6_single_157 rfl ?_
                refine mm_ldA (k := 35) isA_35 rfl rfl dX6_single_159 h.1 ?_
                have h := h.2
                refine am_iload (x := v9) dX6_single_160 rfl ?_
                refine mm_callV (Mc := m_X6_fixedAt) (as := [.int 0, .int (mA μ10 35 (Int32.toNatClampNeg (mA μ1 43 (Int32.toNatClampNeg a2)))), .int v9]) rfl bm_X6_fixedAt q2863 q2865 qs122 (Nat.le_of_ble_eq_true rfl) dX6_single_162 (mt_X6_fixedAt (mm_k2i h (fun v13 μ12 h => ?_)))
                refine am_bipush (v := 35) dX6_single_165 (by decide) ?_
                refine am_aloadr_n (x := some ρ.1) dX6_single_167 rfl rfl ?_
                refine am_iconst (v := 0) dX6_single_168 (by decide) ?_
                refine am_aloadr_n (x := some ρ.1) dX6_single_169 rfl rfl ?_
                refine am_iconst (v := 0) dX6_single_170 (by decide) ?_
                refine am_aloadr_n (x := some ρ.1) dX6_single_171 rfl rfl ?_
                refine mm_gA (k := 35) rfl isA_35 q2354 dX6_single_172 ?_
                refine am_iload (x := (mA μ1 43 (Int32.toNatClampNeg a2))) dX6_single_175 rfl ?_
                refine mm_ldA (k := 35) isA_35 rfl rfl dX6_single_177 h.1 ?_
                have h := h.2
                refine am_iload (x := v9) dX6_single_178 rfl ?_
                refine mm_callV (Mc := m_X6_fixedAt) (as := [.int 0, .int (mA μ12 35 (Int32.toNatClampNeg (mA μ1 43 (Int32.toNatClampNeg a2)))), .int v9]) rfl bm_X6_fixedAt q2863 q2865 qs122 (Nat.le_of_ble_eq_true rfl) dX6_single_180 (mt_X6_fixedAt (mm_k2i h (fun v15 μ14 h => ?_)))
                refine am_iload (x := v9) dX6_single_183 rfl ?_
                refine mm_callV (Mc := m_X6_fixedOf) (as := [.int 0, .int v15, .int v9]) rfl bm_X6_fixedOf q2702 q2704 qs97 (Nat.le_of_ble_eq_true rfl) dX6_single_185 (mt_X6_fixedOf (mm_k2i h (fun v17 μ16 h => ?_)))
                refine am_iadd dX6_single_188 ?_
                refine mm_callV (Mc := m_X6_get) (as := [.int 0, .int v13, .int (35 + v17)]) rfl bm_X6_get q2666 q2668 qs88 (Nat.le_of_ble_eq_true rfl) dX6_single_189 (mt_X6_get (mm_k2i h (fun v19 μ18 h => ?_)))
                refine mm_pI (k := 52) rfl rfl rfl (by decide) q2371 rfl dX6_single_192 ?_
                generalize eμ20 : mm_sI μ18 52 v19 = μ20
                have h := h μ20 eμ20.symm
                refine am_iconst (v := 1) dX6_single_195 (by decide) ?_
                exact am_zret rfl rfl dX6_single_196 ⟨_, _, rfl, rfl, h⟩
              · have h := h.2 c
                refine am_aloadr_n (x := some ρ.1) dX6_single_133 rfl rfl ?_
                refine mm_gA (k := 37) rfl isA_37 q2356 dX6_single_134 ?_
                refine am_bipush (v := 40) dX6_single_137 (by decide) ?_
                refine am_iload (x := (mA μ1 43 (Int32.toNatClampNeg a2))) dX6_single_139 rfl ?_
                refine am_imul dX6_single_141 ?_
                refine am_iload (x := v9) dX6_single_142 rfl ?_
                refine am_iadd dX6_single_144 ?_
                refine mm_ldA (k := 37) isA_37 rfl rfl dX6_single_145 h.1 ?_
                have h := h.2
                refine am_goto (tgt := 192) dX6_single_146 (by decide) ?_
                refine mm_pI (k := 52) rfl rfl rfl (by decide) q2371 rfl dX6_single_192 ?_
                generalize eμ21 : mm_sI μ10 52 (mA μ10 37 (Int32.toNatClampNeg ((40 * (mA μ1 43 (Int32.toNatClampNeg a2))) + v9))) = μ21
                have h := h μ21 eμ21.symm
                refine am_iconst (v := 1) dX6_single_195 (by decide) ?_
                exact am_zret rfl rfl dX6_single_196 ⟨_, _, rfl, rfl, h⟩
            · have h := h.2 c
              refine am_aloadr_n (x := some ρ.1) dX6_single_111 rfl rfl ?_
              refine mm_gA (k := 36) rfl isA_36 q2355 dX6_single_112 ?_
              refine am_bipush (v := 40) dX6_single_115 (by decide) ?_
              refine am_iload (x := (mA μ1 43 (Int32.toNatClampNeg a2))) dX6_single_117 rfl ?_
              refine am_imul dX6_single_119 ?_
              refine am_iload (x := v9) dX6_single_120 rfl ?_
              refine am_iadd dX6_single_122 ?_
              refine mm_ldA (k := 36) isA_36 rfl rfl dX6_single_123 h.1 ?_
              have h := h.2
              refine am_goto (tgt := 192) dX6_single_124 (by decide) ?_
              refine mm_pI (k := 52) rfl rfl rfl (by decide) q2371 rfl dX6_single_192 ?_
              generalize eμ22 : mm_sI μ10 52 (mA μ10 36 (Int32.toNatClampNeg ((40 * (mA μ1 43 (Int32.toNatClampNeg a2))) + v9))) = μ22
              have h := h μ22 eμ22.symm
              refine am_iconst (v := 1) dX6_single_195 (by decide) ?_
              exact am_zret rfl rfl dX6_single_196 ⟨_, _, rfl, rfl, h⟩
          · have h := h.2 c
            refine am_aloadr_n (x := some ρ.1) dX6_single_97 rfl rfl ?_
            refine am_sipush (v := 1001) dX6_single_98 (by decide) ?_
            refine mm_callV (Mc := m_X6_fails) (as := [.int 1001]) rfl bm_X6_fails q2915 q2917 qs133 (Nat.le_of_ble_eq_true rfl) dX6_single_101 (mt_X6_fails (mm_k2i h (fun v24 μ23 h => ?_)))
            exact am_zret rfl h.1 dX6_single_104 ⟨_, _, rfl, rfl, h.2⟩
      · have h := h.2 c
        exact am_lss h rfl
  · have h := h.2 c
    refine am_aloadr_n (x := some ρ.1) dX6_single_20 rfl rfl ?_
    refine am_aloadr_n (x := some ρ.1) dX6_single_21 rfl rfl ?_
    refine am_iload_n (x := a1) dX6_single_22 rfl rfl ?_
    refine am_iconst (v := 1) dX6_single_23 (by decide) ?_
    refine mm_callV (Mc := m_X6_of) (as := [.int a1, .int 1]) rfl bm_X6_of q2895 q2897 qs128 (Nat.le_of_ble_eq_true rfl) dX6_single_24 (mt_X6_of (mm_k2i h (fun v26 μ25 h => ?_)))
    refine mm_pI (k := 52) rfl rfl rfl (by decide) q2371 rfl dX6_single_27 ?_
    generalize eμ27 : mm_sI μ25 52 v26 = μ27
    have h := h μ27 eμ27.symm
    refine am_iconst (v := 1) dX6_single_30 (by decide) ?_
    exact am_zret rfl rfl dX6_single_31 ⟨_, _, rfl, rfl, h⟩
theorem B_X6_single_42_f {G : am_G} {ρ : mm_F} {d : Nat} {x2 : Int32} {x3 : Int32} {μ : mm_S} {Q : Int32 → mm_S → Prop} (h : ((¬ x3 = 3 → (vp_in x2 21 ∧ (∀ μ1 : mm_S, μ1 = mm_sI μ 52 (mA μ 45 (Int32.toNatClampNeg x2)) → (Q 1 μ1)))) ∧ (x3 = 3 → (vp_in x2 21 ∧ (∀ μ2 : mm_S, μ2 = mm_sI μ 52 (mA μ 44 (Int32.toNatClampNeg x2)) → (Q 1 μ2)))))) : B_X6_single_42 G ρ (d + 1) x2 x3 μ Q := by
  unfold B_X6_single_42
  refine am_aloadr_n (x := some ρ.1) dX6_single_42 rfl rfl ?_
  refine am_iload_n (x := x3) dX6_single_43 rfl rfl ?_
  refine am_iconst (v := 3) dX6_single_44 (by decide) ?_
  refine am_icmp_ne (tgt := 57) dX6_single_45 (by decide) (fun c => ?_) (fun c => ?_)
  · have h := h.1 c
    refine am_aloadr_n (x := some ρ.1) dX6_single_57 rfl rfl ?_
    refine mm_gA (k := 45) rfl isA_45 q2364 dX6_single_58 ?_
    refine am_iload_n (x := x2) dX6_single_61 rfl rfl ?_
    refine mm_ldA (k := 45) isA_45 rfl rfl dX6_single_62 h.1 ?_
    have h := h.2
    refine mm_pI (k := 52) rfl rfl rfl (by decide) q2371 rfl dX6_single_63 ?_
    generalize eμ1 : mm_sI μ 52 (mA μ 45 (Int32.toNatClampNeg x2)) = μ1
    have h := h μ1 eμ1.symm
    refine am_iconst (v := 1) dX6_single_66 (by decide) ?_
    exact am_zret rfl rfl dX6_single_67 ⟨_, _, rfl, rfl, h⟩
  · have h := h.2 c
    refine am_aloadr_n (x := some ρ.1) dX6_single_48 rfl rfl ?_
    refine mm_gA (k := 44) rfl isA_44 q2363 dX6_single_49 ?_
    refine am_iload_n (x := x2) dX6_single_52 rfl rfl ?_
    refine mm_ldA (k := 44) isA_44 rfl rfl dX6_single_53 h.1 ?_
    have h := h.2
    refine am_goto (tgt := 63) dX6_single_54 (by decide) ?_
    refine mm_pI (k := 52) rfl rfl rfl (by decide) q2371 rfl dX6_single_63 ?_
    generalize eμ2 : mm_sI μ 52 (mA μ 44 (Int32.toNatClampNeg x2)) = μ2
    have h := h μ2 eμ2.symm
    refine am_iconst (v := 1) dX6_single_66 (by decide) ?_
    exact am_zret rfl rfl dX6_single_67 ⟨_, _, rfl, rfl, h⟩
theorem W_X6_sort_f {G : am_G} {ρ : mm_F} {d : Nat} {a1 : Int32} {a2 : Int32} {μ : mm_S} {Q : Int32 → mm_S → Prop} (h : (vp_in a1 40 ∧ W_X6_fieldAt G ρ d 0 (mA μ 35 (Int32.toNatClampNeg a1)) a2 μ (fun v2 μ1 => ((v2 = (-1) → (vp_in a1 40 ∧ W_X6_fixedAt G ρ d 0 (mA μ1 35 (Int32.toNatClampNeg a1)) a2 μ1 (fun v4 μ3 => ((v4 = (-1) → (vp_in ((40 * a1) + a2) 1600 ∧ (((mA μ3 38 (Int32.toNatClampNeg ((40 * a1) + a2))) = 0 → Q (-1) μ3) ∧ (¬ (mA μ3 38 (Int32.toNatClampNeg ((40 * a1) + a2))) = 0 → Q 2 μ3)))) ∧ (¬ v4 = (-1) → Q 1 μ3))))) ∧ (¬ v2 = (-1) → Q 0 μ1))))) : W_X6_sort G ρ (d + 1) a1 a2 μ Q := by
  unfold W_X6_sort
  refine am_aloadr_n (x := some ρ.1) dX6_sort_0 rfl rfl ?_
  refine am_iconst (v := 0) dX6_sort_1 (by decide) ?_
  refine am_aloadr_n (x := some ρ.1) dX6_sort_2 rfl rfl ?_
  refine mm_gA (k := 35) rfl isA_35 q2354 dX6_sort_3 ?_
  refine am_iload_n (x := a1) dX6_sort_6 rfl rfl ?_
  refine mm_ldA (k := 35) isA_35 rfl rfl dX6_sort_7 h.1 ?_
  have h := h.2
  refine am_iload_n (x := a2) dX6_sort_8 rfl rfl ?_
  refine mm_callV (Mc := m_X6_fieldAt) (as := [.int 0, .int (mA μ 35 (Int32.toNatClampNeg a1)), .int a2]) rfl bm_X6_fieldAt q2819 q2821 qs120 (Nat.le_of_ble_eq_true rfl) dX6_sort_9 (mt_X6_fieldAt (mm_k2i h (fun v2 μ1 h => ?_)))
  refine am_iconst (v := (-1)) dX6_sort_12 (by decide) ?_
  refine am_icmp_eq (tgt := 18) dX6_sort_13 (by decide) (fun c => ?_) (fun c => ?_)
  · have h := h.1 c
    refine am_aloadr_n (x := some ρ.1) dX6_sort_18 rfl rfl ?_
    refine am_iconst (v := 0) dX6_sort_19 (by decide) ?_
    refine am_aloadr_n (x := some ρ.1) dX6_sort_20 rfl rfl ?_
    refine mm_gA (k := 35) rfl isA_35 q2354 dX6_sort_21 ?_
    refine am_iload_n (x := a1) dX6_sort_24 rfl rfl ?_
    refine mm_ldA (k := 35) isA_35 rfl rfl dX6_sort_25 h.1 ?_
    have h := h.2
    refine am_iload_n (x := a2) dX6_sort_26 rfl rfl ?_
    refine mm_callV (Mc := m_X6_fixedAt) (as := [.int 0, .int (mA μ1 35 (Int32.toNatClampNeg a1)), .int a2]) rfl bm_X6_fixedAt q2863 q2865 qs122 (Nat.le_of_ble_eq_true rfl) dX6_sort_27 (mt_X6_fixedAt (mm_k2i h (fun v4 μ3 h => ?_)))
    refine am_iconst (v := (-1)) dX6_sort_30 (by decide) ?_
    refine am_icmp_eq (tgt := 36) dX6_sort_31 (by decide) (fun c => ?_) (fun c => ?_)
    · have h := h.1 c
      refine am_aloadr_n (x := some ρ.1) dX6_sort_36 rfl rfl ?_
      refine mm_gA (k := 38) rfl isA_38 q2357 dX6_sort_37 ?_
      refine am_bipush (v := 40) dX6_sort_40 (by decide) ?_
      refine am_iload_n (x := a1) dX6_sort_42 rfl rfl ?_
      refine am_imul dX6_sort_43 ?_
      refine am_iload_n (x := a2) dX6_sort_44 rfl rfl ?_
      refine am_iadd dX6_sort_45 ?_
      refine mm_ldZ (k := 38) isA_38 rfl rfl dX6_sort_46 h.1 ?_
      have h := h.2
      refine am_if_eq (tgt := 54) dX6_sort_47 (by decide) (fun c => ?_) (fun c => ?_)
      · have h := h.1 c
        refine am_iconst (v := (-1)) dX6_sort_54 (by decide) ?_
        exact am_iret rfl dX6_sort_55 ⟨_, _, rfl, rfl, h⟩
      · have h := h.2 c
        refine am_iconst (v := 2) dX6_sort_50 (by decide) ?_
        refine am_goto (tgt := 55) dX6_sort_51 (by decide) ?_
        exact am_iret rfl dX6_sort_55 ⟨_, _, rfl, rfl, h⟩
    · have h := h.2 c
      refine am_iconst (v := 1) dX6_sort_34 (by decide) ?_
      exact am_iret rfl dX6_sort_35 ⟨_, _, rfl, rfl, h⟩
  · have h := h.2 c
    refine am_iconst (v := 0) dX6_sort_16 (by decide) ?_
    exact am_iret rfl dX6_sort_17 ⟨_, _, rfl, rfl, h⟩
theorem W_X6_fails_f {G : am_G} {ρ : mm_F} {d : Nat} {a1 : Int32} {μ : mm_S} {Q : Int32 → mm_S → Prop} (h : (∀ μ1 : mm_S, μ1 = mm_sI μ 39 a1 → (Q 0 μ1))) : W_X6_fails G ρ d a1 μ Q := by
  unfold W_X6_fails
  refine am_aloadr_n (x := some ρ.1) dX6_fails_0 rfl rfl ?_
  refine am_iload_n (x := a1) dX6_fails_1 rfl rfl ?_
  refine mm_pI (k := 39) rfl rfl rfl (by decide) q2358 rfl dX6_fails_2 ?_
  generalize eμ1 : mm_sI μ 39 a1 = μ1
  have h := h μ1 eμ1.symm
  refine am_iconst (v := 0) dX6_fails_5 (by decide) ?_
  exact am_zret rfl rfl dX6_fails_6 ⟨_, _, rfl, rfl, h⟩
theorem W_X6_both_f {G : am_G} {ρ : mm_F} {d : Nat} {a1 : Int32} {a2 : Int32} {a3 : Int32} {μ : mm_S} {Q : Int32 → mm_S → Prop} (h : ((a1 = 10 → Q (a2 + a3) μ) ∧ (a1 = 11 → Q (a2 - a3) μ) ∧ (a1 = 12 → Q (a2 * a3) μ) ∧ (a1 = 13 → (¬ a3 = 0 ∧ (Q (a2 / a3) μ))) ∧ (a1 = 14 → ((a3 ≤ a2 → Q 0 μ) ∧ (¬ a3 ≤ a2 → Q 1 μ))) ∧ (((a1 : Int32).toInt < 10 ∨ 14 < (a1 : Int32).toInt) → ((¬ a2 = a3 → Q 0 μ) ∧ (a2 = a3 → Q 1 μ))))) : W_X6_both G ρ d a1 a2 a3 μ Q := by
  unfold W_X6_both
  refine am_iload_n (x := a1) dX6_both_0 rfl rfl ?_
  by_cases c : (a1 : Int32).toInt < 10 ∨ 14 < (a1 : Int32).toInt
  · have h := h.2.2.2.2.2 c
    refine am_tableOut (tgt := 63) dX6_both_1 c (by decide) ?_
    refine am_iload_n (x := a2) dX6_both_63 rfl rfl ?_
    refine am_iload_n (x := a3) dX6_both_64 rfl rfl ?_
    refine am_icmp_ne (tgt := 72) dX6_both_65 (by decide) (fun c => ?_) (fun c => ?_)
    · have h := h.1 c
      refine am_iconst (v := 0) dX6_both_72 (by decide) ?_
      exact am_iret rfl dX6_both_73 ⟨_, _, rfl, rfl, h⟩
    · have h := h.2 c
      refine am_iconst (v := 1) dX6_both_68 (by decide) ?_
      refine am_goto (tgt := 73) dX6_both_69 (by decide) ?_
      exact am_iret rfl dX6_both_73 ⟨_, _, rfl, rfl, h⟩
  · obtain ⟨j, hj, e⟩ := am_tab (lo := 10) (n := 5) c
    match j, hj, e with
    | 0, hj, e =>
      have c : (a1 : Int32) = 10 := Int32.toInt_inj.mp (e.trans (by decide))
      have h := h.1 c
      refine am_tableIn (tgt := 36) dX6_both_1 (by rw [c]; decide) (by rw [c]; decide) (by rw [c]; rfl) (by decide) ?_
      refine am_iload_n (x := a2) dX6_both_36 rfl rfl ?_
      refine am_iload_n (x := a3) dX6_both_37 rfl rfl ?_
      refine am_iadd dX6_both_38 ?_
      exact am_iret rfl dX6_both_39 ⟨_, _, rfl, rfl, h⟩
    | 1, hj, e =>
      have c : (a1 : Int32) = 11 := Int32.toInt_inj.mp (e.trans (by decide))
      have h := h.2.1 c
      refine am_tableIn (tgt := 40) dX6_both_1 (by rw [c]; decide) (by rw [c]; decide) (by rw [c]; rfl) (by decide) ?_
      refine am_iload_n (x := a2) dX6_both_40 rfl rfl ?_
      refine am_iload_n (x := a3) dX6_both_41 rfl rfl ?_
      refine am_isub dX6_both_42 ?_
      exact am_iret rfl dX6_both_43 ⟨_, _, rfl, rfl, h⟩
    | 2, hj, e =>
      have c : (a1 : Int32) = 12 := Int32.toInt_inj.mp (e.trans (by decide))
      have h := h.2.2.1 c
      refine am_tableIn (tgt := 44) dX6_both_1 (by rw [c]; decide) (by rw [c]; decide) (by rw [c]; rfl) (by decide) ?_
      refine am_iload_n (x := a2) dX6_both_44 rfl rfl ?_
      refine am_iload_n (x := a3) dX6_both_45 rfl rfl ?_
      refine am_imul dX6_both_46 ?_
      exact am_iret rfl dX6_both_47 ⟨_, _, rfl, rfl, h⟩
    | 3, hj, e =>
      have c : (a1 : Int32) = 13 := Int32.toInt_inj.mp (e.trans (by decide))
      have h := h.2.2.2.1 c
      refine am_tableIn (tgt := 48) dX6_both_1 (by rw [c]; decide) (by rw [c]; decide) (by rw [c]; rfl) (by decide) ?_
      refine am_iload_n (x := a2) dX6_both_48 rfl rfl ?_
      refine am_iload_n (x := a3) dX6_both_49 rfl rfl ?_
      refine am_idiv dX6_both_50 h.1 ?_
      have h := h.2
      exact am_iret rfl dX6_both_51 ⟨_, _, rfl, rfl, h⟩
    | 4, hj, e =>
      have c : (a1 : Int32) = 14 := Int32.toInt_inj.mp (e.trans (by decide))
      have h := h.2.2.2.2.1 c
      refine am_tableIn (tgt := 52) dX6_both_1 (by rw [c]; decide) (by rw [c]; decide) (by rw [c]; rfl) (by decide) ?_
      refine am_iload_n (x := a2) dX6_both_52 rfl rfl ?_
      refine am_iload_n (x := a3) dX6_both_53 rfl rfl ?_
      refine am_icmp_ge (tgt := 61) dX6_both_54 (by decide) (fun c => ?_) (fun c => ?_)
      · have h := h.1 c
        refine am_iconst (v := 0) dX6_both_61 (by decide) ?_
        exact am_iret rfl dX6_both_62 ⟨_, _, rfl, rfl, h⟩
      · have h := h.2 c
        refine am_iconst (v := 1) dX6_both_57 (by decide) ?_
        refine am_goto (tgt := 62) dX6_both_58 (by decide) ?_
        exact am_iret rfl dX6_both_62 ⟨_, _, rfl, rfl, h⟩
    | j + 5, hj, e => exact absurd hj (by omega)
theorem W_X6_sets_f {G : am_G} {ρ : mm_F} {d : Nat} {a1 : Int32} {a2 : Int32} {μ : mm_S} {Q : Int32 → mm_S → Prop} (h : W_X6_sort G ρ d a1 a2 μ (fun v2 μ1 => ((¬ v2 = (-1) → ((¬ v2 = 0 → ((¬ v2 = 2 → (vp_in a1 40 ∧ W_X6_fixedAt G ρ d 0 (mA μ1 35 (Int32.toNatClampNeg a1)) a2 μ1 (fun v4 μ3 => (vp_in a1 40 ∧ W_X6_fixedAt G ρ d 0 (mA μ3 35 (Int32.toNatClampNeg a1)) a2 μ3 (fun v6 μ5 => W_X6_fixedOf G ρ d 0 v6 a2 μ5 (fun v8 μ7 => W_X6_set G ρ d 0 v4 (35 + v8) (mI μ7 52) μ7 (fun μ9 => Q 1 μ9))))))) ∧ (v2 = 2 → (vp_in ((40 * a1) + a2) 1600 ∧ ∀ μ10 : mm_S, μ10 = mm_sA μ1 37 (Int32.toNatClampNeg ((40 * a1) + a2)) (mI μ1 52) → (Q 1 μ10))))) ∧ (v2 = 0 → (vp_in ((40 * a1) + a2) 1600 ∧ ∀ μ11 : mm_S, μ11 = mm_sA μ1 36 (Int32.toNatClampNeg ((40 * a1) + a2)) (mI μ1 52) → (Q 1 μ11))))) ∧ (v2 = (-1) → W_X6_fails G ρ d 1001 μ1 (fun v13 μ12 => (narrow .boolean (.int v13) = .int v13 ∧ Q v13 μ12)))))) : W_X6_sets G ρ (d + 1) a1 a2 μ Q := by
  unfold W_X6_sets
  refine am_aloadr_n (x := some ρ.1) dX6_sets_0 rfl rfl ?_
  refine am_iload_n (x := a1) dX6_sets_1 rfl rfl ?_
  refine am_iload_n (x := a2) dX6_sets_2 rfl rfl ?_
  refine mm_callV (Mc := m_X6_sort) (as := [.int a1, .int a2]) rfl bm_X6_sort q2911 q2913 qs132 (Nat.le_of_ble_eq_true rfl) dX6_sets_3 (mt_X6_sort (mm_k2i h (fun v2 μ1 h => ?_)))
  refine am_istore_n (L' := [(6, .int v2), (0, va_rf (some ρ.1)), (2, .int a1), (4, .int a2)]) dX6_sets_6 rfl (Nat.le_of_ble_eq_true rfl) rfl ?_
  refine am_iload_n (x := v2) dX6_sets_7 rfl rfl ?_
  refine am_iconst (v := (-1)) dX6_sets_8 (by decide) ?_
  refine am_icmp_ne (tgt := 20) dX6_sets_9 (by decide) (fun c => ?_) (fun c => ?_)
  · have h := h.1 c
    refine am_iload_n (x := v2) dX6_sets_20 rfl rfl ?_
    refine am_if_ne (tgt := 42) dX6_sets_21 (by decide) (fun c => ?_) (fun c => ?_)
    · have h := h.1 c
      refine am_iload_n (x := v2) dX6_sets_42 rfl rfl ?_
      refine am_iconst (v := 2) dX6_sets_43 (by decide) ?_
      refine am_icmp_ne (tgt := 65) dX6_sets_44 (by decide) (fun c => ?_) (fun c => ?_)
      · have h := h.1 c
        refine am_aloadr_n (x := some ρ.1) dX6_sets_65 rfl rfl ?_
        refine am_iconst (v := 0) dX6_sets_66 (by decide) ?_
        refine am_aloadr_n (x := some ρ.1) dX6_sets_67 rfl rfl ?_
        refine am_iconst (v := 0) dX6_sets_68 (by decide) ?_
        refine am_aloadr_n (x := some ρ.1) dX6_sets_69 rfl rfl ?_
        refine mm_gA (k := 35) rfl isA_35 q2354 dX6_sets_70 ?_
        refine am_iload_n (x := a1) dX6_sets_73 rfl rfl ?_
        refine mm_ldA (k := 35) isA_35 rfl rfl dX6_sets_74 h.1 ?_
        have h := h.2
        refine am_iload_n (x := a2) dX6_sets_75 rfl rfl ?_
        refine mm_callV (Mc := m_X6_fixedAt) (as := [.int 0, .int (mA μ1 35 (Int32.toNatClampNeg a1)), .int a2]) rfl bm_X6_fixedAt q2863 q2865 qs122 (Nat.le_of_ble_eq_true rfl) dX6_sets_76 (mt_X6_fixedAt (mm_k2i h (fun v4 μ3 h => ?_)))
        refine am_bipush (v := 35) dX6_sets_79 (by decide) ?_
        refine am_aloadr_n (x := some ρ.1) dX6_sets_81 rfl rfl ?_
        refine am_iconst (v := 0) dX6_sets_82 (by decide) ?_
        refine am_aloadr_n (x := some ρ.1) dX6_sets_83 rfl rfl ?_
        refine am_iconst (v := 0) dX6_sets_84 (by decide) ?_
        refine am_aloadr_n (x := some ρ.1) dX6_sets_85 rfl rfl ?_
        refine mm_gA (k := 35) rfl isA_35 q2354 dX6_sets_86 ?_
        refine am_iload_n (x := a1) dX6_sets_89 rfl rfl ?_
        refine mm_ldA (k := 35) isA_35 rfl rfl dX6_sets_90 h.1 ?_
        have h := h.2
        refine am_iload_n (x := a2) dX6_sets_91 rfl rfl ?_
        refine mm_callV (Mc := m_X6_fixedAt) (as := [.int 0, .int (mA μ3 35 (Int32.toNatClampNeg a1)), .int a2]) rfl bm_X6_fixedAt q2863 q2865 qs122 (Nat.le_of_ble_eq_true rfl) dX6_sets_92 (mt_X6_fixedAt (mm_k2i h (fun v6 μ5 h => ?_)))
        refine am_iload_n (x := a2) dX6_sets_95 rfl rfl ?_
        refine mm_callV (Mc := m_X6_fixedOf) (as := [.int 0, .int v6, .int a2]) rfl bm_X6_fixedOf q2702 q2704 qs97 (Nat.le_of_ble_eq_true rfl) dX6_sets_96 (mt_X6_fixedOf (mm_k2i h (fun v8 μ7 h => ?_)))
        refine am_iadd dX6_sets_99 ?_
        refine am_aloadr_n (x := some ρ.1) dX6_sets_100 rfl rfl ?_
        refine mm_gI (k := 52) rfl (Or.inl rfl) (by decide) q2371 dX6_sets_101 ?_
        refine mm_callV (Mc := m_X6_set) (as := [.int 0, .int v4, .int (35 + v8), .int (mI μ7 52)]) rfl bm_X6_set q2674 q2676 qs90 (Nat.le_of_ble_eq_true rfl) dX6_sets_104 (mt_X6_set (mm_k2v h (fun μ9 h => ?_)))
        refine am_iconst (v := 1) dX6_sets_107 (by decide) ?_
        exact am_zret rfl rfl dX6_sets_108 ⟨_, _, rfl, rfl, h⟩
      · have h := h.2 c
        refine am_aloadr_n (x := some ρ.1) dX6_sets_47 rfl rfl ?_
        refine mm_gA (k := 37) rfl isA_37 q2356 dX6_sets_48 ?_
        refine am_bipush (v := 40) dX6_sets_51 (by decide) ?_
        refine am_iload_n (x := a1) dX6_sets_53 rfl rfl ?_
        refine am_imul dX6_sets_54 ?_
        refine am_iload_n (x := a2) dX6_sets_55 rfl rfl ?_
        refine am_iadd dX6_sets_56 ?_
        refine am_aloadr_n (x := some ρ.1) dX6_sets_57 rfl rfl ?_
        refine mm_gI (k := 52) rfl (Or.inl rfl) (by decide) q2371 dX6_sets_58 ?_
        refine mm_stA (k := 37) isA_37 rfl rfl dX6_sets_61 h.1 ?_
        have h := h.2
        generalize eμ10 : mm_sA μ1 37 (Int32.toNatClampNeg ((40 * a1) + a2)) (mI μ1 52) = μ10
        have h := h μ10 eμ10.symm
        refine am_goto (tgt := 107) dX6_sets_62 (by decide) ?_
        refine am_iconst (v := 1) dX6_sets_107 (by decide) ?_
        exact am_zret rfl rfl dX6_sets_108 ⟨_, _, rfl, rfl, h⟩
    · have h := h.2 c
      refine am_aloadr_n (x := some ρ.1) dX6_sets_24 rfl rfl ?_
      refine mm_gA (k := 36) rfl isA_36 q2355 dX6_sets_25 ?_
      refine am_bipush (v := 40) dX6_sets_28 (by decide) ?_
      refine am_iload_n (x := a1) dX6_sets_30 rfl rfl ?_
      refine am_imul dX6_sets_31 ?_
      refine am_iload_n (x := a2) dX6_sets_32 rfl rfl ?_
      refine am_iadd dX6_sets_33 ?_
      refine am_aloadr_n (x := some ρ.1) dX6_sets_34 rfl rfl ?_
      refine mm_gI (k := 52) rfl (Or.inl rfl) (by decide) q2371 dX6_sets_35 ?_
      refine mm_stA (k := 36) isA_36 rfl rfl dX6_sets_38 h.1 ?_
      have h := h.2
      generalize eμ11 : mm_sA μ1 36 (Int32.toNatClampNeg ((40 * a1) + a2)) (mI μ1 52) = μ11
      have h := h μ11 eμ11.symm
      refine am_goto (tgt := 107) dX6_sets_39 (by decide) ?_
      refine am_iconst (v := 1) dX6_sets_107 (by decide) ?_
      exact am_zret rfl rfl dX6_sets_108 ⟨_, _, rfl, rfl, h⟩
  · have h := h.2 c
    refine am_aloadr_n (x := some ρ.1) dX6_sets_12 rfl rfl ?_
    refine am_sipush (v := 1001) dX6_sets_13 (by decide) ?_
    refine mm_callV (Mc := m_X6_fails) (as := [.int 1001]) rfl bm_X6_fails q2915 q2917 qs133 (Nat.le_of_ble_eq_true rfl) dX6_sets_16 (mt_X6_fails (mm_k2i h (fun v13 μ12 h => ?_)))
    exact am_zret rfl h.1 dX6_sets_19 ⟨_, _, rfl, rfl, h.2⟩
theorem W_X6_up_f {G : am_G} {ρ : mm_F} {d : Nat} {a1 : Int32} {μ : mm_S} {Q : Int32 → mm_S → Prop} (h : (vp_in a1 21 ∧ (vp_in a1 21 ∧ ((¬ ((mA μ 47 (Int32.toNatClampNeg a1)) + 1) = (mA μ 46 (Int32.toNatClampNeg a1)) → ((¬ a1 = 20 → B_X6_up_46 G ρ (d + 1) a1 (a1 + 1) 0 μ Q) ∧ (a1 = 20 → W_X6_fails G ρ d 1005 μ (fun v2 μ1 => (narrow .boolean (.int v2) = .int v2 ∧ Q v2 μ1))))) ∧ (((mA μ 47 (Int32.toNatClampNeg a1)) + 1) = (mA μ 46 (Int32.toNatClampNeg a1)) → (vp_in a1 21 ∧ ∀ μ3 : mm_S, μ3 = mm_sA μ 45 (Int32.toNatClampNeg a1) 0 → (Q 1 μ3))))))) : W_X6_up G ρ (d + 1) a1 μ Q := by
  unfold W_X6_up
  refine am_aloadr_n (x := some ρ.1) dX6_up_0 rfl rfl ?_
  refine mm_gA (k := 47) rfl isA_47 q2366 dX6_up_1 ?_
  refine am_iload_n (x := a1) dX6_up_4 rfl rfl ?_
  refine mm_ldA (k := 47) isA_47 rfl rfl dX6_up_5 h.1 ?_
  have h := h.2
  refine am_iconst (v := 1) dX6_up_6 (by decide) ?_
  refine am_iadd dX6_up_7 ?_
  refine am_aloadr_n (x := some ρ.1) dX6_up_8 rfl rfl ?_
  refine mm_gA (k := 46) rfl isA_46 q2365 dX6_up_9 ?_
  refine am_iload_n (x := a1) dX6_up_12 rfl rfl ?_
  refine mm_ldA (k := 46) isA_46 rfl rfl dX6_up_13 h.1 ?_
  have h := h.2
  refine am_icmp_ne (tgt := 26) dX6_up_14 (by decide) (fun c => ?_) (fun c => ?_)
  · have h := h.1 c
    refine am_iload_n (x := a1) dX6_up_26 rfl rfl ?_
    refine am_bipush (v := 20) dX6_up_27 (by decide) ?_
    refine am_icmp_ne (tgt := 40) dX6_up_29 (by decide) (fun c => ?_) (fun c => ?_)
    · have h := h.1 c
      refine am_iload_n (x := a1) dX6_up_40 rfl rfl ?_
      refine am_iconst (v := 1) dX6_up_41 (by decide) ?_
      refine am_iadd dX6_up_42 ?_
      refine am_istore_n (L' := [(4, .int (a1 + 1)), (0, va_rf (some ρ.1)), (2, .int a1)]) dX6_up_43 rfl (Nat.le_of_ble_eq_true rfl) rfl ?_
      refine am_iconst (v := 0) dX6_up_44 (by decide) ?_
      refine am_istore_n (L' := [(6, .int 0), (4, .int (a1 + 1)), (0, va_rf (some ρ.1)), (2, .int a1)]) dX6_up_45 rfl (Nat.le_of_ble_eq_true rfl) rfl ?_
      exact am_lss h rfl
    · have h := h.2 c
      refine am_aloadr_n (x := some ρ.1) dX6_up_32 rfl rfl ?_
      refine am_sipush (v := 1005) dX6_up_33 (by decide) ?_
      refine mm_callV (Mc := m_X6_fails) (as := [.int 1005]) rfl bm_X6_fails q2915 q2917 qs133 (Nat.le_of_ble_eq_true rfl) dX6_up_36 (mt_X6_fails (mm_k2i h (fun v2 μ1 h => ?_)))
      exact am_zret rfl h.1 dX6_up_39 ⟨_, _, rfl, rfl, h.2⟩
  · have h := h.2 c
    refine am_aloadr_n (x := some ρ.1) dX6_up_17 rfl rfl ?_
    refine mm_gA (k := 45) rfl isA_45 q2364 dX6_up_18 ?_
    refine am_iload_n (x := a1) dX6_up_21 rfl rfl ?_
    refine am_iconst (v := 0) dX6_up_22 (by decide) ?_
    refine mm_stA (k := 45) isA_45 rfl rfl dX6_up_23 h.1 ?_
    have h := h.2
    generalize eμ3 : mm_sA μ 45 (Int32.toNatClampNeg a1) 0 = μ3
    have h := h μ3 eμ3.symm
    refine am_iconst (v := 1) dX6_up_24 (by decide) ?_
    exact am_zret rfl rfl dX6_up_25 ⟨_, _, rfl, rfl, h⟩
theorem B_X6_up_46_f {G : am_G} {ρ : mm_F} {d : Nat} {x1 : Int32} {x2 : Int32} {x3 : Int32} {μ : mm_S} {Q : Int32 → mm_S → Prop} (h : (vp_in x1 21 ∧ (((mA μ 46 (Int32.toNatClampNeg x1)) ≤ x3 → (vp_in x1 21 ∧ (vp_in x2 21 ∧ ∀ μ1 : mm_S, μ1 = mm_sA μ 46 (Int32.toNatClampNeg x2) (mA μ 46 (Int32.toNatClampNeg x1)) → ((vp_in x1 21 ∧ (vp_in x2 21 ∧ ∀ μ2 : mm_S, μ2 = mm_sA μ1 47 (Int32.toNatClampNeg x2) ((mA μ1 47 (Int32.toNatClampNeg x1)) + 1) → ((vp_in x1 21 ∧ (vp_in x2 21 ∧ ∀ μ3 : mm_S, μ3 = mm_sA μ2 43 (Int32.toNatClampNeg x2) (mA μ2 43 (Int32.toNatClampNeg x1)) → ((vp_in x1 21 ∧ (vp_in x2 21 ∧ ∀ μ4 : mm_S, μ4 = mm_sA μ3 44 (Int32.toNatClampNeg x2) (mA μ3 44 (Int32.toNatClampNeg x1)) → ((vp_in x2 21 ∧ ∀ μ5 : mm_S, μ5 = mm_sA μ4 45 (Int32.toNatClampNeg x2) 0 → ((vp_in x1 21 ∧ (vp_in x2 21 ∧ ∀ μ6 : mm_S, μ6 = mm_sA μ5 48 (Int32.toNatClampNeg x2) (mA μ5 48 (Int32.toNatClampNeg x1)) → (W_X6_body G ρ d x2 μ6 (fun v8 μ7 => (narrow .boolean (.int v8) = .int v8 ∧ Q v8 μ7)))))))))))))))))))) ∧ (¬ (mA μ 46 (Int32.toNatClampNeg x1)) ≤ x3 → (vp_in ((12 * x1) + x3) 252 ∧ (vp_in ((12 * x2) + x3) 252 ∧ ∀ μ9 : mm_S, μ9 = mm_sA μ 49 (Int32.toNatClampNeg ((12 * x2) + x3)) (mA μ 49 (Int32.toNatClampNeg ((12 * x1) + x3))) → ((vp_in ((12 * x1) + x3) 252 ∧ (vp_in ((12 * x2) + x3) 252 ∧ ∀ μ10 : mm_S, μ10 = mm_sA μ9 50 (Int32.toNatClampNeg ((12 * x2) + x3)) (mA μ9 50 (Int32.toNatClampNeg ((12 * x1) + x3))) → ((vp_in ((12 * x1) + x3) 252 ∧ (vp_in ((12 * x2) + x3) 252 ∧ ∀ μ11 : mm_S, μ11 = mm_sA μ10 51 (Int32.toNatClampNeg ((12 * x2) + x3)) (mA μ10 51 (Int32.toNatClampNeg ((12 * x1) + x3))) → (B_X6_up_46 G ρ (d + 1) x1 x2 (x3 + 1) μ11 Q))))))))))))) : B_X6_up_46 G ρ (d + 1) x1 x2 x3 μ Q := by
  unfold B_X6_up_46
  refine am_iload_n (x := x3) dX6_up_46 rfl rfl ?_
  refine am_aloadr_n (x := some ρ.1) dX6_up_47 rfl rfl ?_
  refine mm_gA (k := 46) rfl isA_46 q2365 dX6_up_48 ?_
  refine am_iload_n (x := x1) dX6_up_51 rfl rfl ?_
  refine mm_ldA (k := 46) isA_46 rfl rfl dX6_up_52 h.1 ?_
  have h := h.2
  refine am_icmp_ge (tgt := 128) dX6_up_53 (by decide) (fun c => ?_) (fun c => ?_)
  · have h := h.1 c
    refine am_aloadr_n (x := some ρ.1) dX6_up_128 rfl rfl ?_
    refine mm_gA (k := 46) rfl isA_46 q2365 dX6_up_129 ?_
    refine am_iload_n (x := x2) dX6_up_132 rfl rfl ?_
    refine am_aloadr_n (x := some ρ.1) dX6_up_133 rfl rfl ?_
    refine mm_gA (k := 46) rfl isA_46 q2365 dX6_up_134 ?_
    refine am_iload_n (x := x1) dX6_up_137 rfl rfl ?_
    refine mm_ldA (k := 46) isA_46 rfl rfl dX6_up_138 h.1 ?_
    have h := h.2
    refine mm_stA (k := 46) isA_46 rfl rfl dX6_up_139 h.1 ?_
    have h := h.2
    generalize eμ1 : mm_sA μ 46 (Int32.toNatClampNeg x2) (mA μ 46 (Int32.toNatClampNeg x1)) = μ1
    have h := h μ1 eμ1.symm
    refine am_aloadr_n (x := some ρ.1) dX6_up_140 rfl rfl ?_
    refine mm_gA (k := 47) rfl isA_47 q2366 dX6_up_141 ?_
    refine am_iload_n (x := x2) dX6_up_144 rfl rfl ?_
    refine am_aloadr_n (x := some ρ.1) dX6_up_145 rfl rfl ?_
    refine mm_gA (k := 47) rfl isA_47 q2366 dX6_up_146 ?_
    refine am_iload_n (x := x1) dX6_up_149 rfl rfl ?_
    refine mm_ldA (k := 47) isA_47 rfl rfl dX6_up_150 h.1 ?_
    have h := h.2
    refine am_iconst (v := 1) dX6_up_151 (by decide) ?_
    refine am_iadd dX6_up_152 ?_
    refine mm_stA (k := 47) isA_47 rfl rfl dX6_up_153 h.1 ?_
    have h := h.2
    generalize eμ2 : mm_sA μ1 47 (Int32.toNatClampNeg x2) ((mA μ1 47 (Int32.toNatClampNeg x1)) + 1) = μ2
    have h := h μ2 eμ2.symm
    refine am_aloadr_n (x := some ρ.1) dX6_up_154 rfl rfl ?_
    refine mm_gA (k := 43) rfl isA_43 q2362 dX6_up_155 ?_
    refine am_iload_n (x := x2) dX6_up_158 rfl rfl ?_
    refine am_aloadr_n (x := some ρ.1) dX6_up_159 rfl rfl ?_
    refine mm_gA (k := 43) rfl isA_43 q2362 dX6_up_160 ?_
    refine am_iload_n (x := x1) dX6_up_163 rfl rfl ?_
    refine mm_ldA (k := 43) isA_43 rfl rfl dX6_up_164 h.1 ?_
    have h := h.2
    refine mm_stA (k := 43) isA_43 rfl rfl dX6_up_165 h.1 ?_
    have h := h.2
    generalize eμ3 : mm_sA μ2 43 (Int32.toNatClampNeg x2) (mA μ2 43 (Int32.toNatClampNeg x1)) = μ3
    have h := h μ3 eμ3.symm
    refine am_aloadr_n (x := some ρ.1) dX6_up_166 rfl rfl ?_
    refine mm_gA (k := 44) rfl isA_44 q2363 dX6_up_167 ?_
    refine am_iload_n (x := x2) dX6_up_170 rfl rfl ?_
    refine am_aloadr_n (x := some ρ.1) dX6_up_171 rfl rfl ?_
    refine mm_gA (k := 44) rfl isA_44 q2363 dX6_up_172 ?_
    refine am_iload_n (x := x1) dX6_up_175 rfl rfl ?_
    refine mm_ldA (k := 44) isA_44 rfl rfl dX6_up_176 h.1 ?_
    have h := h.2
    refine mm_stA (k := 44) isA_44 rfl rfl dX6_up_177 h.1 ?_
    have h := h.2
    generalize eμ4 : mm_sA μ3 44 (Int32.toNatClampNeg x2) (mA μ3 44 (Int32.toNatClampNeg x1)) = μ4
    have h := h μ4 eμ4.symm
    refine am_aloadr_n (x := some ρ.1) dX6_up_178 rfl rfl ?_
    refine mm_gA (k := 45) rfl isA_45 q2364 dX6_up_179 ?_
    refine am_iload_n (x := x2) dX6_up_182 rfl rfl ?_
    refine am_iconst (v := 0) dX6_up_183 (by decide) ?_
    refine mm_stA (k := 45) isA_45 rfl rfl dX6_up_184 h.1 ?_
    have h := h.2
    generalize eμ5 : mm_sA μ4 45 (Int32.toNatClampNeg x2) 0 = μ5
    have h := h μ5 eμ5.symm
    refine am_aloadr_n (x := some ρ.1) dX6_up_185 rfl rfl ?_
    refine mm_gA (k := 48) rfl isA_48 q2367 dX6_up_186 ?_
    refine am_iload_n (x := x2) dX6_up_189 rfl rfl ?_
    refine am_aloadr_n (x := some ρ.1) dX6_up_190 rfl rfl ?_
    refine mm_gA (k := 48) rfl isA_48 q2367 dX6_up_191 ?_
    refine am_iload_n (x := x1) dX6_up_194 rfl rfl ?_
    refine mm_ldA (k := 48) isA_48 rfl rfl dX6_up_195 h.1 ?_
    have h := h.2
    refine mm_stA (k := 48) isA_48 rfl rfl dX6_up_196 h.1 ?_
    have h := h.2
    generalize eμ6 : mm_sA μ5 48 (Int32.toNatClampNeg x2) (mA μ5 48 (Int32.toNatClampNeg x1)) = μ6
    have h := h μ6 eμ6.symm
    refine am_aloadr_n (x := some ρ.1) dX6_up_197 rfl rfl ?_
    refine am_iload_n (x := x2) dX6_up_198 rfl rfl ?_
    refine mm_callV (Mc := m_X6_body) (as := [.int x2]) rfl bm_X6_body q2930 q2932 qs136 (Nat.le_of_ble_eq_true rfl) dX6_up_199 (mt_X6_body (mm_k2i h (fun v8 μ7 h => ?_)))
    exact am_zret rfl h.1 dX6_up_202 ⟨_, _, rfl, rfl, h.2⟩
  · have h := h.2 c
    refine am_aloadr_n (x := some ρ.1) dX6_up_56 rfl rfl ?_
    refine mm_gA (k := 49) rfl isA_49 q2368 dX6_up_57 ?_
    refine am_bipush (v := 12) dX6_up_60 (by decide) ?_
    refine am_iload_n (x := x2) dX6_up_62 rfl rfl ?_
    refine am_imul dX6_up_63 ?_
    refine am_iload_n (x := x3) dX6_up_64 rfl rfl ?_
    refine am_iadd dX6_up_65 ?_
    refine am_aloadr_n (x := some ρ.1) dX6_up_66 rfl rfl ?_
    refine mm_gA (k := 49) rfl isA_49 q2368 dX6_up_67 ?_
    refine am_bipush (v := 12) dX6_up_70 (by decide) ?_
    refine am_iload_n (x := x1) dX6_up_72 rfl rfl ?_
    refine am_imul dX6_up_73 ?_
    refine am_iload_n (x := x3) dX6_up_74 rfl rfl ?_
    refine am_iadd dX6_up_75 ?_
    refine mm_ldA (k := 49) isA_49 rfl rfl dX6_up_76 h.1 ?_
    have h := h.2
    refine mm_stA (k := 49) isA_49 rfl rfl dX6_up_77 h.1 ?_
    have h := h.2
    generalize eμ9 : mm_sA μ 49 (Int32.toNatClampNeg ((12 * x2) + x3)) (mA μ 49 (Int32.toNatClampNeg ((12 * x1) + x3))) = μ9
    have h := h μ9 eμ9.symm
    refine am_aloadr_n (x := some ρ.1) dX6_up_78 rfl rfl ?_
    refine mm_gA (k := 50) rfl isA_50 q2369 dX6_up_79 ?_
    refine am_bipush (v := 12) dX6_up_82 (by decide) ?_
    refine am_iload_n (x := x2) dX6_up_84 rfl rfl ?_
    refine am_imul dX6_up_85 ?_
    refine am_iload_n (x := x3) dX6_up_86 rfl rfl ?_
    refine am_iadd dX6_up_87 ?_
    refine am_aloadr_n (x := some ρ.1) dX6_up_88 rfl rfl ?_
    refine mm_gA (k := 50) rfl isA_50 q2369 dX6_up_89 ?_
    refine am_bipush (v := 12) dX6_up_92 (by decide) ?_
    refine am_iload_n (x := x1) dX6_up_94 rfl rfl ?_
    refine am_imul dX6_up_95 ?_
    refine am_iload_n (x := x3) dX6_up_96 rfl rfl ?_
    refine am_iadd dX6_up_97 ?_
    refine mm_ldA (k := 50) isA_50 rfl rfl dX6_up_98 h.1 ?_
    have h := h.2
    refine mm_stA (k := 50) isA_50 rfl rfl dX6_up_99 h.1 ?_
    have h := h.2
    generalize eμ10 : mm_sA μ9 50 (Int32.toNatClampNeg ((12 * x2) + x3)) (mA μ9 50 (Int32.toNatClampNeg ((12 * x1) + x3))) = μ10
    have h := h μ10 eμ10.symm
    refine am_aloadr_n (x := some ρ.1) dX6_up_100 rfl rfl ?_
    refine mm_gA (k := 51) rfl isA_51 q2370 dX6_up_101 ?_
    refine am_bipush (v := 12) dX6_up_104 (by decide) ?_
    refine am_iload_n (x := x2) dX6_up_106 rfl rfl ?_
    refine am_imul dX6_up_107 ?_
    refine am_iload_n (x := x3) dX6_up_108 rfl rfl ?_
    refine am_iadd dX6_up_109 ?_
    refine am_aloadr_n (x := some ρ.1) dX6_up_110 rfl rfl ?_
    refine mm_gA (k := 51) rfl isA_51 q2370 dX6_up_111 ?_
    refine am_bipush (v := 12) dX6_up_114 (by decide) ?_
    refine am_iload_n (x := x1) dX6_up_116 rfl rfl ?_
    refine am_imul dX6_up_117 ?_
    refine am_iload_n (x := x3) dX6_up_118 rfl rfl ?_
    refine am_iadd dX6_up_119 ?_
    refine mm_ldA (k := 51) isA_51 rfl rfl dX6_up_120 h.1 ?_
    have h := h.2
    refine mm_stA (k := 51) isA_51 rfl rfl dX6_up_121 h.1 ?_
    have h := h.2
    generalize eμ11 : mm_sA μ10 51 (Int32.toNatClampNeg ((12 * x2) + x3)) (mA μ10 51 (Int32.toNatClampNeg ((12 * x1) + x3))) = μ11
    have h := h μ11 eμ11.symm
    refine am_iinc (x := x3) (v := (x3 + 1)) (L' := [(6, .int (x3 + 1)), (0, va_rf (some ρ.1)), (2, .int x1), (4, .int x2)]) dX6_up_122 rfl rfl (Nat.le_of_ble_eq_true rfl) rfl ?_
    refine am_goto (tgt := 46) dX6_up_125 (by decide) ?_
    exact am_lss h rfl
theorem W_X6_body_f {G : am_G} {ρ : mm_F} {d : Nat} {a1 : Int32} {μ : mm_S} {Q : Int32 → mm_S → Prop} (h : W_X6_ran G ρ d a1 μ (fun μ1 => (∀ μ2 : mm_S, μ2 = mm_sI μ1 40 0 → ((vp_in a1 21 ∧ (vp_in ((12 * a1) + (mA μ2 47 (Int32.toNatClampNeg a1))) 252 ∧ W_X6_goes G ρ d (mA μ2 49 (Int32.toNatClampNeg ((12 * a1) + (mA μ2 47 (Int32.toNatClampNeg a1))))) a1 0 μ2 (fun v4 μ3 => ((¬ v4 = 2 → ((¬ v4 = 1 → (vp_in (a1 - 1) 21 ∧ ∀ μ5 : mm_S, μ5 = mm_sA μ3 45 (Int32.toNatClampNeg (a1 - 1)) 0 → (Q 1 μ5))) ∧ (v4 = 1 → (vp_in (a1 - 1) 21 ∧ ∀ μ6 : mm_S, μ6 = mm_sA μ3 45 (Int32.toNatClampNeg (a1 - 1)) (mI μ3 40) → (Q 1 μ6))))) ∧ (v4 = 2 → Q 0 μ3))))))))) : W_X6_body G ρ (d + 1) a1 μ Q := by
  unfold W_X6_body
  refine am_aloadr_n (x := some ρ.1) dX6_body_0 rfl rfl ?_
  refine am_iload_n (x := a1) dX6_body_1 rfl rfl ?_
  refine mm_callV (Mc := m_X6_ran) (as := [.int a1]) rfl bm_X6_ran q2934 q2936 qs137 (Nat.le_of_ble_eq_true rfl) dX6_body_2 (mt_X6_ran (mm_k2v h (fun μ1 h => ?_)))
  refine am_aloadr_n (x := some ρ.1) dX6_body_5 rfl rfl ?_
  refine am_iconst (v := 0) dX6_body_6 (by decide) ?_
  refine mm_pI (k := 40) rfl rfl rfl (by decide) q2359 rfl dX6_body_7 ?_
  generalize eμ2 : mm_sI μ1 40 0 = μ2
  have h := h μ2 eμ2.symm
  refine am_aloadr_n (x := some ρ.1) dX6_body_10 rfl rfl ?_
  refine am_aloadr_n (x := some ρ.1) dX6_body_11 rfl rfl ?_
  refine mm_gA (k := 49) rfl isA_49 q2368 dX6_body_12 ?_
  refine am_bipush (v := 12) dX6_body_15 (by decide) ?_
  refine am_iload_n (x := a1) dX6_body_17 rfl rfl ?_
  refine am_imul dX6_body_18 ?_
  refine am_aloadr_n (x := some ρ.1) dX6_body_19 rfl rfl ?_
  refine mm_gA (k := 47) rfl isA_47 q2366 dX6_body_20 ?_
  refine am_iload_n (x := a1) dX6_body_23 rfl rfl ?_
  refine mm_ldA (k := 47) isA_47 rfl rfl dX6_body_24 h.1 ?_
  have h := h.2
  refine am_iadd dX6_body_25 ?_
  refine mm_ldA (k := 49) isA_49 rfl rfl dX6_body_26 h.1 ?_
  have h := h.2
  refine am_iload_n (x := a1) dX6_body_27 rfl rfl ?_
  refine am_iconst (v := 0) dX6_body_28 (by decide) ?_
  refine mm_callV (Mc := m_X6_goes) (as := [.int (mA μ2 49 (Int32.toNatClampNeg ((12 * a1) + (mA μ2 47 (Int32.toNatClampNeg a1))))), .int a1, .int 0]) rfl bm_X6_goes q2887 q2889 qs126 (Nat.le_of_ble_eq_true rfl) dX6_body_29 (mt_X6_goes (mm_k2i h (fun v4 μ3 h => ?_)))
  refine am_istore_n (L' := [(4, .int v4), (0, va_rf (some ρ.1)), (2, .int a1)]) dX6_body_32 rfl (Nat.le_of_ble_eq_true rfl) rfl ?_
  refine am_iload_n (x := v4) dX6_body_33 rfl rfl ?_
  refine am_iconst (v := 2) dX6_body_34 (by decide) ?_
  refine am_icmp_ne (tgt := 40) dX6_body_35 (by decide) (fun c => ?_) (fun c => ?_)
  · have h := h.1 c
    refine am_aloadr_n (x := some ρ.1) dX6_body_40 rfl rfl ?_
    refine mm_gA (k := 45) rfl isA_45 q2364 dX6_body_41 ?_
    refine am_iload_n (x := a1) dX6_body_44 rfl rfl ?_
    refine am_iconst (v := 1) dX6_body_45 (by decide) ?_
    refine am_isub dX6_body_46 ?_
    refine am_iload_n (x := v4) dX6_body_47 rfl rfl ?_
    refine am_iconst (v := 1) dX6_body_48 (by decide) ?_
    refine am_icmp_ne (tgt := 59) dX6_body_49 (by decide) (fun c => ?_) (fun c => ?_)
    · have h := h.1 c
      refine am_iconst (v := 0) dX6_body_59 (by decide) ?_
      refine mm_stA (k := 45) isA_45 rfl rfl dX6_body_60 h.1 ?_
      have h := h.2
      generalize eμ5 : mm_sA μ3 45 (Int32.toNatClampNeg (a1 - 1)) 0 = μ5
      have h := h μ5 eμ5.symm
      refine am_iconst (v := 1) dX6_body_61 (by decide) ?_
      exact am_zret rfl rfl dX6_body_62 ⟨_, _, rfl, rfl, h⟩
    · have h := h.2 c
      refine am_aloadr_n (x := some ρ.1) dX6_body_52 rfl rfl ?_
      refine mm_gI (k := 40) rfl (Or.inl rfl) (by decide) q2359 dX6_body_53 ?_
      refine am_goto (tgt := 60) dX6_body_56 (by decide) ?_
      refine mm_stA (k := 45) isA_45 rfl rfl dX6_body_60 h.1 ?_
      have h := h.2
      generalize eμ6 : mm_sA μ3 45 (Int32.toNatClampNeg (a1 - 1)) (mI μ3 40) = μ6
      have h := h μ6 eμ6.symm
      refine am_iconst (v := 1) dX6_body_61 (by decide) ?_
      exact am_zret rfl rfl dX6_body_62 ⟨_, _, rfl, rfl, h⟩
  · have h := h.2 c
    refine am_iconst (v := 0) dX6_body_38 (by decide) ?_
    exact am_zret rfl rfl dX6_body_39 ⟨_, _, rfl, rfl, h⟩
theorem W_X6_ran_f {G : am_G} {ρ : mm_F} {d : Nat} {a1 : Int32} {μ : mm_S} {Q : mm_S → Prop} (h : (((mI μ 60) = 0 → Q μ) ∧ (¬ (mI μ 60) = 0 → ((¬ (mI μ 66) = 50 → (vp_in a1 21 ∧ (vp_in a1 21 ∧ (vp_in (mI μ 66) 50 ∧ ∀ μ1 : mm_S, μ1 = mm_sA μ 62 (Int32.toNatClampNeg (mI μ 66)) (mA μ 43 (Int32.toNatClampNeg a1)) → ((vp_in a1 21 ∧ (vp_in (mI μ1 66) 50 ∧ ∀ μ2 : mm_S, μ2 = mm_sA μ1 63 (Int32.toNatClampNeg (mI μ1 66)) (mA μ1 48 (Int32.toNatClampNeg a1)) → ((vp_in ((12 * a1) + (mA μ 47 (Int32.toNatClampNeg a1))) 252 ∧ (vp_in (mI μ2 66) 50 ∧ ∀ μ3 : mm_S, μ3 = mm_sA μ2 64 (Int32.toNatClampNeg (mI μ2 66)) (mA μ2 50 (Int32.toNatClampNeg ((12 * a1) + (mA μ 47 (Int32.toNatClampNeg a1))))) → ((vp_in ((12 * a1) + (mA μ 47 (Int32.toNatClampNeg a1))) 252 ∧ (vp_in (mI μ3 66) 50 ∧ ∀ μ4 : mm_S, μ4 = mm_sA μ3 65 (Int32.toNatClampNeg (mI μ3 66)) (mA μ3 51 (Int32.toNatClampNeg ((12 * a1) + (mA μ 47 (Int32.toNatClampNeg a1))))) → ((∀ μ5 : mm_S, μ5 = mm_sI μ4 66 ((mI μ4 66) + 1) → (Q μ5)))))))))))))))) ∧ ((mI μ 66) = 50 → Q μ))))) : W_X6_ran G ρ d a1 μ Q := by
  unfold W_X6_ran
  refine am_aloadr_n (x := some ρ.1) dX6_ran_0 rfl rfl ?_
  refine mm_gI (k := 60) rfl (Or.inr rfl) (by decide) q2379 dX6_ran_1 ?_
  refine am_if_eq (tgt := 16) dX6_ran_4 (by decide) (fun c => ?_) (fun c => ?_)
  · have h := h.1 c
    exact am_vret rfl dX6_ran_16 ⟨_, rfl, rfl, h⟩
  · have h := h.2 c
    refine am_aloadr_n (x := some ρ.1) dX6_ran_7 rfl rfl ?_
    refine mm_gI (k := 66) rfl (Or.inl rfl) (by decide) q2385 dX6_ran_8 ?_
    refine am_bipush (v := 50) dX6_ran_11 (by decide) ?_
    refine am_icmp_ne (tgt := 17) dX6_ran_13 (by decide) (fun c => ?_) (fun c => ?_)
    · have h := h.1 c
      refine am_bipush (v := 12) dX6_ran_17 (by decide) ?_
      refine am_iload_n (x := a1) dX6_ran_19 rfl rfl ?_
      refine am_imul dX6_ran_20 ?_
      refine am_aloadr_n (x := some ρ.1) dX6_ran_21 rfl rfl ?_
      refine mm_gA (k := 47) rfl isA_47 q2366 dX6_ran_22 ?_
      refine am_iload_n (x := a1) dX6_ran_25 rfl rfl ?_
      refine mm_ldA (k := 47) isA_47 rfl rfl dX6_ran_26 h.1 ?_
      have h := h.2
      refine am_iadd dX6_ran_27 ?_
      refine am_istore_n (L' := [(4, .int ((12 * a1) + (mA μ 47 (Int32.toNatClampNeg a1)))), (0, va_rf (some ρ.1)), (2, .int a1)]) dX6_ran_28 rfl (Nat.le_of_ble_eq_true rfl) rfl ?_
      refine am_aloadr_n (x := some ρ.1) dX6_ran_29 rfl rfl ?_
      refine mm_gA (k := 62) rfl isA_62 q2381 dX6_ran_30 ?_
      refine am_aloadr_n (x := some ρ.1) dX6_ran_33 rfl rfl ?_
      refine mm_gI (k := 66) rfl (Or.inl rfl) (by decide) q2385 dX6_ran_34 ?_
      refine am_aloadr_n (x := some ρ.1) dX6_ran_37 rfl rfl ?_
      refine mm_gA (k := 43) rfl isA_43 q2362 dX6_ran_38 ?_
      refine am_iload_n (x := a1) dX6_ran_41 rfl rfl ?_
      refine mm_ldA (k := 43) isA_43 rfl rfl dX6_ran_42 h.1 ?_
      have h := h.2
      refine mm_stA (k := 62) isA_62 rfl rfl dX6_ran_43 h.1 ?_
      have h := h.2
      generalize eμ1 : mm_sA μ 62 (Int32.toNatClampNeg (mI μ 66)) (mA μ 43 (Int32.toNatClampNeg a1)) = μ1
      have h := h μ1 eμ1.symm
      refine am_aloadr_n (x := some ρ.1) dX6_ran_44 rfl rfl ?_
      refine mm_gA (k := 63) rfl isA_63 q2382 dX6_ran_45 ?_
      refine am_aloadr_n (x := some ρ.1) dX6_ran_48 rfl rfl ?_
      refine mm_gI (k := 66) rfl (Or.inl rfl) (by decide) q2385 dX6_ran_49 ?_
      refine am_aloadr_n (x := some ρ.1) dX6_ran_52 rfl rfl ?_
      refine mm_gA (k := 48) rfl isA_48 q2367 dX6_ran_53 ?_
      refine am_iload_n (x := a1) dX6_ran_56 rfl rfl ?_
      refine mm_ldA (k := 48) isA_48 rfl rfl dX6_ran_57 h.1 ?_
      have h := h.2
      refine mm_stA (k := 63) isA_63 rfl rfl dX6_ran_58 h.1 ?_
      have h := h.2
      generalize eμ2 : mm_sA μ1 63 (Int32.toNatClampNeg (mI μ1 66)) (mA μ1 48 (Int32.toNatClampNeg a1)) = μ2
      have h := h μ2 eμ2.symm
      refine am_aloadr_n (x := some ρ.1) dX6_ran_59 rfl rfl ?_
      refine mm_gA (k := 64) rfl isA_64 q2383 dX6_ran_60 ?_
      refine am_aloadr_n (x := some ρ.1) dX6_ran_63 rfl rfl ?_
      refine mm_gI (k := 66) rfl (Or.inl rfl) (by decide) q2385 dX6_ran_64 ?_
      refine am_aloadr_n (x := some ρ.1) dX6_ran_67 rfl rfl ?_
      refine mm_gA (k := 50) rfl isA_50 q2369 dX6_ran_68 ?_
      refine am_iload_n (x := ((12 * a1) + (mA μ 47 (Int32.toNatClampNeg a1)))) dX6_ran_71 rfl rfl ?_
      refine mm_ldA (k := 50) isA_50 rfl rfl dX6_ran_72 h.1 ?_
      have h := h.2
      refine mm_stA (k := 64) isA_64 rfl rfl dX6_ran_73 h.1 ?_
      have h := h.2
      generalize eμ3 : mm_sA μ2 64 (Int32.toNatClampNeg (mI μ2 66)) (mA μ2 50 (Int32.toNatClampNeg ((12 * a1) + (mA μ 47 (Int32.toNatClampNeg a1))))) = μ3
      have h := h μ3 eμ3.symm
      refine am_aloadr_n (x := some ρ.1) dX6_ran_74 rfl rfl ?_
      refine mm_gA (k := 65) rfl isA_65 q2384 dX6_ran_75 ?_
      refine am_aloadr_n (x := some ρ.1) dX6_ran_78 rfl rfl ?_
      refine mm_gI (k := 66) rfl (Or.inl rfl) (by decide) q2385 dX6_ran_79 ?_
      refine am_aloadr_n (x := some ρ.1) dX6_ran_82 rfl rfl ?_
      refine mm_gA (k := 51) rfl isA_51 q2370 dX6_ran_83 ?_
      refine am_iload_n (x := ((12 * a1) + (mA μ 47 (Int32.toNatClampNeg a1)))) dX6_ran_86 rfl rfl ?_
      refine mm_ldA (k := 51) isA_51 rfl rfl dX6_ran_87 h.1 ?_
      have h := h.2
      refine mm_stA (k := 65) isA_65 rfl rfl dX6_ran_88 h.1 ?_
      have h := h.2
      generalize eμ4 : mm_sA μ3 65 (Int32.toNatClampNeg (mI μ3 66)) (mA μ3 51 (Int32.toNatClampNeg ((12 * a1) + (mA μ 47 (Int32.toNatClampNeg a1))))) = μ4
      have h := h μ4 eμ4.symm
      refine am_aloadr_n (x := some ρ.1) dX6_ran_89 rfl rfl ?_
      refine am_dup dX6_ran_90 (am_rf_cat _) ?_
      refine mm_gI (k := 66) rfl (Or.inl rfl) (by decide) q2385 dX6_ran_91 ?_
      refine am_iconst (v := 1) dX6_ran_94 (by decide) ?_
      refine am_iadd dX6_ran_95 ?_
      refine mm_pI (k := 66) rfl rfl rfl (by decide) q2385 rfl dX6_ran_96 ?_
      generalize eμ5 : mm_sI μ4 66 ((mI μ4 66) + 1) = μ5
      have h := h μ5 eμ5.symm
      exact am_vret rfl dX6_ran_99 ⟨_, rfl, rfl, h⟩
    · have h := h.2 c
      exact am_vret rfl dX6_ran_16 ⟨_, rfl, rfl, h⟩
theorem W_X6_calls_f {G : am_G} {ρ : mm_F} {d : Nat} {a1 : Int32} {a2 : Int32} {μ : mm_S} {Q : Int32 → mm_S → Prop} (h : (vp_in a2 21 ∧ W_X6_of G ρ d a1 1 μ (fun v2 μ1 => W_X6_of G ρ d a1 0 μ1 (fun v4 μ3 => ((¬ v4 = 25 → (vp_in (mA μ 43 (Int32.toNatClampNeg a2)) 40 ∧ B_X6_calls_172 G ρ (d + 1) a2 (mA μ 43 (Int32.toNatClampNeg a2)) v2 0 (mA μ3 35 (Int32.toNatClampNeg (mA μ 43 (Int32.toNatClampNeg a2)))) μ3 Q)) ∧ (v4 = 25 → W_X6_sort G ρ d (mA μ 43 (Int32.toNatClampNeg a2)) v2 μ3 (fun v6 μ5 => ((¬ v6 = (-1) → ((¬ v6 = 0 → ((¬ v6 = 2 → (vp_in (mA μ 43 (Int32.toNatClampNeg a2)) 40 ∧ W_X6_fixedAt G ρ d 0 (mA μ5 35 (Int32.toNatClampNeg (mA μ 43 (Int32.toNatClampNeg a2)))) v2 μ5 (fun v8 μ7 => (vp_in (mA μ 43 (Int32.toNatClampNeg a2)) 40 ∧ W_X6_fixedAt G ρ d 0 (mA μ7 35 (Int32.toNatClampNeg (mA μ 43 (Int32.toNatClampNeg a2)))) v2 μ7 (fun v10 μ9 => W_X6_fixedOf G ρ d 0 v10 v2 μ9 (fun v12 μ11 => W_X6_get G ρ d 0 v8 (35 + v12) μ11 (fun v14 μ13 => B_X6_calls_131 G ρ (d + 1) a1 a2 v14 μ13 Q))))))) ∧ (v6 = 2 → (vp_in ((40 * (mA μ 43 (Int32.toNatClampNeg a2))) + v2) 1600 ∧ B_X6_calls_131 G ρ (d + 1) a1 a2 (mA μ5 37 (Int32.toNatClampNeg ((40 * (mA μ 43 (Int32.toNatClampNeg a2))) + v2))) μ5 Q)))) ∧ (v6 = 0 → (vp_in ((40 * (mA μ 43 (Int32.toNatClampNeg a2))) + v2) 1600 ∧ B_X6_calls_131 G ρ (d + 1) a1 a2 (mA μ5 36 (Int32.toNatClampNeg ((40 * (mA μ 43 (Int32.toNatClampNeg a2))) + v2))) μ5 Q)))) ∧ (v6 = (-1) → W_X6_fails G ρ d 1001 μ5 (fun v16 μ15 => (narrow .boolean (.int v16) = .int v16 ∧ Q v16 μ15))))))))))) : W_X6_calls G ρ (d + 1) a1 a2 μ Q := by
  unfold W_X6_calls
  refine am_aloadr_n (x := some ρ.1) dX6_calls_0 rfl rfl ?_
  refine mm_gA (k := 43) rfl isA_43 q2362 dX6_calls_1 ?_
  refine am_iload_n (x := a2) dX6_calls_4 rfl rfl ?_
  refine mm_ldA (k := 43) isA_43 rfl rfl dX6_calls_5 h.1 ?_
  have h := h.2
  refine am_istore_n (L' := [(6, .int (mA μ 43 (Int32.toNatClampNeg a2))), (0, va_rf (some ρ.1)), (2, .int a1), (4, .int a2)]) dX6_calls_6 rfl (Nat.le_of_ble_eq_true rfl) rfl ?_
  refine am_aloadr_n (x := some ρ.1) dX6_calls_7 rfl rfl ?_
  refine am_iload_n (x := a1) dX6_calls_8 rfl rfl ?_
  refine am_iconst (v := 1) dX6_calls_9 (by decide) ?_
  refine mm_callV (Mc := m_X6_of) (as := [.int a1, .int 1]) rfl bm_X6_of q2895 q2897 qs128 (Nat.le_of_ble_eq_true rfl) dX6_calls_10 (mt_X6_of (mm_k2i h (fun v2 μ1 h => ?_)))
  refine am_istore (L' := [(8, .int v2), (6, .int (mA μ 43 (Int32.toNatClampNeg a2))), (0, va_rf (some ρ.1)), (2, .int a1), (4, .int a2)]) dX6_calls_13 (Nat.le_of_ble_eq_true rfl) rfl ?_
  refine am_aloadr_n (x := some ρ.1) dX6_calls_15 rfl rfl ?_
  refine am_iload_n (x := a1) dX6_calls_16 rfl rfl ?_
  refine am_iconst (v := 0) dX6_calls_17 (by decide) ?_
  refine mm_callV (Mc := m_X6_of) (as := [.int a1, .int 0]) rfl bm_X6_of q2895 q2897 qs128 (Nat.le_of_ble_eq_true rfl) dX6_calls_18 (mt_X6_of (mm_k2i h (fun v4 μ3 h => ?_)))
  refine am_bipush (v := 25) dX6_calls_21 (by decide) ?_
  refine am_icmp_ne (tgt := 161) dX6_calls_23 (by decide) (fun c => ?_) (fun c => ?_)
  · have h := h.1 c
    refine am_iconst (v := 0) dX6_calls_161 (by decide) ?_
    refine am_istore (L' := [(10, .int 0), (8, .int v2), (6, .int (mA μ 43 (Int32.toNatClampNeg a2))), (0, va_rf (some ρ.1)), (2, .int a1), (4, .int a2)]) dX6_calls_162 (Nat.le_of_ble_eq_true rfl) rfl ?_
    refine am_aloadr_n (x := some ρ.1) dX6_calls_164 rfl rfl ?_
    refine mm_gA (k := 35) rfl isA_35 q2354 dX6_calls_165 ?_
    refine am_iload_n (x := (mA μ 43 (Int32.toNatClampNeg a2))) dX6_calls_168 rfl rfl ?_
    refine mm_ldA (k := 35) isA_35 rfl rfl dX6_calls_169 h.1 ?_
    have h := h.2
    refine am_istore (L' := [(12, .int (mA μ3 35 (Int32.toNatClampNeg (mA μ 43 (Int32.toNatClampNeg a2))))), (10, .int 0), (8, .int v2), (6, .int (mA μ 43 (Int32.toNatClampNeg a2))), (0, va_rf (some ρ.1)), (2, .int a1), (4, .int a2)]) dX6_calls_170 (Nat.le_of_ble_eq_true rfl) rfl ?_
    exact am_lss h rfl
  · have h := h.2 c
    refine am_aloadr_n (x := some ρ.1) dX6_calls_26 rfl rfl ?_
    refine am_iload_n (x := (mA μ 43 (Int32.toNatClampNeg a2))) dX6_calls_27 rfl rfl ?_
    refine am_iload (x := v2) dX6_calls_28 rfl ?_
    refine mm_callV (Mc := m_X6_sort) (as := [.int (mA μ 43 (Int32.toNatClampNeg a2)), .int v2]) rfl bm_X6_sort q2911 q2913 qs132 (Nat.le_of_ble_eq_true rfl) dX6_calls_30 (mt_X6_sort (mm_k2i h (fun v6 μ5 h => ?_)))
    refine am_istore (L' := [(10, .int v6), (8, .int v2), (6, .int (mA μ 43 (Int32.toNatClampNeg a2))), (0, va_rf (some ρ.1)), (2, .int a1), (4, .int a2)]) dX6_calls_33 (Nat.le_of_ble_eq_true rfl) rfl ?_
    refine am_iload (x := v6) dX6_calls_35 rfl ?_
    refine am_iconst (v := (-1)) dX6_calls_37 (by decide) ?_
    refine am_icmp_ne (tgt := 49) dX6_calls_38 (by decide) (fun c => ?_) (fun c => ?_)
    · have h := h.1 c
      refine am_iload (x := v6) dX6_calls_49 rfl ?_
      refine am_if_ne (tgt := 69) dX6_calls_51 (by decide) (fun c => ?_) (fun c => ?_)
      · have h := h.1 c
        refine am_iload (x := v6) dX6_calls_69 rfl ?_
        refine am_iconst (v := 2) dX6_calls_71 (by decide) ?_
        refine am_icmp_ne (tgt := 90) dX6_calls_72 (by decide) (fun c => ?_) (fun c => ?_)
        · have h := h.1 c
          refine am_aloadr_n (x := some ρ.1) dX6_calls_90 rfl rfl ?_
          refine am_iconst (v := 0) dX6_calls_91 (by decide) ?_
          refine am_aloadr_n (x := some ρ.1) dX6_calls_92 rfl rfl ?_
          refine am_iconst (v := 0) dX6_calls_93 (by decide) ?_
          refine am_aloadr_n (x := some ρ.1) dX6_calls_94 rfl rfl ?_
          refine mm_gA (k := 35) rfl isA_35 q2354 dX6_calls_95 ?_
          refine am_iload_n (x := (mA μ 43 (Int32.toNatClampNeg a2))) dX6_calls_98 rfl rfl ?_
          refine mm_ldA (k := 35) isA_35 rfl rfl dX6_calls_99 h.1 ?_
          have h := h.2
          refine am_iload (x := v2) dX6_calls_100 rfl ?_
          refine mm_callV (Mc := m_X6_fixedAt) (as := [.int 0, .int (mA μ5 35 (Int32.toNatClampNeg (mA μ 43 (Int32.toNatClampNeg a2)))), .int v2]) rfl bm_X6_fixedAt q2863 q2865 qs122 (Nat.le_of_ble_eq_true rfl) dX6_calls_102 (mt_X6_fixedAt (mm_k2i h (fun v8 μ7 h => ?_)))
          refine am_bipush (v := 35) dX6_calls_105 (by decide) ?_
          refine am_aloadr_n (x := some ρ.1) dX6_calls_107 rfl rfl ?_
          refine am_iconst (v := 0) dX6_calls_108 (by decide) ?_
          refine am_aloadr_n (x := some ρ.1) dX6_calls_109 rfl rfl ?_
          refine am_iconst (v := 0) dX6_calls_110 (by decide) ?_
          refine am_aloadr_n (x := some ρ.1) dX6_calls_111 rfl rfl ?_
          refine mm_gA (k := 35) rfl isA_35 q2354 dX6_calls_112 ?_
          refine am_iload_n (x := (mA μ 43 (Int32.toNatClampNeg a2))) dX6_calls_115 rfl rfl ?_
          refine mm_ldA (k := 35) isA_35 rfl rfl dX6_calls_116 h.1 ?_
          have h := h.2
          refine am_iload (x := v2) dX6_calls_117 rfl ?_
          refine mm_callV (Mc := m_X6_fixedAt) (as := [.int 0, .int (mA μ7 35 (Int32.toNatClampNeg (mA μ 43 (Int32.toNatClampNeg a2)))), .int v2]) rfl bm_X6_fixedAt q2863 q2865 qs122 (Nat.le_of_ble_eq_true rfl) dX6_calls_119 (mt_X6_fixedAt (mm_k2i h (fun v10 μ9 h => ?_)))
          refine am_iload (x := v2) dX6_calls_122 rfl ?_
          refine mm_callV (Mc := m_X6_fixedOf) (as := [.int 0, .int v10, .int v2]) rfl bm_X6_fixedOf q2702 q2704 qs97 (Nat.le_of_ble_eq_true rfl) dX6_calls_124 (mt_X6_fixedOf (mm_k2i h (fun v12 μ11 h => ?_)))
          refine am_iadd dX6_calls_127 ?_
          refine mm_callV (Mc := m_X6_get) (as := [.int 0, .int v8, .int (35 + v12)]) rfl bm_X6_get q2666 q2668 qs88 (Nat.le_of_ble_eq_true rfl) dX6_calls_128 (mt_X6_get (mm_k2i h (fun v14 μ13 h => ?_)))
          exact am_lss h rfl
        · have h := h.2 c
          refine am_aloadr_n (x := some ρ.1) dX6_calls_75 rfl rfl ?_
          refine mm_gA (k := 37) rfl isA_37 q2356 dX6_calls_76 ?_
          refine am_bipush (v := 40) dX6_calls_79 (by decide) ?_
          refine am_iload_n (x := (mA μ 43 (Int32.toNatClampNeg a2))) dX6_calls_81 rfl rfl ?_
          refine am_imul dX6_calls_82 ?_
          refine am_iload (x := v2) dX6_calls_83 rfl ?_
          refine am_iadd dX6_calls_85 ?_
          refine mm_ldA (k := 37) isA_37 rfl rfl dX6_calls_86 h.1 ?_
          have h := h.2
          refine am_goto (tgt := 131) dX6_calls_87 (by decide) ?_
          exact am_lss h rfl
      · have h := h.2 c
        refine am_aloadr_n (x := some ρ.1) dX6_calls_54 rfl rfl ?_
        refine mm_gA (k := 36) rfl isA_36 q2355 dX6_calls_55 ?_
        refine am_bipush (v := 40) dX6_calls_58 (by decide) ?_
        refine am_iload_n (x := (mA μ 43 (Int32.toNatClampNeg a2))) dX6_calls_60 rfl rfl ?_
        refine am_imul dX6_calls_61 ?_
        refine am_iload (x := v2) dX6_calls_62 rfl ?_
        refine am_iadd dX6_calls_64 ?_
        refine mm_ldA (k := 36) isA_36 rfl rfl dX6_calls_65 h.1 ?_
        have h := h.2
        refine am_goto (tgt := 131) dX6_calls_66 (by decide) ?_
        exact am_lss h rfl
    · have h := h.2 c
      refine am_aloadr_n (x := some ρ.1) dX6_calls_41 rfl rfl ?_
      refine am_sipush (v := 1001) dX6_calls_42 (by decide) ?_
      refine mm_callV (Mc := m_X6_fails) (as := [.int 1001]) rfl bm_X6_fails q2915 q2917 qs133 (Nat.le_of_ble_eq_true rfl) dX6_calls_45 (mt_X6_fails (mm_k2i h (fun v16 μ15 h => ?_)))
      exact am_zret rfl h.1 dX6_calls_48 ⟨_, _, rfl, rfl, h.2⟩
theorem B_X6_calls_131_f {G : am_G} {ρ : mm_F} {d : Nat} {x1 : Int32} {x2 : Int32} {s0 : Int32} {μ : mm_S} {Q : Int32 → mm_S → Prop} (h : W_X6_isLiving G ρ d s0 μ (fun v2 μ1 => ((¬ v2 = 0 → W_X6_of G ρ d x1 2 μ1 (fun v4 μ3 => (vp_in s0 40 ∧ B_X6_calls_172 G ρ (d + 1) x2 s0 v4 0 (mA μ3 35 (Int32.toNatClampNeg s0)) μ3 Q))) ∧ (v2 = 0 → W_X6_fails G ρ d 1003 μ1 (fun v6 μ5 => (narrow .boolean (.int v6) = .int v6 ∧ Q v6 μ5)))))) : B_X6_calls_131 G ρ (d + 1) x1 x2 s0 μ Q := by
  unfold B_X6_calls_131
  refine am_istore (L' := [(12, .int s0), (0, va_rf (some ρ.1)), (2, .int x1), (4, .int x2)]) dX6_calls_131 (Nat.le_of_ble_eq_true rfl) rfl ?_
  refine am_aloadr_n (x := some ρ.1) dX6_calls_133 rfl rfl ?_
  refine am_iload (x := s0) dX6_calls_134 rfl ?_
  refine mm_callV (Mc := m_X6_isLiving) (as := [.int s0]) rfl bm_X6_isLiving q2835 q2837 qs121 (Nat.le_of_ble_eq_true rfl) dX6_calls_136 (mt_X6_isLiving (mm_k2i h (fun v2 μ1 h => ?_)))
  refine am_if_ne (tgt := 150) dX6_calls_139 (by decide) (fun c => ?_) (fun c => ?_)
  · have h := h.1 c
    refine am_iload (x := s0) dX6_calls_150 rfl ?_
    refine am_istore_n (L' := [(6, .int s0), (12, .int s0), (0, va_rf (some ρ.1)), (2, .int x1), (4, .int x2)]) dX6_calls_152 rfl (Nat.le_of_ble_eq_true rfl) rfl ?_
    refine am_aloadr_n (x := some ρ.1) dX6_calls_153 rfl rfl ?_
    refine am_iload_n (x := x1) dX6_calls_154 rfl rfl ?_
    refine am_iconst (v := 2) dX6_calls_155 (by decide) ?_
    refine mm_callV (Mc := m_X6_of) (as := [.int x1, .int 2]) rfl bm_X6_of q2895 q2897 qs128 (Nat.le_of_ble_eq_true rfl) dX6_calls_156 (mt_X6_of (mm_k2i h (fun v4 μ3 h => ?_)))
    refine am_istore (L' := [(8, .int v4), (6, .int s0), (12, .int s0), (0, va_rf (some ρ.1)), (2, .int x1), (4, .int x2)]) dX6_calls_159 (Nat.le_of_ble_eq_true rfl) rfl ?_
    refine am_iconst (v := 0) dX6_calls_161 (by decide) ?_
    refine am_istore (L' := [(10, .int 0), (8, .int v4), (6, .int s0), (12, .int s0), (0, va_rf (some ρ.1)), (2, .int x1), (4, .int x2)]) dX6_calls_162 (Nat.le_of_ble_eq_true rfl) rfl ?_
    refine am_aloadr_n (x := some ρ.1) dX6_calls_164 rfl rfl ?_
    refine mm_gA (k := 35) rfl isA_35 q2354 dX6_calls_165 ?_
    refine am_iload_n (x := s0) dX6_calls_168 rfl rfl ?_
    refine mm_ldA (k := 35) isA_35 rfl rfl dX6_calls_169 h.1 ?_
    have h := h.2
    refine am_istore (L' := [(12, .int (mA μ3 35 (Int32.toNatClampNeg s0))), (10, .int 0), (8, .int v4), (6, .int s0), (0, va_rf (some ρ.1)), (2, .int x1), (4, .int x2)]) dX6_calls_170 (Nat.le_of_ble_eq_true rfl) rfl ?_
    exact am_lss h rfl
  · have h := h.2 c
    refine am_aloadr_n (x := some ρ.1) dX6_calls_142 rfl rfl ?_
    refine am_sipush (v := 1003) dX6_calls_143 (by decide) ?_
    refine mm_callV (Mc := m_X6_fails) (as := [.int 1003]) rfl bm_X6_fails q2915 q2917 qs133 (Nat.le_of_ble_eq_true rfl) dX6_calls_146 (mt_X6_fails (mm_k2i h (fun v6 μ5 h => ?_)))
    exact am_zret rfl h.1 dX6_calls_149 ⟨_, _, rfl, rfl, h.2⟩
theorem B_X6_calls_172_f {G : am_G} {ρ : mm_F} {d : Nat} {x2 : Int32} {x3 : Int32} {x4 : Int32} {x5 : Int32} {x6 : Int32} {μ : mm_S} {Q : Int32 → mm_S → Prop} (h : ((x6 = (-1) → ((¬ x5 = 0 → ((¬ x2 = 20 → W_X6_opens_2 G ρ d (x2 + 1) x3 x4 0 μ (fun v2 μ1 => W_X6_body G ρ d (x2 + 1) μ1 (fun v4 μ3 => (narrow .boolean (.int v4) = .int v4 ∧ Q v4 μ3)))) ∧ (x2 = 20 → W_X6_fails G ρ d 1005 μ (fun v6 μ5 => (narrow .boolean (.int v6) = .int v6 ∧ Q v6 μ5))))) ∧ (x5 = 0 → W_X6_fails G ρ d 1004 μ (fun v8 μ7 => (narrow .boolean (.int v8) = .int v8 ∧ Q v8 μ7))))) ∧ (¬ x6 = (-1) → ((¬ x5 = 0 → W_X6_get G ρ d 0 x6 1 μ (fun v10 μ9 => B_X6_calls_172 G ρ (d + 1) x2 x3 x4 1 v10 μ9 Q)) ∧ (x5 = 0 → W_X6_actOf G ρ d 0 x6 x4 μ (fun v12 μ11 => ((v12 = (-1) → W_X6_get G ρ d 0 x6 1 μ11 (fun v14 μ13 => B_X6_calls_172 G ρ (d + 1) x2 x3 x4 0 v14 μ13 Q)) ∧ (¬ v12 = (-1) → W_X6_get G ρ d 0 x6 1 μ11 (fun v16 μ15 => B_X6_calls_172 G ρ (d + 1) x2 x3 x4 1 v16 μ15 Q))))))))) : B_X6_calls_172 G ρ (d + 1) x2 x3 x4 x5 x6 μ Q := by
  unfold B_X6_calls_172
  refine am_iload (x := x6) dX6_calls_172 rfl ?_
  refine am_iconst (v := (-1)) dX6_calls_174 (by decide) ?_
  refine am_icmp_eq (tgt := 216) dX6_calls_175 (by decide) (fun c => ?_) (fun c => ?_)
  · have h := h.1 c
    refine am_iload (x := x5) dX6_calls_216 rfl ?_
    refine am_if_ne (tgt := 229) dX6_calls_218 (by decide) (fun c => ?_) (fun c => ?_)
    · have h := h.1 c
      refine am_iload_n (x := x2) dX6_calls_229 rfl rfl ?_
      refine am_bipush (v := 20) dX6_calls_230 (by decide) ?_
      refine am_icmp_ne (tgt := 243) dX6_calls_232 (by decide) (fun c => ?_) (fun c => ?_)
      · have h := h.1 c
        refine am_aloadr_n (x := some ρ.1) dX6_calls_243 rfl rfl ?_
        refine am_iload_n (x := x2) dX6_calls_244 rfl rfl ?_
        refine am_iconst (v := 1) dX6_calls_245 (by decide) ?_
        refine am_iadd dX6_calls_246 ?_
        refine am_iload_n (x := x3) dX6_calls_247 rfl rfl ?_
        refine am_iload (x := x4) dX6_calls_248 rfl ?_
        refine am_iconst (v := 0) dX6_calls_250 (by decide) ?_
        refine mm_callV (Mc := m_X6_opens_2) (as := [.int (x2 + 1), .int x3, .int x4, .int 0]) rfl bm_X6_opens_2 q2879 q2881 qs124 (Nat.le_of_ble_eq_true rfl) dX6_calls_251 (mt_X6_opens_2 (mm_k2i h (fun v2 μ1 h => ?_)))
        refine am_pop dX6_calls_254 rfl ?_
        refine am_aloadr_n (x := some ρ.1) dX6_calls_255 rfl rfl ?_
        refine am_iload_n (x := x2) dX6_calls_256 rfl rfl ?_
        refine am_iconst (v := 1) dX6_calls_257 (by decide) ?_
        refine am_iadd dX6_calls_258 ?_
        refine mm_callV (Mc := m_X6_body) (as := [.int (x2 + 1)]) rfl bm_X6_body q2930 q2932 qs136 (Nat.le_of_ble_eq_true rfl) dX6_calls_259 (mt_X6_body (mm_k2i h (fun v4 μ3 h => ?_)))
        exact am_zret rfl h.1 dX6_calls_262 ⟨_, _, rfl, rfl, h.2⟩
      · have h := h.2 c
        refine am_aloadr_n (x := some ρ.1) dX6_calls_235 rfl rfl ?_
        refine am_sipush (v := 1005) dX6_calls_236 (by decide) ?_
        refine mm_callV (Mc := m_X6_fails) (as := [.int 1005]) rfl bm_X6_fails q2915 q2917 qs133 (Nat.le_of_ble_eq_true rfl) dX6_calls_239 (mt_X6_fails (mm_k2i h (fun v6 μ5 h => ?_)))
        exact am_zret rfl h.1 dX6_calls_242 ⟨_, _, rfl, rfl, h.2⟩
    · have h := h.2 c
      refine am_aloadr_n (x := some ρ.1) dX6_calls_221 rfl rfl ?_
      refine am_sipush (v := 1004) dX6_calls_222 (by decide) ?_
      refine mm_callV (Mc := m_X6_fails) (as := [.int 1004]) rfl bm_X6_fails q2915 q2917 qs133 (Nat.le_of_ble_eq_true rfl) dX6_calls_225 (mt_X6_fails (mm_k2i h (fun v8 μ7 h => ?_)))
      exact am_zret rfl h.1 dX6_calls_228 ⟨_, _, rfl, rfl, h.2⟩
  · have h := h.2 c
    refine am_iload (x := x5) dX6_calls_178 rfl ?_
    refine am_if_ne (tgt := 196) dX6_calls_180 (by decide) (fun c => ?_) (fun c => ?_)
    · have h := h.1 c
      refine am_iconst (v := 1) dX6_calls_196 (by decide) ?_
      refine am_goto (tgt := 201) dX6_calls_197 (by decide) ?_
      refine am_istore (L' := [(10, .int 1), (0, va_rf (some ρ.1)), (4, .int x2), (6, .int x3), (8, .int x4), (12, .int x6)]) dX6_calls_201 (Nat.le_of_ble_eq_true rfl) rfl ?_
      refine am_aloadr_n (x := some ρ.1) dX6_calls_203 rfl rfl ?_
      refine am_iconst (v := 0) dX6_calls_204 (by decide) ?_
      refine am_iload (x := x6) dX6_calls_205 rfl ?_
      refine am_iconst (v := 1) dX6_calls_207 (by decide) ?_
      refine mm_callV (Mc := m_X6_get) (as := [.int 0, .int x6, .int 1]) rfl bm_X6_get q2666 q2668 qs88 (Nat.le_of_ble_eq_true rfl) dX6_calls_208 (mt_X6_get (mm_k2i h (fun v10 μ9 h => ?_)))
      refine am_istore (L' := [(12, .int v10), (10, .int 1), (0, va_rf (some ρ.1)), (4, .int x2), (6, .int x3), (8, .int x4)]) dX6_calls_211 (Nat.le_of_ble_eq_true rfl) rfl ?_
      refine am_goto (tgt := 172) dX6_calls_213 (by decide) ?_
      exact am_lss h rfl
    · have h := h.2 c
      refine am_aloadr_n (x := some ρ.1) dX6_calls_183 rfl rfl ?_
      refine am_iconst (v := 0) dX6_calls_184 (by decide) ?_
      refine am_iload (x := x6) dX6_calls_185 rfl ?_
      refine am_iload (x := x4) dX6_calls_187 rfl ?_
      refine mm_callV (Mc := m_X6_actOf) (as := [.int 0, .int x6, .int x4]) rfl bm_X6_actOf q2690 q2692 qs94 (Nat.le_of_ble_eq_true rfl) dX6_calls_189 (mt_X6_actOf (mm_k2i h (fun v12 μ11 h => ?_)))
      refine am_iconst (v := (-1)) dX6_calls_192 (by decide) ?_
      refine am_icmp_eq (tgt := 200) dX6_calls_193 (by decide) (fun c => ?_) (fun c => ?_)
      · have h := h.1 c
        refine am_iconst (v := 0) dX6_calls_200 (by decide) ?_
        refine am_istore (L' := [(10, .int 0), (0, va_rf (some ρ.1)), (4, .int x2), (6, .int x3), (8, .int x4), (12, .int x6)]) dX6_calls_201 (Nat.le_of_ble_eq_true rfl) rfl ?_
        refine am_aloadr_n (x := some ρ.1) dX6_calls_203 rfl rfl ?_
        refine am_iconst (v := 0) dX6_calls_204 (by decide) ?_
        refine am_iload (x := x6) dX6_calls_205 rfl ?_
        refine am_iconst (v := 1) dX6_calls_207 (by decide) ?_
        refine mm_callV (Mc := m_X6_get) (as := [.int 0, .int x6, .int 1]) rfl bm_X6_get q2666 q2668 qs88 (Nat.le_of_ble_eq_true rfl) dX6_calls_208 (mt_X6_get (mm_k2i h (fun v14 μ13 h => ?_)))
        refine am_istore (L' := [(12, .int v14), (10, .int 0), (0, va_rf (some ρ.1)), (4, .int x2), (6, .int x3), (8, .int x4)]) dX6_calls_211 (Nat.le_of_ble_eq_true rfl) rfl ?_
        refine am_goto (tgt := 172) dX6_calls_213 (by decide) ?_
        exact am_lss h rfl
      · have h := h.2 c
        refine am_iconst (v := 1) dX6_calls_196 (by decide) ?_
        refine am_goto (tgt := 201) dX6_calls_197 (by decide) ?_
        refine am_istore (L' := [(10, .int 1), (0, va_rf (some ρ.1)), (4, .int x2), (6, .int x3), (8, .int x4), (12, .int x6)]) dX6_calls_201 (Nat.le_of_ble_eq_true rfl) rfl ?_
        refine am_aloadr_n (x := some ρ.1) dX6_calls_203 rfl rfl ?_
        refine am_iconst (v := 0) dX6_calls_204 (by decide) ?_
        refine am_iload (x := x6) dX6_calls_205 rfl ?_
        refine am_iconst (v := 1) dX6_calls_207 (by decide) ?_
        refine mm_callV (Mc := m_X6_get) (as := [.int 0, .int x6, .int 1]) rfl bm_X6_get q2666 q2668 qs88 (Nat.le_of_ble_eq_true rfl) dX6_calls_208 (mt_X6_get (mm_k2i h (fun v16 μ15 h => ?_)))
        refine am_istore (L' := [(12, .int v16), (10, .int 1), (0, va_rf (some ρ.1)), (4, .int x2), (6, .int x3), (8, .int x4)]) dX6_calls_211 (Nat.le_of_ble_eq_true rfl) rfl ?_
        refine am_goto (tgt := 172) dX6_calls_213 (by decide) ?_
        exact am_lss h rfl
theorem W_X6_came_f {G : am_G} {ρ : mm_F} {d : Nat} {a1 : Int32} {μ : mm_S} {Q : Int32 → mm_S → Prop} (h : ((a1 = 1 → ((a1 = 2 → (((mI μ 42) = 0 → Q 1 μ) ∧ (¬ (mI μ 42) = 0 → Q 4 μ))) ∧ (¬ a1 = 2 → Q 0 μ))) ∧ (¬ a1 = 1 → (∀ μ1 : mm_S, μ1 = mm_sI μ 40 0 → (((a1 = 2 → (((mI μ1 42) = 0 → Q 1 μ1) ∧ (¬ (mI μ1 42) = 0 → Q 4 μ1))) ∧ (¬ a1 = 2 → Q 0 μ1))))))) : W_X6_came G ρ d a1 μ Q := by
  unfold W_X6_came
  refine am_iload_n (x := a1) dX6_came_0 rfl rfl ?_
  refine am_iconst (v := 1) dX6_came_1 (by decide) ?_
  refine am_icmp_eq (tgt := 10) dX6_came_2 (by decide) (fun c => ?_) (fun c => ?_)
  · have h := h.1 c
    refine am_iload_n (x := a1) dX6_came_10 rfl rfl ?_
    refine am_iconst (v := 2) dX6_came_11 (by decide) ?_
    refine am_icmp_eq (tgt := 17) dX6_came_12 (by decide) (fun c => ?_) (fun c => ?_)
    · have h := h.1 c
      refine am_aloadr_n (x := some ρ.1) dX6_came_17 rfl rfl ?_
      refine mm_gI (k := 42) rfl (Or.inr rfl) (by decide) q2361 dX6_came_18 ?_
      refine am_if_eq (tgt := 28) dX6_came_21 (by decide) (fun c => ?_) (fun c => ?_)
      · have h := h.1 c
        refine am_iconst (v := 1) dX6_came_28 (by decide) ?_
        exact am_iret rfl dX6_came_29 ⟨_, _, rfl, rfl, h⟩
      · have h := h.2 c
        refine am_iconst (v := 4) dX6_came_24 (by decide) ?_
        refine am_goto (tgt := 29) dX6_came_25 (by decide) ?_
        exact am_iret rfl dX6_came_29 ⟨_, _, rfl, rfl, h⟩
    · have h := h.2 c
      refine am_iconst (v := 0) dX6_came_15 (by decide) ?_
      exact am_iret rfl dX6_came_16 ⟨_, _, rfl, rfl, h⟩
  · have h := h.2 c
    refine am_aloadr_n (x := some ρ.1) dX6_came_5 rfl rfl ?_
    refine am_iconst (v := 0) dX6_came_6 (by decide) ?_
    refine mm_pI (k := 40) rfl rfl rfl (by decide) q2359 rfl dX6_came_7 ?_
    generalize eμ1 : mm_sI μ 40 0 = μ1
    have h := h μ1 eμ1.symm
    refine am_iload_n (x := a1) dX6_came_10 rfl rfl ?_
    refine am_iconst (v := 2) dX6_came_11 (by decide) ?_
    refine am_icmp_eq (tgt := 17) dX6_came_12 (by decide) (fun c => ?_) (fun c => ?_)
    · have h := h.1 c
      refine am_aloadr_n (x := some ρ.1) dX6_came_17 rfl rfl ?_
      refine mm_gI (k := 42) rfl (Or.inr rfl) (by decide) q2361 dX6_came_18 ?_
      refine am_if_eq (tgt := 28) dX6_came_21 (by decide) (fun c => ?_) (fun c => ?_)
      · have h := h.1 c
        refine am_iconst (v := 1) dX6_came_28 (by decide) ?_
        exact am_iret rfl dX6_came_29 ⟨_, _, rfl, rfl, h⟩
      · have h := h.2 c
        refine am_iconst (v := 4) dX6_came_24 (by decide) ?_
        refine am_goto (tgt := 29) dX6_came_25 (by decide) ?_
        exact am_iret rfl dX6_came_29 ⟨_, _, rfl, rfl, h⟩
    · have h := h.2 c
      refine am_iconst (v := 0) dX6_came_15 (by decide) ?_
      exact am_iret rfl dX6_came_16 ⟨_, _, rfl, rfl, h⟩
theorem W_X6_told_f {G : am_G} {ρ : mm_F} {d : Nat} {a1 : Int32} {μ : mm_S} {Q : Int32 → mm_S → Prop} (h : ((¬ a1 = 0 → ((¬ a1 = 1 → ((¬ a1 = 2 → Q (-1) μ) ∧ (a1 = 2 → Q (mI μ 58) μ))) ∧ (a1 = 1 → Q (mI μ 57) μ))) ∧ (a1 = 0 → Q (mI μ 56) μ))) : W_X6_told G ρ d a1 μ Q := by
  unfold W_X6_told
  refine am_iload_n (x := a1) dX6_told_0 rfl rfl ?_
  refine am_if_ne (tgt := 11) dX6_told_1 (by decide) (fun c => ?_) (fun c => ?_)
  · have h := h.1 c
    refine am_iload_n (x := a1) dX6_told_11 rfl rfl ?_
    refine am_iconst (v := 1) dX6_told_12 (by decide) ?_
    refine am_icmp_ne (tgt := 23) dX6_told_13 (by decide) (fun c => ?_) (fun c => ?_)
    · have h := h.1 c
      refine am_iload_n (x := a1) dX6_told_23 rfl rfl ?_
      refine am_iconst (v := 2) dX6_told_24 (by decide) ?_
      refine am_icmp_ne (tgt := 35) dX6_told_25 (by decide) (fun c => ?_) (fun c => ?_)
      · have h := h.1 c
        refine am_iconst (v := (-1)) dX6_told_35 (by decide) ?_
        exact am_iret rfl dX6_told_36 ⟨_, _, rfl, rfl, h⟩
      · have h := h.2 c
        refine am_aloadr_n (x := some ρ.1) dX6_told_28 rfl rfl ?_
        refine mm_gI (k := 58) rfl (Or.inl rfl) (by decide) q2377 dX6_told_29 ?_
        refine am_goto (tgt := 36) dX6_told_32 (by decide) ?_
        exact am_iret rfl dX6_told_36 ⟨_, _, rfl, rfl, h⟩
    · have h := h.2 c
      refine am_aloadr_n (x := some ρ.1) dX6_told_16 rfl rfl ?_
      refine mm_gI (k := 57) rfl (Or.inl rfl) (by decide) q2376 dX6_told_17 ?_
      refine am_goto (tgt := 36) dX6_told_20 (by decide) ?_
      exact am_iret rfl dX6_told_36 ⟨_, _, rfl, rfl, h⟩
  · have h := h.2 c
    refine am_aloadr_n (x := some ρ.1) dX6_told_4 rfl rfl ?_
    refine mm_gI (k := 56) rfl (Or.inl rfl) (by decide) q2375 dX6_told_5 ?_
    refine am_goto (tgt := 36) dX6_told_8 (by decide) ?_
    exact am_iret rfl dX6_told_36 ⟨_, _, rfl, rfl, h⟩
theorem W_X6_wake_f {G : am_G} {ρ : mm_F} {d : Nat} {a1 : Int32} {μ : mm_S} {Q : Int32 → mm_S → Prop} (h : ((a1 = (-1) → (∀ μ1 : mm_S, μ1 = mm_sI μ 30 a1 → (Q 1 μ1))) ∧ (¬ a1 = (-1) → W_X6_isIn G ρ d a1 0 ((mI μ 7) - 1) μ (fun v3 μ2 => ((¬ v3 = 0 → (∀ μ4 : mm_S, μ4 = mm_sI μ2 30 a1 → (Q 1 μ4))) ∧ (v3 = 0 → Q 0 μ2)))))) : W_X6_wake G ρ (d + 1) a1 μ Q := by
  unfold W_X6_wake
  refine am_iload_n (x := a1) dX6_wake_0 rfl rfl ?_
  refine am_iconst (v := (-1)) dX6_wake_1 (by decide) ?_
  refine am_icmp_eq (tgt := 21) dX6_wake_2 (by decide) (fun c => ?_) (fun c => ?_)
  · have h := h.1 c
    refine am_aloadr_n (x := some ρ.1) dX6_wake_21 rfl rfl ?_
    refine am_iload_n (x := a1) dX6_wake_22 rfl rfl ?_
    refine mm_pI (k := 30) rfl rfl rfl (by decide) q2349 rfl dX6_wake_23 ?_
    generalize eμ1 : mm_sI μ 30 a1 = μ1
    have h := h μ1 eμ1.symm
    refine am_iconst (v := 1) dX6_wake_26 (by decide) ?_
    exact am_zret rfl rfl dX6_wake_27 ⟨_, _, rfl, rfl, h⟩
  · have h := h.2 c
    refine am_iload_n (x := a1) dX6_wake_5 rfl rfl ?_
    refine am_iconst (v := 0) dX6_wake_6 (by decide) ?_
    refine am_aloadr_n (x := some ρ.1) dX6_wake_7 rfl rfl ?_
    refine mm_gI (k := 7) rfl (Or.inl rfl) (by decide) q2326 dX6_wake_8 ?_
    refine am_iconst (v := 1) dX6_wake_11 (by decide) ?_
    refine am_isub dX6_wake_12 ?_
    refine mm_callS (Mc := m_X6_isIn) (as := [.int a1, .int 0, .int ((mI μ 7) - 1)]) rfl bm_X6_isIn q2636 q2637 (Nat.le_of_ble_eq_true rfl) dX6_wake_13 (mt_X6_isIn (mm_k2i h (fun v3 μ2 h => ?_)))
    refine am_if_ne (tgt := 21) dX6_wake_16 (by decide) (fun c => ?_) (fun c => ?_)
    · have h := h.1 c
      refine am_aloadr_n (x := some ρ.1) dX6_wake_21 rfl rfl ?_
      refine am_iload_n (x := a1) dX6_wake_22 rfl rfl ?_
      refine mm_pI (k := 30) rfl rfl rfl (by decide) q2349 rfl dX6_wake_23 ?_
      generalize eμ4 : mm_sI μ2 30 a1 = μ4
      have h := h μ4 eμ4.symm
      refine am_iconst (v := 1) dX6_wake_26 (by decide) ?_
      exact am_zret rfl rfl dX6_wake_27 ⟨_, _, rfl, rfl, h⟩
    · have h := h.2 c
      refine am_iconst (v := 0) dX6_wake_19 (by decide) ?_
      exact am_zret rfl rfl dX6_wake_20 ⟨_, _, rfl, rfl, h⟩
theorem W_X6_beat_f {G : am_G} {ρ : mm_F} {d : Nat}  {μ : mm_S} {Q : Int32 → mm_S → Prop} (h : ((¬ (mI μ 59) = 1000 → (∀ μ1 : mm_S, μ1 = mm_sI μ 59 ((mI μ 59) + 1) → ((∀ μ2 : mm_S, μ2 = mm_sI μ1 66 0 → ((∀ μ3 : mm_S, μ3 = mm_sI μ2 60 1 → (B_X6_beat_34 G ρ (d + 1) 0 μ3 Q))))))) ∧ ((mI μ 59) = 1000 → Q (-1) μ))) : W_X6_beat G ρ (d + 1)  μ Q := by
  unfold W_X6_beat
  refine am_aloadr_n (x := some ρ.1) dX6_beat_0 rfl rfl ?_
  refine mm_gI (k := 59) rfl (Or.inl rfl) (by decide) q2378 dX6_beat_1 ?_
  refine am_sipush (v := 1000) dX6_beat_4 (by decide) ?_
  refine am_icmp_ne (tgt := 12) dX6_beat_7 (by decide) (fun c => ?_) (fun c => ?_)
  · have h := h.1 c
    refine am_aloadr_n (x := some ρ.1) dX6_beat_12 rfl rfl ?_
    refine am_dup dX6_beat_13 (am_rf_cat _) ?_
    refine mm_gI (k := 59) rfl (Or.inl rfl) (by decide) q2378 dX6_beat_14 ?_
    refine am_iconst (v := 1) dX6_beat_17 (by decide) ?_
    refine am_iadd dX6_beat_18 ?_
    refine mm_pI (k := 59) rfl rfl rfl (by decide) q2378 rfl dX6_beat_19 ?_
    generalize eμ1 : mm_sI μ 59 ((mI μ 59) + 1) = μ1
    have h := h μ1 eμ1.symm
    refine am_aloadr_n (x := some ρ.1) dX6_beat_22 rfl rfl ?_
    refine am_iconst (v := 0) dX6_beat_23 (by decide) ?_
    refine mm_pI (k := 66) rfl rfl rfl (by decide) q2385 rfl dX6_beat_24 ?_
    generalize eμ2 : mm_sI μ1 66 0 = μ2
    have h := h μ2 eμ2.symm
    refine am_aloadr_n (x := some ρ.1) dX6_beat_27 rfl rfl ?_
    refine am_iconst (v := 1) dX6_beat_28 (by decide) ?_
    refine mm_pZ (k := 60) rfl rfl rfl (by decide) q2379 rfl (by decide) dX6_beat_29 ?_
    generalize eμ3 : mm_sI μ2 60 1 = μ3
    have h := h μ3 eμ3.symm
    refine am_iconst (v := 0) dX6_beat_32 (by decide) ?_
    refine am_istore_n (L' := [(2, .int 0), (0, va_rf (some ρ.1))]) dX6_beat_33 rfl (Nat.le_of_ble_eq_true rfl) rfl ?_
    exact am_lss h rfl
  · have h := h.2 c
    refine am_iconst (v := (-1)) dX6_beat_10 (by decide) ?_
    exact am_iret rfl dX6_beat_11 ⟨_, _, rfl, rfl, h⟩
theorem B_X6_beat_34_f {G : am_G} {ρ : mm_F} {d : Nat} {x1 : Int32} {μ : mm_S} {Q : Int32 → mm_S → Prop} (h : ((40 ≤ x1 → B_X6_beat_135 G ρ (d + 1) 0 μ Q) ∧ (¬ 40 ≤ x1 → (vp_in x1 40 ∧ ∀ μ1 : mm_S, μ1 = mm_sA μ 61 (Int32.toNatClampNeg x1) 3 → (W_X6_isLiving G ρ d x1 μ1 (fun v3 μ2 => ((¬ v3 = 0 → (vp_in x1 40 ∧ ∀ μ4 : mm_S, μ4 = mm_sA μ2 61 (Int32.toNatClampNeg x1) 2 → (((¬ (mI μ4 30) = (-1) → W_X6_clear G ρ d μ4 (fun μ5 => W_X6_opens_2 G ρ d 0 x1 (mI μ5 30) (mI μ5 59) μ5 (fun v7 μ6 => ((¬ v7 = 0 → W_X6_ran G ρ d 0 μ6 (fun μ8 => (vp_in 0 252 ∧ W_X6_goes G ρ d (mA μ8 49 (Int32.toNatClampNeg 0)) 0 0 μ8 (fun v10 μ9 => W_X6_came G ρ d v10 μ9 (fun v12 μ11 => (vp_in x1 40 ∧ ∀ μ13 : mm_S, μ13 = mm_sA μ11 61 (Int32.toNatClampNeg x1) v12 → (B_X6_beat_34 G ρ (d + 1) (x1 + 1) μ13 Q))))))) ∧ (v7 = 0 → B_X6_beat_34 G ρ (d + 1) (x1 + 1) μ6 Q))))) ∧ ((mI μ4 30) = (-1) → B_X6_beat_34 G ρ (d + 1) (x1 + 1) μ4 Q))))) ∧ (v3 = 0 → B_X6_beat_34 G ρ (d + 1) (x1 + 1) μ2 Q)))))))) : B_X6_beat_34 G ρ (d + 1) x1 μ Q := by
  unfold B_X6_beat_34
  refine am_iload_n (x := x1) dX6_beat_34 rfl rfl ?_
  refine am_bipush (v := 40) dX6_beat_35 (by decide) ?_
  refine am_icmp_ge (tgt := 133) dX6_beat_37 (by decide) (fun c => ?_) (fun c => ?_)
  · have h := h.1 c
    refine am_iconst (v := 0) dX6_beat_133 (by decide) ?_
    refine am_istore_n (L' := [(2, .int 0), (0, va_rf (some ρ.1))]) dX6_beat_134 rfl (Nat.le_of_ble_eq_true rfl) rfl ?_
    exact am_lss h rfl
  · have h := h.2 c
    refine am_aloadr_n (x := some ρ.1) dX6_beat_40 rfl rfl ?_
    refine mm_gA (k := 61) rfl isA_61 q2380 dX6_beat_41 ?_
    refine am_iload_n (x := x1) dX6_beat_44 rfl rfl ?_
    refine am_iconst (v := 3) dX6_beat_45 (by decide) ?_
    refine mm_stA (k := 61) isA_61 rfl rfl dX6_beat_46 h.1 ?_
    have h := h.2
    generalize eμ1 : mm_sA μ 61 (Int32.toNatClampNeg x1) 3 = μ1
    have h := h μ1 eμ1.symm
    refine am_aloadr_n (x := some ρ.1) dX6_beat_47 rfl rfl ?_
    refine am_iload_n (x := x1) dX6_beat_48 rfl rfl ?_
    refine mm_callV (Mc := m_X6_isLiving) (as := [.int x1]) rfl bm_X6_isLiving q2835 q2837 qs121 (Nat.le_of_ble_eq_true rfl) dX6_beat_49 (mt_X6_isLiving (mm_k2i h (fun v3 μ2 h => ?_)))
    refine am_if_ne (tgt := 58) dX6_beat_52 (by decide) (fun c => ?_) (fun c => ?_)
    · have h := h.1 c
      refine am_aloadr_n (x := some ρ.1) dX6_beat_58 rfl rfl ?_
      refine mm_gA (k := 61) rfl isA_61 q2380 dX6_beat_59 ?_
      refine am_iload_n (x := x1) dX6_beat_62 rfl rfl ?_
      refine am_iconst (v := 2) dX6_beat_63 (by decide) ?_
      refine mm_stA (k := 61) isA_61 rfl rfl dX6_beat_64 h.1 ?_
      have h := h.2
      generalize eμ4 : mm_sA μ2 61 (Int32.toNatClampNeg x1) 2 = μ4
      have h := h μ4 eμ4.symm
      refine am_aloadr_n (x := some ρ.1) dX6_beat_65 rfl rfl ?_
      refine mm_gI (k := 30) rfl (Or.inl rfl) (by decide) q2349 dX6_beat_66 ?_
      refine am_iconst (v := (-1)) dX6_beat_69 (by decide) ?_
      refine am_icmp_ne (tgt := 76) dX6_beat_70 (by decide) (fun c => ?_) (fun c => ?_)
      · have h := h.1 c
        refine am_aloadr_n (x := some ρ.1) dX6_beat_76 rfl rfl ?_
        refine mm_callV (Mc := m_X6_clear) (as := []) rfl bm_X6_clear q2875 q2877 qs123 (Nat.le_of_ble_eq_true rfl) dX6_beat_77 (mt_X6_clear (mm_k2v h (fun μ5 h => ?_)))
        refine am_aloadr_n (x := some ρ.1) dX6_beat_80 rfl rfl ?_
        refine am_iconst (v := 0) dX6_beat_81 (by decide) ?_
        refine am_iload_n (x := x1) dX6_beat_82 rfl rfl ?_
        refine am_aloadr_n (x := some ρ.1) dX6_beat_83 rfl rfl ?_
        refine mm_gI (k := 30) rfl (Or.inl rfl) (by decide) q2349 dX6_beat_84 ?_
        refine am_aloadr_n (x := some ρ.1) dX6_beat_87 rfl rfl ?_
        refine mm_gI (k := 59) rfl (Or.inl rfl) (by decide) q2378 dX6_beat_88 ?_
        refine mm_callV (Mc := m_X6_opens_2) (as := [.int 0, .int x1, .int (mI μ5 30), .int (mI μ5 59)]) rfl bm_X6_opens_2 q2879 q2881 qs124 (Nat.le_of_ble_eq_true rfl) dX6_beat_91 (mt_X6_opens_2 (mm_k2i h (fun v7 μ6 h => ?_)))
        refine am_if_ne (tgt := 100) dX6_beat_94 (by decide) (fun c => ?_) (fun c => ?_)
        · have h := h.1 c
          refine am_aloadr_n (x := some ρ.1) dX6_beat_100 rfl rfl ?_
          refine am_iconst (v := 0) dX6_beat_101 (by decide) ?_
          refine mm_callV (Mc := m_X6_ran) (as := [.int 0]) rfl bm_X6_ran q2934 q2936 qs137 (Nat.le_of_ble_eq_true rfl) dX6_beat_102 (mt_X6_ran (mm_k2v h (fun μ8 h => ?_)))
          refine am_aloadr_n (x := some ρ.1) dX6_beat_105 rfl rfl ?_
          refine mm_gA (k := 61) rfl isA_61 q2380 dX6_beat_106 ?_
          refine am_iload_n (x := x1) dX6_beat_109 rfl rfl ?_
          refine am_aloadr_n (x := some ρ.1) dX6_beat_110 rfl rfl ?_
          refine am_aloadr_n (x := some ρ.1) dX6_beat_111 rfl rfl ?_
          refine am_aloadr_n (x := some ρ.1) dX6_beat_112 rfl rfl ?_
          refine mm_gA (k := 49) rfl isA_49 q2368 dX6_beat_113 ?_
          refine am_iconst (v := 0) dX6_beat_116 (by decide) ?_
          refine mm_ldA (k := 49) isA_49 rfl rfl dX6_beat_117 h.1 ?_
          have h := h.2
          refine am_iconst (v := 0) dX6_beat_118 (by decide) ?_
          refine am_iconst (v := 0) dX6_beat_119 (by decide) ?_
          refine mm_callV (Mc := m_X6_goes) (as := [.int (mA μ8 49 (Int32.toNatClampNeg 0)), .int 0, .int 0]) rfl bm_X6_goes q2887 q2889 qs126 (Nat.le_of_ble_eq_true rfl) dX6_beat_120 (mt_X6_goes (mm_k2i h (fun v10 μ9 h => ?_)))
          refine mm_callV (Mc := m_X6_came) (as := [.int v10]) rfl bm_X6_came q2942 q2944 qs139 (Nat.le_of_ble_eq_true rfl) dX6_beat_123 (mt_X6_came (mm_k2i h (fun v12 μ11 h => ?_)))
          refine mm_stA (k := 61) isA_61 rfl rfl dX6_beat_126 h.1 ?_
          have h := h.2
          generalize eμ13 : mm_sA μ11 61 (Int32.toNatClampNeg x1) v12 = μ13
          have h := h μ13 eμ13.symm
          refine am_iinc (x := x1) (v := (x1 + 1)) (L' := [(2, .int (x1 + 1)), (0, va_rf (some ρ.1))]) dX6_beat_127 rfl rfl (Nat.le_of_ble_eq_true rfl) rfl ?_
          refine am_goto (tgt := 34) dX6_beat_130 (by decide) ?_
          exact am_lss h rfl
        · have h := h.2 c
          refine am_goto (tgt := 127) dX6_beat_97 (by decide) ?_
          refine am_iinc (x := x1) (v := (x1 + 1)) (L' := [(2, .int (x1 + 1)), (0, va_rf (some ρ.1))]) dX6_beat_127 rfl rfl (Nat.le_of_ble_eq_true rfl) rfl ?_
          refine am_goto (tgt := 34) dX6_beat_130 (by decide) ?_
          exact am_lss h rfl
      · have h := h.2 c
        refine am_goto (tgt := 127) dX6_beat_73 (by decide) ?_
        refine am_iinc (x := x1) (v := (x1 + 1)) (L' := [(2, .int (x1 + 1)), (0, va_rf (some ρ.1))]) dX6_beat_127 rfl rfl (Nat.le_of_ble_eq_true rfl) rfl ?_
        refine am_goto (tgt := 34) dX6_beat_130 (by decide) ?_
        exact am_lss h rfl
    · have h := h.2 c
      refine am_goto (tgt := 127) dX6_beat_55 (by decide) ?_
      refine am_iinc (x := x1) (v := (x1 + 1)) (L' := [(2, .int (x1 + 1)), (0, va_rf (some ρ.1))]) dX6_beat_127 rfl rfl (Nat.le_of_ble_eq_true rfl) rfl ?_
      refine am_goto (tgt := 34) dX6_beat_130 (by decide) ?_
      exact am_lss h rfl
theorem B_X6_beat_135_f {G : am_G} {ρ : mm_F} {d : Nat} {x1 : Int32} {μ : mm_S} {Q : Int32 → mm_S → Prop} (h : ((10 ≤ x1 → (∀ μ1 : mm_S, μ1 = mm_sI μ 60 0 → (W_X6_patches G ρ d μ1 (fun μ2 => Q (mI μ2 59) μ2)))) ∧ (¬ 10 ≤ x1 → (vp_in x1 10 ∧ (((mA μ 67 (Int32.toNatClampNeg x1)) = 0 → B_X6_beat_135 G ρ (d + 1) (x1 + 1) μ Q) ∧ (¬ (mA μ 67 (Int32.toNatClampNeg x1)) = 0 → W_X6_goesOn G ρ d x1 μ (fun μ3 => B_X6_beat_135 G ρ (d + 1) (x1 + 1) μ3 Q))))))) : B_X6_beat_135 G ρ (d + 1) x1 μ Q := by
  unfold B_X6_beat_135
  refine am_iload_n (x := x1) dX6_beat_135 rfl rfl ?_
  refine am_bipush (v := 10) dX6_beat_136 (by decide) ?_
  refine am_icmp_ge (tgt := 161) dX6_beat_138 (by decide) (fun c => ?_) (fun c => ?_)
  · have h := h.1 c
    refine am_aloadr_n (x := some ρ.1) dX6_beat_161 rfl rfl ?_
    refine am_iconst (v := 0) dX6_beat_162 (by decide) ?_
    refine mm_pZ (k := 60) rfl rfl rfl (by decide) q2379 rfl (by decide) dX6_beat_163 ?_
    generalize eμ1 : mm_sI μ 60 0 = μ1
    have h := h μ1 eμ1.symm
    refine am_aloadr_n (x := some ρ.1) dX6_beat_166 rfl rfl ?_
    refine mm_callV (Mc := m_X6_patches) (as := []) rfl bm_X6_patches q2962 q2964 qs141 (Nat.le_of_ble_eq_true rfl) dX6_beat_167 (mt_X6_patches (mm_k2v h (fun μ2 h => ?_)))
    refine am_aloadr_n (x := some ρ.1) dX6_beat_170 rfl rfl ?_
    refine mm_gI (k := 59) rfl (Or.inl rfl) (by decide) q2378 dX6_beat_171 ?_
    exact am_iret rfl dX6_beat_174 ⟨_, _, rfl, rfl, h⟩
  · have h := h.2 c
    refine am_aloadr_n (x := some ρ.1) dX6_beat_141 rfl rfl ?_
    refine mm_gA (k := 67) rfl isA_67 q2386 dX6_beat_142 ?_
    refine am_iload_n (x := x1) dX6_beat_145 rfl rfl ?_
    refine mm_ldZ (k := 67) isA_67 rfl rfl dX6_beat_146 h.1 ?_
    have h := h.2
    refine am_if_eq (tgt := 155) dX6_beat_147 (by decide) (fun c => ?_) (fun c => ?_)
    · have h := h.1 c
      refine am_iinc (x := x1) (v := (x1 + 1)) (L' := [(2, .int (x1 + 1)), (0, va_rf (some ρ.1))]) dX6_beat_155 rfl rfl (Nat.le_of_ble_eq_true rfl) rfl ?_
      refine am_goto (tgt := 135) dX6_beat_158 (by decide) ?_
      exact am_lss h rfl
    · have h := h.2 c
      refine am_aloadr_n (x := some ρ.1) dX6_beat_150 rfl rfl ?_
      refine am_iload_n (x := x1) dX6_beat_151 rfl rfl ?_
      refine mm_callV (Mc := m_X6_goesOn) (as := [.int x1]) rfl bm_X6_goesOn q2958 q2960 qs140 (Nat.le_of_ble_eq_true rfl) dX6_beat_152 (mt_X6_goesOn (mm_k2v h (fun μ3 h => ?_)))
      refine am_iinc (x := x1) (v := (x1 + 1)) (L' := [(2, .int (x1 + 1)), (0, va_rf (some ρ.1))]) dX6_beat_155 rfl rfl (Nat.le_of_ble_eq_true rfl) rfl ?_
      refine am_goto (tgt := 135) dX6_beat_158 (by decide) ?_
      exact am_lss h rfl
theorem W_X6_goesOn_f {G : am_G} {ρ : mm_F} {d : Nat} {a1 : Int32} {μ : mm_S} {Q : mm_S → Prop} (h : W_X6_clear G ρ d μ (fun μ1 => (vp_in a1 10 ∧ (vp_in a1 10 ∧ ∀ μ2 : mm_S, μ2 = mm_sA μ1 74 (Int32.toNatClampNeg a1) ((mA μ1 74 (Int32.toNatClampNeg a1)) + 1) → ((vp_in a1 10 ∧ (vp_in 0 21 ∧ ∀ μ3 : mm_S, μ3 = mm_sA μ2 43 (Int32.toNatClampNeg 0) (mA μ2 70 (Int32.toNatClampNeg a1)) → ((vp_in a1 10 ∧ (vp_in 0 21 ∧ ∀ μ4 : mm_S, μ4 = mm_sA μ3 44 (Int32.toNatClampNeg 0) (mA μ3 71 (Int32.toNatClampNeg a1)) → ((vp_in a1 10 ∧ (vp_in 0 21 ∧ ∀ μ5 : mm_S, μ5 = mm_sA μ4 45 (Int32.toNatClampNeg 0) (mA μ4 72 (Int32.toNatClampNeg a1)) → ((vp_in a1 10 ∧ (vp_in 0 21 ∧ ∀ μ6 : mm_S, μ6 = mm_sA μ5 46 (Int32.toNatClampNeg 0) (mA μ5 77 (Int32.toNatClampNeg a1)) → ((vp_in 0 21 ∧ ∀ μ7 : mm_S, μ7 = mm_sA μ6 47 (Int32.toNatClampNeg 0) 0 → ((vp_in a1 10 ∧ (vp_in 0 21 ∧ ∀ μ8 : mm_S, μ8 = mm_sA μ7 48 (Int32.toNatClampNeg 0) (mA μ7 78 (Int32.toNatClampNeg a1)) → (B_X6_goesOn_83 G ρ (d + 1) a1 0 μ8 Q)))))))))))))))))))))) : W_X6_goesOn G ρ (d + 1) a1 μ Q := by
  unfold W_X6_goesOn
  refine am_aloadr_n (x := some ρ.1) dX6_goesOn_0 rfl rfl ?_
  refine mm_callV (Mc := m_X6_clear) (as := []) rfl bm_X6_clear q2875 q2877 qs123 (Nat.le_of_ble_eq_true rfl) dX6_goesOn_1 (mt_X6_clear (mm_k2v h (fun μ1 h => ?_)))
  refine am_aloadr_n (x := some ρ.1) dX6_goesOn_4 rfl rfl ?_
  refine mm_gA (k := 74) rfl isA_74 q2393 dX6_goesOn_5 ?_
  refine am_iload_n (x := a1) dX6_goesOn_8 rfl rfl ?_
  refine am_dup2_11 dX6_goesOn_9 rfl (am_rf_cat _) ?_
  refine mm_ldA (k := 74) isA_74 rfl rfl dX6_goesOn_10 h.1 ?_
  have h := h.2
  refine am_iconst (v := 1) dX6_goesOn_11 (by decide) ?_
  refine am_iadd dX6_goesOn_12 ?_
  refine mm_stA (k := 74) isA_74 rfl rfl dX6_goesOn_13 h.1 ?_
  have h := h.2
  generalize eμ2 : mm_sA μ1 74 (Int32.toNatClampNeg a1) ((mA μ1 74 (Int32.toNatClampNeg a1)) + 1) = μ2
  have h := h μ2 eμ2.symm
  refine am_aloadr_n (x := some ρ.1) dX6_goesOn_14 rfl rfl ?_
  refine mm_gA (k := 43) rfl isA_43 q2362 dX6_goesOn_15 ?_
  refine am_iconst (v := 0) dX6_goesOn_18 (by decide) ?_
  refine am_aloadr_n (x := some ρ.1) dX6_goesOn_19 rfl rfl ?_
  refine mm_gA (k := 70) rfl isA_70 q2389 dX6_goesOn_20 ?_
  refine am_iload_n (x := a1) dX6_goesOn_23 rfl rfl ?_
  refine mm_ldA (k := 70) isA_70 rfl rfl dX6_goesOn_24 h.1 ?_
  have h := h.2
  refine mm_stA (k := 43) isA_43 rfl rfl dX6_goesOn_25 h.1 ?_
  have h := h.2
  generalize eμ3 : mm_sA μ2 43 (Int32.toNatClampNeg 0) (mA μ2 70 (Int32.toNatClampNeg a1)) = μ3
  have h := h μ3 eμ3.symm
  refine am_aloadr_n (x := some ρ.1) dX6_goesOn_26 rfl rfl ?_
  refine mm_gA (k := 44) rfl isA_44 q2363 dX6_goesOn_27 ?_
  refine am_iconst (v := 0) dX6_goesOn_30 (by decide) ?_
  refine am_aloadr_n (x := some ρ.1) dX6_goesOn_31 rfl rfl ?_
  refine mm_gA (k := 71) rfl isA_71 q2390 dX6_goesOn_32 ?_
  refine am_iload_n (x := a1) dX6_goesOn_35 rfl rfl ?_
  refine mm_ldA (k := 71) isA_71 rfl rfl dX6_goesOn_36 h.1 ?_
  have h := h.2
  refine mm_stA (k := 44) isA_44 rfl rfl dX6_goesOn_37 h.1 ?_
  have h := h.2
  generalize eμ4 : mm_sA μ3 44 (Int32.toNatClampNeg 0) (mA μ3 71 (Int32.toNatClampNeg a1)) = μ4
  have h := h μ4 eμ4.symm
  refine am_aloadr_n (x := some ρ.1) dX6_goesOn_38 rfl rfl ?_
  refine mm_gA (k := 45) rfl isA_45 q2364 dX6_goesOn_39 ?_
  refine am_iconst (v := 0) dX6_goesOn_42 (by decide) ?_
  refine am_aloadr_n (x := some ρ.1) dX6_goesOn_43 rfl rfl ?_
  refine mm_gA (k := 72) rfl isA_72 q2391 dX6_goesOn_44 ?_
  refine am_iload_n (x := a1) dX6_goesOn_47 rfl rfl ?_
  refine mm_ldA (k := 72) isA_72 rfl rfl dX6_goesOn_48 h.1 ?_
  have h := h.2
  refine mm_stA (k := 45) isA_45 rfl rfl dX6_goesOn_49 h.1 ?_
  have h := h.2
  generalize eμ5 : mm_sA μ4 45 (Int32.toNatClampNeg 0) (mA μ4 72 (Int32.toNatClampNeg a1)) = μ5
  have h := h μ5 eμ5.symm
  refine am_aloadr_n (x := some ρ.1) dX6_goesOn_50 rfl rfl ?_
  refine mm_gA (k := 46) rfl isA_46 q2365 dX6_goesOn_51 ?_
  refine am_iconst (v := 0) dX6_goesOn_54 (by decide) ?_
  refine am_aloadr_n (x := some ρ.1) dX6_goesOn_55 rfl rfl ?_
  refine mm_gA (k := 77) rfl isA_77 q2396 dX6_goesOn_56 ?_
  refine am_iload_n (x := a1) dX6_goesOn_59 rfl rfl ?_
  refine mm_ldA (k := 77) isA_77 rfl rfl dX6_goesOn_60 h.1 ?_
  have h := h.2
  refine mm_stA (k := 46) isA_46 rfl rfl dX6_goesOn_61 h.1 ?_
  have h := h.2
  generalize eμ6 : mm_sA μ5 46 (Int32.toNatClampNeg 0) (mA μ5 77 (Int32.toNatClampNeg a1)) = μ6
  have h := h μ6 eμ6.symm
  refine am_aloadr_n (x := some ρ.1) dX6_goesOn_62 rfl rfl ?_
  refine mm_gA (k := 47) rfl isA_47 q2366 dX6_goesOn_63 ?_
  refine am_iconst (v := 0) dX6_goesOn_66 (by decide) ?_
  refine am_iconst (v := 0) dX6_goesOn_67 (by decide) ?_
  refine mm_stA (k := 47) isA_47 rfl rfl dX6_goesOn_68 h.1 ?_
  have h := h.2
  generalize eμ7 : mm_sA μ6 47 (Int32.toNatClampNeg 0) 0 = μ7
  have h := h μ7 eμ7.symm
  refine am_aloadr_n (x := some ρ.1) dX6_goesOn_69 rfl rfl ?_
  refine mm_gA (k := 48) rfl isA_48 q2367 dX6_goesOn_70 ?_
  refine am_iconst (v := 0) dX6_goesOn_73 (by decide) ?_
  refine am_aloadr_n (x := some ρ.1) dX6_goesOn_74 rfl rfl ?_
  refine mm_gA (k := 78) rfl isA_78 q2397 dX6_goesOn_75 ?_
  refine am_iload_n (x := a1) dX6_goesOn_78 rfl rfl ?_
  refine mm_ldA (k := 78) isA_78 rfl rfl dX6_goesOn_79 h.1 ?_
  have h := h.2
  refine mm_stA (k := 48) isA_48 rfl rfl dX6_goesOn_80 h.1 ?_
  have h := h.2
  generalize eμ8 : mm_sA μ7 48 (Int32.toNatClampNeg 0) (mA μ7 78 (Int32.toNatClampNeg a1)) = μ8
  have h := h μ8 eμ8.symm
  refine am_iconst (v := 0) dX6_goesOn_81 (by decide) ?_
  refine am_istore_n (L' := [(4, .int 0), (0, va_rf (some ρ.1)), (2, .int a1)]) dX6_goesOn_82 rfl (Nat.le_of_ble_eq_true rfl) rfl ?_
  exact am_lss h rfl
theorem B_X6_goesOn_83_f {G : am_G} {ρ : mm_F} {d : Nat} {x1 : Int32} {x2 : Int32} {μ : mm_S} {Q : mm_S → Prop} (h : ((12 ≤ x2 → (vp_in x1 10 ∧ W_X6_goes G ρ d (mA μ 73 (Int32.toNatClampNeg x1)) 0 1 μ (fun v2 μ1 => (vp_in 0 21 ∧ (vp_in x1 10 ∧ ∀ μ3 : mm_S, μ3 = mm_sA μ1 72 (Int32.toNatClampNeg x1) (mA μ1 45 (Int32.toNatClampNeg 0)) → (((¬ v2 = 3 → (vp_in x1 10 ∧ ∀ μ4 : mm_S, μ4 = mm_sA μ3 67 (Int32.toNatClampNeg x1) 0 → (W_X6_came G ρ d v2 μ4 (fun v6 μ5 => (vp_in x1 10 ∧ ∀ μ7 : mm_S, μ7 = mm_sA μ5 75 (Int32.toNatClampNeg x1) v6 → ((vp_in x1 10 ∧ ((¬ (mA μ7 75 (Int32.toNatClampNeg x1)) = 0 → (vp_in x1 10 ∧ ∀ μ8 : mm_S, μ8 = mm_sA μ7 76 (Int32.toNatClampNeg x1) 0 → (Q μ8))) ∧ ((mA μ7 75 (Int32.toNatClampNeg x1)) = 0 → (vp_in x1 10 ∧ ∀ μ9 : mm_S, μ9 = mm_sA μ7 76 (Int32.toNatClampNeg x1) (mI μ7 40) → (Q μ9))))))))))) ∧ (v2 = 3 → (vp_in x1 10 ∧ ∀ μ10 : mm_S, μ10 = mm_sA μ3 73 (Int32.toNatClampNeg x1) (mI μ3 55) → (Q μ10)))))))))) ∧ (¬ 12 ≤ x2 → (vp_in ((12 * x1) + x2) 120 ∧ (vp_in x2 252 ∧ ∀ μ11 : mm_S, μ11 = mm_sA μ 49 (Int32.toNatClampNeg x2) (mA μ 79 (Int32.toNatClampNeg ((12 * x1) + x2))) → ((vp_in ((12 * x1) + x2) 120 ∧ (vp_in x2 252 ∧ ∀ μ12 : mm_S, μ12 = mm_sA μ11 50 (Int32.toNatClampNeg x2) (mA μ11 80 (Int32.toNatClampNeg ((12 * x1) + x2))) → ((vp_in ((12 * x1) + x2) 120 ∧ (vp_in x2 252 ∧ ∀ μ13 : mm_S, μ13 = mm_sA μ12 51 (Int32.toNatClampNeg x2) (mA μ12 81 (Int32.toNatClampNeg ((12 * x1) + x2))) → (B_X6_goesOn_83 G ρ (d + 1) x1 (x2 + 1) μ13 Q)))))))))))) : B_X6_goesOn_83 G ρ (d + 1) x1 x2 μ Q := by
  unfold B_X6_goesOn_83
  refine am_iload_n (x := x2) dX6_goesOn_83 rfl rfl ?_
  refine am_bipush (v := 12) dX6_goesOn_84 (by decide) ?_
  refine am_icmp_ge (tgt := 146) dX6_goesOn_86 (by decide) (fun c => ?_) (fun c => ?_)
  · have h := h.1 c
    refine am_aloadr_n (x := some ρ.1) dX6_goesOn_146 rfl rfl ?_
    refine am_aloadr_n (x := some ρ.1) dX6_goesOn_147 rfl rfl ?_
    refine mm_gA (k := 73) rfl isA_73 q2392 dX6_goesOn_148 ?_
    refine am_iload_n (x := x1) dX6_goesOn_151 rfl rfl ?_
    refine mm_ldA (k := 73) isA_73 rfl rfl dX6_goesOn_152 h.1 ?_
    have h := h.2
    refine am_iconst (v := 0) dX6_goesOn_153 (by decide) ?_
    refine am_iconst (v := 1) dX6_goesOn_154 (by decide) ?_
    refine mm_callV (Mc := m_X6_goes) (as := [.int (mA μ 73 (Int32.toNatClampNeg x1)), .int 0, .int 1]) rfl bm_X6_goes q2887 q2889 qs126 (Nat.le_of_ble_eq_true rfl) dX6_goesOn_155 (mt_X6_goes (mm_k2i h (fun v2 μ1 h => ?_)))
    refine am_istore_n (L' := [(4, .int v2), (0, va_rf (some ρ.1)), (2, .int x1)]) dX6_goesOn_158 rfl (Nat.le_of_ble_eq_true rfl) rfl ?_
    refine am_aloadr_n (x := some ρ.1) dX6_goesOn_159 rfl rfl ?_
    refine mm_gA (k := 72) rfl isA_72 q2391 dX6_goesOn_160 ?_
    refine am_iload_n (x := x1) dX6_goesOn_163 rfl rfl ?_
    refine am_aloadr_n (x := some ρ.1) dX6_goesOn_164 rfl rfl ?_
    refine mm_gA (k := 45) rfl isA_45 q2364 dX6_goesOn_165 ?_
    refine am_iconst (v := 0) dX6_goesOn_168 (by decide) ?_
    refine mm_ldA (k := 45) isA_45 rfl rfl dX6_goesOn_169 h.1 ?_
    have h := h.2
    refine mm_stA (k := 72) isA_72 rfl rfl dX6_goesOn_170 h.1 ?_
    have h := h.2
    generalize eμ3 : mm_sA μ1 72 (Int32.toNatClampNeg x1) (mA μ1 45 (Int32.toNatClampNeg 0)) = μ3
    have h := h μ3 eμ3.symm
    refine am_iload_n (x := v2) dX6_goesOn_171 rfl rfl ?_
    refine am_iconst (v := 3) dX6_goesOn_172 (by decide) ?_
    refine am_icmp_ne (tgt := 187) dX6_goesOn_173 (by decide) (fun c => ?_) (fun c => ?_)
    · have h := h.1 c
      refine am_aloadr_n (x := some ρ.1) dX6_goesOn_187 rfl rfl ?_
      refine mm_gA (k := 67) rfl isA_67 q2386 dX6_goesOn_188 ?_
      refine am_iload_n (x := x1) dX6_goesOn_191 rfl rfl ?_
      refine am_iconst (v := 0) dX6_goesOn_192 (by decide) ?_
      refine mm_stZ (k := 67) isA_67 rfl rfl (by decide) dX6_goesOn_193 h.1 ?_
      have h := h.2
      generalize eμ4 : mm_sA μ3 67 (Int32.toNatClampNeg x1) 0 = μ4
      have h := h μ4 eμ4.symm
      refine am_aloadr_n (x := some ρ.1) dX6_goesOn_194 rfl rfl ?_
      refine mm_gA (k := 75) rfl isA_75 q2394 dX6_goesOn_195 ?_
      refine am_iload_n (x := x1) dX6_goesOn_198 rfl rfl ?_
      refine am_aloadr_n (x := some ρ.1) dX6_goesOn_199 rfl rfl ?_
      refine am_iload_n (x := v2) dX6_goesOn_200 rfl rfl ?_
      refine mm_callV (Mc := m_X6_came) (as := [.int v2]) rfl bm_X6_came q2942 q2944 qs139 (Nat.le_of_ble_eq_true rfl) dX6_goesOn_201 (mt_X6_came (mm_k2i h (fun v6 μ5 h => ?_)))
      refine mm_stA (k := 75) isA_75 rfl rfl dX6_goesOn_204 h.1 ?_
      have h := h.2
      generalize eμ7 : mm_sA μ5 75 (Int32.toNatClampNeg x1) v6 = μ7
      have h := h μ7 eμ7.symm
      refine am_aloadr_n (x := some ρ.1) dX6_goesOn_205 rfl rfl ?_
      refine mm_gA (k := 76) rfl isA_76 q2395 dX6_goesOn_206 ?_
      refine am_iload_n (x := x1) dX6_goesOn_209 rfl rfl ?_
      refine am_aloadr_n (x := some ρ.1) dX6_goesOn_210 rfl rfl ?_
      refine mm_gA (k := 75) rfl isA_75 q2394 dX6_goesOn_211 ?_
      refine am_iload_n (x := x1) dX6_goesOn_214 rfl rfl ?_
      refine mm_ldA (k := 75) isA_75 rfl rfl dX6_goesOn_215 h.1 ?_
      have h := h.2
      refine am_if_ne (tgt := 226) dX6_goesOn_216 (by decide) (fun c => ?_) (fun c => ?_)
      · have h := h.1 c
        refine am_iconst (v := 0) dX6_goesOn_226 (by decide) ?_
        refine mm_stA (k := 76) isA_76 rfl rfl dX6_goesOn_227 h.1 ?_
        have h := h.2
        generalize eμ8 : mm_sA μ7 76 (Int32.toNatClampNeg x1) 0 = μ8
        have h := h μ8 eμ8.symm
        exact am_vret rfl dX6_goesOn_228 ⟨_, rfl, rfl, h⟩
      · have h := h.2 c
        refine am_aloadr_n (x := some ρ.1) dX6_goesOn_219 rfl rfl ?_
        refine mm_gI (k := 40) rfl (Or.inl rfl) (by decide) q2359 dX6_goesOn_220 ?_
        refine am_goto (tgt := 227) dX6_goesOn_223 (by decide) ?_
        refine mm_stA (k := 76) isA_76 rfl rfl dX6_goesOn_227 h.1 ?_
        have h := h.2
        generalize eμ9 : mm_sA μ7 76 (Int32.toNatClampNeg x1) (mI μ7 40) = μ9
        have h := h μ9 eμ9.symm
        exact am_vret rfl dX6_goesOn_228 ⟨_, rfl, rfl, h⟩
    · have h := h.2 c
      refine am_aloadr_n (x := some ρ.1) dX6_goesOn_176 rfl rfl ?_
      refine mm_gA (k := 73) rfl isA_73 q2392 dX6_goesOn_177 ?_
      refine am_iload_n (x := x1) dX6_goesOn_180 rfl rfl ?_
      refine am_aloadr_n (x := some ρ.1) dX6_goesOn_181 rfl rfl ?_
      refine mm_gI (k := 55) rfl (Or.inl rfl) (by decide) q2374 dX6_goesOn_182 ?_
      refine mm_stA (k := 73) isA_73 rfl rfl dX6_goesOn_185 h.1 ?_
      have h := h.2
      generalize eμ10 : mm_sA μ3 73 (Int32.toNatClampNeg x1) (mI μ3 55) = μ10
      have h := h μ10 eμ10.symm
      exact am_vret rfl dX6_goesOn_186 ⟨_, rfl, rfl, h⟩
  · have h := h.2 c
    refine am_aloadr_n (x := some ρ.1) dX6_goesOn_89 rfl rfl ?_
    refine mm_gA (k := 49) rfl isA_49 q2368 dX6_goesOn_90 ?_
    refine am_iload_n (x := x2) dX6_goesOn_93 rfl rfl ?_
    refine am_aloadr_n (x := some ρ.1) dX6_goesOn_94 rfl rfl ?_
    refine mm_gA (k := 79) rfl isA_79 q2398 dX6_goesOn_95 ?_
    refine am_bipush (v := 12) dX6_goesOn_98 (by decide) ?_
    refine am_iload_n (x := x1) dX6_goesOn_100 rfl rfl ?_
    refine am_imul dX6_goesOn_101 ?_
    refine am_iload_n (x := x2) dX6_goesOn_102 rfl rfl ?_
    refine am_iadd dX6_goesOn_103 ?_
    refine mm_ldA (k := 79) isA_79 rfl rfl dX6_goesOn_104 h.1 ?_
    have h := h.2
    refine mm_stA (k := 49) isA_49 rfl rfl dX6_goesOn_105 h.1 ?_
    have h := h.2
    generalize eμ11 : mm_sA μ 49 (Int32.toNatClampNeg x2) (mA μ 79 (Int32.toNatClampNeg ((12 * x1) + x2))) = μ11
    have h := h μ11 eμ11.symm
    refine am_aloadr_n (x := some ρ.1) dX6_goesOn_106 rfl rfl ?_
    refine mm_gA (k := 50) rfl isA_50 q2369 dX6_goesOn_107 ?_
    refine am_iload_n (x := x2) dX6_goesOn_110 rfl rfl ?_
    refine am_aloadr_n (x := some ρ.1) dX6_goesOn_111 rfl rfl ?_
    refine mm_gA (k := 80) rfl isA_80 q2399 dX6_goesOn_112 ?_
    refine am_bipush (v := 12) dX6_goesOn_115 (by decide) ?_
    refine am_iload_n (x := x1) dX6_goesOn_117 rfl rfl ?_
    refine am_imul dX6_goesOn_118 ?_
    refine am_iload_n (x := x2) dX6_goesOn_119 rfl rfl ?_
    refine am_iadd dX6_goesOn_120 ?_
    refine mm_ldA (k := 80) isA_80 rfl rfl dX6_goesOn_121 h.1 ?_
    have h := h.2
    refine mm_stA (k := 50) isA_50 rfl rfl dX6_goesOn_122 h.1 ?_
    have h := h.2
    generalize eμ12 : mm_sA μ11 50 (Int32.toNatClampNeg x2) (mA μ11 80 (Int32.toNatClampNeg ((12 * x1) + x2))) = μ12
    have h := h μ12 eμ12.symm
    refine am_aloadr_n (x := some ρ.1) dX6_goesOn_123 rfl rfl ?_
    refine mm_gA (k := 51) rfl isA_51 q2370 dX6_goesOn_124 ?_
    refine am_iload_n (x := x2) dX6_goesOn_127 rfl rfl ?_
    refine am_aloadr_n (x := some ρ.1) dX6_goesOn_128 rfl rfl ?_
    refine mm_gA (k := 81) rfl isA_81 q2400 dX6_goesOn_129 ?_
    refine am_bipush (v := 12) dX6_goesOn_132 (by decide) ?_
    refine am_iload_n (x := x1) dX6_goesOn_134 rfl rfl ?_
    refine am_imul dX6_goesOn_135 ?_
    refine am_iload_n (x := x2) dX6_goesOn_136 rfl rfl ?_
    refine am_iadd dX6_goesOn_137 ?_
    refine mm_ldA (k := 81) isA_81 rfl rfl dX6_goesOn_138 h.1 ?_
    have h := h.2
    refine mm_stA (k := 51) isA_51 rfl rfl dX6_goesOn_139 h.1 ?_
    have h := h.2
    generalize eμ13 : mm_sA μ12 51 (Int32.toNatClampNeg x2) (mA μ12 81 (Int32.toNatClampNeg ((12 * x1) + x2))) = μ13
    have h := h μ13 eμ13.symm
    refine am_iinc (x := x2) (v := (x2 + 1)) (L' := [(4, .int (x2 + 1)), (0, va_rf (some ρ.1)), (2, .int x1)]) dX6_goesOn_140 rfl rfl (Nat.le_of_ble_eq_true rfl) rfl ?_
    refine am_goto (tgt := 83) dX6_goesOn_143 (by decide) ?_
    exact am_lss h rfl
theorem W_X6_patches_f {G : am_G} {ρ : mm_F} {d : Nat}  {μ : mm_S} {Q : mm_S → Prop} (h : ((¬ (mI μ 28) = (-1) → B_X6_patches_13 G ρ (d + 1) 0 0 μ Q) ∧ ((mI μ 28) = (-1) → Q μ))) : W_X6_patches G ρ (d + 1)  μ Q := by
  unfold W_X6_patches
  refine am_aloadr_n (x := some ρ.1) dX6_patches_0 rfl rfl ?_
  refine mm_gI (k := 28) rfl (Or.inl rfl) (by decide) q2347 dX6_patches_1 ?_
  refine am_iconst (v := (-1)) dX6_patches_4 (by decide) ?_
  refine am_icmp_ne (tgt := 9) dX6_patches_5 (by decide) (fun c => ?_) (fun c => ?_)
  · have h := h.1 c
    refine am_iconst (v := 0) dX6_patches_9 (by decide) ?_
    refine am_istore_n (L' := [(2, .int 0), (0, va_rf (some ρ.1))]) dX6_patches_10 rfl (Nat.le_of_ble_eq_true rfl) rfl ?_
    refine am_iconst (v := 0) dX6_patches_11 (by decide) ?_
    refine am_istore_n (L' := [(4, .int 0), (2, .int 0), (0, va_rf (some ρ.1))]) dX6_patches_12 rfl (Nat.le_of_ble_eq_true rfl) rfl ?_
    exact am_lss h rfl
  · have h := h.2 c
    exact am_vret rfl dX6_patches_8 ⟨_, rfl, rfl, h⟩
theorem B_X6_patches_13_f {G : am_G} {ρ : mm_F} {d : Nat} {x1 : Int32} {x2 : Int32} {μ : mm_S} {Q : mm_S → Prop} (h : ((10 ≤ x2 → ((x1 = 0 → W_X6_makes G ρ d (mI μ 28) μ (fun v2 μ1 => ((v2 = 0 → (vp_in (mI μ 28) 6 ∧ ∀ μ3 : mm_S, μ3 = mm_sA μ1 32 (Int32.toNatClampNeg (mI μ 28)) 4 → ((∀ μ4 : mm_S, μ4 = mm_sI μ3 28 (-1) → (Q μ4))))) ∧ (¬ v2 = 0 → (vp_in (mI μ 28) 6 ∧ ∀ μ5 : mm_S, μ5 = mm_sA μ1 32 (Int32.toNatClampNeg (mI μ 28)) 2 → ((∀ μ6 : mm_S, μ6 = mm_sI μ5 28 (-1) → (Q μ6)))))))) ∧ (¬ x1 = 0 → (∀ μ7 : mm_S, μ7 = mm_sI μ 26 ((mI μ 26) + 1) → (((8 ≤ (mI μ7 26) → (vp_in (mI μ 28) 6 ∧ ∀ μ8 : mm_S, μ8 = mm_sA μ7 32 (Int32.toNatClampNeg (mI μ 28)) 3 → ((∀ μ9 : mm_S, μ9 = mm_sI μ8 28 (-1) → (Q μ9))))) ∧ (¬ 8 ≤ (mI μ7 26) → Q μ7))))))) ∧ (¬ 10 ≤ x2 → ((¬ x1 = 0 → B_X6_patches_13 G ρ (d + 1) 1 (x2 + 1) μ Q) ∧ (x1 = 0 → (vp_in x2 10 ∧ (((mA μ 67 (Int32.toNatClampNeg x2)) = 0 → B_X6_patches_13 G ρ (d + 1) 0 (x2 + 1) μ Q) ∧ (¬ (mA μ 67 (Int32.toNatClampNeg x2)) = 0 → (vp_in x2 10 ∧ (((mA μ 69 (Int32.toNatClampNeg x2)) = 0 → B_X6_patches_13 G ρ (d + 1) 0 (x2 + 1) μ Q) ∧ (¬ (mA μ 69 (Int32.toNatClampNeg x2)) = 0 → B_X6_patches_13 G ρ (d + 1) 1 (x2 + 1) μ Q))))))))))) : B_X6_patches_13 G ρ (d + 1) x1 x2 μ Q := by
  unfold B_X6_patches_13
  refine am_iload_n (x := x2) dX6_patches_13 rfl rfl ?_
  refine am_bipush (v := 10) dX6_patches_14 (by decide) ?_
  refine am_icmp_ge (tgt := 53) dX6_patches_16 (by decide) (fun c => ?_) (fun c => ?_)
  · have h := h.1 c
    refine am_aloadr_n (x := some ρ.1) dX6_patches_53 rfl rfl ?_
    refine mm_gI (k := 28) rfl (Or.inl rfl) (by decide) q2347 dX6_patches_54 ?_
    refine am_istore_n (L' := [(4, .int (mI μ 28)), (0, va_rf (some ρ.1)), (2, .int x1)]) dX6_patches_57 rfl (Nat.le_of_ble_eq_true rfl) rfl ?_
    refine am_iload_n (x := x1) dX6_patches_58 rfl rfl ?_
    refine am_if_eq (tgt := 92) dX6_patches_59 (by decide) (fun c => ?_) (fun c => ?_)
    · have h := h.1 c
      refine am_aloadr_n (x := some ρ.1) dX6_patches_92 rfl rfl ?_
      refine mm_gA (k := 32) rfl isA_32 q2351 dX6_patches_93 ?_
      refine am_iload_n (x := (mI μ 28)) dX6_patches_96 rfl rfl ?_
      refine am_aloadr_n (x := some ρ.1) dX6_patches_97 rfl rfl ?_
      refine am_iload_n (x := (mI μ 28)) dX6_patches_98 rfl rfl ?_
      refine mm_callV (Mc := m_X6_makes) (as := [.int (mI μ 28)]) rfl bm_X6_makes q2966 q2968 qs142 (Nat.le_of_ble_eq_true rfl) dX6_patches_99 (mt_X6_makes (mm_k2i h (fun v2 μ1 h => ?_)))
      refine am_if_eq (tgt := 109) dX6_patches_102 (by decide) (fun c => ?_) (fun c => ?_)
      · have h := h.1 c
        refine am_iconst (v := 4) dX6_patches_109 (by decide) ?_
        refine mm_stA (k := 32) isA_32 rfl rfl dX6_patches_110 h.1 ?_
        have h := h.2
        generalize eμ3 : mm_sA μ1 32 (Int32.toNatClampNeg (mI μ 28)) 4 = μ3
        have h := h μ3 eμ3.symm
        refine am_aloadr_n (x := some ρ.1) dX6_patches_111 rfl rfl ?_
        refine am_iconst (v := (-1)) dX6_patches_112 (by decide) ?_
        refine mm_pI (k := 28) rfl rfl rfl (by decide) q2347 rfl dX6_patches_113 ?_
        generalize eμ4 : mm_sI μ3 28 (-1) = μ4
        have h := h μ4 eμ4.symm
        exact am_vret rfl dX6_patches_116 ⟨_, rfl, rfl, h⟩
      · have h := h.2 c
        refine am_iconst (v := 2) dX6_patches_105 (by decide) ?_
        refine am_goto (tgt := 110) dX6_patches_106 (by decide) ?_
        refine mm_stA (k := 32) isA_32 rfl rfl dX6_patches_110 h.1 ?_
        have h := h.2
        generalize eμ5 : mm_sA μ1 32 (Int32.toNatClampNeg (mI μ 28)) 2 = μ5
        have h := h μ5 eμ5.symm
        refine am_aloadr_n (x := some ρ.1) dX6_patches_111 rfl rfl ?_
        refine am_iconst (v := (-1)) dX6_patches_112 (by decide) ?_
        refine mm_pI (k := 28) rfl rfl rfl (by decide) q2347 rfl dX6_patches_113 ?_
        generalize eμ6 : mm_sI μ5 28 (-1) = μ6
        have h := h μ6 eμ6.symm
        exact am_vret rfl dX6_patches_116 ⟨_, rfl, rfl, h⟩
    · have h := h.2 c
      refine am_aloadr_n (x := some ρ.1) dX6_patches_62 rfl rfl ?_
      refine am_dup dX6_patches_63 (am_rf_cat _) ?_
      refine mm_gI (k := 26) rfl (Or.inl rfl) (by decide) q2345 dX6_patches_64 ?_
      refine am_iconst (v := 1) dX6_patches_67 (by decide) ?_
      refine am_iadd dX6_patches_68 ?_
      refine mm_pI (k := 26) rfl rfl rfl (by decide) q2345 rfl dX6_patches_69 ?_
      generalize eμ7 : mm_sI μ 26 ((mI μ 26) + 1) = μ7
      have h := h μ7 eμ7.symm
      refine am_aloadr_n (x := some ρ.1) dX6_patches_72 rfl rfl ?_
      refine mm_gI (k := 26) rfl (Or.inl rfl) (by decide) q2345 dX6_patches_73 ?_
      refine am_bipush (v := 8) dX6_patches_76 (by decide) ?_
      refine am_icmp_ge (tgt := 82) dX6_patches_78 (by decide) (fun c => ?_) (fun c => ?_)
      · have h := h.1 c
        refine am_aloadr_n (x := some ρ.1) dX6_patches_82 rfl rfl ?_
        refine mm_gA (k := 32) rfl isA_32 q2351 dX6_patches_83 ?_
        refine am_iload_n (x := (mI μ 28)) dX6_patches_86 rfl rfl ?_
        refine am_iconst (v := 3) dX6_patches_87 (by decide) ?_
        refine mm_stA (k := 32) isA_32 rfl rfl dX6_patches_88 h.1 ?_
        have h := h.2
        generalize eμ8 : mm_sA μ7 32 (Int32.toNatClampNeg (mI μ 28)) 3 = μ8
        have h := h μ8 eμ8.symm
        refine am_goto (tgt := 111) dX6_patches_89 (by decide) ?_
        refine am_aloadr_n (x := some ρ.1) dX6_patches_111 rfl rfl ?_
        refine am_iconst (v := (-1)) dX6_patches_112 (by decide) ?_
        refine mm_pI (k := 28) rfl rfl rfl (by decide) q2347 rfl dX6_patches_113 ?_
        generalize eμ9 : mm_sI μ8 28 (-1) = μ9
        have h := h μ9 eμ9.symm
        exact am_vret rfl dX6_patches_116 ⟨_, rfl, rfl, h⟩
      · have h := h.2 c
        exact am_vret rfl dX6_patches_81 ⟨_, rfl, rfl, h⟩
  · have h := h.2 c
    refine am_iload_n (x := x1) dX6_patches_19 rfl rfl ?_
    refine am_if_ne (tgt := 41) dX6_patches_20 (by decide) (fun c => ?_) (fun c => ?_)
    · have h := h.1 c
      refine am_iconst (v := 1) dX6_patches_41 (by decide) ?_
      refine am_goto (tgt := 46) dX6_patches_42 (by decide) ?_
      refine am_istore_n (L' := [(2, .int 1), (0, va_rf (some ρ.1)), (4, .int x2)]) dX6_patches_46 rfl (Nat.le_of_ble_eq_true rfl) rfl ?_
      refine am_iinc (x := x2) (v := (x2 + 1)) (L' := [(4, .int (x2 + 1)), (2, .int 1), (0, va_rf (some ρ.1))]) dX6_patches_47 rfl rfl (Nat.le_of_ble_eq_true rfl) rfl ?_
      refine am_goto (tgt := 13) dX6_patches_50 (by decide) ?_
      exact am_lss h rfl
    · have h := h.2 c
      refine am_aloadr_n (x := some ρ.1) dX6_patches_23 rfl rfl ?_
      refine mm_gA (k := 67) rfl isA_67 q2386 dX6_patches_24 ?_
      refine am_iload_n (x := x2) dX6_patches_27 rfl rfl ?_
      refine mm_ldZ (k := 67) isA_67 rfl rfl dX6_patches_28 h.1 ?_
      have h := h.2
      refine am_if_eq (tgt := 45) dX6_patches_29 (by decide) (fun c => ?_) (fun c => ?_)
      · have h := h.1 c
        refine am_iconst (v := 0) dX6_patches_45 (by decide) ?_
        refine am_istore_n (L' := [(2, .int 0), (0, va_rf (some ρ.1)), (4, .int x2)]) dX6_patches_46 rfl (Nat.le_of_ble_eq_true rfl) rfl ?_
        refine am_iinc (x := x2) (v := (x2 + 1)) (L' := [(4, .int (x2 + 1)), (2, .int 0), (0, va_rf (some ρ.1))]) dX6_patches_47 rfl rfl (Nat.le_of_ble_eq_true rfl) rfl ?_
        refine am_goto (tgt := 13) dX6_patches_50 (by decide) ?_
        exact am_lss h rfl
      · have h := h.2 c
        refine am_aloadr_n (x := some ρ.1) dX6_patches_32 rfl rfl ?_
        refine mm_gA (k := 69) rfl isA_69 q2388 dX6_patches_33 ?_
        refine am_iload_n (x := x2) dX6_patches_36 rfl rfl ?_
        refine mm_ldZ (k := 69) isA_69 rfl rfl dX6_patches_37 h.1 ?_
        have h := h.2
        refine am_if_eq (tgt := 45) dX6_patches_38 (by decide) (fun c => ?_) (fun c => ?_)
        · have h := h.1 c
          refine am_iconst (v := 0) dX6_patches_45 (by decide) ?_
          refine am_istore_n (L' := [(2, .int 0), (0, va_rf (some ρ.1)), (4, .int x2)]) dX6_patches_46 rfl (Nat.le_of_ble_eq_true rfl) rfl ?_
          refine am_iinc (x := x2) (v := (x2 + 1)) (L' := [(4, .int (x2 + 1)), (2, .int 0), (0, va_rf (some ρ.1))]) dX6_patches_47 rfl rfl (Nat.le_of_ble_eq_true rfl) rfl ?_
          refine am_goto (tgt := 13) dX6_patches_50 (by decide) ?_
          exact am_lss h rfl
        · have h := h.2 c
          refine am_iconst (v := 1) dX6_patches_41 (by decide) ?_
          refine am_goto (tgt := 46) dX6_patches_42 (by decide) ?_
          refine am_istore_n (L' := [(2, .int 1), (0, va_rf (some ρ.1)), (4, .int x2)]) dX6_patches_46 rfl (Nat.le_of_ble_eq_true rfl) rfl ?_
          refine am_iinc (x := x2) (v := (x2 + 1)) (L' := [(4, .int (x2 + 1)), (2, .int 1), (0, va_rf (some ρ.1))]) dX6_patches_47 rfl rfl (Nat.le_of_ble_eq_true rfl) rfl ?_
          refine am_goto (tgt := 13) dX6_patches_50 (by decide) ?_
          exact am_lss h rfl
theorem W_X6_makes_f {G : am_G} {ρ : mm_F} {d : Nat} {a1 : Int32} {μ : mm_S} {Q : Int32 → mm_S → Prop} (h : W_X6_copy G ρ d 0 1 μ (fun μ1 => B_X6_makes_8 G ρ (d + 1) a1 0 μ1 Q)) : W_X6_makes G ρ (d + 1) a1 μ Q := by
  unfold W_X6_makes
  refine am_aloadr_n (x := some ρ.1) dX6_makes_0 rfl rfl ?_
  refine am_iconst (v := 0) dX6_makes_1 (by decide) ?_
  refine am_iconst (v := 1) dX6_makes_2 (by decide) ?_
  refine mm_callV (Mc := m_X6_copy) (as := [.int 0, .int 1]) rfl bm_X6_copy q2775 q2777 qs115 (Nat.le_of_ble_eq_true rfl) dX6_makes_3 (mt_X6_copy (mm_k2v h (fun μ1 h => ?_)))
  refine am_iconst (v := 0) dX6_makes_6 (by decide) ?_
  refine am_istore_n (L' := [(4, .int 0), (0, va_rf (some ρ.1)), (2, .int a1)]) dX6_makes_7 rfl (Nat.le_of_ble_eq_true rfl) rfl ?_
  exact am_lss h rfl
theorem B_X6_makes_8_f {G : am_G} {ρ : mm_F} {d : Nat} {x1 : Int32} {x2 : Int32} {μ : mm_S} {Q : Int32 → mm_S → Prop} (h : W_X6_many G ρ d 1 μ (fun v2 μ1 => ((v2 ≤ x2 → (vp_in x1 6 ∧ B_X6_makes_82 G ρ (d + 1) x1 0 (mA μ1 31 (Int32.toNatClampNeg x1)) μ1 Q)) ∧ (¬ v2 ≤ x2 → W_X6_set G ρ d 1 x2 3 0 μ1 (fun μ3 => W_X6_set G ρ d 1 x2 4 x2 μ3 (fun μ4 => B_X6_makes_35 G ρ (d + 1) x1 x2 0 μ4 Q)))))) : B_X6_makes_8 G ρ (d + 1) x1 x2 μ Q := by
  unfold B_X6_makes_8
  refine am_iload_n (x := x2) dX6_makes_8 rfl rfl ?_
  refine am_aloadr_n (x := some ρ.1) dX6_makes_9 rfl rfl ?_
  refine am_iconst (v := 1) dX6_makes_10 (by decide) ?_
  refine mm_callV (Mc := m_X6_many) (as := [.int 1]) rfl bm_X6_many q2662 q2664 qs87 (Nat.le_of_ble_eq_true rfl) dX6_makes_11 (mt_X6_many (mm_k2i h (fun v2 μ1 h => ?_)))
  refine am_icmp_ge (tgt := 73) dX6_makes_14 (by decide) (fun c => ?_) (fun c => ?_)
  · have h := h.1 c
    refine am_iconst (v := 0) dX6_makes_73 (by decide) ?_
    refine am_istore_n (L' := [(4, .int 0), (0, va_rf (some ρ.1)), (2, .int x1)]) dX6_makes_74 rfl (Nat.le_of_ble_eq_true rfl) rfl ?_
    refine am_aloadr_n (x := some ρ.1) dX6_makes_75 rfl rfl ?_
    refine mm_gA (k := 31) rfl isA_31 q2350 dX6_makes_76 ?_
    refine am_iload_n (x := x1) dX6_makes_79 rfl rfl ?_
    refine mm_ldA (k := 31) isA_31 rfl rfl dX6_makes_80 h.1 ?_
    have h := h.2
    refine am_istore_n (L' := [(6, .int (mA μ1 31 (Int32.toNatClampNeg x1))), (4, .int 0), (0, va_rf (some ρ.1)), (2, .int x1)]) dX6_makes_81 rfl (Nat.le_of_ble_eq_true rfl) rfl ?_
    exact am_lss h rfl
  · have h := h.2 c
    refine am_aloadr_n (x := some ρ.1) dX6_makes_17 rfl rfl ?_
    refine am_iconst (v := 1) dX6_makes_18 (by decide) ?_
    refine am_iload_n (x := x2) dX6_makes_19 rfl rfl ?_
    refine am_iconst (v := 3) dX6_makes_20 (by decide) ?_
    refine am_iconst (v := 0) dX6_makes_21 (by decide) ?_
    refine mm_callV (Mc := m_X6_set) (as := [.int 1, .int x2, .int 3, .int 0]) rfl bm_X6_set q2674 q2676 qs90 (Nat.le_of_ble_eq_true rfl) dX6_makes_22 (mt_X6_set (mm_k2v h (fun μ3 h => ?_)))
    refine am_aloadr_n (x := some ρ.1) dX6_makes_25 rfl rfl ?_
    refine am_iconst (v := 1) dX6_makes_26 (by decide) ?_
    refine am_iload_n (x := x2) dX6_makes_27 rfl rfl ?_
    refine am_iconst (v := 4) dX6_makes_28 (by decide) ?_
    refine am_iload_n (x := x2) dX6_makes_29 rfl rfl ?_
    refine mm_callV (Mc := m_X6_set) (as := [.int 1, .int x2, .int 4, .int x2]) rfl bm_X6_set q2674 q2676 qs90 (Nat.le_of_ble_eq_true rfl) dX6_makes_30 (mt_X6_set (mm_k2v h (fun μ4 h => ?_)))
    refine am_iconst (v := 0) dX6_makes_33 (by decide) ?_
    refine am_istore_n (L' := [(6, .int 0), (0, va_rf (some ρ.1)), (2, .int x1), (4, .int x2)]) dX6_makes_34 rfl (Nat.le_of_ble_eq_true rfl) rfl ?_
    exact am_lss h rfl
theorem B_X6_makes_35_f {G : am_G} {ρ : mm_F} {d : Nat} {x1 : Int32} {x2 : Int32} {x3 : Int32} {μ : mm_S} {Q : Int32 → mm_S → Prop} (h : ((8 ≤ x3 → B_X6_makes_8 G ρ (d + 1) x1 (x2 + 1) μ Q) ∧ (¬ 8 ≤ x3 → W_X6_get G ρ d 1 x2 (6 + x3) μ (fun v2 μ1 => W_X6_set G ρ d 1 x2 (22 + x3) v2 μ1 (fun μ3 => B_X6_makes_35 G ρ (d + 1) x1 x2 (x3 + 1) μ3 Q))))) : B_X6_makes_35 G ρ (d + 1) x1 x2 x3 μ Q := by
  unfold B_X6_makes_35
  refine am_iload_n (x := x3) dX6_makes_35 rfl rfl ?_
  refine am_bipush (v := 8) dX6_makes_36 (by decide) ?_
  refine am_icmp_ge (tgt := 67) dX6_makes_38 (by decide) (fun c => ?_) (fun c => ?_)
  · have h := h.1 c
    refine am_iinc (x := x2) (v := (x2 + 1)) (L' := [(4, .int (x2 + 1)), (0, va_rf (some ρ.1)), (2, .int x1), (6, .int x3)]) dX6_makes_67 rfl rfl (Nat.le_of_ble_eq_true rfl) rfl ?_
    refine am_goto (tgt := 8) dX6_makes_70 (by decide) ?_
    exact am_lss h rfl
  · have h := h.2 c
    refine am_aloadr_n (x := some ρ.1) dX6_makes_41 rfl rfl ?_
    refine am_iconst (v := 1) dX6_makes_42 (by decide) ?_
    refine am_iload_n (x := x2) dX6_makes_43 rfl rfl ?_
    refine am_bipush (v := 22) dX6_makes_44 (by decide) ?_
    refine am_iload_n (x := x3) dX6_makes_46 rfl rfl ?_
    refine am_iadd dX6_makes_47 ?_
    refine am_aloadr_n (x := some ρ.1) dX6_makes_48 rfl rfl ?_
    refine am_iconst (v := 1) dX6_makes_49 (by decide) ?_
    refine am_iload_n (x := x2) dX6_makes_50 rfl rfl ?_
    refine am_bipush (v := 6) dX6_makes_51 (by decide) ?_
    refine am_iload_n (x := x3) dX6_makes_53 rfl rfl ?_
    refine am_iadd dX6_makes_54 ?_
    refine mm_callV (Mc := m_X6_get) (as := [.int 1, .int x2, .int (6 + x3)]) rfl bm_X6_get q2666 q2668 qs88 (Nat.le_of_ble_eq_true rfl) dX6_makes_55 (mt_X6_get (mm_k2i h (fun v2 μ1 h => ?_)))
    refine mm_callV (Mc := m_X6_set) (as := [.int 1, .int x2, .int (22 + x3), .int v2]) rfl bm_X6_set q2674 q2676 qs90 (Nat.le_of_ble_eq_true rfl) dX6_makes_58 (mt_X6_set (mm_k2v h (fun μ3 h => ?_)))
    refine am_iinc (x := x3) (v := (x3 + 1)) (L' := [(6, .int (x3 + 1)), (0, va_rf (some ρ.1)), (2, .int x1), (4, .int x2)]) dX6_makes_61 rfl rfl (Nat.le_of_ble_eq_true rfl) rfl ?_
    refine am_goto (tgt := 35) dX6_makes_64 (by decide) ?_
    exact am_lss h rfl
theorem B_X6_makes_82_f {G : am_G} {ρ : mm_F} {d : Nat} {x1 : Int32} {x2 : Int32} {x3 : Int32} {μ : mm_S} {Q : Int32 → mm_S → Prop} (h : ((x3 = (-1) → W_X6_isClear G ρ d μ (fun v2 μ1 => ((¬ v2 = 0 → B_X6_makes_122 G ρ (d + 1) x1 0 μ1 Q) ∧ (v2 = 0 → Q 0 μ1)))) ∧ (¬ x3 = (-1) → W_X6_changes G ρ d x3 x2 μ (fun v4 μ3 => ((¬ v4 = 0 → W_X6_in G ρ d x3 4 μ3 (fun v6 μ5 => B_X6_makes_82 G ρ (d + 1) x1 (x2 + 1) v6 μ5 Q)) ∧ (v4 = 0 → Q 0 μ3)))))) : B_X6_makes_82 G ρ (d + 1) x1 x2 x3 μ Q := by
  unfold B_X6_makes_82
  refine am_iload_n (x := x3) dX6_makes_82 rfl rfl ?_
  refine am_iconst (v := (-1)) dX6_makes_83 (by decide) ?_
  refine am_icmp_eq (tgt := 111) dX6_makes_84 (by decide) (fun c => ?_) (fun c => ?_)
  · have h := h.1 c
    refine am_aloadr_n (x := some ρ.1) dX6_makes_111 rfl rfl ?_
    refine mm_callV (Mc := m_X6_isClear) (as := []) rfl bm_X6_isClear q2998 q3000 qs150 (Nat.le_of_ble_eq_true rfl) dX6_makes_112 (mt_X6_isClear (mm_k2i h (fun v2 μ1 h => ?_)))
    refine am_if_ne (tgt := 120) dX6_makes_115 (by decide) (fun c => ?_) (fun c => ?_)
    · have h := h.1 c
      refine am_iconst (v := 0) dX6_makes_120 (by decide) ?_
      refine am_istore_n (L' := [(6, .int 0), (0, va_rf (some ρ.1)), (2, .int x1), (4, .int x2)]) dX6_makes_121 rfl (Nat.le_of_ble_eq_true rfl) rfl ?_
      exact am_lss h rfl
    · have h := h.2 c
      refine am_iconst (v := 0) dX6_makes_118 (by decide) ?_
      exact am_zret rfl rfl dX6_makes_119 ⟨_, _, rfl, rfl, h⟩
  · have h := h.2 c
    refine am_aloadr_n (x := some ρ.1) dX6_makes_87 rfl rfl ?_
    refine am_iload_n (x := x3) dX6_makes_88 rfl rfl ?_
    refine am_iload_n (x := x2) dX6_makes_89 rfl rfl ?_
    refine mm_callV (Mc := m_X6_changes) (as := [.int x3, .int x2]) rfl bm_X6_changes q2970 q2972 qs143 (Nat.le_of_ble_eq_true rfl) dX6_makes_90 (mt_X6_changes (mm_k2i h (fun v4 μ3 h => ?_)))
    refine am_if_ne (tgt := 98) dX6_makes_93 (by decide) (fun c => ?_) (fun c => ?_)
    · have h := h.1 c
      refine am_iinc (x := x2) (v := (x2 + 1)) (L' := [(4, .int (x2 + 1)), (0, va_rf (some ρ.1)), (2, .int x1), (6, .int x3)]) dX6_makes_98 rfl rfl (Nat.le_of_ble_eq_true rfl) rfl ?_
      refine am_aloadr_n (x := some ρ.1) dX6_makes_101 rfl rfl ?_
      refine am_iload_n (x := x3) dX6_makes_102 rfl rfl ?_
      refine am_iconst (v := 4) dX6_makes_103 (by decide) ?_
      refine mm_callV (Mc := m_X6_in) (as := [.int x3, .int 4]) rfl bm_X6_in q2899 q2901 qs129 (Nat.le_of_ble_eq_true rfl) dX6_makes_104 (mt_X6_in (mm_k2i h (fun v6 μ5 h => ?_)))
      refine am_istore_n (L' := [(6, .int v6), (4, .int (x2 + 1)), (0, va_rf (some ρ.1)), (2, .int x1)]) dX6_makes_107 rfl (Nat.le_of_ble_eq_true rfl) rfl ?_
      refine am_goto (tgt := 82) dX6_makes_108 (by decide) ?_
      exact am_lss h rfl
    · have h := h.2 c
      refine am_iconst (v := 0) dX6_makes_96 (by decide) ?_
      exact am_zret rfl rfl dX6_makes_97 ⟨_, _, rfl, rfl, h⟩
theorem B_X6_makes_122_f {G : am_G} {ρ : mm_F} {d : Nat} {x1 : Int32} {x3 : Int32} {μ : mm_S} {Q : Int32 → mm_S → Prop} (h : ((12 ≤ x3 → B_X6_makes_194 G ρ (d + 1) x1 0 μ Q) ∧ (¬ 12 ≤ x3 → B_X6_makes_131 G ρ (d + 1) x1 x3 0 μ Q))) : B_X6_makes_122 G ρ (d + 1) x1 x3 μ Q := by
  unfold B_X6_makes_122
  refine am_iload_n (x := x3) dX6_makes_122 rfl rfl ?_
  refine am_bipush (v := 12) dX6_makes_123 (by decide) ?_
  refine am_icmp_ge (tgt := 192) dX6_makes_125 (by decide) (fun c => ?_) (fun c => ?_)
  · have h := h.1 c
    refine am_iconst (v := 0) dX6_makes_192 (by decide) ?_
    refine am_istore_n (L' := [(6, .int 0), (0, va_rf (some ρ.1)), (2, .int x1)]) dX6_makes_193 rfl (Nat.le_of_ble_eq_true rfl) rfl ?_
    exact am_lss h rfl
  · have h := h.2 c
    refine am_iconst (v := 0) dX6_makes_128 (by decide) ?_
    refine am_istore (L' := [(8, .int 0), (0, va_rf (some ρ.1)), (2, .int x1), (6, .int x3)]) dX6_makes_129 (Nat.le_of_ble_eq_true rfl) rfl ?_
    exact am_lss h rfl
theorem B_X6_makes_131_f {G : am_G} {ρ : mm_F} {d : Nat} {x1 : Int32} {x3 : Int32} {x4 : Int32} {μ : mm_S} {Q : Int32 → mm_S → Prop} (h : W_X6_many G ρ d 1 μ (fun v2 μ1 => ((v2 ≤ x4 → B_X6_makes_122 G ρ (d + 1) x1 (x3 + 1) μ1 Q) ∧ (¬ v2 ≤ x4 → W_X6_get G ρ d 1 x4 1 μ1 (fun v4 μ3 => ((v4 = (-1) → B_X6_makes_131 G ρ (d + 1) x1 x3 (x4 + 1) μ3 Q) ∧ (¬ v4 = (-1) → W_X6_get G ρ d 1 x4 1 μ3 (fun v6 μ5 => W_X6_get G ρ d 1 v6 3 μ5 (fun v8 μ7 => ((¬ v8 = 1 → B_X6_makes_131 G ρ (d + 1) x1 x3 (x4 + 1) μ7 Q) ∧ (v8 = 1 → W_X6_set G ρ d 1 x4 3 1 μ7 (fun μ9 => B_X6_makes_131 G ρ (d + 1) x1 x3 (x4 + 1) μ9 Q)))))))))))) : B_X6_makes_131 G ρ (d + 1) x1 x3 x4 μ Q := by
  unfold B_X6_makes_131
  refine am_iload (x := x4) dX6_makes_131 rfl ?_
  refine am_aloadr_n (x := some ρ.1) dX6_makes_133 rfl rfl ?_
  refine am_iconst (v := 1) dX6_makes_134 (by decide) ?_
  refine mm_callV (Mc := m_X6_many) (as := [.int 1]) rfl bm_X6_many q2662 q2664 qs87 (Nat.le_of_ble_eq_true rfl) dX6_makes_135 (mt_X6_many (mm_k2i h (fun v2 μ1 h => ?_)))
  refine am_icmp_ge (tgt := 186) dX6_makes_138 (by decide) (fun c => ?_) (fun c => ?_)
  · have h := h.1 c
    refine am_iinc (x := x3) (v := (x3 + 1)) (L' := [(6, .int (x3 + 1)), (0, va_rf (some ρ.1)), (2, .int x1), (8, .int x4)]) dX6_makes_186 rfl rfl (Nat.le_of_ble_eq_true rfl) rfl ?_
    refine am_goto (tgt := 122) dX6_makes_189 (by decide) ?_
    exact am_lss h rfl
  · have h := h.2 c
    refine am_aloadr_n (x := some ρ.1) dX6_makes_141 rfl rfl ?_
    refine am_iconst (v := 1) dX6_makes_142 (by decide) ?_
    refine am_iload (x := x4) dX6_makes_143 rfl ?_
    refine am_iconst (v := 1) dX6_makes_145 (by decide) ?_
    refine mm_callV (Mc := m_X6_get) (as := [.int 1, .int x4, .int 1]) rfl bm_X6_get q2666 q2668 qs88 (Nat.le_of_ble_eq_true rfl) dX6_makes_146 (mt_X6_get (mm_k2i h (fun v4 μ3 h => ?_)))
    refine am_iconst (v := (-1)) dX6_makes_149 (by decide) ?_
    refine am_icmp_eq (tgt := 180) dX6_makes_150 (by decide) (fun c => ?_) (fun c => ?_)
    · have h := h.1 c
      refine am_iinc (x := x4) (v := (x4 + 1)) (L' := [(8, .int (x4 + 1)), (0, va_rf (some ρ.1)), (2, .int x1), (6, .int x3)]) dX6_makes_180 rfl rfl (Nat.le_of_ble_eq_true rfl) rfl ?_
      refine am_goto (tgt := 131) dX6_makes_183 (by decide) ?_
      exact am_lss h rfl
    · have h := h.2 c
      refine am_aloadr_n (x := some ρ.1) dX6_makes_153 rfl rfl ?_
      refine am_iconst (v := 1) dX6_makes_154 (by decide) ?_
      refine am_aloadr_n (x := some ρ.1) dX6_makes_155 rfl rfl ?_
      refine am_iconst (v := 1) dX6_makes_156 (by decide) ?_
      refine am_iload (x := x4) dX6_makes_157 rfl ?_
      refine am_iconst (v := 1) dX6_makes_159 (by decide) ?_
      refine mm_callV (Mc := m_X6_get) (as := [.int 1, .int x4, .int 1]) rfl bm_X6_get q2666 q2668 qs88 (Nat.le_of_ble_eq_true rfl) dX6_makes_160 (mt_X6_get (mm_k2i h (fun v6 μ5 h => ?_)))
      refine am_iconst (v := 3) dX6_makes_163 (by decide) ?_
      refine mm_callV (Mc := m_X6_get) (as := [.int 1, .int v6, .int 3]) rfl bm_X6_get q2666 q2668 qs88 (Nat.le_of_ble_eq_true rfl) dX6_makes_164 (mt_X6_get (mm_k2i h (fun v8 μ7 h => ?_)))
      refine am_iconst (v := 1) dX6_makes_167 (by decide) ?_
      refine am_icmp_ne (tgt := 180) dX6_makes_168 (by decide) (fun c => ?_) (fun c => ?_)
      · have h := h.1 c
        refine am_iinc (x := x4) (v := (x4 + 1)) (L' := [(8, .int (x4 + 1)), (0, va_rf (some ρ.1)), (2, .int x1), (6, .int x3)]) dX6_makes_180 rfl rfl (Nat.le_of_ble_eq_true rfl) rfl ?_
        refine am_goto (tgt := 131) dX6_makes_183 (by decide) ?_
        exact am_lss h rfl
      · have h := h.2 c
        refine am_aloadr_n (x := some ρ.1) dX6_makes_171 rfl rfl ?_
        refine am_iconst (v := 1) dX6_makes_172 (by decide) ?_
        refine am_iload (x := x4) dX6_makes_173 rfl ?_
        refine am_iconst (v := 3) dX6_makes_175 (by decide) ?_
        refine am_iconst (v := 1) dX6_makes_176 (by decide) ?_
        refine mm_callV (Mc := m_X6_set) (as := [.int 1, .int x4, .int 3, .int 1]) rfl bm_X6_set q2674 q2676 qs90 (Nat.le_of_ble_eq_true rfl) dX6_makes_177 (mt_X6_set (mm_k2v h (fun μ9 h => ?_)))
        refine am_iinc (x := x4) (v := (x4 + 1)) (L' := [(8, .int (x4 + 1)), (0, va_rf (some ρ.1)), (2, .int x1), (6, .int x3)]) dX6_makes_180 rfl rfl (Nat.le_of_ble_eq_true rfl) rfl ?_
        refine am_goto (tgt := 131) dX6_makes_183 (by decide) ?_
        exact am_lss h rfl
