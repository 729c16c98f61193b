set_option maxRecDepth 100000
/-! ===== the model: what its blocks do (printed by tools/gen.py) ===== -/
theorem W_X6_pond_f {G : am_G} {ρ : mm_F} {d : Nat}  {μ : mm_S} {Q : Int32 → mm_S → Prop} (h : W_X6_begin G ρ d μ (fun μ1 => (vp_in 769 2307 ∧ ∀ μ2 : mm_S, μ2 = mm_sA μ1 23 (Int32.toNatClampNeg 769) 0 → (W_X6_kindOfPond G ρ d μ2 (fun v4 μ3 => B_X6_pond_18 G ρ (d + 1) v4 μ3 Q))))) : W_X6_pond G ρ (d + 1)  μ Q := by
  unfold W_X6_pond
  refine am_aloadr_n (x := some ρ.1) dX6_pond_0 rfl rfl ?_
  refine mm_callV (Mc := m_X6_begin) (as := []) rfl bm_X6_begin q2610 q2612 qs77 (Nat.le_of_ble_eq_true rfl) dX6_pond_1 (mt_X6_begin (mm_k2v h (fun μ1 h => ?_)))
  refine am_aloadr_n (x := some ρ.1) dX6_pond_4 rfl rfl ?_
  refine mm_gA (k := 23) rfl isA_23 q2342 dX6_pond_5 ?_
  refine am_sipush (v := 769) dX6_pond_8 (by decide) ?_
  refine am_iconst (v := 0) dX6_pond_11 (by decide) ?_
  refine mm_stA (k := 23) isA_23 rfl rfl dX6_pond_12 h.1 ?_
  have h := h.2
  generalize eμ2 : mm_sA μ1 23 (Int32.toNatClampNeg 769) 0 = μ2
  have h := h μ2 eμ2.symm
  refine am_aloadr_n (x := some ρ.1) dX6_pond_13 rfl rfl ?_
  refine mm_callV (Mc := m_X6_kindOfPond) (as := []) rfl bm_X6_kindOfPond q2642 q2644 qs82 (Nat.le_of_ble_eq_true rfl) dX6_pond_14 (mt_X6_kindOfPond (mm_k2i h (fun v4 μ3 h => ?_)))
  refine am_istore_n (L' := [(2, .int v4), (0, va_rf (some ρ.1))]) dX6_pond_17 rfl (Nat.le_of_ble_eq_true rfl) rfl ?_
  exact am_lss h rfl
theorem B_X6_pond_18_f {G : am_G} {ρ : mm_F} {d : Nat} {x1 : Int32} {μ : mm_S} {Q : Int32 → mm_S → Prop} (h : ((x1 = 0 → B_X6_pond_37 G ρ (d + 1) x1 μ Q) ∧ (¬ x1 = 0 → (((mI μ 3) = 0 → B_X6_pond_37 G ρ (d + 1) x1 μ Q) ∧ (¬ (mI μ 3) = 0 → W_X6_kindOfPond G ρ d μ (fun v2 μ1 => B_X6_pond_18 G ρ (d + 1) v2 μ1 Q)))))) : B_X6_pond_18 G ρ (d + 1) x1 μ Q := by
  unfold B_X6_pond_18
  refine am_iload_n (x := x1) dX6_pond_18 rfl rfl ?_
  refine am_if_eq (tgt := 37) dX6_pond_19 (by decide) (fun c => ?_) (fun c => ?_)
  · have h := h.1 c
    exact am_lss h rfl
  · have h := h.2 c
    refine am_aloadr_n (x := some ρ.1) dX6_pond_22 rfl rfl ?_
    refine mm_gI (k := 3) rfl (Or.inl rfl) (by decide) q2322 dX6_pond_23 ?_
    refine am_if_eq (tgt := 37) dX6_pond_26 (by decide) (fun c => ?_) (fun c => ?_)
    · have h := h.1 c
      exact am_lss h rfl
    · have h := h.2 c
      refine am_aloadr_n (x := some ρ.1) dX6_pond_29 rfl rfl ?_
      refine mm_callV (Mc := m_X6_kindOfPond) (as := []) rfl bm_X6_kindOfPond q2642 q2644 qs82 (Nat.le_of_ble_eq_true rfl) dX6_pond_30 (mt_X6_kindOfPond (mm_k2i h (fun v2 μ1 h => ?_)))
      refine am_istore_n (L' := [(2, .int v2), (0, va_rf (some ρ.1))]) dX6_pond_33 rfl (Nat.le_of_ble_eq_true rfl) rfl ?_
      refine am_goto (tgt := 18) dX6_pond_34 (by decide) ?_
      exact am_lss h rfl
theorem B_X6_pond_37_f {G : am_G} {ρ : mm_F} {d : Nat} {x1 : Int32} {μ : mm_S} {Q : Int32 → mm_S → Prop} (h : W_X6_tells G ρ d μ (fun μ1 => ((¬ x1 = 0 → W_X6_keep G ρ d 0 μ1 (fun μ2 => W_X6_copy G ρ d 1 0 μ2 (fun μ3 => (∀ μ4 : mm_S, μ4 = mm_sI μ3 33 0 → ((∀ μ5 : mm_S, μ5 = mm_sI μ4 25 0 → ((∀ μ6 : mm_S, μ6 = mm_sI μ5 28 (-1) → ((∀ μ7 : mm_S, μ7 = mm_sI μ6 29 (-1) → ((∀ μ8 : mm_S, μ8 = mm_sI μ7 30 (-1) → ((∀ μ9 : mm_S, μ9 = mm_sI μ8 27 0 → (B_X6_pond_90 G ρ (d + 1) 0 μ9 Q))))))))))))))) ∧ (x1 = 0 → Q (-1) μ1)))) : B_X6_pond_37 G ρ (d + 1) x1 μ Q := by
  unfold B_X6_pond_37
  refine am_aloadr_n (x := some ρ.1) dX6_pond_37 rfl rfl ?_
  refine mm_callV (Mc := m_X6_tells) (as := []) rfl bm_X6_tells q2766 q2768 qs113 (Nat.le_of_ble_eq_true rfl) dX6_pond_38 (mt_X6_tells (mm_k2v h (fun μ1 h => ?_)))
  refine am_iload_n (x := x1) dX6_pond_41 rfl rfl ?_
  refine am_if_ne (tgt := 47) dX6_pond_42 (by decide) (fun c => ?_) (fun c => ?_)
  · have h := h.1 c
    refine am_aloadr_n (x := some ρ.1) dX6_pond_47 rfl rfl ?_
    refine am_iconst (v := 0) dX6_pond_48 (by decide) ?_
    refine mm_callV (Mc := m_X6_keep) (as := [.int 0]) rfl bm_X6_keep q2770 q2772 qs114 (Nat.le_of_ble_eq_true rfl) dX6_pond_49 (mt_X6_keep (mm_k2v h (fun μ2 h => ?_)))
    refine am_aloadr_n (x := some ρ.1) dX6_pond_52 rfl rfl ?_
    refine am_iconst (v := 1) dX6_pond_53 (by decide) ?_
    refine am_iconst (v := 0) dX6_pond_54 (by decide) ?_
    refine mm_callV (Mc := m_X6_copy) (as := [.int 1, .int 0]) rfl bm_X6_copy q2775 q2777 qs115 (Nat.le_of_ble_eq_true rfl) dX6_pond_55 (mt_X6_copy (mm_k2v h (fun μ3 h => ?_)))
    refine am_aloadr_n (x := some ρ.1) dX6_pond_58 rfl rfl ?_
    refine am_iconst (v := 0) dX6_pond_59 (by decide) ?_
    refine mm_pI (k := 33) rfl rfl rfl (by decide) q2352 rfl dX6_pond_60 ?_
    generalize eμ4 : mm_sI μ3 33 0 = μ4
    have h := h μ4 eμ4.symm
    refine am_aloadr_n (x := some ρ.1) dX6_pond_63 rfl rfl ?_
    refine am_iconst (v := 0) dX6_pond_64 (by decide) ?_
    refine mm_pI (k := 25) rfl rfl rfl (by decide) q2344 rfl dX6_pond_65 ?_
    generalize eμ5 : mm_sI μ4 25 0 = μ5
    have h := h μ5 eμ5.symm
    refine am_aloadr_n (x := some ρ.1) dX6_pond_68 rfl rfl ?_
    refine am_iconst (v := (-1)) dX6_pond_69 (by decide) ?_
    refine mm_pI (k := 28) rfl rfl rfl (by decide) q2347 rfl dX6_pond_70 ?_
    generalize eμ6 : mm_sI μ5 28 (-1) = μ6
    have h := h μ6 eμ6.symm
    refine am_aloadr_n (x := some ρ.1) dX6_pond_73 rfl rfl ?_
    refine am_iconst (v := (-1)) dX6_pond_74 (by decide) ?_
    refine mm_pI (k := 29) rfl rfl rfl (by decide) q2348 rfl dX6_pond_75 ?_
    generalize eμ7 : mm_sI μ6 29 (-1) = μ7
    have h := h μ7 eμ7.symm
    refine am_aloadr_n (x := some ρ.1) dX6_pond_78 rfl rfl ?_
    refine am_iconst (v := (-1)) dX6_pond_79 (by decide) ?_
    refine mm_pI (k := 30) rfl rfl rfl (by decide) q2349 rfl dX6_pond_80 ?_
    generalize eμ8 : mm_sI μ7 30 (-1) = μ8
    have h := h μ8 eμ8.symm
    refine am_aloadr_n (x := some ρ.1) dX6_pond_83 rfl rfl ?_
    refine am_iconst (v := 0) dX6_pond_84 (by decide) ?_
    refine mm_pI (k := 27) rfl rfl rfl (by decide) q2346 rfl dX6_pond_85 ?_
    generalize eμ9 : mm_sI μ8 27 0 = μ9
    have h := h μ9 eμ9.symm
    refine am_iconst (v := 0) dX6_pond_88 (by decide) ?_
    refine am_istore_n (L' := [(4, .int 0), (0, va_rf (some ρ.1)), (2, .int x1)]) dX6_pond_89 rfl (Nat.le_of_ble_eq_true rfl) rfl ?_
    exact am_lss h rfl
  · have h := h.2 c
    refine am_iconst (v := (-1)) dX6_pond_45 (by decide) ?_
    exact am_iret rfl dX6_pond_46 ⟨_, _, rfl, rfl, h⟩
theorem B_X6_pond_90_f {G : am_G} {ρ : mm_F} {d : Nat} {x2 : Int32} {μ : mm_S} {Q : Int32 → mm_S → Prop} (h : ((10 ≤ x2 → W_X6_many G ρ d 0 μ (fun v2 μ1 => Q v2 μ1)) ∧ (¬ 10 ≤ x2 → (vp_in x2 10 ∧ ∀ μ3 : mm_S, μ3 = mm_sA μ 67 (Int32.toNatClampNeg x2) 0 → ((vp_in x2 10 ∧ ∀ μ4 : mm_S, μ4 = mm_sA μ3 68 (Int32.toNatClampNeg x2) 0 → (B_X6_pond_90 G ρ (d + 1) (x2 + 1) μ4 Q))))))) : B_X6_pond_90 G ρ (d + 1) x2 μ Q := by
  unfold B_X6_pond_90
  refine am_iload_n (x := x2) dX6_pond_90 rfl rfl ?_
  refine am_bipush (v := 10) dX6_pond_91 (by decide) ?_
  refine am_icmp_ge (tgt := 116) dX6_pond_93 (by decide) (fun c => ?_) (fun c => ?_)
  · have h := h.1 c
    refine am_aloadr_n (x := some ρ.1) dX6_pond_116 rfl rfl ?_
    refine am_iconst (v := 0) dX6_pond_117 (by decide) ?_
    refine mm_callV (Mc := m_X6_many) (as := [.int 0]) rfl bm_X6_many q2662 q2664 qs87 (Nat.le_of_ble_eq_true rfl) dX6_pond_118 (mt_X6_many (mm_k2i h (fun v2 μ1 h => ?_)))
    exact am_iret rfl dX6_pond_121 ⟨_, _, rfl, rfl, h⟩
  · have h := h.2 c
    refine am_aloadr_n (x := some ρ.1) dX6_pond_96 rfl rfl ?_
    refine mm_gA (k := 67) rfl isA_67 q2386 dX6_pond_97 ?_
    refine am_iload_n (x := x2) dX6_pond_100 rfl rfl ?_
    refine am_iconst (v := 0) dX6_pond_101 (by decide) ?_
    refine mm_stZ (k := 67) isA_67 rfl rfl (by decide) dX6_pond_102 h.1 ?_
    have h := h.2
    generalize eμ3 : mm_sA μ 67 (Int32.toNatClampNeg x2) 0 = μ3
    have h := h μ3 eμ3.symm
    refine am_aloadr_n (x := some ρ.1) dX6_pond_103 rfl rfl ?_
    refine mm_gA (k := 68) rfl isA_68 q2387 dX6_pond_104 ?_
    refine am_iload_n (x := x2) dX6_pond_107 rfl rfl ?_
    refine am_iconst (v := 0) dX6_pond_108 (by decide) ?_
    refine mm_stZ (k := 68) isA_68 rfl rfl (by decide) dX6_pond_109 h.1 ?_
    have h := h.2
    generalize eμ4 : mm_sA μ3 68 (Int32.toNatClampNeg x2) 0 = μ4
    have h := h μ4 eμ4.symm
    refine am_iinc (x := x2) (v := (x2 + 1)) (L' := [(4, .int (x2 + 1)), (0, va_rf (some ρ.1))]) dX6_pond_110 rfl rfl (Nat.le_of_ble_eq_true rfl) rfl ?_
    refine am_goto (tgt := 90) dX6_pond_113 (by decide) ?_
    exact am_lss h rfl
theorem W_X6_begin_f {G : am_G} {ρ : mm_F} {d : Nat}  {μ : mm_S} {Q : mm_S → Prop} (h : W_X6_learn G ρ d μ (fun μ1 => (∀ μ2 : mm_S, μ2 = mm_sI μ1 11 0 → ((∀ μ3 : mm_S, μ3 = mm_sI μ2 12 (-1) → ((∀ μ4 : mm_S, μ4 = mm_sI μ3 2 0 → ((∀ μ5 : mm_S, μ5 = mm_sI μ4 16 0 → ((∀ μ6 : mm_S, μ6 = mm_sI μ5 18 0 → ((∀ μ7 : mm_S, μ7 = mm_sI μ6 20 0 → (W_X6_look0 G ρ d μ7 (fun μ8 => Q μ8))))))))))))))) : W_X6_begin G ρ (d + 1)  μ Q := by
  unfold W_X6_begin
  refine am_aloadr_n (x := some ρ.1) dX6_begin_0 rfl rfl ?_
  refine mm_callV (Mc := m_X6_learn) (as := []) rfl bm_X6_learn q2614 q2616 qs78 (Nat.le_of_ble_eq_true rfl) dX6_begin_1 (mt_X6_learn (mm_k2v h (fun μ1 h => ?_)))
  refine am_aloadr_n (x := some ρ.1) dX6_begin_4 rfl rfl ?_
  refine am_iconst (v := 0) dX6_begin_5 (by decide) ?_
  refine mm_pI (k := 11) rfl rfl rfl (by decide) q2330 rfl dX6_begin_6 ?_
  generalize eμ2 : mm_sI μ1 11 0 = μ2
  have h := h μ2 eμ2.symm
  refine am_aloadr_n (x := some ρ.1) dX6_begin_9 rfl rfl ?_
  refine am_iconst (v := (-1)) dX6_begin_10 (by decide) ?_
  refine mm_pI (k := 12) rfl rfl rfl (by decide) q2331 rfl dX6_begin_11 ?_
  generalize eμ3 : mm_sI μ2 12 (-1) = μ3
  have h := h μ3 eμ3.symm
  refine am_aloadr_n (x := some ρ.1) dX6_begin_14 rfl rfl ?_
  refine am_iconst (v := 0) dX6_begin_15 (by decide) ?_
  refine mm_pI (k := 2) rfl rfl rfl (by decide) q2321 rfl dX6_begin_16 ?_
  generalize eμ4 : mm_sI μ3 2 0 = μ4
  have h := h μ4 eμ4.symm
  refine am_aloadr_n (x := some ρ.1) dX6_begin_19 rfl rfl ?_
  refine am_iconst (v := 0) dX6_begin_20 (by decide) ?_
  refine mm_pI (k := 16) rfl rfl rfl (by decide) q2335 rfl dX6_begin_21 ?_
  generalize eμ5 : mm_sI μ4 16 0 = μ5
  have h := h μ5 eμ5.symm
  refine am_aloadr_n (x := some ρ.1) dX6_begin_24 rfl rfl ?_
  refine am_iconst (v := 0) dX6_begin_25 (by decide) ?_
  refine mm_pI (k := 18) rfl rfl rfl (by decide) q2337 rfl dX6_begin_26 ?_
  generalize eμ6 : mm_sI μ5 18 0 = μ6
  have h := h μ6 eμ6.symm
  refine am_aloadr_n (x := some ρ.1) dX6_begin_29 rfl rfl ?_
  refine am_iconst (v := 0) dX6_begin_30 (by decide) ?_
  refine mm_pI (k := 20) rfl rfl rfl (by decide) q2339 rfl dX6_begin_31 ?_
  generalize eμ7 : mm_sI μ6 20 0 = μ7
  have h := h μ7 eμ7.symm
  refine am_aloadr_n (x := some ρ.1) dX6_begin_34 rfl rfl ?_
  refine mm_callV (Mc := m_X6_look0) (as := []) rfl bm_X6_look0 q2625 q2627 qs80 (Nat.le_of_ble_eq_true rfl) dX6_begin_35 (mt_X6_look0 (mm_k2v h (fun μ8 h => ?_)))
  exact am_vret rfl dX6_begin_38 ⟨_, rfl, rfl, h⟩
theorem W_X6_learn_f {G : am_G} {ρ : mm_F} {d : Nat}  {μ : mm_S} {Q : mm_S → Prop} (h : (((mI μ 9) = 0 → (∀ μ1 : mm_S, μ1 = mm_sI μ 9 1 → (W_X6_word G ρ d 100 107 105 110 100 0 0 μ1 (fun μ2 => W_X6_word G ρ d 101 117 110 100 101 114 0 μ2 (fun μ3 => W_X6_word G ρ d 102 102 105 101 108 100 0 μ3 (fun μ4 => W_X6_word G ρ d 103 108 105 110 107 0 0 μ4 (fun μ5 => W_X6_word G ρ d 104 115 116 97 116 105 99 μ5 (fun μ6 => W_X6_word G ρ d 105 97 99 116 0 0 0 μ6 (fun μ7 => W_X6_word G ρ d 106 103 105 118 101 0 0 μ7 (fun μ8 => W_X6_word G ρ d 107 102 97 105 108 0 0 μ8 (fun μ9 => W_X6_word G ρ d 108 97 98 111 118 101 0 μ9 (fun μ10 => W_X6_word G ρ d 109 100 111 0 0 0 0 μ10 (fun μ11 => W_X6_word G ρ d 110 115 101 110 100 0 0 μ11 (fun μ12 => W_X6_word G ρ d 111 114 101 115 116 0 0 μ12 (fun μ13 => W_X6_word G ρ d 112 105 102 0 0 0 0 μ13 (fun μ14 => W_X6_word G ρ d 113 101 108 115 101 0 0 μ14 (fun μ15 => W_X6_word G ρ d 114 118 0 0 0 0 0 μ15 (fun μ16 => W_X6_word G ρ d 115 108 97 115 116 0 0 μ16 (fun μ17 => W_X6_word G ρ d 116 99 104 97 110 103 101 μ17 (fun μ18 => W_X6_word G ρ d 117 100 114 111 112 0 0 μ18 (fun μ19 => W_X6_word G ρ d 118 109 111 118 101 0 0 μ19 (fun μ20 => W_X6_word G ρ d 119 114 101 110 97 109 101 μ20 (fun μ21 => W_X6_word G ρ d 120 99 97 114 114 121 0 μ21 (fun μ22 => W_X6_word G ρ d 121 99 104 101 99 107 0 μ22 (fun μ23 => Q μ23))))))))))))))))))))))))) ∧ (¬ (mI μ 9) = 0 → Q μ))) : W_X6_learn G ρ (d + 1)  μ Q := by
  unfold W_X6_learn
  refine am_aloadr_n (x := some ρ.1) dX6_learn_0 rfl rfl ?_
  refine mm_gI (k := 9) rfl (Or.inr rfl) (by decide) q2328 dX6_learn_1 ?_
  refine am_if_eq (tgt := 8) dX6_learn_4 (by decide) (fun c => ?_) (fun c => ?_)
  · have h := h.1 c
    refine am_aloadr_n (x := some ρ.1) dX6_learn_8 rfl rfl ?_
    refine am_iconst (v := 1) dX6_learn_9 (by decide) ?_
    refine mm_pZ (k := 9) rfl rfl rfl (by decide) q2328 rfl (by decide) dX6_learn_10 ?_
    generalize eμ1 : mm_sI μ 9 1 = μ1
    have h := h μ1 eμ1.symm
    refine am_aloadr_n (x := some ρ.1) dX6_learn_13 rfl rfl ?_
    refine am_bipush (v := 100) dX6_learn_14 (by decide) ?_
    refine am_bipush (v := 107) dX6_learn_16 (by decide) ?_
    refine am_bipush (v := 105) dX6_learn_18 (by decide) ?_
    refine am_bipush (v := 110) dX6_learn_20 (by decide) ?_
    refine am_bipush (v := 100) dX6_learn_22 (by decide) ?_
    refine am_iconst (v := 0) dX6_learn_24 (by decide) ?_
    refine am_iconst (v := 0) dX6_learn_25 (by decide) ?_
    refine mm_callV (Mc := m_X6_word) (as := [.int 100, .int 107, .int 105, .int 110, .int 100, .int 0, .int 0]) rfl bm_X6_word q2618 q2620 qs79 (Nat.le_of_ble_eq_true rfl) dX6_learn_26 (mt_X6_word (mm_k2v h (fun μ2 h => ?_)))
    refine am_aloadr_n (x := some ρ.1) dX6_learn_29 rfl rfl ?_
    refine am_bipush (v := 101) dX6_learn_30 (by decide) ?_
    refine am_bipush (v := 117) dX6_learn_32 (by decide) ?_
    refine am_bipush (v := 110) dX6_learn_34 (by decide) ?_
    refine am_bipush (v := 100) dX6_learn_36 (by decide) ?_
    refine am_bipush (v := 101) dX6_learn_38 (by decide) ?_
    refine am_bipush (v := 114) dX6_learn_40 (by decide) ?_
    refine am_iconst (v := 0) dX6_learn_42 (by decide) ?_
    refine mm_callV (Mc := m_X6_word) (as := [.int 101, .int 117, .int 110, .int 100, .int 101, .int 114, .int 0]) rfl bm_X6_word q2618 q2620 qs79 (Nat.le_of_ble_eq_true rfl) dX6_learn_43 (mt_X6_word (mm_k2v h (fun μ3 h => ?_)))
    refine am_aloadr_n (x := some ρ.1) dX6_learn_46 rfl rfl ?_
    refine am_bipush (v := 102) dX6_learn_47 (by decide) ?_
    refine am_bipush (v := 102) dX6_learn_49 (by decide) ?_
    refine am_bipush (v := 105) dX6_learn_51 (by decide) ?_
    refine am_bipush (v := 101) dX6_learn_53 (by decide) ?_
    refine am_bipush (v := 108) dX6_learn_55 (by decide) ?_
    refine am_bipush (v := 100) dX6_learn_57 (by decide) ?_
    refine am_iconst (v := 0) dX6_learn_59 (by decide) ?_
    refine mm_callV (Mc := m_X6_word) (as := [.int 102, .int 102, .int 105, .int 101, .int 108, .int 100, .int 0]) rfl bm_X6_word q2618 q2620 qs79 (Nat.le_of_ble_eq_true rfl) dX6_learn_60 (mt_X6_word (mm_k2v h (fun μ4 h => ?_)))
    refine am_aloadr_n (x := some ρ.1) dX6_learn_63 rfl rfl ?_
    refine am_bipush (v := 103) dX6_learn_64 (by decide) ?_
    refine am_bipush (v := 108) dX6_learn_66 (by decide) ?_
    refine am_bipush (v := 105) dX6_learn_68 (by decide) ?_
    refine am_bipush (v := 110) dX6_learn_70 (by decide) ?_
    refine am_bipush (v := 107) dX6_learn_72 (by decide) ?_
    refine am_iconst (v := 0) dX6_learn_74 (by decide) ?_
    refine am_iconst (v := 0) dX6_learn_75 (by decide) ?_
    refine mm_callV (Mc := m_X6_word) (as := [.int 103, .int 108, .int 105, .int 110, .int 107, .int 0, .int 0]) rfl bm_X6_word q2618 q2620 qs79 (Nat.le_of_ble_eq_true rfl) dX6_learn_76 (mt_X6_word (mm_k2v h (fun μ5 h => ?_)))
    refine am_aloadr_n (x := some ρ.1) dX6_learn_79 rfl rfl ?_
    refine am_bipush (v := 104) dX6_learn_80 (by decide) ?_
    refine am_bipush (v := 115) dX6_learn_82 (by decide) ?_
    refine am_bipush (v := 116) dX6_learn_84 (by decide) ?_
    refine am_bipush (v := 97) dX6_learn_86 (by decide) ?_
    refine am_bipush (v := 116) dX6_learn_88 (by decide) ?_
    refine am_bipush (v := 105) dX6_learn_90 (by decide) ?_
    refine am_bipush (v := 99) dX6_learn_92 (by decide) ?_
    refine mm_callV (Mc := m_X6_word) (as := [.int 104, .int 115, .int 116, .int 97, .int 116, .int 105, .int 99]) rfl bm_X6_word q2618 q2620 qs79 (Nat.le_of_ble_eq_true rfl) dX6_learn_94 (mt_X6_word (mm_k2v h (fun μ6 h => ?_)))
    refine am_aloadr_n (x := some ρ.1) dX6_learn_97 rfl rfl ?_
    refine am_bipush (v := 105) dX6_learn_98 (by decide) ?_
    refine am_bipush (v := 97) dX6_learn_100 (by decide) ?_
    refine am_bipush (v := 99) dX6_learn_102 (by decide) ?_
    refine am_bipush (v := 116) dX6_learn_104 (by decide) ?_
    refine am_iconst (v := 0) dX6_learn_106 (by decide) ?_
    refine am_iconst (v := 0) dX6_learn_107 (by decide) ?_
    refine am_iconst (v := 0) dX6_learn_108 (by decide) ?_
    refine mm_callV (Mc := m_X6_word) (as := [.int 105, .int 97, .int 99, .int 116, .int 0, .int 0, .int 0]) rfl bm_X6_word q2618 q2620 qs79 (Nat.le_of_ble_eq_true rfl) dX6_learn_109 (mt_X6_word (mm_k2v h (fun μ7 h => ?_)))
    refine am_aloadr_n (x := some ρ.1) dX6_learn_112 rfl rfl ?_
    refine am_bipush (v := 106) dX6_learn_113 (by decide) ?_
    refine am_bipush (v := 103) dX6_learn_115 (by decide) ?_
    refine am_bipush (v := 105) dX6_learn_117 (by decide) ?_
    refine am_bipush (v := 118) dX6_learn_119 (by decide) ?_
    refine am_bipush (v := 101) dX6_learn_121 (by decide) ?_
    refine am_iconst (v := 0) dX6_learn_123 (by decide) ?_
    refine am_iconst (v := 0) dX6_learn_124 (by decide) ?_
    refine mm_callV (Mc := m_X6_word) (as := [.int 106, .int 103, .int 105, .int 118, .int 101, .int 0, .int 0]) rfl bm_X6_word q2618 q2620 qs79 (Nat.le_of_ble_eq_true rfl) dX6_learn_125 (mt_X6_word (mm_k2v h (fun μ8 h => ?_)))
    refine am_aloadr_n (x := some ρ.1) dX6_learn_128 rfl rfl ?_
    refine am_bipush (v := 107) dX6_learn_129 (by decide) ?_
    refine am_bipush (v := 102) dX6_learn_131 (by decide) ?_
    refine am_bipush (v := 97) dX6_learn_133 (by decide) ?_
    refine am_bipush (v := 105) dX6_learn_135 (by decide) ?_
    refine am_bipush (v := 108) dX6_learn_137 (by decide) ?_
    refine am_iconst (v := 0) dX6_learn_139 (by decide) ?_
    refine am_iconst (v := 0) dX6_learn_140 (by decide) ?_
    refine mm_callV (Mc := m_X6_word) (as := [.int 107, .int 102, .int 97, .int 105, .int 108, .int 0, .int 0]) rfl bm_X6_word q2618 q2620 qs79 (Nat.le_of_ble_eq_true rfl) dX6_learn_141 (mt_X6_word (mm_k2v h (fun μ9 h => ?_)))
    refine am_aloadr_n (x := some ρ.1) dX6_learn_144 rfl rfl ?_
    refine am_bipush (v := 108) dX6_learn_145 (by decide) ?_
    refine am_bipush (v := 97) dX6_learn_147 (by decide) ?_
    refine am_bipush (v := 98) dX6_learn_149 (by decide) ?_
    refine am_bipush (v := 111) dX6_learn_151 (by decide) ?_
    refine am_bipush (v := 118) dX6_learn_153 (by decide) ?_
    refine am_bipush (v := 101) dX6_learn_155 (by decide) ?_
    refine am_iconst (v := 0) dX6_learn_157 (by decide) ?_
    refine mm_callV (Mc := m_X6_word) (as := [.int 108, .int 97, .int 98, .int 111, .int 118, .int 101, .int 0]) rfl bm_X6_word q2618 q2620 qs79 (Nat.le_of_ble_eq_true rfl) dX6_learn_158 (mt_X6_word (mm_k2v h (fun μ10 h => ?_)))
    refine am_aloadr_n (x := some ρ.1) dX6_learn_161 rfl rfl ?_
    refine am_bipush (v := 109) dX6_learn_162 (by decide) ?_
    refine am_bipush (v := 100) dX6_learn_164 (by decide) ?_
    refine am_bipush (v := 111) dX6_learn_166 (by decide) ?_
    refine am_iconst (v := 0) dX6_learn_168 (by decide) ?_
    refine am_iconst (v := 0) dX6_learn_169 (by decide) ?_
    refine am_iconst (v := 0) dX6_learn_170 (by decide) ?_
    refine am_iconst (v := 0) dX6_learn_171 (by decide) ?_
    refine mm_callV (Mc := m_X6_word) (as := [.int 109, .int 100, .int 111, .int 0, .int 0, .int 0, .int 0]) rfl bm_X6_word q2618 q2620 qs79 (Nat.le_of_ble_eq_true rfl) dX6_learn_172 (mt_X6_word (mm_k2v h (fun μ11 h => ?_)))
    refine am_aloadr_n (x := some ρ.1) dX6_learn_175 rfl rfl ?_
    refine am_bipush (v := 110) dX6_learn_176 (by decide) ?_
    refine am_bipush (v := 115) dX6_learn_178 (by decide) ?_
    refine am_bipush (v := 101) dX6_learn_180 (by decide) ?_
    refine am_bipush (v := 110) dX6_learn_182 (by decide) ?_
    refine am_bipush (v := 100) dX6_learn_184 (by decide) ?_
    refine am_iconst (v := 0) dX6_learn_186 (by decide) ?_
    refine am_iconst (v := 0) dX6_learn_187 (by decide) ?_
    refine mm_callV (Mc := m_X6_word) (as := [.int 110, .int 115, .int 101, .int 110, .int 100, .int 0, .int 0]) rfl bm_X6_word q2618 q2620 qs79 (Nat.le_of_ble_eq_true rfl) dX6_learn_188 (mt_X6_word (mm_k2v h (fun μ12 h => ?_)))
    refine am_aloadr_n (x := some ρ.1) dX6_learn_191 rfl rfl ?_
    refine am_bipush (v := 111) dX6_learn_192 (by decide) ?_
    refine am_bipush (v := 114) dX6_learn_194 (by decide) ?_
    refine am_bipush (v := 101) dX6_learn_196 (by decide) ?_
    refine am_bipush (v := 115) dX6_learn_198 (by decide) ?_
    refine am_bipush (v := 116) dX6_learn_200 (by decide) ?_
    refine am_iconst (v := 0) dX6_learn_202 (by decide) ?_
    refine am_iconst (v := 0) dX6_learn_203 (by decide) ?_
    refine mm_callV (Mc := m_X6_word) (as := [.int 111, .int 114, .int 101, .int 115, .int 116, .int 0, .int 0]) rfl bm_X6_word q2618 q2620 qs79 (Nat.le_of_ble_eq_true rfl) dX6_learn_204 (mt_X6_word (mm_k2v h (fun μ13 h => ?_)))
    refine am_aloadr_n (x := some ρ.1) dX6_learn_207 rfl rfl ?_
    refine am_bipush (v := 112) dX6_learn_208 (by decide) ?_
    refine am_bipush (v := 105) dX6_learn_210 (by decide) ?_
    refine am_bipush (v := 102) dX6_learn_212 (by decide) ?_
    refine am_iconst (v := 0) dX6_learn_214 (by decide) ?_
    refine am_iconst (v := 0) dX6_learn_215 (by decide) ?_
    refine am_iconst (v := 0) dX6_learn_216 (by decide) ?_
    refine am_iconst (v := 0) dX6_learn_217 (by decide) ?_
    refine mm_callV (Mc := m_X6_word) (as := [.int 112, .int 105, .int 102, .int 0, .int 0, .int 0, .int 0]) rfl bm_X6_word q2618 q2620 qs79 (Nat.le_of_ble_eq_true rfl) dX6_learn_218 (mt_X6_word (mm_k2v h (fun μ14 h => ?_)))
    refine am_aloadr_n (x := some ρ.1) dX6_learn_221 rfl rfl ?_
    refine am_bipush (v := 113) dX6_learn_222 (by decide) ?_
    refine am_bipush (v := 101) dX6_learn_224 (by decide) ?_
    refine am_bipush (v := 108) dX6_learn_226 (by decide) ?_
    refine am_bipush (v := 115) dX6_learn_228 (by decide) ?_
    refine am_bipush (v := 101) dX6_learn_230 (by decide) ?_
    refine am_iconst (v := 0) dX6_learn_232 (by decide) ?_
    refine am_iconst (v := 0) dX6_learn_233 (by decide) ?_
    refine mm_callV (Mc := m_X6_word) (as := [.int 113, .int 101, .int 108, .int 115, .int 101, .int 0, .int 0]) rfl bm_X6_word q2618 q2620 qs79 (Nat.le_of_ble_eq_true rfl) dX6_learn_234 (mt_X6_word (mm_k2v h (fun μ15 h => ?_)))
    refine am_aloadr_n (x := some ρ.1) dX6_learn_237 rfl rfl ?_
    refine am_bipush (v := 114) dX6_learn_238 (by decide) ?_
    refine am_bipush (v := 118) dX6_learn_240 (by decide) ?_
    refine am_iconst (v := 0) dX6_learn_242 (by decide) ?_
    refine am_iconst (v := 0) dX6_learn_243 (by decide) ?_
    refine am_iconst (v := 0) dX6_learn_244 (by decide) ?_
    refine am_iconst (v := 0) dX6_learn_245 (by decide) ?_
    refine am_iconst (v := 0) dX6_learn_246 (by decide) ?_
    refine mm_callV (Mc := m_X6_word) (as := [.int 114, .int 118, .int 0, .int 0, .int 0, .int 0, .int 0]) rfl bm_X6_word q2618 q2620 qs79 (Nat.le_of_ble_eq_true rfl) dX6_learn_247 (mt_X6_word (mm_k2v h (fun μ16 h => ?_)))
    refine am_aloadr_n (x := some ρ.1) dX6_learn_250 rfl rfl ?_
    refine am_bipush (v := 115) dX6_learn_251 (by decide) ?_
    refine am_bipush (v := 108) dX6_learn_253 (by decide) ?_
    refine am_bipush (v := 97) dX6_learn_255 (by decide) ?_
    refine am_bipush (v := 115) dX6_learn_257 (by decide) ?_
    refine am_bipush (v := 116) dX6_learn_259 (by decide) ?_
    refine am_iconst (v := 0) dX6_learn_261 (by decide) ?_
    refine am_iconst (v := 0) dX6_learn_262 (by decide) ?_
    refine mm_callV (Mc := m_X6_word) (as := [.int 115, .int 108, .int 97, .int 115, .int 116, .int 0, .int 0]) rfl bm_X6_word q2618 q2620 qs79 (Nat.le_of_ble_eq_true rfl) dX6_learn_263 (mt_X6_word (mm_k2v h (fun μ17 h => ?_)))
    refine am_aloadr_n (x := some ρ.1) dX6_learn_266 rfl rfl ?_
    refine am_bipush (v := 116) dX6_learn_267 (by decide) ?_
    refine am_bipush (v := 99) dX6_learn_269 (by decide) ?_
    refine am_bipush (v := 104) dX6_learn_271 (by decide) ?_
    refine am_bipush (v := 97) dX6_learn_273 (by decide) ?_
    refine am_bipush (v := 110) dX6_learn_275 (by decide) ?_
    refine am_bipush (v := 103) dX6_learn_277 (by decide) ?_
    refine am_bipush (v := 101) dX6_learn_279 (by decide) ?_
    refine mm_callV (Mc := m_X6_word) (as := [.int 116, .int 99, .int 104, .int 97, .int 110, .int 103, .int 101]) rfl bm_X6_word q2618 q2620 qs79 (Nat.le_of_ble_eq_true rfl) dX6_learn_281 (mt_X6_word (mm_k2v h (fun μ18 h => ?_)))
    refine am_aloadr_n (x := some ρ.1) dX6_learn_284 rfl rfl ?_
    refine am_bipush (v := 117) dX6_learn_285 (by decide) ?_
    refine am_bipush (v := 100) dX6_learn_287 (by decide) ?_
    refine am_bipush (v := 114) dX6_learn_289 (by decide) ?_
    refine am_bipush (v := 111) dX6_learn_291 (by decide) ?_
    refine am_bipush (v := 112) dX6_learn_293 (by decide) ?_
    refine am_iconst (v := 0) dX6_learn_295 (by decide) ?_
    refine am_iconst (v := 0) dX6_learn_296 (by decide) ?_
    refine mm_callV (Mc := m_X6_word) (as := [.int 117, .int 100, .int 114, .int 111, .int 112, .int 0, .int 0]) rfl bm_X6_word q2618 q2620 qs79 (Nat.le_of_ble_eq_true rfl) dX6_learn_297 (mt_X6_word (mm_k2v h (fun μ19 h => ?_)))
    refine am_aloadr_n (x := some ρ.1) dX6_learn_300 rfl rfl ?_
    refine am_bipush (v := 118) dX6_learn_301 (by decide) ?_
    refine am_bipush (v := 109) dX6_learn_303 (by decide) ?_
    refine am_bipush (v := 111) dX6_learn_305 (by decide) ?_
    refine am_bipush (v := 118) dX6_learn_307 (by decide) ?_
    refine am_bipush (v := 101) dX6_learn_309 (by decide) ?_
    refine am_iconst (v := 0) dX6_learn_311 (by decide) ?_
    refine am_iconst (v := 0) dX6_learn_312 (by decide) ?_
    refine mm_callV (Mc := m_X6_word) (as := [.int 118, .int 109, .int 111, .int 118, .int 101, .int 0, .int 0]) rfl bm_X6_word q2618 q2620 qs79 (Nat.le_of_ble_eq_true rfl) dX6_learn_313 (mt_X6_word (mm_k2v h (fun μ20 h => ?_)))
    refine am_aloadr_n (x := some ρ.1) dX6_learn_316 rfl rfl ?_
    refine am_bipush (v := 119) dX6_learn_317 (by decide) ?_
    refine am_bipush (v := 114) dX6_learn_319 (by decide) ?_
    refine am_bipush (v := 101) dX6_learn_321 (by decide) ?_
    refine am_bipush (v := 110) dX6_learn_323 (by decide) ?_
    refine am_bipush (v := 97) dX6_learn_325 (by decide) ?_
    refine am_bipush (v := 109) dX6_learn_327 (by decide) ?_
    refine am_bipush (v := 101) dX6_learn_329 (by decide) ?_
    refine mm_callV (Mc := m_X6_word) (as := [.int 119, .int 114, .int 101, .int 110, .int 97, .int 109, .int 101]) rfl bm_X6_word q2618 q2620 qs79 (Nat.le_of_ble_eq_true rfl) dX6_learn_331 (mt_X6_word (mm_k2v h (fun μ21 h => ?_)))
    refine am_aloadr_n (x := some ρ.1) dX6_learn_334 rfl rfl ?_
    refine am_bipush (v := 120) dX6_learn_335 (by decide) ?_
    refine am_bipush (v := 99) dX6_learn_337 (by decide) ?_
    refine am_bipush (v := 97) dX6_learn_339 (by decide) ?_
    refine am_bipush (v := 114) dX6_learn_341 (by decide) ?_
    refine am_bipush (v := 114) dX6_learn_343 (by decide) ?_
    refine am_bipush (v := 121) dX6_learn_345 (by decide) ?_
    refine am_iconst (v := 0) dX6_learn_347 (by decide) ?_
    refine mm_callV (Mc := m_X6_word) (as := [.int 120, .int 99, .int 97, .int 114, .int 114, .int 121, .int 0]) rfl bm_X6_word q2618 q2620 qs79 (Nat.le_of_ble_eq_true rfl) dX6_learn_348 (mt_X6_word (mm_k2v h (fun μ22 h => ?_)))
    refine am_aloadr_n (x := some ρ.1) dX6_learn_351 rfl rfl ?_
    refine am_bipush (v := 121) dX6_learn_352 (by decide) ?_
    refine am_bipush (v := 99) dX6_learn_354 (by decide) ?_
    refine am_bipush (v := 104) dX6_learn_356 (by decide) ?_
    refine am_bipush (v := 101) dX6_learn_358 (by decide) ?_
    refine am_bipush (v := 99) dX6_learn_360 (by decide) ?_
    refine am_bipush (v := 107) dX6_learn_362 (by decide) ?_
    refine am_iconst (v := 0) dX6_learn_364 (by decide) ?_
    refine mm_callV (Mc := m_X6_word) (as := [.int 121, .int 99, .int 104, .int 101, .int 99, .int 107, .int 0]) rfl bm_X6_word q2618 q2620 qs79 (Nat.le_of_ble_eq_true rfl) dX6_learn_365 (mt_X6_word (mm_k2v h (fun μ23 h => ?_)))
    exact am_vret rfl dX6_learn_368 ⟨_, rfl, rfl, h⟩
  · have h := h.2 c
    exact am_vret rfl dX6_learn_7 ⟨_, rfl, rfl, h⟩
theorem W_X6_word_f {G : am_G} {ρ : mm_F} {d : Nat} {a1 : Int32} {a2 : Int32} {a3 : Int32} {a4 : Int32} {a5 : Int32} {a6 : Int32} {a7 : Int32} {μ : mm_S} {Q : mm_S → Prop} (h : W_X6_more G ρ d 0 a2 μ (fun v2 μ1 => W_X6_more G ρ d v2 a3 μ1 (fun v4 μ3 => W_X6_more G ρ d v4 a4 μ3 (fun v6 μ5 => W_X6_more G ρ d v6 a5 μ5 (fun v8 μ7 => W_X6_more G ρ d v8 a6 μ7 (fun v10 μ9 => W_X6_more G ρ d v10 a7 μ9 (fun v12 μ11 => (vp_in (a1 - 100) 22 ∧ ∀ μ13 : mm_S, μ13 = mm_sB μ11 8 (Int32.toNatClampNeg (a1 - 100)) v12 → (Q μ13))))))))) : W_X6_word G ρ (d + 1) a1 a2 a3 a4 a5 a6 a7 μ Q := by
  unfold W_X6_word
  refine am_aloadr_n (x := some ρ.1) dX6_word_0 rfl rfl ?_
  refine mm_gA (k := 8) rfl isA_8 q2327 dX6_word_1 ?_
  refine am_iload_n (x := a1) dX6_word_4 rfl rfl ?_
  refine am_bipush (v := 100) dX6_word_5 (by decide) ?_
  refine am_isub dX6_word_7 ?_
  refine am_lconst (v := 0) dX6_word_8 (by decide) ?_
  refine am_iload_n (x := a2) dX6_word_9 rfl rfl ?_
  refine mm_callS (Mc := m_X6_more) (as := [.long 0, .int a2]) rfl bm_X6_more q2622 q2623 (Nat.le_of_ble_eq_true rfl) dX6_word_10 (mt_X6_more (mm_k2l h (fun v2 μ1 h => ?_)))
  refine am_iload_n (x := a3) dX6_word_13 rfl rfl ?_
  refine mm_callS (Mc := m_X6_more) (as := [.long v2, .int a3]) rfl bm_X6_more q2622 q2623 (Nat.le_of_ble_eq_true rfl) dX6_word_14 (mt_X6_more (mm_k2l h (fun v4 μ3 h => ?_)))
  refine am_iload (x := a4) dX6_word_17 rfl ?_
  refine mm_callS (Mc := m_X6_more) (as := [.long v4, .int a4]) rfl bm_X6_more q2622 q2623 (Nat.le_of_ble_eq_true rfl) dX6_word_19 (mt_X6_more (mm_k2l h (fun v6 μ5 h => ?_)))
  refine am_iload (x := a5) dX6_word_22 rfl ?_
  refine mm_callS (Mc := m_X6_more) (as := [.long v6, .int a5]) rfl bm_X6_more q2622 q2623 (Nat.le_of_ble_eq_true rfl) dX6_word_24 (mt_X6_more (mm_k2l h (fun v8 μ7 h => ?_)))
  refine am_iload (x := a6) dX6_word_27 rfl ?_
  refine mm_callS (Mc := m_X6_more) (as := [.long v8, .int a6]) rfl bm_X6_more q2622 q2623 (Nat.le_of_ble_eq_true rfl) dX6_word_29 (mt_X6_more (mm_k2l h (fun v10 μ9 h => ?_)))
  refine am_iload (x := a7) dX6_word_32 rfl ?_
  refine mm_callS (Mc := m_X6_more) (as := [.long v10, .int a7]) rfl bm_X6_more q2622 q2623 (Nat.le_of_ble_eq_true rfl) dX6_word_34 (mt_X6_more (mm_k2l h (fun v12 μ11 h => ?_)))
  refine mm_stJ (k := 8) isA_8 rfl rfl dX6_word_37 h.1 ?_
  have h := h.2
  generalize eμ13 : mm_sB μ11 8 (Int32.toNatClampNeg (a1 - 100)) v12 = μ13
  have h := h μ13 eμ13.symm
  exact am_vret rfl dX6_word_38 ⟨_, rfl, rfl, h⟩
theorem W_X6_more_f {G : am_G} {ρ : mm_F} {d : Nat} {a1 : Int64} {a2 : Int32} {μ : mm_S} {Q : Int64 → mm_S → Prop} (h : ((¬ a2 = 0 → Q ((a1 <<< ((6 : Int32).toInt64 &&& 63)) ||| (Int32.toInt64 (a2 - 96))) μ) ∧ (a2 = 0 → Q a1 μ))) : W_X6_more G ρ d a1 a2 μ Q := by
  unfold W_X6_more
  refine am_iload_n (x := a2) dX6_more_0 rfl rfl ?_
  refine am_if_ne (tgt := 8) dX6_more_1 (by decide) (fun c => ?_) (fun c => ?_)
  · have h := h.1 c
    refine am_lload_n (x := a1) dX6_more_8 rfl rfl ?_
    refine am_bipush (v := 6) dX6_more_9 (by decide) ?_
    refine am_lshl dX6_more_11 rfl ?_
    refine am_iload_n (x := a2) dX6_more_12 rfl rfl ?_
    refine am_bipush (v := 96) dX6_more_13 (by decide) ?_
    refine am_isub dX6_more_15 ?_
    refine am_i2l dX6_more_16 rfl ?_
    refine am_lor dX6_more_17 ?_
    exact am_lret rfl dX6_more_18 ⟨_, _, rfl, rfl, h⟩
  · have h := h.2 c
    refine am_lload_n (x := a1) dX6_more_4 rfl rfl ?_
    refine am_goto (tgt := 18) dX6_more_5 (by decide) ?_
    exact am_lret rfl dX6_more_18 ⟨_, _, rfl, rfl, h⟩
theorem W_X6_look0_f {G : am_G} {ρ : mm_F} {d : Nat}  {μ : mm_S} {Q : mm_S → Prop} (h : W_X6_see G ρ d (mI μ 2) μ (fun v2 μ1 => ((v2 = 32 → (∀ μ3 : mm_S, μ3 = mm_sI μ1 2 ((mI μ1 2) + 1) → (W_X6_look0 G ρ (d + 1) μ3 Q))) ∧ (¬ v2 = 32 → W_X6_see G ρ d (mI μ1 2) μ1 (fun v5 μ4 => ((¬ v5 = 10 → (∀ μ6 : mm_S, μ6 = mm_sI μ4 4 (mI μ4 2) → (W_X6_see G ρ d (mI μ6 2) μ6 (fun v8 μ7 => (∀ μ9 : mm_S, μ9 = mm_sI μ7 3 1 → (((¬ v8 = (-1) → W_X6_isSmall G ρ d v8 μ9 (fun v11 μ10 => ((v11 = 0 → W_X6_isIn G ρ d v8 48 57 μ10 (fun v13 μ12 => ((v13 = 0 → ((v8 = 123 → B_X6_look0_376 G ρ (d + 1) v8 μ12 Q) ∧ (¬ v8 = 123 → ((v8 = 125 → B_X6_look0_376 G ρ (d + 1) v8 μ12 Q) ∧ (¬ v8 = 125 → ((v8 = 40 → B_X6_look0_376 G ρ (d + 1) v8 μ12 Q) ∧ (¬ v8 = 40 → ((v8 = 41 → B_X6_look0_376 G ρ (d + 1) v8 μ12 Q) ∧ (¬ v8 = 41 → ((v8 = 59 → B_X6_look0_376 G ρ (d + 1) v8 μ12 Q) ∧ (¬ v8 = 59 → ((v8 = 61 → B_X6_look0_376 G ρ (d + 1) v8 μ12 Q) ∧ (¬ v8 = 61 → ((v8 = 43 → B_X6_look0_376 G ρ (d + 1) v8 μ12 Q) ∧ (¬ v8 = 43 → ((v8 = 45 → B_X6_look0_376 G ρ (d + 1) v8 μ12 Q) ∧ (¬ v8 = 45 → ((v8 = 42 → B_X6_look0_376 G ρ (d + 1) v8 μ12 Q) ∧ (¬ v8 = 42 → ((v8 = 47 → B_X6_look0_376 G ρ (d + 1) v8 μ12 Q) ∧ (¬ v8 = 47 → ((¬ v8 = 60 → B_X6_look0_395 G ρ (d + 1) v8 μ12 Q) ∧ (v8 = 60 → B_X6_look0_376 G ρ (d + 1) v8 μ12 Q))))))))))))))))))))))) ∧ (¬ v13 = 0 → (∀ μ14 : mm_S, μ14 = mm_sI μ12 5 0 → (B_X6_look0_219 G ρ (d + 1) 0 μ14 Q)))))) ∧ (¬ v11 = 0 → (∀ μ15 : mm_S, μ15 = mm_sJ μ10 10 0 → (B_X6_look0_88 G ρ (d + 1) 0 μ15 Q)))))) ∧ (v8 = (-1) → (∀ μ16 : mm_S, μ16 = mm_sI μ9 3 0 → (Q μ16)))))))))) ∧ (v5 = 10 → (∀ μ17 : mm_S, μ17 = mm_sI μ4 2 ((mI μ4 2) + 1) → (W_X6_look0 G ρ (d + 1) μ17 Q))))))))) : W_X6_look0 G ρ (d + 1)  μ Q := by
  unfold W_X6_look0
  refine am_aloadr_n (x := some ρ.1) dX6_look0_0 rfl rfl ?_
  refine am_aloadr_n (x := some ρ.1) dX6_look0_1 rfl rfl ?_
  refine mm_gI (k := 2) rfl (Or.inl rfl) (by decide) q2321 dX6_look0_2 ?_
  refine mm_callV (Mc := m_X6_see) (as := [.int (mI μ 2)]) rfl bm_X6_see q2629 q2631 qs81 (Nat.le_of_ble_eq_true rfl) dX6_look0_5 (mt_X6_see (mm_k2i h (fun v2 μ1 h => ?_)))
  refine am_bipush (v := 32) dX6_look0_8 (by decide) ?_
  refine am_icmp_eq (tgt := 26) dX6_look0_10 (by decide) (fun c => ?_) (fun c => ?_)
  · have h := h.1 c
    refine am_aloadr_n (x := some ρ.1) dX6_look0_26 rfl rfl ?_
    refine am_dup dX6_look0_27 (am_rf_cat _) ?_
    refine mm_gI (k := 2) rfl (Or.inl rfl) (by decide) q2321 dX6_look0_28 ?_
    refine am_iconst (v := 1) dX6_look0_31 (by decide) ?_
    refine am_iadd dX6_look0_32 ?_
    refine mm_pI (k := 2) rfl rfl rfl (by decide) q2321 rfl dX6_look0_33 ?_
    generalize eμ3 : mm_sI μ1 2 ((mI μ1 2) + 1) = μ3
    have h := h μ3 eμ3.symm
    refine am_goto (tgt := 0) dX6_look0_36 (by decide) ?_
    exact am_lss h rfl
  · have h := h.2 c
    refine am_aloadr_n (x := some ρ.1) dX6_look0_13 rfl rfl ?_
    refine am_aloadr_n (x := some ρ.1) dX6_look0_14 rfl rfl ?_
    refine mm_gI (k := 2) rfl (Or.inl rfl) (by decide) q2321 dX6_look0_15 ?_
    refine mm_callV (Mc := m_X6_see) (as := [.int (mI μ1 2)]) rfl bm_X6_see q2629 q2631 qs81 (Nat.le_of_ble_eq_true rfl) dX6_look0_18 (mt_X6_see (mm_k2i h (fun v5 μ4 h => ?_)))
    refine am_bipush (v := 10) dX6_look0_21 (by decide) ?_
    refine am_icmp_ne (tgt := 39) dX6_look0_23 (by decide) (fun c => ?_) (fun c => ?_)
    · have h := h.1 c
      refine am_aloadr_n (x := some ρ.1) dX6_look0_39 rfl rfl ?_
      refine am_aloadr_n (x := some ρ.1) dX6_look0_40 rfl rfl ?_
      refine mm_gI (k := 2) rfl (Or.inl rfl) (by decide) q2321 dX6_look0_41 ?_
      refine mm_pI (k := 4) rfl rfl rfl (by decide) q2323 rfl dX6_look0_44 ?_
      generalize eμ6 : mm_sI μ4 4 (mI μ4 2) = μ6
      have h := h μ6 eμ6.symm
      refine am_aloadr_n (x := some ρ.1) dX6_look0_47 rfl rfl ?_
      refine am_aloadr_n (x := some ρ.1) dX6_look0_48 rfl rfl ?_
      refine mm_gI (k := 2) rfl (Or.inl rfl) (by decide) q2321 dX6_look0_49 ?_
      refine mm_callV (Mc := m_X6_see) (as := [.int (mI μ6 2)]) rfl bm_X6_see q2629 q2631 qs81 (Nat.le_of_ble_eq_true rfl) dX6_look0_52 (mt_X6_see (mm_k2i h (fun v8 μ7 h => ?_)))
      refine am_istore_n (L' := [(2, .int v8), (0, va_rf (some ρ.1))]) dX6_look0_55 rfl (Nat.le_of_ble_eq_true rfl) rfl ?_
      refine am_aloadr_n (x := some ρ.1) dX6_look0_56 rfl rfl ?_
      refine am_iconst (v := 1) dX6_look0_57 (by decide) ?_
      refine mm_pI (k := 3) rfl rfl rfl (by decide) q2322 rfl dX6_look0_58 ?_
      generalize eμ9 : mm_sI μ7 3 1 = μ9
      have h := h μ9 eμ9.symm
      refine am_iload_n (x := v8) dX6_look0_61 rfl rfl ?_
      refine am_iconst (v := (-1)) dX6_look0_62 (by decide) ?_
      refine am_icmp_ne (tgt := 74) dX6_look0_63 (by decide) (fun c => ?_) (fun c => ?_)
      · have h := h.1 c
        refine am_iload_n (x := v8) dX6_look0_74 rfl rfl ?_
        refine mm_callS (Mc := m_X6_isSmall) (as := [.int v8]) rfl bm_X6_isSmall q2633 q2634 (Nat.le_of_ble_eq_true rfl) dX6_look0_75 (mt_X6_isSmall (mm_k2i h (fun v11 μ10 h => ?_)))
        refine am_if_eq (tgt := 201) dX6_look0_78 (by decide) (fun c => ?_) (fun c => ?_)
        · have h := h.1 c
          refine am_iload_n (x := v8) dX6_look0_201 rfl rfl ?_
          refine am_bipush (v := 48) dX6_look0_202 (by decide) ?_
          refine am_bipush (v := 57) dX6_look0_204 (by decide) ?_
          refine mm_callS (Mc := m_X6_isIn) (as := [.int v8, .int 48, .int 57]) rfl bm_X6_isIn q2636 q2637 (Nat.le_of_ble_eq_true rfl) dX6_look0_206 (mt_X6_isIn (mm_k2i h (fun v13 μ12 h => ?_)))
          refine am_if_eq (tgt := 310) dX6_look0_209 (by decide) (fun c => ?_) (fun c => ?_)
          · have h := h.1 c
            refine am_iload_n (x := v8) dX6_look0_310 rfl rfl ?_
            refine am_bipush (v := 123) dX6_look0_311 (by decide) ?_
            refine am_icmp_eq (tgt := 376) dX6_look0_313 (by decide) (fun c => ?_) (fun c => ?_)
            · have h := h.1 c
              exact am_lss h rfl
            · have h := h.2 c
              refine am_iload_n (x := v8) dX6_look0_316 rfl rfl ?_
              refine am_bipush (v := 125) dX6_look0_317 (by decide) ?_
              refine am_icmp_eq (tgt := 376) dX6_look0_319 (by decide) (fun c => ?_) (fun c => ?_)
              · have h := h.1 c
                exact am_lss h rfl
              · have h := h.2 c
                refine am_iload_n (x := v8) dX6_look0_322 rfl rfl ?_
                refine am_bipush (v := 40) dX6_look0_323 (by decide) ?_
                refine am_icmp_eq (tgt := 376) dX6_look0_325 (by decide) (fun c => ?_) (fun c => ?_)
                · have h := h.1 c
                  exact am_lss h rfl
                · have h := h.2 c
                  refine am_iload_n (x := v8) dX6_look0_328 rfl rfl ?_
                  refine am_bipush (v := 41) dX6_look0_329 (by decide) ?_
                  refine am_icmp_eq (tgt := 376) dX6_look0_331 (by decide) (fun c => ?_) (fun c => ?_)
                  · have h := h.1 c
                    exact am_lss h rfl
                  · have h := h.2 c
                    refine am_iload_n (x := v8) dX6_look0_334 rfl rfl ?_
                    refine am_bipush (v := 59) dX6_look0_335 (by decide) ?_
                    refine am_icmp_eq (tgt := 376) dX6_look0_337 (by decide) (fun c => ?_) (fun c => ?_)
                    · have h := h.1 c
                      exact am_lss h rfl
                    · have h := h.2 c
                      refine am_iload_n (x := v8) dX6_look0_340 rfl rfl ?_
                      refine am_bipush (v := 61) dX6_look0_341 (by decide) ?_
                      refine am_icmp_eq (tgt := 376) dX6_look0_343 (by decide) (fun c => ?_) (fun c => ?_)
                      · have h := h.1 c
                        exact am_lss h rfl
                      · have h := h.2 c
                        refine am_iload_n (x := v8) dX6_look0_346 rfl rfl ?_
                        refine am_bipush (v := 43) dX6_look0_347 (by decide) ?_
                        refine am_icmp_eq (tgt := 376) dX6_look0_349 (by decide) (fun c => ?_) (fun c => ?_)
                        · have h := h.1 c
                          exact am_lss h rfl
                        · have h := h.2 c
                          refine am_iload_n (x := v8) dX6_look0_352 rfl rfl ?_
                          refine am_bipush (v := 45) dX6_look0_353 (by decide) ?_
                          refine am_icmp_eq (tgt := 376) dX6_look0_355 (by decide) (fun c => ?_) (fun c => ?_)
                          · have h := h.1 c
                            exact am_lss h rfl
                          · have h := h.2 c
                            refine am_iload_n (x := v8) dX6_look0_358 rfl rfl ?_
                            refine am_bipush (v := 42) dX6_look0_359 (by decide) ?_
                            refine am_icmp_eq (tgt := 376) dX6_look0_361 (by decide) (fun c => ?_) (fun c => ?_)
                            · have h := h.1 c
                              exact am_lss h rfl
                            · have h := h.2 c
                              refine am_iload_n (x := v8) dX6_look0_364 rfl rfl ?_
                              refine am_bipush (v := 47) dX6_look0_365 (by decide) ?_
                              refine am_icmp_eq (tgt := 376) dX6_look0_367 (by decide) (fun c => ?_) (fun c => ?_)
                              · have h := h.1 c
                                exact am_lss h rfl
                              · have h := h.2 c
                                refine am_iload_n (x := v8) dX6_look0_370 rfl rfl ?_
                                refine am_bipush (v := 60) dX6_look0_371 (by decide) ?_
                                refine am_icmp_ne (tgt := 380) dX6_look0_373 (by decide) (fun c => ?_) (fun c => ?_)
                                · have h := h.1 c
                                  refine am_iconst (v := 0) dX6_look0_380 (by decide) ?_
                                  refine am_istore_n (L' := [(4, .int 0), (2, .int v8), (0, va_rf (some ρ.1))]) dX6_look0_381 rfl (Nat.le_of_ble_eq_true rfl) rfl ?_
                                  refine am_iload_n (x := 0) dX6_look0_382 rfl rfl ?_
                                  refine am_if_eq (tgt := 395) dX6_look0_383 (by decide) (fun c => ?_) (fun c => ?_)
                                  · exact am_lss h rfl
                                  · exact absurd c (by decide)
                                · have h := h.2 c
                                  exact am_lss h rfl
          · have h := h.2 c
            refine am_iconst (v := 0) dX6_look0_212 (by decide) ?_
            refine am_istore_n (L' := [(4, .int 0), (2, .int v8), (0, va_rf (some ρ.1))]) dX6_look0_213 rfl (Nat.le_of_ble_eq_true rfl) rfl ?_
            refine am_aloadr_n (x := some ρ.1) dX6_look0_214 rfl rfl ?_
            refine am_iconst (v := 0) dX6_look0_215 (by decide) ?_
            refine mm_pI (k := 5) rfl rfl rfl (by decide) q2324 rfl dX6_look0_216 ?_
            generalize eμ14 : mm_sI μ12 5 0 = μ14
            have h := h μ14 eμ14.symm
            exact am_lss h rfl
        · have h := h.2 c
          refine am_iconst (v := 0) dX6_look0_81 (by decide) ?_
          refine am_istore_n (L' := [(4, .int 0), (2, .int v8), (0, va_rf (some ρ.1))]) dX6_look0_82 rfl (Nat.le_of_ble_eq_true rfl) rfl ?_
          refine am_aloadr_n (x := some ρ.1) dX6_look0_83 rfl rfl ?_
          refine am_lconst (v := 0) dX6_look0_84 (by decide) ?_
          refine mm_pJ (k := 10) rfl rfl rfl (by decide) q2329 rfl dX6_look0_85 ?_
          generalize eμ15 : mm_sJ μ10 10 0 = μ15
          have h := h μ15 eμ15.symm
          exact am_lss h rfl
      · have h := h.2 c
        refine am_aloadr_n (x := some ρ.1) dX6_look0_66 rfl rfl ?_
        refine am_iconst (v := 0) dX6_look0_67 (by decide) ?_
        refine mm_pI (k := 3) rfl rfl rfl (by decide) q2322 rfl dX6_look0_68 ?_
        generalize eμ16 : mm_sI μ9 3 0 = μ16
        have h := h μ16 eμ16.symm
        refine am_goto (tgt := 441) dX6_look0_71 (by decide) ?_
        exact am_vret rfl dX6_look0_441 ⟨_, rfl, rfl, h⟩
    · have h := h.2 c
      refine am_aloadr_n (x := some ρ.1) dX6_look0_26 rfl rfl ?_
      refine am_dup dX6_look0_27 (am_rf_cat _) ?_
      refine mm_gI (k := 2) rfl (Or.inl rfl) (by decide) q2321 dX6_look0_28 ?_
      refine am_iconst (v := 1) dX6_look0_31 (by decide) ?_
      refine am_iadd dX6_look0_32 ?_
      refine mm_pI (k := 2) rfl rfl rfl (by decide) q2321 rfl dX6_look0_33 ?_
      generalize eμ17 : mm_sI μ4 2 ((mI μ4 2) + 1) = μ17
      have h := h μ17 eμ17.symm
      refine am_goto (tgt := 0) dX6_look0_36 (by decide) ?_
      exact am_lss h rfl
theorem B_X6_look0_88_f {G : am_G} {ρ : mm_F} {d : Nat} {x2 : Int32} {μ : mm_S} {Q : mm_S → Prop} (h : W_X6_see G ρ d (mI μ 2) μ (fun v2 μ1 => W_X6_isSmall G ρ d v2 μ1 (fun v4 μ3 => ((v4 = 0 → ((x2 ≤ 6 → (∀ μ5 : mm_S, μ5 = mm_sI μ3 3 2 → (B_X6_look0_157 G ρ (d + 1) 0 μ5 Q))) ∧ (¬ x2 ≤ 6 → Q μ3))) ∧ (¬ v4 = 0 → ((7 ≤ x2 → (∀ μ6 : mm_S, μ6 = mm_sI μ3 2 ((mI μ3 2) + 1) → (B_X6_look0_88 G ρ (d + 1) (x2 + 1) μ6 Q))) ∧ (¬ 7 ≤ x2 → W_X6_see G ρ d (mI μ3 2) μ3 (fun v8 μ7 => W_X6_more G ρ d (mJ μ3 10) v8 μ7 (fun v10 μ9 => (∀ μ11 : mm_S, μ11 = mm_sJ μ9 10 v10 → ((∀ μ12 : mm_S, μ12 = mm_sI μ11 2 ((mI μ11 2) + 1) → (B_X6_look0_88 G ρ (d + 1) (x2 + 1) μ12 Q))))))))))))) : B_X6_look0_88 G ρ (d + 1) x2 μ Q := by
  unfold B_X6_look0_88
  refine am_aloadr_n (x := some ρ.1) dX6_look0_88 rfl rfl ?_
  refine am_aloadr_n (x := some ρ.1) dX6_look0_89 rfl rfl ?_
  refine mm_gI (k := 2) rfl (Or.inl rfl) (by decide) q2321 dX6_look0_90 ?_
  refine mm_callV (Mc := m_X6_see) (as := [.int (mI μ 2)]) rfl bm_X6_see q2629 q2631 qs81 (Nat.le_of_ble_eq_true rfl) dX6_look0_93 (mt_X6_see (mm_k2i h (fun v2 μ1 h => ?_)))
  refine mm_callS (Mc := m_X6_isSmall) (as := [.int v2]) rfl bm_X6_isSmall q2633 q2634 (Nat.le_of_ble_eq_true rfl) dX6_look0_96 (mt_X6_isSmall (mm_k2i h (fun v4 μ3 h => ?_)))
  refine am_if_eq (tgt := 143) dX6_look0_99 (by decide) (fun c => ?_) (fun c => ?_)
  · have h := h.1 c
    refine am_iload_n (x := x2) dX6_look0_143 rfl rfl ?_
    refine am_bipush (v := 6) dX6_look0_144 (by decide) ?_
    refine am_icmp_le (tgt := 150) dX6_look0_146 (by decide) (fun c => ?_) (fun c => ?_)
    · have h := h.1 c
      refine am_aloadr_n (x := some ρ.1) dX6_look0_150 rfl rfl ?_
      refine am_iconst (v := 2) dX6_look0_151 (by decide) ?_
      refine mm_pI (k := 3) rfl rfl rfl (by decide) q2322 rfl dX6_look0_152 ?_
      generalize eμ5 : mm_sI μ3 3 2 = μ5
      have h := h μ5 eμ5.symm
      refine am_iconst (v := 0) dX6_look0_155 (by decide) ?_
      refine am_istore_n (L' := [(6, .int 0), (0, va_rf (some ρ.1)), (4, .int x2)]) dX6_look0_156 rfl (Nat.le_of_ble_eq_true rfl) rfl ?_
      exact am_lss h rfl
    · have h := h.2 c
      exact am_vret rfl dX6_look0_149 ⟨_, rfl, rfl, h⟩
  · have h := h.2 c
    refine am_iload_n (x := x2) dX6_look0_102 rfl rfl ?_
    refine am_bipush (v := 7) dX6_look0_103 (by decide) ?_
    refine am_icmp_ge (tgt := 127) dX6_look0_105 (by decide) (fun c => ?_) (fun c => ?_)
    · have h := h.1 c
      refine am_iinc (x := x2) (v := (x2 + 1)) (L' := [(4, .int (x2 + 1)), (0, va_rf (some ρ.1))]) dX6_look0_127 rfl rfl (Nat.le_of_ble_eq_true rfl) rfl ?_
      refine am_aloadr_n (x := some ρ.1) dX6_look0_130 rfl rfl ?_
      refine am_dup dX6_look0_131 (am_rf_cat _) ?_
      refine mm_gI (k := 2) rfl (Or.inl rfl) (by decide) q2321 dX6_look0_132 ?_
      refine am_iconst (v := 1) dX6_look0_135 (by decide) ?_
      refine am_iadd dX6_look0_136 ?_
      refine mm_pI (k := 2) rfl rfl rfl (by decide) q2321 rfl dX6_look0_137 ?_
      generalize eμ6 : mm_sI μ3 2 ((mI μ3 2) + 1) = μ6
      have h := h μ6 eμ6.symm
      refine am_goto (tgt := 88) dX6_look0_140 (by decide) ?_
      exact am_lss h rfl
    · have h := h.2 c
      refine am_aloadr_n (x := some ρ.1) dX6_look0_108 rfl rfl ?_
      refine am_aloadr_n (x := some ρ.1) dX6_look0_109 rfl rfl ?_
      refine mm_gJ (k := 10) rfl rfl (by decide) q2329 dX6_look0_110 ?_
      refine am_aloadr_n (x := some ρ.1) dX6_look0_113 rfl rfl ?_
      refine am_aloadr_n (x := some ρ.1) dX6_look0_114 rfl rfl ?_
      refine mm_gI (k := 2) rfl (Or.inl rfl) (by decide) q2321 dX6_look0_115 ?_
      refine mm_callV (Mc := m_X6_see) (as := [.int (mI μ3 2)]) rfl bm_X6_see q2629 q2631 qs81 (Nat.le_of_ble_eq_true rfl) dX6_look0_118 (mt_X6_see (mm_k2i h (fun v8 μ7 h => ?_)))
      refine mm_callS (Mc := m_X6_more) (as := [.long (mJ μ3 10), .int v8]) rfl bm_X6_more q2622 q2623 (Nat.le_of_ble_eq_true rfl) dX6_look0_121 (mt_X6_more (mm_k2l h (fun v10 μ9 h => ?_)))
      refine mm_pJ (k := 10) rfl rfl rfl (by decide) q2329 rfl dX6_look0_124 ?_
      generalize eμ11 : mm_sJ μ9 10 v10 = μ11
      have h := h μ11 eμ11.symm
      refine am_iinc (x := x2) (v := (x2 + 1)) (L' := [(4, .int (x2 + 1)), (0, va_rf (some ρ.1))]) dX6_look0_127 rfl rfl (Nat.le_of_ble_eq_true rfl) rfl ?_
      refine am_aloadr_n (x := some ρ.1) dX6_look0_130 rfl rfl ?_
      refine am_dup dX6_look0_131 (am_rf_cat _) ?_
      refine mm_gI (k := 2) rfl (Or.inl rfl) (by decide) q2321 dX6_look0_132 ?_
      refine am_iconst (v := 1) dX6_look0_135 (by decide) ?_
      refine am_iadd dX6_look0_136 ?_
      refine mm_pI (k := 2) rfl rfl rfl (by decide) q2321 rfl dX6_look0_137 ?_
      generalize eμ12 : mm_sI μ11 2 ((mI μ11 2) + 1) = μ12
      have h := h μ12 eμ12.symm
      refine am_goto (tgt := 88) dX6_look0_140 (by decide) ?_
      exact am_lss h rfl
theorem B_X6_look0_157_f {G : am_G} {ρ : mm_F} {d : Nat} {x3 : Int32} {μ : mm_S} {Q : mm_S → Prop} (h : ((22 ≤ x3 → Q μ) ∧ (¬ 22 ≤ x3 → (vp_in x3 22 ∧ ((¬ (lg_cmp (mB μ 8 (Int32.toNatClampNeg x3)) (mJ μ 10)) = 0 → (∀ μ1 : mm_S, μ1 = mm_sI μ 3 (mI μ 3) → (B_X6_look0_157 G ρ (d + 1) (x3 + 1) μ1 Q))) ∧ ((lg_cmp (mB μ 8 (Int32.toNatClampNeg x3)) (mJ μ 10)) = 0 → (∀ μ2 : mm_S, μ2 = mm_sI μ 3 (100 + x3) → (B_X6_look0_157 G ρ (d + 1) (x3 + 1) μ2 Q)))))))) : B_X6_look0_157 G ρ (d + 1) x3 μ Q := by
  unfold B_X6_look0_157
  refine am_iload_n (x := x3) dX6_look0_157 rfl rfl ?_
  refine am_bipush (v := 22) dX6_look0_158 (by decide) ?_
  refine am_icmp_ge (tgt := 198) dX6_look0_160 (by decide) (fun c => ?_) (fun c => ?_)
  · have h := h.1 c
    refine am_goto (tgt := 441) dX6_look0_198 (by decide) ?_
    exact am_vret rfl dX6_look0_441 ⟨_, rfl, rfl, h⟩
  · have h := h.2 c
    refine am_aloadr_n (x := some ρ.1) dX6_look0_163 rfl rfl ?_
    refine am_aloadr_n (x := some ρ.1) dX6_look0_164 rfl rfl ?_
    refine mm_gA (k := 8) rfl isA_8 q2327 dX6_look0_165 ?_
    refine am_iload_n (x := x3) dX6_look0_168 rfl rfl ?_
    refine mm_ldJ (k := 8) isA_8 rfl rfl dX6_look0_169 h.1 ?_
    have h := h.2
    refine am_aloadr_n (x := some ρ.1) dX6_look0_170 rfl rfl ?_
    refine mm_gJ (k := 10) rfl rfl (by decide) q2329 dX6_look0_171 ?_
    refine am_lcmp dX6_look0_174 ?_
    refine am_if_ne (tgt := 185) dX6_look0_175 (by decide) (fun c => ?_) (fun c => ?_)
    · have h := h.1 c
      refine am_aloadr_n (x := some ρ.1) dX6_look0_185 rfl rfl ?_
      refine mm_gI (k := 3) rfl (Or.inl rfl) (by decide) q2322 dX6_look0_186 ?_
      refine mm_pI (k := 3) rfl rfl rfl (by decide) q2322 rfl dX6_look0_189 ?_
      generalize eμ1 : mm_sI μ 3 (mI μ 3) = μ1
      have h := h μ1 eμ1.symm
      refine am_iinc (x := x3) (v := (x3 + 1)) (L' := [(6, .int (x3 + 1)), (0, va_rf (some ρ.1))]) dX6_look0_192 rfl rfl (Nat.le_of_ble_eq_true rfl) rfl ?_
      refine am_goto (tgt := 157) dX6_look0_195 (by decide) ?_
      exact am_lss h rfl
    · have h := h.2 c
      refine am_bipush (v := 100) dX6_look0_178 (by decide) ?_
      refine am_iload_n (x := x3) dX6_look0_180 rfl rfl ?_
      refine am_iadd dX6_look0_181 ?_
      refine am_goto (tgt := 189) dX6_look0_182 (by decide) ?_
      refine mm_pI (k := 3) rfl rfl rfl (by decide) q2322 rfl dX6_look0_189 ?_
      generalize eμ2 : mm_sI μ 3 (100 + x3) = μ2
      have h := h μ2 eμ2.symm
      refine am_iinc (x := x3) (v := (x3 + 1)) (L' := [(6, .int (x3 + 1)), (0, va_rf (some ρ.1))]) dX6_look0_192 rfl rfl (Nat.le_of_ble_eq_true rfl) rfl ?_
      refine am_goto (tgt := 157) dX6_look0_195 (by decide) ?_
      exact am_lss h rfl
theorem B_X6_look0_219_f {G : am_G} {ρ : mm_F} {d : Nat} {x2 : Int32} {μ : mm_S} {Q : mm_S → Prop} (h : W_X6_see G ρ d (mI μ 2) μ (fun v2 μ1 => W_X6_isIn G ρ d v2 48 57 μ1 (fun v4 μ3 => ((v4 = 0 → ((6 < x2 → Q μ3) ∧ (¬ 6 < x2 → W_X6_see G ρ d (mI μ3 2) μ3 (fun v6 μ5 => W_X6_isLetter G ρ d v6 μ5 (fun v8 μ7 => ((¬ v8 = 0 → Q μ7) ∧ (v8 = 0 → (∀ μ9 : mm_S, μ9 = mm_sI μ7 3 3 → (Q μ9))))))))) ∧ (¬ v4 = 0 → ((6 ≤ x2 → (∀ μ10 : mm_S, μ10 = mm_sI μ3 2 ((mI μ3 2) + 1) → (B_X6_look0_219 G ρ (d + 1) (x2 + 1) μ10 Q))) ∧ (¬ 6 ≤ x2 → W_X6_see G ρ d (mI μ3 2) μ3 (fun v12 μ11 => (∀ μ13 : mm_S, μ13 = mm_sI μ11 5 (((10 * (mI μ3 5)) + v12) - 48) → ((∀ μ14 : mm_S, μ14 = mm_sI μ13 2 ((mI μ13 2) + 1) → (B_X6_look0_219 G ρ (d + 1) (x2 + 1) μ14 Q)))))))))))) : B_X6_look0_219 G ρ (d + 1) x2 μ Q := by
  unfold B_X6_look0_219
  refine am_aloadr_n (x := some ρ.1) dX6_look0_219 rfl rfl ?_
  refine am_aloadr_n (x := some ρ.1) dX6_look0_220 rfl rfl ?_
  refine mm_gI (k := 2) rfl (Or.inl rfl) (by decide) q2321 dX6_look0_221 ?_
  refine mm_callV (Mc := m_X6_see) (as := [.int (mI μ 2)]) rfl bm_X6_see q2629 q2631 qs81 (Nat.le_of_ble_eq_true rfl) dX6_look0_224 (mt_X6_see (mm_k2i h (fun v2 μ1 h => ?_)))
  refine am_bipush (v := 48) dX6_look0_227 (by decide) ?_
  refine am_bipush (v := 57) dX6_look0_229 (by decide) ?_
  refine mm_callS (Mc := m_X6_isIn) (as := [.int v2, .int 48, .int 57]) rfl bm_X6_isIn q2636 q2637 (Nat.le_of_ble_eq_true rfl) dX6_look0_231 (mt_X6_isIn (mm_k2i h (fun v4 μ3 h => ?_)))
  refine am_if_eq (tgt := 282) dX6_look0_234 (by decide) (fun c => ?_) (fun c => ?_)
  · have h := h.1 c
    refine am_iload_n (x := x2) dX6_look0_282 rfl rfl ?_
    refine am_bipush (v := 6) dX6_look0_283 (by decide) ?_
    refine am_icmp_gt (tgt := 307) dX6_look0_285 (by decide) (fun c => ?_) (fun c => ?_)
    · have h := h.1 c
      refine am_goto (tgt := 441) dX6_look0_307 (by decide) ?_
      exact am_vret rfl dX6_look0_441 ⟨_, rfl, rfl, h⟩
    · have h := h.2 c
      refine am_aloadr_n (x := some ρ.1) dX6_look0_288 rfl rfl ?_
      refine am_aloadr_n (x := some ρ.1) dX6_look0_289 rfl rfl ?_
      refine mm_gI (k := 2) rfl (Or.inl rfl) (by decide) q2321 dX6_look0_290 ?_
      refine mm_callV (Mc := m_X6_see) (as := [.int (mI μ3 2)]) rfl bm_X6_see q2629 q2631 qs81 (Nat.le_of_ble_eq_true rfl) dX6_look0_293 (mt_X6_see (mm_k2i h (fun v6 μ5 h => ?_)))
      refine mm_callS (Mc := m_X6_isLetter) (as := [.int v6]) rfl bm_X6_isLetter q2639 q2640 (Nat.le_of_ble_eq_true rfl) dX6_look0_296 (mt_X6_isLetter (mm_k2i h (fun v8 μ7 h => ?_)))
      refine am_if_ne (tgt := 307) dX6_look0_299 (by decide) (fun c => ?_) (fun c => ?_)
      · have h := h.1 c
        refine am_goto (tgt := 441) dX6_look0_307 (by decide) ?_
        exact am_vret rfl dX6_look0_441 ⟨_, rfl, rfl, h⟩
      · have h := h.2 c
        refine am_aloadr_n (x := some ρ.1) dX6_look0_302 rfl rfl ?_
        refine am_iconst (v := 3) dX6_look0_303 (by decide) ?_
        refine mm_pI (k := 3) rfl rfl rfl (by decide) q2322 rfl dX6_look0_304 ?_
        generalize eμ9 : mm_sI μ7 3 3 = μ9
        have h := h μ9 eμ9.symm
        refine am_goto (tgt := 441) dX6_look0_307 (by decide) ?_
        exact am_vret rfl dX6_look0_441 ⟨_, rfl, rfl, h⟩
  · have h := h.2 c
    refine am_iload_n (x := x2) dX6_look0_237 rfl rfl ?_
    refine am_bipush (v := 6) dX6_look0_238 (by decide) ?_
    refine am_icmp_ge (tgt := 266) dX6_look0_240 (by decide) (fun c => ?_) (fun c => ?_)
    · have h := h.1 c
      refine am_iinc (x := x2) (v := (x2 + 1)) (L' := [(4, .int (x2 + 1)), (0, va_rf (some ρ.1))]) dX6_look0_266 rfl rfl (Nat.le_of_ble_eq_true rfl) rfl ?_
      refine am_aloadr_n (x := some ρ.1) dX6_look0_269 rfl rfl ?_
      refine am_dup dX6_look0_270 (am_rf_cat _) ?_
      refine mm_gI (k := 2) rfl (Or.inl rfl) (by decide) q2321 dX6_look0_271 ?_
      refine am_iconst (v := 1) dX6_look0_274 (by decide) ?_
      refine am_iadd dX6_look0_275 ?_
      refine mm_pI (k := 2) rfl rfl rfl (by decide) q2321 rfl dX6_look0_276 ?_
      generalize eμ10 : mm_sI μ3 2 ((mI μ3 2) + 1) = μ10
      have h := h μ10 eμ10.symm
      refine am_goto (tgt := 219) dX6_look0_279 (by decide) ?_
      exact am_lss h rfl
    · have h := h.2 c
      refine am_aloadr_n (x := some ρ.1) dX6_look0_243 rfl rfl ?_
      refine am_bipush (v := 10) dX6_look0_244 (by decide) ?_
      refine am_aloadr_n (x := some ρ.1) dX6_look0_246 rfl rfl ?_
      refine mm_gI (k := 5) rfl (Or.inl rfl) (by decide) q2324 dX6_look0_247 ?_
      refine am_imul dX6_look0_250 ?_
      refine am_aloadr_n (x := some ρ.1) dX6_look0_251 rfl rfl ?_
      refine am_aloadr_n (x := some ρ.1) dX6_look0_252 rfl rfl ?_
      refine mm_gI (k := 2) rfl (Or.inl rfl) (by decide) q2321 dX6_look0_253 ?_
      refine mm_callV (Mc := m_X6_see) (as := [.int (mI μ3 2)]) rfl bm_X6_see q2629 q2631 qs81 (Nat.le_of_ble_eq_true rfl) dX6_look0_256 (mt_X6_see (mm_k2i h (fun v12 μ11 h => ?_)))
      refine am_iadd dX6_look0_259 ?_
      refine am_bipush (v := 48) dX6_look0_260 (by decide) ?_
      refine am_isub dX6_look0_262 ?_
      refine mm_pI (k := 5) rfl rfl rfl (by decide) q2324 rfl dX6_look0_263 ?_
      generalize eμ13 : mm_sI μ11 5 (((10 * (mI μ3 5)) + v12) - 48) = μ13
      have h := h μ13 eμ13.symm
      refine am_iinc (x := x2) (v := (x2 + 1)) (L' := [(4, .int (x2 + 1)), (0, va_rf (some ρ.1))]) dX6_look0_266 rfl rfl (Nat.le_of_ble_eq_true rfl) rfl ?_
      refine am_aloadr_n (x := some ρ.1) dX6_look0_269 rfl rfl ?_
      refine am_dup dX6_look0_270 (am_rf_cat _) ?_
      refine mm_gI (k := 2) rfl (Or.inl rfl) (by decide) q2321 dX6_look0_271 ?_
      refine am_iconst (v := 1) dX6_look0_274 (by decide) ?_
      refine am_iadd dX6_look0_275 ?_
      refine mm_pI (k := 2) rfl rfl rfl (by decide) q2321 rfl dX6_look0_276 ?_
      generalize eμ14 : mm_sI μ13 2 ((mI μ13 2) + 1) = μ14
      have h := h μ14 eμ14.symm
      refine am_goto (tgt := 219) dX6_look0_279 (by decide) ?_
      exact am_lss h rfl
theorem B_X6_look0_376_f {G : am_G} {ρ : mm_F} {d : Nat} {x1 : Int32} {μ : mm_S} {Q : mm_S → Prop} (h : (∀ μ1 : mm_S, μ1 = mm_sI μ 3 (200 + x1) → (B_X6_look0_395 G ρ (d + 1) x1 μ1 Q))) : B_X6_look0_376 G ρ (d + 1) x1 μ Q := by
  unfold B_X6_look0_376
  refine am_iconst (v := 1) dX6_look0_376 (by decide) ?_
  refine am_goto (tgt := 381) dX6_look0_377 (by decide) ?_
  refine am_istore_n (L' := [(4, .int 1), (0, va_rf (some ρ.1)), (2, .int x1)]) dX6_look0_381 rfl (Nat.le_of_ble_eq_true rfl) rfl ?_
  refine am_iload_n (x := 1) dX6_look0_382 rfl rfl ?_
  refine am_if_eq (tgt := 395) dX6_look0_383 (by decide) (fun c => ?_) (fun c => ?_)
  · exact absurd c (by decide)
  · refine am_aloadr_n (x := some ρ.1) dX6_look0_386 rfl rfl ?_
    refine am_sipush (v := 200) dX6_look0_387 (by decide) ?_
    refine am_iload_n (x := x1) dX6_look0_390 rfl rfl ?_
    refine am_iadd dX6_look0_391 ?_
    refine mm_pI (k := 3) rfl rfl rfl (by decide) q2322 rfl dX6_look0_392 ?_
    generalize eμ1 : mm_sI μ 3 (200 + x1) = μ1
    have h := h μ1 eμ1.symm
    exact am_lss h rfl
theorem B_X6_look0_395_f {G : am_G} {ρ : mm_F} {d : Nat} {x1 : Int32} {μ : mm_S} {Q : mm_S → Prop} (h : (∀ μ1 : mm_S, μ1 = mm_sI μ 2 ((mI μ 2) + 1) → (((¬ x1 = 61 → Q μ1) ∧ (x1 = 61 → W_X6_see G ρ d (mI μ1 2) μ1 (fun v3 μ2 => ((¬ v3 = 61 → Q μ2) ∧ (v3 = 61 → (∀ μ4 : mm_S, μ4 = mm_sI μ2 3 201 → ((∀ μ5 : mm_S, μ5 = mm_sI μ4 2 ((mI μ4 2) + 1) → (Q μ5)))))))))))) : B_X6_look0_395 G ρ (d + 1) x1 μ Q := by
  unfold B_X6_look0_395
  refine am_aloadr_n (x := some ρ.1) dX6_look0_395 rfl rfl ?_
  refine am_dup dX6_look0_396 (am_rf_cat _) ?_
  refine mm_gI (k := 2) rfl (Or.inl rfl) (by decide) q2321 dX6_look0_397 ?_
  refine am_iconst (v := 1) dX6_look0_400 (by decide) ?_
  refine am_iadd dX6_look0_401 ?_
  refine mm_pI (k := 2) rfl rfl rfl (by decide) q2321 rfl dX6_look0_402 ?_
  generalize eμ1 : mm_sI μ 2 ((mI μ 2) + 1) = μ1
  have h := h μ1 eμ1.symm
  refine am_iload_n (x := x1) dX6_look0_405 rfl rfl ?_
  refine am_bipush (v := 61) dX6_look0_406 (by decide) ?_
  refine am_icmp_ne (tgt := 441) dX6_look0_408 (by decide) (fun c => ?_) (fun c => ?_)
  · have h := h.1 c
    exact am_vret rfl dX6_look0_441 ⟨_, rfl, rfl, h⟩
  · have h := h.2 c
    refine am_aloadr_n (x := some ρ.1) dX6_look0_411 rfl rfl ?_
    refine am_aloadr_n (x := some ρ.1) dX6_look0_412 rfl rfl ?_
    refine mm_gI (k := 2) rfl (Or.inl rfl) (by decide) q2321 dX6_look0_413 ?_
    refine mm_callV (Mc := m_X6_see) (as := [.int (mI μ1 2)]) rfl bm_X6_see q2629 q2631 qs81 (Nat.le_of_ble_eq_true rfl) dX6_look0_416 (mt_X6_see (mm_k2i h (fun v3 μ2 h => ?_)))
    refine am_bipush (v := 61) dX6_look0_419 (by decide) ?_
    refine am_icmp_ne (tgt := 441) dX6_look0_421 (by decide) (fun c => ?_) (fun c => ?_)
    · have h := h.1 c
      exact am_vret rfl dX6_look0_441 ⟨_, rfl, rfl, h⟩
    · have h := h.2 c
      refine am_aloadr_n (x := some ρ.1) dX6_look0_424 rfl rfl ?_
      refine am_sipush (v := 201) dX6_look0_425 (by decide) ?_
      refine mm_pI (k := 3) rfl rfl rfl (by decide) q2322 rfl dX6_look0_428 ?_
      generalize eμ4 : mm_sI μ2 3 201 = μ4
      have h := h μ4 eμ4.symm
      refine am_aloadr_n (x := some ρ.1) dX6_look0_431 rfl rfl ?_
      refine am_dup dX6_look0_432 (am_rf_cat _) ?_
      refine mm_gI (k := 2) rfl (Or.inl rfl) (by decide) q2321 dX6_look0_433 ?_
      refine am_iconst (v := 1) dX6_look0_436 (by decide) ?_
      refine am_iadd dX6_look0_437 ?_
      refine mm_pI (k := 2) rfl rfl rfl (by decide) q2321 rfl dX6_look0_438 ?_
      generalize eμ5 : mm_sI μ4 2 ((mI μ4 2) + 1) = μ5
      have h := h μ5 eμ5.symm
      exact am_vret rfl dX6_look0_441 ⟨_, rfl, rfl, h⟩
theorem W_X6_see_f {G : am_G} {ρ : mm_F} {d : Nat} {a1 : Int32} {μ : mm_S} {Q : Int32 → mm_S → Prop} (h : (((mI μ 1) ≤ a1 → Q (-1) μ) ∧ (¬ (mI μ 1) ≤ a1 → (vp_in a1 1000 ∧ Q (mA μ 0 (Int32.toNatClampNeg a1)) μ)))) : W_X6_see G ρ d a1 μ Q := by
  unfold W_X6_see
  refine am_iload_n (x := a1) dX6_see_0 rfl rfl ?_
  refine am_aloadr_n (x := some ρ.1) dX6_see_1 rfl rfl ?_
  refine mm_gI (k := 1) rfl (Or.inl rfl) (by decide) q2320 dX6_see_2 ?_
  refine am_icmp_ge (tgt := 17) dX6_see_5 (by decide) (fun c => ?_) (fun c => ?_)
  · have h := h.1 c
    refine am_iconst (v := (-1)) dX6_see_17 (by decide) ?_
    exact am_iret rfl dX6_see_18 ⟨_, _, rfl, rfl, h⟩
  · have h := h.2 c
    refine am_aloadr_n (x := some ρ.1) dX6_see_8 rfl rfl ?_
    refine mm_gA (k := 0) rfl isA_0 q2319 dX6_see_9 ?_
    refine am_iload_n (x := a1) dX6_see_12 rfl rfl ?_
    refine mm_ldA (k := 0) isA_0 rfl rfl dX6_see_13 h.1 ?_
    have h := h.2
    refine am_goto (tgt := 18) dX6_see_14 (by decide) ?_
    exact am_iret rfl dX6_see_18 ⟨_, _, rfl, rfl, h⟩
theorem W_X6_isSmall_f {G : am_G} {ρ : mm_F} {d : Nat} {a1 : Int32} {μ : mm_S} {Q : Int32 → mm_S → Prop} (h : W_X6_isIn G ρ d a1 97 122 μ (fun v2 μ1 => (narrow .boolean (.int v2) = .int v2 ∧ Q v2 μ1))) : W_X6_isSmall G ρ (d + 1) a1 μ Q := by
  unfold W_X6_isSmall
  refine am_iload_n (x := a1) dX6_isSmall_0 rfl rfl ?_
  refine am_bipush (v := 97) dX6_isSmall_1 (by decide) ?_
  refine am_bipush (v := 122) dX6_isSmall_3 (by decide) ?_
  refine mm_callS (Mc := m_X6_isIn) (as := [.int a1, .int 97, .int 122]) rfl bm_X6_isIn q2636 q2637 (Nat.le_of_ble_eq_true rfl) dX6_isSmall_5 (mt_X6_isIn (mm_k2i h (fun v2 μ1 h => ?_)))
  exact am_zret rfl h.1 dX6_isSmall_8 ⟨_, _, rfl, rfl, h.2⟩
theorem W_X6_isIn_f {G : am_G} {ρ : mm_F} {d : Nat} {a1 : Int32} {a2 : Int32} {a3 : Int32} {μ : mm_S} {Q : Int32 → mm_S → Prop} (h : ((a1 < a2 → Q 0 μ) ∧ (¬ a1 < a2 → ((a3 < a1 → Q 0 μ) ∧ (¬ a3 < a1 → Q 1 μ))))) : W_X6_isIn G ρ d a1 a2 a3 μ Q := by
  unfold W_X6_isIn
  refine am_iload_n (x := a1) dX6_isIn_0 rfl rfl ?_
  refine am_iload_n (x := a2) dX6_isIn_1 rfl rfl ?_
  refine am_icmp_lt (tgt := 14) dX6_isIn_2 (by decide) (fun c => ?_) (fun c => ?_)
  · have h := h.1 c
    refine am_iconst (v := 0) dX6_isIn_14 (by decide) ?_
    exact am_zret rfl rfl dX6_isIn_15 ⟨_, _, rfl, rfl, h⟩
  · have h := h.2 c
    refine am_iload_n (x := a1) dX6_isIn_5 rfl rfl ?_
    refine am_iload_n (x := a3) dX6_isIn_6 rfl rfl ?_
    refine am_icmp_gt (tgt := 14) dX6_isIn_7 (by decide) (fun c => ?_) (fun c => ?_)
    · have h := h.1 c
      refine am_iconst (v := 0) dX6_isIn_14 (by decide) ?_
      exact am_zret rfl rfl dX6_isIn_15 ⟨_, _, rfl, rfl, h⟩
    · have h := h.2 c
      refine am_iconst (v := 1) dX6_isIn_10 (by decide) ?_
      refine am_goto (tgt := 15) dX6_isIn_11 (by decide) ?_
      exact am_zret rfl rfl dX6_isIn_15 ⟨_, _, rfl, rfl, h⟩
theorem W_X6_isLetter_f {G : am_G} {ρ : mm_F} {d : Nat} {a1 : Int32} {μ : mm_S} {Q : Int32 → mm_S → Prop} (h : W_X6_isIn G ρ d a1 97 122 μ (fun v2 μ1 => ((¬ v2 = 0 → Q 1 μ1) ∧ (v2 = 0 → W_X6_isIn G ρ d a1 65 90 μ1 (fun v4 μ3 => ((v4 = 0 → Q 0 μ3) ∧ (¬ v4 = 0 → Q 1 μ3))))))) : W_X6_isLetter G ρ (d + 1) a1 μ Q := by
  unfold W_X6_isLetter
  refine am_iload_n (x := a1) dX6_isLetter_0 rfl rfl ?_
  refine am_bipush (v := 97) dX6_isLetter_1 (by decide) ?_
  refine am_bipush (v := 122) dX6_isLetter_3 (by decide) ?_
  refine mm_callS (Mc := m_X6_isIn) (as := [.int a1, .int 97, .int 122]) rfl bm_X6_isIn q2636 q2637 (Nat.le_of_ble_eq_true rfl) dX6_isLetter_5 (mt_X6_isIn (mm_k2i h (fun v2 μ1 h => ?_)))
  refine am_if_ne (tgt := 22) dX6_isLetter_8 (by decide) (fun c => ?_) (fun c => ?_)
  · have h := h.1 c
    refine am_iconst (v := 1) dX6_isLetter_22 (by decide) ?_
    refine am_goto (tgt := 27) dX6_isLetter_23 (by decide) ?_
    exact am_zret rfl rfl dX6_isLetter_27 ⟨_, _, rfl, rfl, h⟩
  · have h := h.2 c
    refine am_iload_n (x := a1) dX6_isLetter_11 rfl rfl ?_
    refine am_bipush (v := 65) dX6_isLetter_12 (by decide) ?_
    refine am_bipush (v := 90) dX6_isLetter_14 (by decide) ?_
    refine mm_callS (Mc := m_X6_isIn) (as := [.int a1, .int 65, .int 90]) rfl bm_X6_isIn q2636 q2637 (Nat.le_of_ble_eq_true rfl) dX6_isLetter_16 (mt_X6_isIn (mm_k2i h (fun v4 μ3 h => ?_)))
    refine am_if_eq (tgt := 26) dX6_isLetter_19 (by decide) (fun c => ?_) (fun c => ?_)
    · have h := h.1 c
      refine am_iconst (v := 0) dX6_isLetter_26 (by decide) ?_
      exact am_zret rfl rfl dX6_isLetter_27 ⟨_, _, rfl, rfl, h⟩
    · have h := h.2 c
      refine am_iconst (v := 1) dX6_isLetter_22 (by decide) ?_
      refine am_goto (tgt := 27) dX6_isLetter_23 (by decide) ?_
      exact am_zret rfl rfl dX6_isLetter_27 ⟨_, _, rfl, rfl, h⟩
theorem W_X6_kindOfPond_f {G : am_G} {ρ : mm_F} {d : Nat}  {μ : mm_S} {Q : Int32 → mm_S → Prop} (h : (((mI μ 3) = 100 → W_X6_look0 G ρ d μ (fun μ1 => W_X6_named G ρ d μ1 (fun v3 μ2 => ((¬ v3 = 0 → W_X6_find G ρ d 1 (mI μ2 17) μ2 (fun v5 μ4 => ((v5 = (-1) → W_X6_many G ρ d 1 μ4 (fun v7 μ6 => ((¬ v7 = 12 → ((¬ (mI μ6 3) = 101 → B_X6_kindOfPond_126 G ρ (d + 1) (mI μ6 17) (-1) μ6 Q) ∧ ((mI μ6 3) = 101 → W_X6_look0 G ρ d μ6 (fun μ8 => W_X6_named G ρ d μ8 (fun v10 μ9 => ((¬ v10 = 0 → W_X6_find G ρ d 1 (mI μ9 17) μ9 (fun v12 μ11 => ((¬ v12 = (-1) → B_X6_kindOfPond_126 G ρ (d + 1) (mI μ6 17) v12 μ11 Q) ∧ (v12 = (-1) → W_X6_badAt G ρ d 4 (mI μ8 4) μ11 (fun v14 μ13 => (narrow .boolean (.int v14) = .int v14 ∧ Q v14 μ13)))))) ∧ (v10 = 0 → Q 0 μ9))))))) ∧ (v7 = 12 → W_X6_badAt G ρ d 5 (mI μ1 4) μ6 (fun v16 μ15 => (narrow .boolean (.int v16) = .int v16 ∧ Q v16 μ15)))))) ∧ (¬ v5 = (-1) → W_X6_badAt G ρ d 4 (mI μ1 4) μ4 (fun v18 μ17 => (narrow .boolean (.int v18) = .int v18 ∧ Q v18 μ17)))))) ∧ (v3 = 0 → Q 0 μ2))))) ∧ (¬ (mI μ 3) = 100 → W_X6_bad G ρ d 1 μ (fun v20 μ19 => (narrow .boolean (.int v20) = .int v20 ∧ Q v20 μ19))))) : W_X6_kindOfPond G ρ (d + 1)  μ Q := by
  unfold W_X6_kindOfPond
  refine am_aloadr_n (x := some ρ.1) dX6_kindOfPond_0 rfl rfl ?_
  refine mm_gI (k := 3) rfl (Or.inl rfl) (by decide) q2322 dX6_kindOfPond_1 ?_
  refine am_bipush (v := 100) dX6_kindOfPond_4 (by decide) ?_
  refine am_icmp_eq (tgt := 15) dX6_kindOfPond_6 (by decide) (fun c => ?_) (fun c => ?_)
  · have h := h.1 c
    refine am_aloadr_n (x := some ρ.1) dX6_kindOfPond_15 rfl rfl ?_
    refine mm_callV (Mc := m_X6_look0) (as := []) rfl bm_X6_look0 q2625 q2627 qs80 (Nat.le_of_ble_eq_true rfl) dX6_kindOfPond_16 (mt_X6_look0 (mm_k2v h (fun μ1 h => ?_)))
    refine am_aloadr_n (x := some ρ.1) dX6_kindOfPond_19 rfl rfl ?_
    refine mm_gI (k := 4) rfl (Or.inl rfl) (by decide) q2323 dX6_kindOfPond_20 ?_
    refine am_istore_n (L' := [(2, .int (mI μ1 4)), (0, va_rf (some ρ.1))]) dX6_kindOfPond_23 rfl (Nat.le_of_ble_eq_true rfl) rfl ?_
    refine am_aloadr_n (x := some ρ.1) dX6_kindOfPond_24 rfl rfl ?_
    refine mm_callV (Mc := m_X6_named) (as := []) rfl bm_X6_named q2654 q2656 qs85 (Nat.le_of_ble_eq_true rfl) dX6_kindOfPond_25 (mt_X6_named (mm_k2i h (fun v3 μ2 h => ?_)))
    refine am_if_ne (tgt := 33) dX6_kindOfPond_28 (by decide) (fun c => ?_) (fun c => ?_)
    · have h := h.1 c
      refine am_aloadr_n (x := some ρ.1) dX6_kindOfPond_33 rfl rfl ?_
      refine am_iconst (v := 1) dX6_kindOfPond_34 (by decide) ?_
      refine am_aloadr_n (x := some ρ.1) dX6_kindOfPond_35 rfl rfl ?_
      refine mm_gI (k := 17) rfl (Or.inl rfl) (by decide) q2336 dX6_kindOfPond_36 ?_
      refine mm_callV (Mc := m_X6_find) (as := [.int 1, .int (mI μ2 17)]) rfl bm_X6_find q2658 q2660 qs86 (Nat.le_of_ble_eq_true rfl) dX6_kindOfPond_39 (mt_X6_find (mm_k2i h (fun v5 μ4 h => ?_)))
      refine am_iconst (v := (-1)) dX6_kindOfPond_42 (by decide) ?_
      refine am_icmp_eq (tgt := 53) dX6_kindOfPond_43 (by decide) (fun c => ?_) (fun c => ?_)
      · have h := h.1 c
        refine am_aloadr_n (x := some ρ.1) dX6_kindOfPond_53 rfl rfl ?_
        refine am_iconst (v := 1) dX6_kindOfPond_54 (by decide) ?_
        refine mm_callV (Mc := m_X6_many) (as := [.int 1]) rfl bm_X6_many q2662 q2664 qs87 (Nat.le_of_ble_eq_true rfl) dX6_kindOfPond_55 (mt_X6_many (mm_k2i h (fun v7 μ6 h => ?_)))
        refine am_bipush (v := 12) dX6_kindOfPond_58 (by decide) ?_
        refine am_icmp_ne (tgt := 70) dX6_kindOfPond_60 (by decide) (fun c => ?_) (fun c => ?_)
        · have h := h.1 c
          refine am_aloadr_n (x := some ρ.1) dX6_kindOfPond_70 rfl rfl ?_
          refine mm_gI (k := 17) rfl (Or.inl rfl) (by decide) q2336 dX6_kindOfPond_71 ?_
          refine am_istore_n (L' := [(4, .int (mI μ6 17)), (2, .int (mI μ1 4)), (0, va_rf (some ρ.1))]) dX6_kindOfPond_74 rfl (Nat.le_of_ble_eq_true rfl) rfl ?_
          refine am_iconst (v := (-1)) dX6_kindOfPond_75 (by decide) ?_
          refine am_istore_n (L' := [(6, .int (-1)), (4, .int (mI μ6 17)), (2, .int (mI μ1 4)), (0, va_rf (some ρ.1))]) dX6_kindOfPond_76 rfl (Nat.le_of_ble_eq_true rfl) rfl ?_
          refine am_aloadr_n (x := some ρ.1) dX6_kindOfPond_77 rfl rfl ?_
          refine mm_gI (k := 3) rfl (Or.inl rfl) (by decide) q2322 dX6_kindOfPond_78 ?_
          refine am_bipush (v := 101) dX6_kindOfPond_81 (by decide) ?_
          refine am_icmp_ne (tgt := 126) dX6_kindOfPond_83 (by decide) (fun c => ?_) (fun c => ?_)
          · have h := h.1 c
            exact am_lss h rfl
          · have h := h.2 c
            refine am_aloadr_n (x := some ρ.1) dX6_kindOfPond_86 rfl rfl ?_
            refine mm_callV (Mc := m_X6_look0) (as := []) rfl bm_X6_look0 q2625 q2627 qs80 (Nat.le_of_ble_eq_true rfl) dX6_kindOfPond_87 (mt_X6_look0 (mm_k2v h (fun μ8 h => ?_)))
            refine am_aloadr_n (x := some ρ.1) dX6_kindOfPond_90 rfl rfl ?_
            refine mm_gI (k := 4) rfl (Or.inl rfl) (by decide) q2323 dX6_kindOfPond_91 ?_
            refine am_istore_n (L' := [(2, .int (mI μ8 4)), (6, .int (-1)), (4, .int (mI μ6 17)), (0, va_rf (some ρ.1))]) dX6_kindOfPond_94 rfl (Nat.le_of_ble_eq_true rfl) rfl ?_
            refine am_aloadr_n (x := some ρ.1) dX6_kindOfPond_95 rfl rfl ?_
            refine mm_callV (Mc := m_X6_named) (as := []) rfl bm_X6_named q2654 q2656 qs85 (Nat.le_of_ble_eq_true rfl) dX6_kindOfPond_96 (mt_X6_named (mm_k2i h (fun v10 μ9 h => ?_)))
            refine am_if_ne (tgt := 104) dX6_kindOfPond_99 (by decide) (fun c => ?_) (fun c => ?_)
            · have h := h.1 c
              refine am_aloadr_n (x := some ρ.1) dX6_kindOfPond_104 rfl rfl ?_
              refine am_iconst (v := 1) dX6_kindOfPond_105 (by decide) ?_
              refine am_aloadr_n (x := some ρ.1) dX6_kindOfPond_106 rfl rfl ?_
              refine mm_gI (k := 17) rfl (Or.inl rfl) (by decide) q2336 dX6_kindOfPond_107 ?_
              refine mm_callV (Mc := m_X6_find) (as := [.int 1, .int (mI μ9 17)]) rfl bm_X6_find q2658 q2660 qs86 (Nat.le_of_ble_eq_true rfl) dX6_kindOfPond_110 (mt_X6_find (mm_k2i h (fun v12 μ11 h => ?_)))
              refine am_istore_n (L' := [(6, .int v12), (2, .int (mI μ8 4)), (4, .int (mI μ6 17)), (0, va_rf (some ρ.1))]) dX6_kindOfPond_113 rfl (Nat.le_of_ble_eq_true rfl) rfl ?_
              refine am_iload_n (x := v12) dX6_kindOfPond_114 rfl rfl ?_
              refine am_iconst (v := (-1)) dX6_kindOfPond_115 (by decide) ?_
              refine am_icmp_ne (tgt := 126) dX6_kindOfPond_116 (by decide) (fun c => ?_) (fun c => ?_)
              · have h := h.1 c
                exact am_lss h rfl
              · have h := h.2 c
                refine am_aloadr_n (x := some ρ.1) dX6_kindOfPond_119 rfl rfl ?_
                refine am_iconst (v := 4) dX6_kindOfPond_120 (by decide) ?_
                refine am_iload_n (x := (mI μ8 4)) dX6_kindOfPond_121 rfl rfl ?_
                refine mm_callV (Mc := m_X6_badAt) (as := [.int 4, .int (mI μ8 4)]) rfl bm_X6_badAt q2650 q2652 qs84 (Nat.le_of_ble_eq_true rfl) dX6_kindOfPond_122 (mt_X6_badAt (mm_k2i h (fun v14 μ13 h => ?_)))
                exact am_zret rfl h.1 dX6_kindOfPond_125 ⟨_, _, rfl, rfl, h.2⟩
            · have h := h.2 c
              refine am_iconst (v := 0) dX6_kindOfPond_102 (by decide) ?_
              exact am_zret rfl rfl dX6_kindOfPond_103 ⟨_, _, rfl, rfl, h⟩
        · have h := h.2 c
          refine am_aloadr_n (x := some ρ.1) dX6_kindOfPond_63 rfl rfl ?_
          refine am_iconst (v := 5) dX6_kindOfPond_64 (by decide) ?_
          refine am_iload_n (x := (mI μ1 4)) dX6_kindOfPond_65 rfl rfl ?_
          refine mm_callV (Mc := m_X6_badAt) (as := [.int 5, .int (mI μ1 4)]) rfl bm_X6_badAt q2650 q2652 qs84 (Nat.le_of_ble_eq_true rfl) dX6_kindOfPond_66 (mt_X6_badAt (mm_k2i h (fun v16 μ15 h => ?_)))
          exact am_zret rfl h.1 dX6_kindOfPond_69 ⟨_, _, rfl, rfl, h.2⟩
      · have h := h.2 c
        refine am_aloadr_n (x := some ρ.1) dX6_kindOfPond_46 rfl rfl ?_
        refine am_iconst (v := 4) dX6_kindOfPond_47 (by decide) ?_
        refine am_iload_n (x := (mI μ1 4)) dX6_kindOfPond_48 rfl rfl ?_
        refine mm_callV (Mc := m_X6_badAt) (as := [.int 4, .int (mI μ1 4)]) rfl bm_X6_badAt q2650 q2652 qs84 (Nat.le_of_ble_eq_true rfl) dX6_kindOfPond_49 (mt_X6_badAt (mm_k2i h (fun v18 μ17 h => ?_)))
        exact am_zret rfl h.1 dX6_kindOfPond_52 ⟨_, _, rfl, rfl, h.2⟩
    · have h := h.2 c
      refine am_iconst (v := 0) dX6_kindOfPond_31 (by decide) ?_
      exact am_zret rfl rfl dX6_kindOfPond_32 ⟨_, _, rfl, rfl, h⟩
  · have h := h.2 c
    refine am_aloadr_n (x := some ρ.1) dX6_kindOfPond_9 rfl rfl ?_
    refine am_iconst (v := 1) dX6_kindOfPond_10 (by decide) ?_
    refine mm_callV (Mc := m_X6_bad) (as := [.int 1]) rfl bm_X6_bad q2646 q2648 qs83 (Nat.le_of_ble_eq_true rfl) dX6_kindOfPond_11 (mt_X6_bad (mm_k2i h (fun v20 μ19 h => ?_)))
    exact am_zret rfl h.1 dX6_kindOfPond_14 ⟨_, _, rfl, rfl, h.2⟩
theorem B_X6_kindOfPond_126_f {G : am_G} {ρ : mm_F} {d : Nat} {x2 : Int32} {x3 : Int32} {μ : mm_S} {Q : Int32 → mm_S → Prop} (h : W_X6_newKind G ρ d 1 x2 μ (fun v2 μ1 => W_X6_set G ρ d 1 v2 1 x3 μ1 (fun μ3 => W_X6_need G ρ d 123 μ3 (fun v5 μ4 => ((¬ v5 = 0 → B_X6_kindOfPond_154 G ρ (d + 1) v2 μ4 Q) ∧ (v5 = 0 → Q 0 μ4)))))) : B_X6_kindOfPond_126 G ρ (d + 1) x2 x3 μ Q := by
  unfold B_X6_kindOfPond_126
  refine am_aloadr_n (x := some ρ.1) dX6_kindOfPond_126 rfl rfl ?_
  refine am_iconst (v := 1) dX6_kindOfPond_127 (by decide) ?_
  refine am_iload_n (x := x2) dX6_kindOfPond_128 rfl rfl ?_
  refine mm_callV (Mc := m_X6_newKind) (as := [.int 1, .int x2]) rfl bm_X6_newKind q2670 q2672 qs89 (Nat.le_of_ble_eq_true rfl) dX6_kindOfPond_129 (mt_X6_newKind (mm_k2i h (fun v2 μ1 h => ?_)))
  refine am_istore (L' := [(8, .int v2), (0, va_rf (some ρ.1)), (4, .int x2), (6, .int x3)]) dX6_kindOfPond_132 (Nat.le_of_ble_eq_true rfl) rfl ?_
  refine am_aloadr_n (x := some ρ.1) dX6_kindOfPond_134 rfl rfl ?_
  refine am_iconst (v := 1) dX6_kindOfPond_135 (by decide) ?_
  refine am_iload (x := v2) dX6_kindOfPond_136 rfl ?_
  refine am_iconst (v := 1) dX6_kindOfPond_138 (by decide) ?_
  refine am_iload_n (x := x3) dX6_kindOfPond_139 rfl rfl ?_
  refine mm_callV (Mc := m_X6_set) (as := [.int 1, .int v2, .int 1, .int x3]) rfl bm_X6_set q2674 q2676 qs90 (Nat.le_of_ble_eq_true rfl) dX6_kindOfPond_140 (mt_X6_set (mm_k2v h (fun μ3 h => ?_)))
  refine am_aloadr_n (x := some ρ.1) dX6_kindOfPond_143 rfl rfl ?_
  refine am_bipush (v := 123) dX6_kindOfPond_144 (by decide) ?_
  refine mm_callV (Mc := m_X6_need) (as := [.int 123]) rfl bm_X6_need q2678 q2680 qs91 (Nat.le_of_ble_eq_true rfl) dX6_kindOfPond_146 (mt_X6_need (mm_k2i h (fun v5 μ4 h => ?_)))
  refine am_if_ne (tgt := 154) dX6_kindOfPond_149 (by decide) (fun c => ?_) (fun c => ?_)
  · have h := h.1 c
    exact am_lss h rfl
  · have h := h.2 c
    refine am_iconst (v := 0) dX6_kindOfPond_152 (by decide) ?_
    exact am_zret rfl rfl dX6_kindOfPond_153 ⟨_, _, rfl, rfl, h⟩
theorem B_X6_kindOfPond_154_f {G : am_G} {ρ : mm_F} {d : Nat} {x4 : Int32} {μ : mm_S} {Q : Int32 → mm_S → Prop} (h : W_X6_isSign G ρ d 125 μ (fun v2 μ1 => ((¬ v2 = 0 → W_X6_look0 G ρ d μ1 (fun μ3 => Q 1 μ3)) ∧ (v2 = 0 → W_X6_member G ρ d x4 μ1 (fun v5 μ4 => ((¬ v5 = 0 → B_X6_kindOfPond_154 G ρ (d + 1) x4 μ4 Q) ∧ (v5 = 0 → Q 0 μ4))))))) : B_X6_kindOfPond_154 G ρ (d + 1) x4 μ Q := by
  unfold B_X6_kindOfPond_154
  refine am_aloadr_n (x := some ρ.1) dX6_kindOfPond_154 rfl rfl ?_
  refine am_bipush (v := 125) dX6_kindOfPond_155 (by decide) ?_
  refine mm_callV (Mc := m_X6_isSign) (as := [.int 125]) rfl bm_X6_isSign q2682 q2684 qs92 (Nat.le_of_ble_eq_true rfl) dX6_kindOfPond_157 (mt_X6_isSign (mm_k2i h (fun v2 μ1 h => ?_)))
  refine am_if_ne (tgt := 174) dX6_kindOfPond_160 (by decide) (fun c => ?_) (fun c => ?_)
  · have h := h.1 c
    refine am_aloadr_n (x := some ρ.1) dX6_kindOfPond_174 rfl rfl ?_
    refine mm_callV (Mc := m_X6_look0) (as := []) rfl bm_X6_look0 q2625 q2627 qs80 (Nat.le_of_ble_eq_true rfl) dX6_kindOfPond_175 (mt_X6_look0 (mm_k2v h (fun μ3 h => ?_)))
    refine am_iconst (v := 1) dX6_kindOfPond_178 (by decide) ?_
    exact am_zret rfl rfl dX6_kindOfPond_179 ⟨_, _, rfl, rfl, h⟩
  · have h := h.2 c
    refine am_aloadr_n (x := some ρ.1) dX6_kindOfPond_163 rfl rfl ?_
    refine am_iload (x := x4) dX6_kindOfPond_164 rfl ?_
    refine mm_callV (Mc := m_X6_member) (as := [.int x4]) rfl bm_X6_member q2686 q2688 qs93 (Nat.le_of_ble_eq_true rfl) dX6_kindOfPond_166 (mt_X6_member (mm_k2i h (fun v5 μ4 h => ?_)))
    refine am_if_ne (tgt := 154) dX6_kindOfPond_169 (by decide) (fun c => ?_) (fun c => ?_)
    · have h := h.1 c
      exact am_lss h rfl
    · have h := h.2 c
      refine am_iconst (v := 0) dX6_kindOfPond_172 (by decide) ?_
      exact am_zret rfl rfl dX6_kindOfPond_173 ⟨_, _, rfl, rfl, h⟩
theorem W_X6_bad_f {G : am_G} {ρ : mm_F} {d : Nat} {a1 : Int32} {μ : mm_S} {Q : Int32 → mm_S → Prop} (h : W_X6_badAt G ρ d a1 (mI μ 4) μ (fun v2 μ1 => (narrow .boolean (.int v2) = .int v2 ∧ Q v2 μ1))) : W_X6_bad G ρ (d + 1) a1 μ Q := by
  unfold W_X6_bad
  refine am_aloadr_n (x := some ρ.1) dX6_bad_0 rfl rfl ?_
  refine am_iload_n (x := a1) dX6_bad_1 rfl rfl ?_
  refine am_aloadr_n (x := some ρ.1) dX6_bad_2 rfl rfl ?_
  refine mm_gI (k := 4) rfl (Or.inl rfl) (by decide) q2323 dX6_bad_3 ?_
  refine mm_callV (Mc := m_X6_badAt) (as := [.int a1, .int (mI μ 4)]) rfl bm_X6_badAt q2650 q2652 qs84 (Nat.le_of_ble_eq_true rfl) dX6_bad_6 (mt_X6_badAt (mm_k2i h (fun v2 μ1 h => ?_)))
  exact am_zret rfl h.1 dX6_bad_9 ⟨_, _, rfl, rfl, h.2⟩
theorem W_X6_badAt_f {G : am_G} {ρ : mm_F} {d : Nat} {a1 : Int32} {a2 : Int32} {μ : mm_S} {Q : Int32 → mm_S → Prop} (h : ((¬ (mI μ 11) = 0 → Q 0 μ) ∧ ((mI μ 11) = 0 → (∀ μ1 : mm_S, μ1 = mm_sI μ 11 a1 → ((∀ μ2 : mm_S, μ2 = mm_sI μ1 12 a2 → (Q 0 μ2))))))) : W_X6_badAt G ρ d a1 a2 μ Q := by
  unfold W_X6_badAt
  refine am_aloadr_n (x := some ρ.1) dX6_badAt_0 rfl rfl ?_
  refine mm_gI (k := 11) rfl (Or.inl rfl) (by decide) q2330 dX6_badAt_1 ?_
  refine am_if_ne (tgt := 17) dX6_badAt_4 (by decide) (fun c => ?_) (fun c => ?_)
  · have h := h.1 c
    refine am_iconst (v := 0) dX6_badAt_17 (by decide) ?_
    exact am_zret rfl rfl dX6_badAt_18 ⟨_, _, rfl, rfl, h⟩
  · have h := h.2 c
    refine am_aloadr_n (x := some ρ.1) dX6_badAt_7 rfl rfl ?_
    refine am_iload_n (x := a1) dX6_badAt_8 rfl rfl ?_
    refine mm_pI (k := 11) rfl rfl rfl (by decide) q2330 rfl dX6_badAt_9 ?_
    generalize eμ1 : mm_sI μ 11 a1 = μ1
    have h := h μ1 eμ1.symm
    refine am_aloadr_n (x := some ρ.1) dX6_badAt_12 rfl rfl ?_
    refine am_iload_n (x := a2) dX6_badAt_13 rfl rfl ?_
    refine mm_pI (k := 12) rfl rfl rfl (by decide) q2331 rfl dX6_badAt_14 ?_
    generalize eμ2 : mm_sI μ1 12 a2 = μ2
    have h := h μ2 eμ2.symm
    refine am_iconst (v := 0) dX6_badAt_17 (by decide) ?_
    exact am_zret rfl rfl dX6_badAt_18 ⟨_, _, rfl, rfl, h⟩
theorem W_X6_named_f {G : am_G} {ρ : mm_F} {d : Nat}  {μ : mm_S} {Q : Int32 → mm_S → Prop} (h : (((mI μ 3) = 2 → B_X6_named_16 G ρ (d + 1) 0 μ Q) ∧ (¬ (mI μ 3) = 2 → W_X6_bad G ρ d 1 μ (fun v2 μ1 => (narrow .boolean (.int v2) = .int v2 ∧ Q v2 μ1))))) : W_X6_named G ρ (d + 1)  μ Q := by
  unfold W_X6_named
  refine am_aloadr_n (x := some ρ.1) dX6_named_0 rfl rfl ?_
  refine mm_gI (k := 3) rfl (Or.inl rfl) (by decide) q2322 dX6_named_1 ?_
  refine am_iconst (v := 2) dX6_named_4 (by decide) ?_
  refine am_icmp_eq (tgt := 14) dX6_named_5 (by decide) (fun c => ?_) (fun c => ?_)
  · have h := h.1 c
    refine am_iconst (v := 0) dX6_named_14 (by decide) ?_
    refine am_istore_n (L' := [(2, .int 0), (0, va_rf (some ρ.1))]) dX6_named_15 rfl (Nat.le_of_ble_eq_true rfl) rfl ?_
    exact am_lss h rfl
  · have h := h.2 c
    refine am_aloadr_n (x := some ρ.1) dX6_named_8 rfl rfl ?_
    refine am_iconst (v := 1) dX6_named_9 (by decide) ?_
    refine mm_callV (Mc := m_X6_bad) (as := [.int 1]) rfl bm_X6_bad q2646 q2648 qs83 (Nat.le_of_ble_eq_true rfl) dX6_named_10 (mt_X6_bad (mm_k2i h (fun v2 μ1 h => ?_)))
    exact am_zret rfl h.1 dX6_named_13 ⟨_, _, rfl, rfl, h.2⟩
theorem B_X6_named_16_f {G : am_G} {ρ : mm_F} {d : Nat} {x1 : Int32} {μ : mm_S} {Q : Int32 → mm_S → Prop} (h : (((mI μ 7) ≤ x1 → B_X6_named_44 G ρ (d + 1) x1 μ Q) ∧ (¬ (mI μ 7) ≤ x1 → (vp_in x1 40 ∧ (((lg_cmp (mB μ 6 (Int32.toNatClampNeg x1)) (mJ μ 10)) = 0 → B_X6_named_44 G ρ (d + 1) x1 μ Q) ∧ (¬ (lg_cmp (mB μ 6 (Int32.toNatClampNeg x1)) (mJ μ 10)) = 0 → B_X6_named_16 G ρ (d + 1) (x1 + 1) μ Q)))))) : B_X6_named_16 G ρ (d + 1) x1 μ Q := by
  unfold B_X6_named_16
  refine am_iload_n (x := x1) dX6_named_16 rfl rfl ?_
  refine am_aloadr_n (x := some ρ.1) dX6_named_17 rfl rfl ?_
  refine mm_gI (k := 7) rfl (Or.inl rfl) (by decide) q2326 dX6_named_18 ?_
  refine am_icmp_ge (tgt := 44) dX6_named_21 (by decide) (fun c => ?_) (fun c => ?_)
  · have h := h.1 c
    exact am_lss h rfl
  · have h := h.2 c
    refine am_aloadr_n (x := some ρ.1) dX6_named_24 rfl rfl ?_
    refine mm_gA (k := 6) rfl isA_6 q2325 dX6_named_25 ?_
    refine am_iload_n (x := x1) dX6_named_28 rfl rfl ?_
    refine mm_ldJ (k := 6) isA_6 rfl rfl dX6_named_29 h.1 ?_
    have h := h.2
    refine am_aloadr_n (x := some ρ.1) dX6_named_30 rfl rfl ?_
    refine mm_gJ (k := 10) rfl rfl (by decide) q2329 dX6_named_31 ?_
    refine am_lcmp dX6_named_34 ?_
    refine am_if_eq (tgt := 44) dX6_named_35 (by decide) (fun c => ?_) (fun c => ?_)
    · have h := h.1 c
      exact am_lss h rfl
    · have h := h.2 c
      refine am_iinc (x := x1) (v := (x1 + 1)) (L' := [(2, .int (x1 + 1)), (0, va_rf (some ρ.1))]) dX6_named_38 rfl rfl (Nat.le_of_ble_eq_true rfl) rfl ?_
      refine am_goto (tgt := 16) dX6_named_41 (by decide) ?_
      exact am_lss h rfl
theorem B_X6_named_44_f {G : am_G} {ρ : mm_F} {d : Nat} {x1 : Int32} {μ : mm_S} {Q : Int32 → mm_S → Prop} (h : ((¬ x1 = 40 → ((¬ x1 = (mI μ 7) → (∀ μ1 : mm_S, μ1 = mm_sI μ 17 x1 → (W_X6_look0 G ρ d μ1 (fun μ2 => Q 1 μ2)))) ∧ (x1 = (mI μ 7) → (vp_in x1 40 ∧ ∀ μ3 : mm_S, μ3 = mm_sB μ 6 (Int32.toNatClampNeg x1) (mJ μ 10) → ((∀ μ4 : mm_S, μ4 = mm_sI μ3 7 ((mI μ3 7) + 1) → ((∀ μ5 : mm_S, μ5 = mm_sI μ4 17 x1 → (W_X6_look0 G ρ d μ5 (fun μ6 => Q 1 μ6)))))))))) ∧ (x1 = 40 → W_X6_bad G ρ d 3 μ (fun v8 μ7 => (narrow .boolean (.int v8) = .int v8 ∧ Q v8 μ7))))) : B_X6_named_44 G ρ (d + 1) x1 μ Q := by
  unfold B_X6_named_44
  refine am_iload_n (x := x1) dX6_named_44 rfl rfl ?_
  refine am_bipush (v := 40) dX6_named_45 (by decide) ?_
  refine am_icmp_ne (tgt := 56) dX6_named_47 (by decide) (fun c => ?_) (fun c => ?_)
  · have h := h.1 c
    refine am_iload_n (x := x1) dX6_named_56 rfl rfl ?_
    refine am_aloadr_n (x := some ρ.1) dX6_named_57 rfl rfl ?_
    refine mm_gI (k := 7) rfl (Or.inl rfl) (by decide) q2326 dX6_named_58 ?_
    refine am_icmp_ne (tgt := 84) dX6_named_61 (by decide) (fun c => ?_) (fun c => ?_)
    · have h := h.1 c
      refine am_aloadr_n (x := some ρ.1) dX6_named_84 rfl rfl ?_
      refine am_iload_n (x := x1) dX6_named_85 rfl rfl ?_
      refine mm_pI (k := 17) rfl rfl rfl (by decide) q2336 rfl dX6_named_86 ?_
      generalize eμ1 : mm_sI μ 17 x1 = μ1
      have h := h μ1 eμ1.symm
      refine am_aloadr_n (x := some ρ.1) dX6_named_89 rfl rfl ?_
      refine mm_callV (Mc := m_X6_look0) (as := []) rfl bm_X6_look0 q2625 q2627 qs80 (Nat.le_of_ble_eq_true rfl) dX6_named_90 (mt_X6_look0 (mm_k2v h (fun μ2 h => ?_)))
      refine am_iconst (v := 1) dX6_named_93 (by decide) ?_
      exact am_zret rfl rfl dX6_named_94 ⟨_, _, rfl, rfl, h⟩
    · have h := h.2 c
      refine am_aloadr_n (x := some ρ.1) dX6_named_64 rfl rfl ?_
      refine mm_gA (k := 6) rfl isA_6 q2325 dX6_named_65 ?_
      refine am_iload_n (x := x1) dX6_named_68 rfl rfl ?_
      refine am_aloadr_n (x := some ρ.1) dX6_named_69 rfl rfl ?_
      refine mm_gJ (k := 10) rfl rfl (by decide) q2329 dX6_named_70 ?_
      refine mm_stJ (k := 6) isA_6 rfl rfl dX6_named_73 h.1 ?_
      have h := h.2
      generalize eμ3 : mm_sB μ 6 (Int32.toNatClampNeg x1) (mJ μ 10) = μ3
      have h := h μ3 eμ3.symm
      refine am_aloadr_n (x := some ρ.1) dX6_named_74 rfl rfl ?_
      refine am_dup dX6_named_75 (am_rf_cat _) ?_
      refine mm_gI (k := 7) rfl (Or.inl rfl) (by decide) q2326 dX6_named_76 ?_
      refine am_iconst (v := 1) dX6_named_79 (by decide) ?_
      refine am_iadd dX6_named_80 ?_
      refine mm_pI (k := 7) rfl rfl rfl (by decide) q2326 rfl dX6_named_81 ?_
      generalize eμ4 : mm_sI μ3 7 ((mI μ3 7) + 1) = μ4
      have h := h μ4 eμ4.symm
      refine am_aloadr_n (x := some ρ.1) dX6_named_84 rfl rfl ?_
      refine am_iload_n (x := x1) dX6_named_85 rfl rfl ?_
      refine mm_pI (k := 17) rfl rfl rfl (by decide) q2336 rfl dX6_named_86 ?_
      generalize eμ5 : mm_sI μ4 17 x1 = μ5
      have h := h μ5 eμ5.symm
      refine am_aloadr_n (x := some ρ.1) dX6_named_89 rfl rfl ?_
      refine mm_callV (Mc := m_X6_look0) (as := []) rfl bm_X6_look0 q2625 q2627 qs80 (Nat.le_of_ble_eq_true rfl) dX6_named_90 (mt_X6_look0 (mm_k2v h (fun μ6 h => ?_)))
      refine am_iconst (v := 1) dX6_named_93 (by decide) ?_
      exact am_zret rfl rfl dX6_named_94 ⟨_, _, rfl, rfl, h⟩
  · have h := h.2 c
    refine am_aloadr_n (x := some ρ.1) dX6_named_50 rfl rfl ?_
    refine am_iconst (v := 3) dX6_named_51 (by decide) ?_
    refine mm_callV (Mc := m_X6_bad) (as := [.int 3]) rfl bm_X6_bad q2646 q2648 qs83 (Nat.le_of_ble_eq_true rfl) dX6_named_52 (mt_X6_bad (mm_k2i h (fun v8 μ7 h => ?_)))
    exact am_zret rfl h.1 dX6_named_55 ⟨_, _, rfl, rfl, h.2⟩
theorem W_X6_find_f {G : am_G} {ρ : mm_F} {d : Nat} {a1 : Int32} {a2 : Int32} {μ : mm_S} {Q : Int32 → mm_S → Prop} (h : B_X6_find_2 G ρ (d + 1) a1 a2 0 μ Q) : W_X6_find G ρ (d + 1) a1 a2 μ Q := by
  unfold W_X6_find
  refine am_iconst (v := 0) dX6_find_0 (by decide) ?_
  refine am_istore_n (L' := [(6, .int 0), (0, va_rf (some ρ.1)), (2, .int a1), (4, .int a2)]) dX6_find_1 rfl (Nat.le_of_ble_eq_true rfl) rfl ?_
  exact am_lss h rfl
theorem B_X6_find_2_f {G : am_G} {ρ : mm_F} {d : Nat} {x1 : Int32} {x2 : Int32} {x3 : Int32} {μ : mm_S} {Q : Int32 → mm_S → Prop} (h : W_X6_many G ρ d x1 μ (fun v2 μ1 => ((v2 ≤ x3 → Q (-1) μ1) ∧ (¬ v2 ≤ x3 → W_X6_get G ρ d x1 x3 0 μ1 (fun v4 μ3 => ((¬ v4 = x2 → B_X6_find_2 G ρ (d + 1) x1 x2 (x3 + 1) μ3 Q) ∧ (v4 = x2 → Q x3 μ3))))))) : B_X6_find_2 G ρ (d + 1) x1 x2 x3 μ Q := by
  unfold B_X6_find_2
  refine am_iload_n (x := x3) dX6_find_2 rfl rfl ?_
  refine am_aloadr_n (x := some ρ.1) dX6_find_3 rfl rfl ?_
  refine am_iload_n (x := x1) dX6_find_4 rfl rfl ?_
  refine mm_callV (Mc := m_X6_many) (as := [.int x1]) rfl bm_X6_many q2662 q2664 qs87 (Nat.le_of_ble_eq_true rfl) dX6_find_5 (mt_X6_many (mm_k2i h (fun v2 μ1 h => ?_)))
  refine am_icmp_ge (tgt := 30) dX6_find_8 (by decide) (fun c => ?_) (fun c => ?_)
  · have h := h.1 c
    refine am_iconst (v := (-1)) dX6_find_30 (by decide) ?_
    exact am_iret rfl dX6_find_31 ⟨_, _, rfl, rfl, h⟩
  · have h := h.2 c
    refine am_aloadr_n (x := some ρ.1) dX6_find_11 rfl rfl ?_
    refine am_iload_n (x := x1) dX6_find_12 rfl rfl ?_
    refine am_iload_n (x := x3) dX6_find_13 rfl rfl ?_
    refine am_iconst (v := 0) dX6_find_14 (by decide) ?_
    refine mm_callV (Mc := m_X6_get) (as := [.int x1, .int x3, .int 0]) rfl bm_X6_get q2666 q2668 qs88 (Nat.le_of_ble_eq_true rfl) dX6_find_15 (mt_X6_get (mm_k2i h (fun v4 μ3 h => ?_)))
    refine am_iload_n (x := x2) dX6_find_18 rfl rfl ?_
    refine am_icmp_ne (tgt := 24) dX6_find_19 (by decide) (fun c => ?_) (fun c => ?_)
    · have h := h.1 c
      refine am_iinc (x := x3) (v := (x3 + 1)) (L' := [(6, .int (x3 + 1)), (0, va_rf (some ρ.1)), (2, .int x1), (4, .int x2)]) dX6_find_24 rfl rfl (Nat.le_of_ble_eq_true rfl) rfl ?_
      refine am_goto (tgt := 2) dX6_find_27 (by decide) ?_
      exact am_lss h rfl
    · have h := h.2 c
      refine am_iload_n (x := x3) dX6_find_22 rfl rfl ?_
      exact am_iret rfl dX6_find_23 ⟨_, _, rfl, rfl, h⟩
theorem W_X6_many_f {G : am_G} {ρ : mm_F} {d : Nat} {a1 : Int32} {μ : mm_S} {Q : Int32 → mm_S → Prop} (h : (vp_in (769 * a1) 2307 ∧ Q (mA μ 23 (Int32.toNatClampNeg (769 * a1))) μ)) : W_X6_many G ρ d a1 μ Q := by
  unfold W_X6_many
  refine am_aloadr_n (x := some ρ.1) dX6_many_0 rfl rfl ?_
  refine mm_gA (k := 23) rfl isA_23 q2342 dX6_many_1 ?_
  refine am_sipush (v := 769) dX6_many_4 (by decide) ?_
  refine am_iload_n (x := a1) dX6_many_7 rfl rfl ?_
  refine am_imul dX6_many_8 ?_
  refine mm_ldA (k := 23) isA_23 rfl rfl dX6_many_9 h.1 ?_
  have h := h.2
  exact am_iret rfl dX6_many_10 ⟨_, _, rfl, rfl, h⟩
theorem W_X6_get_f {G : am_G} {ρ : mm_F} {d : Nat} {a1 : Int32} {a2 : Int32} {a3 : Int32} {μ : mm_S} {Q : Int32 → mm_S → Prop} (h : (vp_in ((((769 * a1) + 1) + (64 * a2)) + a3) 2307 ∧ Q (mA μ 23 (Int32.toNatClampNeg ((((769 * a1) + 1) + (64 * a2)) + a3))) μ)) : W_X6_get G ρ d a1 a2 a3 μ Q := by
  unfold W_X6_get
  refine am_aloadr_n (x := some ρ.1) dX6_get_0 rfl rfl ?_
  refine mm_gA (k := 23) rfl isA_23 q2342 dX6_get_1 ?_
  refine am_sipush (v := 769) dX6_get_4 (by decide) ?_
  refine am_iload_n (x := a1) dX6_get_7 rfl rfl ?_
  refine am_imul dX6_get_8 ?_
  refine am_iconst (v := 1) dX6_get_9 (by decide) ?_
  refine am_iadd dX6_get_10 ?_
  refine am_bipush (v := 64) dX6_get_11 (by decide) ?_
  refine am_iload_n (x := a2) dX6_get_13 rfl rfl ?_
  refine am_imul dX6_get_14 ?_
  refine am_iadd dX6_get_15 ?_
  refine am_iload_n (x := a3) dX6_get_16 rfl rfl ?_
  refine am_iadd dX6_get_17 ?_
  refine mm_ldA (k := 23) isA_23 rfl rfl dX6_get_18 h.1 ?_
  have h := h.2
  exact am_iret rfl dX6_get_19 ⟨_, _, rfl, rfl, h⟩
theorem W_X6_newKind_f {G : am_G} {ρ : mm_F} {d : Nat} {a1 : Int32} {a2 : Int32} {μ : mm_S} {Q : Int32 → mm_S → Prop} (h : W_X6_many G ρ d a1 μ (fun v2 μ1 => (vp_in (769 * a1) 2307 ∧ (vp_in (769 * a1) 2307 ∧ ∀ μ3 : mm_S, μ3 = mm_sA μ1 23 (Int32.toNatClampNeg (769 * a1)) ((mA μ1 23 (Int32.toNatClampNeg (769 * a1))) + 1) → (B_X6_newKind_23 G ρ (d + 1) a1 a2 v2 0 μ3 Q))))) : W_X6_newKind G ρ (d + 1) a1 a2 μ Q := by
  unfold W_X6_newKind
  refine am_aloadr_n (x := some ρ.1) dX6_newKind_0 rfl rfl ?_
  refine am_iload_n (x := a1) dX6_newKind_1 rfl rfl ?_
  refine mm_callV (Mc := m_X6_many) (as := [.int a1]) rfl bm_X6_many q2662 q2664 qs87 (Nat.le_of_ble_eq_true rfl) dX6_newKind_2 (mt_X6_many (mm_k2i h (fun v2 μ1 h => ?_)))
  refine am_istore_n (L' := [(6, .int v2), (0, va_rf (some ρ.1)), (2, .int a1), (4, .int a2)]) dX6_newKind_5 rfl (Nat.le_of_ble_eq_true rfl) rfl ?_
  refine am_aloadr_n (x := some ρ.1) dX6_newKind_6 rfl rfl ?_
  refine mm_gA (k := 23) rfl isA_23 q2342 dX6_newKind_7 ?_
  refine am_sipush (v := 769) dX6_newKind_10 (by decide) ?_
  refine am_iload_n (x := a1) dX6_newKind_13 rfl rfl ?_
  refine am_imul dX6_newKind_14 ?_
  refine am_dup2_11 dX6_newKind_15 rfl (am_rf_cat _) ?_
  refine mm_ldA (k := 23) isA_23 rfl rfl dX6_newKind_16 h.1 ?_
  have h := h.2
  refine am_iconst (v := 1) dX6_newKind_17 (by decide) ?_
  refine am_iadd dX6_newKind_18 ?_
  refine mm_stA (k := 23) isA_23 rfl rfl dX6_newKind_19 h.1 ?_
  have h := h.2
  generalize eμ3 : mm_sA μ1 23 (Int32.toNatClampNeg (769 * a1)) ((mA μ1 23 (Int32.toNatClampNeg (769 * a1))) + 1) = μ3
  have h := h μ3 eμ3.symm
  refine am_iconst (v := 0) dX6_newKind_20 (by decide) ?_
  refine am_istore (L' := [(8, .int 0), (6, .int v2), (0, va_rf (some ρ.1)), (2, .int a1), (4, .int a2)]) dX6_newKind_21 (Nat.le_of_ble_eq_true rfl) rfl ?_
  exact am_lss h rfl
theorem B_X6_newKind_23_f {G : am_G} {ρ : mm_F} {d : Nat} {x1 : Int32} {x2 : Int32} {x3 : Int32} {x4 : Int32} {μ : mm_S} {Q : Int32 → mm_S → Prop} (h : ((64 ≤ x4 → W_X6_set G ρ d x1 x3 0 x2 μ (fun μ1 => W_X6_set G ρ d x1 x3 1 (-1) μ1 (fun μ2 => W_X6_set G ρ d x1 x3 4 (-1) μ2 (fun μ3 => W_X6_set G ρ d x1 x3 3 1 μ3 (fun μ4 => Q x3 μ4))))) ∧ (¬ 64 ≤ x4 → W_X6_set G ρ d x1 x3 x4 0 μ (fun μ5 => B_X6_newKind_23 G ρ (d + 1) x1 x2 x3 (x4 + 1) μ5 Q)))) : B_X6_newKind_23 G ρ (d + 1) x1 x2 x3 x4 μ Q := by
  unfold B_X6_newKind_23
  refine am_iload (x := x4) dX6_newKind_23 rfl ?_
  refine am_bipush (v := 64) dX6_newKind_25 (by decide) ?_
  refine am_icmp_ge (tgt := 45) dX6_newKind_27 (by decide) (fun c => ?_) (fun c => ?_)
  · have h := h.1 c
    refine am_aloadr_n (x := some ρ.1) dX6_newKind_45 rfl rfl ?_
    refine am_iload_n (x := x1) dX6_newKind_46 rfl rfl ?_
    refine am_iload_n (x := x3) dX6_newKind_47 rfl rfl ?_
    refine am_iconst (v := 0) dX6_newKind_48 (by decide) ?_
    refine am_iload_n (x := x2) dX6_newKind_49 rfl rfl ?_
    refine mm_callV (Mc := m_X6_set) (as := [.int x1, .int x3, .int 0, .int x2]) rfl bm_X6_set q2674 q2676 qs90 (Nat.le_of_ble_eq_true rfl) dX6_newKind_50 (mt_X6_set (mm_k2v h (fun μ1 h => ?_)))
    refine am_aloadr_n (x := some ρ.1) dX6_newKind_53 rfl rfl ?_
    refine am_iload_n (x := x1) dX6_newKind_54 rfl rfl ?_
    refine am_iload_n (x := x3) dX6_newKind_55 rfl rfl ?_
    refine am_iconst (v := 1) dX6_newKind_56 (by decide) ?_
    refine am_iconst (v := (-1)) dX6_newKind_57 (by decide) ?_
    refine mm_callV (Mc := m_X6_set) (as := [.int x1, .int x3, .int 1, .int (-1)]) rfl bm_X6_set q2674 q2676 qs90 (Nat.le_of_ble_eq_true rfl) dX6_newKind_58 (mt_X6_set (mm_k2v h (fun μ2 h => ?_)))
    refine am_aloadr_n (x := some ρ.1) dX6_newKind_61 rfl rfl ?_
    refine am_iload_n (x := x1) dX6_newKind_62 rfl rfl ?_
    refine am_iload_n (x := x3) dX6_newKind_63 rfl rfl ?_
    refine am_iconst (v := 4) dX6_newKind_64 (by decide) ?_
    refine am_iconst (v := (-1)) dX6_newKind_65 (by decide) ?_
    refine mm_callV (Mc := m_X6_set) (as := [.int x1, .int x3, .int 4, .int (-1)]) rfl bm_X6_set q2674 q2676 qs90 (Nat.le_of_ble_eq_true rfl) dX6_newKind_66 (mt_X6_set (mm_k2v h (fun μ3 h => ?_)))
    refine am_aloadr_n (x := some ρ.1) dX6_newKind_69 rfl rfl ?_
    refine am_iload_n (x := x1) dX6_newKind_70 rfl rfl ?_
    refine am_iload_n (x := x3) dX6_newKind_71 rfl rfl ?_
    refine am_iconst (v := 3) dX6_newKind_72 (by decide) ?_
    refine am_iconst (v := 1) dX6_newKind_73 (by decide) ?_
    refine mm_callV (Mc := m_X6_set) (as := [.int x1, .int x3, .int 3, .int 1]) rfl bm_X6_set q2674 q2676 qs90 (Nat.le_of_ble_eq_true rfl) dX6_newKind_74 (mt_X6_set (mm_k2v h (fun μ4 h => ?_)))
    refine am_iload_n (x := x3) dX6_newKind_77 rfl rfl ?_
    exact am_iret rfl dX6_newKind_78 ⟨_, _, rfl, rfl, h⟩
  · have h := h.2 c
    refine am_aloadr_n (x := some ρ.1) dX6_newKind_30 rfl rfl ?_
    refine am_iload_n (x := x1) dX6_newKind_31 rfl rfl ?_
    refine am_iload_n (x := x3) dX6_newKind_32 rfl rfl ?_
    refine am_iload (x := x4) dX6_newKind_33 rfl ?_
    refine am_iconst (v := 0) dX6_newKind_35 (by decide) ?_
    refine mm_callV (Mc := m_X6_set) (as := [.int x1, .int x3, .int x4, .int 0]) rfl bm_X6_set q2674 q2676 qs90 (Nat.le_of_ble_eq_true rfl) dX6_newKind_36 (mt_X6_set (mm_k2v h (fun μ5 h => ?_)))
    refine am_iinc (x := x4) (v := (x4 + 1)) (L' := [(8, .int (x4 + 1)), (0, va_rf (some ρ.1)), (2, .int x1), (4, .int x2), (6, .int x3)]) dX6_newKind_39 rfl rfl (Nat.le_of_ble_eq_true rfl) rfl ?_
    refine am_goto (tgt := 23) dX6_newKind_42 (by decide) ?_
    exact am_lss h rfl
theorem W_X6_set_f {G : am_G} {ρ : mm_F} {d : Nat} {a1 : Int32} {a2 : Int32} {a3 : Int32} {a4 : Int32} {μ : mm_S} {Q : mm_S → Prop} (h : (vp_in ((((769 * a1) + 1) + (64 * a2)) + a3) 2307 ∧ ∀ μ1 : mm_S, μ1 = mm_sA μ 23 (Int32.toNatClampNeg ((((769 * a1) + 1) + (64 * a2)) + a3)) a4 → (Q μ1))) : W_X6_set G ρ d a1 a2 a3 a4 μ Q := by
  unfold W_X6_set
  refine am_aloadr_n (x := some ρ.1) dX6_set_0 rfl rfl ?_
  refine mm_gA (k := 23) rfl isA_23 q2342 dX6_set_1 ?_
  refine am_sipush (v := 769) dX6_set_4 (by decide) ?_
  refine am_iload_n (x := a1) dX6_set_7 rfl rfl ?_
  refine am_imul dX6_set_8 ?_
  refine am_iconst (v := 1) dX6_set_9 (by decide) ?_
  refine am_iadd dX6_set_10 ?_
  refine am_bipush (v := 64) dX6_set_11 (by decide) ?_
  refine am_iload_n (x := a2) dX6_set_13 rfl rfl ?_
  refine am_imul dX6_set_14 ?_
  refine am_iadd dX6_set_15 ?_
  refine am_iload_n (x := a3) dX6_set_16 rfl rfl ?_
  refine am_iadd dX6_set_17 ?_
  refine am_iload (x := a4) dX6_set_18 rfl ?_
  refine mm_stA (k := 23) isA_23 rfl rfl dX6_set_20 h.1 ?_
  have h := h.2
  generalize eμ1 : mm_sA μ 23 (Int32.toNatClampNeg ((((769 * a1) + 1) + (64 * a2)) + a3)) a4 = μ1
  have h := h μ1 eμ1.symm
  exact am_vret rfl dX6_set_21 ⟨_, rfl, rfl, h⟩
theorem W_X6_need_f {G : am_G} {ρ : mm_F} {d : Nat} {a1 : Int32} {μ : mm_S} {Q : Int32 → mm_S → Prop} (h : W_X6_isSign G ρ d a1 μ (fun v2 μ1 => ((¬ v2 = 0 → W_X6_look0 G ρ d μ1 (fun μ3 => Q 1 μ3)) ∧ (v2 = 0 → W_X6_bad G ρ d 1 μ1 (fun v5 μ4 => (narrow .boolean (.int v5) = .int v5 ∧ Q v5 μ4)))))) : W_X6_need G ρ (d + 1) a1 μ Q := by
  unfold W_X6_need
  refine am_aloadr_n (x := some ρ.1) dX6_need_0 rfl rfl ?_
  refine am_iload_n (x := a1) dX6_need_1 rfl rfl ?_
  refine mm_callV (Mc := m_X6_isSign) (as := [.int a1]) rfl bm_X6_isSign q2682 q2684 qs92 (Nat.le_of_ble_eq_true rfl) dX6_need_2 (mt_X6_isSign (mm_k2i h (fun v2 μ1 h => ?_)))
  refine am_if_ne (tgt := 14) dX6_need_5 (by decide) (fun c => ?_) (fun c => ?_)
  · have h := h.1 c
    refine am_aloadr_n (x := some ρ.1) dX6_need_14 rfl rfl ?_
    refine mm_callV (Mc := m_X6_look0) (as := []) rfl bm_X6_look0 q2625 q2627 qs80 (Nat.le_of_ble_eq_true rfl) dX6_need_15 (mt_X6_look0 (mm_k2v h (fun μ3 h => ?_)))
    refine am_iconst (v := 1) dX6_need_18 (by decide) ?_
    exact am_zret rfl rfl dX6_need_19 ⟨_, _, rfl, rfl, h⟩
  · have h := h.2 c
    refine am_aloadr_n (x := some ρ.1) dX6_need_8 rfl rfl ?_
    refine am_iconst (v := 1) dX6_need_9 (by decide) ?_
    refine mm_callV (Mc := m_X6_bad) (as := [.int 1]) rfl bm_X6_bad q2646 q2648 qs83 (Nat.le_of_ble_eq_true rfl) dX6_need_10 (mt_X6_bad (mm_k2i h (fun v5 μ4 h => ?_)))
    exact am_zret rfl h.1 dX6_need_13 ⟨_, _, rfl, rfl, h.2⟩
theorem W_X6_isSign_f {G : am_G} {ρ : mm_F} {d : Nat} {a1 : Int32} {μ : mm_S} {Q : Int32 → mm_S → Prop} (h : ((¬ (mI μ 3) = (200 + a1) → Q 0 μ) ∧ ((mI μ 3) = (200 + a1) → Q 1 μ))) : W_X6_isSign G ρ d a1 μ Q := by
  unfold W_X6_isSign
  refine am_aloadr_n (x := some ρ.1) dX6_isSign_0 rfl rfl ?_
  refine mm_gI (k := 3) rfl (Or.inl rfl) (by decide) q2322 dX6_isSign_1 ?_
  refine am_sipush (v := 200) dX6_isSign_4 (by decide) ?_
  refine am_iload_n (x := a1) dX6_isSign_7 rfl rfl ?_
  refine am_iadd dX6_isSign_8 ?_
  refine am_icmp_ne (tgt := 16) dX6_isSign_9 (by decide) (fun c => ?_) (fun c => ?_)
  · have h := h.1 c
    refine am_iconst (v := 0) dX6_isSign_16 (by decide) ?_
    exact am_zret rfl rfl dX6_isSign_17 ⟨_, _, rfl, rfl, h⟩
  · have h := h.2 c
    refine am_iconst (v := 1) dX6_isSign_12 (by decide) ?_
    refine am_goto (tgt := 17) dX6_isSign_13 (by decide) ?_
    exact am_zret rfl rfl dX6_isSign_17 ⟨_, _, rfl, rfl, h⟩
theorem W_X6_member_f {G : am_G} {ρ : mm_F} {d : Nat} {a1 : Int32} {μ : mm_S} {Q : Int32 → mm_S → Prop} (h : W_X6_isIn G ρ d (mI μ 3) 102 105 μ (fun v2 μ1 => ((¬ v2 = 0 → W_X6_look0 G ρ d μ1 (fun μ3 => W_X6_named G ρ d μ3 (fun v5 μ4 => ((¬ v5 = 0 → ((a1 = (-1) → B_X6_member_180 G ρ (d + 1) a1 (mI μ 3) (mI μ4 17) μ4 Q) ∧ (¬ a1 = (-1) → ((¬ (mI μ 3) = 105 → W_X6_hasOwn G ρ d 1 a1 (mI μ4 17) μ4 (fun v7 μ6 => ((¬ v7 = 0 → B_X6_member_104 G ρ (d + 1) a1 (mI μ 3) (mI μ3 4) (mI μ4 17) 1 μ6 Q) ∧ (v7 = 0 → W_X6_isAbove G ρ d 1 a1 (mI μ4 17) μ6 (fun v9 μ8 => ((v9 = 0 → B_X6_member_104 G ρ (d + 1) a1 (mI μ 3) (mI μ3 4) (mI μ4 17) 0 μ8 Q) ∧ (¬ v9 = 0 → B_X6_member_104 G ρ (d + 1) a1 (mI μ 3) (mI μ3 4) (mI μ4 17) 1 μ8 Q))))))) ∧ ((mI μ 3) = 105 → W_X6_actOf G ρ d 1 a1 (mI μ4 17) μ4 (fun v11 μ10 => ((v11 = (-1) → B_X6_member_104 G ρ (d + 1) a1 (mI μ 3) (mI μ3 4) (mI μ4 17) 0 μ10 Q) ∧ (¬ v11 = (-1) → B_X6_member_104 G ρ (d + 1) a1 (mI μ 3) (mI μ3 4) (mI μ4 17) 1 μ10 Q)))))))) ∧ (v5 = 0 → Q 0 μ4))))) ∧ (v2 = 0 → W_X6_bad G ρ d 1 μ1 (fun v13 μ12 => (narrow .boolean (.int v13) = .int v13 ∧ Q v13 μ12)))))) : W_X6_member G ρ (d + 1) a1 μ Q := by
  unfold W_X6_member
  refine am_aloadr_n (x := some ρ.1) dX6_member_0 rfl rfl ?_
  refine mm_gI (k := 3) rfl (Or.inl rfl) (by decide) q2322 dX6_member_1 ?_
  refine am_istore_n (L' := [(4, .int (mI μ 3)), (0, va_rf (some ρ.1)), (2, .int a1)]) dX6_member_4 rfl (Nat.le_of_ble_eq_true rfl) rfl ?_
  refine am_iload_n (x := (mI μ 3)) dX6_member_5 rfl rfl ?_
  refine am_bipush (v := 102) dX6_member_6 (by decide) ?_
  refine am_bipush (v := 105) dX6_member_8 (by decide) ?_
  refine mm_callS (Mc := m_X6_isIn) (as := [.int (mI μ 3), .int 102, .int 105]) rfl bm_X6_isIn q2636 q2637 (Nat.le_of_ble_eq_true rfl) dX6_member_10 (mt_X6_isIn (mm_k2i h (fun v2 μ1 h => ?_)))
  refine am_if_ne (tgt := 22) dX6_member_13 (by decide) (fun c => ?_) (fun c => ?_)
  · have h := h.1 c
    refine am_aloadr_n (x := some ρ.1) dX6_member_22 rfl rfl ?_
    refine mm_callV (Mc := m_X6_look0) (as := []) rfl bm_X6_look0 q2625 q2627 qs80 (Nat.le_of_ble_eq_true rfl) dX6_member_23 (mt_X6_look0 (mm_k2v h (fun μ3 h => ?_)))
    refine am_aloadr_n (x := some ρ.1) dX6_member_26 rfl rfl ?_
    refine mm_gI (k := 4) rfl (Or.inl rfl) (by decide) q2323 dX6_member_27 ?_
    refine am_istore_n (L' := [(6, .int (mI μ3 4)), (4, .int (mI μ 3)), (0, va_rf (some ρ.1)), (2, .int a1)]) dX6_member_30 rfl (Nat.le_of_ble_eq_true rfl) rfl ?_
    refine am_aloadr_n (x := some ρ.1) dX6_member_31 rfl rfl ?_
    refine mm_callV (Mc := m_X6_named) (as := []) rfl bm_X6_named q2654 q2656 qs85 (Nat.le_of_ble_eq_true rfl) dX6_member_32 (mt_X6_named (mm_k2i h (fun v5 μ4 h => ?_)))
    refine am_if_ne (tgt := 40) dX6_member_35 (by decide) (fun c => ?_) (fun c => ?_)
    · have h := h.1 c
      refine am_aloadr_n (x := some ρ.1) dX6_member_40 rfl rfl ?_
      refine mm_gI (k := 17) rfl (Or.inl rfl) (by decide) q2336 dX6_member_41 ?_
      refine am_istore (L' := [(8, .int (mI μ4 17)), (6, .int (mI μ3 4)), (4, .int (mI μ 3)), (0, va_rf (some ρ.1)), (2, .int a1)]) dX6_member_44 (Nat.le_of_ble_eq_true rfl) rfl ?_
      refine am_iload_n (x := a1) dX6_member_46 rfl rfl ?_
      refine am_iconst (v := (-1)) dX6_member_47 (by decide) ?_
      refine am_icmp_eq (tgt := 180) dX6_member_48 (by decide) (fun c => ?_) (fun c => ?_)
      · have h := h.1 c
        exact am_lss h rfl
      · have h := h.2 c
        refine am_iload_n (x := (mI μ 3)) dX6_member_51 rfl rfl ?_
        refine am_bipush (v := 105) dX6_member_52 (by decide) ?_
        refine am_icmp_ne (tgt := 77) dX6_member_54 (by decide) (fun c => ?_) (fun c => ?_)
        · have h := h.1 c
          refine am_aloadr_n (x := some ρ.1) dX6_member_77 rfl rfl ?_
          refine am_iconst (v := 1) dX6_member_78 (by decide) ?_
          refine am_iload_n (x := a1) dX6_member_79 rfl rfl ?_
          refine am_iload (x := (mI μ4 17)) dX6_member_80 rfl ?_
          refine mm_callV (Mc := m_X6_hasOwn) (as := [.int 1, .int a1, .int (mI μ4 17)]) rfl bm_X6_hasOwn q2694 q2696 qs95 (Nat.le_of_ble_eq_true rfl) dX6_member_82 (mt_X6_hasOwn (mm_k2i h (fun v7 μ6 h => ?_)))
          refine am_if_ne (tgt := 99) dX6_member_85 (by decide) (fun c => ?_) (fun c => ?_)
          · have h := h.1 c
            refine am_iconst (v := 1) dX6_member_99 (by decide) ?_
            refine am_goto (tgt := 104) dX6_member_100 (by decide) ?_
            exact am_lss h rfl
          · have h := h.2 c
            refine am_aloadr_n (x := some ρ.1) dX6_member_88 rfl rfl ?_
            refine am_iconst (v := 1) dX6_member_89 (by decide) ?_
            refine am_iload_n (x := a1) dX6_member_90 rfl rfl ?_
            refine am_iload (x := (mI μ4 17)) dX6_member_91 rfl ?_
            refine mm_callV (Mc := m_X6_isAbove) (as := [.int 1, .int a1, .int (mI μ4 17)]) rfl bm_X6_isAbove q2706 q2708 qs98 (Nat.le_of_ble_eq_true rfl) dX6_member_93 (mt_X6_isAbove (mm_k2i h (fun v9 μ8 h => ?_)))
            refine am_if_eq (tgt := 103) dX6_member_96 (by decide) (fun c => ?_) (fun c => ?_)
            · have h := h.1 c
              refine am_iconst (v := 0) dX6_member_103 (by decide) ?_
              exact am_lss h rfl
            · have h := h.2 c
              refine am_iconst (v := 1) dX6_member_99 (by decide) ?_
              refine am_goto (tgt := 104) dX6_member_100 (by decide) ?_
              exact am_lss h rfl
        · have h := h.2 c
          refine am_aloadr_n (x := some ρ.1) dX6_member_57 rfl rfl ?_
          refine am_iconst (v := 1) dX6_member_58 (by decide) ?_
          refine am_iload_n (x := a1) dX6_member_59 rfl rfl ?_
          refine am_iload (x := (mI μ4 17)) dX6_member_60 rfl ?_
          refine mm_callV (Mc := m_X6_actOf) (as := [.int 1, .int a1, .int (mI μ4 17)]) rfl bm_X6_actOf q2690 q2692 qs94 (Nat.le_of_ble_eq_true rfl) dX6_member_62 (mt_X6_actOf (mm_k2i h (fun v11 μ10 h => ?_)))
          refine am_iconst (v := (-1)) dX6_member_65 (by decide) ?_
          refine am_icmp_eq (tgt := 73) dX6_member_66 (by decide) (fun c => ?_) (fun c => ?_)
          · have h := h.1 c
            refine am_iconst (v := 0) dX6_member_73 (by decide) ?_
            refine am_goto (tgt := 104) dX6_member_74 (by decide) ?_
            exact am_lss h rfl
          · have h := h.2 c
            refine am_iconst (v := 1) dX6_member_69 (by decide) ?_
            refine am_goto (tgt := 104) dX6_member_70 (by decide) ?_
            exact am_lss h rfl
    · have h := h.2 c
      refine am_iconst (v := 0) dX6_member_38 (by decide) ?_
      exact am_zret rfl rfl dX6_member_39 ⟨_, _, rfl, rfl, h⟩
  · have h := h.2 c
    refine am_aloadr_n (x := some ρ.1) dX6_member_16 rfl rfl ?_
    refine am_iconst (v := 1) dX6_member_17 (by decide) ?_
    refine mm_callV (Mc := m_X6_bad) (as := [.int 1]) rfl bm_X6_bad q2646 q2648 qs83 (Nat.le_of_ble_eq_true rfl) dX6_member_18 (mt_X6_bad (mm_k2i h (fun v13 μ12 h => ?_)))
    exact am_zret rfl h.1 dX6_member_21 ⟨_, _, rfl, rfl, h.2⟩
theorem B_X6_member_104_f {G : am_G} {ρ : mm_F} {d : Nat} {x1 : Int32} {x2 : Int32} {x3 : Int32} {x4 : Int32} {s0 : Int32} {μ : mm_S} {Q : Int32 → mm_S → Prop} (h : ((s0 = 0 → ((¬ x2 = 105 → ((¬ x2 = 104 → W_X6_get G ρ d 1 x1 5 μ (fun v2 μ1 => ((¬ v2 = 8 → B_X6_member_180 G ρ (d + 1) x1 x2 x4 μ1 Q) ∧ (v2 = 8 → B_X6_member_173 G ρ (d + 1) x3 μ1 Q)))) ∧ (x2 = 104 → W_X6_get G ρ d 1 x1 30 μ (fun v4 μ3 => ((¬ v4 = 4 → B_X6_member_180 G ρ (d + 1) x1 x2 x4 μ3 Q) ∧ (v4 = 4 → B_X6_member_173 G ρ (d + 1) x3 μ3 Q)))))) ∧ (x2 = 105 → W_X6_get G ρ d 1 x1 39 μ (fun v6 μ5 => ((¬ v6 = 8 → B_X6_member_180 G ρ (d + 1) x1 x2 x4 μ5 Q) ∧ (v6 = 8 → B_X6_member_173 G ρ (d + 1) x3 μ5 Q)))))) ∧ (¬ s0 = 0 → W_X6_badAt G ρ d 4 x3 μ (fun v8 μ7 => (narrow .boolean (.int v8) = .int v8 ∧ Q v8 μ7))))) : B_X6_member_104 G ρ (d + 1) x1 x2 x3 x4 s0 μ Q := by
  unfold B_X6_member_104
  refine am_istore (L' := [(10, .int s0), (0, va_rf (some ρ.1)), (2, .int x1), (4, .int x2), (6, .int x3), (8, .int x4)]) dX6_member_104 (Nat.le_of_ble_eq_true rfl) rfl ?_
  refine am_iload (x := s0) dX6_member_106 rfl ?_
  refine am_if_eq (tgt := 118) dX6_member_108 (by decide) (fun c => ?_) (fun c => ?_)
  · have h := h.1 c
    refine am_iload_n (x := x2) dX6_member_118 rfl rfl ?_
    refine am_bipush (v := 105) dX6_member_119 (by decide) ?_
    refine am_icmp_ne (tgt := 140) dX6_member_121 (by decide) (fun c => ?_) (fun c => ?_)
    · have h := h.1 c
      refine am_iload_n (x := x2) dX6_member_140 rfl rfl ?_
      refine am_bipush (v := 104) dX6_member_141 (by decide) ?_
      refine am_icmp_ne (tgt := 161) dX6_member_143 (by decide) (fun c => ?_) (fun c => ?_)
      · have h := h.1 c
        refine am_aloadr_n (x := some ρ.1) dX6_member_161 rfl rfl ?_
        refine am_iconst (v := 1) dX6_member_162 (by decide) ?_
        refine am_iload_n (x := x1) dX6_member_163 rfl rfl ?_
        refine am_iconst (v := 5) dX6_member_164 (by decide) ?_
        refine mm_callV (Mc := m_X6_get) (as := [.int 1, .int x1, .int 5]) rfl bm_X6_get q2666 q2668 qs88 (Nat.le_of_ble_eq_true rfl) dX6_member_165 (mt_X6_get (mm_k2i h (fun v2 μ1 h => ?_)))
        refine am_bipush (v := 8) dX6_member_168 (by decide) ?_
        refine am_icmp_ne (tgt := 180) dX6_member_170 (by decide) (fun c => ?_) (fun c => ?_)
        · have h := h.1 c
          exact am_lss h rfl
        · have h := h.2 c
          exact am_lss h rfl
      · have h := h.2 c
        refine am_aloadr_n (x := some ρ.1) dX6_member_146 rfl rfl ?_
        refine am_iconst (v := 1) dX6_member_147 (by decide) ?_
        refine am_iload_n (x := x1) dX6_member_148 rfl rfl ?_
        refine am_bipush (v := 30) dX6_member_149 (by decide) ?_
        refine mm_callV (Mc := m_X6_get) (as := [.int 1, .int x1, .int 30]) rfl bm_X6_get q2666 q2668 qs88 (Nat.le_of_ble_eq_true rfl) dX6_member_151 (mt_X6_get (mm_k2i h (fun v4 μ3 h => ?_)))
        refine am_iconst (v := 4) dX6_member_154 (by decide) ?_
        refine am_icmp_ne (tgt := 180) dX6_member_155 (by decide) (fun c => ?_) (fun c => ?_)
        · have h := h.1 c
          exact am_lss h rfl
        · have h := h.2 c
          refine am_goto (tgt := 173) dX6_member_158 (by decide) ?_
          exact am_lss h rfl
    · have h := h.2 c
      refine am_aloadr_n (x := some ρ.1) dX6_member_124 rfl rfl ?_
      refine am_iconst (v := 1) dX6_member_125 (by decide) ?_
      refine am_iload_n (x := x1) dX6_member_126 rfl rfl ?_
      refine am_bipush (v := 39) dX6_member_127 (by decide) ?_
      refine mm_callV (Mc := m_X6_get) (as := [.int 1, .int x1, .int 39]) rfl bm_X6_get q2666 q2668 qs88 (Nat.le_of_ble_eq_true rfl) dX6_member_129 (mt_X6_get (mm_k2i h (fun v6 μ5 h => ?_)))
      refine am_bipush (v := 8) dX6_member_132 (by decide) ?_
      refine am_icmp_ne (tgt := 180) dX6_member_134 (by decide) (fun c => ?_) (fun c => ?_)
      · have h := h.1 c
        exact am_lss h rfl
      · have h := h.2 c
        refine am_goto (tgt := 173) dX6_member_137 (by decide) ?_
        exact am_lss h rfl
  · have h := h.2 c
    refine am_aloadr_n (x := some ρ.1) dX6_member_111 rfl rfl ?_
    refine am_iconst (v := 4) dX6_member_112 (by decide) ?_
    refine am_iload_n (x := x3) dX6_member_113 rfl rfl ?_
    refine mm_callV (Mc := m_X6_badAt) (as := [.int 4, .int x3]) rfl bm_X6_badAt q2650 q2652 qs84 (Nat.le_of_ble_eq_true rfl) dX6_member_114 (mt_X6_badAt (mm_k2i h (fun v8 μ7 h => ?_)))
    exact am_zret rfl h.1 dX6_member_117 ⟨_, _, rfl, rfl, h.2⟩
theorem B_X6_member_173_f {G : am_G} {ρ : mm_F} {d : Nat} {x3 : Int32} {μ : mm_S} {Q : Int32 → mm_S → Prop} (h : W_X6_badAt G ρ d 5 x3 μ (fun v2 μ1 => (narrow .boolean (.int v2) = .int v2 ∧ Q v2 μ1))) : B_X6_member_173 G ρ (d + 1) x3 μ Q := by
  unfold B_X6_member_173
  refine am_aloadr_n (x := some ρ.1) dX6_member_173 rfl rfl ?_
  refine am_iconst (v := 5) dX6_member_174 (by decide) ?_
  refine am_iload_n (x := x3) dX6_member_175 rfl rfl ?_
  refine mm_callV (Mc := m_X6_badAt) (as := [.int 5, .int x3]) rfl bm_X6_badAt q2650 q2652 qs84 (Nat.le_of_ble_eq_true rfl) dX6_member_176 (mt_X6_badAt (mm_k2i h (fun v2 μ1 h => ?_)))
  exact am_zret rfl h.1 dX6_member_179 ⟨_, _, rfl, rfl, h.2⟩
theorem B_X6_member_180_f {G : am_G} {ρ : mm_F} {d : Nat} {x1 : Int32} {x2 : Int32} {x4 : Int32} {μ : mm_S} {Q : Int32 → mm_S → Prop} (h : ((¬ x2 = 105 → (∀ μ1 : mm_S, μ1 = mm_sI μ 24 (-1) → (((x2 = 103 → B_X6_member_271 G ρ (d + 1) x1 x2 x4 μ1 Q) ∧ (¬ x2 = 103 → W_X6_need G ρ d 61 μ1 (fun v3 μ2 => ((v3 = 0 → Q 0 μ2) ∧ (¬ v3 = 0 → W_X6_num G ρ d μ2 (fun v5 μ4 => ((¬ v5 = 0 → B_X6_member_271 G ρ (d + 1) x1 x2 x4 μ4 Q) ∧ (v5 = 0 → Q 0 μ4))))))))))) ∧ (x2 = 105 → (∀ μ6 : mm_S, μ6 = mm_sI μ 20 0 → ((∀ μ7 : mm_S, μ7 = mm_sI μ6 18 0 → (W_X6_block G ρ d 1 μ7 (fun v9 μ8 => ((¬ v9 = 0 → ((x1 = (-1) → W_X6_node G ρ d 32 x4 (mI μ8 21) 0 μ8 (fun v11 μ10 => (∀ μ12 : mm_S, μ12 = mm_sI μ10 22 v11 → (Q 1 μ12)))) ∧ (¬ x1 = (-1) → W_X6_addAct G ρ d 1 x1 x4 (mI μ8 21) μ8 (fun μ13 => W_X6_node G ρ d 32 x4 (mI μ13 21) 0 μ13 (fun v15 μ14 => (∀ μ16 : mm_S, μ16 = mm_sI μ14 22 v15 → (Q 1 μ16))))))) ∧ (v9 = 0 → Q 0 μ8)))))))))) : B_X6_member_180 G ρ (d + 1) x1 x2 x4 μ Q := by
  unfold B_X6_member_180
  refine am_iload_n (x := x2) dX6_member_180 rfl rfl ?_
  refine am_bipush (v := 105) dX6_member_181 (by decide) ?_
  refine am_icmp_ne (tgt := 242) dX6_member_183 (by decide) (fun c => ?_) (fun c => ?_)
  · have h := h.1 c
    refine am_aloadr_n (x := some ρ.1) dX6_member_242 rfl rfl ?_
    refine am_iconst (v := (-1)) dX6_member_243 (by decide) ?_
    refine mm_pI (k := 24) rfl rfl rfl (by decide) q2343 rfl dX6_member_244 ?_
    generalize eμ1 : mm_sI μ 24 (-1) = μ1
    have h := h μ1 eμ1.symm
    refine am_iload_n (x := x2) dX6_member_247 rfl rfl ?_
    refine am_bipush (v := 103) dX6_member_248 (by decide) ?_
    refine am_icmp_eq (tgt := 271) dX6_member_250 (by decide) (fun c => ?_) (fun c => ?_)
    · have h := h.1 c
      exact am_lss h rfl
    · have h := h.2 c
      refine am_aloadr_n (x := some ρ.1) dX6_member_253 rfl rfl ?_
      refine am_bipush (v := 61) dX6_member_254 (by decide) ?_
      refine mm_callV (Mc := m_X6_need) (as := [.int 61]) rfl bm_X6_need q2678 q2680 qs91 (Nat.le_of_ble_eq_true rfl) dX6_member_256 (mt_X6_need (mm_k2i h (fun v3 μ2 h => ?_)))
      refine am_if_eq (tgt := 269) dX6_member_259 (by decide) (fun c => ?_) (fun c => ?_)
      · have h := h.1 c
        refine am_iconst (v := 0) dX6_member_269 (by decide) ?_
        exact am_zret rfl rfl dX6_member_270 ⟨_, _, rfl, rfl, h⟩
      · have h := h.2 c
        refine am_aloadr_n (x := some ρ.1) dX6_member_262 rfl rfl ?_
        refine mm_callV (Mc := m_X6_num) (as := []) rfl bm_X6_num q2754 q2756 qs110 (Nat.le_of_ble_eq_true rfl) dX6_member_263 (mt_X6_num (mm_k2i h (fun v5 μ4 h => ?_)))
        refine am_if_ne (tgt := 271) dX6_member_266 (by decide) (fun c => ?_) (fun c => ?_)
        · have h := h.1 c
          exact am_lss h rfl
        · have h := h.2 c
          refine am_iconst (v := 0) dX6_member_269 (by decide) ?_
          exact am_zret rfl rfl dX6_member_270 ⟨_, _, rfl, rfl, h⟩
  · have h := h.2 c
    refine am_aloadr_n (x := some ρ.1) dX6_member_186 rfl rfl ?_
    refine am_iconst (v := 0) dX6_member_187 (by decide) ?_
    refine mm_pI (k := 20) rfl rfl rfl (by decide) q2339 rfl dX6_member_188 ?_
    generalize eμ6 : mm_sI μ 20 0 = μ6
    have h := h μ6 eμ6.symm
    refine am_aloadr_n (x := some ρ.1) dX6_member_191 rfl rfl ?_
    refine am_iconst (v := 0) dX6_member_192 (by decide) ?_
    refine mm_pI (k := 18) rfl rfl rfl (by decide) q2337 rfl dX6_member_193 ?_
    generalize eμ7 : mm_sI μ6 18 0 = μ7
    have h := h μ7 eμ7.symm
    refine am_aloadr_n (x := some ρ.1) dX6_member_196 rfl rfl ?_
    refine am_iconst (v := 1) dX6_member_197 (by decide) ?_
    refine mm_callV (Mc := m_X6_block) (as := [.int 1]) rfl bm_X6_block q2710 q2712 qs99 (Nat.le_of_ble_eq_true rfl) dX6_member_198 (mt_X6_block (mm_k2i h (fun v9 μ8 h => ?_)))
    refine am_if_ne (tgt := 206) dX6_member_201 (by decide) (fun c => ?_) (fun c => ?_)
    · have h := h.1 c
      refine am_iload_n (x := x1) dX6_member_206 rfl rfl ?_
      refine am_iconst (v := (-1)) dX6_member_207 (by decide) ?_
      refine am_icmp_eq (tgt := 223) dX6_member_208 (by decide) (fun c => ?_) (fun c => ?_)
      · have h := h.1 c
        refine am_aloadr_n (x := some ρ.1) dX6_member_223 rfl rfl ?_
        refine am_aloadr_n (x := some ρ.1) dX6_member_224 rfl rfl ?_
        refine am_bipush (v := 32) dX6_member_225 (by decide) ?_
        refine am_iload (x := x4) dX6_member_227 rfl ?_
        refine am_aloadr_n (x := some ρ.1) dX6_member_229 rfl rfl ?_
        refine mm_gI (k := 21) rfl (Or.inl rfl) (by decide) q2340 dX6_member_230 ?_
        refine am_iconst (v := 0) dX6_member_233 (by decide) ?_
        refine mm_callV (Mc := m_X6_node) (as := [.int 32, .int x4, .int (mI μ8 21), .int 0]) rfl bm_X6_node q2742 q2744 qs107 (Nat.le_of_ble_eq_true rfl) dX6_member_234 (mt_X6_node (mm_k2i h (fun v11 μ10 h => ?_)))
        refine mm_pI (k := 22) rfl rfl rfl (by decide) q2341 rfl dX6_member_237 ?_
        generalize eμ12 : mm_sI μ10 22 v11 = μ12
        have h := h μ12 eμ12.symm
        refine am_iconst (v := 1) dX6_member_240 (by decide) ?_
        exact am_zret rfl rfl dX6_member_241 ⟨_, _, rfl, rfl, h⟩
      · have h := h.2 c
        refine am_aloadr_n (x := some ρ.1) dX6_member_211 rfl rfl ?_
        refine am_iconst (v := 1) dX6_member_212 (by decide) ?_
        refine am_iload_n (x := x1) dX6_member_213 rfl rfl ?_
        refine am_iload (x := x4) dX6_member_214 rfl ?_
        refine am_aloadr_n (x := some ρ.1) dX6_member_216 rfl rfl ?_
        refine mm_gI (k := 21) rfl (Or.inl rfl) (by decide) q2340 dX6_member_217 ?_
        refine mm_callV (Mc := m_X6_addAct) (as := [.int 1, .int x1, .int x4, .int (mI μ8 21)]) rfl bm_X6_addAct q2750 q2752 qs109 (Nat.le_of_ble_eq_true rfl) dX6_member_220 (mt_X6_addAct (mm_k2v h (fun μ13 h => ?_)))
        refine am_aloadr_n (x := some ρ.1) dX6_member_223 rfl rfl ?_
        refine am_aloadr_n (x := some ρ.1) dX6_member_224 rfl rfl ?_
        refine am_bipush (v := 32) dX6_member_225 (by decide) ?_
        refine am_iload (x := x4) dX6_member_227 rfl ?_
        refine am_aloadr_n (x := some ρ.1) dX6_member_229 rfl rfl ?_
        refine mm_gI (k := 21) rfl (Or.inl rfl) (by decide) q2340 dX6_member_230 ?_
        refine am_iconst (v := 0) dX6_member_233 (by decide) ?_
        refine mm_callV (Mc := m_X6_node) (as := [.int 32, .int x4, .int (mI μ13 21), .int 0]) rfl bm_X6_node q2742 q2744 qs107 (Nat.le_of_ble_eq_true rfl) dX6_member_234 (mt_X6_node (mm_k2i h (fun v15 μ14 h => ?_)))
        refine mm_pI (k := 22) rfl rfl rfl (by decide) q2341 rfl dX6_member_237 ?_
        generalize eμ16 : mm_sI μ14 22 v15 = μ16
        have h := h μ16 eμ16.symm
        refine am_iconst (v := 1) dX6_member_240 (by decide) ?_
        exact am_zret rfl rfl dX6_member_241 ⟨_, _, rfl, rfl, h⟩
    · have h := h.2 c
      refine am_iconst (v := 0) dX6_member_204 (by decide) ?_
      exact am_zret rfl rfl dX6_member_205 ⟨_, _, rfl, rfl, h⟩
theorem B_X6_member_271_f {G : am_G} {ρ : mm_F} {d : Nat} {x1 : Int32} {x2 : Int32} {x4 : Int32} {μ : mm_S} {Q : Int32 → mm_S → Prop} (h : ((x1 = (-1) → B_X6_member_294 G ρ (d + 1) x1 x2 x4 μ Q) ∧ (¬ x1 = (-1) → ((¬ x2 = 104 → B_X6_member_294 G ρ (d + 1) x1 x2 x4 μ Q) ∧ (x2 = 104 → W_X6_addFixed G ρ d 1 x1 x4 (mI μ 24) μ (fun μ1 => B_X6_member_294 G ρ (d + 1) x1 x2 x4 μ1 Q)))))) : B_X6_member_271 G ρ (d + 1) x1 x2 x4 μ Q := by
  unfold B_X6_member_271
  refine am_iload_n (x := x1) dX6_member_271 rfl rfl ?_
  refine am_iconst (v := (-1)) dX6_member_272 (by decide) ?_
  refine am_icmp_eq (tgt := 294) dX6_member_273 (by decide) (fun c => ?_) (fun c => ?_)
  · have h := h.1 c
    exact am_lss h rfl
  · have h := h.2 c
    refine am_iload_n (x := x2) dX6_member_276 rfl rfl ?_
    refine am_bipush (v := 104) dX6_member_277 (by decide) ?_
    refine am_icmp_ne (tgt := 294) dX6_member_279 (by decide) (fun c => ?_) (fun c => ?_)
    · have h := h.1 c
      exact am_lss h rfl
    · have h := h.2 c
      refine am_aloadr_n (x := some ρ.1) dX6_member_282 rfl rfl ?_
      refine am_iconst (v := 1) dX6_member_283 (by decide) ?_
      refine am_iload_n (x := x1) dX6_member_284 rfl rfl ?_
      refine am_iload (x := x4) dX6_member_285 rfl ?_
      refine am_aloadr_n (x := some ρ.1) dX6_member_287 rfl rfl ?_
      refine mm_gI (k := 24) rfl (Or.inl rfl) (by decide) q2343 dX6_member_288 ?_
      refine mm_callV (Mc := m_X6_addFixed) (as := [.int 1, .int x1, .int x4, .int (mI μ 24)]) rfl bm_X6_addFixed q2758 q2760 qs111 (Nat.le_of_ble_eq_true rfl) dX6_member_291 (mt_X6_addFixed (mm_k2v h (fun μ1 h => ?_)))
      exact am_lss h rfl
theorem B_X6_member_294_f {G : am_G} {ρ : mm_F} {d : Nat} {x1 : Int32} {x2 : Int32} {x4 : Int32} {μ : mm_S} {Q : Int32 → mm_S → Prop} (h : ((x1 = (-1) → B_X6_member_317 G ρ (d + 1) x2 x4 μ Q) ∧ (¬ x1 = (-1) → ((x2 = 104 → B_X6_member_317 G ρ (d + 1) x2 x4 μ Q) ∧ (¬ x2 = 104 → W_X6_addField G ρ d 1 x1 x4 (mI μ 24) μ (fun μ1 => B_X6_member_317 G ρ (d + 1) x2 x4 μ1 Q)))))) : B_X6_member_294 G ρ (d + 1) x1 x2 x4 μ Q := by
  unfold B_X6_member_294
  refine am_iload_n (x := x1) dX6_member_294 rfl rfl ?_
  refine am_iconst (v := (-1)) dX6_member_295 (by decide) ?_
  refine am_icmp_eq (tgt := 317) dX6_member_296 (by decide) (fun c => ?_) (fun c => ?_)
  · have h := h.1 c
    exact am_lss h rfl
  · have h := h.2 c
    refine am_iload_n (x := x2) dX6_member_299 rfl rfl ?_
    refine am_bipush (v := 104) dX6_member_300 (by decide) ?_
    refine am_icmp_eq (tgt := 317) dX6_member_302 (by decide) (fun c => ?_) (fun c => ?_)
    · have h := h.1 c
      exact am_lss h rfl
    · have h := h.2 c
      refine am_aloadr_n (x := some ρ.1) dX6_member_305 rfl rfl ?_
      refine am_iconst (v := 1) dX6_member_306 (by decide) ?_
      refine am_iload_n (x := x1) dX6_member_307 rfl rfl ?_
      refine am_iload (x := x4) dX6_member_308 rfl ?_
      refine am_aloadr_n (x := some ρ.1) dX6_member_310 rfl rfl ?_
      refine mm_gI (k := 24) rfl (Or.inl rfl) (by decide) q2343 dX6_member_311 ?_
      refine mm_callV (Mc := m_X6_addField) (as := [.int 1, .int x1, .int x4, .int (mI μ 24)]) rfl bm_X6_addField q2762 q2764 qs112 (Nat.le_of_ble_eq_true rfl) dX6_member_314 (mt_X6_addField (mm_k2v h (fun μ1 h => ?_)))
      exact am_lss h rfl
theorem B_X6_member_317_f {G : am_G} {ρ : mm_F} {d : Nat} {x2 : Int32} {x4 : Int32} {μ : mm_S} {Q : Int32 → mm_S → Prop} (h : ((¬ x2 = 104 → B_X6_member_332 G ρ (d + 1) x4 30 μ Q) ∧ (x2 = 104 → B_X6_member_332 G ρ (d + 1) x4 31 μ Q))) : B_X6_member_317 G ρ (d + 1) x2 x4 μ Q := by
  unfold B_X6_member_317
  refine am_aloadr_n (x := some ρ.1) dX6_member_317 rfl rfl ?_
  refine am_aloadr_n (x := some ρ.1) dX6_member_318 rfl rfl ?_
  refine am_iload_n (x := x2) dX6_member_319 rfl rfl ?_
  refine am_bipush (v := 104) dX6_member_320 (by decide) ?_
  refine am_icmp_ne (tgt := 330) dX6_member_322 (by decide) (fun c => ?_) (fun c => ?_)
  · have h := h.1 c
    refine am_bipush (v := 30) dX6_member_330 (by decide) ?_
    exact am_lss h rfl
  · have h := h.2 c
    refine am_bipush (v := 31) dX6_member_325 (by decide) ?_
    refine am_goto (tgt := 332) dX6_member_327 (by decide) ?_
    exact am_lss h rfl
theorem B_X6_member_332_f {G : am_G} {ρ : mm_F} {d : Nat} {x4 : Int32} {s0 : Int32} {μ : mm_S} {Q : Int32 → mm_S → Prop} (h : W_X6_node G ρ d s0 x4 (mI μ 24) 0 μ (fun v2 μ1 => (∀ μ3 : mm_S, μ3 = mm_sI μ1 22 v2 → (W_X6_need G ρ d 59 μ3 (fun v5 μ4 => (narrow .boolean (.int v5) = .int v5 ∧ Q v5 μ4)))))) : B_X6_member_332 G ρ (d + 1) x4 s0 μ Q := by
  unfold B_X6_member_332
  refine am_iload (x := x4) dX6_member_332 rfl ?_
  refine am_aloadr_n (x := some ρ.1) dX6_member_334 rfl rfl ?_
  refine mm_gI (k := 24) rfl (Or.inl rfl) (by decide) q2343 dX6_member_335 ?_
  refine am_iconst (v := 0) dX6_member_338 (by decide) ?_
  refine mm_callV (Mc := m_X6_node) (as := [.int s0, .int x4, .int (mI μ 24), .int 0]) rfl bm_X6_node q2742 q2744 qs107 (Nat.le_of_ble_eq_true rfl) dX6_member_339 (mt_X6_node (mm_k2i h (fun v2 μ1 h => ?_)))
  refine mm_pI (k := 22) rfl rfl rfl (by decide) q2341 rfl dX6_member_342 ?_
  generalize eμ3 : mm_sI μ1 22 v2 = μ3
  have h := h μ3 eμ3.symm
  refine am_aloadr_n (x := some ρ.1) dX6_member_345 rfl rfl ?_
  refine am_bipush (v := 59) dX6_member_346 (by decide) ?_
  refine mm_callV (Mc := m_X6_need) (as := [.int 59]) rfl bm_X6_need q2678 q2680 qs91 (Nat.le_of_ble_eq_true rfl) dX6_member_348 (mt_X6_need (mm_k2i h (fun v5 μ4 h => ?_)))
  exact am_zret rfl h.1 dX6_member_351 ⟨_, _, rfl, rfl, h.2⟩
theorem W_X6_actOf_f {G : am_G} {ρ : mm_F} {d : Nat} {a1 : Int32} {a2 : Int32} {a3 : Int32} {μ : mm_S} {Q : Int32 → mm_S → Prop} (h : B_X6_actOf_3 G ρ (d + 1) a1 a2 a3 0 μ Q) : W_X6_actOf G ρ (d + 1) a1 a2 a3 μ Q := by
  unfold W_X6_actOf
  refine am_iconst (v := 0) dX6_actOf_0 (by decide) ?_
  refine am_istore (L' := [(8, .int 0), (0, va_rf (some ρ.1)), (2, .int a1), (4, .int a2), (6, .int a3)]) dX6_actOf_1 (Nat.le_of_ble_eq_true rfl) rfl ?_
  exact am_lss h rfl
theorem B_X6_actOf_3_f {G : am_G} {ρ : mm_F} {d : Nat} {x1 : Int32} {x2 : Int32} {x3 : Int32} {x4 : Int32} {μ : mm_S} {Q : Int32 → mm_S → Prop} (h : W_X6_get G ρ d x1 x2 39 μ (fun v2 μ1 => ((v2 ≤ x4 → Q (-1) μ1) ∧ (¬ v2 ≤ x4 → W_X6_get G ρ d x1 x2 (40 + x4) μ1 (fun v4 μ3 => ((¬ v4 = x3 → B_X6_actOf_3 G ρ (d + 1) x1 x2 x3 (x4 + 1) μ3 Q) ∧ (v4 = x3 → Q x4 μ3))))))) : B_X6_actOf_3 G ρ (d + 1) x1 x2 x3 x4 μ Q := by
  unfold B_X6_actOf_3
  refine am_iload (x := x4) dX6_actOf_3 rfl ?_
  refine am_aloadr_n (x := some ρ.1) dX6_actOf_5 rfl rfl ?_
  refine am_iload_n (x := x1) dX6_actOf_6 rfl rfl ?_
  refine am_iload_n (x := x2) dX6_actOf_7 rfl rfl ?_
  refine am_bipush (v := 39) dX6_actOf_8 (by decide) ?_
  refine mm_callV (Mc := m_X6_get) (as := [.int x1, .int x2, .int 39]) rfl bm_X6_get q2666 q2668 qs88 (Nat.le_of_ble_eq_true rfl) dX6_actOf_10 (mt_X6_get (mm_k2i h (fun v2 μ1 h => ?_)))
  refine am_icmp_ge (tgt := 40) dX6_actOf_13 (by decide) (fun c => ?_) (fun c => ?_)
  · have h := h.1 c
    refine am_iconst (v := (-1)) dX6_actOf_40 (by decide) ?_
    exact am_iret rfl dX6_actOf_41 ⟨_, _, rfl, rfl, h⟩
  · have h := h.2 c
    refine am_aloadr_n (x := some ρ.1) dX6_actOf_16 rfl rfl ?_
    refine am_iload_n (x := x1) dX6_actOf_17 rfl rfl ?_
    refine am_iload_n (x := x2) dX6_actOf_18 rfl rfl ?_
    refine am_bipush (v := 40) dX6_actOf_19 (by decide) ?_
    refine am_iload (x := x4) dX6_actOf_21 rfl ?_
    refine am_iadd dX6_actOf_23 ?_
    refine mm_callV (Mc := m_X6_get) (as := [.int x1, .int x2, .int (40 + x4)]) rfl bm_X6_get q2666 q2668 qs88 (Nat.le_of_ble_eq_true rfl) dX6_actOf_24 (mt_X6_get (mm_k2i h (fun v4 μ3 h => ?_)))
    refine am_iload_n (x := x3) dX6_actOf_27 rfl rfl ?_
    refine am_icmp_ne (tgt := 34) dX6_actOf_28 (by decide) (fun c => ?_) (fun c => ?_)
    · have h := h.1 c
      refine am_iinc (x := x4) (v := (x4 + 1)) (L' := [(8, .int (x4 + 1)), (0, va_rf (some ρ.1)), (2, .int x1), (4, .int x2), (6, .int x3)]) dX6_actOf_34 rfl rfl (Nat.le_of_ble_eq_true rfl) rfl ?_
      refine am_goto (tgt := 3) dX6_actOf_37 (by decide) ?_
      exact am_lss h rfl
    · have h := h.2 c
      refine am_iload (x := x4) dX6_actOf_31 rfl ?_
      exact am_iret rfl dX6_actOf_33 ⟨_, _, rfl, rfl, h⟩
theorem W_X6_hasOwn_f {G : am_G} {ρ : mm_F} {d : Nat} {a1 : Int32} {a2 : Int32} {a3 : Int32} {μ : mm_S} {Q : Int32 → mm_S → Prop} (h : W_X6_field G ρ d a1 a2 a3 μ (fun v2 μ1 => ((¬ v2 = (-1) → Q 1 μ1) ∧ (v2 = (-1) → W_X6_fixedOf G ρ d a1 a2 a3 μ1 (fun v4 μ3 => ((v4 = (-1) → Q 0 μ3) ∧ (¬ v4 = (-1) → Q 1 μ3))))))) : W_X6_hasOwn G ρ (d + 1) a1 a2 a3 μ Q := by
  unfold W_X6_hasOwn
  refine am_aloadr_n (x := some ρ.1) dX6_hasOwn_0 rfl rfl ?_
  refine am_iload_n (x := a1) dX6_hasOwn_1 rfl rfl ?_
  refine am_iload_n (x := a2) dX6_hasOwn_2 rfl rfl ?_
  refine am_iload_n (x := a3) dX6_hasOwn_3 rfl rfl ?_
  refine mm_callV (Mc := m_X6_field) (as := [.int a1, .int a2, .int a3]) rfl bm_X6_field q2698 q2700 qs96 (Nat.le_of_ble_eq_true rfl) dX6_hasOwn_4 (mt_X6_field (mm_k2i h (fun v2 μ1 h => ?_)))
  refine am_iconst (v := (-1)) dX6_hasOwn_7 (by decide) ?_
  refine am_icmp_ne (tgt := 22) dX6_hasOwn_8 (by decide) (fun c => ?_) (fun c => ?_)
  · have h := h.1 c
    refine am_iconst (v := 1) dX6_hasOwn_22 (by decide) ?_
    refine am_goto (tgt := 27) dX6_hasOwn_23 (by decide) ?_
    exact am_zret rfl rfl dX6_hasOwn_27 ⟨_, _, rfl, rfl, h⟩
  · have h := h.2 c
    refine am_aloadr_n (x := some ρ.1) dX6_hasOwn_11 rfl rfl ?_
    refine am_iload_n (x := a1) dX6_hasOwn_12 rfl rfl ?_
    refine am_iload_n (x := a2) dX6_hasOwn_13 rfl rfl ?_
    refine am_iload_n (x := a3) dX6_hasOwn_14 rfl rfl ?_
    refine mm_callV (Mc := m_X6_fixedOf) (as := [.int a1, .int a2, .int a3]) rfl bm_X6_fixedOf q2702 q2704 qs97 (Nat.le_of_ble_eq_true rfl) dX6_hasOwn_15 (mt_X6_fixedOf (mm_k2i h (fun v4 μ3 h => ?_)))
    refine am_iconst (v := (-1)) dX6_hasOwn_18 (by decide) ?_
    refine am_icmp_eq (tgt := 26) dX6_hasOwn_19 (by decide) (fun c => ?_) (fun c => ?_)
    · have h := h.1 c
      refine am_iconst (v := 0) dX6_hasOwn_26 (by decide) ?_
      exact am_zret rfl rfl dX6_hasOwn_27 ⟨_, _, rfl, rfl, h⟩
    · have h := h.2 c
      refine am_iconst (v := 1) dX6_hasOwn_22 (by decide) ?_
      refine am_goto (tgt := 27) dX6_hasOwn_23 (by decide) ?_
      exact am_zret rfl rfl dX6_hasOwn_27 ⟨_, _, rfl, rfl, h⟩
theorem W_X6_field_f {G : am_G} {ρ : mm_F} {d : Nat} {a1 : Int32} {a2 : Int32} {a3 : Int32} {μ : mm_S} {Q : Int32 → mm_S → Prop} (h : B_X6_field_3 G ρ (d + 1) a1 a2 a3 0 μ Q) : W_X6_field G ρ (d + 1) a1 a2 a3 μ Q := by
  unfold W_X6_field
  refine am_iconst (v := 0) dX6_field_0 (by decide) ?_
  refine am_istore (L' := [(8, .int 0), (0, va_rf (some ρ.1)), (2, .int a1), (4, .int a2), (6, .int a3)]) dX6_field_1 (Nat.le_of_ble_eq_true rfl) rfl ?_
  exact am_lss h rfl
theorem B_X6_field_3_f {G : am_G} {ρ : mm_F} {d : Nat} {x1 : Int32} {x2 : Int32} {x3 : Int32} {x4 : Int32} {μ : mm_S} {Q : Int32 → mm_S → Prop} (h : W_X6_get G ρ d x1 x2 5 μ (fun v2 μ1 => ((v2 ≤ x4 → Q (-1) μ1) ∧ (¬ v2 ≤ x4 → W_X6_get G ρ d x1 x2 (6 + x4) μ1 (fun v4 μ3 => ((¬ v4 = x3 → B_X6_field_3 G ρ (d + 1) x1 x2 x3 (x4 + 1) μ3 Q) ∧ (v4 = x3 → Q x4 μ3))))))) : B_X6_field_3 G ρ (d + 1) x1 x2 x3 x4 μ Q := by
  unfold B_X6_field_3
  refine am_iload (x := x4) dX6_field_3 rfl ?_
  refine am_aloadr_n (x := some ρ.1) dX6_field_5 rfl rfl ?_
  refine am_iload_n (x := x1) dX6_field_6 rfl rfl ?_
  refine am_iload_n (x := x2) dX6_field_7 rfl rfl ?_
  refine am_iconst (v := 5) dX6_field_8 (by decide) ?_
  refine mm_callV (Mc := m_X6_get) (as := [.int x1, .int x2, .int 5]) rfl bm_X6_get q2666 q2668 qs88 (Nat.le_of_ble_eq_true rfl) dX6_field_9 (mt_X6_get (mm_k2i h (fun v2 μ1 h => ?_)))
  refine am_icmp_ge (tgt := 39) dX6_field_12 (by decide) (fun c => ?_) (fun c => ?_)
  · have h := h.1 c
    refine am_iconst (v := (-1)) dX6_field_39 (by decide) ?_
    exact am_iret rfl dX6_field_40 ⟨_, _, rfl, rfl, h⟩
  · have h := h.2 c
    refine am_aloadr_n (x := some ρ.1) dX6_field_15 rfl rfl ?_
    refine am_iload_n (x := x1) dX6_field_16 rfl rfl ?_
    refine am_iload_n (x := x2) dX6_field_17 rfl rfl ?_
    refine am_bipush (v := 6) dX6_field_18 (by decide) ?_
    refine am_iload (x := x4) dX6_field_20 rfl ?_
    refine am_iadd dX6_field_22 ?_
    refine mm_callV (Mc := m_X6_get) (as := [.int x1, .int x2, .int (6 + x4)]) rfl bm_X6_get q2666 q2668 qs88 (Nat.le_of_ble_eq_true rfl) dX6_field_23 (mt_X6_get (mm_k2i h (fun v4 μ3 h => ?_)))
    refine am_iload_n (x := x3) dX6_field_26 rfl rfl ?_
    refine am_icmp_ne (tgt := 33) dX6_field_27 (by decide) (fun c => ?_) (fun c => ?_)
    · have h := h.1 c
      refine am_iinc (x := x4) (v := (x4 + 1)) (L' := [(8, .int (x4 + 1)), (0, va_rf (some ρ.1)), (2, .int x1), (4, .int x2), (6, .int x3)]) dX6_field_33 rfl rfl (Nat.le_of_ble_eq_true rfl) rfl ?_
      refine am_goto (tgt := 3) dX6_field_36 (by decide) ?_
      exact am_lss h rfl
    · have h := h.2 c
      refine am_iload (x := x4) dX6_field_30 rfl ?_
      exact am_iret rfl dX6_field_32 ⟨_, _, rfl, rfl, h⟩
theorem W_X6_fixedOf_f {G : am_G} {ρ : mm_F} {d : Nat} {a1 : Int32} {a2 : Int32} {a3 : Int32} {μ : mm_S} {Q : Int32 → mm_S → Prop} (h : B_X6_fixedOf_3 G ρ (d + 1) a1 a2 a3 0 μ Q) : W_X6_fixedOf G ρ (d + 1) a1 a2 a3 μ Q := by
  unfold W_X6_fixedOf
  refine am_iconst (v := 0) dX6_fixedOf_0 (by decide) ?_
  refine am_istore (L' := [(8, .int 0), (0, va_rf (some ρ.1)), (2, .int a1), (4, .int a2), (6, .int a3)]) dX6_fixedOf_1 (Nat.le_of_ble_eq_true rfl) rfl ?_
  exact am_lss h rfl
theorem B_X6_fixedOf_3_f {G : am_G} {ρ : mm_F} {d : Nat} {x1 : Int32} {x2 : Int32} {x3 : Int32} {x4 : Int32} {μ : mm_S} {Q : Int32 → mm_S → Prop} (h : W_X6_get G ρ d x1 x2 30 μ (fun v2 μ1 => ((v2 ≤ x4 → Q (-1) μ1) ∧ (¬ v2 ≤ x4 → W_X6_get G ρ d x1 x2 (31 + x4) μ1 (fun v4 μ3 => ((¬ v4 = x3 → B_X6_fixedOf_3 G ρ (d + 1) x1 x2 x3 (x4 + 1) μ3 Q) ∧ (v4 = x3 → Q x4 μ3))))))) : B_X6_fixedOf_3 G ρ (d + 1) x1 x2 x3 x4 μ Q := by
  unfold B_X6_fixedOf_3
  refine am_iload (x := x4) dX6_fixedOf_3 rfl ?_
  refine am_aloadr_n (x := some ρ.1) dX6_fixedOf_5 rfl rfl ?_
  refine am_iload_n (x := x1) dX6_fixedOf_6 rfl rfl ?_
  refine am_iload_n (x := x2) dX6_fixedOf_7 rfl rfl ?_
  refine am_bipush (v := 30) dX6_fixedOf_8 (by decide) ?_
  refine mm_callV (Mc := m_X6_get) (as := [.int x1, .int x2, .int 30]) rfl bm_X6_get q2666 q2668 qs88 (Nat.le_of_ble_eq_true rfl) dX6_fixedOf_10 (mt_X6_get (mm_k2i h (fun v2 μ1 h => ?_)))
  refine am_icmp_ge (tgt := 40) dX6_fixedOf_13 (by decide) (fun c => ?_) (fun c => ?_)
  · have h := h.1 c
    refine am_iconst (v := (-1)) dX6_fixedOf_40 (by decide) ?_
    exact am_iret rfl dX6_fixedOf_41 ⟨_, _, rfl, rfl, h⟩
  · have h := h.2 c
    refine am_aloadr_n (x := some ρ.1) dX6_fixedOf_16 rfl rfl ?_
    refine am_iload_n (x := x1) dX6_fixedOf_17 rfl rfl ?_
    refine am_iload_n (x := x2) dX6_fixedOf_18 rfl rfl ?_
    refine am_bipush (v := 31) dX6_fixedOf_19 (by decide) ?_
    refine am_iload (x := x4) dX6_fixedOf_21 rfl ?_
    refine am_iadd dX6_fixedOf_23 ?_
    refine mm_callV (Mc := m_X6_get) (as := [.int x1, .int x2, .int (31 + x4)]) rfl bm_X6_get q2666 q2668 qs88 (Nat.le_of_ble_eq_true rfl) dX6_fixedOf_24 (mt_X6_get (mm_k2i h (fun v4 μ3 h => ?_)))
    refine am_iload_n (x := x3) dX6_fixedOf_27 rfl rfl ?_
    refine am_icmp_ne (tgt := 34) dX6_fixedOf_28 (by decide) (fun c => ?_) (fun c => ?_)
    · have h := h.1 c
      refine am_iinc (x := x4) (v := (x4 + 1)) (L' := [(8, .int (x4 + 1)), (0, va_rf (some ρ.1)), (2, .int x1), (4, .int x2), (6, .int x3)]) dX6_fixedOf_34 rfl rfl (Nat.le_of_ble_eq_true rfl) rfl ?_
      refine am_goto (tgt := 3) dX6_fixedOf_37 (by decide) ?_
      exact am_lss h rfl
    · have h := h.2 c
      refine am_iload (x := x4) dX6_fixedOf_31 rfl ?_
      exact am_iret rfl dX6_fixedOf_33 ⟨_, _, rfl, rfl, h⟩
theorem W_X6_isAbove_f {G : am_G} {ρ : mm_F} {d : Nat} {a1 : Int32} {a2 : Int32} {a3 : Int32} {μ : mm_S} {Q : Int32 → mm_S → Prop} (h : W_X6_get G ρ d a1 a2 1 μ (fun v2 μ1 => B_X6_isAbove_9 G ρ (d + 1) a1 a3 v2 μ1 Q)) : W_X6_isAbove G ρ (d + 1) a1 a2 a3 μ Q := by
  unfold W_X6_isAbove
  refine am_aloadr_n (x := some ρ.1) dX6_isAbove_0 rfl rfl ?_
  refine am_iload_n (x := a1) dX6_isAbove_1 rfl rfl ?_
  refine am_iload_n (x := a2) dX6_isAbove_2 rfl rfl ?_
  refine am_iconst (v := 1) dX6_isAbove_3 (by decide) ?_
  refine mm_callV (Mc := m_X6_get) (as := [.int a1, .int a2, .int 1]) rfl bm_X6_get q2666 q2668 qs88 (Nat.le_of_ble_eq_true rfl) dX6_isAbove_4 (mt_X6_get (mm_k2i h (fun v2 μ1 h => ?_)))
  refine am_istore (L' := [(8, .int v2), (0, va_rf (some ρ.1)), (2, .int a1), (4, .int a2), (6, .int a3)]) dX6_isAbove_7 (Nat.le_of_ble_eq_true rfl) rfl ?_
  exact am_lss h rfl
theorem B_X6_isAbove_9_f {G : am_G} {ρ : mm_F} {d : Nat} {x1 : Int32} {x3 : Int32} {x4 : Int32} {μ : mm_S} {Q : Int32 → mm_S → Prop} (h : ((x4 = (-1) → Q 0 μ) ∧ (¬ x4 = (-1) → W_X6_hasOwn G ρ d x1 x4 x3 μ (fun v2 μ1 => ((v2 = 0 → W_X6_get G ρ d x1 x4 1 μ1 (fun v4 μ3 => B_X6_isAbove_9 G ρ (d + 1) x1 x3 v4 μ3 Q)) ∧ (¬ v2 = 0 → Q 1 μ1)))))) : B_X6_isAbove_9 G ρ (d + 1) x1 x3 x4 μ Q := by
  unfold B_X6_isAbove_9
  refine am_iload (x := x4) dX6_isAbove_9 rfl ?_
  refine am_iconst (v := (-1)) dX6_isAbove_11 (by decide) ?_
  refine am_icmp_eq (tgt := 41) dX6_isAbove_12 (by decide) (fun c => ?_) (fun c => ?_)
  · have h := h.1 c
    refine am_iconst (v := 0) dX6_isAbove_41 (by decide) ?_
    exact am_zret rfl rfl dX6_isAbove_42 ⟨_, _, rfl, rfl, h⟩
  · have h := h.2 c
    refine am_aloadr_n (x := some ρ.1) dX6_isAbove_15 rfl rfl ?_
    refine am_iload_n (x := x1) dX6_isAbove_16 rfl rfl ?_
    refine am_iload (x := x4) dX6_isAbove_17 rfl ?_
    refine am_iload_n (x := x3) dX6_isAbove_19 rfl rfl ?_
    refine mm_callV (Mc := m_X6_hasOwn) (as := [.int x1, .int x4, .int x3]) rfl bm_X6_hasOwn q2694 q2696 qs95 (Nat.le_of_ble_eq_true rfl) dX6_isAbove_20 (mt_X6_hasOwn (mm_k2i h (fun v2 μ1 h => ?_)))
    refine am_if_eq (tgt := 28) dX6_isAbove_23 (by decide) (fun c => ?_) (fun c => ?_)
    · have h := h.1 c
      refine am_aloadr_n (x := some ρ.1) dX6_isAbove_28 rfl rfl ?_
      refine am_iload_n (x := x1) dX6_isAbove_29 rfl rfl ?_
      refine am_iload (x := x4) dX6_isAbove_30 rfl ?_
      refine am_iconst (v := 1) dX6_isAbove_32 (by decide) ?_
      refine mm_callV (Mc := m_X6_get) (as := [.int x1, .int x4, .int 1]) rfl bm_X6_get q2666 q2668 qs88 (Nat.le_of_ble_eq_true rfl) dX6_isAbove_33 (mt_X6_get (mm_k2i h (fun v4 μ3 h => ?_)))
      refine am_istore (L' := [(8, .int v4), (0, va_rf (some ρ.1)), (2, .int x1), (6, .int x3)]) dX6_isAbove_36 (Nat.le_of_ble_eq_true rfl) rfl ?_
      refine am_goto (tgt := 9) dX6_isAbove_38 (by decide) ?_
      exact am_lss h rfl
    · have h := h.2 c
      refine am_iconst (v := 1) dX6_isAbove_26 (by decide) ?_
      exact am_zret rfl rfl dX6_isAbove_27 ⟨_, _, rfl, rfl, h⟩
theorem W_X6_block_f {G : am_G} {ρ : mm_F} {d : Nat} {a1 : Int32} {μ : mm_S} {Q : Int32 → mm_S → Prop} (h : W_X6_need G ρ d 123 μ (fun v2 μ1 => ((¬ v2 = 0 → B_X6_block_15 G ρ (d + 1) a1 (-1) (-1) μ1 Q) ∧ (v2 = 0 → Q 0 μ1)))) : W_X6_block G ρ (d + 1) a1 μ Q := by
  unfold W_X6_block
  refine am_aloadr_n (x := some ρ.1) dX6_block_0 rfl rfl ?_
  refine am_bipush (v := 123) dX6_block_1 (by decide) ?_
  refine mm_callV (Mc := m_X6_need) (as := [.int 123]) rfl bm_X6_need q2678 q2680 qs91 (Nat.le_of_ble_eq_true rfl) dX6_block_3 (mt_X6_need (mm_k2i h (fun v2 μ1 h => ?_)))
  refine am_if_ne (tgt := 11) dX6_block_6 (by decide) (fun c => ?_) (fun c => ?_)
  · have h := h.1 c
    refine am_iconst (v := (-1)) dX6_block_11 (by decide) ?_
    refine am_istore_n (L' := [(4, .int (-1)), (0, va_rf (some ρ.1)), (2, .int a1)]) dX6_block_12 rfl (Nat.le_of_ble_eq_true rfl) rfl ?_
    refine am_iconst (v := (-1)) dX6_block_13 (by decide) ?_
    refine am_istore_n (L' := [(6, .int (-1)), (4, .int (-1)), (0, va_rf (some ρ.1)), (2, .int a1)]) dX6_block_14 rfl (Nat.le_of_ble_eq_true rfl) rfl ?_
    exact am_lss h rfl
  · have h := h.2 c
    refine am_iconst (v := 0) dX6_block_9 (by decide) ?_
    exact am_zret rfl rfl dX6_block_10 ⟨_, _, rfl, rfl, h⟩
theorem B_X6_block_15_f {G : am_G} {ρ : mm_F} {d : Nat} {x1 : Int32} {x2 : Int32} {x3 : Int32} {μ : mm_S} {Q : Int32 → mm_S → Prop} (h : W_X6_isSign G ρ d 125 μ (fun v2 μ1 => ((¬ v2 = 0 → W_X6_look0 G ρ d μ1 (fun μ3 => (∀ μ4 : mm_S, μ4 = mm_sI μ3 21 x2 → (Q 1 μ4)))) ∧ (v2 = 0 → W_X6_statement G ρ d x1 μ1 (fun v6 μ5 => ((¬ v6 = 0 → ((¬ x2 = (-1) → W_X6_link G ρ d x3 (mI μ5 22) μ5 (fun μ7 => B_X6_block_15 G ρ (d + 1) x1 x2 (mI μ7 22) μ7 Q)) ∧ (x2 = (-1) → B_X6_block_15 G ρ (d + 1) x1 (mI μ5 22) (mI μ5 22) μ5 Q))) ∧ (v6 = 0 → Q 0 μ5))))))) : B_X6_block_15 G ρ (d + 1) x1 x2 x3 μ Q := by
  unfold B_X6_block_15
  refine am_aloadr_n (x := some ρ.1) dX6_block_15 rfl rfl ?_
  refine am_bipush (v := 125) dX6_block_16 (by decide) ?_
  refine mm_callV (Mc := m_X6_isSign) (as := [.int 125]) rfl bm_X6_isSign q2682 q2684 qs92 (Nat.le_of_ble_eq_true rfl) dX6_block_18 (mt_X6_isSign (mm_k2i h (fun v2 μ1 h => ?_)))
  refine am_if_ne (tgt := 64) dX6_block_21 (by decide) (fun c => ?_) (fun c => ?_)
  · have h := h.1 c
    refine am_aloadr_n (x := some ρ.1) dX6_block_64 rfl rfl ?_
    refine mm_callV (Mc := m_X6_look0) (as := []) rfl bm_X6_look0 q2625 q2627 qs80 (Nat.le_of_ble_eq_true rfl) dX6_block_65 (mt_X6_look0 (mm_k2v h (fun μ3 h => ?_)))
    refine am_aloadr_n (x := some ρ.1) dX6_block_68 rfl rfl ?_
    refine am_iload_n (x := x2) dX6_block_69 rfl rfl ?_
    refine mm_pI (k := 21) rfl rfl rfl (by decide) q2340 rfl dX6_block_70 ?_
    generalize eμ4 : mm_sI μ3 21 x2 = μ4
    have h := h μ4 eμ4.symm
    refine am_iconst (v := 1) dX6_block_73 (by decide) ?_
    exact am_zret rfl rfl dX6_block_74 ⟨_, _, rfl, rfl, h⟩
  · have h := h.2 c
    refine am_aloadr_n (x := some ρ.1) dX6_block_24 rfl rfl ?_
    refine am_iload_n (x := x1) dX6_block_25 rfl rfl ?_
    refine mm_callV (Mc := m_X6_statement) (as := [.int x1]) rfl bm_X6_statement q2714 q2716 qs100 (Nat.le_of_ble_eq_true rfl) dX6_block_26 (mt_X6_statement (mm_k2i h (fun v6 μ5 h => ?_)))
    refine am_if_ne (tgt := 34) dX6_block_29 (by decide) (fun c => ?_) (fun c => ?_)
    · have h := h.1 c
      refine am_iload_n (x := x2) dX6_block_34 rfl rfl ?_
      refine am_iconst (v := (-1)) dX6_block_35 (by decide) ?_
      refine am_icmp_ne (tgt := 47) dX6_block_36 (by decide) (fun c => ?_) (fun c => ?_)
      · have h := h.1 c
        refine am_aloadr_n (x := some ρ.1) dX6_block_47 rfl rfl ?_
        refine am_iload_n (x := x3) dX6_block_48 rfl rfl ?_
        refine am_aloadr_n (x := some ρ.1) dX6_block_49 rfl rfl ?_
        refine mm_gI (k := 22) rfl (Or.inl rfl) (by decide) q2341 dX6_block_50 ?_
        refine mm_callV (Mc := m_X6_link) (as := [.int x3, .int (mI μ5 22)]) rfl bm_X6_link q2746 q2748 qs108 (Nat.le_of_ble_eq_true rfl) dX6_block_53 (mt_X6_link (mm_k2v h (fun μ7 h => ?_)))
        refine am_aloadr_n (x := some ρ.1) dX6_block_56 rfl rfl ?_
        refine mm_gI (k := 22) rfl (Or.inl rfl) (by decide) q2341 dX6_block_57 ?_
        refine am_istore_n (L' := [(6, .int (mI μ7 22)), (0, va_rf (some ρ.1)), (2, .int x1), (4, .int x2)]) dX6_block_60 rfl (Nat.le_of_ble_eq_true rfl) rfl ?_
        refine am_goto (tgt := 15) dX6_block_61 (by decide) ?_
        exact am_lss h rfl
      · have h := h.2 c
        refine am_aloadr_n (x := some ρ.1) dX6_block_39 rfl rfl ?_
        refine mm_gI (k := 22) rfl (Or.inl rfl) (by decide) q2341 dX6_block_40 ?_
        refine am_istore_n (L' := [(4, .int (mI μ5 22)), (0, va_rf (some ρ.1)), (2, .int x1), (6, .int x3)]) dX6_block_43 rfl (Nat.le_of_ble_eq_true rfl) rfl ?_
        refine am_goto (tgt := 56) dX6_block_44 (by decide) ?_
        refine am_aloadr_n (x := some ρ.1) dX6_block_56 rfl rfl ?_
        refine mm_gI (k := 22) rfl (Or.inl rfl) (by decide) q2341 dX6_block_57 ?_
        refine am_istore_n (L' := [(6, .int (mI μ5 22)), (4, .int (mI μ5 22)), (0, va_rf (some ρ.1)), (2, .int x1)]) dX6_block_60 rfl (Nat.le_of_ble_eq_true rfl) rfl ?_
        refine am_goto (tgt := 15) dX6_block_61 (by decide) ?_
        exact am_lss h rfl
    · have h := h.2 c
      refine am_iconst (v := 0) dX6_block_32 (by decide) ?_
      exact am_zret rfl rfl dX6_block_33 ⟨_, _, rfl, rfl, h⟩
theorem W_X6_statement_f {G : am_G} {ρ : mm_F} {d : Nat} {a1 : Int32} {μ : mm_S} {Q : Int32 → mm_S → Prop} (h : (((mI μ 3) = 2 → B_X6_statement_26 G ρ (d + 1) a1 (mI μ 3) 1 μ Q) ∧ (¬ (mI μ 3) = 2 → W_X6_isIn G ρ d (mI μ 3) 106 112 μ (fun v2 μ1 => ((v2 = 0 → B_X6_statement_26 G ρ (d + 1) a1 (mI μ 3) 0 μ1 Q) ∧ (¬ v2 = 0 → B_X6_statement_26 G ρ (d + 1) a1 (mI μ 3) 1 μ1 Q)))))) : W_X6_statement G ρ (d + 1) a1 μ Q := by
  unfold W_X6_statement
  refine am_aloadr_n (x := some ρ.1) dX6_statement_0 rfl rfl ?_
  refine mm_gI (k := 3) rfl (Or.inl rfl) (by decide) q2322 dX6_statement_1 ?_
  refine am_istore_n (L' := [(4, .int (mI μ 3)), (0, va_rf (some ρ.1)), (2, .int a1)]) dX6_statement_4 rfl (Nat.le_of_ble_eq_true rfl) rfl ?_
  refine am_iload_n (x := (mI μ 3)) dX6_statement_5 rfl rfl ?_
  refine am_iconst (v := 2) dX6_statement_6 (by decide) ?_
  refine am_icmp_eq (tgt := 21) dX6_statement_7 (by decide) (fun c => ?_) (fun c => ?_)
  · have h := h.1 c
    refine am_iconst (v := 1) dX6_statement_21 (by decide) ?_
    refine am_goto (tgt := 26) dX6_statement_22 (by decide) ?_
    exact am_lss h rfl
  · have h := h.2 c
    refine am_iload_n (x := (mI μ 3)) dX6_statement_10 rfl rfl ?_
    refine am_bipush (v := 106) dX6_statement_11 (by decide) ?_
    refine am_bipush (v := 112) dX6_statement_13 (by decide) ?_
    refine mm_callS (Mc := m_X6_isIn) (as := [.int (mI μ 3), .int 106, .int 112]) rfl bm_X6_isIn q2636 q2637 (Nat.le_of_ble_eq_true rfl) dX6_statement_15 (mt_X6_isIn (mm_k2i h (fun v2 μ1 h => ?_)))
    refine am_if_eq (tgt := 25) dX6_statement_18 (by decide) (fun c => ?_) (fun c => ?_)
    · have h := h.1 c
      refine am_iconst (v := 0) dX6_statement_25 (by decide) ?_
      exact am_lss h rfl
    · have h := h.2 c
      refine am_iconst (v := 1) dX6_statement_21 (by decide) ?_
      refine am_goto (tgt := 26) dX6_statement_22 (by decide) ?_
      exact am_lss h rfl
theorem B_X6_statement_26_f {G : am_G} {ρ : mm_F} {d : Nat} {x1 : Int32} {x2 : Int32} {s0 : Int32} {μ : mm_S} {Q : Int32 → mm_S → Prop} (h : ((¬ s0 = 0 → ((¬ x2 = 111 → B_X6_statement_53 G ρ (d + 1) x2 μ Q) ∧ (x2 = 111 → ((¬ x1 = 0 → B_X6_statement_53 G ρ (d + 1) x2 μ Q) ∧ (x1 = 0 → W_X6_bad G ρ d 2 μ (fun v2 μ1 => (narrow .boolean (.int v2) = .int v2 ∧ Q v2 μ1))))))) ∧ (s0 = 0 → W_X6_bad G ρ d 1 μ (fun v4 μ3 => (narrow .boolean (.int v4) = .int v4 ∧ Q v4 μ3))))) : B_X6_statement_26 G ρ (d + 1) x1 x2 s0 μ Q := by
  unfold B_X6_statement_26
  refine am_istore_n (L' := [(6, .int s0), (0, va_rf (some ρ.1)), (2, .int x1), (4, .int x2)]) dX6_statement_26 rfl (Nat.le_of_ble_eq_true rfl) rfl ?_
  refine am_iload_n (x := s0) dX6_statement_27 rfl rfl ?_
  refine am_if_ne (tgt := 37) dX6_statement_28 (by decide) (fun c => ?_) (fun c => ?_)
  · have h := h.1 c
    refine am_iload_n (x := x2) dX6_statement_37 rfl rfl ?_
    refine am_bipush (v := 111) dX6_statement_38 (by decide) ?_
    refine am_icmp_ne (tgt := 53) dX6_statement_40 (by decide) (fun c => ?_) (fun c => ?_)
    · have h := h.1 c
      exact am_lss h rfl
    · have h := h.2 c
      refine am_iload_n (x := x1) dX6_statement_43 rfl rfl ?_
      refine am_if_ne (tgt := 53) dX6_statement_44 (by decide) (fun c => ?_) (fun c => ?_)
      · have h := h.1 c
        exact am_lss h rfl
      · have h := h.2 c
        refine am_aloadr_n (x := some ρ.1) dX6_statement_47 rfl rfl ?_
        refine am_iconst (v := 2) dX6_statement_48 (by decide) ?_
        refine mm_callV (Mc := m_X6_bad) (as := [.int 2]) rfl bm_X6_bad q2646 q2648 qs83 (Nat.le_of_ble_eq_true rfl) dX6_statement_49 (mt_X6_bad (mm_k2i h (fun v2 μ1 h => ?_)))
        exact am_zret rfl h.1 dX6_statement_52 ⟨_, _, rfl, rfl, h.2⟩
  · have h := h.2 c
    refine am_aloadr_n (x := some ρ.1) dX6_statement_31 rfl rfl ?_
    refine am_iconst (v := 1) dX6_statement_32 (by decide) ?_
    refine mm_callV (Mc := m_X6_bad) (as := [.int 1]) rfl bm_X6_bad q2646 q2648 qs83 (Nat.le_of_ble_eq_true rfl) dX6_statement_33 (mt_X6_bad (mm_k2i h (fun v4 μ3 h => ?_)))
    exact am_zret rfl h.1 dX6_statement_36 ⟨_, _, rfl, rfl, h.2⟩
theorem B_X6_statement_53_f {G : am_G} {ρ : mm_F} {d : Nat} {x2 : Int32} {μ : mm_S} {Q : Int32 → mm_S → Prop} (h : ((¬ (mI μ 20) = 60 → (∀ μ1 : mm_S, μ1 = mm_sI μ 20 ((mI μ 20) + 1) → (((¬ x2 = 112 → ((¬ x2 = 2 → W_X6_look0 G ρ d μ1 (fun μ2 => ((x2 = 106 → B_X6_statement_167 G ρ (d + 1) x2 μ2 Q) ∧ (¬ x2 = 106 → ((¬ x2 = 107 → ((x2 = 109 → B_X6_statement_218 G ρ (d + 1) x2 μ2 Q) ∧ (¬ x2 = 109 → ((¬ x2 = 110 → ((¬ x2 = 108 → B_X6_statement_294 G ρ (d + 1) 26 μ2 Q) ∧ (x2 = 108 → B_X6_statement_294 G ρ (d + 1) 23 μ2 Q))) ∧ (x2 = 110 → B_X6_statement_218 G ρ (d + 1) x2 μ2 Q))))) ∧ (x2 = 107 → B_X6_statement_167 G ρ (d + 1) x2 μ2 Q)))))) ∧ (x2 = 2 → W_X6_named G ρ d μ1 (fun v4 μ3 => ((¬ v4 = 0 → W_X6_need G ρ d 61 μ3 (fun v6 μ5 => ((v6 = 0 → Q 0 μ5) ∧ (¬ v6 = 0 → W_X6_expression G ρ d μ5 (fun v8 μ7 => ((¬ v8 = 0 → W_X6_node G ρ d 20 (mI μ3 17) (mI μ7 19) 0 μ7 (fun v10 μ9 => (∀ μ11 : mm_S, μ11 = mm_sI μ9 22 v10 → (W_X6_need G ρ d 59 μ11 (fun v13 μ12 => (narrow .boolean (.int v13) = .int v13 ∧ Q v13 μ12)))))) ∧ (v8 = 0 → Q 0 μ7))))))) ∧ (v4 = 0 → Q 0 μ3)))))) ∧ (x2 = 112 → W_X6_asks G ρ d μ1 (fun v15 μ14 => (narrow .boolean (.int v15) = .int v15 ∧ Q v15 μ14))))))) ∧ ((mI μ 20) = 60 → W_X6_bad G ρ d 3 μ (fun v17 μ16 => (narrow .boolean (.int v17) = .int v17 ∧ Q v17 μ16))))) : B_X6_statement_53 G ρ (d + 1) x2 μ Q := by
  unfold B_X6_statement_53
  refine am_aloadr_n (x := some ρ.1) dX6_statement_53 rfl rfl ?_
  refine mm_gI (k := 20) rfl (Or.inl rfl) (by decide) q2339 dX6_statement_54 ?_
  refine am_bipush (v := 60) dX6_statement_57 (by decide) ?_
  refine am_icmp_ne (tgt := 68) dX6_statement_59 (by decide) (fun c => ?_) (fun c => ?_)
  · have h := h.1 c
    refine am_aloadr_n (x := some ρ.1) dX6_statement_68 rfl rfl ?_
    refine am_dup dX6_statement_69 (am_rf_cat _) ?_
    refine mm_gI (k := 20) rfl (Or.inl rfl) (by decide) q2339 dX6_statement_70 ?_
    refine am_iconst (v := 1) dX6_statement_73 (by decide) ?_
    refine am_iadd dX6_statement_74 ?_
    refine mm_pI (k := 20) rfl rfl rfl (by decide) q2339 rfl dX6_statement_75 ?_
    generalize eμ1 : mm_sI μ 20 ((mI μ 20) + 1) = μ1
    have h := h μ1 eμ1.symm
    refine am_iload_n (x := x2) dX6_statement_78 rfl rfl ?_
    refine am_bipush (v := 112) dX6_statement_79 (by decide) ?_
    refine am_icmp_ne (tgt := 89) dX6_statement_81 (by decide) (fun c => ?_) (fun c => ?_)
    · have h := h.1 c
      refine am_iload_n (x := x2) dX6_statement_89 rfl rfl ?_
      refine am_iconst (v := 2) dX6_statement_90 (by decide) ?_
      refine am_icmp_ne (tgt := 151) dX6_statement_91 (by decide) (fun c => ?_) (fun c => ?_)
      · have h := h.1 c
        refine am_aloadr_n (x := some ρ.1) dX6_statement_151 rfl rfl ?_
        refine mm_callV (Mc := m_X6_look0) (as := []) rfl bm_X6_look0 q2625 q2627 qs80 (Nat.le_of_ble_eq_true rfl) dX6_statement_152 (mt_X6_look0 (mm_k2v h (fun μ2 h => ?_)))
        refine am_iload_n (x := x2) dX6_statement_155 rfl rfl ?_
        refine am_bipush (v := 106) dX6_statement_156 (by decide) ?_
        refine am_icmp_eq (tgt := 167) dX6_statement_158 (by decide) (fun c => ?_) (fun c => ?_)
        · have h := h.1 c
          exact am_lss h rfl
        · have h := h.2 c
          refine am_iload_n (x := x2) dX6_statement_161 rfl rfl ?_
          refine am_bipush (v := 107) dX6_statement_162 (by decide) ?_
          refine am_icmp_ne (tgt := 206) dX6_statement_164 (by decide) (fun c => ?_) (fun c => ?_)
          · have h := h.1 c
            refine am_iload_n (x := x2) dX6_statement_206 rfl rfl ?_
            refine am_bipush (v := 109) dX6_statement_207 (by decide) ?_
            refine am_icmp_eq (tgt := 218) dX6_statement_209 (by decide) (fun c => ?_) (fun c => ?_)
            · have h := h.1 c
              exact am_lss h rfl
            · have h := h.2 c
              refine am_iload_n (x := x2) dX6_statement_212 rfl rfl ?_
              refine am_bipush (v := 110) dX6_statement_213 (by decide) ?_
              refine am_icmp_ne (tgt := 279) dX6_statement_215 (by decide) (fun c => ?_) (fun c => ?_)
              · have h := h.1 c
                refine am_aloadr_n (x := some ρ.1) dX6_statement_279 rfl rfl ?_
                refine am_aloadr_n (x := some ρ.1) dX6_statement_280 rfl rfl ?_
                refine am_iload_n (x := x2) dX6_statement_281 rfl rfl ?_
                refine am_bipush (v := 108) dX6_statement_282 (by decide) ?_
                refine am_icmp_ne (tgt := 292) dX6_statement_284 (by decide) (fun c => ?_) (fun c => ?_)
                · have h := h.1 c
                  refine am_bipush (v := 26) dX6_statement_292 (by decide) ?_
                  exact am_lss h rfl
                · have h := h.2 c
                  refine am_bipush (v := 23) dX6_statement_287 (by decide) ?_
                  refine am_goto (tgt := 294) dX6_statement_289 (by decide) ?_
                  exact am_lss h rfl
              · have h := h.2 c
                exact am_lss h rfl
          · have h := h.2 c
            exact am_lss h rfl
      · have h := h.2 c
        refine am_aloadr_n (x := some ρ.1) dX6_statement_94 rfl rfl ?_
        refine mm_callV (Mc := m_X6_named) (as := []) rfl bm_X6_named q2654 q2656 qs85 (Nat.le_of_ble_eq_true rfl) dX6_statement_95 (mt_X6_named (mm_k2i h (fun v4 μ3 h => ?_)))
        refine am_if_ne (tgt := 103) dX6_statement_98 (by decide) (fun c => ?_) (fun c => ?_)
        · have h := h.1 c
          refine am_aloadr_n (x := some ρ.1) dX6_statement_103 rfl rfl ?_
          refine mm_gI (k := 17) rfl (Or.inl rfl) (by decide) q2336 dX6_statement_104 ?_
          refine am_istore (L' := [(8, .int (mI μ3 17)), (0, va_rf (some ρ.1)), (4, .int x2)]) dX6_statement_107 (Nat.le_of_ble_eq_true rfl) rfl ?_
          refine am_aloadr_n (x := some ρ.1) dX6_statement_109 rfl rfl ?_
          refine am_bipush (v := 61) dX6_statement_110 (by decide) ?_
          refine mm_callV (Mc := m_X6_need) (as := [.int 61]) rfl bm_X6_need q2678 q2680 qs91 (Nat.le_of_ble_eq_true rfl) dX6_statement_112 (mt_X6_need (mm_k2i h (fun v6 μ5 h => ?_)))
          refine am_if_eq (tgt := 125) dX6_statement_115 (by decide) (fun c => ?_) (fun c => ?_)
          · have h := h.1 c
            refine am_iconst (v := 0) dX6_statement_125 (by decide) ?_
            exact am_zret rfl rfl dX6_statement_126 ⟨_, _, rfl, rfl, h⟩
          · have h := h.2 c
            refine am_aloadr_n (x := some ρ.1) dX6_statement_118 rfl rfl ?_
            refine mm_callV (Mc := m_X6_expression) (as := []) rfl bm_X6_expression q2726 q2728 qs103 (Nat.le_of_ble_eq_true rfl) dX6_statement_119 (mt_X6_expression (mm_k2i h (fun v8 μ7 h => ?_)))
            refine am_if_ne (tgt := 127) dX6_statement_122 (by decide) (fun c => ?_) (fun c => ?_)
            · have h := h.1 c
              refine am_aloadr_n (x := some ρ.1) dX6_statement_127 rfl rfl ?_
              refine am_aloadr_n (x := some ρ.1) dX6_statement_128 rfl rfl ?_
              refine am_bipush (v := 20) dX6_statement_129 (by decide) ?_
              refine am_iload (x := (mI μ3 17)) dX6_statement_131 rfl ?_
              refine am_aloadr_n (x := some ρ.1) dX6_statement_133 rfl rfl ?_
              refine mm_gI (k := 19) rfl (Or.inl rfl) (by decide) q2338 dX6_statement_134 ?_
              refine am_iconst (v := 0) dX6_statement_137 (by decide) ?_
              refine mm_callV (Mc := m_X6_node) (as := [.int 20, .int (mI μ3 17), .int (mI μ7 19), .int 0]) rfl bm_X6_node q2742 q2744 qs107 (Nat.le_of_ble_eq_true rfl) dX6_statement_138 (mt_X6_node (mm_k2i h (fun v10 μ9 h => ?_)))
              refine mm_pI (k := 22) rfl rfl rfl (by decide) q2341 rfl dX6_statement_141 ?_
              generalize eμ11 : mm_sI μ9 22 v10 = μ11
              have h := h μ11 eμ11.symm
              refine am_aloadr_n (x := some ρ.1) dX6_statement_144 rfl rfl ?_
              refine am_bipush (v := 59) dX6_statement_145 (by decide) ?_
              refine mm_callV (Mc := m_X6_need) (as := [.int 59]) rfl bm_X6_need q2678 q2680 qs91 (Nat.le_of_ble_eq_true rfl) dX6_statement_147 (mt_X6_need (mm_k2i h (fun v13 μ12 h => ?_)))
              exact am_zret rfl h.1 dX6_statement_150 ⟨_, _, rfl, rfl, h.2⟩
            · have h := h.2 c
              refine am_iconst (v := 0) dX6_statement_125 (by decide) ?_
              exact am_zret rfl rfl dX6_statement_126 ⟨_, _, rfl, rfl, h⟩
        · have h := h.2 c
          refine am_iconst (v := 0) dX6_statement_101 (by decide) ?_
          exact am_zret rfl rfl dX6_statement_102 ⟨_, _, rfl, rfl, h⟩
    · have h := h.2 c
      refine am_aloadr_n (x := some ρ.1) dX6_statement_84 rfl rfl ?_
      refine mm_callV (Mc := m_X6_asks) (as := []) rfl bm_X6_asks q2718 q2720 qs101 (Nat.le_of_ble_eq_true rfl) dX6_statement_85 (mt_X6_asks (mm_k2i h (fun v15 μ14 h => ?_)))
      exact am_zret rfl h.1 dX6_statement_88 ⟨_, _, rfl, rfl, h.2⟩
  · have h := h.2 c
    refine am_aloadr_n (x := some ρ.1) dX6_statement_62 rfl rfl ?_
    refine am_iconst (v := 3) dX6_statement_63 (by decide) ?_
    refine mm_callV (Mc := m_X6_bad) (as := [.int 3]) rfl bm_X6_bad q2646 q2648 qs83 (Nat.le_of_ble_eq_true rfl) dX6_statement_64 (mt_X6_bad (mm_k2i h (fun v17 μ16 h => ?_)))
    exact am_zret rfl h.1 dX6_statement_67 ⟨_, _, rfl, rfl, h.2⟩
theorem B_X6_statement_167_f {G : am_G} {ρ : mm_F} {d : Nat} {x2 : Int32} {μ : mm_S} {Q : Int32 → mm_S → Prop} (h : W_X6_expression G ρ d μ (fun v2 μ1 => ((¬ v2 = 0 → ((¬ x2 = 106 → B_X6_statement_191 G ρ (d + 1) 22 μ1 Q) ∧ (x2 = 106 → B_X6_statement_191 G ρ (d + 1) 21 μ1 Q))) ∧ (v2 = 0 → Q 0 μ1)))) : B_X6_statement_167 G ρ (d + 1) x2 μ Q := by
  unfold B_X6_statement_167
  refine am_aloadr_n (x := some ρ.1) dX6_statement_167 rfl rfl ?_
  refine mm_callV (Mc := m_X6_expression) (as := []) rfl bm_X6_expression q2726 q2728 qs103 (Nat.le_of_ble_eq_true rfl) dX6_statement_168 (mt_X6_expression (mm_k2i h (fun v2 μ1 h => ?_)))
  refine am_if_ne (tgt := 176) dX6_statement_171 (by decide) (fun c => ?_) (fun c => ?_)
  · have h := h.1 c
    refine am_aloadr_n (x := some ρ.1) dX6_statement_176 rfl rfl ?_
    refine am_aloadr_n (x := some ρ.1) dX6_statement_177 rfl rfl ?_
    refine am_iload_n (x := x2) dX6_statement_178 rfl rfl ?_
    refine am_bipush (v := 106) dX6_statement_179 (by decide) ?_
    refine am_icmp_ne (tgt := 189) dX6_statement_181 (by decide) (fun c => ?_) (fun c => ?_)
    · have h := h.1 c
      refine am_bipush (v := 22) dX6_statement_189 (by decide) ?_
      exact am_lss h rfl
    · have h := h.2 c
      refine am_bipush (v := 21) dX6_statement_184 (by decide) ?_
      refine am_goto (tgt := 191) dX6_statement_186 (by decide) ?_
      exact am_lss h rfl
  · have h := h.2 c
    refine am_iconst (v := 0) dX6_statement_174 (by decide) ?_
    exact am_zret rfl rfl dX6_statement_175 ⟨_, _, rfl, rfl, h⟩
theorem B_X6_statement_191_f {G : am_G} {ρ : mm_F} {d : Nat} {s0 : Int32} {μ : mm_S} {Q : Int32 → mm_S → Prop} (h : W_X6_node G ρ d s0 (mI μ 19) 0 0 μ (fun v2 μ1 => (∀ μ3 : mm_S, μ3 = mm_sI μ1 22 v2 → (W_X6_need G ρ d 59 μ3 (fun v5 μ4 => (narrow .boolean (.int v5) = .int v5 ∧ Q v5 μ4)))))) : B_X6_statement_191 G ρ (d + 1) s0 μ Q := by
  unfold B_X6_statement_191
  refine am_aloadr_n (x := some ρ.1) dX6_statement_191 rfl rfl ?_
  refine mm_gI (k := 19) rfl (Or.inl rfl) (by decide) q2338 dX6_statement_192 ?_
  refine am_iconst (v := 0) dX6_statement_195 (by decide) ?_
  refine am_iconst (v := 0) dX6_statement_196 (by decide) ?_
  refine mm_callV (Mc := m_X6_node) (as := [.int s0, .int (mI μ 19), .int 0, .int 0]) rfl bm_X6_node q2742 q2744 qs107 (Nat.le_of_ble_eq_true rfl) dX6_statement_197 (mt_X6_node (mm_k2i h (fun v2 μ1 h => ?_)))
  refine mm_pI (k := 22) rfl rfl rfl (by decide) q2341 rfl dX6_statement_200 ?_
  generalize eμ3 : mm_sI μ1 22 v2 = μ3
  have h := h μ3 eμ3.symm
  refine am_goto (tgt := 303) dX6_statement_203 (by decide) ?_
  refine am_aloadr_n (x := some ρ.1) dX6_statement_303 rfl rfl ?_
  refine am_bipush (v := 59) dX6_statement_304 (by decide) ?_
  refine mm_callV (Mc := m_X6_need) (as := [.int 59]) rfl bm_X6_need q2678 q2680 qs91 (Nat.le_of_ble_eq_true rfl) dX6_statement_306 (mt_X6_need (mm_k2i h (fun v5 μ4 h => ?_)))
  exact am_zret rfl h.1 dX6_statement_309 ⟨_, _, rfl, rfl, h.2⟩
theorem B_X6_statement_218_f {G : am_G} {ρ : mm_F} {d : Nat} {x2 : Int32} {μ : mm_S} {Q : Int32 → mm_S → Prop} (h : W_X6_named G ρ d μ (fun v2 μ1 => ((¬ v2 = 0 → ((¬ x2 = 110 → ((¬ x2 = 109 → B_X6_statement_263 G ρ (d + 1) (mI μ1 17) 25 μ1 Q) ∧ (x2 = 109 → B_X6_statement_263 G ρ (d + 1) (mI μ1 17) 24 μ1 Q))) ∧ (x2 = 110 → W_X6_named G ρ d μ1 (fun v4 μ3 => ((¬ v4 = 0 → ((¬ x2 = 109 → B_X6_statement_263 G ρ (d + 1) (mI μ1 17) 25 μ3 Q) ∧ (x2 = 109 → B_X6_statement_263 G ρ (d + 1) (mI μ1 17) 24 μ3 Q))) ∧ (v4 = 0 → Q 0 μ3)))))) ∧ (v2 = 0 → Q 0 μ1)))) : B_X6_statement_218 G ρ (d + 1) x2 μ Q := by
  unfold B_X6_statement_218
  refine am_aloadr_n (x := some ρ.1) dX6_statement_218 rfl rfl ?_
  refine mm_callV (Mc := m_X6_named) (as := []) rfl bm_X6_named q2654 q2656 qs85 (Nat.le_of_ble_eq_true rfl) dX6_statement_219 (mt_X6_named (mm_k2i h (fun v2 μ1 h => ?_)))
  refine am_if_ne (tgt := 227) dX6_statement_222 (by decide) (fun c => ?_) (fun c => ?_)
  · have h := h.1 c
    refine am_aloadr_n (x := some ρ.1) dX6_statement_227 rfl rfl ?_
    refine mm_gI (k := 17) rfl (Or.inl rfl) (by decide) q2336 dX6_statement_228 ?_
    refine am_istore (L' := [(8, .int (mI μ1 17)), (0, va_rf (some ρ.1)), (4, .int x2)]) dX6_statement_231 (Nat.le_of_ble_eq_true rfl) rfl ?_
    refine am_iload_n (x := x2) dX6_statement_233 rfl rfl ?_
    refine am_bipush (v := 110) dX6_statement_234 (by decide) ?_
    refine am_icmp_ne (tgt := 248) dX6_statement_236 (by decide) (fun c => ?_) (fun c => ?_)
    · have h := h.1 c
      refine am_aloadr_n (x := some ρ.1) dX6_statement_248 rfl rfl ?_
      refine am_aloadr_n (x := some ρ.1) dX6_statement_249 rfl rfl ?_
      refine am_iload_n (x := x2) dX6_statement_250 rfl rfl ?_
      refine am_bipush (v := 109) dX6_statement_251 (by decide) ?_
      refine am_icmp_ne (tgt := 261) dX6_statement_253 (by decide) (fun c => ?_) (fun c => ?_)
      · have h := h.1 c
        refine am_bipush (v := 25) dX6_statement_261 (by decide) ?_
        exact am_lss h rfl
      · have h := h.2 c
        refine am_bipush (v := 24) dX6_statement_256 (by decide) ?_
        refine am_goto (tgt := 263) dX6_statement_258 (by decide) ?_
        exact am_lss h rfl
    · have h := h.2 c
      refine am_aloadr_n (x := some ρ.1) dX6_statement_239 rfl rfl ?_
      refine mm_callV (Mc := m_X6_named) (as := []) rfl bm_X6_named q2654 q2656 qs85 (Nat.le_of_ble_eq_true rfl) dX6_statement_240 (mt_X6_named (mm_k2i h (fun v4 μ3 h => ?_)))
      refine am_if_ne (tgt := 248) dX6_statement_243 (by decide) (fun c => ?_) (fun c => ?_)
      · have h := h.1 c
        refine am_aloadr_n (x := some ρ.1) dX6_statement_248 rfl rfl ?_
        refine am_aloadr_n (x := some ρ.1) dX6_statement_249 rfl rfl ?_
        refine am_iload_n (x := x2) dX6_statement_250 rfl rfl ?_
        refine am_bipush (v := 109) dX6_statement_251 (by decide) ?_
        refine am_icmp_ne (tgt := 261) dX6_statement_253 (by decide) (fun c => ?_) (fun c => ?_)
        · have h := h.1 c
          refine am_bipush (v := 25) dX6_statement_261 (by decide) ?_
          exact am_lss h rfl
        · have h := h.2 c
          refine am_bipush (v := 24) dX6_statement_256 (by decide) ?_
          refine am_goto (tgt := 263) dX6_statement_258 (by decide) ?_
          exact am_lss h rfl
      · have h := h.2 c
        refine am_iconst (v := 0) dX6_statement_246 (by decide) ?_
        exact am_zret rfl rfl dX6_statement_247 ⟨_, _, rfl, rfl, h⟩
  · have h := h.2 c
    refine am_iconst (v := 0) dX6_statement_225 (by decide) ?_
    exact am_zret rfl rfl dX6_statement_226 ⟨_, _, rfl, rfl, h⟩
theorem B_X6_statement_263_f {G : am_G} {ρ : mm_F} {d : Nat} {x4 : Int32} {s0 : Int32} {μ : mm_S} {Q : Int32 → mm_S → Prop} (h : W_X6_node G ρ d s0 x4 (mI μ 17) 0 μ (fun v2 μ1 => (∀ μ3 : mm_S, μ3 = mm_sI μ1 22 v2 → (W_X6_need G ρ d 59 μ3 (fun v5 μ4 => (narrow .boolean (.int v5) = .int v5 ∧ Q v5 μ4)))))) : B_X6_statement_263 G ρ (d + 1) x4 s0 μ Q := by
  unfold B_X6_statement_263
  refine am_iload (x := x4) dX6_statement_263 rfl ?_
  refine am_aloadr_n (x := some ρ.1) dX6_statement_265 rfl rfl ?_
  refine mm_gI (k := 17) rfl (Or.inl rfl) (by decide) q2336 dX6_statement_266 ?_
  refine am_iconst (v := 0) dX6_statement_269 (by decide) ?_
  refine mm_callV (Mc := m_X6_node) (as := [.int s0, .int x4, .int (mI μ 17), .int 0]) rfl bm_X6_node q2742 q2744 qs107 (Nat.le_of_ble_eq_true rfl) dX6_statement_270 (mt_X6_node (mm_k2i h (fun v2 μ1 h => ?_)))
  refine mm_pI (k := 22) rfl rfl rfl (by decide) q2341 rfl dX6_statement_273 ?_
  generalize eμ3 : mm_sI μ1 22 v2 = μ3
  have h := h μ3 eμ3.symm
  refine am_goto (tgt := 303) dX6_statement_276 (by decide) ?_
  refine am_aloadr_n (x := some ρ.1) dX6_statement_303 rfl rfl ?_
  refine am_bipush (v := 59) dX6_statement_304 (by decide) ?_
  refine mm_callV (Mc := m_X6_need) (as := [.int 59]) rfl bm_X6_need q2678 q2680 qs91 (Nat.le_of_ble_eq_true rfl) dX6_statement_306 (mt_X6_need (mm_k2i h (fun v5 μ4 h => ?_)))
  exact am_zret rfl h.1 dX6_statement_309 ⟨_, _, rfl, rfl, h.2⟩
theorem B_X6_statement_294_f {G : am_G} {ρ : mm_F} {d : Nat} {s0 : Int32} {μ : mm_S} {Q : Int32 → mm_S → Prop} (h : W_X6_node G ρ d s0 0 0 0 μ (fun v2 μ1 => (∀ μ3 : mm_S, μ3 = mm_sI μ1 22 v2 → (W_X6_need G ρ d 59 μ3 (fun v5 μ4 => (narrow .boolean (.int v5) = .int v5 ∧ Q v5 μ4)))))) : B_X6_statement_294 G ρ (d + 1) s0 μ Q := by
  unfold B_X6_statement_294
  refine am_iconst (v := 0) dX6_statement_294 (by decide) ?_
  refine am_iconst (v := 0) dX6_statement_295 (by decide) ?_
  refine am_iconst (v := 0) dX6_statement_296 (by decide) ?_
  refine mm_callV (Mc := m_X6_node) (as := [.int s0, .int 0, .int 0, .int 0]) rfl bm_X6_node q2742 q2744 qs107 (Nat.le_of_ble_eq_true rfl) dX6_statement_297 (mt_X6_node (mm_k2i h (fun v2 μ1 h => ?_)))
  refine mm_pI (k := 22) rfl rfl rfl (by decide) q2341 rfl dX6_statement_300 ?_
  generalize eμ3 : mm_sI μ1 22 v2 = μ3
  have h := h μ3 eμ3.symm
  refine am_aloadr_n (x := some ρ.1) dX6_statement_303 rfl rfl ?_
  refine am_bipush (v := 59) dX6_statement_304 (by decide) ?_
  refine mm_callV (Mc := m_X6_need) (as := [.int 59]) rfl bm_X6_need q2678 q2680 qs91 (Nat.le_of_ble_eq_true rfl) dX6_statement_306 (mt_X6_need (mm_k2i h (fun v5 μ4 h => ?_)))
  exact am_zret rfl h.1 dX6_statement_309 ⟨_, _, rfl, rfl, h.2⟩
theorem W_X6_asks_f {G : am_G} {ρ : mm_F} {d : Nat}  {μ : mm_S} {Q : Int32 → mm_S → Prop} (h : W_X6_opens G ρ d μ (fun v2 μ1 => ((v2 = 0 → Q 0 μ1) ∧ (¬ v2 = 0 → W_X6_expression G ρ d μ1 (fun v4 μ3 => ((¬ v4 = 0 → W_X6_block G ρ d 0 μ3 (fun v6 μ5 => ((¬ v6 = 0 → ((¬ (mI μ5 3) = 113 → B_X6_asks_66 G ρ (d + 1) (mI μ3 19) (mI μ5 21) (-1) μ5 Q) ∧ ((mI μ5 3) = 113 → W_X6_look0 G ρ d μ5 (fun μ7 => W_X6_block G ρ d 0 μ7 (fun v9 μ8 => ((¬ v9 = 0 → B_X6_asks_66 G ρ (d + 1) (mI μ3 19) (mI μ5 21) (mI μ8 21) μ8 Q) ∧ (v9 = 0 → Q 0 μ8))))))) ∧ (v6 = 0 → Q 0 μ5)))) ∧ (v4 = 0 → Q 0 μ3))))))) : W_X6_asks G ρ (d + 1)  μ Q := by
  unfold W_X6_asks
  refine am_aloadr_n (x := some ρ.1) dX6_asks_0 rfl rfl ?_
  refine mm_callV (Mc := m_X6_opens) (as := []) rfl bm_X6_opens q2722 q2724 qs102 (Nat.le_of_ble_eq_true rfl) dX6_asks_1 (mt_X6_opens (mm_k2i h (fun v2 μ1 h => ?_)))
  refine am_if_eq (tgt := 14) dX6_asks_4 (by decide) (fun c => ?_) (fun c => ?_)
  · have h := h.1 c
    refine am_iconst (v := 0) dX6_asks_14 (by decide) ?_
    exact am_zret rfl rfl dX6_asks_15 ⟨_, _, rfl, rfl, h⟩
  · have h := h.2 c
    refine am_aloadr_n (x := some ρ.1) dX6_asks_7 rfl rfl ?_
    refine mm_callV (Mc := m_X6_expression) (as := []) rfl bm_X6_expression q2726 q2728 qs103 (Nat.le_of_ble_eq_true rfl) dX6_asks_8 (mt_X6_expression (mm_k2i h (fun v4 μ3 h => ?_)))
    refine am_if_ne (tgt := 16) dX6_asks_11 (by decide) (fun c => ?_) (fun c => ?_)
    · have h := h.1 c
      refine am_aloadr_n (x := some ρ.1) dX6_asks_16 rfl rfl ?_
      refine mm_gI (k := 19) rfl (Or.inl rfl) (by decide) q2338 dX6_asks_17 ?_
      refine am_istore_n (L' := [(2, .int (mI μ3 19)), (0, va_rf (some ρ.1))]) dX6_asks_20 rfl (Nat.le_of_ble_eq_true rfl) rfl ?_
      refine am_aloadr_n (x := some ρ.1) dX6_asks_21 rfl rfl ?_
      refine am_iconst (v := 0) dX6_asks_22 (by decide) ?_
      refine mm_callV (Mc := m_X6_block) (as := [.int 0]) rfl bm_X6_block q2710 q2712 qs99 (Nat.le_of_ble_eq_true rfl) dX6_asks_23 (mt_X6_block (mm_k2i h (fun v6 μ5 h => ?_)))
      refine am_if_ne (tgt := 31) dX6_asks_26 (by decide) (fun c => ?_) (fun c => ?_)
      · have h := h.1 c
        refine am_aloadr_n (x := some ρ.1) dX6_asks_31 rfl rfl ?_
        refine mm_gI (k := 21) rfl (Or.inl rfl) (by decide) q2340 dX6_asks_32 ?_
        refine am_istore_n (L' := [(4, .int (mI μ5 21)), (2, .int (mI μ3 19)), (0, va_rf (some ρ.1))]) dX6_asks_35 rfl (Nat.le_of_ble_eq_true rfl) rfl ?_
        refine am_iconst (v := (-1)) dX6_asks_36 (by decide) ?_
        refine am_istore_n (L' := [(6, .int (-1)), (4, .int (mI μ5 21)), (2, .int (mI μ3 19)), (0, va_rf (some ρ.1))]) dX6_asks_37 rfl (Nat.le_of_ble_eq_true rfl) rfl ?_
        refine am_aloadr_n (x := some ρ.1) dX6_asks_38 rfl rfl ?_
        refine mm_gI (k := 3) rfl (Or.inl rfl) (by decide) q2322 dX6_asks_39 ?_
        refine am_bipush (v := 113) dX6_asks_42 (by decide) ?_
        refine am_icmp_ne (tgt := 66) dX6_asks_44 (by decide) (fun c => ?_) (fun c => ?_)
        · have h := h.1 c
          exact am_lss h rfl
        · have h := h.2 c
          refine am_aloadr_n (x := some ρ.1) dX6_asks_47 rfl rfl ?_
          refine mm_callV (Mc := m_X6_look0) (as := []) rfl bm_X6_look0 q2625 q2627 qs80 (Nat.le_of_ble_eq_true rfl) dX6_asks_48 (mt_X6_look0 (mm_k2v h (fun μ7 h => ?_)))
          refine am_aloadr_n (x := some ρ.1) dX6_asks_51 rfl rfl ?_
          refine am_iconst (v := 0) dX6_asks_52 (by decide) ?_
          refine mm_callV (Mc := m_X6_block) (as := [.int 0]) rfl bm_X6_block q2710 q2712 qs99 (Nat.le_of_ble_eq_true rfl) dX6_asks_53 (mt_X6_block (mm_k2i h (fun v9 μ8 h => ?_)))
          refine am_if_ne (tgt := 61) dX6_asks_56 (by decide) (fun c => ?_) (fun c => ?_)
          · have h := h.1 c
            refine am_aloadr_n (x := some ρ.1) dX6_asks_61 rfl rfl ?_
            refine mm_gI (k := 21) rfl (Or.inl rfl) (by decide) q2340 dX6_asks_62 ?_
            refine am_istore_n (L' := [(6, .int (mI μ8 21)), (4, .int (mI μ5 21)), (2, .int (mI μ3 19)), (0, va_rf (some ρ.1))]) dX6_asks_65 rfl (Nat.le_of_ble_eq_true rfl) rfl ?_
            exact am_lss h rfl
          · have h := h.2 c
            refine am_iconst (v := 0) dX6_asks_59 (by decide) ?_
            exact am_zret rfl rfl dX6_asks_60 ⟨_, _, rfl, rfl, h⟩
      · have h := h.2 c
        refine am_iconst (v := 0) dX6_asks_29 (by decide) ?_
        exact am_zret rfl rfl dX6_asks_30 ⟨_, _, rfl, rfl, h⟩
    · have h := h.2 c
      refine am_iconst (v := 0) dX6_asks_14 (by decide) ?_
      exact am_zret rfl rfl dX6_asks_15 ⟨_, _, rfl, rfl, h⟩
theorem B_X6_asks_66_f {G : am_G} {ρ : mm_F} {d : Nat} {x1 : Int32} {x2 : Int32} {x3 : Int32} {μ : mm_S} {Q : Int32 → mm_S → Prop} (h : (∀ μ1 : mm_S, μ1 = mm_sI μ 18 ((mI μ 18) - 1) → (W_X6_node G ρ d 27 x1 x2 x3 μ1 (fun v3 μ2 => (∀ μ4 : mm_S, μ4 = mm_sI μ2 22 v3 → (Q 1 μ4)))))) : B_X6_asks_66 G ρ (d + 1) x1 x2 x3 μ Q := by
  unfold B_X6_asks_66
  refine am_aloadr_n (x := some ρ.1) dX6_asks_66 rfl rfl ?_
  refine am_dup dX6_asks_67 (am_rf_cat _) ?_
  refine mm_gI (k := 18) rfl (Or.inl rfl) (by decide) q2337 dX6_asks_68 ?_
  refine am_iconst (v := 1) dX6_asks_71 (by decide) ?_
  refine am_isub dX6_asks_72 ?_
  refine mm_pI (k := 18) rfl rfl rfl (by decide) q2337 rfl dX6_asks_73 ?_
  generalize eμ1 : mm_sI μ 18 ((mI μ 18) - 1) = μ1
  have h := h μ1 eμ1.symm
  refine am_aloadr_n (x := some ρ.1) dX6_asks_76 rfl rfl ?_
  refine am_aloadr_n (x := some ρ.1) dX6_asks_77 rfl rfl ?_
  refine am_bipush (v := 27) dX6_asks_78 (by decide) ?_
  refine am_iload_n (x := x1) dX6_asks_80 rfl rfl ?_
  refine am_iload_n (x := x2) dX6_asks_81 rfl rfl ?_
  refine am_iload_n (x := x3) dX6_asks_82 rfl rfl ?_
  refine mm_callV (Mc := m_X6_node) (as := [.int 27, .int x1, .int x2, .int x3]) rfl bm_X6_node q2742 q2744 qs107 (Nat.le_of_ble_eq_true rfl) dX6_asks_83 (mt_X6_node (mm_k2i h (fun v3 μ2 h => ?_)))
  refine mm_pI (k := 22) rfl rfl rfl (by decide) q2341 rfl dX6_asks_86 ?_
  generalize eμ4 : mm_sI μ2 22 v3 = μ4
  have h := h μ4 eμ4.symm
  refine am_iconst (v := 1) dX6_asks_89 (by decide) ?_
  exact am_zret rfl rfl dX6_asks_90 ⟨_, _, rfl, rfl, h⟩
theorem W_X6_opens_f {G : am_G} {ρ : mm_F} {d : Nat}  {μ : mm_S} {Q : Int32 → mm_S → Prop} (h : ((¬ (mI μ 18) = 12 → (∀ μ1 : mm_S, μ1 = mm_sI μ 18 ((mI μ 18) + 1) → (W_X6_look0 G ρ d μ1 (fun μ2 => Q 1 μ2)))) ∧ ((mI μ 18) = 12 → W_X6_bad G ρ d 3 μ (fun v4 μ3 => (narrow .boolean (.int v4) = .int v4 ∧ Q v4 μ3))))) : W_X6_opens G ρ (d + 1)  μ Q := by
  unfold W_X6_opens
  refine am_aloadr_n (x := some ρ.1) dX6_opens_0 rfl rfl ?_
  refine mm_gI (k := 18) rfl (Or.inl rfl) (by decide) q2337 dX6_opens_1 ?_
  refine am_bipush (v := 12) dX6_opens_4 (by decide) ?_
  refine am_icmp_ne (tgt := 15) dX6_opens_6 (by decide) (fun c => ?_) (fun c => ?_)
  · have h := h.1 c
    refine am_aloadr_n (x := some ρ.1) dX6_opens_15 rfl rfl ?_
    refine am_dup dX6_opens_16 (am_rf_cat _) ?_
    refine mm_gI (k := 18) rfl (Or.inl rfl) (by decide) q2337 dX6_opens_17 ?_
    refine am_iconst (v := 1) dX6_opens_20 (by decide) ?_
    refine am_iadd dX6_opens_21 ?_
    refine mm_pI (k := 18) rfl rfl rfl (by decide) q2337 rfl dX6_opens_22 ?_
    generalize eμ1 : mm_sI μ 18 ((mI μ 18) + 1) = μ1
    have h := h μ1 eμ1.symm
    refine am_aloadr_n (x := some ρ.1) dX6_opens_25 rfl rfl ?_
    refine mm_callV (Mc := m_X6_look0) (as := []) rfl bm_X6_look0 q2625 q2627 qs80 (Nat.le_of_ble_eq_true rfl) dX6_opens_26 (mt_X6_look0 (mm_k2v h (fun μ2 h => ?_)))
    refine am_iconst (v := 1) dX6_opens_29 (by decide) ?_
    exact am_zret rfl rfl dX6_opens_30 ⟨_, _, rfl, rfl, h⟩
  · have h := h.2 c
    refine am_aloadr_n (x := some ρ.1) dX6_opens_9 rfl rfl ?_
    refine am_iconst (v := 3) dX6_opens_10 (by decide) ?_
    refine mm_callV (Mc := m_X6_bad) (as := [.int 3]) rfl bm_X6_bad q2646 q2648 qs83 (Nat.le_of_ble_eq_true rfl) dX6_opens_11 (mt_X6_bad (mm_k2i h (fun v4 μ3 h => ?_)))
    exact am_zret rfl h.1 dX6_opens_14 ⟨_, _, rfl, rfl, h.2⟩
theorem W_X6_expression_f {G : am_G} {ρ : mm_F} {d : Nat}  {μ : mm_S} {Q : Int32 → mm_S → Prop} (h : W_X6_sum G ρ d μ (fun v2 μ1 => ((¬ v2 = 0 → W_X6_isSign G ρ d 60 μ1 (fun v4 μ3 => ((¬ v4 = 0 → ((¬ (mI μ3 3) = 201 → B_X6_expression_47 G ρ (d + 1) 14 μ3 Q) ∧ ((mI μ3 3) = 201 → B_X6_expression_47 G ρ (d + 1) 15 μ3 Q))) ∧ (v4 = 0 → (((mI μ3 3) = 201 → ((¬ (mI μ3 3) = 201 → B_X6_expression_47 G ρ (d + 1) 14 μ3 Q) ∧ ((mI μ3 3) = 201 → B_X6_expression_47 G ρ (d + 1) 15 μ3 Q))) ∧ (¬ (mI μ3 3) = 201 → Q 1 μ3)))))) ∧ (v2 = 0 → Q 0 μ1)))) : W_X6_expression G ρ (d + 1)  μ Q := by
  unfold W_X6_expression
  refine am_aloadr_n (x := some ρ.1) dX6_expression_0 rfl rfl ?_
  refine mm_callV (Mc := m_X6_sum) (as := []) rfl bm_X6_sum q2730 q2732 qs104 (Nat.le_of_ble_eq_true rfl) dX6_expression_1 (mt_X6_sum (mm_k2i h (fun v2 μ1 h => ?_)))
  refine am_if_ne (tgt := 9) dX6_expression_4 (by decide) (fun c => ?_) (fun c => ?_)
  · have h := h.1 c
    refine am_aloadr_n (x := some ρ.1) dX6_expression_9 rfl rfl ?_
    refine am_bipush (v := 60) dX6_expression_10 (by decide) ?_
    refine mm_callV (Mc := m_X6_isSign) (as := [.int 60]) rfl bm_X6_isSign q2682 q2684 qs92 (Nat.le_of_ble_eq_true rfl) dX6_expression_12 (mt_X6_isSign (mm_k2i h (fun v4 μ3 h => ?_)))
    refine am_if_ne (tgt := 30) dX6_expression_15 (by decide) (fun c => ?_) (fun c => ?_)
    · have h := h.1 c
      refine am_aloadr_n (x := some ρ.1) dX6_expression_30 rfl rfl ?_
      refine mm_gI (k := 3) rfl (Or.inl rfl) (by decide) q2322 dX6_expression_31 ?_
      refine am_sipush (v := 201) dX6_expression_34 (by decide) ?_
      refine am_icmp_ne (tgt := 45) dX6_expression_37 (by decide) (fun c => ?_) (fun c => ?_)
      · have h := h.1 c
        refine am_bipush (v := 14) dX6_expression_45 (by decide) ?_
        exact am_lss h rfl
      · have h := h.2 c
        refine am_bipush (v := 15) dX6_expression_40 (by decide) ?_
        refine am_goto (tgt := 47) dX6_expression_42 (by decide) ?_
        exact am_lss h rfl
    · have h := h.2 c
      refine am_aloadr_n (x := some ρ.1) dX6_expression_18 rfl rfl ?_
      refine mm_gI (k := 3) rfl (Or.inl rfl) (by decide) q2322 dX6_expression_19 ?_
      refine am_sipush (v := 201) dX6_expression_22 (by decide) ?_
      refine am_icmp_eq (tgt := 30) dX6_expression_25 (by decide) (fun c => ?_) (fun c => ?_)
      · have h := h.1 c
        refine am_aloadr_n (x := some ρ.1) dX6_expression_30 rfl rfl ?_
        refine mm_gI (k := 3) rfl (Or.inl rfl) (by decide) q2322 dX6_expression_31 ?_
        refine am_sipush (v := 201) dX6_expression_34 (by decide) ?_
        refine am_icmp_ne (tgt := 45) dX6_expression_37 (by decide) (fun c => ?_) (fun c => ?_)
        · have h := h.1 c
          refine am_bipush (v := 14) dX6_expression_45 (by decide) ?_
          exact am_lss h rfl
        · have h := h.2 c
          refine am_bipush (v := 15) dX6_expression_40 (by decide) ?_
          refine am_goto (tgt := 47) dX6_expression_42 (by decide) ?_
          exact am_lss h rfl
      · have h := h.2 c
        refine am_iconst (v := 1) dX6_expression_28 (by decide) ?_
        exact am_zret rfl rfl dX6_expression_29 ⟨_, _, rfl, rfl, h⟩
  · have h := h.2 c
    refine am_iconst (v := 0) dX6_expression_7 (by decide) ?_
    exact am_zret rfl rfl dX6_expression_8 ⟨_, _, rfl, rfl, h⟩
theorem B_X6_expression_47_f {G : am_G} {ρ : mm_F} {d : Nat} {s0 : Int32} {μ : mm_S} {Q : Int32 → mm_S → Prop} (h : W_X6_look0 G ρ d μ (fun μ1 => W_X6_sum G ρ d μ1 (fun v3 μ2 => ((¬ v3 = 0 → W_X6_node G ρ d s0 (mI μ 19) (mI μ2 19) 0 μ2 (fun v5 μ4 => (∀ μ6 : mm_S, μ6 = mm_sI μ4 19 v5 → (Q 1 μ6)))) ∧ (v3 = 0 → Q 0 μ2))))) : B_X6_expression_47 G ρ (d + 1) s0 μ Q := by
  unfold B_X6_expression_47
  refine am_istore_n (L' := [(2, .int s0), (0, va_rf (some ρ.1))]) dX6_expression_47 rfl (Nat.le_of_ble_eq_true rfl) rfl ?_
  refine am_aloadr_n (x := some ρ.1) dX6_expression_48 rfl rfl ?_
  refine mm_gI (k := 19) rfl (Or.inl rfl) (by decide) q2338 dX6_expression_49 ?_
  refine am_istore_n (L' := [(4, .int (mI μ 19)), (2, .int s0), (0, va_rf (some ρ.1))]) dX6_expression_52 rfl (Nat.le_of_ble_eq_true rfl) rfl ?_
  refine am_aloadr_n (x := some ρ.1) dX6_expression_53 rfl rfl ?_
  refine mm_callV (Mc := m_X6_look0) (as := []) rfl bm_X6_look0 q2625 q2627 qs80 (Nat.le_of_ble_eq_true rfl) dX6_expression_54 (mt_X6_look0 (mm_k2v h (fun μ1 h => ?_)))
  refine am_aloadr_n (x := some ρ.1) dX6_expression_57 rfl rfl ?_
  refine mm_callV (Mc := m_X6_sum) (as := []) rfl bm_X6_sum q2730 q2732 qs104 (Nat.le_of_ble_eq_true rfl) dX6_expression_58 (mt_X6_sum (mm_k2i h (fun v3 μ2 h => ?_)))
  refine am_if_ne (tgt := 66) dX6_expression_61 (by decide) (fun c => ?_) (fun c => ?_)
  · have h := h.1 c
    refine am_aloadr_n (x := some ρ.1) dX6_expression_66 rfl rfl ?_
    refine am_aloadr_n (x := some ρ.1) dX6_expression_67 rfl rfl ?_
    refine am_iload_n (x := s0) dX6_expression_68 rfl rfl ?_
    refine am_iload_n (x := (mI μ 19)) dX6_expression_69 rfl rfl ?_
    refine am_aloadr_n (x := some ρ.1) dX6_expression_70 rfl rfl ?_
    refine mm_gI (k := 19) rfl (Or.inl rfl) (by decide) q2338 dX6_expression_71 ?_
    refine am_iconst (v := 0) dX6_expression_74 (by decide) ?_
    refine mm_callV (Mc := m_X6_node) (as := [.int s0, .int (mI μ 19), .int (mI μ2 19), .int 0]) rfl bm_X6_node q2742 q2744 qs107 (Nat.le_of_ble_eq_true rfl) dX6_expression_75 (mt_X6_node (mm_k2i h (fun v5 μ4 h => ?_)))
    refine mm_pI (k := 19) rfl rfl rfl (by decide) q2338 rfl dX6_expression_78 ?_
    generalize eμ6 : mm_sI μ4 19 v5 = μ6
    have h := h μ6 eμ6.symm
    refine am_iconst (v := 1) dX6_expression_81 (by decide) ?_
    exact am_zret rfl rfl dX6_expression_82 ⟨_, _, rfl, rfl, h⟩
  · have h := h.2 c
    refine am_iconst (v := 0) dX6_expression_64 (by decide) ?_
    exact am_zret rfl rfl dX6_expression_65 ⟨_, _, rfl, rfl, h⟩
theorem W_X6_sum_f {G : am_G} {ρ : mm_F} {d : Nat}  {μ : mm_S} {Q : Int32 → mm_S → Prop} (h : W_X6_product G ρ d μ (fun v2 μ1 => ((¬ v2 = 0 → B_X6_sum_9 G ρ (d + 1) μ1 Q) ∧ (v2 = 0 → Q 0 μ1)))) : W_X6_sum G ρ (d + 1)  μ Q := by
  unfold W_X6_sum
  refine am_aloadr_n (x := some ρ.1) dX6_sum_0 rfl rfl ?_
  refine mm_callV (Mc := m_X6_product) (as := []) rfl bm_X6_product q2734 q2736 qs105 (Nat.le_of_ble_eq_true rfl) dX6_sum_1 (mt_X6_product (mm_k2i h (fun v2 μ1 h => ?_)))
  refine am_if_ne (tgt := 9) dX6_sum_4 (by decide) (fun c => ?_) (fun c => ?_)
  · have h := h.1 c
    exact am_lss h rfl
  · have h := h.2 c
    refine am_iconst (v := 0) dX6_sum_7 (by decide) ?_
    exact am_zret rfl rfl dX6_sum_8 ⟨_, _, rfl, rfl, h⟩
theorem B_X6_sum_9_f {G : am_G} {ρ : mm_F} {d : Nat}  {μ : mm_S} {Q : Int32 → mm_S → Prop} (h : W_X6_isSign G ρ d 43 μ (fun v2 μ1 => ((¬ v2 = 0 → W_X6_isSign G ρ d 43 μ1 (fun v4 μ3 => ((v4 = 0 → B_X6_sum_43 G ρ (d + 1) 11 μ3 Q) ∧ (¬ v4 = 0 → B_X6_sum_43 G ρ (d + 1) 10 μ3 Q)))) ∧ (v2 = 0 → W_X6_isSign G ρ d 45 μ1 (fun v6 μ5 => ((v6 = 0 → Q 1 μ5) ∧ (¬ v6 = 0 → W_X6_isSign G ρ d 43 μ5 (fun v8 μ7 => ((v8 = 0 → B_X6_sum_43 G ρ (d + 1) 11 μ7 Q) ∧ (¬ v8 = 0 → B_X6_sum_43 G ρ (d + 1) 10 μ7 Q)))))))))) : B_X6_sum_9 G ρ (d + 1)  μ Q := by
  unfold B_X6_sum_9
  refine am_aloadr_n (x := some ρ.1) dX6_sum_9 rfl rfl ?_
  refine am_bipush (v := 43) dX6_sum_10 (by decide) ?_
  refine mm_callV (Mc := m_X6_isSign) (as := [.int 43]) rfl bm_X6_isSign q2682 q2684 qs92 (Nat.le_of_ble_eq_true rfl) dX6_sum_12 (mt_X6_isSign (mm_k2i h (fun v2 μ1 h => ?_)))
  refine am_if_ne (tgt := 27) dX6_sum_15 (by decide) (fun c => ?_) (fun c => ?_)
  · have h := h.1 c
    refine am_aloadr_n (x := some ρ.1) dX6_sum_27 rfl rfl ?_
    refine am_bipush (v := 43) dX6_sum_28 (by decide) ?_
    refine mm_callV (Mc := m_X6_isSign) (as := [.int 43]) rfl bm_X6_isSign q2682 q2684 qs92 (Nat.le_of_ble_eq_true rfl) dX6_sum_30 (mt_X6_isSign (mm_k2i h (fun v4 μ3 h => ?_)))
    refine am_if_eq (tgt := 41) dX6_sum_33 (by decide) (fun c => ?_) (fun c => ?_)
    · have h := h.1 c
      refine am_bipush (v := 11) dX6_sum_41 (by decide) ?_
      exact am_lss h rfl
    · have h := h.2 c
      refine am_bipush (v := 10) dX6_sum_36 (by decide) ?_
      refine am_goto (tgt := 43) dX6_sum_38 (by decide) ?_
      exact am_lss h rfl
  · have h := h.2 c
    refine am_aloadr_n (x := some ρ.1) dX6_sum_18 rfl rfl ?_
    refine am_bipush (v := 45) dX6_sum_19 (by decide) ?_
    refine mm_callV (Mc := m_X6_isSign) (as := [.int 45]) rfl bm_X6_isSign q2682 q2684 qs92 (Nat.le_of_ble_eq_true rfl) dX6_sum_21 (mt_X6_isSign (mm_k2i h (fun v6 μ5 h => ?_)))
    refine am_if_eq (tgt := 80) dX6_sum_24 (by decide) (fun c => ?_) (fun c => ?_)
    · have h := h.1 c
      refine am_iconst (v := 1) dX6_sum_80 (by decide) ?_
      exact am_zret rfl rfl dX6_sum_81 ⟨_, _, rfl, rfl, h⟩
    · have h := h.2 c
      refine am_aloadr_n (x := some ρ.1) dX6_sum_27 rfl rfl ?_
      refine am_bipush (v := 43) dX6_sum_28 (by decide) ?_
      refine mm_callV (Mc := m_X6_isSign) (as := [.int 43]) rfl bm_X6_isSign q2682 q2684 qs92 (Nat.le_of_ble_eq_true rfl) dX6_sum_30 (mt_X6_isSign (mm_k2i h (fun v8 μ7 h => ?_)))
      refine am_if_eq (tgt := 41) dX6_sum_33 (by decide) (fun c => ?_) (fun c => ?_)
      · have h := h.1 c
        refine am_bipush (v := 11) dX6_sum_41 (by decide) ?_
        exact am_lss h rfl
      · have h := h.2 c
        refine am_bipush (v := 10) dX6_sum_36 (by decide) ?_
        refine am_goto (tgt := 43) dX6_sum_38 (by decide) ?_
        exact am_lss h rfl
theorem B_X6_sum_43_f {G : am_G} {ρ : mm_F} {d : Nat} {s0 : Int32} {μ : mm_S} {Q : Int32 → mm_S → Prop} (h : W_X6_look0 G ρ d μ (fun μ1 => W_X6_product G ρ d μ1 (fun v3 μ2 => ((¬ v3 = 0 → W_X6_node G ρ d s0 (mI μ 19) (mI μ2 19) 0 μ2 (fun v5 μ4 => (∀ μ6 : mm_S, μ6 = mm_sI μ4 19 v5 → (B_X6_sum_9 G ρ (d + 1) μ6 Q)))) ∧ (v3 = 0 → Q 0 μ2))))) : B_X6_sum_43 G ρ (d + 1) s0 μ Q := by
  unfold B_X6_sum_43
  refine am_istore_n (L' := [(2, .int s0), (0, va_rf (some ρ.1))]) dX6_sum_43 rfl (Nat.le_of_ble_eq_true rfl) rfl ?_
  refine am_aloadr_n (x := some ρ.1) dX6_sum_44 rfl rfl ?_
  refine mm_gI (k := 19) rfl (Or.inl rfl) (by decide) q2338 dX6_sum_45 ?_
  refine am_istore_n (L' := [(4, .int (mI μ 19)), (2, .int s0), (0, va_rf (some ρ.1))]) dX6_sum_48 rfl (Nat.le_of_ble_eq_true rfl) rfl ?_
  refine am_aloadr_n (x := some ρ.1) dX6_sum_49 rfl rfl ?_
  refine mm_callV (Mc := m_X6_look0) (as := []) rfl bm_X6_look0 q2625 q2627 qs80 (Nat.le_of_ble_eq_true rfl) dX6_sum_50 (mt_X6_look0 (mm_k2v h (fun μ1 h => ?_)))
  refine am_aloadr_n (x := some ρ.1) dX6_sum_53 rfl rfl ?_
  refine mm_callV (Mc := m_X6_product) (as := []) rfl bm_X6_product q2734 q2736 qs105 (Nat.le_of_ble_eq_true rfl) dX6_sum_54 (mt_X6_product (mm_k2i h (fun v3 μ2 h => ?_)))
  refine am_if_ne (tgt := 62) dX6_sum_57 (by decide) (fun c => ?_) (fun c => ?_)
  · have h := h.1 c
    refine am_aloadr_n (x := some ρ.1) dX6_sum_62 rfl rfl ?_
    refine am_aloadr_n (x := some ρ.1) dX6_sum_63 rfl rfl ?_
    refine am_iload_n (x := s0) dX6_sum_64 rfl rfl ?_
    refine am_iload_n (x := (mI μ 19)) dX6_sum_65 rfl rfl ?_
    refine am_aloadr_n (x := some ρ.1) dX6_sum_66 rfl rfl ?_
    refine mm_gI (k := 19) rfl (Or.inl rfl) (by decide) q2338 dX6_sum_67 ?_
    refine am_iconst (v := 0) dX6_sum_70 (by decide) ?_
    refine mm_callV (Mc := m_X6_node) (as := [.int s0, .int (mI μ 19), .int (mI μ2 19), .int 0]) rfl bm_X6_node q2742 q2744 qs107 (Nat.le_of_ble_eq_true rfl) dX6_sum_71 (mt_X6_node (mm_k2i h (fun v5 μ4 h => ?_)))
    refine mm_pI (k := 19) rfl rfl rfl (by decide) q2338 rfl dX6_sum_74 ?_
    generalize eμ6 : mm_sI μ4 19 v5 = μ6
    have h := h μ6 eμ6.symm
    refine am_goto (tgt := 9) dX6_sum_77 (by decide) ?_
    exact am_lss h rfl
  · have h := h.2 c
    refine am_iconst (v := 0) dX6_sum_60 (by decide) ?_
    exact am_zret rfl rfl dX6_sum_61 ⟨_, _, rfl, rfl, h⟩
theorem W_X6_product_f {G : am_G} {ρ : mm_F} {d : Nat}  {μ : mm_S} {Q : Int32 → mm_S → Prop} (h : W_X6_unit G ρ d μ (fun v2 μ1 => ((¬ v2 = 0 → B_X6_product_9 G ρ (d + 1) μ1 Q) ∧ (v2 = 0 → Q 0 μ1)))) : W_X6_product G ρ (d + 1)  μ Q := by
  unfold W_X6_product
  refine am_aloadr_n (x := some ρ.1) dX6_product_0 rfl rfl ?_
  refine mm_callV (Mc := m_X6_unit) (as := []) rfl bm_X6_unit q2738 q2740 qs106 (Nat.le_of_ble_eq_true rfl) dX6_product_1 (mt_X6_unit (mm_k2i h (fun v2 μ1 h => ?_)))
  refine am_if_ne (tgt := 9) dX6_product_4 (by decide) (fun c => ?_) (fun c => ?_)
  · have h := h.1 c
    exact am_lss h rfl
  · have h := h.2 c
    refine am_iconst (v := 0) dX6_product_7 (by decide) ?_
    exact am_zret rfl rfl dX6_product_8 ⟨_, _, rfl, rfl, h⟩
theorem B_X6_product_9_f {G : am_G} {ρ : mm_F} {d : Nat}  {μ : mm_S} {Q : Int32 → mm_S → Prop} (h : W_X6_isSign G ρ d 42 μ (fun v2 μ1 => ((¬ v2 = 0 → W_X6_isSign G ρ d 42 μ1 (fun v4 μ3 => ((v4 = 0 → B_X6_product_43 G ρ (d + 1) 13 μ3 Q) ∧ (¬ v4 = 0 → B_X6_product_43 G ρ (d + 1) 12 μ3 Q)))) ∧ (v2 = 0 → W_X6_isSign G ρ d 47 μ1 (fun v6 μ5 => ((v6 = 0 → Q 1 μ5) ∧ (¬ v6 = 0 → W_X6_isSign G ρ d 42 μ5 (fun v8 μ7 => ((v8 = 0 → B_X6_product_43 G ρ (d + 1) 13 μ7 Q) ∧ (¬ v8 = 0 → B_X6_product_43 G ρ (d + 1) 12 μ7 Q)))))))))) : B_X6_product_9 G ρ (d + 1)  μ Q := by
  unfold B_X6_product_9
  refine am_aloadr_n (x := some ρ.1) dX6_product_9 rfl rfl ?_
  refine am_bipush (v := 42) dX6_product_10 (by decide) ?_
  refine mm_callV (Mc := m_X6_isSign) (as := [.int 42]) rfl bm_X6_isSign q2682 q2684 qs92 (Nat.le_of_ble_eq_true rfl) dX6_product_12 (mt_X6_isSign (mm_k2i h (fun v2 μ1 h => ?_)))
  refine am_if_ne (tgt := 27) dX6_product_15 (by decide) (fun c => ?_) (fun c => ?_)
  · have h := h.1 c
    refine am_aloadr_n (x := some ρ.1) dX6_product_27 rfl rfl ?_
    refine am_bipush (v := 42) dX6_product_28 (by decide) ?_
    refine mm_callV (Mc := m_X6_isSign) (as := [.int 42]) rfl bm_X6_isSign q2682 q2684 qs92 (Nat.le_of_ble_eq_true rfl) dX6_product_30 (mt_X6_isSign (mm_k2i h (fun v4 μ3 h => ?_)))
    refine am_if_eq (tgt := 41) dX6_product_33 (by decide) (fun c => ?_) (fun c => ?_)
    · have h := h.1 c
      refine am_bipush (v := 13) dX6_product_41 (by decide) ?_
      exact am_lss h rfl
    · have h := h.2 c
      refine am_bipush (v := 12) dX6_product_36 (by decide) ?_
      refine am_goto (tgt := 43) dX6_product_38 (by decide) ?_
      exact am_lss h rfl
  · have h := h.2 c
    refine am_aloadr_n (x := some ρ.1) dX6_product_18 rfl rfl ?_
    refine am_bipush (v := 47) dX6_product_19 (by decide) ?_
    refine mm_callV (Mc := m_X6_isSign) (as := [.int 47]) rfl bm_X6_isSign q2682 q2684 qs92 (Nat.le_of_ble_eq_true rfl) dX6_product_21 (mt_X6_isSign (mm_k2i h (fun v6 μ5 h => ?_)))
    refine am_if_eq (tgt := 80) dX6_product_24 (by decide) (fun c => ?_) (fun c => ?_)
    · have h := h.1 c
      refine am_iconst (v := 1) dX6_product_80 (by decide) ?_
      exact am_zret rfl rfl dX6_product_81 ⟨_, _, rfl, rfl, h⟩
    · have h := h.2 c
      refine am_aloadr_n (x := some ρ.1) dX6_product_27 rfl rfl ?_
      refine am_bipush (v := 42) dX6_product_28 (by decide) ?_
      refine mm_callV (Mc := m_X6_isSign) (as := [.int 42]) rfl bm_X6_isSign q2682 q2684 qs92 (Nat.le_of_ble_eq_true rfl) dX6_product_30 (mt_X6_isSign (mm_k2i h (fun v8 μ7 h => ?_)))
      refine am_if_eq (tgt := 41) dX6_product_33 (by decide) (fun c => ?_) (fun c => ?_)
      · have h := h.1 c
        refine am_bipush (v := 13) dX6_product_41 (by decide) ?_
        exact am_lss h rfl
      · have h := h.2 c
        refine am_bipush (v := 12) dX6_product_36 (by decide) ?_
        refine am_goto (tgt := 43) dX6_product_38 (by decide) ?_
        exact am_lss h rfl
theorem B_X6_product_43_f {G : am_G} {ρ : mm_F} {d : Nat} {s0 : Int32} {μ : mm_S} {Q : Int32 → mm_S → Prop} (h : W_X6_look0 G ρ d μ (fun μ1 => W_X6_unit G ρ d μ1 (fun v3 μ2 => ((¬ v3 = 0 → W_X6_node G ρ d s0 (mI μ 19) (mI μ2 19) 0 μ2 (fun v5 μ4 => (∀ μ6 : mm_S, μ6 = mm_sI μ4 19 v5 → (B_X6_product_9 G ρ (d + 1) μ6 Q)))) ∧ (v3 = 0 → Q 0 μ2))))) : B_X6_product_43 G ρ (d + 1) s0 μ Q := by
  unfold B_X6_product_43
  refine am_istore_n (L' := [(2, .int s0), (0, va_rf (some ρ.1))]) dX6_product_43 rfl (Nat.le_of_ble_eq_true rfl) rfl ?_
  refine am_aloadr_n (x := some ρ.1) dX6_product_44 rfl rfl ?_
  refine mm_gI (k := 19) rfl (Or.inl rfl) (by decide) q2338 dX6_product_45 ?_
  refine am_istore_n (L' := [(4, .int (mI μ 19)), (2, .int s0), (0, va_rf (some ρ.1))]) dX6_product_48 rfl (Nat.le_of_ble_eq_true rfl) rfl ?_
  refine am_aloadr_n (x := some ρ.1) dX6_product_49 rfl rfl ?_
  refine mm_callV (Mc := m_X6_look0) (as := []) rfl bm_X6_look0 q2625 q2627 qs80 (Nat.le_of_ble_eq_true rfl) dX6_product_50 (mt_X6_look0 (mm_k2v h (fun μ1 h => ?_)))
  refine am_aloadr_n (x := some ρ.1) dX6_product_53 rfl rfl ?_
  refine mm_callV (Mc := m_X6_unit) (as := []) rfl bm_X6_unit q2738 q2740 qs106 (Nat.le_of_ble_eq_true rfl) dX6_product_54 (mt_X6_unit (mm_k2i h (fun v3 μ2 h => ?_)))
  refine am_if_ne (tgt := 62) dX6_product_57 (by decide) (fun c => ?_) (fun c => ?_)
  · have h := h.1 c
    refine am_aloadr_n (x := some ρ.1) dX6_product_62 rfl rfl ?_
    refine am_aloadr_n (x := some ρ.1) dX6_product_63 rfl rfl ?_
    refine am_iload_n (x := s0) dX6_product_64 rfl rfl ?_
    refine am_iload_n (x := (mI μ 19)) dX6_product_65 rfl rfl ?_
    refine am_aloadr_n (x := some ρ.1) dX6_product_66 rfl rfl ?_
    refine mm_gI (k := 19) rfl (Or.inl rfl) (by decide) q2338 dX6_product_67 ?_
    refine am_iconst (v := 0) dX6_product_70 (by decide) ?_
    refine mm_callV (Mc := m_X6_node) (as := [.int s0, .int (mI μ 19), .int (mI μ2 19), .int 0]) rfl bm_X6_node q2742 q2744 qs107 (Nat.le_of_ble_eq_true rfl) dX6_product_71 (mt_X6_node (mm_k2i h (fun v5 μ4 h => ?_)))
    refine mm_pI (k := 19) rfl rfl rfl (by decide) q2338 rfl dX6_product_74 ?_
    generalize eμ6 : mm_sI μ4 19 v5 = μ6
    have h := h μ6 eμ6.symm
    refine am_goto (tgt := 9) dX6_product_77 (by decide) ?_
    exact am_lss h rfl
  · have h := h.2 c
    refine am_iconst (v := 0) dX6_product_60 (by decide) ?_
    exact am_zret rfl rfl dX6_product_61 ⟨_, _, rfl, rfl, h⟩
theorem W_X6_unit_f {G : am_G} {ρ : mm_F} {d : Nat}  {μ : mm_S} {Q : Int32 → mm_S → Prop} (h : ((¬ (mI μ 3) = 3 → ((¬ (mI μ 3) = 2 → (((mI μ 3) = 114 → ((¬ (mI μ 3) = 114 → B_X6_unit_97 G ρ (d + 1) 4 μ Q) ∧ ((mI μ 3) = 114 → B_X6_unit_97 G ρ (d + 1) 3 μ Q))) ∧ (¬ (mI μ 3) = 114 → ((¬ (mI μ 3) = 115 → W_X6_isSign G ρ d 45 μ (fun v2 μ1 => ((v2 = 0 → W_X6_isSign G ρ d 40 μ1 (fun v4 μ3 => ((¬ v4 = 0 → W_X6_opens G ρ d μ3 (fun v6 μ5 => ((v6 = 0 → Q 0 μ5) ∧ (¬ v6 = 0 → W_X6_expression G ρ d μ5 (fun v8 μ7 => ((v8 = 0 → Q 0 μ7) ∧ (¬ v8 = 0 → W_X6_need G ρ d 41 μ7 (fun v10 μ9 => ((¬ v10 = 0 → (∀ μ11 : mm_S, μ11 = mm_sI μ9 18 ((mI μ9 18) - 1) → (Q 1 μ11))) ∧ (v10 = 0 → Q 0 μ9)))))))))) ∧ (v4 = 0 → W_X6_bad G ρ d 1 μ3 (fun v13 μ12 => (narrow .boolean (.int v13) = .int v13 ∧ Q v13 μ12)))))) ∧ (¬ v2 = 0 → W_X6_opens G ρ d μ1 (fun v15 μ14 => ((v15 = 0 → Q 0 μ14) ∧ (¬ v15 = 0 → W_X6_unit G ρ d μ14 (fun v17 μ16 => ((¬ v17 = 0 → (∀ μ18 : mm_S, μ18 = mm_sI μ16 18 ((mI μ16 18) - 1) → (W_X6_node G ρ d 5 (mI μ18 19) 0 0 μ18 (fun v20 μ19 => (∀ μ21 : mm_S, μ21 = mm_sI μ19 19 v20 → (Q 1 μ21)))))) ∧ (v17 = 0 → Q 0 μ16)))))))))) ∧ ((mI μ 3) = 115 → ((¬ (mI μ 3) = 114 → B_X6_unit_97 G ρ (d + 1) 4 μ Q) ∧ ((mI μ 3) = 114 → B_X6_unit_97 G ρ (d + 1) 3 μ Q))))))) ∧ ((mI μ 3) = 2 → W_X6_named G ρ d μ (fun v23 μ22 => ((¬ v23 = 0 → W_X6_node G ρ d 2 (mI μ22 17) 0 0 μ22 (fun v25 μ24 => (∀ μ26 : mm_S, μ26 = mm_sI μ24 19 v25 → (Q 1 μ26)))) ∧ (v23 = 0 → Q 0 μ22)))))) ∧ ((mI μ 3) = 3 → W_X6_node G ρ d 1 (mI μ 5) 0 0 μ (fun v28 μ27 => (∀ μ29 : mm_S, μ29 = mm_sI μ27 19 v28 → (W_X6_look0 G ρ d μ29 (fun μ30 => Q 1 μ30))))))) : W_X6_unit G ρ (d + 1)  μ Q := by
  unfold W_X6_unit
  refine am_aloadr_n (x := some ρ.1) dX6_unit_0 rfl rfl ?_
  refine mm_gI (k := 3) rfl (Or.inl rfl) (by decide) q2322 dX6_unit_1 ?_
  refine am_iconst (v := 3) dX6_unit_4 (by decide) ?_
  refine am_icmp_ne (tgt := 29) dX6_unit_5 (by decide) (fun c => ?_) (fun c => ?_)
  · have h := h.1 c
    refine am_aloadr_n (x := some ρ.1) dX6_unit_29 rfl rfl ?_
    refine mm_gI (k := 3) rfl (Or.inl rfl) (by decide) q2322 dX6_unit_30 ?_
    refine am_iconst (v := 2) dX6_unit_33 (by decide) ?_
    refine am_icmp_ne (tgt := 63) dX6_unit_34 (by decide) (fun c => ?_) (fun c => ?_)
    · have h := h.1 c
      refine am_aloadr_n (x := some ρ.1) dX6_unit_63 rfl rfl ?_
      refine mm_gI (k := 3) rfl (Or.inl rfl) (by decide) q2322 dX6_unit_64 ?_
      refine am_bipush (v := 114) dX6_unit_67 (by decide) ?_
      refine am_icmp_eq (tgt := 81) dX6_unit_69 (by decide) (fun c => ?_) (fun c => ?_)
      · have h := h.1 c
        refine am_aloadr_n (x := some ρ.1) dX6_unit_81 rfl rfl ?_
        refine am_aloadr_n (x := some ρ.1) dX6_unit_82 rfl rfl ?_
        refine am_aloadr_n (x := some ρ.1) dX6_unit_83 rfl rfl ?_
        refine mm_gI (k := 3) rfl (Or.inl rfl) (by decide) q2322 dX6_unit_84 ?_
        refine am_bipush (v := 114) dX6_unit_87 (by decide) ?_
        refine am_icmp_ne (tgt := 96) dX6_unit_89 (by decide) (fun c => ?_) (fun c => ?_)
        · have h := h.1 c
          refine am_iconst (v := 4) dX6_unit_96 (by decide) ?_
          exact am_lss h rfl
        · have h := h.2 c
          refine am_iconst (v := 3) dX6_unit_92 (by decide) ?_
          refine am_goto (tgt := 97) dX6_unit_93 (by decide) ?_
          exact am_lss h rfl
      · have h := h.2 c
        refine am_aloadr_n (x := some ρ.1) dX6_unit_72 rfl rfl ?_
        refine mm_gI (k := 3) rfl (Or.inl rfl) (by decide) q2322 dX6_unit_73 ?_
        refine am_bipush (v := 115) dX6_unit_76 (by decide) ?_
        refine am_icmp_ne (tgt := 112) dX6_unit_78 (by decide) (fun c => ?_) (fun c => ?_)
        · have h := h.1 c
          refine am_aloadr_n (x := some ρ.1) dX6_unit_112 rfl rfl ?_
          refine am_bipush (v := 45) dX6_unit_113 (by decide) ?_
          refine mm_callV (Mc := m_X6_isSign) (as := [.int 45]) rfl bm_X6_isSign q2682 q2684 qs92 (Nat.le_of_ble_eq_true rfl) dX6_unit_115 (mt_X6_isSign (mm_k2i h (fun v2 μ1 h => ?_)))
          refine am_if_eq (tgt := 164) dX6_unit_118 (by decide) (fun c => ?_) (fun c => ?_)
          · have h := h.1 c
            refine am_aloadr_n (x := some ρ.1) dX6_unit_164 rfl rfl ?_
            refine am_bipush (v := 40) dX6_unit_165 (by decide) ?_
            refine mm_callV (Mc := m_X6_isSign) (as := [.int 40]) rfl bm_X6_isSign q2682 q2684 qs92 (Nat.le_of_ble_eq_true rfl) dX6_unit_167 (mt_X6_isSign (mm_k2i h (fun v4 μ3 h => ?_)))
            refine am_if_ne (tgt := 179) dX6_unit_170 (by decide) (fun c => ?_) (fun c => ?_)
            · have h := h.1 c
              refine am_aloadr_n (x := some ρ.1) dX6_unit_179 rfl rfl ?_
              refine mm_callV (Mc := m_X6_opens) (as := []) rfl bm_X6_opens q2722 q2724 qs102 (Nat.le_of_ble_eq_true rfl) dX6_unit_180 (mt_X6_opens (mm_k2i h (fun v6 μ5 h => ?_)))
              refine am_if_eq (tgt := 202) dX6_unit_183 (by decide) (fun c => ?_) (fun c => ?_)
              · have h := h.1 c
                refine am_iconst (v := 0) dX6_unit_202 (by decide) ?_
                exact am_zret rfl rfl dX6_unit_203 ⟨_, _, rfl, rfl, h⟩
              · have h := h.2 c
                refine am_aloadr_n (x := some ρ.1) dX6_unit_186 rfl rfl ?_
                refine mm_callV (Mc := m_X6_expression) (as := []) rfl bm_X6_expression q2726 q2728 qs103 (Nat.le_of_ble_eq_true rfl) dX6_unit_187 (mt_X6_expression (mm_k2i h (fun v8 μ7 h => ?_)))
                refine am_if_eq (tgt := 202) dX6_unit_190 (by decide) (fun c => ?_) (fun c => ?_)
                · have h := h.1 c
                  refine am_iconst (v := 0) dX6_unit_202 (by decide) ?_
                  exact am_zret rfl rfl dX6_unit_203 ⟨_, _, rfl, rfl, h⟩
                · have h := h.2 c
                  refine am_aloadr_n (x := some ρ.1) dX6_unit_193 rfl rfl ?_
                  refine am_bipush (v := 41) dX6_unit_194 (by decide) ?_
                  refine mm_callV (Mc := m_X6_need) (as := [.int 41]) rfl bm_X6_need q2678 q2680 qs91 (Nat.le_of_ble_eq_true rfl) dX6_unit_196 (mt_X6_need (mm_k2i h (fun v10 μ9 h => ?_)))
                  refine am_if_ne (tgt := 204) dX6_unit_199 (by decide) (fun c => ?_) (fun c => ?_)
                  · have h := h.1 c
                    refine am_aloadr_n (x := some ρ.1) dX6_unit_204 rfl rfl ?_
                    refine am_dup dX6_unit_205 (am_rf_cat _) ?_
                    refine mm_gI (k := 18) rfl (Or.inl rfl) (by decide) q2337 dX6_unit_206 ?_
                    refine am_iconst (v := 1) dX6_unit_209 (by decide) ?_
                    refine am_isub dX6_unit_210 ?_
                    refine mm_pI (k := 18) rfl rfl rfl (by decide) q2337 rfl dX6_unit_211 ?_
                    generalize eμ11 : mm_sI μ9 18 ((mI μ9 18) - 1) = μ11
                    have h := h μ11 eμ11.symm
                    refine am_iconst (v := 1) dX6_unit_214 (by decide) ?_
                    exact am_zret rfl rfl dX6_unit_215 ⟨_, _, rfl, rfl, h⟩
                  · have h := h.2 c
                    refine am_iconst (v := 0) dX6_unit_202 (by decide) ?_
                    exact am_zret rfl rfl dX6_unit_203 ⟨_, _, rfl, rfl, h⟩
            · have h := h.2 c
              refine am_aloadr_n (x := some ρ.1) dX6_unit_173 rfl rfl ?_
              refine am_iconst (v := 1) dX6_unit_174 (by decide) ?_
              refine mm_callV (Mc := m_X6_bad) (as := [.int 1]) rfl bm_X6_bad q2646 q2648 qs83 (Nat.le_of_ble_eq_true rfl) dX6_unit_175 (mt_X6_bad (mm_k2i h (fun v13 μ12 h => ?_)))
              exact am_zret rfl h.1 dX6_unit_178 ⟨_, _, rfl, rfl, h.2⟩
          · have h := h.2 c
            refine am_aloadr_n (x := some ρ.1) dX6_unit_121 rfl rfl ?_
            refine mm_callV (Mc := m_X6_opens) (as := []) rfl bm_X6_opens q2722 q2724 qs102 (Nat.le_of_ble_eq_true rfl) dX6_unit_122 (mt_X6_opens (mm_k2i h (fun v15 μ14 h => ?_)))
            refine am_if_eq (tgt := 135) dX6_unit_125 (by decide) (fun c => ?_) (fun c => ?_)
            · have h := h.1 c
              refine am_iconst (v := 0) dX6_unit_135 (by decide) ?_
              exact am_zret rfl rfl dX6_unit_136 ⟨_, _, rfl, rfl, h⟩
            · have h := h.2 c
              refine am_aloadr_n (x := some ρ.1) dX6_unit_128 rfl rfl ?_
              refine mm_callV (Mc := m_X6_unit) (as := []) rfl bm_X6_unit q2738 q2740 qs106 (Nat.le_of_ble_eq_true rfl) dX6_unit_129 (mt_X6_unit (mm_k2i h (fun v17 μ16 h => ?_)))
              refine am_if_ne (tgt := 137) dX6_unit_132 (by decide) (fun c => ?_) (fun c => ?_)
              · have h := h.1 c
                refine am_aloadr_n (x := some ρ.1) dX6_unit_137 rfl rfl ?_
                refine am_dup dX6_unit_138 (am_rf_cat _) ?_
                refine mm_gI (k := 18) rfl (Or.inl rfl) (by decide) q2337 dX6_unit_139 ?_
                refine am_iconst (v := 1) dX6_unit_142 (by decide) ?_
                refine am_isub dX6_unit_143 ?_
                refine mm_pI (k := 18) rfl rfl rfl (by decide) q2337 rfl dX6_unit_144 ?_
                generalize eμ18 : mm_sI μ16 18 ((mI μ16 18) - 1) = μ18
                have h := h μ18 eμ18.symm
                refine am_aloadr_n (x := some ρ.1) dX6_unit_147 rfl rfl ?_
                refine am_aloadr_n (x := some ρ.1) dX6_unit_148 rfl rfl ?_
                refine am_iconst (v := 5) dX6_unit_149 (by decide) ?_
                refine am_aloadr_n (x := some ρ.1) dX6_unit_150 rfl rfl ?_
                refine mm_gI (k := 19) rfl (Or.inl rfl) (by decide) q2338 dX6_unit_151 ?_
                refine am_iconst (v := 0) dX6_unit_154 (by decide) ?_
                refine am_iconst (v := 0) dX6_unit_155 (by decide) ?_
                refine mm_callV (Mc := m_X6_node) (as := [.int 5, .int (mI μ18 19), .int 0, .int 0]) rfl bm_X6_node q2742 q2744 qs107 (Nat.le_of_ble_eq_true rfl) dX6_unit_156 (mt_X6_node (mm_k2i h (fun v20 μ19 h => ?_)))
                refine mm_pI (k := 19) rfl rfl rfl (by decide) q2338 rfl dX6_unit_159 ?_
                generalize eμ21 : mm_sI μ19 19 v20 = μ21
                have h := h μ21 eμ21.symm
                refine am_iconst (v := 1) dX6_unit_162 (by decide) ?_
                exact am_zret rfl rfl dX6_unit_163 ⟨_, _, rfl, rfl, h⟩
              · have h := h.2 c
                refine am_iconst (v := 0) dX6_unit_135 (by decide) ?_
                exact am_zret rfl rfl dX6_unit_136 ⟨_, _, rfl, rfl, h⟩
        · have h := h.2 c
          refine am_aloadr_n (x := some ρ.1) dX6_unit_81 rfl rfl ?_
          refine am_aloadr_n (x := some ρ.1) dX6_unit_82 rfl rfl ?_
          refine am_aloadr_n (x := some ρ.1) dX6_unit_83 rfl rfl ?_
          refine mm_gI (k := 3) rfl (Or.inl rfl) (by decide) q2322 dX6_unit_84 ?_
          refine am_bipush (v := 114) dX6_unit_87 (by decide) ?_
          refine am_icmp_ne (tgt := 96) dX6_unit_89 (by decide) (fun c => ?_) (fun c => ?_)
          · have h := h.1 c
            refine am_iconst (v := 4) dX6_unit_96 (by decide) ?_
            exact am_lss h rfl
          · have h := h.2 c
            refine am_iconst (v := 3) dX6_unit_92 (by decide) ?_
            refine am_goto (tgt := 97) dX6_unit_93 (by decide) ?_
            exact am_lss h rfl
    · have h := h.2 c
      refine am_aloadr_n (x := some ρ.1) dX6_unit_37 rfl rfl ?_
      refine mm_callV (Mc := m_X6_named) (as := []) rfl bm_X6_named q2654 q2656 qs85 (Nat.le_of_ble_eq_true rfl) dX6_unit_38 (mt_X6_named (mm_k2i h (fun v23 μ22 h => ?_)))
      refine am_if_ne (tgt := 46) dX6_unit_41 (by decide) (fun c => ?_) (fun c => ?_)
      · have h := h.1 c
        refine am_aloadr_n (x := some ρ.1) dX6_unit_46 rfl rfl ?_
        refine am_aloadr_n (x := some ρ.1) dX6_unit_47 rfl rfl ?_
        refine am_iconst (v := 2) dX6_unit_48 (by decide) ?_
        refine am_aloadr_n (x := some ρ.1) dX6_unit_49 rfl rfl ?_
        refine mm_gI (k := 17) rfl (Or.inl rfl) (by decide) q2336 dX6_unit_50 ?_
        refine am_iconst (v := 0) dX6_unit_53 (by decide) ?_
        refine am_iconst (v := 0) dX6_unit_54 (by decide) ?_
        refine mm_callV (Mc := m_X6_node) (as := [.int 2, .int (mI μ22 17), .int 0, .int 0]) rfl bm_X6_node q2742 q2744 qs107 (Nat.le_of_ble_eq_true rfl) dX6_unit_55 (mt_X6_node (mm_k2i h (fun v25 μ24 h => ?_)))
        refine mm_pI (k := 19) rfl rfl rfl (by decide) q2338 rfl dX6_unit_58 ?_
        generalize eμ26 : mm_sI μ24 19 v25 = μ26
        have h := h μ26 eμ26.symm
        refine am_iconst (v := 1) dX6_unit_61 (by decide) ?_
        exact am_zret rfl rfl dX6_unit_62 ⟨_, _, rfl, rfl, h⟩
      · have h := h.2 c
        refine am_iconst (v := 0) dX6_unit_44 (by decide) ?_
        exact am_zret rfl rfl dX6_unit_45 ⟨_, _, rfl, rfl, h⟩
  · have h := h.2 c
    refine am_aloadr_n (x := some ρ.1) dX6_unit_8 rfl rfl ?_
    refine am_aloadr_n (x := some ρ.1) dX6_unit_9 rfl rfl ?_
    refine am_iconst (v := 1) dX6_unit_10 (by decide) ?_
    refine am_aloadr_n (x := some ρ.1) dX6_unit_11 rfl rfl ?_
    refine mm_gI (k := 5) rfl (Or.inl rfl) (by decide) q2324 dX6_unit_12 ?_
    refine am_iconst (v := 0) dX6_unit_15 (by decide) ?_
    refine am_iconst (v := 0) dX6_unit_16 (by decide) ?_
    refine mm_callV (Mc := m_X6_node) (as := [.int 1, .int (mI μ 5), .int 0, .int 0]) rfl bm_X6_node q2742 q2744 qs107 (Nat.le_of_ble_eq_true rfl) dX6_unit_17 (mt_X6_node (mm_k2i h (fun v28 μ27 h => ?_)))
    refine mm_pI (k := 19) rfl rfl rfl (by decide) q2338 rfl dX6_unit_20 ?_
    generalize eμ29 : mm_sI μ27 19 v28 = μ29
    have h := h μ29 eμ29.symm
    refine am_aloadr_n (x := some ρ.1) dX6_unit_23 rfl rfl ?_
    refine mm_callV (Mc := m_X6_look0) (as := []) rfl bm_X6_look0 q2625 q2627 qs80 (Nat.le_of_ble_eq_true rfl) dX6_unit_24 (mt_X6_look0 (mm_k2v h (fun μ30 h => ?_)))
    refine am_iconst (v := 1) dX6_unit_27 (by decide) ?_
    exact am_zret rfl rfl dX6_unit_28 ⟨_, _, rfl, rfl, h⟩
theorem B_X6_unit_97_f {G : am_G} {ρ : mm_F} {d : Nat} {s0 : Int32} {μ : mm_S} {Q : Int32 → mm_S → Prop} (h : W_X6_node G ρ d s0 0 0 0 μ (fun v2 μ1 => (∀ μ3 : mm_S, μ3 = mm_sI μ1 19 v2 → (W_X6_look0 G ρ d μ3 (fun μ4 => Q 1 μ4))))) : B_X6_unit_97 G ρ (d + 1) s0 μ Q := by
  unfold B_X6_unit_97
  refine am_iconst (v := 0) dX6_unit_97 (by decide) ?_
  refine am_iconst (v := 0) dX6_unit_98 (by decide) ?_
  refine am_iconst (v := 0) dX6_unit_99 (by decide) ?_
  refine mm_callV (Mc := m_X6_node) (as := [.int s0, .int 0, .int 0, .int 0]) rfl bm_X6_node q2742 q2744 qs107 (Nat.le_of_ble_eq_true rfl) dX6_unit_100 (mt_X6_node (mm_k2i h (fun v2 μ1 h => ?_)))
  refine mm_pI (k := 19) rfl rfl rfl (by decide) q2338 rfl dX6_unit_103 ?_
  generalize eμ3 : mm_sI μ1 19 v2 = μ3
  have h := h μ3 eμ3.symm
  refine am_aloadr_n (x := some ρ.1) dX6_unit_106 rfl rfl ?_
  refine mm_callV (Mc := m_X6_look0) (as := []) rfl bm_X6_look0 q2625 q2627 qs80 (Nat.le_of_ble_eq_true rfl) dX6_unit_107 (mt_X6_look0 (mm_k2v h (fun μ4 h => ?_)))
  refine am_iconst (v := 1) dX6_unit_110 (by decide) ?_
  exact am_zret rfl rfl dX6_unit_111 ⟨_, _, rfl, rfl, h⟩
theorem W_X6_node_f {G : am_G} {ρ : mm_F} {d : Nat} {a1 : Int32} {a2 : Int32} {a3 : Int32} {a4 : Int32} {μ : mm_S} {Q : Int32 → mm_S → Prop} (h : (∀ μ1 : mm_S, μ1 = mm_sI μ 16 ((mI μ 16) + 1) → ((vp_in (5 * (8400 + (mI μ 16))) 48000 ∧ ∀ μ2 : mm_S, μ2 = mm_sA μ1 15 (Int32.toNatClampNeg (5 * (8400 + (mI μ 16)))) a1 → ((vp_in ((5 * (8400 + (mI μ 16))) + 1) 48000 ∧ ∀ μ3 : mm_S, μ3 = mm_sA μ2 15 (Int32.toNatClampNeg ((5 * (8400 + (mI μ 16))) + 1)) a2 → ((vp_in ((5 * (8400 + (mI μ 16))) + 2) 48000 ∧ ∀ μ4 : mm_S, μ4 = mm_sA μ3 15 (Int32.toNatClampNeg ((5 * (8400 + (mI μ 16))) + 2)) a3 → ((vp_in ((5 * (8400 + (mI μ 16))) + 3) 48000 ∧ ∀ μ5 : mm_S, μ5 = mm_sA μ4 15 (Int32.toNatClampNeg ((5 * (8400 + (mI μ 16))) + 3)) a4 → ((vp_in ((5 * (8400 + (mI μ 16))) + 4) 48000 ∧ ∀ μ6 : mm_S, μ6 = mm_sA μ5 15 (Int32.toNatClampNeg ((5 * (8400 + (mI μ 16))) + 4)) (-1) → (Q (mI μ 16) μ6))))))))))))) : W_X6_node G ρ d a1 a2 a3 a4 μ Q := by
  unfold W_X6_node
  refine am_aloadr_n (x := some ρ.1) dX6_node_0 rfl rfl ?_
  refine mm_gI (k := 16) rfl (Or.inl rfl) (by decide) q2335 dX6_node_1 ?_
  refine am_istore (L' := [(10, .int (mI μ 16)), (0, va_rf (some ρ.1)), (2, .int a1), (4, .int a2), (6, .int a3), (8, .int a4)]) dX6_node_4 (Nat.le_of_ble_eq_true rfl) rfl ?_
  refine am_aloadr_n (x := some ρ.1) dX6_node_6 rfl rfl ?_
  refine am_dup dX6_node_7 (am_rf_cat _) ?_
  refine mm_gI (k := 16) rfl (Or.inl rfl) (by decide) q2335 dX6_node_8 ?_
  refine am_iconst (v := 1) dX6_node_11 (by decide) ?_
  refine am_iadd dX6_node_12 ?_
  refine mm_pI (k := 16) rfl rfl rfl (by decide) q2335 rfl dX6_node_13 ?_
  generalize eμ1 : mm_sI μ 16 ((mI μ 16) + 1) = μ1
  have h := h μ1 eμ1.symm
  refine am_iconst (v := 5) dX6_node_16 (by decide) ?_
  refine am_sipush (v := 8400) dX6_node_17 (by decide) ?_
  refine am_iload (x := (mI μ 16)) dX6_node_20 rfl ?_
  refine am_iadd dX6_node_22 ?_
  refine am_imul dX6_node_23 ?_
  refine am_istore (L' := [(12, .int (5 * (8400 + (mI μ 16)))), (10, .int (mI μ 16)), (0, va_rf (some ρ.1)), (2, .int a1), (4, .int a2), (6, .int a3), (8, .int a4)]) dX6_node_24 (Nat.le_of_ble_eq_true rfl) rfl ?_
  refine am_aloadr_n (x := some ρ.1) dX6_node_26 rfl rfl ?_
  refine mm_gA (k := 15) rfl isA_15 q2334 dX6_node_27 ?_
  refine am_iload (x := (5 * (8400 + (mI μ 16)))) dX6_node_30 rfl ?_
  refine am_iload_n (x := a1) dX6_node_32 rfl rfl ?_
  refine mm_stA (k := 15) isA_15 rfl rfl dX6_node_33 h.1 ?_
  have h := h.2
  generalize eμ2 : mm_sA μ1 15 (Int32.toNatClampNeg (5 * (8400 + (mI μ 16)))) a1 = μ2
  have h := h μ2 eμ2.symm
  refine am_aloadr_n (x := some ρ.1) dX6_node_34 rfl rfl ?_
  refine mm_gA (k := 15) rfl isA_15 q2334 dX6_node_35 ?_
  refine am_iload (x := (5 * (8400 + (mI μ 16)))) dX6_node_38 rfl ?_
  refine am_iconst (v := 1) dX6_node_40 (by decide) ?_
  refine am_iadd dX6_node_41 ?_
  refine am_iload_n (x := a2) dX6_node_42 rfl rfl ?_
  refine mm_stA (k := 15) isA_15 rfl rfl dX6_node_43 h.1 ?_
  have h := h.2
  generalize eμ3 : mm_sA μ2 15 (Int32.toNatClampNeg ((5 * (8400 + (mI μ 16))) + 1)) a2 = μ3
  have h := h μ3 eμ3.symm
  refine am_aloadr_n (x := some ρ.1) dX6_node_44 rfl rfl ?_
  refine mm_gA (k := 15) rfl isA_15 q2334 dX6_node_45 ?_
  refine am_iload (x := (5 * (8400 + (mI μ 16)))) dX6_node_48 rfl ?_
  refine am_iconst (v := 2) dX6_node_50 (by decide) ?_
  refine am_iadd dX6_node_51 ?_
  refine am_iload_n (x := a3) dX6_node_52 rfl rfl ?_
  refine mm_stA (k := 15) isA_15 rfl rfl dX6_node_53 h.1 ?_
  have h := h.2
  generalize eμ4 : mm_sA μ3 15 (Int32.toNatClampNeg ((5 * (8400 + (mI μ 16))) + 2)) a3 = μ4
  have h := h μ4 eμ4.symm
  refine am_aloadr_n (x := some ρ.1) dX6_node_54 rfl rfl ?_
  refine mm_gA (k := 15) rfl isA_15 q2334 dX6_node_55 ?_
  refine am_iload (x := (5 * (8400 + (mI μ 16)))) dX6_node_58 rfl ?_
  refine am_iconst (v := 3) dX6_node_60 (by decide) ?_
  refine am_iadd dX6_node_61 ?_
  refine am_iload (x := a4) dX6_node_62 rfl ?_
  refine mm_stA (k := 15) isA_15 rfl rfl dX6_node_64 h.1 ?_
  have h := h.2
  generalize eμ5 : mm_sA μ4 15 (Int32.toNatClampNeg ((5 * (8400 + (mI μ 16))) + 3)) a4 = μ5
  have h := h μ5 eμ5.symm
  refine am_aloadr_n (x := some ρ.1) dX6_node_65 rfl rfl ?_
  refine mm_gA (k := 15) rfl isA_15 q2334 dX6_node_66 ?_
  refine am_iload (x := (5 * (8400 + (mI μ 16)))) dX6_node_69 rfl ?_
  refine am_iconst (v := 4) dX6_node_71 (by decide) ?_
  refine am_iadd dX6_node_72 ?_
  refine am_iconst (v := (-1)) dX6_node_73 (by decide) ?_
  refine mm_stA (k := 15) isA_15 rfl rfl dX6_node_74 h.1 ?_
  have h := h.2
  generalize eμ6 : mm_sA μ5 15 (Int32.toNatClampNeg ((5 * (8400 + (mI μ 16))) + 4)) (-1) = μ6
  have h := h μ6 eμ6.symm
  refine am_iload (x := (mI μ 16)) dX6_node_75 rfl ?_
  exact am_iret rfl dX6_node_77 ⟨_, _, rfl, rfl, h⟩
theorem W_X6_link_f {G : am_G} {ρ : mm_F} {d : Nat} {a1 : Int32} {a2 : Int32} {μ : mm_S} {Q : mm_S → Prop} (h : (vp_in ((5 * (8400 + a1)) + 4) 48000 ∧ ∀ μ1 : mm_S, μ1 = mm_sA μ 15 (Int32.toNatClampNeg ((5 * (8400 + a1)) + 4)) a2 → (Q μ1))) : W_X6_link G ρ d a1 a2 μ Q := by
  unfold W_X6_link
  refine am_aloadr_n (x := some ρ.1) dX6_link_0 rfl rfl ?_
  refine mm_gA (k := 15) rfl isA_15 q2334 dX6_link_1 ?_
  refine am_iconst (v := 5) dX6_link_4 (by decide) ?_
  refine am_sipush (v := 8400) dX6_link_5 (by decide) ?_
  refine am_iload_n (x := a1) dX6_link_8 rfl rfl ?_
  refine am_iadd dX6_link_9 ?_
  refine am_imul dX6_link_10 ?_
  refine am_iconst (v := 4) dX6_link_11 (by decide) ?_
  refine am_iadd dX6_link_12 ?_
  refine am_iload_n (x := a2) dX6_link_13 rfl rfl ?_
  refine mm_stA (k := 15) isA_15 rfl rfl dX6_link_14 h.1 ?_
  have h := h.2
  generalize eμ1 : mm_sA μ 15 (Int32.toNatClampNeg ((5 * (8400 + a1)) + 4)) a2 = μ1
  have h := h μ1 eμ1.symm
  exact am_vret rfl dX6_link_15 ⟨_, rfl, rfl, h⟩
theorem W_X6_addAct_f {G : am_G} {ρ : mm_F} {d : Nat} {a1 : Int32} {a2 : Int32} {a3 : Int32} {a4 : Int32} {μ : mm_S} {Q : mm_S → Prop} (h : W_X6_actOf G ρ d a1 a2 a3 μ (fun v2 μ1 => ((¬ v2 = (-1) → B_X6_addAct_37 G ρ (d + 1) a1 a2 a3 a4 v2 μ1 Q) ∧ (v2 = (-1) → W_X6_get G ρ d a1 a2 39 μ1 (fun v4 μ3 => W_X6_set G ρ d a1 a2 39 (v4 + 1) μ3 (fun μ5 => B_X6_addAct_37 G ρ (d + 1) a1 a2 a3 a4 v4 μ5 Q)))))) : W_X6_addAct G ρ (d + 1) a1 a2 a3 a4 μ Q := by
  unfold W_X6_addAct
  refine am_aloadr_n (x := some ρ.1) dX6_addAct_0 rfl rfl ?_
  refine am_iload_n (x := a1) dX6_addAct_1 rfl rfl ?_
  refine am_iload_n (x := a2) dX6_addAct_2 rfl rfl ?_
  refine am_iload_n (x := a3) dX6_addAct_3 rfl rfl ?_
  refine mm_callV (Mc := m_X6_actOf) (as := [.int a1, .int a2, .int a3]) rfl bm_X6_actOf q2690 q2692 qs94 (Nat.le_of_ble_eq_true rfl) dX6_addAct_4 (mt_X6_actOf (mm_k2i h (fun v2 μ1 h => ?_)))
  refine am_istore (L' := [(10, .int v2), (0, va_rf (some ρ.1)), (2, .int a1), (4, .int a2), (6, .int a3), (8, .int a4)]) dX6_addAct_7 (Nat.le_of_ble_eq_true rfl) rfl ?_
  refine am_iload (x := v2) dX6_addAct_9 rfl ?_
  refine am_iconst (v := (-1)) dX6_addAct_11 (by decide) ?_
  refine am_icmp_ne (tgt := 37) dX6_addAct_12 (by decide) (fun c => ?_) (fun c => ?_)
  · have h := h.1 c
    exact am_lss h rfl
  · have h := h.2 c
    refine am_aloadr_n (x := some ρ.1) dX6_addAct_15 rfl rfl ?_
    refine am_iload_n (x := a1) dX6_addAct_16 rfl rfl ?_
    refine am_iload_n (x := a2) dX6_addAct_17 rfl rfl ?_
    refine am_bipush (v := 39) dX6_addAct_18 (by decide) ?_
    refine mm_callV (Mc := m_X6_get) (as := [.int a1, .int a2, .int 39]) rfl bm_X6_get q2666 q2668 qs88 (Nat.le_of_ble_eq_true rfl) dX6_addAct_20 (mt_X6_get (mm_k2i h (fun v4 μ3 h => ?_)))
    refine am_istore (L' := [(10, .int v4), (0, va_rf (some ρ.1)), (2, .int a1), (4, .int a2), (6, .int a3), (8, .int a4)]) dX6_addAct_23 (Nat.le_of_ble_eq_true rfl) rfl ?_
    refine am_aloadr_n (x := some ρ.1) dX6_addAct_25 rfl rfl ?_
    refine am_iload_n (x := a1) dX6_addAct_26 rfl rfl ?_
    refine am_iload_n (x := a2) dX6_addAct_27 rfl rfl ?_
    refine am_bipush (v := 39) dX6_addAct_28 (by decide) ?_
    refine am_iload (x := v4) dX6_addAct_30 rfl ?_
    refine am_iconst (v := 1) dX6_addAct_32 (by decide) ?_
    refine am_iadd dX6_addAct_33 ?_
    refine mm_callV (Mc := m_X6_set) (as := [.int a1, .int a2, .int 39, .int (v4 + 1)]) rfl bm_X6_set q2674 q2676 qs90 (Nat.le_of_ble_eq_true rfl) dX6_addAct_34 (mt_X6_set (mm_k2v h (fun μ5 h => ?_)))
    exact am_lss h rfl
theorem B_X6_addAct_37_f {G : am_G} {ρ : mm_F} {d : Nat} {x1 : Int32} {x2 : Int32} {x3 : Int32} {x4 : Int32} {x5 : Int32} {μ : mm_S} {Q : mm_S → Prop} (h : W_X6_set G ρ d x1 x2 (40 + x5) x3 μ (fun μ1 => W_X6_set G ρ d x1 x2 (48 + x5) x4 μ1 (fun μ2 => Q μ2))) : B_X6_addAct_37 G ρ (d + 1) x1 x2 x3 x4 x5 μ Q := by
  unfold B_X6_addAct_37
  refine am_aloadr_n (x := some ρ.1) dX6_addAct_37 rfl rfl ?_
  refine am_iload_n (x := x1) dX6_addAct_38 rfl rfl ?_
  refine am_iload_n (x := x2) dX6_addAct_39 rfl rfl ?_
  refine am_bipush (v := 40) dX6_addAct_40 (by decide) ?_
  refine am_iload (x := x5) dX6_addAct_42 rfl ?_
  refine am_iadd dX6_addAct_44 ?_
  refine am_iload_n (x := x3) dX6_addAct_45 rfl rfl ?_
  refine mm_callV (Mc := m_X6_set) (as := [.int x1, .int x2, .int (40 + x5), .int x3]) rfl bm_X6_set q2674 q2676 qs90 (Nat.le_of_ble_eq_true rfl) dX6_addAct_46 (mt_X6_set (mm_k2v h (fun μ1 h => ?_)))
  refine am_aloadr_n (x := some ρ.1) dX6_addAct_49 rfl rfl ?_
  refine am_iload_n (x := x1) dX6_addAct_50 rfl rfl ?_
  refine am_iload_n (x := x2) dX6_addAct_51 rfl rfl ?_
  refine am_bipush (v := 48) dX6_addAct_52 (by decide) ?_
  refine am_iload (x := x5) dX6_addAct_54 rfl ?_
  refine am_iadd dX6_addAct_56 ?_
  refine am_iload (x := x4) dX6_addAct_57 rfl ?_
  refine mm_callV (Mc := m_X6_set) (as := [.int x1, .int x2, .int (48 + x5), .int x4]) rfl bm_X6_set q2674 q2676 qs90 (Nat.le_of_ble_eq_true rfl) dX6_addAct_59 (mt_X6_set (mm_k2v h (fun μ2 h => ?_)))
  exact am_vret rfl dX6_addAct_62 ⟨_, rfl, rfl, h⟩
theorem W_X6_num_f {G : am_G} {ρ : mm_F} {d : Nat}  {μ : mm_S} {Q : Int32 → mm_S → Prop} (h : W_X6_isSign G ρ d 45 μ (fun v2 μ1 => ((v2 = 0 → B_X6_num_15 G ρ (d + 1) v2 μ1 Q) ∧ (¬ v2 = 0 → W_X6_look0 G ρ d μ1 (fun μ3 => B_X6_num_15 G ρ (d + 1) v2 μ3 Q))))) : W_X6_num G ρ (d + 1)  μ Q := by
  unfold W_X6_num
  refine am_aloadr_n (x := some ρ.1) dX6_num_0 rfl rfl ?_
  refine am_bipush (v := 45) dX6_num_1 (by decide) ?_
  refine mm_callV (Mc := m_X6_isSign) (as := [.int 45]) rfl bm_X6_isSign q2682 q2684 qs92 (Nat.le_of_ble_eq_true rfl) dX6_num_3 (mt_X6_isSign (mm_k2i h (fun v2 μ1 h => ?_)))
  refine am_istore_n (L' := [(2, .int v2), (0, va_rf (some ρ.1))]) dX6_num_6 rfl (Nat.le_of_ble_eq_true rfl) rfl ?_
  refine am_iload_n (x := v2) dX6_num_7 rfl rfl ?_
  refine am_if_eq (tgt := 15) dX6_num_8 (by decide) (fun c => ?_) (fun c => ?_)
  · have h := h.1 c
    exact am_lss h rfl
  · have h := h.2 c
    refine am_aloadr_n (x := some ρ.1) dX6_num_11 rfl rfl ?_
    refine mm_callV (Mc := m_X6_look0) (as := []) rfl bm_X6_look0 q2625 q2627 qs80 (Nat.le_of_ble_eq_true rfl) dX6_num_12 (mt_X6_look0 (mm_k2v h (fun μ3 h => ?_)))
    exact am_lss h rfl
theorem B_X6_num_15_f {G : am_G} {ρ : mm_F} {d : Nat} {x1 : Int32} {μ : mm_S} {Q : Int32 → mm_S → Prop} (h : (((mI μ 3) = 3 → ((x1 = 0 → (∀ μ1 : mm_S, μ1 = mm_sI μ 24 (mI μ 5) → (W_X6_look0 G ρ d μ1 (fun μ2 => Q 1 μ2)))) ∧ (¬ x1 = 0 → (∀ μ3 : mm_S, μ3 = mm_sI μ 24 (-(mI μ 5)) → (W_X6_look0 G ρ d μ3 (fun μ4 => Q 1 μ4)))))) ∧ (¬ (mI μ 3) = 3 → W_X6_bad G ρ d 1 μ (fun v6 μ5 => (narrow .boolean (.int v6) = .int v6 ∧ Q v6 μ5))))) : B_X6_num_15 G ρ (d + 1) x1 μ Q := by
  unfold B_X6_num_15
  refine am_aloadr_n (x := some ρ.1) dX6_num_15 rfl rfl ?_
  refine mm_gI (k := 3) rfl (Or.inl rfl) (by decide) q2322 dX6_num_16 ?_
  refine am_iconst (v := 3) dX6_num_19 (by decide) ?_
  refine am_icmp_eq (tgt := 29) dX6_num_20 (by decide) (fun c => ?_) (fun c => ?_)
  · have h := h.1 c
    refine am_aloadr_n (x := some ρ.1) dX6_num_29 rfl rfl ?_
    refine am_iload_n (x := x1) dX6_num_30 rfl rfl ?_
    refine am_if_eq (tgt := 42) dX6_num_31 (by decide) (fun c => ?_) (fun c => ?_)
    · have h := h.1 c
      refine am_aloadr_n (x := some ρ.1) dX6_num_42 rfl rfl ?_
      refine mm_gI (k := 5) rfl (Or.inl rfl) (by decide) q2324 dX6_num_43 ?_
      refine mm_pI (k := 24) rfl rfl rfl (by decide) q2343 rfl dX6_num_46 ?_
      generalize eμ1 : mm_sI μ 24 (mI μ 5) = μ1
      have h := h μ1 eμ1.symm
      refine am_aloadr_n (x := some ρ.1) dX6_num_49 rfl rfl ?_
      refine mm_callV (Mc := m_X6_look0) (as := []) rfl bm_X6_look0 q2625 q2627 qs80 (Nat.le_of_ble_eq_true rfl) dX6_num_50 (mt_X6_look0 (mm_k2v h (fun μ2 h => ?_)))
      refine am_iconst (v := 1) dX6_num_53 (by decide) ?_
      exact am_zret rfl rfl dX6_num_54 ⟨_, _, rfl, rfl, h⟩
    · have h := h.2 c
      refine am_aloadr_n (x := some ρ.1) dX6_num_34 rfl rfl ?_
      refine mm_gI (k := 5) rfl (Or.inl rfl) (by decide) q2324 dX6_num_35 ?_
      refine am_ineg dX6_num_38 ?_
      refine am_goto (tgt := 46) dX6_num_39 (by decide) ?_
      refine mm_pI (k := 24) rfl rfl rfl (by decide) q2343 rfl dX6_num_46 ?_
      generalize eμ3 : mm_sI μ 24 (-(mI μ 5)) = μ3
      have h := h μ3 eμ3.symm
      refine am_aloadr_n (x := some ρ.1) dX6_num_49 rfl rfl ?_
      refine mm_callV (Mc := m_X6_look0) (as := []) rfl bm_X6_look0 q2625 q2627 qs80 (Nat.le_of_ble_eq_true rfl) dX6_num_50 (mt_X6_look0 (mm_k2v h (fun μ4 h => ?_)))
      refine am_iconst (v := 1) dX6_num_53 (by decide) ?_
      exact am_zret rfl rfl dX6_num_54 ⟨_, _, rfl, rfl, h⟩
  · have h := h.2 c
    refine am_aloadr_n (x := some ρ.1) dX6_num_23 rfl rfl ?_
    refine am_iconst (v := 1) dX6_num_24 (by decide) ?_
    refine mm_callV (Mc := m_X6_bad) (as := [.int 1]) rfl bm_X6_bad q2646 q2648 qs83 (Nat.le_of_ble_eq_true rfl) dX6_num_25 (mt_X6_bad (mm_k2i h (fun v6 μ5 h => ?_)))
    exact am_zret rfl h.1 dX6_num_28 ⟨_, _, rfl, rfl, h.2⟩
theorem W_X6_addFixed_f {G : am_G} {ρ : mm_F} {d : Nat} {a1 : Int32} {a2 : Int32} {a3 : Int32} {a4 : Int32} {μ : mm_S} {Q : mm_S → Prop} (h : W_X6_get G ρ d a1 a2 30 μ (fun v2 μ1 => W_X6_set G ρ d a1 a2 30 (v2 + 1) μ1 (fun μ3 => W_X6_set G ρ d a1 a2 (31 + v2) a3 μ3 (fun μ4 => W_X6_set G ρ d a1 a2 (35 + v2) a4 μ4 (fun μ5 => Q μ5))))) : W_X6_addFixed G ρ (d + 1) a1 a2 a3 a4 μ Q := by
  unfold W_X6_addFixed
  refine am_aloadr_n (x := some ρ.1) dX6_addFixed_0 rfl rfl ?_
  refine am_iload_n (x := a1) dX6_addFixed_1 rfl rfl ?_
  refine am_iload_n (x := a2) dX6_addFixed_2 rfl rfl ?_
  refine am_bipush (v := 30) dX6_addFixed_3 (by decide) ?_
  refine mm_callV (Mc := m_X6_get) (as := [.int a1, .int a2, .int 30]) rfl bm_X6_get q2666 q2668 qs88 (Nat.le_of_ble_eq_true rfl) dX6_addFixed_5 (mt_X6_get (mm_k2i h (fun v2 μ1 h => ?_)))
  refine am_istore (L' := [(10, .int v2), (0, va_rf (some ρ.1)), (2, .int a1), (4, .int a2), (6, .int a3), (8, .int a4)]) dX6_addFixed_8 (Nat.le_of_ble_eq_true rfl) rfl ?_
  refine am_aloadr_n (x := some ρ.1) dX6_addFixed_10 rfl rfl ?_
  refine am_iload_n (x := a1) dX6_addFixed_11 rfl rfl ?_
  refine am_iload_n (x := a2) dX6_addFixed_12 rfl rfl ?_
  refine am_bipush (v := 30) dX6_addFixed_13 (by decide) ?_
  refine am_iload (x := v2) dX6_addFixed_15 rfl ?_
  refine am_iconst (v := 1) dX6_addFixed_17 (by decide) ?_
  refine am_iadd dX6_addFixed_18 ?_
  refine mm_callV (Mc := m_X6_set) (as := [.int a1, .int a2, .int 30, .int (v2 + 1)]) rfl bm_X6_set q2674 q2676 qs90 (Nat.le_of_ble_eq_true rfl) dX6_addFixed_19 (mt_X6_set (mm_k2v h (fun μ3 h => ?_)))
  refine am_aloadr_n (x := some ρ.1) dX6_addFixed_22 rfl rfl ?_
  refine am_iload_n (x := a1) dX6_addFixed_23 rfl rfl ?_
  refine am_iload_n (x := a2) dX6_addFixed_24 rfl rfl ?_
  refine am_bipush (v := 31) dX6_addFixed_25 (by decide) ?_
  refine am_iload (x := v2) dX6_addFixed_27 rfl ?_
  refine am_iadd dX6_addFixed_29 ?_
  refine am_iload_n (x := a3) dX6_addFixed_30 rfl rfl ?_
  refine mm_callV (Mc := m_X6_set) (as := [.int a1, .int a2, .int (31 + v2), .int a3]) rfl bm_X6_set q2674 q2676 qs90 (Nat.le_of_ble_eq_true rfl) dX6_addFixed_31 (mt_X6_set (mm_k2v h (fun μ4 h => ?_)))
  refine am_aloadr_n (x := some ρ.1) dX6_addFixed_34 rfl rfl ?_
  refine am_iload_n (x := a1) dX6_addFixed_35 rfl rfl ?_
  refine am_iload_n (x := a2) dX6_addFixed_36 rfl rfl ?_
  refine am_bipush (v := 35) dX6_addFixed_37 (by decide) ?_
  refine am_iload (x := v2) dX6_addFixed_39 rfl ?_
  refine am_iadd dX6_addFixed_41 ?_
  refine am_iload (x := a4) dX6_addFixed_42 rfl ?_
  refine mm_callV (Mc := m_X6_set) (as := [.int a1, .int a2, .int (35 + v2), .int a4]) rfl bm_X6_set q2674 q2676 qs90 (Nat.le_of_ble_eq_true rfl) dX6_addFixed_44 (mt_X6_set (mm_k2v h (fun μ5 h => ?_)))
  exact am_vret rfl dX6_addFixed_47 ⟨_, rfl, rfl, h⟩
theorem W_X6_addField_f {G : am_G} {ρ : mm_F} {d : Nat} {a1 : Int32} {a2 : Int32} {a3 : Int32} {a4 : Int32} {μ : mm_S} {Q : mm_S → Prop} (h : W_X6_get G ρ d a1 a2 5 μ (fun v2 μ1 => W_X6_set G ρ d a1 a2 5 (v2 + 1) μ1 (fun μ3 => W_X6_set G ρ d a1 a2 (6 + v2) a3 μ3 (fun μ4 => W_X6_set G ρ d a1 a2 (14 + v2) a4 μ4 (fun μ5 => W_X6_set G ρ d a1 a2 (22 + v2) (-1) μ5 (fun μ6 => Q μ6)))))) : W_X6_addField G ρ (d + 1) a1 a2 a3 a4 μ Q := by
  unfold W_X6_addField
  refine am_aloadr_n (x := some ρ.1) dX6_addField_0 rfl rfl ?_
  refine am_iload_n (x := a1) dX6_addField_1 rfl rfl ?_
  refine am_iload_n (x := a2) dX6_addField_2 rfl rfl ?_
  refine am_iconst (v := 5) dX6_addField_3 (by decide) ?_
  refine mm_callV (Mc := m_X6_get) (as := [.int a1, .int a2, .int 5]) rfl bm_X6_get q2666 q2668 qs88 (Nat.le_of_ble_eq_true rfl) dX6_addField_4 (mt_X6_get (mm_k2i h (fun v2 μ1 h => ?_)))
  refine am_istore (L' := [(10, .int v2), (0, va_rf (some ρ.1)), (2, .int a1), (4, .int a2), (6, .int a3), (8, .int a4)]) dX6_addField_7 (Nat.le_of_ble_eq_true rfl) rfl ?_
  refine am_aloadr_n (x := some ρ.1) dX6_addField_9 rfl rfl ?_
  refine am_iload_n (x := a1) dX6_addField_10 rfl rfl ?_
  refine am_iload_n (x := a2) dX6_addField_11 rfl rfl ?_
  refine am_iconst (v := 5) dX6_addField_12 (by decide) ?_
  refine am_iload (x := v2) dX6_addField_13 rfl ?_
  refine am_iconst (v := 1) dX6_addField_15 (by decide) ?_
  refine am_iadd dX6_addField_16 ?_
  refine mm_callV (Mc := m_X6_set) (as := [.int a1, .int a2, .int 5, .int (v2 + 1)]) rfl bm_X6_set q2674 q2676 qs90 (Nat.le_of_ble_eq_true rfl) dX6_addField_17 (mt_X6_set (mm_k2v h (fun μ3 h => ?_)))
  refine am_aloadr_n (x := some ρ.1) dX6_addField_20 rfl rfl ?_
  refine am_iload_n (x := a1) dX6_addField_21 rfl rfl ?_
  refine am_iload_n (x := a2) dX6_addField_22 rfl rfl ?_
  refine am_bipush (v := 6) dX6_addField_23 (by decide) ?_
  refine am_iload (x := v2) dX6_addField_25 rfl ?_
  refine am_iadd dX6_addField_27 ?_
  refine am_iload_n (x := a3) dX6_addField_28 rfl rfl ?_
  refine mm_callV (Mc := m_X6_set) (as := [.int a1, .int a2, .int (6 + v2), .int a3]) rfl bm_X6_set q2674 q2676 qs90 (Nat.le_of_ble_eq_true rfl) dX6_addField_29 (mt_X6_set (mm_k2v h (fun μ4 h => ?_)))
  refine am_aloadr_n (x := some ρ.1) dX6_addField_32 rfl rfl ?_
  refine am_iload_n (x := a1) dX6_addField_33 rfl rfl ?_
  refine am_iload_n (x := a2) dX6_addField_34 rfl rfl ?_
  refine am_bipush (v := 14) dX6_addField_35 (by decide) ?_
  refine am_iload (x := v2) dX6_addField_37 rfl ?_
  refine am_iadd dX6_addField_39 ?_
  refine am_iload (x := a4) dX6_addField_40 rfl ?_
  refine mm_callV (Mc := m_X6_set) (as := [.int a1, .int a2, .int (14 + v2), .int a4]) rfl bm_X6_set q2674 q2676 qs90 (Nat.le_of_ble_eq_true rfl) dX6_addField_42 (mt_X6_set (mm_k2v h (fun μ5 h => ?_)))
  refine am_aloadr_n (x := some ρ.1) dX6_addField_45 rfl rfl ?_
  refine am_iload_n (x := a1) dX6_addField_46 rfl rfl ?_
  refine am_iload_n (x := a2) dX6_addField_47 rfl rfl ?_
  refine am_bipush (v := 22) dX6_addField_48 (by decide) ?_
  refine am_iload (x := v2) dX6_addField_50 rfl ?_
  refine am_iadd dX6_addField_52 ?_
  refine am_iconst (v := (-1)) dX6_addField_53 (by decide) ?_
  refine mm_callV (Mc := m_X6_set) (as := [.int a1, .int a2, .int (22 + v2), .int (-1)]) rfl bm_X6_set q2674 q2676 qs90 (Nat.le_of_ble_eq_true rfl) dX6_addField_54 (mt_X6_set (mm_k2v h (fun μ6 h => ?_)))
  exact am_vret rfl dX6_addField_57 ⟨_, rfl, rfl, h⟩
theorem W_X6_tells_f {G : am_G} {ρ : mm_F} {d : Nat}  {μ : mm_S} {Q : mm_S → Prop} (h : (∀ μ1 : mm_S, μ1 = mm_sI μ 13 (mI μ 11) → (((¬ (mI μ1 11) = 0 → (∀ μ2 : mm_S, μ2 = mm_sI μ1 14 (mI μ1 12) → ((∀ μ3 : mm_S, μ3 = mm_sI μ2 1 0 → (Q μ3))))) ∧ ((mI μ1 11) = 0 → (∀ μ4 : mm_S, μ4 = mm_sI μ1 14 (-1) → ((∀ μ5 : mm_S, μ5 = mm_sI μ4 1 0 → (Q μ5))))))))) : W_X6_tells G ρ d  μ Q := by
  unfold W_X6_tells
  refine am_aloadr_n (x := some ρ.1) dX6_tells_0 rfl rfl ?_
  refine am_aloadr_n (x := some ρ.1) dX6_tells_1 rfl rfl ?_
  refine mm_gI (k := 11) rfl (Or.inl rfl) (by decide) q2330 dX6_tells_2 ?_
  refine mm_pI (k := 13) rfl rfl rfl (by decide) q2332 rfl dX6_tells_5 ?_
  generalize eμ1 : mm_sI μ 13 (mI μ 11) = μ1
  have h := h μ1 eμ1.symm
  refine am_aloadr_n (x := some ρ.1) dX6_tells_8 rfl rfl ?_
  refine am_aloadr_n (x := some ρ.1) dX6_tells_9 rfl rfl ?_
  refine mm_gI (k := 11) rfl (Or.inl rfl) (by decide) q2330 dX6_tells_10 ?_
  refine am_if_ne (tgt := 20) dX6_tells_13 (by decide) (fun c => ?_) (fun c => ?_)
  · have h := h.1 c
    refine am_aloadr_n (x := some ρ.1) dX6_tells_20 rfl rfl ?_
    refine mm_gI (k := 12) rfl (Or.inl rfl) (by decide) q2331 dX6_tells_21 ?_
    refine mm_pI (k := 14) rfl rfl rfl (by decide) q2333 rfl dX6_tells_24 ?_
    generalize eμ2 : mm_sI μ1 14 (mI μ1 12) = μ2
    have h := h μ2 eμ2.symm
    refine am_aloadr_n (x := some ρ.1) dX6_tells_27 rfl rfl ?_
    refine am_iconst (v := 0) dX6_tells_28 (by decide) ?_
    refine mm_pI (k := 1) rfl rfl rfl (by decide) q2320 rfl dX6_tells_29 ?_
    generalize eμ3 : mm_sI μ2 1 0 = μ3
    have h := h μ3 eμ3.symm
    exact am_vret rfl dX6_tells_32 ⟨_, rfl, rfl, h⟩
  · have h := h.2 c
    refine am_iconst (v := (-1)) dX6_tells_16 (by decide) ?_
    refine am_goto (tgt := 24) dX6_tells_17 (by decide) ?_
    refine mm_pI (k := 14) rfl rfl rfl (by decide) q2333 rfl dX6_tells_24 ?_
    generalize eμ4 : mm_sI μ1 14 (-1) = μ4
    have h := h μ4 eμ4.symm
    refine am_aloadr_n (x := some ρ.1) dX6_tells_27 rfl rfl ?_
    refine am_iconst (v := 0) dX6_tells_28 (by decide) ?_
    refine mm_pI (k := 1) rfl rfl rfl (by decide) q2320 rfl dX6_tells_29 ?_
    generalize eμ5 : mm_sI μ4 1 0 = μ5
    have h := h μ5 eμ5.symm
    exact am_vret rfl dX6_tells_32 ⟨_, rfl, rfl, h⟩
theorem W_X6_keep_f {G : am_G} {ρ : mm_F} {d : Nat} {a1 : Int32} {μ : mm_S} {Q : mm_S → Prop} (h : B_X6_keep_2 G ρ d a1 0 μ Q) : W_X6_keep G ρ d a1 μ Q := by
  unfold W_X6_keep
  refine am_iconst (v := 0) dX6_keep_0 (by decide) ?_
  refine am_istore_n (L' := [(4, .int 0), (0, va_rf (some ρ.1)), (2, .int a1)]) dX6_keep_1 rfl (Nat.le_of_ble_eq_true rfl) rfl ?_
  exact am_lss h rfl
theorem B_X6_keep_2_f {G : am_G} {ρ : mm_F} {d : Nat} {x1 : Int32} {x2 : Int32} {μ : mm_S} {Q : mm_S → Prop} (h : (((5 * (mI μ 16)) ≤ x2 → Q μ) ∧ (¬ (5 * (mI μ 16)) ≤ x2 → (vp_in (42000 + x2) 48000 ∧ (vp_in ((6000 * x1) + x2) 48000 ∧ ∀ μ1 : mm_S, μ1 = mm_sA μ 15 (Int32.toNatClampNeg ((6000 * x1) + x2)) (mA μ 15 (Int32.toNatClampNeg (42000 + x2))) → (B_X6_keep_2 G ρ d x1 (x2 + 1) μ1 Q)))))) : B_X6_keep_2 G ρ d x1 x2 μ Q := by
  unfold B_X6_keep_2
  refine am_iload_n (x := x2) dX6_keep_2 rfl rfl ?_
  refine am_iconst (v := 5) dX6_keep_3 (by decide) ?_
  refine am_aloadr_n (x := some ρ.1) dX6_keep_4 rfl rfl ?_
  refine mm_gI (k := 16) rfl (Or.inl rfl) (by decide) q2335 dX6_keep_5 ?_
  refine am_imul dX6_keep_8 ?_
  refine am_icmp_ge (tgt := 40) dX6_keep_9 (by decide) (fun c => ?_) (fun c => ?_)
  · have h := h.1 c
    exact am_vret rfl dX6_keep_40 ⟨_, rfl, rfl, h⟩
  · have h := h.2 c
    refine am_aloadr_n (x := some ρ.1) dX6_keep_12 rfl rfl ?_
    refine mm_gA (k := 15) rfl isA_15 q2334 dX6_keep_13 ?_
    refine am_sipush (v := 6000) dX6_keep_16 (by decide) ?_
    refine am_iload_n (x := x1) dX6_keep_19 rfl rfl ?_
    refine am_imul dX6_keep_20 ?_
    refine am_iload_n (x := x2) dX6_keep_21 rfl rfl ?_
    refine am_iadd dX6_keep_22 ?_
    refine am_aloadr_n (x := some ρ.1) dX6_keep_23 rfl rfl ?_
    refine mm_gA (k := 15) rfl isA_15 q2334 dX6_keep_24 ?_
    refine am_ldcw q2774 dX6_keep_27 ?_
    refine am_iload_n (x := x2) dX6_keep_30 rfl rfl ?_
    refine am_iadd dX6_keep_31 ?_
    refine mm_ldA (k := 15) isA_15 rfl rfl dX6_keep_32 h.1 ?_
    have h := h.2
    refine mm_stA (k := 15) isA_15 rfl rfl dX6_keep_33 h.1 ?_
    have h := h.2
    generalize eμ1 : mm_sA μ 15 (Int32.toNatClampNeg ((6000 * x1) + x2)) (mA μ 15 (Int32.toNatClampNeg (42000 + x2))) = μ1
    have h := h μ1 eμ1.symm
    refine am_iinc (x := x2) (v := (x2 + 1)) (L' := [(4, .int (x2 + 1)), (0, va_rf (some ρ.1)), (2, .int x1)]) dX6_keep_34 rfl rfl (Nat.le_of_ble_eq_true rfl) rfl ?_
    refine am_goto (tgt := 2) dX6_keep_37 (by decide) ?_
    exact am_lss h rfl
theorem W_X6_copy_f {G : am_G} {ρ : mm_F} {d : Nat} {a1 : Int32} {a2 : Int32} {μ : mm_S} {Q : mm_S → Prop} (h : B_X6_copy_2 G ρ d a1 a2 0 μ Q) : W_X6_copy G ρ d a1 a2 μ Q := by
  unfold W_X6_copy
  refine am_iconst (v := 0) dX6_copy_0 (by decide) ?_
  refine am_istore_n (L' := [(6, .int 0), (0, va_rf (some ρ.1)), (2, .int a1), (4, .int a2)]) dX6_copy_1 rfl (Nat.le_of_ble_eq_true rfl) rfl ?_
  exact am_lss h rfl
theorem B_X6_copy_2_f {G : am_G} {ρ : mm_F} {d : Nat} {x1 : Int32} {x2 : Int32} {x3 : Int32} {μ : mm_S} {Q : mm_S → Prop} (h : ((769 ≤ x3 → Q μ) ∧ (¬ 769 ≤ x3 → (vp_in ((769 * x1) + x3) 2307 ∧ (vp_in ((769 * x2) + x3) 2307 ∧ ∀ μ1 : mm_S, μ1 = mm_sA μ 23 (Int32.toNatClampNeg ((769 * x2) + x3)) (mA μ 23 (Int32.toNatClampNeg ((769 * x1) + x3))) → (B_X6_copy_2 G ρ d x1 x2 (x3 + 1) μ1 Q)))))) : B_X6_copy_2 G ρ d x1 x2 x3 μ Q := by
  unfold B_X6_copy_2
  refine am_iload_n (x := x3) dX6_copy_2 rfl rfl ?_
  refine am_sipush (v := 769) dX6_copy_3 (by decide) ?_
  refine am_icmp_ge (tgt := 39) dX6_copy_6 (by decide) (fun c => ?_) (fun c => ?_)
  · have h := h.1 c
    exact am_vret rfl dX6_copy_39 ⟨_, rfl, rfl, h⟩
  · have h := h.2 c
    refine am_aloadr_n (x := some ρ.1) dX6_copy_9 rfl rfl ?_
    refine mm_gA (k := 23) rfl isA_23 q2342 dX6_copy_10 ?_
    refine am_sipush (v := 769) dX6_copy_13 (by decide) ?_
    refine am_iload_n (x := x2) dX6_copy_16 rfl rfl ?_
    refine am_imul dX6_copy_17 ?_
    refine am_iload_n (x := x3) dX6_copy_18 rfl rfl ?_
    refine am_iadd dX6_copy_19 ?_
    refine am_aloadr_n (x := some ρ.1) dX6_copy_20 rfl rfl ?_
    refine mm_gA (k := 23) rfl isA_23 q2342 dX6_copy_21 ?_
    refine am_sipush (v := 769) dX6_copy_24 (by decide) ?_
    refine am_iload_n (x := x1) dX6_copy_27 rfl rfl ?_
    refine am_imul dX6_copy_28 ?_
    refine am_iload_n (x := x3) dX6_copy_29 rfl rfl ?_
    refine am_iadd dX6_copy_30 ?_
    refine mm_ldA (k := 23) isA_23 rfl rfl dX6_copy_31 h.1 ?_
    have h := h.2
    refine mm_stA (k := 23) isA_23 rfl rfl dX6_copy_32 h.1 ?_
    have h := h.2
    generalize eμ1 : mm_sA μ 23 (Int32.toNatClampNeg ((769 * x2) + x3)) (mA μ 23 (Int32.toNatClampNeg ((769 * x1) + x3))) = μ1
    have h := h μ1 eμ1.symm
    refine am_iinc (x := x3) (v := (x3 + 1)) (L' := [(6, .int (x3 + 1)), (0, va_rf (some ρ.1)), (2, .int x1), (4, .int x2)]) dX6_copy_33 rfl rfl (Nat.le_of_ble_eq_true rfl) rfl ?_
    refine am_goto (tgt := 2) dX6_copy_36 (by decide) ?_
    exact am_lss h rfl
theorem W_X6_patch_f {G : am_G} {ρ : mm_F} {d : Nat}  {μ : mm_S} {Q : Int32 → mm_S → Prop} (h : ((¬ (mI μ 25) = 6 → W_X6_begin G ρ d μ (fun μ1 => W_X6_change G ρ d μ1 (fun v3 μ2 => B_X6_patch_39 G ρ (d + 1) v3 (mI μ2 22) (mI μ2 22) μ2 Q))) ∧ ((mI μ 25) = 6 → (∀ μ4 : mm_S, μ4 = mm_sI μ 11 0 → (W_X6_tells G ρ d μ4 (fun μ5 => Q (-1) μ5)))))) : W_X6_patch G ρ (d + 1)  μ Q := by
  unfold W_X6_patch
  refine am_aloadr_n (x := some ρ.1) dX6_patch_0 rfl rfl ?_
  refine mm_gI (k := 25) rfl (Or.inl rfl) (by decide) q2344 dX6_patch_1 ?_
  refine am_bipush (v := 6) dX6_patch_4 (by decide) ?_
  refine am_icmp_ne (tgt := 20) dX6_patch_6 (by decide) (fun c => ?_) (fun c => ?_)
  · have h := h.1 c
    refine am_aloadr_n (x := some ρ.1) dX6_patch_20 rfl rfl ?_
    refine mm_callV (Mc := m_X6_begin) (as := []) rfl bm_X6_begin q2610 q2612 qs77 (Nat.le_of_ble_eq_true rfl) dX6_patch_21 (mt_X6_begin (mm_k2v h (fun μ1 h => ?_)))
    refine am_aloadr_n (x := some ρ.1) dX6_patch_24 rfl rfl ?_
    refine mm_callV (Mc := m_X6_change) (as := []) rfl bm_X6_change q2783 q2785 qs116 (Nat.le_of_ble_eq_true rfl) dX6_patch_25 (mt_X6_change (mm_k2i h (fun v3 μ2 h => ?_)))
    refine am_istore_n (L' := [(2, .int v3), (0, va_rf (some ρ.1))]) dX6_patch_28 rfl (Nat.le_of_ble_eq_true rfl) rfl ?_
    refine am_aloadr_n (x := some ρ.1) dX6_patch_29 rfl rfl ?_
    refine mm_gI (k := 22) rfl (Or.inl rfl) (by decide) q2341 dX6_patch_30 ?_
    refine am_istore_n (L' := [(4, .int (mI μ2 22)), (2, .int v3), (0, va_rf (some ρ.1))]) dX6_patch_33 rfl (Nat.le_of_ble_eq_true rfl) rfl ?_
    refine am_aloadr_n (x := some ρ.1) dX6_patch_34 rfl rfl ?_
    refine mm_gI (k := 22) rfl (Or.inl rfl) (by decide) q2341 dX6_patch_35 ?_
    refine am_istore_n (L' := [(6, .int (mI μ2 22)), (4, .int (mI μ2 22)), (2, .int v3), (0, va_rf (some ρ.1))]) dX6_patch_38 rfl (Nat.le_of_ble_eq_true rfl) rfl ?_
    exact am_lss h rfl
  · have h := h.2 c
    refine am_aloadr_n (x := some ρ.1) dX6_patch_9 rfl rfl ?_
    refine am_iconst (v := 0) dX6_patch_10 (by decide) ?_
    refine mm_pI (k := 11) rfl rfl rfl (by decide) q2330 rfl dX6_patch_11 ?_
    generalize eμ4 : mm_sI μ 11 0 = μ4
    have h := h μ4 eμ4.symm
    refine am_aloadr_n (x := some ρ.1) dX6_patch_14 rfl rfl ?_
    refine mm_callV (Mc := m_X6_tells) (as := []) rfl bm_X6_tells q2766 q2768 qs113 (Nat.le_of_ble_eq_true rfl) dX6_patch_15 (mt_X6_tells (mm_k2v h (fun μ5 h => ?_)))
    refine am_iconst (v := (-1)) dX6_patch_18 (by decide) ?_
    exact am_iret rfl dX6_patch_19 ⟨_, _, rfl, rfl, h⟩
theorem B_X6_patch_39_f {G : am_G} {ρ : mm_F} {d : Nat} {x1 : Int32} {x2 : Int32} {x3 : Int32} {μ : mm_S} {Q : Int32 → mm_S → Prop} (h : ((x1 = 0 → B_X6_patch_79 G ρ (d + 1) x1 x2 μ Q) ∧ (¬ x1 = 0 → (((mI μ 3) = 0 → B_X6_patch_79 G ρ (d + 1) x1 x2 μ Q) ∧ (¬ (mI μ 3) = 0 → W_X6_change G ρ d μ (fun v2 μ1 => ((¬ v2 = 0 → W_X6_link G ρ d x3 (mI μ1 22) μ1 (fun μ3 => B_X6_patch_39 G ρ (d + 1) v2 x2 (mI μ3 22) μ3 Q)) ∧ (v2 = 0 → B_X6_patch_39 G ρ (d + 1) v2 x2 x3 μ1 Q)))))))) : B_X6_patch_39 G ρ (d + 1) x1 x2 x3 μ Q := by
  unfold B_X6_patch_39
  refine am_iload_n (x := x1) dX6_patch_39 rfl rfl ?_
  refine am_if_eq (tgt := 79) dX6_patch_40 (by decide) (fun c => ?_) (fun c => ?_)
  · have h := h.1 c
    exact am_lss h rfl
  · have h := h.2 c
    refine am_aloadr_n (x := some ρ.1) dX6_patch_43 rfl rfl ?_
    refine mm_gI (k := 3) rfl (Or.inl rfl) (by decide) q2322 dX6_patch_44 ?_
    refine am_if_eq (tgt := 79) dX6_patch_47 (by decide) (fun c => ?_) (fun c => ?_)
    · have h := h.1 c
      exact am_lss h rfl
    · have h := h.2 c
      refine am_aloadr_n (x := some ρ.1) dX6_patch_50 rfl rfl ?_
      refine mm_callV (Mc := m_X6_change) (as := []) rfl bm_X6_change q2783 q2785 qs116 (Nat.le_of_ble_eq_true rfl) dX6_patch_51 (mt_X6_change (mm_k2i h (fun v2 μ1 h => ?_)))
      refine am_istore_n (L' := [(2, .int v2), (0, va_rf (some ρ.1)), (4, .int x2), (6, .int x3)]) dX6_patch_54 rfl (Nat.le_of_ble_eq_true rfl) rfl ?_
      refine am_iload_n (x := v2) dX6_patch_55 rfl rfl ?_
      refine am_if_ne (tgt := 62) dX6_patch_56 (by decide) (fun c => ?_) (fun c => ?_)
      · have h := h.1 c
        refine am_aloadr_n (x := some ρ.1) dX6_patch_62 rfl rfl ?_
        refine am_iload_n (x := x3) dX6_patch_63 rfl rfl ?_
        refine am_aloadr_n (x := some ρ.1) dX6_patch_64 rfl rfl ?_
        refine mm_gI (k := 22) rfl (Or.inl rfl) (by decide) q2341 dX6_patch_65 ?_
        refine mm_callV (Mc := m_X6_link) (as := [.int x3, .int (mI μ1 22)]) rfl bm_X6_link q2746 q2748 qs108 (Nat.le_of_ble_eq_true rfl) dX6_patch_68 (mt_X6_link (mm_k2v h (fun μ3 h => ?_)))
        refine am_aloadr_n (x := some ρ.1) dX6_patch_71 rfl rfl ?_
        refine mm_gI (k := 22) rfl (Or.inl rfl) (by decide) q2341 dX6_patch_72 ?_
        refine am_istore_n (L' := [(6, .int (mI μ3 22)), (2, .int v2), (0, va_rf (some ρ.1)), (4, .int x2)]) dX6_patch_75 rfl (Nat.le_of_ble_eq_true rfl) rfl ?_
        refine am_goto (tgt := 39) dX6_patch_76 (by decide) ?_
        exact am_lss h rfl
      · have h := h.2 c
        refine am_goto (tgt := 39) dX6_patch_59 (by decide) ?_
        exact am_lss h rfl
theorem B_X6_patch_79_f {G : am_G} {ρ : mm_F} {d : Nat} {x1 : Int32} {x2 : Int32} {μ : mm_S} {Q : Int32 → mm_S → Prop} (h : W_X6_tells G ρ d μ (fun μ1 => ((¬ x1 = 0 → W_X6_keep G ρ d ((mI μ1 25) + 1) μ1 (fun μ2 => (vp_in (mI μ2 25) 6 ∧ ∀ μ3 : mm_S, μ3 = mm_sA μ2 31 (Int32.toNatClampNeg (mI μ2 25)) ((1200 * ((mI μ2 25) + 1)) + x2) → ((vp_in (mI μ3 25) 6 ∧ ∀ μ4 : mm_S, μ4 = mm_sA μ3 32 (Int32.toNatClampNeg (mI μ3 25)) 0 → ((∀ μ5 : mm_S, μ5 = mm_sI μ4 25 ((mI μ4 25) + 1) → (Q ((mI μ5 25) - 1) μ5)))))))) ∧ (x1 = 0 → Q (-1) μ1)))) : B_X6_patch_79 G ρ (d + 1) x1 x2 μ Q := by
  unfold B_X6_patch_79
  refine am_aloadr_n (x := some ρ.1) dX6_patch_79 rfl rfl ?_
  refine mm_callV (Mc := m_X6_tells) (as := []) rfl bm_X6_tells q2766 q2768 qs113 (Nat.le_of_ble_eq_true rfl) dX6_patch_80 (mt_X6_tells (mm_k2v h (fun μ1 h => ?_)))
  refine am_iload_n (x := x1) dX6_patch_83 rfl rfl ?_
  refine am_if_ne (tgt := 89) dX6_patch_84 (by decide) (fun c => ?_) (fun c => ?_)
  · have h := h.1 c
    refine am_aloadr_n (x := some ρ.1) dX6_patch_89 rfl rfl ?_
    refine am_aloadr_n (x := some ρ.1) dX6_patch_90 rfl rfl ?_
    refine mm_gI (k := 25) rfl (Or.inl rfl) (by decide) q2344 dX6_patch_91 ?_
    refine am_iconst (v := 1) dX6_patch_94 (by decide) ?_
    refine am_iadd dX6_patch_95 ?_
    refine mm_callV (Mc := m_X6_keep) (as := [.int ((mI μ1 25) + 1)]) rfl bm_X6_keep q2770 q2772 qs114 (Nat.le_of_ble_eq_true rfl) dX6_patch_96 (mt_X6_keep (mm_k2v h (fun μ2 h => ?_)))
    refine am_aloadr_n (x := some ρ.1) dX6_patch_99 rfl rfl ?_
    refine mm_gA (k := 31) rfl isA_31 q2350 dX6_patch_100 ?_
    refine am_aloadr_n (x := some ρ.1) dX6_patch_103 rfl rfl ?_
    refine mm_gI (k := 25) rfl (Or.inl rfl) (by decide) q2344 dX6_patch_104 ?_
    refine am_sipush (v := 1200) dX6_patch_107 (by decide) ?_
    refine am_aloadr_n (x := some ρ.1) dX6_patch_110 rfl rfl ?_
    refine mm_gI (k := 25) rfl (Or.inl rfl) (by decide) q2344 dX6_patch_111 ?_
    refine am_iconst (v := 1) dX6_patch_114 (by decide) ?_
    refine am_iadd dX6_patch_115 ?_
    refine am_imul dX6_patch_116 ?_
    refine am_iload_n (x := x2) dX6_patch_117 rfl rfl ?_
    refine am_iadd dX6_patch_118 ?_
    refine mm_stA (k := 31) isA_31 rfl rfl dX6_patch_119 h.1 ?_
    have h := h.2
    generalize eμ3 : mm_sA μ2 31 (Int32.toNatClampNeg (mI μ2 25)) ((1200 * ((mI μ2 25) + 1)) + x2) = μ3
    have h := h μ3 eμ3.symm
    refine am_aloadr_n (x := some ρ.1) dX6_patch_120 rfl rfl ?_
    refine mm_gA (k := 32) rfl isA_32 q2351 dX6_patch_121 ?_
    refine am_aloadr_n (x := some ρ.1) dX6_patch_124 rfl rfl ?_
    refine mm_gI (k := 25) rfl (Or.inl rfl) (by decide) q2344 dX6_patch_125 ?_
    refine am_iconst (v := 0) dX6_patch_128 (by decide) ?_
    refine mm_stA (k := 32) isA_32 rfl rfl dX6_patch_129 h.1 ?_
    have h := h.2
    generalize eμ4 : mm_sA μ3 32 (Int32.toNatClampNeg (mI μ3 25)) 0 = μ4
    have h := h μ4 eμ4.symm
    refine am_aloadr_n (x := some ρ.1) dX6_patch_130 rfl rfl ?_
    refine am_dup dX6_patch_131 (am_rf_cat _) ?_
    refine mm_gI (k := 25) rfl (Or.inl rfl) (by decide) q2344 dX6_patch_132 ?_
    refine am_iconst (v := 1) dX6_patch_135 (by decide) ?_
    refine am_iadd dX6_patch_136 ?_
    refine mm_pI (k := 25) rfl rfl rfl (by decide) q2344 rfl dX6_patch_137 ?_
    generalize eμ5 : mm_sI μ4 25 ((mI μ4 25) + 1) = μ5
    have h := h μ5 eμ5.symm
    refine am_aloadr_n (x := some ρ.1) dX6_patch_140 rfl rfl ?_
    refine mm_gI (k := 25) rfl (Or.inl rfl) (by decide) q2344 dX6_patch_141 ?_
    refine am_iconst (v := 1) dX6_patch_144 (by decide) ?_
    refine am_isub dX6_patch_145 ?_
    exact am_iret rfl dX6_patch_146 ⟨_, _, rfl, rfl, h⟩
  · have h := h.2 c
    refine am_iconst (v := (-1)) dX6_patch_87 (by decide) ?_
    exact am_iret rfl dX6_patch_88 ⟨_, _, rfl, rfl, h⟩
theorem W_X6_change_f {G : am_G} {ρ : mm_F} {d : Nat}  {μ : mm_S} {Q : Int32 → mm_S → Prop} (h : (((mI μ 3) = 100 → B_X6_change_34 G ρ (d + 1) (mI μ 3) μ Q) ∧ (¬ (mI μ 3) = 100 → W_X6_isIn G ρ d (mI μ 3) 116 118 μ (fun v2 μ1 => ((¬ v2 = 0 → B_X6_change_34 G ρ (d + 1) (mI μ 3) μ1 Q) ∧ (v2 = 0 → (((mI μ 3) = 121 → B_X6_change_34 G ρ (d + 1) (mI μ 3) μ1 Q) ∧ (¬ (mI μ 3) = 121 → W_X6_bad G ρ d 1 μ1 (fun v4 μ3 => (narrow .boolean (.int v4) = .int v4 ∧ Q v4 μ3)))))))))) : W_X6_change G ρ (d + 1)  μ Q := by
  unfold W_X6_change
  refine am_aloadr_n (x := some ρ.1) dX6_change_0 rfl rfl ?_
  refine mm_gI (k := 3) rfl (Or.inl rfl) (by decide) q2322 dX6_change_1 ?_
  refine am_istore_n (L' := [(2, .int (mI μ 3)), (0, va_rf (some ρ.1))]) dX6_change_4 rfl (Nat.le_of_ble_eq_true rfl) rfl ?_
  refine am_iload_n (x := (mI μ 3)) dX6_change_5 rfl rfl ?_
  refine am_bipush (v := 100) dX6_change_6 (by decide) ?_
  refine am_icmp_eq (tgt := 34) dX6_change_8 (by decide) (fun c => ?_) (fun c => ?_)
  · have h := h.1 c
    exact am_lss h rfl
  · have h := h.2 c
    refine am_iload_n (x := (mI μ 3)) dX6_change_11 rfl rfl ?_
    refine am_bipush (v := 116) dX6_change_12 (by decide) ?_
    refine am_bipush (v := 118) dX6_change_14 (by decide) ?_
    refine mm_callS (Mc := m_X6_isIn) (as := [.int (mI μ 3), .int 116, .int 118]) rfl bm_X6_isIn q2636 q2637 (Nat.le_of_ble_eq_true rfl) dX6_change_16 (mt_X6_isIn (mm_k2i h (fun v2 μ1 h => ?_)))
    refine am_if_ne (tgt := 34) dX6_change_19 (by decide) (fun c => ?_) (fun c => ?_)
    · have h := h.1 c
      exact am_lss h rfl
    · have h := h.2 c
      refine am_iload_n (x := (mI μ 3)) dX6_change_22 rfl rfl ?_
      refine am_bipush (v := 121) dX6_change_23 (by decide) ?_
      refine am_icmp_eq (tgt := 34) dX6_change_25 (by decide) (fun c => ?_) (fun c => ?_)
      · have h := h.1 c
        exact am_lss h rfl
      · have h := h.2 c
        refine am_aloadr_n (x := some ρ.1) dX6_change_28 rfl rfl ?_
        refine am_iconst (v := 1) dX6_change_29 (by decide) ?_
        refine mm_callV (Mc := m_X6_bad) (as := [.int 1]) rfl bm_X6_bad q2646 q2648 qs83 (Nat.le_of_ble_eq_true rfl) dX6_change_30 (mt_X6_bad (mm_k2i h (fun v4 μ3 h => ?_)))
        exact am_zret rfl h.1 dX6_change_33 ⟨_, _, rfl, rfl, h.2⟩
theorem B_X6_change_34_f {G : am_G} {ρ : mm_F} {d : Nat} {x1 : Int32} {μ : mm_S} {Q : Int32 → mm_S → Prop} (h : W_X6_look0 G ρ d μ (fun μ1 => W_X6_named G ρ d μ1 (fun v3 μ2 => ((¬ v3 = 0 → ((¬ x1 = 100 → ((¬ x1 = 116 → ((¬ x1 = 121 → ((¬ x1 = 118 → ((¬ x1 = 117 → B_X6_change_207 G ρ (d + 1) (mI μ2 17) 43 μ2 Q) ∧ (x1 = 117 → B_X6_change_207 G ρ (d + 1) (mI μ2 17) 42 μ2 Q))) ∧ (x1 = 118 → W_X6_underOne G ρ d μ2 (fun v5 μ4 => ((¬ v5 = 0 → ((¬ x1 = 117 → B_X6_change_207 G ρ (d + 1) (mI μ2 17) 43 μ4 Q) ∧ (x1 = 117 → B_X6_change_207 G ρ (d + 1) (mI μ2 17) 42 μ4 Q))) ∧ (v5 = 0 → Q 0 μ4)))))) ∧ (x1 = 121 → (∀ μ6 : mm_S, μ6 = mm_sI μ2 18 0 → (W_X6_expression G ρ d μ6 (fun v8 μ7 => ((¬ v8 = 0 → W_X6_node G ρ d 44 (mI μ2 17) (mI μ7 19) 0 μ7 (fun v10 μ9 => (∀ μ11 : mm_S, μ11 = mm_sI μ9 22 v10 → (W_X6_need G ρ d 59 μ11 (fun v13 μ12 => (narrow .boolean (.int v13) = .int v13 ∧ Q v13 μ12)))))) ∧ (v8 = 0 → Q 0 μ7)))))))) ∧ (x1 = 116 → W_X6_several G ρ d 1 μ2 (fun v15 μ14 => ((¬ v15 = 0 → W_X6_node G ρ d 41 (mI μ2 17) 0 (mI μ14 21) μ14 (fun v17 μ16 => (∀ μ18 : mm_S, μ18 = mm_sI μ16 22 v17 → (Q 1 μ18)))) ∧ (v15 = 0 → Q 0 μ14)))))) ∧ (x1 = 100 → W_X6_underOne G ρ d μ2 (fun v20 μ19 => ((¬ v20 = 0 → W_X6_several G ρ d 0 μ19 (fun v22 μ21 => ((¬ v22 = 0 → W_X6_node G ρ d 40 (mI μ2 17) (mI μ19 24) (mI μ21 21) μ21 (fun v24 μ23 => (∀ μ25 : mm_S, μ25 = mm_sI μ23 22 v24 → (Q 1 μ25)))) ∧ (v22 = 0 → Q 0 μ21)))) ∧ (v20 = 0 → Q 0 μ19)))))) ∧ (v3 = 0 → Q 0 μ2))))) : B_X6_change_34 G ρ (d + 1) x1 μ Q := by
  unfold B_X6_change_34
  refine am_aloadr_n (x := some ρ.1) dX6_change_34 rfl rfl ?_
  refine mm_callV (Mc := m_X6_look0) (as := []) rfl bm_X6_look0 q2625 q2627 qs80 (Nat.le_of_ble_eq_true rfl) dX6_change_35 (mt_X6_look0 (mm_k2v h (fun μ1 h => ?_)))
  refine am_aloadr_n (x := some ρ.1) dX6_change_38 rfl rfl ?_
  refine mm_callV (Mc := m_X6_named) (as := []) rfl bm_X6_named q2654 q2656 qs85 (Nat.le_of_ble_eq_true rfl) dX6_change_39 (mt_X6_named (mm_k2i h (fun v3 μ2 h => ?_)))
  refine am_if_ne (tgt := 47) dX6_change_42 (by decide) (fun c => ?_) (fun c => ?_)
  · have h := h.1 c
    refine am_aloadr_n (x := some ρ.1) dX6_change_47 rfl rfl ?_
    refine mm_gI (k := 17) rfl (Or.inl rfl) (by decide) q2336 dX6_change_48 ?_
    refine am_istore_n (L' := [(4, .int (mI μ2 17)), (0, va_rf (some ρ.1)), (2, .int x1)]) dX6_change_51 rfl (Nat.le_of_ble_eq_true rfl) rfl ?_
    refine am_iload_n (x := x1) dX6_change_52 rfl rfl ?_
    refine am_bipush (v := 100) dX6_change_53 (by decide) ?_
    refine am_icmp_ne (tgt := 100) dX6_change_55 (by decide) (fun c => ?_) (fun c => ?_)
    · have h := h.1 c
      refine am_iload_n (x := x1) dX6_change_100 rfl rfl ?_
      refine am_bipush (v := 116) dX6_change_101 (by decide) ?_
      refine am_icmp_ne (tgt := 134) dX6_change_103 (by decide) (fun c => ?_) (fun c => ?_)
      · have h := h.1 c
        refine am_iload_n (x := x1) dX6_change_134 rfl rfl ?_
        refine am_bipush (v := 121) dX6_change_135 (by decide) ?_
        refine am_icmp_ne (tgt := 177) dX6_change_137 (by decide) (fun c => ?_) (fun c => ?_)
        · have h := h.1 c
          refine am_iload_n (x := x1) dX6_change_177 rfl rfl ?_
          refine am_bipush (v := 118) dX6_change_178 (by decide) ?_
          refine am_icmp_ne (tgt := 192) dX6_change_180 (by decide) (fun c => ?_) (fun c => ?_)
          · have h := h.1 c
            refine am_aloadr_n (x := some ρ.1) dX6_change_192 rfl rfl ?_
            refine am_aloadr_n (x := some ρ.1) dX6_change_193 rfl rfl ?_
            refine am_iload_n (x := x1) dX6_change_194 rfl rfl ?_
            refine am_bipush (v := 117) dX6_change_195 (by decide) ?_
            refine am_icmp_ne (tgt := 205) dX6_change_197 (by decide) (fun c => ?_) (fun c => ?_)
            · have h := h.1 c
              refine am_bipush (v := 43) dX6_change_205 (by decide) ?_
              exact am_lss h rfl
            · have h := h.2 c
              refine am_bipush (v := 42) dX6_change_200 (by decide) ?_
              refine am_goto (tgt := 207) dX6_change_202 (by decide) ?_
              exact am_lss h rfl
          · have h := h.2 c
            refine am_aloadr_n (x := some ρ.1) dX6_change_183 rfl rfl ?_
            refine mm_callV (Mc := m_X6_underOne) (as := []) rfl bm_X6_underOne q2787 q2789 qs117 (Nat.le_of_ble_eq_true rfl) dX6_change_184 (mt_X6_underOne (mm_k2i h (fun v5 μ4 h => ?_)))
            refine am_if_ne (tgt := 192) dX6_change_187 (by decide) (fun c => ?_) (fun c => ?_)
            · have h := h.1 c
              refine am_aloadr_n (x := some ρ.1) dX6_change_192 rfl rfl ?_
              refine am_aloadr_n (x := some ρ.1) dX6_change_193 rfl rfl ?_
              refine am_iload_n (x := x1) dX6_change_194 rfl rfl ?_
              refine am_bipush (v := 117) dX6_change_195 (by decide) ?_
              refine am_icmp_ne (tgt := 205) dX6_change_197 (by decide) (fun c => ?_) (fun c => ?_)
              · have h := h.1 c
                refine am_bipush (v := 43) dX6_change_205 (by decide) ?_
                exact am_lss h rfl
              · have h := h.2 c
                refine am_bipush (v := 42) dX6_change_200 (by decide) ?_
                refine am_goto (tgt := 207) dX6_change_202 (by decide) ?_
                exact am_lss h rfl
            · have h := h.2 c
              refine am_iconst (v := 0) dX6_change_190 (by decide) ?_
              exact am_zret rfl rfl dX6_change_191 ⟨_, _, rfl, rfl, h⟩
        · have h := h.2 c
          refine am_aloadr_n (x := some ρ.1) dX6_change_140 rfl rfl ?_
          refine am_iconst (v := 0) dX6_change_141 (by decide) ?_
          refine mm_pI (k := 18) rfl rfl rfl (by decide) q2337 rfl dX6_change_142 ?_
          generalize eμ6 : mm_sI μ2 18 0 = μ6
          have h := h μ6 eμ6.symm
          refine am_aloadr_n (x := some ρ.1) dX6_change_145 rfl rfl ?_
          refine mm_callV (Mc := m_X6_expression) (as := []) rfl bm_X6_expression q2726 q2728 qs103 (Nat.le_of_ble_eq_true rfl) dX6_change_146 (mt_X6_expression (mm_k2i h (fun v8 μ7 h => ?_)))
          refine am_if_ne (tgt := 154) dX6_change_149 (by decide) (fun c => ?_) (fun c => ?_)
          · have h := h.1 c
            refine am_aloadr_n (x := some ρ.1) dX6_change_154 rfl rfl ?_
            refine am_aloadr_n (x := some ρ.1) dX6_change_155 rfl rfl ?_
            refine am_bipush (v := 44) dX6_change_156 (by decide) ?_
            refine am_iload_n (x := (mI μ2 17)) dX6_change_158 rfl rfl ?_
            refine am_aloadr_n (x := some ρ.1) dX6_change_159 rfl rfl ?_
            refine mm_gI (k := 19) rfl (Or.inl rfl) (by decide) q2338 dX6_change_160 ?_
            refine am_iconst (v := 0) dX6_change_163 (by decide) ?_
            refine mm_callV (Mc := m_X6_node) (as := [.int 44, .int (mI μ2 17), .int (mI μ7 19), .int 0]) rfl bm_X6_node q2742 q2744 qs107 (Nat.le_of_ble_eq_true rfl) dX6_change_164 (mt_X6_node (mm_k2i h (fun v10 μ9 h => ?_)))
            refine mm_pI (k := 22) rfl rfl rfl (by decide) q2341 rfl dX6_change_167 ?_
            generalize eμ11 : mm_sI μ9 22 v10 = μ11
            have h := h μ11 eμ11.symm
            refine am_aloadr_n (x := some ρ.1) dX6_change_170 rfl rfl ?_
            refine am_bipush (v := 59) dX6_change_171 (by decide) ?_
            refine mm_callV (Mc := m_X6_need) (as := [.int 59]) rfl bm_X6_need q2678 q2680 qs91 (Nat.le_of_ble_eq_true rfl) dX6_change_173 (mt_X6_need (mm_k2i h (fun v13 μ12 h => ?_)))
            exact am_zret rfl h.1 dX6_change_176 ⟨_, _, rfl, rfl, h.2⟩
          · have h := h.2 c
            refine am_iconst (v := 0) dX6_change_152 (by decide) ?_
            exact am_zret rfl rfl dX6_change_153 ⟨_, _, rfl, rfl, h⟩
      · have h := h.2 c
        refine am_aloadr_n (x := some ρ.1) dX6_change_106 rfl rfl ?_
        refine am_iconst (v := 1) dX6_change_107 (by decide) ?_
        refine mm_callV (Mc := m_X6_several) (as := [.int 1]) rfl bm_X6_several q2791 q2793 qs118 (Nat.le_of_ble_eq_true rfl) dX6_change_108 (mt_X6_several (mm_k2i h (fun v15 μ14 h => ?_)))
        refine am_if_ne (tgt := 116) dX6_change_111 (by decide) (fun c => ?_) (fun c => ?_)
        · have h := h.1 c
          refine am_aloadr_n (x := some ρ.1) dX6_change_116 rfl rfl ?_
          refine am_aloadr_n (x := some ρ.1) dX6_change_117 rfl rfl ?_
          refine am_bipush (v := 41) dX6_change_118 (by decide) ?_
          refine am_iload_n (x := (mI μ2 17)) dX6_change_120 rfl rfl ?_
          refine am_iconst (v := 0) dX6_change_121 (by decide) ?_
          refine am_aloadr_n (x := some ρ.1) dX6_change_122 rfl rfl ?_
          refine mm_gI (k := 21) rfl (Or.inl rfl) (by decide) q2340 dX6_change_123 ?_
          refine mm_callV (Mc := m_X6_node) (as := [.int 41, .int (mI μ2 17), .int 0, .int (mI μ14 21)]) rfl bm_X6_node q2742 q2744 qs107 (Nat.le_of_ble_eq_true rfl) dX6_change_126 (mt_X6_node (mm_k2i h (fun v17 μ16 h => ?_)))
          refine mm_pI (k := 22) rfl rfl rfl (by decide) q2341 rfl dX6_change_129 ?_
          generalize eμ18 : mm_sI μ16 22 v17 = μ18
          have h := h μ18 eμ18.symm
          refine am_iconst (v := 1) dX6_change_132 (by decide) ?_
          exact am_zret rfl rfl dX6_change_133 ⟨_, _, rfl, rfl, h⟩
        · have h := h.2 c
          refine am_iconst (v := 0) dX6_change_114 (by decide) ?_
          exact am_zret rfl rfl dX6_change_115 ⟨_, _, rfl, rfl, h⟩
    · have h := h.2 c
      refine am_aloadr_n (x := some ρ.1) dX6_change_58 rfl rfl ?_
      refine mm_callV (Mc := m_X6_underOne) (as := []) rfl bm_X6_underOne q2787 q2789 qs117 (Nat.le_of_ble_eq_true rfl) dX6_change_59 (mt_X6_underOne (mm_k2i h (fun v20 μ19 h => ?_)))
      refine am_if_ne (tgt := 67) dX6_change_62 (by decide) (fun c => ?_) (fun c => ?_)
      · have h := h.1 c
        refine am_aloadr_n (x := some ρ.1) dX6_change_67 rfl rfl ?_
        refine mm_gI (k := 24) rfl (Or.inl rfl) (by decide) q2343 dX6_change_68 ?_
        refine am_istore_n (L' := [(6, .int (mI μ19 24)), (4, .int (mI μ2 17)), (0, va_rf (some ρ.1)), (2, .int x1)]) dX6_change_71 rfl (Nat.le_of_ble_eq_true rfl) rfl ?_
        refine am_aloadr_n (x := some ρ.1) dX6_change_72 rfl rfl ?_
        refine am_iconst (v := 0) dX6_change_73 (by decide) ?_
        refine mm_callV (Mc := m_X6_several) (as := [.int 0]) rfl bm_X6_several q2791 q2793 qs118 (Nat.le_of_ble_eq_true rfl) dX6_change_74 (mt_X6_several (mm_k2i h (fun v22 μ21 h => ?_)))
        refine am_if_ne (tgt := 82) dX6_change_77 (by decide) (fun c => ?_) (fun c => ?_)
        · have h := h.1 c
          refine am_aloadr_n (x := some ρ.1) dX6_change_82 rfl rfl ?_
          refine am_aloadr_n (x := some ρ.1) dX6_change_83 rfl rfl ?_
          refine am_bipush (v := 40) dX6_change_84 (by decide) ?_
          refine am_iload_n (x := (mI μ2 17)) dX6_change_86 rfl rfl ?_
          refine am_iload_n (x := (mI μ19 24)) dX6_change_87 rfl rfl ?_
          refine am_aloadr_n (x := some ρ.1) dX6_change_88 rfl rfl ?_
          refine mm_gI (k := 21) rfl (Or.inl rfl) (by decide) q2340 dX6_change_89 ?_
          refine mm_callV (Mc := m_X6_node) (as := [.int 40, .int (mI μ2 17), .int (mI μ19 24), .int (mI μ21 21)]) rfl bm_X6_node q2742 q2744 qs107 (Nat.le_of_ble_eq_true rfl) dX6_change_92 (mt_X6_node (mm_k2i h (fun v24 μ23 h => ?_)))
          refine mm_pI (k := 22) rfl rfl rfl (by decide) q2341 rfl dX6_change_95 ?_
          generalize eμ25 : mm_sI μ23 22 v24 = μ25
          have h := h μ25 eμ25.symm
          refine am_iconst (v := 1) dX6_change_98 (by decide) ?_
          exact am_zret rfl rfl dX6_change_99 ⟨_, _, rfl, rfl, h⟩
        · have h := h.2 c
          refine am_iconst (v := 0) dX6_change_80 (by decide) ?_
          exact am_zret rfl rfl dX6_change_81 ⟨_, _, rfl, rfl, h⟩
      · have h := h.2 c
        refine am_iconst (v := 0) dX6_change_65 (by decide) ?_
        exact am_zret rfl rfl dX6_change_66 ⟨_, _, rfl, rfl, h⟩
  · have h := h.2 c
    refine am_iconst (v := 0) dX6_change_45 (by decide) ?_
    exact am_zret rfl rfl dX6_change_46 ⟨_, _, rfl, rfl, h⟩
theorem B_X6_change_207_f {G : am_G} {ρ : mm_F} {d : Nat} {x2 : Int32} {s0 : Int32} {μ : mm_S} {Q : Int32 → mm_S → Prop} (h : W_X6_node G ρ d s0 x2 (mI μ 24) 0 μ (fun v2 μ1 => (∀ μ3 : mm_S, μ3 = mm_sI μ1 22 v2 → (W_X6_need G ρ d 59 μ3 (fun v5 μ4 => (narrow .boolean (.int v5) = .int v5 ∧ Q v5 μ4)))))) : B_X6_change_207 G ρ (d + 1) x2 s0 μ Q := by
  unfold B_X6_change_207
  refine am_iload_n (x := x2) dX6_change_207 rfl rfl ?_
  refine am_aloadr_n (x := some ρ.1) dX6_change_208 rfl rfl ?_
  refine mm_gI (k := 24) rfl (Or.inl rfl) (by decide) q2343 dX6_change_209 ?_
  refine am_iconst (v := 0) dX6_change_212 (by decide) ?_
  refine mm_callV (Mc := m_X6_node) (as := [.int s0, .int x2, .int (mI μ 24), .int 0]) rfl bm_X6_node q2742 q2744 qs107 (Nat.le_of_ble_eq_true rfl) dX6_change_213 (mt_X6_node (mm_k2i h (fun v2 μ1 h => ?_)))
  refine mm_pI (k := 22) rfl rfl rfl (by decide) q2341 rfl dX6_change_216 ?_
  generalize eμ3 : mm_sI μ1 22 v2 = μ3
  have h := h μ3 eμ3.symm
  refine am_aloadr_n (x := some ρ.1) dX6_change_219 rfl rfl ?_
  refine am_bipush (v := 59) dX6_change_220 (by decide) ?_
  refine mm_callV (Mc := m_X6_need) (as := [.int 59]) rfl bm_X6_need q2678 q2680 qs91 (Nat.le_of_ble_eq_true rfl) dX6_change_222 (mt_X6_need (mm_k2i h (fun v5 μ4 h => ?_)))
  exact am_zret rfl h.1 dX6_change_225 ⟨_, _, rfl, rfl, h.2⟩
theorem W_X6_underOne_f {G : am_G} {ρ : mm_F} {d : Nat}  {μ : mm_S} {Q : Int32 → mm_S → Prop} (h : (∀ μ1 : mm_S, μ1 = mm_sI μ 24 (-1) → ((((mI μ1 3) = 101 → W_X6_look0 G ρ d μ1 (fun μ2 => W_X6_named G ρ d μ2 (fun v4 μ3 => ((¬ v4 = 0 → (∀ μ5 : mm_S, μ5 = mm_sI μ3 24 (mI μ3 17) → (Q 1 μ5))) ∧ (v4 = 0 → Q 0 μ3))))) ∧ (¬ (mI μ1 3) = 101 → Q 1 μ1))))) : W_X6_underOne G ρ (d + 1)  μ Q := by
  unfold W_X6_underOne
  refine am_aloadr_n (x := some ρ.1) dX6_underOne_0 rfl rfl ?_
  refine am_iconst (v := (-1)) dX6_underOne_1 (by decide) ?_
  refine mm_pI (k := 24) rfl rfl rfl (by decide) q2343 rfl dX6_underOne_2 ?_
  generalize eμ1 : mm_sI μ 24 (-1) = μ1
  have h := h μ1 eμ1.symm
  refine am_aloadr_n (x := some ρ.1) dX6_underOne_5 rfl rfl ?_
  refine mm_gI (k := 3) rfl (Or.inl rfl) (by decide) q2322 dX6_underOne_6 ?_
  refine am_bipush (v := 101) dX6_underOne_9 (by decide) ?_
  refine am_icmp_eq (tgt := 16) dX6_underOne_11 (by decide) (fun c => ?_) (fun c => ?_)
  · have h := h.1 c
    refine am_aloadr_n (x := some ρ.1) dX6_underOne_16 rfl rfl ?_
    refine mm_callV (Mc := m_X6_look0) (as := []) rfl bm_X6_look0 q2625 q2627 qs80 (Nat.le_of_ble_eq_true rfl) dX6_underOne_17 (mt_X6_look0 (mm_k2v h (fun μ2 h => ?_)))
    refine am_aloadr_n (x := some ρ.1) dX6_underOne_20 rfl rfl ?_
    refine mm_callV (Mc := m_X6_named) (as := []) rfl bm_X6_named q2654 q2656 qs85 (Nat.le_of_ble_eq_true rfl) dX6_underOne_21 (mt_X6_named (mm_k2i h (fun v4 μ3 h => ?_)))
    refine am_if_ne (tgt := 29) dX6_underOne_24 (by decide) (fun c => ?_) (fun c => ?_)
    · have h := h.1 c
      refine am_aloadr_n (x := some ρ.1) dX6_underOne_29 rfl rfl ?_
      refine am_aloadr_n (x := some ρ.1) dX6_underOne_30 rfl rfl ?_
      refine mm_gI (k := 17) rfl (Or.inl rfl) (by decide) q2336 dX6_underOne_31 ?_
      refine mm_pI (k := 24) rfl rfl rfl (by decide) q2343 rfl dX6_underOne_34 ?_
      generalize eμ5 : mm_sI μ3 24 (mI μ3 17) = μ5
      have h := h μ5 eμ5.symm
      refine am_iconst (v := 1) dX6_underOne_37 (by decide) ?_
      exact am_zret rfl rfl dX6_underOne_38 ⟨_, _, rfl, rfl, h⟩
    · have h := h.2 c
      refine am_iconst (v := 0) dX6_underOne_27 (by decide) ?_
      exact am_zret rfl rfl dX6_underOne_28 ⟨_, _, rfl, rfl, h⟩
  · have h := h.2 c
    refine am_iconst (v := 1) dX6_underOne_14 (by decide) ?_
    exact am_zret rfl rfl dX6_underOne_15 ⟨_, _, rfl, rfl, h⟩
theorem W_X6_several_f {G : am_G} {ρ : mm_F} {d : Nat} {a1 : Int32} {μ : mm_S} {Q : Int32 → mm_S → Prop} (h : W_X6_need G ρ d 123 μ (fun v2 μ1 => ((¬ v2 = 0 → B_X6_several_15 G ρ (d + 1) a1 (-1) (-1) μ1 Q) ∧ (v2 = 0 → Q 0 μ1)))) : W_X6_several G ρ (d + 1) a1 μ Q := by
  unfold W_X6_several
  refine am_aloadr_n (x := some ρ.1) dX6_several_0 rfl rfl ?_
  refine am_bipush (v := 123) dX6_several_1 (by decide) ?_
  refine mm_callV (Mc := m_X6_need) (as := [.int 123]) rfl bm_X6_need q2678 q2680 qs91 (Nat.le_of_ble_eq_true rfl) dX6_several_3 (mt_X6_need (mm_k2i h (fun v2 μ1 h => ?_)))
  refine am_if_ne (tgt := 11) dX6_several_6 (by decide) (fun c => ?_) (fun c => ?_)
  · have h := h.1 c
    refine am_iconst (v := (-1)) dX6_several_11 (by decide) ?_
    refine am_istore_n (L' := [(4, .int (-1)), (0, va_rf (some ρ.1)), (2, .int a1)]) dX6_several_12 rfl (Nat.le_of_ble_eq_true rfl) rfl ?_
    refine am_iconst (v := (-1)) dX6_several_13 (by decide) ?_
    refine am_istore_n (L' := [(6, .int (-1)), (4, .int (-1)), (0, va_rf (some ρ.1)), (2, .int a1)]) dX6_several_14 rfl (Nat.le_of_ble_eq_true rfl) rfl ?_
    exact am_lss h rfl
  · have h := h.2 c
    refine am_iconst (v := 0) dX6_several_9 (by decide) ?_
    exact am_zret rfl rfl dX6_several_10 ⟨_, _, rfl, rfl, h⟩
theorem B_X6_several_15_f {G : am_G} {ρ : mm_F} {d : Nat} {x1 : Int32} {x2 : Int32} {x3 : Int32} {μ : mm_S} {Q : Int32 → mm_S → Prop} (h : W_X6_isSign G ρ d 125 μ (fun v2 μ1 => ((¬ v2 = 0 → W_X6_look0 G ρ d μ1 (fun μ3 => (∀ μ4 : mm_S, μ4 = mm_sI μ3 21 x2 → (Q 1 μ4)))) ∧ (v2 = 0 → ((x1 = 0 → W_X6_member G ρ d (-1) μ1 (fun v6 μ5 => ((¬ v6 = 0 → B_X6_several_48 G ρ (d + 1) x1 x2 x3 μ5 Q) ∧ (v6 = 0 → Q 0 μ5)))) ∧ (¬ x1 = 0 → W_X6_editOf G ρ d μ1 (fun v8 μ7 => ((¬ v8 = 0 → B_X6_several_48 G ρ (d + 1) x1 x2 x3 μ7 Q) ∧ (v8 = 0 → Q 0 μ7))))))))) : B_X6_several_15 G ρ (d + 1) x1 x2 x3 μ Q := by
  unfold B_X6_several_15
  refine am_aloadr_n (x := some ρ.1) dX6_several_15 rfl rfl ?_
  refine am_bipush (v := 125) dX6_several_16 (by decide) ?_
  refine mm_callV (Mc := m_X6_isSign) (as := [.int 125]) rfl bm_X6_isSign q2682 q2684 qs92 (Nat.le_of_ble_eq_true rfl) dX6_several_18 (mt_X6_isSign (mm_k2i h (fun v2 μ1 h => ?_)))
  refine am_if_ne (tgt := 78) dX6_several_21 (by decide) (fun c => ?_) (fun c => ?_)
  · have h := h.1 c
    refine am_aloadr_n (x := some ρ.1) dX6_several_78 rfl rfl ?_
    refine mm_callV (Mc := m_X6_look0) (as := []) rfl bm_X6_look0 q2625 q2627 qs80 (Nat.le_of_ble_eq_true rfl) dX6_several_79 (mt_X6_look0 (mm_k2v h (fun μ3 h => ?_)))
    refine am_aloadr_n (x := some ρ.1) dX6_several_82 rfl rfl ?_
    refine am_iload_n (x := x2) dX6_several_83 rfl rfl ?_
    refine mm_pI (k := 21) rfl rfl rfl (by decide) q2340 rfl dX6_several_84 ?_
    generalize eμ4 : mm_sI μ3 21 x2 = μ4
    have h := h μ4 eμ4.symm
    refine am_iconst (v := 1) dX6_several_87 (by decide) ?_
    exact am_zret rfl rfl dX6_several_88 ⟨_, _, rfl, rfl, h⟩
  · have h := h.2 c
    refine am_iload_n (x := x1) dX6_several_24 rfl rfl ?_
    refine am_if_eq (tgt := 38) dX6_several_25 (by decide) (fun c => ?_) (fun c => ?_)
    · have h := h.1 c
      refine am_aloadr_n (x := some ρ.1) dX6_several_38 rfl rfl ?_
      refine am_iconst (v := (-1)) dX6_several_39 (by decide) ?_
      refine mm_callV (Mc := m_X6_member) (as := [.int (-1)]) rfl bm_X6_member q2686 q2688 qs93 (Nat.le_of_ble_eq_true rfl) dX6_several_40 (mt_X6_member (mm_k2i h (fun v6 μ5 h => ?_)))
      refine am_if_ne (tgt := 48) dX6_several_43 (by decide) (fun c => ?_) (fun c => ?_)
      · have h := h.1 c
        exact am_lss h rfl
      · have h := h.2 c
        refine am_iconst (v := 0) dX6_several_46 (by decide) ?_
        exact am_zret rfl rfl dX6_several_47 ⟨_, _, rfl, rfl, h⟩
    · have h := h.2 c
      refine am_aloadr_n (x := some ρ.1) dX6_several_28 rfl rfl ?_
      refine mm_callV (Mc := m_X6_editOf) (as := []) rfl bm_X6_editOf q2795 q2797 qs119 (Nat.le_of_ble_eq_true rfl) dX6_several_29 (mt_X6_editOf (mm_k2i h (fun v8 μ7 h => ?_)))
      refine am_if_ne (tgt := 48) dX6_several_32 (by decide) (fun c => ?_) (fun c => ?_)
      · have h := h.1 c
        exact am_lss h rfl
      · have h := h.2 c
        refine am_goto (tgt := 46) dX6_several_35 (by decide) ?_
        refine am_iconst (v := 0) dX6_several_46 (by decide) ?_
        exact am_zret rfl rfl dX6_several_47 ⟨_, _, rfl, rfl, h⟩
